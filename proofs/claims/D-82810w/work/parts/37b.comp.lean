/-! ScriptTypes$Work.renames([J[JIII)V -/
theorem bX43_renames_0 : zdec cX43_renames 0 [(0, .iload_n 3, 1), (1, .istore 6, 2), (3, .iload 6, 2), (5, .iload 4, 2), (7, .if_icmp .ge 62, 3), (10, .aload_n 1, 1), (11, .iload 6, 2), (13, .laload, 1), (14, .lstore 7, 2), (16, .aload_n 2, 1), (17, .iload 6, 2), (19, .laload, 1), (20, .lstore 9, 2), (22, .iload 5, 2), (24, .lload 7, 2), (26, .lload 9, 2)] = true := by decide +kernel
theorem dX43_renames_0 : decode cX43_renames 0 = .ok (.iload_n 3, 1) := zdec_at bX43_renames_0 0 rfl
theorem dX43_renames_1 : decode cX43_renames 1 = .ok (.istore 6, 2) := zdec_at bX43_renames_0 1 rfl
theorem dX43_renames_3 : decode cX43_renames 3 = .ok (.iload 6, 2) := zdec_at bX43_renames_0 2 rfl
theorem dX43_renames_5 : decode cX43_renames 5 = .ok (.iload 4, 2) := zdec_at bX43_renames_0 3 rfl
theorem dX43_renames_7 : decode cX43_renames 7 = .ok (.if_icmp .ge 62, 3) := zdec_at bX43_renames_0 4 rfl
theorem dX43_renames_10 : decode cX43_renames 10 = .ok (.aload_n 1, 1) := zdec_at bX43_renames_0 5 rfl
theorem dX43_renames_11 : decode cX43_renames 11 = .ok (.iload 6, 2) := zdec_at bX43_renames_0 6 rfl
theorem dX43_renames_13 : decode cX43_renames 13 = .ok (.laload, 1) := zdec_at bX43_renames_0 7 rfl
theorem dX43_renames_14 : decode cX43_renames 14 = .ok (.lstore 7, 2) := zdec_at bX43_renames_0 8 rfl
theorem dX43_renames_16 : decode cX43_renames 16 = .ok (.aload_n 2, 1) := zdec_at bX43_renames_0 9 rfl
theorem dX43_renames_17 : decode cX43_renames 17 = .ok (.iload 6, 2) := zdec_at bX43_renames_0 10 rfl
theorem dX43_renames_19 : decode cX43_renames 19 = .ok (.laload, 1) := zdec_at bX43_renames_0 11 rfl
theorem dX43_renames_20 : decode cX43_renames 20 = .ok (.lstore 9, 2) := zdec_at bX43_renames_0 12 rfl
theorem dX43_renames_22 : decode cX43_renames 22 = .ok (.iload 5, 2) := zdec_at bX43_renames_0 13 rfl
theorem dX43_renames_24 : decode cX43_renames 24 = .ok (.lload 7, 2) := zdec_at bX43_renames_0 14 rfl
theorem dX43_renames_26 : decode cX43_renames 26 = .ok (.lload 9, 2) := zdec_at bX43_renames_0 15 rfl
theorem bX43_renames_28 : zdec cX43_renames 28 [(28, .invokestatic 91, 3), (31, .ifCond .ne 6, 3), (34, .goto 29, 3), (37, .aload_n 2, 1), (38, .iload 6, 2), (40, .aload_n 0, 1), (41, .lload 7, 2), (43, .lload 9, 2), (45, .iload 5, 2), (47, .invokevirtual 95, 3), (50, .lastore, 1), (51, .aload_n 1, 1), (52, .iload 6, 2), (54, .aload_n 0, 1), (55, .lload 7, 2), (57, .iload 5, 2)] = true := by decide +kernel
theorem dX43_renames_28 : decode cX43_renames 28 = .ok (.invokestatic 91, 3) := zdec_at bX43_renames_28 0 rfl
theorem dX43_renames_31 : decode cX43_renames 31 = .ok (.ifCond .ne 6, 3) := zdec_at bX43_renames_28 1 rfl
theorem dX43_renames_34 : decode cX43_renames 34 = .ok (.goto 29, 3) := zdec_at bX43_renames_28 2 rfl
theorem dX43_renames_37 : decode cX43_renames 37 = .ok (.aload_n 2, 1) := zdec_at bX43_renames_28 3 rfl
theorem dX43_renames_38 : decode cX43_renames 38 = .ok (.iload 6, 2) := zdec_at bX43_renames_28 4 rfl
theorem dX43_renames_40 : decode cX43_renames 40 = .ok (.aload_n 0, 1) := zdec_at bX43_renames_28 5 rfl
theorem dX43_renames_41 : decode cX43_renames 41 = .ok (.lload 7, 2) := zdec_at bX43_renames_28 6 rfl
theorem dX43_renames_43 : decode cX43_renames 43 = .ok (.lload 9, 2) := zdec_at bX43_renames_28 7 rfl
theorem dX43_renames_45 : decode cX43_renames 45 = .ok (.iload 5, 2) := zdec_at bX43_renames_28 8 rfl
theorem dX43_renames_47 : decode cX43_renames 47 = .ok (.invokevirtual 95, 3) := zdec_at bX43_renames_28 9 rfl
theorem dX43_renames_50 : decode cX43_renames 50 = .ok (.lastore, 1) := zdec_at bX43_renames_28 10 rfl
theorem dX43_renames_51 : decode cX43_renames 51 = .ok (.aload_n 1, 1) := zdec_at bX43_renames_28 11 rfl
theorem dX43_renames_52 : decode cX43_renames 52 = .ok (.iload 6, 2) := zdec_at bX43_renames_28 12 rfl
theorem dX43_renames_54 : decode cX43_renames 54 = .ok (.aload_n 0, 1) := zdec_at bX43_renames_28 13 rfl
theorem dX43_renames_55 : decode cX43_renames 55 = .ok (.lload 7, 2) := zdec_at bX43_renames_28 14 rfl
theorem dX43_renames_57 : decode cX43_renames 57 = .ok (.iload 5, 2) := zdec_at bX43_renames_28 15 rfl
theorem bX43_renames_59 : zdec cX43_renames 59 [(59, .invokevirtual 99, 3), (62, .lastore, 1), (63, .iinc 6 1, 3), (66, .goto (-63), 3), (69, .return_, 1)] = true := by decide +kernel
theorem dX43_renames_59 : decode cX43_renames 59 = .ok (.invokevirtual 99, 3) := zdec_at bX43_renames_59 0 rfl
theorem dX43_renames_62 : decode cX43_renames 62 = .ok (.lastore, 1) := zdec_at bX43_renames_59 1 rfl
theorem dX43_renames_63 : decode cX43_renames 63 = .ok (.iinc 6 1, 3) := zdec_at bX43_renames_59 2 rfl
theorem dX43_renames_66 : decode cX43_renames 66 = .ok (.goto (-63), 3) := zdec_at bX43_renames_59 3 rfl
theorem dX43_renames_69 : decode cX43_renames 69 = .ok (.return_, 1) := zdec_at bX43_renames_59 4 rfl
theorem sX43_renames_0 {E : zE} {d : Nat} {Q : zO → zM → Prop} (M : zM) (a0 : Nat) (r1 : Option zP) (r2 : Option zP) (l3 : Int32) (l4 : Int32) (l5 : Int32) (k : Z E YX43_renames (d + 1) M [(0, vr (some (a0, 7, 0))), (1, vr r1), (2, vr r2), (4, vi l4), (5, vi l5), (6, vi l3)] 3 [] Q) : Z E YX43_renames (d + 1) M [(0, vr (some (a0, 7, 0))), (1, vr r1), (2, vr r2), (3, vi l3), (4, vi l4), (5, vi l5)] 0 [] Q := by
  refine z_iload_n dX43_renames_0 rfl rfl ?_
  refine z_ist dX43_renames_1 (by decide) (lv' := [(0, vr (some (a0, 7, 0))), (1, vr r1), (2, vr r2), (3, vi l3), (4, vi l4), (5, vi l5), (6, vi l3)]) rfl ?_
  refine Z.pick [0, 1, 2, 4, 5, 6] rfl ?_
  exact k
theorem sX43_renames_3 {E : zE} {d : Nat} {Q : zO → zM → Prop} (M : zM) (a0 : Nat) (r1 : Option zP) (r2 : Option zP) (l4 : Int32) (l5 : Int32) (l6 : Int32) (k : if l4 ≤ l6 then (Q (.inl none) M) else (∃ b1 m1 : Nat, r1 = some (b1, 105, m1) ∧ (vp_in l6 m1 ∧ (∃ b2 m2 : Nat, r2 = some (b2, 105, m2) ∧ (vp_in l6 m2 ∧ (Z E YX1_in d M (zargs 0 [vi l5, vl (gl M b1 (l6).toNatClampNeg), vl (gl M b2 (l6).toNatClampNeg)]) 0 [] (zafter E YX43_renames (d + 1) [(0, vr (some (a0, 7, 0))), (1, vr (some (b1, 105, m1))), (2, vr (some (b2, 105, m2))), (4, vi l4), (5, vi l5), (6, vi l6), (7, vl (gl M b1 (l6).toNatClampNeg)), (9, vl (gl M b2 (l6).toNatClampNeg))] 28 3 [] Q))))))) : Z E YX43_renames (d + 1) M [(0, vr (some (a0, 7, 0))), (1, vr r1), (2, vr r2), (4, vi l4), (5, vi l5), (6, vi l6)] 3 [] Q := by
  refine z_iload dX43_renames_3 rfl ?_
  refine z_iload dX43_renames_5 rfl ?_
  refine z_icmp_ge (tgt := 69) dX43_renames_7 rfl (fun h_ => ?_) (fun h_ => ?_)
  · have k := zit h_ k
    exact z_vret dX43_renames_69 rfl k
  · have k := zif h_ k
    refine z_aload_n dX43_renames_10 rfl rfl ?_
    refine z_iload dX43_renames_11 rfl ?_
    obtain ⟨b1, m1, e1_, k⟩ := k
    refine Z.eqs (lv' := [(0, vr (some (a0, 7, 0))), (1, vr (some (b1, 105, m1))), (2, vr r2), (4, vi l4), (5, vi l5), (6, vi l6)]) (st' := [vi l6, vr (some (b1, 105, m1))]) (by rw [e1_] <;> rfl) (by rw [e1_] <;> rfl) ?_
    obtain ⟨b_, k⟩ := k
    refine z_lald dX43_renames_13 b_ ?_
    refine z_lst dX43_renames_14 (by decide) (lv' := [(0, vr (some (a0, 7, 0))), (1, vr (some (b1, 105, m1))), (2, vr r2), (4, vi l4), (5, vi l5), (6, vi l6), (7, vl (gl M b1 (l6).toNatClampNeg))]) rfl ?_
    refine z_aload_n dX43_renames_16 rfl rfl ?_
    refine z_iload dX43_renames_17 rfl ?_
    obtain ⟨b2, m2, e2_, k⟩ := k
    refine Z.eqs (lv' := [(0, vr (some (a0, 7, 0))), (1, vr (some (b1, 105, m1))), (2, vr (some (b2, 105, m2))), (4, vi l4), (5, vi l5), (6, vi l6), (7, vl (gl M b1 (l6).toNatClampNeg))]) (st' := [vi l6, vr (some (b2, 105, m2))]) (by rw [e2_] <;> rfl) (by rw [e2_] <;> rfl) ?_
    obtain ⟨b_, k⟩ := k
    refine z_lald dX43_renames_19 b_ ?_
    refine z_lst dX43_renames_20 (by decide) (lv' := [(0, vr (some (a0, 7, 0))), (1, vr (some (b1, 105, m1))), (2, vr (some (b2, 105, m2))), (4, vi l4), (5, vi l5), (6, vi l6), (7, vl (gl M b1 (l6).toNatClampNeg)), (9, vl (gl M b2 (l6).toNatClampNeg))]) rfl ?_
    refine z_iload dX43_renames_22 rfl ?_
    refine z_lload dX43_renames_24 rfl ?_
    refine z_lload dX43_renames_26 rfl ?_
    exact z_callS (as := [vi l5, vl (gl M b1 (l6).toNatClampNeg), vl (gl M b2 (l6).toNatClampNeg)]) (st := []) dX43_renames_28 ssX43_91 (Nat.le_refl _) (Nat.le_of_ble_eq_true rfl) (Nat.le_of_ble_eq_true rfl) rfl k
theorem sX43_renames_31 {E : zE} {d : Nat} {Q : zO → zM → Prop} (M : zM) (a0 : Nat) (a1 : Nat) (na1 : Nat) (a2 : Nat) (na2 : Nat) (l4 : Int32) (l5 : Int32) (l6 : Int32) (l7 : Int64) (l9 : Int64) (s0 : Int32) (k : if s0 = 0 then (Z E YX43_renames (d + 1) M [(0, vr (some (a0, 7, 0))), (1, vr (some (a1, 105, na1))), (2, vr (some (a2, 105, na2))), (4, vi l4), (5, vi l5), (6, vi (l6 + (1 : Int32)))] 3 [] Q) else (Z E YX43_renamedHigh d M (zargs 0 [vr (some (a0, 7, 0)), vl l7, vl l9, vi l5]) 0 [] (zafter E YX43_renames (d + 1) [(0, vr (some (a0, 7, 0))), (1, vr (some (a1, 105, na1))), (2, vr (some (a2, 105, na2))), (4, vi l4), (5, vi l5), (6, vi l6), (7, vl l7)] 47 3 [vi l6, vr (some (a2, 105, na2))] Q))) : Z E YX43_renames (d + 1) M [(0, vr (some (a0, 7, 0))), (1, vr (some (a1, 105, na1))), (2, vr (some (a2, 105, na2))), (4, vi l4), (5, vi l5), (6, vi l6), (7, vl l7), (9, vl l9)] 31 [vi s0] Q := by
  refine z_if_ne (tgt := 37) dX43_renames_31 rfl (fun h_ => ?_) (fun h_ => ?_)
  · have k := zif h_ k
    refine z_aload_n dX43_renames_37 rfl rfl ?_
    refine z_iload dX43_renames_38 rfl ?_
    refine z_aload_n dX43_renames_40 rfl rfl ?_
    refine z_lload dX43_renames_41 rfl ?_
    refine z_lload dX43_renames_43 rfl ?_
    refine z_iload dX43_renames_45 rfl ?_
    refine Z.pick [0, 1, 2, 3, 4, 5, 6] rfl ?_
    exact z_callV (as := [vl l7, vl l9, vi l5]) (st := [vi l6, vr (some (a2, 105, na2))]) dX43_renames_47 vsX43_95_7 (Nat.le_refl _) (Nat.le_of_ble_eq_true rfl) (Nat.le_of_ble_eq_true rfl) rfl k
  · have k := zit h_ k
    refine z_goto (tgt := 63) dX43_renames_34 rfl ?_
    refine z_inc (v := (l6 + (1 : Int32))) dX43_renames_63 rfl rfl (by decide) (lv' := [(0, vr (some (a0, 7, 0))), (1, vr (some (a1, 105, na1))), (2, vr (some (a2, 105, na2))), (4, vi l4), (5, vi l5), (6, vi (l6 + (1 : Int32))), (7, vl l7), (9, vl l9)]) rfl ?_
    refine z_goto (tgt := 3) dX43_renames_66 rfl ?_
    refine Z.pick [0, 1, 2, 3, 4, 5] rfl ?_
    exact k
theorem sX43_renames_50 {E : zE} {d : Nat} {Q : zO → zM → Prop} (M : zM) (a0 : Nat) (a1 : Nat) (na1 : Nat) (a2 : Nat) (na2 : Nat) (l4 : Int32) (l5 : Int32) (l6 : Int32) (l7 : Int64) (s0 : Int64) (s1 : Int32) (p2 : Nat) (np2 : Nat) (k : 16 ≤ p2 ∧ (vp_in s1 np2 ∧ (Z E YX43_renamedLow d (sl M p2 (s1).toNatClampNeg s0) (zargs 0 [vr (some (a0, 7, 0)), vl l7, vi l5]) 0 [] (zafter E YX43_renames (d + 1) [(0, vr (some (a0, 7, 0))), (1, vr (some (a1, 105, na1))), (2, vr (some (a2, 105, na2))), (4, vi l4), (5, vi l5), (6, vi l6)] 59 3 [vi l6, vr (some (a1, 105, na1))] Q)))) : Z E YX43_renames (d + 1) M [(0, vr (some (a0, 7, 0))), (1, vr (some (a1, 105, na1))), (2, vr (some (a2, 105, na2))), (4, vi l4), (5, vi l5), (6, vi l6), (7, vl l7)] 50 [vl s0, vi s1, vr (some (p2, 105, np2))] Q := by
  obtain ⟨g_, k⟩ := k
  obtain ⟨b_, k⟩ := k
  refine z_last g_ dX43_renames_50 b_ ?_
  refine z_aload_n dX43_renames_51 rfl rfl ?_
  refine z_iload dX43_renames_52 rfl ?_
  refine z_aload_n dX43_renames_54 rfl rfl ?_
  refine z_lload dX43_renames_55 rfl ?_
  refine z_iload dX43_renames_57 rfl ?_
  refine Z.pick [0, 1, 2, 3, 4, 5] rfl ?_
  exact z_callV (as := [vl l7, vi l5]) (st := [vi l6, vr (some (a1, 105, na1))]) dX43_renames_59 vsX43_99_7 (Nat.le_refl _) (Nat.le_of_ble_eq_true rfl) (Nat.le_of_ble_eq_true rfl) rfl k
theorem sX43_renames_62 {E : zE} {d : Nat} {Q : zO → zM → Prop} (M : zM) (a0 : Nat) (a1 : Nat) (na1 : Nat) (a2 : Nat) (na2 : Nat) (l4 : Int32) (l5 : Int32) (l6 : Int32) (s0 : Int64) (s1 : Int32) (p2 : Nat) (np2 : Nat) (k : 16 ≤ p2 ∧ (vp_in s1 np2 ∧ (Z E YX43_renames (d + 1) (sl M p2 (s1).toNatClampNeg s0) [(0, vr (some (a0, 7, 0))), (1, vr (some (a1, 105, na1))), (2, vr (some (a2, 105, na2))), (4, vi l4), (5, vi l5), (6, vi (l6 + (1 : Int32)))] 3 [] Q))) : Z E YX43_renames (d + 1) M [(0, vr (some (a0, 7, 0))), (1, vr (some (a1, 105, na1))), (2, vr (some (a2, 105, na2))), (4, vi l4), (5, vi l5), (6, vi l6)] 62 [vl s0, vi s1, vr (some (p2, 105, np2))] Q := by
  obtain ⟨g_, k⟩ := k
  obtain ⟨b_, k⟩ := k
  refine z_last g_ dX43_renames_62 b_ ?_
  refine z_inc (v := (l6 + (1 : Int32))) dX43_renames_63 rfl rfl (by decide) (lv' := [(0, vr (some (a0, 7, 0))), (1, vr (some (a1, 105, na1))), (2, vr (some (a2, 105, na2))), (4, vi l4), (5, vi l5), (6, vi (l6 + (1 : Int32)))]) rfl ?_
  refine z_goto (tgt := 3) dX43_renames_66 rfl ?_
  exact k
/-! ScriptTypes$Work.renamedHigh(JJI)J -/
theorem bX43_renamedHigh_0 : zdec cX43_renamedHigh 0 [(0, .iload 5, 2), (2, .bipush 63, 2), (4, .if_icmp .ne 22, 3), (7, .lload_n 1, 1), (8, .bipush 63, 2), (10, .lshr, 1), (11, .lconst 1, 1), (12, .land, 1), (13, .lconst 0, 1), (14, .lcmp, 1), (15, .ifCond .ne 7, 3), (18, .lload_n 3, 1), (19, .goto 6, 3), (22, .lload_n 3, 1), (23, .lconst 1, 1), (24, .lor, 1)] = true := by decide +kernel
theorem dX43_renamedHigh_0 : decode cX43_renamedHigh 0 = .ok (.iload 5, 2) := zdec_at bX43_renamedHigh_0 0 rfl
theorem dX43_renamedHigh_2 : decode cX43_renamedHigh 2 = .ok (.bipush 63, 2) := zdec_at bX43_renamedHigh_0 1 rfl
theorem dX43_renamedHigh_4 : decode cX43_renamedHigh 4 = .ok (.if_icmp .ne 22, 3) := zdec_at bX43_renamedHigh_0 2 rfl
theorem dX43_renamedHigh_7 : decode cX43_renamedHigh 7 = .ok (.lload_n 1, 1) := zdec_at bX43_renamedHigh_0 3 rfl
theorem dX43_renamedHigh_8 : decode cX43_renamedHigh 8 = .ok (.bipush 63, 2) := zdec_at bX43_renamedHigh_0 4 rfl
theorem dX43_renamedHigh_10 : decode cX43_renamedHigh 10 = .ok (.lshr, 1) := zdec_at bX43_renamedHigh_0 5 rfl
theorem dX43_renamedHigh_11 : decode cX43_renamedHigh 11 = .ok (.lconst 1, 1) := zdec_at bX43_renamedHigh_0 6 rfl
theorem dX43_renamedHigh_12 : decode cX43_renamedHigh 12 = .ok (.land, 1) := zdec_at bX43_renamedHigh_0 7 rfl
theorem dX43_renamedHigh_13 : decode cX43_renamedHigh 13 = .ok (.lconst 0, 1) := zdec_at bX43_renamedHigh_0 8 rfl
theorem dX43_renamedHigh_14 : decode cX43_renamedHigh 14 = .ok (.lcmp, 1) := zdec_at bX43_renamedHigh_0 9 rfl
theorem dX43_renamedHigh_15 : decode cX43_renamedHigh 15 = .ok (.ifCond .ne 7, 3) := zdec_at bX43_renamedHigh_0 10 rfl
theorem dX43_renamedHigh_18 : decode cX43_renamedHigh 18 = .ok (.lload_n 3, 1) := zdec_at bX43_renamedHigh_0 11 rfl
theorem dX43_renamedHigh_19 : decode cX43_renamedHigh 19 = .ok (.goto 6, 3) := zdec_at bX43_renamedHigh_0 12 rfl
theorem dX43_renamedHigh_22 : decode cX43_renamedHigh 22 = .ok (.lload_n 3, 1) := zdec_at bX43_renamedHigh_0 13 rfl
theorem dX43_renamedHigh_23 : decode cX43_renamedHigh 23 = .ok (.lconst 1, 1) := zdec_at bX43_renamedHigh_0 14 rfl
theorem dX43_renamedHigh_24 : decode cX43_renamedHigh 24 = .ok (.lor, 1) := zdec_at bX43_renamedHigh_0 15 rfl
theorem bX43_renamedHigh_25 : zdec cX43_renamedHigh 25 [(25, .lreturn, 1), (26, .iload 5, 2), (28, .bipush 64, 2), (30, .if_icmp .lt 17, 3), (33, .lload_n 3, 1), (34, .iload 5, 2), (36, .bipush 64, 2), (38, .isub, 1), (39, .lshr, 1), (40, .lconst 1, 1), (41, .land, 1), (42, .lconst 0, 1), (43, .lcmp, 1), (44, .ifCond .ne 7, 3), (47, .lload_n 3, 1), (48, .goto 24, 3)] = true := by decide +kernel
theorem dX43_renamedHigh_25 : decode cX43_renamedHigh 25 = .ok (.lreturn, 1) := zdec_at bX43_renamedHigh_25 0 rfl
theorem dX43_renamedHigh_26 : decode cX43_renamedHigh 26 = .ok (.iload 5, 2) := zdec_at bX43_renamedHigh_25 1 rfl
theorem dX43_renamedHigh_28 : decode cX43_renamedHigh 28 = .ok (.bipush 64, 2) := zdec_at bX43_renamedHigh_25 2 rfl
theorem dX43_renamedHigh_30 : decode cX43_renamedHigh 30 = .ok (.if_icmp .lt 17, 3) := zdec_at bX43_renamedHigh_25 3 rfl
theorem dX43_renamedHigh_33 : decode cX43_renamedHigh 33 = .ok (.lload_n 3, 1) := zdec_at bX43_renamedHigh_25 4 rfl
theorem dX43_renamedHigh_34 : decode cX43_renamedHigh 34 = .ok (.iload 5, 2) := zdec_at bX43_renamedHigh_25 5 rfl
theorem dX43_renamedHigh_36 : decode cX43_renamedHigh 36 = .ok (.bipush 64, 2) := zdec_at bX43_renamedHigh_25 6 rfl
theorem dX43_renamedHigh_38 : decode cX43_renamedHigh 38 = .ok (.isub, 1) := zdec_at bX43_renamedHigh_25 7 rfl
theorem dX43_renamedHigh_39 : decode cX43_renamedHigh 39 = .ok (.lshr, 1) := zdec_at bX43_renamedHigh_25 8 rfl
theorem dX43_renamedHigh_40 : decode cX43_renamedHigh 40 = .ok (.lconst 1, 1) := zdec_at bX43_renamedHigh_25 9 rfl
theorem dX43_renamedHigh_41 : decode cX43_renamedHigh 41 = .ok (.land, 1) := zdec_at bX43_renamedHigh_25 10 rfl
theorem dX43_renamedHigh_42 : decode cX43_renamedHigh 42 = .ok (.lconst 0, 1) := zdec_at bX43_renamedHigh_25 11 rfl
theorem dX43_renamedHigh_43 : decode cX43_renamedHigh 43 = .ok (.lcmp, 1) := zdec_at bX43_renamedHigh_25 12 rfl
theorem dX43_renamedHigh_44 : decode cX43_renamedHigh 44 = .ok (.ifCond .ne 7, 3) := zdec_at bX43_renamedHigh_25 13 rfl
theorem dX43_renamedHigh_47 : decode cX43_renamedHigh 47 = .ok (.lload_n 3, 1) := zdec_at bX43_renamedHigh_25 14 rfl
theorem dX43_renamedHigh_48 : decode cX43_renamedHigh 48 = .ok (.goto 24, 3) := zdec_at bX43_renamedHigh_25 15 rfl
theorem bX43_renamedHigh_51 : zdec cX43_renamedHigh 51 [(51, .lload_n 3, 1), (52, .lconst 1, 1), (53, .iload 5, 2), (55, .bipush 64, 2), (57, .isub, 1), (58, .lshl, 1), (59, .ldc2_w 89, 3), (62, .lxor, 1), (63, .land, 1), (64, .lconst 1, 1), (65, .iload 5, 2), (67, .bipush 63, 2), (69, .isub, 1), (70, .lshl, 1), (71, .lor, 1), (72, .lreturn, 1)] = true := by decide +kernel
theorem dX43_renamedHigh_51 : decode cX43_renamedHigh 51 = .ok (.lload_n 3, 1) := zdec_at bX43_renamedHigh_51 0 rfl
theorem dX43_renamedHigh_52 : decode cX43_renamedHigh 52 = .ok (.lconst 1, 1) := zdec_at bX43_renamedHigh_51 1 rfl
theorem dX43_renamedHigh_53 : decode cX43_renamedHigh 53 = .ok (.iload 5, 2) := zdec_at bX43_renamedHigh_51 2 rfl
theorem dX43_renamedHigh_55 : decode cX43_renamedHigh 55 = .ok (.bipush 64, 2) := zdec_at bX43_renamedHigh_51 3 rfl
theorem dX43_renamedHigh_57 : decode cX43_renamedHigh 57 = .ok (.isub, 1) := zdec_at bX43_renamedHigh_51 4 rfl
theorem dX43_renamedHigh_58 : decode cX43_renamedHigh 58 = .ok (.lshl, 1) := zdec_at bX43_renamedHigh_51 5 rfl
theorem dX43_renamedHigh_59 : decode cX43_renamedHigh 59 = .ok (.ldc2_w 89, 3) := zdec_at bX43_renamedHigh_51 6 rfl
theorem dX43_renamedHigh_62 : decode cX43_renamedHigh 62 = .ok (.lxor, 1) := zdec_at bX43_renamedHigh_51 7 rfl
theorem dX43_renamedHigh_63 : decode cX43_renamedHigh 63 = .ok (.land, 1) := zdec_at bX43_renamedHigh_51 8 rfl
theorem dX43_renamedHigh_64 : decode cX43_renamedHigh 64 = .ok (.lconst 1, 1) := zdec_at bX43_renamedHigh_51 9 rfl
theorem dX43_renamedHigh_65 : decode cX43_renamedHigh 65 = .ok (.iload 5, 2) := zdec_at bX43_renamedHigh_51 10 rfl
theorem dX43_renamedHigh_67 : decode cX43_renamedHigh 67 = .ok (.bipush 63, 2) := zdec_at bX43_renamedHigh_51 11 rfl
theorem dX43_renamedHigh_69 : decode cX43_renamedHigh 69 = .ok (.isub, 1) := zdec_at bX43_renamedHigh_51 12 rfl
theorem dX43_renamedHigh_70 : decode cX43_renamedHigh 70 = .ok (.lshl, 1) := zdec_at bX43_renamedHigh_51 13 rfl
theorem dX43_renamedHigh_71 : decode cX43_renamedHigh 71 = .ok (.lor, 1) := zdec_at bX43_renamedHigh_51 14 rfl
theorem dX43_renamedHigh_72 : decode cX43_renamedHigh 72 = .ok (.lreturn, 1) := zdec_at bX43_renamedHigh_51 15 rfl
theorem sX43_renamedHigh_0 {E : zE} {d : Nat} {Q : zO → zM → Prop} (M : zM) (a0 : Nat) (l1 : Int64) (l3 : Int64) (l5 : Int32) (k : if l5 = (63 : Int32) then (∀ x1_ : Int64, x1_ = (zlr l1 (63 : Int32)) → (if (lg_cmp (x1_ &&& (1 : Int64)) (0 : Int64)) = 0 then (Q (.inl (some (vl l3))) M) else (Q (.inl (some (vl (l3 ||| (1 : Int64))))) M))) else (if l5 < (64 : Int32) then (Q (.inl (some (vl l3))) M) else (if (lg_cmp ((zlr l3 (l5 - (64 : Int32))) &&& (1 : Int64)) (0 : Int64)) = 0 then (Q (.inl (some (vl l3))) M) else (Q (.inl (some (vl ((l3 &&& ((zls (1 : Int64) (l5 - (64 : Int32))) ^^^ (-1 : Int64))) ||| (zls (1 : Int64) (l5 - (63 : Int32))))))) M)))) : Z E YX43_renamedHigh d M [(0, vr (some (a0, 7, 0))), (1, vl l1), (3, vl l3), (5, vi l5)] 0 [] Q := by
  refine z_iload dX43_renamedHigh_0 rfl ?_
  refine z_bipush (v := 63) dX43_renamedHigh_2 rfl ?_
  refine z_icmp_ne (tgt := 26) dX43_renamedHigh_4 rfl (fun h_ => ?_) (fun h_ => ?_)
  · have k := zif h_ k
    refine z_iload dX43_renamedHigh_26 rfl ?_
    refine z_bipush (v := 64) dX43_renamedHigh_28 rfl ?_
    refine z_icmp_lt (tgt := 47) dX43_renamedHigh_30 rfl (fun h_ => ?_) (fun h_ => ?_)
    · have k := zit h_ k
      refine z_lload_n dX43_renamedHigh_47 rfl rfl ?_
      refine z_goto (tgt := 72) dX43_renamedHigh_48 rfl ?_
      exact z_lret dX43_renamedHigh_72 rfl k
    · have k := zif h_ k
      refine z_lload_n dX43_renamedHigh_33 rfl rfl ?_
      refine z_iload dX43_renamedHigh_34 rfl ?_
      refine z_bipush (v := 64) dX43_renamedHigh_36 rfl ?_
      refine z_isub dX43_renamedHigh_38 ?_
      refine z_lshr dX43_renamedHigh_39 ?_
      refine z_lconst (v := 1) dX43_renamedHigh_40 rfl ?_
      refine z_land dX43_renamedHigh_41 ?_
      refine z_lconst (v := 0) dX43_renamedHigh_42 rfl ?_
      refine z_lcmp dX43_renamedHigh_43 ?_
      refine z_if_ne (tgt := 51) dX43_renamedHigh_44 rfl (fun h_ => ?_) (fun h_ => ?_)
      · have k := zif h_ k
        refine z_lload_n dX43_renamedHigh_51 rfl rfl ?_
        refine z_lconst (v := 1) dX43_renamedHigh_52 rfl ?_
        refine z_iload dX43_renamedHigh_53 rfl ?_
        refine z_bipush (v := 64) dX43_renamedHigh_55 rfl ?_
        refine z_isub dX43_renamedHigh_57 ?_
        refine z_lshl dX43_renamedHigh_58 ?_
        refine z_ldc2 (v := -1) dX43_renamedHigh_59 q3300 ?_
        refine z_lxor dX43_renamedHigh_62 ?_
        refine z_land dX43_renamedHigh_63 ?_
        refine z_lconst (v := 1) dX43_renamedHigh_64 rfl ?_
        refine z_iload dX43_renamedHigh_65 rfl ?_
        refine z_bipush (v := 63) dX43_renamedHigh_67 rfl ?_
        refine z_isub dX43_renamedHigh_69 ?_
        refine z_lshl dX43_renamedHigh_70 ?_
        refine z_lor dX43_renamedHigh_71 ?_
        exact z_lret dX43_renamedHigh_72 rfl k
      · have k := zit h_ k
        refine z_lload_n dX43_renamedHigh_47 rfl rfl ?_
        refine z_goto (tgt := 72) dX43_renamedHigh_48 rfl ?_
        exact z_lret dX43_renamedHigh_72 rfl k
  · have k := zit h_ k
    refine z_lload_n dX43_renamedHigh_7 rfl rfl ?_
    refine z_bipush (v := 63) dX43_renamedHigh_8 rfl ?_
    refine z_lshr dX43_renamedHigh_10 ?_
    generalize hx1_ : zlr l1 (63 : Int32) = x1_
    have k := k x1_ hx1_.symm
    refine z_lconst (v := 1) dX43_renamedHigh_11 rfl ?_
    refine z_land dX43_renamedHigh_12 ?_
    refine z_lconst (v := 0) dX43_renamedHigh_13 rfl ?_
    refine z_lcmp dX43_renamedHigh_14 ?_
    refine z_if_ne (tgt := 22) dX43_renamedHigh_15 rfl (fun h_ => ?_) (fun h_ => ?_)
    · have k := zif h_ k
      refine z_lload_n dX43_renamedHigh_22 rfl rfl ?_
      refine z_lconst (v := 1) dX43_renamedHigh_23 rfl ?_
      refine z_lor dX43_renamedHigh_24 ?_
      exact z_lret dX43_renamedHigh_25 rfl k
    · have k := zit h_ k
      refine z_lload_n dX43_renamedHigh_18 rfl rfl ?_
      refine z_goto (tgt := 25) dX43_renamedHigh_19 rfl ?_
      exact z_lret dX43_renamedHigh_25 rfl k
/-! ScriptTypes$Work.renamedLow(JI)J -/
theorem bX43_renamedLow_0 : zdec cX43_renamedLow 0 [(0, .iload_n 3, 1), (1, .bipush 64, 2), (3, .if_icmp .ge 13, 3), (6, .lload_n 1, 1), (7, .iload_n 3, 1), (8, .lshr, 1), (9, .lconst 1, 1), (10, .land, 1), (11, .lconst 0, 1), (12, .lcmp, 1), (13, .ifCond .ne 7, 3), (16, .lload_n 1, 1), (17, .goto 28, 3), (20, .lload_n 1, 1), (21, .lconst 1, 1), (22, .iload_n 3, 1)] = true := by decide +kernel
theorem dX43_renamedLow_0 : decode cX43_renamedLow 0 = .ok (.iload_n 3, 1) := zdec_at bX43_renamedLow_0 0 rfl
theorem dX43_renamedLow_1 : decode cX43_renamedLow 1 = .ok (.bipush 64, 2) := zdec_at bX43_renamedLow_0 1 rfl
theorem dX43_renamedLow_3 : decode cX43_renamedLow 3 = .ok (.if_icmp .ge 13, 3) := zdec_at bX43_renamedLow_0 2 rfl
theorem dX43_renamedLow_6 : decode cX43_renamedLow 6 = .ok (.lload_n 1, 1) := zdec_at bX43_renamedLow_0 3 rfl
theorem dX43_renamedLow_7 : decode cX43_renamedLow 7 = .ok (.iload_n 3, 1) := zdec_at bX43_renamedLow_0 4 rfl
theorem dX43_renamedLow_8 : decode cX43_renamedLow 8 = .ok (.lshr, 1) := zdec_at bX43_renamedLow_0 5 rfl
theorem dX43_renamedLow_9 : decode cX43_renamedLow 9 = .ok (.lconst 1, 1) := zdec_at bX43_renamedLow_0 6 rfl
theorem dX43_renamedLow_10 : decode cX43_renamedLow 10 = .ok (.land, 1) := zdec_at bX43_renamedLow_0 7 rfl
theorem dX43_renamedLow_11 : decode cX43_renamedLow 11 = .ok (.lconst 0, 1) := zdec_at bX43_renamedLow_0 8 rfl
theorem dX43_renamedLow_12 : decode cX43_renamedLow 12 = .ok (.lcmp, 1) := zdec_at bX43_renamedLow_0 9 rfl
theorem dX43_renamedLow_13 : decode cX43_renamedLow 13 = .ok (.ifCond .ne 7, 3) := zdec_at bX43_renamedLow_0 10 rfl
theorem dX43_renamedLow_16 : decode cX43_renamedLow 16 = .ok (.lload_n 1, 1) := zdec_at bX43_renamedLow_0 11 rfl
theorem dX43_renamedLow_17 : decode cX43_renamedLow 17 = .ok (.goto 28, 3) := zdec_at bX43_renamedLow_0 12 rfl
theorem dX43_renamedLow_20 : decode cX43_renamedLow 20 = .ok (.lload_n 1, 1) := zdec_at bX43_renamedLow_0 13 rfl
theorem dX43_renamedLow_21 : decode cX43_renamedLow 21 = .ok (.lconst 1, 1) := zdec_at bX43_renamedLow_0 14 rfl
theorem dX43_renamedLow_22 : decode cX43_renamedLow 22 = .ok (.iload_n 3, 1) := zdec_at bX43_renamedLow_0 15 rfl
theorem bX43_renamedLow_23 : zdec cX43_renamedLow 23 [(23, .lshl, 1), (24, .ldc2_w 89, 3), (27, .lxor, 1), (28, .land, 1), (29, .iload_n 3, 1), (30, .bipush 63, 2), (32, .if_icmp .ne 7, 3), (35, .lconst 0, 1), (36, .goto 8, 3), (39, .lconst 1, 1), (40, .iload_n 3, 1), (41, .iconst 1, 1), (42, .iadd, 1), (43, .lshl, 1), (44, .lor, 1), (45, .lreturn, 1)] = true := by decide +kernel
theorem dX43_renamedLow_23 : decode cX43_renamedLow 23 = .ok (.lshl, 1) := zdec_at bX43_renamedLow_23 0 rfl
theorem dX43_renamedLow_24 : decode cX43_renamedLow 24 = .ok (.ldc2_w 89, 3) := zdec_at bX43_renamedLow_23 1 rfl
theorem dX43_renamedLow_27 : decode cX43_renamedLow 27 = .ok (.lxor, 1) := zdec_at bX43_renamedLow_23 2 rfl
theorem dX43_renamedLow_28 : decode cX43_renamedLow 28 = .ok (.land, 1) := zdec_at bX43_renamedLow_23 3 rfl
theorem dX43_renamedLow_29 : decode cX43_renamedLow 29 = .ok (.iload_n 3, 1) := zdec_at bX43_renamedLow_23 4 rfl
theorem dX43_renamedLow_30 : decode cX43_renamedLow 30 = .ok (.bipush 63, 2) := zdec_at bX43_renamedLow_23 5 rfl
theorem dX43_renamedLow_32 : decode cX43_renamedLow 32 = .ok (.if_icmp .ne 7, 3) := zdec_at bX43_renamedLow_23 6 rfl
theorem dX43_renamedLow_35 : decode cX43_renamedLow 35 = .ok (.lconst 0, 1) := zdec_at bX43_renamedLow_23 7 rfl
theorem dX43_renamedLow_36 : decode cX43_renamedLow 36 = .ok (.goto 8, 3) := zdec_at bX43_renamedLow_23 8 rfl
theorem dX43_renamedLow_39 : decode cX43_renamedLow 39 = .ok (.lconst 1, 1) := zdec_at bX43_renamedLow_23 9 rfl
theorem dX43_renamedLow_40 : decode cX43_renamedLow 40 = .ok (.iload_n 3, 1) := zdec_at bX43_renamedLow_23 10 rfl
theorem dX43_renamedLow_41 : decode cX43_renamedLow 41 = .ok (.iconst 1, 1) := zdec_at bX43_renamedLow_23 11 rfl
theorem dX43_renamedLow_42 : decode cX43_renamedLow 42 = .ok (.iadd, 1) := zdec_at bX43_renamedLow_23 12 rfl
theorem dX43_renamedLow_43 : decode cX43_renamedLow 43 = .ok (.lshl, 1) := zdec_at bX43_renamedLow_23 13 rfl
theorem dX43_renamedLow_44 : decode cX43_renamedLow 44 = .ok (.lor, 1) := zdec_at bX43_renamedLow_23 14 rfl
theorem dX43_renamedLow_45 : decode cX43_renamedLow 45 = .ok (.lreturn, 1) := zdec_at bX43_renamedLow_23 15 rfl
theorem sX43_renamedLow_0 {E : zE} {d : Nat} {Q : zO → zM → Prop} (M : zM) (a0 : Nat) (l1 : Int64) (l3 : Int32) (k : if (64 : Int32) ≤ l3 then (Q (.inl (some (vl l1))) M) else (if (lg_cmp ((zlr l1 l3) &&& (1 : Int64)) (0 : Int64)) = 0 then (Q (.inl (some (vl l1))) M) else (if l3 = (63 : Int32) then (Q (.inl (some (vl ((l1 &&& ((zls (1 : Int64) l3) ^^^ (-1 : Int64))) ||| (0 : Int64))))) M) else (Q (.inl (some (vl ((l1 &&& ((zls (1 : Int64) l3) ^^^ (-1 : Int64))) ||| (zls (1 : Int64) (l3 + (1 : Int32))))))) M)))) : Z E YX43_renamedLow d M [(0, vr (some (a0, 7, 0))), (1, vl l1), (3, vi l3)] 0 [] Q := by
  refine z_iload_n dX43_renamedLow_0 rfl rfl ?_
  refine z_bipush (v := 64) dX43_renamedLow_1 rfl ?_
  refine z_icmp_ge (tgt := 16) dX43_renamedLow_3 rfl (fun h_ => ?_) (fun h_ => ?_)
  · have k := zit h_ k
    refine z_lload_n dX43_renamedLow_16 rfl rfl ?_
    refine z_goto (tgt := 45) dX43_renamedLow_17 rfl ?_
    exact z_lret dX43_renamedLow_45 rfl k
  · have k := zif h_ k
    refine z_lload_n dX43_renamedLow_6 rfl rfl ?_
    refine z_iload_n dX43_renamedLow_7 rfl rfl ?_
    refine z_lshr dX43_renamedLow_8 ?_
    refine z_lconst (v := 1) dX43_renamedLow_9 rfl ?_
    refine z_land dX43_renamedLow_10 ?_
    refine z_lconst (v := 0) dX43_renamedLow_11 rfl ?_
    refine z_lcmp dX43_renamedLow_12 ?_
    refine z_if_ne (tgt := 20) dX43_renamedLow_13 rfl (fun h_ => ?_) (fun h_ => ?_)
    · have k := zif h_ k
      refine z_lload_n dX43_renamedLow_20 rfl rfl ?_
      refine z_lconst (v := 1) dX43_renamedLow_21 rfl ?_
      refine z_iload_n dX43_renamedLow_22 rfl rfl ?_
      refine z_lshl dX43_renamedLow_23 ?_
      refine z_ldc2 (v := -1) dX43_renamedLow_24 q3300 ?_
      refine z_lxor dX43_renamedLow_27 ?_
      refine z_land dX43_renamedLow_28 ?_
      refine z_iload_n dX43_renamedLow_29 rfl rfl ?_
      refine z_bipush (v := 63) dX43_renamedLow_30 rfl ?_
      refine z_icmp_ne (tgt := 39) dX43_renamedLow_32 rfl (fun h_ => ?_) (fun h_ => ?_)
      · have k := zif h_ k
        refine z_lconst (v := 1) dX43_renamedLow_39 rfl ?_
        refine z_iload_n dX43_renamedLow_40 rfl rfl ?_
        refine z_iconst (v := 1) dX43_renamedLow_41 rfl ?_
        refine z_iadd dX43_renamedLow_42 ?_
        refine z_lshl dX43_renamedLow_43 ?_
        refine z_lor dX43_renamedLow_44 ?_
        exact z_lret dX43_renamedLow_45 rfl k
      · have k := zit h_ k
        refine z_lconst (v := 0) dX43_renamedLow_35 rfl ?_
        refine z_goto (tgt := 44) dX43_renamedLow_36 rfl ?_
        refine z_lor dX43_renamedLow_44 ?_
        exact z_lret dX43_renamedLow_45 rfl k
    · have k := zit h_ k
      refine z_lload_n dX43_renamedLow_16 rfl rfl ?_
      refine z_goto (tgt := 45) dX43_renamedLow_17 rfl ?_
      exact z_lret dX43_renamedLow_45 rfl k
/-! ScriptTypes$Work.pop(LScriptTypes$Bag;)LScriptTypes$Bag; -/
theorem bX43_pop_0 : zdec cX43_pop 0 [(0, .aload_n 0, 1), (1, .aload_n 0, 1), (2, .dup, 1), (3, .getfield 57, 3), (6, .iconst 1, 1), (7, .isub, 1), (8, .dup_x1, 1), (9, .putfield 57, 3), (12, .aload_n 1, 1), (13, .invokevirtual 75, 3), (16, .areturn, 1)] = true := by decide +kernel
theorem dX43_pop_0 : decode cX43_pop 0 = .ok (.aload_n 0, 1) := zdec_at bX43_pop_0 0 rfl
theorem dX43_pop_1 : decode cX43_pop 1 = .ok (.aload_n 0, 1) := zdec_at bX43_pop_0 1 rfl
theorem dX43_pop_2 : decode cX43_pop 2 = .ok (.dup, 1) := zdec_at bX43_pop_0 2 rfl
theorem dX43_pop_3 : decode cX43_pop 3 = .ok (.getfield 57, 3) := zdec_at bX43_pop_0 3 rfl
theorem dX43_pop_6 : decode cX43_pop 6 = .ok (.iconst 1, 1) := zdec_at bX43_pop_0 4 rfl
theorem dX43_pop_7 : decode cX43_pop 7 = .ok (.isub, 1) := zdec_at bX43_pop_0 5 rfl
theorem dX43_pop_8 : decode cX43_pop 8 = .ok (.dup_x1, 1) := zdec_at bX43_pop_0 6 rfl
theorem dX43_pop_9 : decode cX43_pop 9 = .ok (.putfield 57, 3) := zdec_at bX43_pop_0 7 rfl
theorem dX43_pop_12 : decode cX43_pop 12 = .ok (.aload_n 1, 1) := zdec_at bX43_pop_0 8 rfl
theorem dX43_pop_13 : decode cX43_pop 13 = .ok (.invokevirtual 75, 3) := zdec_at bX43_pop_0 9 rfl
theorem dX43_pop_16 : decode cX43_pop 16 = .ok (.areturn, 1) := zdec_at bX43_pop_0 10 rfl
theorem sX43_pop_0 {E : zE} {d : Nat} {Q : zO → zM → Prop} (M : zM) (a0 : Nat) (r1 : Option zP) (k : 16 ≤ a0 ∧ (Z E YX43_at d (si M a0 13 ((gi M a0 13) - (1 : Int32))) (zargs 0 [vr (some (a0, 7, 0)), vi ((gi M a0 13) - (1 : Int32)), vr r1]) 0 [] (zafter E YX43_pop (d + 1) [] 13 3 [] Q))) : Z E YX43_pop (d + 1) M [(0, vr (some (a0, 7, 0))), (1, vr r1)] 0 [] Q := by
  refine z_aload_n dX43_pop_0 rfl rfl ?_
  refine z_aload_n dX43_pop_1 rfl rfl ?_
  refine z_dup dX43_pop_2 rfl ?_
  refine z_geti dX43_pop_3 fsX43_57_7 ?_
  refine z_iconst (v := 1) dX43_pop_6 rfl ?_
  refine z_isub dX43_pop_7 ?_
  refine z_dup_x1 dX43_pop_8 rfl rfl ?_
  obtain ⟨g_, k⟩ := k
  refine z_puti g_ dX43_pop_9 (zfwN.w fwX43_57_7) rfl ⟨rfl, rfl⟩ ?_
  refine z_aload_n dX43_pop_12 rfl rfl ?_
  refine Z.pick [] rfl ?_
  exact z_callV (as := [vi ((gi M a0 13) - (1 : Int32)), vr r1]) (st := []) dX43_pop_13 vsX43_75_7 (Nat.le_refl _) (Nat.le_of_ble_eq_true rfl) (Nat.le_of_ble_eq_true rfl) rfl k
theorem sX43_pop_16 {E : zE} {d : Nat} {Q : zO → zM → Prop} (M : zM) (u0 : Option zP) (k : Q (.inl (some (vr u0))) M) : Z E YX43_pop (d + 1) M [] 16 [vr u0] Q := by
  exact z_aret dX43_pop_16 rfl rfl k
/-! ScriptTypes$Work.copy(LScriptTypes$Work;)V -/
theorem bX43_copy_0 : zdec cX43_copy 0 [(0, .aload_n 0, 1), (1, .getfield 21, 3), (4, .getfield 103, 3), (7, .aload_n 0, 1), (8, .getfield 21, 3), (11, .getfield 53, 3), (14, .iconst 1, 1), (15, .iadd, 1), (16, .imul, 1), (17, .istore_n 2, 1), (18, .aload_n 1, 1), (19, .getfield 25, 3), (22, .iconst 0, 1), (23, .aload_n 0, 1), (24, .getfield 25, 3), (27, .iconst 0, 1)] = true := by decide +kernel
theorem dX43_copy_0 : decode cX43_copy 0 = .ok (.aload_n 0, 1) := zdec_at bX43_copy_0 0 rfl
theorem dX43_copy_1 : decode cX43_copy 1 = .ok (.getfield 21, 3) := zdec_at bX43_copy_0 1 rfl
theorem dX43_copy_4 : decode cX43_copy 4 = .ok (.getfield 103, 3) := zdec_at bX43_copy_0 2 rfl
theorem dX43_copy_7 : decode cX43_copy 7 = .ok (.aload_n 0, 1) := zdec_at bX43_copy_0 3 rfl
theorem dX43_copy_8 : decode cX43_copy 8 = .ok (.getfield 21, 3) := zdec_at bX43_copy_0 4 rfl
theorem dX43_copy_11 : decode cX43_copy 11 = .ok (.getfield 53, 3) := zdec_at bX43_copy_0 5 rfl
theorem dX43_copy_14 : decode cX43_copy 14 = .ok (.iconst 1, 1) := zdec_at bX43_copy_0 6 rfl
theorem dX43_copy_15 : decode cX43_copy 15 = .ok (.iadd, 1) := zdec_at bX43_copy_0 7 rfl
theorem dX43_copy_16 : decode cX43_copy 16 = .ok (.imul, 1) := zdec_at bX43_copy_0 8 rfl
theorem dX43_copy_17 : decode cX43_copy 17 = .ok (.istore_n 2, 1) := zdec_at bX43_copy_0 9 rfl
theorem dX43_copy_18 : decode cX43_copy 18 = .ok (.aload_n 1, 1) := zdec_at bX43_copy_0 10 rfl
theorem dX43_copy_19 : decode cX43_copy 19 = .ok (.getfield 25, 3) := zdec_at bX43_copy_0 11 rfl
theorem dX43_copy_22 : decode cX43_copy 22 = .ok (.iconst 0, 1) := zdec_at bX43_copy_0 12 rfl
theorem dX43_copy_23 : decode cX43_copy 23 = .ok (.aload_n 0, 1) := zdec_at bX43_copy_0 13 rfl
theorem dX43_copy_24 : decode cX43_copy 24 = .ok (.getfield 25, 3) := zdec_at bX43_copy_0 14 rfl
theorem dX43_copy_27 : decode cX43_copy 27 = .ok (.iconst 0, 1) := zdec_at bX43_copy_0 15 rfl
theorem bX43_copy_28 : zdec cX43_copy 28 [(28, .iload_n 2, 1), (29, .invokestatic 126, 3), (32, .aload_n 1, 1), (33, .getfield 28, 3), (36, .iconst 0, 1), (37, .aload_n 0, 1), (38, .getfield 28, 3), (41, .iconst 0, 1), (42, .iload_n 2, 1), (43, .invokestatic 126, 3), (46, .aload_n 1, 1), (47, .getfield 31, 3), (50, .iconst 0, 1), (51, .aload_n 0, 1), (52, .getfield 31, 3), (55, .iconst 0, 1)] = true := by decide +kernel
theorem dX43_copy_28 : decode cX43_copy 28 = .ok (.iload_n 2, 1) := zdec_at bX43_copy_28 0 rfl
theorem dX43_copy_29 : decode cX43_copy 29 = .ok (.invokestatic 126, 3) := zdec_at bX43_copy_28 1 rfl
theorem dX43_copy_32 : decode cX43_copy 32 = .ok (.aload_n 1, 1) := zdec_at bX43_copy_28 2 rfl
theorem dX43_copy_33 : decode cX43_copy 33 = .ok (.getfield 28, 3) := zdec_at bX43_copy_28 3 rfl
theorem dX43_copy_36 : decode cX43_copy 36 = .ok (.iconst 0, 1) := zdec_at bX43_copy_28 4 rfl
theorem dX43_copy_37 : decode cX43_copy 37 = .ok (.aload_n 0, 1) := zdec_at bX43_copy_28 5 rfl
theorem dX43_copy_38 : decode cX43_copy 38 = .ok (.getfield 28, 3) := zdec_at bX43_copy_28 6 rfl
theorem dX43_copy_41 : decode cX43_copy 41 = .ok (.iconst 0, 1) := zdec_at bX43_copy_28 7 rfl
theorem dX43_copy_42 : decode cX43_copy 42 = .ok (.iload_n 2, 1) := zdec_at bX43_copy_28 8 rfl
theorem dX43_copy_43 : decode cX43_copy 43 = .ok (.invokestatic 126, 3) := zdec_at bX43_copy_28 9 rfl
theorem dX43_copy_46 : decode cX43_copy 46 = .ok (.aload_n 1, 1) := zdec_at bX43_copy_28 10 rfl
theorem dX43_copy_47 : decode cX43_copy 47 = .ok (.getfield 31, 3) := zdec_at bX43_copy_28 11 rfl
theorem dX43_copy_50 : decode cX43_copy 50 = .ok (.iconst 0, 1) := zdec_at bX43_copy_28 12 rfl
theorem dX43_copy_51 : decode cX43_copy 51 = .ok (.aload_n 0, 1) := zdec_at bX43_copy_28 13 rfl
theorem dX43_copy_52 : decode cX43_copy 52 = .ok (.getfield 31, 3) := zdec_at bX43_copy_28 14 rfl
theorem dX43_copy_55 : decode cX43_copy 55 = .ok (.iconst 0, 1) := zdec_at bX43_copy_28 15 rfl
theorem bX43_copy_56 : zdec cX43_copy 56 [(56, .iload_n 2, 1), (57, .invokestatic 126, 3), (60, .aload_n 1, 1), (61, .getfield 34, 3), (64, .iconst 0, 1), (65, .aload_n 0, 1), (66, .getfield 34, 3), (69, .iconst 0, 1), (70, .aload_n 0, 1), (71, .getfield 21, 3), (74, .getfield 103, 3), (77, .invokestatic 126, 3), (80, .aload_n 1, 1), (81, .getfield 37, 3), (84, .iconst 0, 1), (85, .aload_n 0, 1)] = true := by decide +kernel
theorem dX43_copy_56 : decode cX43_copy 56 = .ok (.iload_n 2, 1) := zdec_at bX43_copy_56 0 rfl
theorem dX43_copy_57 : decode cX43_copy 57 = .ok (.invokestatic 126, 3) := zdec_at bX43_copy_56 1 rfl
theorem dX43_copy_60 : decode cX43_copy 60 = .ok (.aload_n 1, 1) := zdec_at bX43_copy_56 2 rfl
theorem dX43_copy_61 : decode cX43_copy 61 = .ok (.getfield 34, 3) := zdec_at bX43_copy_56 3 rfl
theorem dX43_copy_64 : decode cX43_copy 64 = .ok (.iconst 0, 1) := zdec_at bX43_copy_56 4 rfl
theorem dX43_copy_65 : decode cX43_copy 65 = .ok (.aload_n 0, 1) := zdec_at bX43_copy_56 5 rfl
theorem dX43_copy_66 : decode cX43_copy 66 = .ok (.getfield 34, 3) := zdec_at bX43_copy_56 6 rfl
theorem dX43_copy_69 : decode cX43_copy 69 = .ok (.iconst 0, 1) := zdec_at bX43_copy_56 7 rfl
theorem dX43_copy_70 : decode cX43_copy 70 = .ok (.aload_n 0, 1) := zdec_at bX43_copy_56 8 rfl
theorem dX43_copy_71 : decode cX43_copy 71 = .ok (.getfield 21, 3) := zdec_at bX43_copy_56 9 rfl
theorem dX43_copy_74 : decode cX43_copy 74 = .ok (.getfield 103, 3) := zdec_at bX43_copy_56 10 rfl
theorem dX43_copy_77 : decode cX43_copy 77 = .ok (.invokestatic 126, 3) := zdec_at bX43_copy_56 11 rfl
theorem dX43_copy_80 : decode cX43_copy 80 = .ok (.aload_n 1, 1) := zdec_at bX43_copy_56 12 rfl
theorem dX43_copy_81 : decode cX43_copy 81 = .ok (.getfield 37, 3) := zdec_at bX43_copy_56 13 rfl
theorem dX43_copy_84 : decode cX43_copy 84 = .ok (.iconst 0, 1) := zdec_at bX43_copy_56 14 rfl
theorem dX43_copy_85 : decode cX43_copy 85 = .ok (.aload_n 0, 1) := zdec_at bX43_copy_56 15 rfl
theorem bX43_copy_86 : zdec cX43_copy 86 [(86, .getfield 37, 3), (89, .iconst 0, 1), (90, .aload_n 0, 1), (91, .getfield 21, 3), (94, .getfield 103, 3), (97, .invokestatic 126, 3), (100, .aload_n 1, 1), (101, .getfield 40, 3), (104, .iconst 0, 1), (105, .aload_n 0, 1), (106, .getfield 40, 3), (109, .iconst 0, 1), (110, .aload_n 0, 1), (111, .getfield 21, 3), (114, .getfield 103, 3), (117, .invokestatic 126, 3)] = true := by decide +kernel
theorem dX43_copy_86 : decode cX43_copy 86 = .ok (.getfield 37, 3) := zdec_at bX43_copy_86 0 rfl
theorem dX43_copy_89 : decode cX43_copy 89 = .ok (.iconst 0, 1) := zdec_at bX43_copy_86 1 rfl
theorem dX43_copy_90 : decode cX43_copy 90 = .ok (.aload_n 0, 1) := zdec_at bX43_copy_86 2 rfl
theorem dX43_copy_91 : decode cX43_copy 91 = .ok (.getfield 21, 3) := zdec_at bX43_copy_86 3 rfl
theorem dX43_copy_94 : decode cX43_copy 94 = .ok (.getfield 103, 3) := zdec_at bX43_copy_86 4 rfl
theorem dX43_copy_97 : decode cX43_copy 97 = .ok (.invokestatic 126, 3) := zdec_at bX43_copy_86 5 rfl
theorem dX43_copy_100 : decode cX43_copy 100 = .ok (.aload_n 1, 1) := zdec_at bX43_copy_86 6 rfl
theorem dX43_copy_101 : decode cX43_copy 101 = .ok (.getfield 40, 3) := zdec_at bX43_copy_86 7 rfl
theorem dX43_copy_104 : decode cX43_copy 104 = .ok (.iconst 0, 1) := zdec_at bX43_copy_86 8 rfl
theorem dX43_copy_105 : decode cX43_copy 105 = .ok (.aload_n 0, 1) := zdec_at bX43_copy_86 9 rfl
theorem dX43_copy_106 : decode cX43_copy 106 = .ok (.getfield 40, 3) := zdec_at bX43_copy_86 10 rfl
theorem dX43_copy_109 : decode cX43_copy 109 = .ok (.iconst 0, 1) := zdec_at bX43_copy_86 11 rfl
theorem dX43_copy_110 : decode cX43_copy 110 = .ok (.aload_n 0, 1) := zdec_at bX43_copy_86 12 rfl
theorem dX43_copy_111 : decode cX43_copy 111 = .ok (.getfield 21, 3) := zdec_at bX43_copy_86 13 rfl
theorem dX43_copy_114 : decode cX43_copy 114 = .ok (.getfield 103, 3) := zdec_at bX43_copy_86 14 rfl
theorem dX43_copy_117 : decode cX43_copy 117 = .ok (.invokestatic 126, 3) := zdec_at bX43_copy_86 15 rfl
theorem bX43_copy_120 : zdec cX43_copy 120 [(120, .aload_n 1, 1), (121, .getfield 43, 3), (124, .iconst 0, 1), (125, .aload_n 0, 1), (126, .getfield 43, 3), (129, .iconst 0, 1), (130, .aload_n 0, 1), (131, .getfield 21, 3), (134, .getfield 103, 3), (137, .invokestatic 126, 3), (140, .aload_n 1, 1), (141, .getfield 46, 3), (144, .iconst 0, 1), (145, .aload_n 0, 1), (146, .getfield 46, 3), (149, .iconst 0, 1)] = true := by decide +kernel
theorem dX43_copy_120 : decode cX43_copy 120 = .ok (.aload_n 1, 1) := zdec_at bX43_copy_120 0 rfl
theorem dX43_copy_121 : decode cX43_copy 121 = .ok (.getfield 43, 3) := zdec_at bX43_copy_120 1 rfl
theorem dX43_copy_124 : decode cX43_copy 124 = .ok (.iconst 0, 1) := zdec_at bX43_copy_120 2 rfl
theorem dX43_copy_125 : decode cX43_copy 125 = .ok (.aload_n 0, 1) := zdec_at bX43_copy_120 3 rfl
theorem dX43_copy_126 : decode cX43_copy 126 = .ok (.getfield 43, 3) := zdec_at bX43_copy_120 4 rfl
theorem dX43_copy_129 : decode cX43_copy 129 = .ok (.iconst 0, 1) := zdec_at bX43_copy_120 5 rfl
theorem dX43_copy_130 : decode cX43_copy 130 = .ok (.aload_n 0, 1) := zdec_at bX43_copy_120 6 rfl
theorem dX43_copy_131 : decode cX43_copy 131 = .ok (.getfield 21, 3) := zdec_at bX43_copy_120 7 rfl
theorem dX43_copy_134 : decode cX43_copy 134 = .ok (.getfield 103, 3) := zdec_at bX43_copy_120 8 rfl
theorem dX43_copy_137 : decode cX43_copy 137 = .ok (.invokestatic 126, 3) := zdec_at bX43_copy_120 9 rfl
theorem dX43_copy_140 : decode cX43_copy 140 = .ok (.aload_n 1, 1) := zdec_at bX43_copy_120 10 rfl
theorem dX43_copy_141 : decode cX43_copy 141 = .ok (.getfield 46, 3) := zdec_at bX43_copy_120 11 rfl
theorem dX43_copy_144 : decode cX43_copy 144 = .ok (.iconst 0, 1) := zdec_at bX43_copy_120 12 rfl
theorem dX43_copy_145 : decode cX43_copy 145 = .ok (.aload_n 0, 1) := zdec_at bX43_copy_120 13 rfl
theorem dX43_copy_146 : decode cX43_copy 146 = .ok (.getfield 46, 3) := zdec_at bX43_copy_120 14 rfl
theorem dX43_copy_149 : decode cX43_copy 149 = .ok (.iconst 0, 1) := zdec_at bX43_copy_120 15 rfl
theorem bX43_copy_150 : zdec cX43_copy 150 [(150, .aload_n 0, 1), (151, .getfield 21, 3), (154, .getfield 103, 3), (157, .invokestatic 126, 3), (160, .aload_n 1, 1), (161, .getfield 50, 3), (164, .iconst 0, 1), (165, .aload_n 0, 1), (166, .getfield 50, 3), (169, .iconst 0, 1), (170, .aload_n 0, 1), (171, .getfield 21, 3), (174, .getfield 103, 3), (177, .invokestatic 126, 3), (180, .aload_n 1, 1), (181, .getfield 9, 3)] = true := by decide +kernel
theorem dX43_copy_150 : decode cX43_copy 150 = .ok (.aload_n 0, 1) := zdec_at bX43_copy_150 0 rfl
theorem dX43_copy_151 : decode cX43_copy 151 = .ok (.getfield 21, 3) := zdec_at bX43_copy_150 1 rfl
theorem dX43_copy_154 : decode cX43_copy 154 = .ok (.getfield 103, 3) := zdec_at bX43_copy_150 2 rfl
theorem dX43_copy_157 : decode cX43_copy 157 = .ok (.invokestatic 126, 3) := zdec_at bX43_copy_150 3 rfl
theorem dX43_copy_160 : decode cX43_copy 160 = .ok (.aload_n 1, 1) := zdec_at bX43_copy_150 4 rfl
theorem dX43_copy_161 : decode cX43_copy 161 = .ok (.getfield 50, 3) := zdec_at bX43_copy_150 5 rfl
theorem dX43_copy_164 : decode cX43_copy 164 = .ok (.iconst 0, 1) := zdec_at bX43_copy_150 6 rfl
theorem dX43_copy_165 : decode cX43_copy 165 = .ok (.aload_n 0, 1) := zdec_at bX43_copy_150 7 rfl
theorem dX43_copy_166 : decode cX43_copy 166 = .ok (.getfield 50, 3) := zdec_at bX43_copy_150 8 rfl
theorem dX43_copy_169 : decode cX43_copy 169 = .ok (.iconst 0, 1) := zdec_at bX43_copy_150 9 rfl
theorem dX43_copy_170 : decode cX43_copy 170 = .ok (.aload_n 0, 1) := zdec_at bX43_copy_150 10 rfl
theorem dX43_copy_171 : decode cX43_copy 171 = .ok (.getfield 21, 3) := zdec_at bX43_copy_150 11 rfl
theorem dX43_copy_174 : decode cX43_copy 174 = .ok (.getfield 103, 3) := zdec_at bX43_copy_150 12 rfl
theorem dX43_copy_177 : decode cX43_copy 177 = .ok (.invokestatic 126, 3) := zdec_at bX43_copy_150 13 rfl
theorem dX43_copy_180 : decode cX43_copy 180 = .ok (.aload_n 1, 1) := zdec_at bX43_copy_150 14 rfl
theorem dX43_copy_181 : decode cX43_copy 181 = .ok (.getfield 9, 3) := zdec_at bX43_copy_150 15 rfl
theorem bX43_copy_184 : zdec cX43_copy 184 [(184, .iconst 0, 1), (185, .aload_n 0, 1), (186, .getfield 9, 3), (189, .iconst 0, 1), (190, .aload_n 1, 1), (191, .getfield 57, 3), (194, .invokestatic 126, 3), (197, .aload_n 1, 1), (198, .getfield 15, 3), (201, .iconst 0, 1), (202, .aload_n 0, 1), (203, .getfield 15, 3), (206, .iconst 0, 1), (207, .aload_n 1, 1), (208, .getfield 57, 3), (211, .invokestatic 126, 3)] = true := by decide +kernel
theorem dX43_copy_184 : decode cX43_copy 184 = .ok (.iconst 0, 1) := zdec_at bX43_copy_184 0 rfl
theorem dX43_copy_185 : decode cX43_copy 185 = .ok (.aload_n 0, 1) := zdec_at bX43_copy_184 1 rfl
theorem dX43_copy_186 : decode cX43_copy 186 = .ok (.getfield 9, 3) := zdec_at bX43_copy_184 2 rfl
theorem dX43_copy_189 : decode cX43_copy 189 = .ok (.iconst 0, 1) := zdec_at bX43_copy_184 3 rfl
theorem dX43_copy_190 : decode cX43_copy 190 = .ok (.aload_n 1, 1) := zdec_at bX43_copy_184 4 rfl
theorem dX43_copy_191 : decode cX43_copy 191 = .ok (.getfield 57, 3) := zdec_at bX43_copy_184 5 rfl
theorem dX43_copy_194 : decode cX43_copy 194 = .ok (.invokestatic 126, 3) := zdec_at bX43_copy_184 6 rfl
theorem dX43_copy_197 : decode cX43_copy 197 = .ok (.aload_n 1, 1) := zdec_at bX43_copy_184 7 rfl
theorem dX43_copy_198 : decode cX43_copy 198 = .ok (.getfield 15, 3) := zdec_at bX43_copy_184 8 rfl
theorem dX43_copy_201 : decode cX43_copy 201 = .ok (.iconst 0, 1) := zdec_at bX43_copy_184 9 rfl
theorem dX43_copy_202 : decode cX43_copy 202 = .ok (.aload_n 0, 1) := zdec_at bX43_copy_184 10 rfl
theorem dX43_copy_203 : decode cX43_copy 203 = .ok (.getfield 15, 3) := zdec_at bX43_copy_184 11 rfl
theorem dX43_copy_206 : decode cX43_copy 206 = .ok (.iconst 0, 1) := zdec_at bX43_copy_184 12 rfl
theorem dX43_copy_207 : decode cX43_copy 207 = .ok (.aload_n 1, 1) := zdec_at bX43_copy_184 13 rfl
theorem dX43_copy_208 : decode cX43_copy 208 = .ok (.getfield 57, 3) := zdec_at bX43_copy_184 14 rfl
theorem dX43_copy_211 : decode cX43_copy 211 = .ok (.invokestatic 126, 3) := zdec_at bX43_copy_184 15 rfl
theorem bX43_copy_214 : zdec cX43_copy 214 [(214, .aload_n 1, 1), (215, .getfield 18, 3), (218, .iconst 0, 1), (219, .aload_n 0, 1), (220, .getfield 18, 3), (223, .iconst 0, 1), (224, .aload_n 1, 1), (225, .getfield 57, 3), (228, .invokestatic 126, 3), (231, .aload_n 0, 1), (232, .aload_n 1, 1), (233, .getfield 57, 3), (236, .putfield 57, 3), (239, .aload_n 0, 1), (240, .aload_n 1, 1), (241, .getfield 110, 3)] = true := by decide +kernel
theorem dX43_copy_214 : decode cX43_copy 214 = .ok (.aload_n 1, 1) := zdec_at bX43_copy_214 0 rfl
theorem dX43_copy_215 : decode cX43_copy 215 = .ok (.getfield 18, 3) := zdec_at bX43_copy_214 1 rfl
theorem dX43_copy_218 : decode cX43_copy 218 = .ok (.iconst 0, 1) := zdec_at bX43_copy_214 2 rfl
theorem dX43_copy_219 : decode cX43_copy 219 = .ok (.aload_n 0, 1) := zdec_at bX43_copy_214 3 rfl
theorem dX43_copy_220 : decode cX43_copy 220 = .ok (.getfield 18, 3) := zdec_at bX43_copy_214 4 rfl
theorem dX43_copy_223 : decode cX43_copy 223 = .ok (.iconst 0, 1) := zdec_at bX43_copy_214 5 rfl
theorem dX43_copy_224 : decode cX43_copy 224 = .ok (.aload_n 1, 1) := zdec_at bX43_copy_214 6 rfl
theorem dX43_copy_225 : decode cX43_copy 225 = .ok (.getfield 57, 3) := zdec_at bX43_copy_214 7 rfl
theorem dX43_copy_228 : decode cX43_copy 228 = .ok (.invokestatic 126, 3) := zdec_at bX43_copy_214 8 rfl
theorem dX43_copy_231 : decode cX43_copy 231 = .ok (.aload_n 0, 1) := zdec_at bX43_copy_214 9 rfl
theorem dX43_copy_232 : decode cX43_copy 232 = .ok (.aload_n 1, 1) := zdec_at bX43_copy_214 10 rfl
theorem dX43_copy_233 : decode cX43_copy 233 = .ok (.getfield 57, 3) := zdec_at bX43_copy_214 11 rfl
theorem dX43_copy_236 : decode cX43_copy 236 = .ok (.putfield 57, 3) := zdec_at bX43_copy_214 12 rfl
theorem dX43_copy_239 : decode cX43_copy 239 = .ok (.aload_n 0, 1) := zdec_at bX43_copy_214 13 rfl
theorem dX43_copy_240 : decode cX43_copy 240 = .ok (.aload_n 1, 1) := zdec_at bX43_copy_214 14 rfl
theorem dX43_copy_241 : decode cX43_copy 241 = .ok (.getfield 110, 3) := zdec_at bX43_copy_214 15 rfl
theorem bX43_copy_244 : zdec cX43_copy 244 [(244, .putfield 110, 3), (247, .aload_n 0, 1), (248, .aload_n 1, 1), (249, .getfield 116, 3), (252, .putfield 116, 3), (255, .aload_n 0, 1), (256, .aload_n 1, 1), (257, .getfield 132, 3), (260, .putfield 132, 3), (263, .aload_n 0, 1), (264, .aload_n 1, 1), (265, .getfield 113, 3), (268, .putfield 113, 3), (271, .aload_n 0, 1), (272, .aload_n 1, 1), (273, .getfield 119, 3)] = true := by decide +kernel
theorem dX43_copy_244 : decode cX43_copy 244 = .ok (.putfield 110, 3) := zdec_at bX43_copy_244 0 rfl
theorem dX43_copy_247 : decode cX43_copy 247 = .ok (.aload_n 0, 1) := zdec_at bX43_copy_244 1 rfl
theorem dX43_copy_248 : decode cX43_copy 248 = .ok (.aload_n 1, 1) := zdec_at bX43_copy_244 2 rfl
theorem dX43_copy_249 : decode cX43_copy 249 = .ok (.getfield 116, 3) := zdec_at bX43_copy_244 3 rfl
theorem dX43_copy_252 : decode cX43_copy 252 = .ok (.putfield 116, 3) := zdec_at bX43_copy_244 4 rfl
theorem dX43_copy_255 : decode cX43_copy 255 = .ok (.aload_n 0, 1) := zdec_at bX43_copy_244 5 rfl
theorem dX43_copy_256 : decode cX43_copy 256 = .ok (.aload_n 1, 1) := zdec_at bX43_copy_244 6 rfl
theorem dX43_copy_257 : decode cX43_copy 257 = .ok (.getfield 132, 3) := zdec_at bX43_copy_244 7 rfl
theorem dX43_copy_260 : decode cX43_copy 260 = .ok (.putfield 132, 3) := zdec_at bX43_copy_244 8 rfl
theorem dX43_copy_263 : decode cX43_copy 263 = .ok (.aload_n 0, 1) := zdec_at bX43_copy_244 9 rfl
theorem dX43_copy_264 : decode cX43_copy 264 = .ok (.aload_n 1, 1) := zdec_at bX43_copy_244 10 rfl
theorem dX43_copy_265 : decode cX43_copy 265 = .ok (.getfield 113, 3) := zdec_at bX43_copy_244 11 rfl
theorem dX43_copy_268 : decode cX43_copy 268 = .ok (.putfield 113, 3) := zdec_at bX43_copy_244 12 rfl
theorem dX43_copy_271 : decode cX43_copy 271 = .ok (.aload_n 0, 1) := zdec_at bX43_copy_244 13 rfl
theorem dX43_copy_272 : decode cX43_copy 272 = .ok (.aload_n 1, 1) := zdec_at bX43_copy_244 14 rfl
theorem dX43_copy_273 : decode cX43_copy 273 = .ok (.getfield 119, 3) := zdec_at bX43_copy_244 15 rfl
theorem bX43_copy_276 : zdec cX43_copy 276 [(276, .putfield 119, 3), (279, .return_, 1)] = true := by decide +kernel
theorem dX43_copy_276 : decode cX43_copy 276 = .ok (.putfield 119, 3) := zdec_at bX43_copy_276 0 rfl
theorem dX43_copy_279 : decode cX43_copy 279 = .ok (.return_, 1) := zdec_at bX43_copy_276 1 rfl
theorem sX43_copy_0 {E : zE} {d : Nat} {Q : zO → zM → Prop} (M : zM) (a0 : Nat) (r1 : Option zP) (k : ∃ b1 : Nat, (gr M a0 0) = some (b1, 0, 0) ∧ (∃ b2 : Nat, (gr M a0 0) = some (b2, 0, 0) ∧ (∃ b3 : Nat, r1 = some (b3, 7, 0) ∧ (∃ b4 m4 : Nat, (gr M a0 1) = some (b4, 105, m4) ∧ (∃ b5 m5 : Nat, (gr M b3 1) = some (b5, 105, m5) ∧ (16 ≤ b4 ∧ ((1 ≤ d) ∧ (((¬ (0 : Int32) < 0 ∧ ¬ (0 : Int32) < 0 ∧ ¬ ((gi M b1 11) * ((gi M b2 1) + (1 : Int32))) < 0) ∧ ((0 : Int32)).toNatClampNeg + (((gi M b1 11) * ((gi M b2 1) + (1 : Int32)))).toNatClampNeg ≤ m5 ∧ ((0 : Int32)).toNatClampNeg + (((gi M b1 11) * ((gi M b2 1) + (1 : Int32)))).toNatClampNeg ≤ m4) ∧ (Z E YX43_copy d (cpl M b5 ((0 : Int32)).toNatClampNeg b4 ((0 : Int32)).toNatClampNeg (((gi M b1 11) * ((gi M b2 1) + (1 : Int32)))).toNatClampNeg) [(0, vr (some (a0, 7, 0))), (1, vr (some (b3, 7, 0))), (2, vi ((gi M b1 11) * ((gi M b2 1) + (1 : Int32))))] 32 [] Q))))))))) : Z E YX43_copy d M [(0, vr (some (a0, 7, 0))), (1, vr r1)] 0 [] Q := by
  refine z_aload_n dX43_copy_0 rfl rfl ?_
  refine z_getr (r := (gr M a0 0)) dX43_copy_1 fsX43_21_7 rfl ?_
  obtain ⟨b1, e1_, k⟩ := k
  refine Z.eqs (lv' := [(0, vr (some (a0, 7, 0))), (1, vr r1)]) (st' := [vr (some (b1, 0, 0))]) rfl (by rw [e1_] <;> rfl) ?_
  refine z_geti dX43_copy_4 fsX43_103_0 ?_
  refine z_aload_n dX43_copy_7 rfl rfl ?_
  refine z_getr (r := (gr M a0 0)) dX43_copy_8 fsX43_21_7 rfl ?_
  obtain ⟨b2, e2_, k⟩ := k
  refine Z.eqs (lv' := [(0, vr (some (a0, 7, 0))), (1, vr r1)]) (st' := [vr (some (b2, 0, 0)), vi (gi M b1 11)]) rfl (by rw [e2_] <;> rfl) ?_
  refine z_geti dX43_copy_11 fsX43_53_0 ?_
  refine z_iconst (v := 1) dX43_copy_14 rfl ?_
  refine z_iadd dX43_copy_15 ?_
  refine z_imul dX43_copy_16 ?_
  refine z_ist_n dX43_copy_17 rfl (by decide) (lv' := [(0, vr (some (a0, 7, 0))), (1, vr r1), (2, vi ((gi M b1 11) * ((gi M b2 1) + (1 : Int32))))]) rfl ?_
  refine z_aload_n dX43_copy_18 rfl rfl ?_
  obtain ⟨b3, e3_, k⟩ := k
  refine Z.eqs (lv' := [(0, vr (some (a0, 7, 0))), (1, vr (some (b3, 7, 0))), (2, vi ((gi M b1 11) * ((gi M b2 1) + (1 : Int32))))]) (st' := [vr (some (b3, 7, 0))]) (by rw [e3_] <;> rfl) (by rw [e3_] <;> rfl) ?_
  refine z_getr (r := (gr M b3 1)) dX43_copy_19 fsX43_25_7 rfl ?_
  refine z_iconst (v := 0) dX43_copy_22 rfl ?_
  refine z_aload_n dX43_copy_23 rfl rfl ?_
  refine z_getr (r := (gr M a0 1)) dX43_copy_24 fsX43_25_7 rfl ?_
  refine z_iconst (v := 0) dX43_copy_27 rfl ?_
  refine z_iload_n dX43_copy_28 rfl rfl ?_
  obtain ⟨b4, m4, e4_, k⟩ := k
  refine Z.eqs (lv' := [(0, vr (some (a0, 7, 0))), (1, vr (some (b3, 7, 0))), (2, vi ((gi M b1 11) * ((gi M b2 1) + (1 : Int32))))]) (st' := [vi ((gi M b1 11) * ((gi M b2 1) + (1 : Int32))), vi (0 : Int32), vr (some (b4, 105, m4)), vi (0 : Int32), vr (gr M b3 1)]) rfl (by rw [e4_] <;> rfl) ?_
  obtain ⟨b5, m5, e5_, k⟩ := k
  refine Z.eqs (lv' := [(0, vr (some (a0, 7, 0))), (1, vr (some (b3, 7, 0))), (2, vi ((gi M b1 11) * ((gi M b2 1) + (1 : Int32))))]) (st' := [vi ((gi M b1 11) * ((gi M b2 1) + (1 : Int32))), vi (0 : Int32), vr (some (b4, 105, m4)), vi (0 : Int32), vr (some (b5, 105, m5))]) rfl (by rw [e5_] <;> rfl) ?_
  obtain ⟨g_, k⟩ := k
  obtain ⟨d_, k⟩ := k
  obtain ⟨b_, k⟩ := k
  refine z_copyl g_ dX43_copy_29 q3441 d_ (Nat.le_of_ble_eq_true rfl) b_.1.1 b_.1.2.1 b_.1.2.2 b_.2.1 b_.2.2 ?_
  exact k
theorem sX43_copy_32 {E : zE} {d : Nat} {Q : zO → zM → Prop} (M : zM) (a0 : Nat) (a1 : Nat) (l2 : Int32) (k : ∃ b1 m1 : Nat, (gr M a0 2) = some (b1, 105, m1) ∧ (∃ b2 m2 : Nat, (gr M a1 2) = some (b2, 105, m2) ∧ (16 ≤ b1 ∧ ((1 ≤ d) ∧ (((¬ (0 : Int32) < 0 ∧ ¬ (0 : Int32) < 0 ∧ ¬ l2 < 0) ∧ ((0 : Int32)).toNatClampNeg + (l2).toNatClampNeg ≤ m2 ∧ ((0 : Int32)).toNatClampNeg + (l2).toNatClampNeg ≤ m1) ∧ (Z E YX43_copy d (cpl M b2 ((0 : Int32)).toNatClampNeg b1 ((0 : Int32)).toNatClampNeg (l2).toNatClampNeg) [(0, vr (some (a0, 7, 0))), (1, vr (some (a1, 7, 0))), (2, vi l2)] 46 [] Q)))))) : Z E YX43_copy d M [(0, vr (some (a0, 7, 0))), (1, vr (some (a1, 7, 0))), (2, vi l2)] 32 [] Q := by
  refine z_aload_n dX43_copy_32 rfl rfl ?_
  refine z_getr (r := (gr M a1 2)) dX43_copy_33 fsX43_28_7 rfl ?_
  refine z_iconst (v := 0) dX43_copy_36 rfl ?_
  refine z_aload_n dX43_copy_37 rfl rfl ?_
  refine z_getr (r := (gr M a0 2)) dX43_copy_38 fsX43_28_7 rfl ?_
  refine z_iconst (v := 0) dX43_copy_41 rfl ?_
  refine z_iload_n dX43_copy_42 rfl rfl ?_
  obtain ⟨b1, m1, e1_, k⟩ := k
  refine Z.eqs (lv' := [(0, vr (some (a0, 7, 0))), (1, vr (some (a1, 7, 0))), (2, vi l2)]) (st' := [vi l2, vi (0 : Int32), vr (some (b1, 105, m1)), vi (0 : Int32), vr (gr M a1 2)]) rfl (by rw [e1_] <;> rfl) ?_
  obtain ⟨b2, m2, e2_, k⟩ := k
  refine Z.eqs (lv' := [(0, vr (some (a0, 7, 0))), (1, vr (some (a1, 7, 0))), (2, vi l2)]) (st' := [vi l2, vi (0 : Int32), vr (some (b1, 105, m1)), vi (0 : Int32), vr (some (b2, 105, m2))]) rfl (by rw [e2_] <;> rfl) ?_
  obtain ⟨g_, k⟩ := k
  obtain ⟨d_, k⟩ := k
  obtain ⟨b_, k⟩ := k
  refine z_copyl g_ dX43_copy_43 q3441 d_ (Nat.le_of_ble_eq_true rfl) b_.1.1 b_.1.2.1 b_.1.2.2 b_.2.1 b_.2.2 ?_
  exact k
theorem sX43_copy_46 {E : zE} {d : Nat} {Q : zO → zM → Prop} (M : zM) (a0 : Nat) (a1 : Nat) (l2 : Int32) (k : ∃ b1 m1 : Nat, (gr M a0 3) = some (b1, 105, m1) ∧ (∃ b2 m2 : Nat, (gr M a1 3) = some (b2, 105, m2) ∧ (16 ≤ b1 ∧ ((1 ≤ d) ∧ (((¬ (0 : Int32) < 0 ∧ ¬ (0 : Int32) < 0 ∧ ¬ l2 < 0) ∧ ((0 : Int32)).toNatClampNeg + (l2).toNatClampNeg ≤ m2 ∧ ((0 : Int32)).toNatClampNeg + (l2).toNatClampNeg ≤ m1) ∧ (Z E YX43_copy d (cpl M b2 ((0 : Int32)).toNatClampNeg b1 ((0 : Int32)).toNatClampNeg (l2).toNatClampNeg) [(0, vr (some (a0, 7, 0))), (1, vr (some (a1, 7, 0)))] 60 [] Q)))))) : Z E YX43_copy d M [(0, vr (some (a0, 7, 0))), (1, vr (some (a1, 7, 0))), (2, vi l2)] 46 [] Q := by
  refine z_aload_n dX43_copy_46 rfl rfl ?_
  refine z_getr (r := (gr M a1 3)) dX43_copy_47 fsX43_31_7 rfl ?_
  refine z_iconst (v := 0) dX43_copy_50 rfl ?_
  refine z_aload_n dX43_copy_51 rfl rfl ?_
  refine z_getr (r := (gr M a0 3)) dX43_copy_52 fsX43_31_7 rfl ?_
  refine z_iconst (v := 0) dX43_copy_55 rfl ?_
  refine z_iload_n dX43_copy_56 rfl rfl ?_
  obtain ⟨b1, m1, e1_, k⟩ := k
  refine Z.eqs (lv' := [(0, vr (some (a0, 7, 0))), (1, vr (some (a1, 7, 0))), (2, vi l2)]) (st' := [vi l2, vi (0 : Int32), vr (some (b1, 105, m1)), vi (0 : Int32), vr (gr M a1 3)]) rfl (by rw [e1_] <;> rfl) ?_
  obtain ⟨b2, m2, e2_, k⟩ := k
  refine Z.eqs (lv' := [(0, vr (some (a0, 7, 0))), (1, vr (some (a1, 7, 0))), (2, vi l2)]) (st' := [vi l2, vi (0 : Int32), vr (some (b1, 105, m1)), vi (0 : Int32), vr (some (b2, 105, m2))]) rfl (by rw [e2_] <;> rfl) ?_
  obtain ⟨g_, k⟩ := k
  obtain ⟨d_, k⟩ := k
  obtain ⟨b_, k⟩ := k
  refine z_copyl g_ dX43_copy_57 q3441 d_ (Nat.le_of_ble_eq_true rfl) b_.1.1 b_.1.2.1 b_.1.2.2 b_.2.1 b_.2.2 ?_
  refine Z.pick [0, 1] rfl ?_
  exact k
theorem sX43_copy_60 {E : zE} {d : Nat} {Q : zO → zM → Prop} (M : zM) (a0 : Nat) (a1 : Nat) (k : ∃ b1 : Nat, (gr M a0 0) = some (b1, 0, 0) ∧ (∃ b2 m2 : Nat, (gr M a0 4) = some (b2, 105, m2) ∧ (∃ b3 m3 : Nat, (gr M a1 4) = some (b3, 105, m3) ∧ (16 ≤ b2 ∧ ((1 ≤ d) ∧ (((¬ (0 : Int32) < 0 ∧ ¬ (0 : Int32) < 0 ∧ ¬ (gi M b1 11) < 0) ∧ ((0 : Int32)).toNatClampNeg + ((gi M b1 11)).toNatClampNeg ≤ m3 ∧ ((0 : Int32)).toNatClampNeg + ((gi M b1 11)).toNatClampNeg ≤ m2) ∧ (Z E YX43_copy d (cpl M b3 ((0 : Int32)).toNatClampNeg b2 ((0 : Int32)).toNatClampNeg ((gi M b1 11)).toNatClampNeg) [(0, vr (some (a0, 7, 0))), (1, vr (some (a1, 7, 0)))] 80 [] Q))))))) : Z E YX43_copy d M [(0, vr (some (a0, 7, 0))), (1, vr (some (a1, 7, 0)))] 60 [] Q := by
  refine z_aload_n dX43_copy_60 rfl rfl ?_
  refine z_getr (r := (gr M a1 4)) dX43_copy_61 fsX43_34_7 rfl ?_
  refine z_iconst (v := 0) dX43_copy_64 rfl ?_
  refine z_aload_n dX43_copy_65 rfl rfl ?_
  refine z_getr (r := (gr M a0 4)) dX43_copy_66 fsX43_34_7 rfl ?_
  refine z_iconst (v := 0) dX43_copy_69 rfl ?_
  refine z_aload_n dX43_copy_70 rfl rfl ?_
  refine z_getr (r := (gr M a0 0)) dX43_copy_71 fsX43_21_7 rfl ?_
  obtain ⟨b1, e1_, k⟩ := k
  refine Z.eqs (lv' := [(0, vr (some (a0, 7, 0))), (1, vr (some (a1, 7, 0)))]) (st' := [vr (some (b1, 0, 0)), vi (0 : Int32), vr (gr M a0 4), vi (0 : Int32), vr (gr M a1 4)]) rfl (by rw [e1_] <;> rfl) ?_
  refine z_geti dX43_copy_74 fsX43_103_0 ?_
  obtain ⟨b2, m2, e2_, k⟩ := k
  refine Z.eqs (lv' := [(0, vr (some (a0, 7, 0))), (1, vr (some (a1, 7, 0)))]) (st' := [vi (gi M b1 11), vi (0 : Int32), vr (some (b2, 105, m2)), vi (0 : Int32), vr (gr M a1 4)]) rfl (by rw [e2_] <;> rfl) ?_
  obtain ⟨b3, m3, e3_, k⟩ := k
  refine Z.eqs (lv' := [(0, vr (some (a0, 7, 0))), (1, vr (some (a1, 7, 0)))]) (st' := [vi (gi M b1 11), vi (0 : Int32), vr (some (b2, 105, m2)), vi (0 : Int32), vr (some (b3, 105, m3))]) rfl (by rw [e3_] <;> rfl) ?_
  obtain ⟨g_, k⟩ := k
  obtain ⟨d_, k⟩ := k
  obtain ⟨b_, k⟩ := k
  refine z_copyl g_ dX43_copy_77 q3441 d_ (Nat.le_of_ble_eq_true rfl) b_.1.1 b_.1.2.1 b_.1.2.2 b_.2.1 b_.2.2 ?_
  exact k
theorem sX43_copy_80 {E : zE} {d : Nat} {Q : zO → zM → Prop} (M : zM) (a0 : Nat) (a1 : Nat) (k : ∃ b1 : Nat, (gr M a0 0) = some (b1, 0, 0) ∧ (∃ b2 m2 : Nat, (gr M a0 5) = some (b2, 105, m2) ∧ (∃ b3 m3 : Nat, (gr M a1 5) = some (b3, 105, m3) ∧ (16 ≤ b2 ∧ ((1 ≤ d) ∧ (((¬ (0 : Int32) < 0 ∧ ¬ (0 : Int32) < 0 ∧ ¬ (gi M b1 11) < 0) ∧ ((0 : Int32)).toNatClampNeg + ((gi M b1 11)).toNatClampNeg ≤ m3 ∧ ((0 : Int32)).toNatClampNeg + ((gi M b1 11)).toNatClampNeg ≤ m2) ∧ (Z E YX43_copy d (cpl M b3 ((0 : Int32)).toNatClampNeg b2 ((0 : Int32)).toNatClampNeg ((gi M b1 11)).toNatClampNeg) [(0, vr (some (a0, 7, 0))), (1, vr (some (a1, 7, 0)))] 100 [] Q))))))) : Z E YX43_copy d M [(0, vr (some (a0, 7, 0))), (1, vr (some (a1, 7, 0)))] 80 [] Q := by
  refine z_aload_n dX43_copy_80 rfl rfl ?_
  refine z_getr (r := (gr M a1 5)) dX43_copy_81 fsX43_37_7 rfl ?_
  refine z_iconst (v := 0) dX43_copy_84 rfl ?_
  refine z_aload_n dX43_copy_85 rfl rfl ?_
  refine z_getr (r := (gr M a0 5)) dX43_copy_86 fsX43_37_7 rfl ?_
  refine z_iconst (v := 0) dX43_copy_89 rfl ?_
  refine z_aload_n dX43_copy_90 rfl rfl ?_
  refine z_getr (r := (gr M a0 0)) dX43_copy_91 fsX43_21_7 rfl ?_
  obtain ⟨b1, e1_, k⟩ := k
  refine Z.eqs (lv' := [(0, vr (some (a0, 7, 0))), (1, vr (some (a1, 7, 0)))]) (st' := [vr (some (b1, 0, 0)), vi (0 : Int32), vr (gr M a0 5), vi (0 : Int32), vr (gr M a1 5)]) rfl (by rw [e1_] <;> rfl) ?_
  refine z_geti dX43_copy_94 fsX43_103_0 ?_
  obtain ⟨b2, m2, e2_, k⟩ := k
  refine Z.eqs (lv' := [(0, vr (some (a0, 7, 0))), (1, vr (some (a1, 7, 0)))]) (st' := [vi (gi M b1 11), vi (0 : Int32), vr (some (b2, 105, m2)), vi (0 : Int32), vr (gr M a1 5)]) rfl (by rw [e2_] <;> rfl) ?_
  obtain ⟨b3, m3, e3_, k⟩ := k
  refine Z.eqs (lv' := [(0, vr (some (a0, 7, 0))), (1, vr (some (a1, 7, 0)))]) (st' := [vi (gi M b1 11), vi (0 : Int32), vr (some (b2, 105, m2)), vi (0 : Int32), vr (some (b3, 105, m3))]) rfl (by rw [e3_] <;> rfl) ?_
  obtain ⟨g_, k⟩ := k
  obtain ⟨d_, k⟩ := k
  obtain ⟨b_, k⟩ := k
  refine z_copyl g_ dX43_copy_97 q3441 d_ (Nat.le_of_ble_eq_true rfl) b_.1.1 b_.1.2.1 b_.1.2.2 b_.2.1 b_.2.2 ?_
  exact k
theorem sX43_copy_100 {E : zE} {d : Nat} {Q : zO → zM → Prop} (M : zM) (a0 : Nat) (a1 : Nat) (k : ∃ b1 : Nat, (gr M a0 0) = some (b1, 0, 0) ∧ (∃ b2 m2 : Nat, (gr M a0 6) = some (b2, 105, m2) ∧ (∃ b3 m3 : Nat, (gr M a1 6) = some (b3, 105, m3) ∧ (16 ≤ b2 ∧ ((1 ≤ d) ∧ (((¬ (0 : Int32) < 0 ∧ ¬ (0 : Int32) < 0 ∧ ¬ (gi M b1 11) < 0) ∧ ((0 : Int32)).toNatClampNeg + ((gi M b1 11)).toNatClampNeg ≤ m3 ∧ ((0 : Int32)).toNatClampNeg + ((gi M b1 11)).toNatClampNeg ≤ m2) ∧ (Z E YX43_copy d (cpl M b3 ((0 : Int32)).toNatClampNeg b2 ((0 : Int32)).toNatClampNeg ((gi M b1 11)).toNatClampNeg) [(0, vr (some (a0, 7, 0))), (1, vr (some (a1, 7, 0)))] 120 [] Q))))))) : Z E YX43_copy d M [(0, vr (some (a0, 7, 0))), (1, vr (some (a1, 7, 0)))] 100 [] Q := by
  refine z_aload_n dX43_copy_100 rfl rfl ?_
  refine z_getr (r := (gr M a1 6)) dX43_copy_101 fsX43_40_7 rfl ?_
  refine z_iconst (v := 0) dX43_copy_104 rfl ?_
  refine z_aload_n dX43_copy_105 rfl rfl ?_
  refine z_getr (r := (gr M a0 6)) dX43_copy_106 fsX43_40_7 rfl ?_
  refine z_iconst (v := 0) dX43_copy_109 rfl ?_
  refine z_aload_n dX43_copy_110 rfl rfl ?_
  refine z_getr (r := (gr M a0 0)) dX43_copy_111 fsX43_21_7 rfl ?_
  obtain ⟨b1, e1_, k⟩ := k
  refine Z.eqs (lv' := [(0, vr (some (a0, 7, 0))), (1, vr (some (a1, 7, 0)))]) (st' := [vr (some (b1, 0, 0)), vi (0 : Int32), vr (gr M a0 6), vi (0 : Int32), vr (gr M a1 6)]) rfl (by rw [e1_] <;> rfl) ?_
  refine z_geti dX43_copy_114 fsX43_103_0 ?_
  obtain ⟨b2, m2, e2_, k⟩ := k
  refine Z.eqs (lv' := [(0, vr (some (a0, 7, 0))), (1, vr (some (a1, 7, 0)))]) (st' := [vi (gi M b1 11), vi (0 : Int32), vr (some (b2, 105, m2)), vi (0 : Int32), vr (gr M a1 6)]) rfl (by rw [e2_] <;> rfl) ?_
  obtain ⟨b3, m3, e3_, k⟩ := k
  refine Z.eqs (lv' := [(0, vr (some (a0, 7, 0))), (1, vr (some (a1, 7, 0)))]) (st' := [vi (gi M b1 11), vi (0 : Int32), vr (some (b2, 105, m2)), vi (0 : Int32), vr (some (b3, 105, m3))]) rfl (by rw [e3_] <;> rfl) ?_
  obtain ⟨g_, k⟩ := k
  obtain ⟨d_, k⟩ := k
  obtain ⟨b_, k⟩ := k
  refine z_copyl g_ dX43_copy_117 q3441 d_ (Nat.le_of_ble_eq_true rfl) b_.1.1 b_.1.2.1 b_.1.2.2 b_.2.1 b_.2.2 ?_
  exact k
theorem sX43_copy_120 {E : zE} {d : Nat} {Q : zO → zM → Prop} (M : zM) (a0 : Nat) (a1 : Nat) (k : ∃ b1 : Nat, (gr M a0 0) = some (b1, 0, 0) ∧ (∃ b2 m2 : Nat, (gr M a0 7) = some (b2, 105, m2) ∧ (∃ b3 m3 : Nat, (gr M a1 7) = some (b3, 105, m3) ∧ (16 ≤ b2 ∧ ((1 ≤ d) ∧ (((¬ (0 : Int32) < 0 ∧ ¬ (0 : Int32) < 0 ∧ ¬ (gi M b1 11) < 0) ∧ ((0 : Int32)).toNatClampNeg + ((gi M b1 11)).toNatClampNeg ≤ m3 ∧ ((0 : Int32)).toNatClampNeg + ((gi M b1 11)).toNatClampNeg ≤ m2) ∧ (Z E YX43_copy d (cpl M b3 ((0 : Int32)).toNatClampNeg b2 ((0 : Int32)).toNatClampNeg ((gi M b1 11)).toNatClampNeg) [(0, vr (some (a0, 7, 0))), (1, vr (some (a1, 7, 0)))] 140 [] Q))))))) : Z E YX43_copy d M [(0, vr (some (a0, 7, 0))), (1, vr (some (a1, 7, 0)))] 120 [] Q := by
  refine z_aload_n dX43_copy_120 rfl rfl ?_
  refine z_getr (r := (gr M a1 7)) dX43_copy_121 fsX43_43_7 rfl ?_
  refine z_iconst (v := 0) dX43_copy_124 rfl ?_
  refine z_aload_n dX43_copy_125 rfl rfl ?_
  refine z_getr (r := (gr M a0 7)) dX43_copy_126 fsX43_43_7 rfl ?_
  refine z_iconst (v := 0) dX43_copy_129 rfl ?_
  refine z_aload_n dX43_copy_130 rfl rfl ?_
  refine z_getr (r := (gr M a0 0)) dX43_copy_131 fsX43_21_7 rfl ?_
  obtain ⟨b1, e1_, k⟩ := k
  refine Z.eqs (lv' := [(0, vr (some (a0, 7, 0))), (1, vr (some (a1, 7, 0)))]) (st' := [vr (some (b1, 0, 0)), vi (0 : Int32), vr (gr M a0 7), vi (0 : Int32), vr (gr M a1 7)]) rfl (by rw [e1_] <;> rfl) ?_
  refine z_geti dX43_copy_134 fsX43_103_0 ?_
  obtain ⟨b2, m2, e2_, k⟩ := k
  refine Z.eqs (lv' := [(0, vr (some (a0, 7, 0))), (1, vr (some (a1, 7, 0)))]) (st' := [vi (gi M b1 11), vi (0 : Int32), vr (some (b2, 105, m2)), vi (0 : Int32), vr (gr M a1 7)]) rfl (by rw [e2_] <;> rfl) ?_
  obtain ⟨b3, m3, e3_, k⟩ := k
  refine Z.eqs (lv' := [(0, vr (some (a0, 7, 0))), (1, vr (some (a1, 7, 0)))]) (st' := [vi (gi M b1 11), vi (0 : Int32), vr (some (b2, 105, m2)), vi (0 : Int32), vr (some (b3, 105, m3))]) rfl (by rw [e3_] <;> rfl) ?_
  obtain ⟨g_, k⟩ := k
  obtain ⟨d_, k⟩ := k
  obtain ⟨b_, k⟩ := k
  refine z_copyl g_ dX43_copy_137 q3441 d_ (Nat.le_of_ble_eq_true rfl) b_.1.1 b_.1.2.1 b_.1.2.2 b_.2.1 b_.2.2 ?_
  exact k
theorem sX43_copy_140 {E : zE} {d : Nat} {Q : zO → zM → Prop} (M : zM) (a0 : Nat) (a1 : Nat) (k : ∃ b1 : Nat, (gr M a0 0) = some (b1, 0, 0) ∧ (∃ b2 m2 : Nat, (gr M a0 8) = some (b2, 104, m2) ∧ (∃ b3 m3 : Nat, (gr M a1 8) = some (b3, 104, m3) ∧ (16 ≤ b2 ∧ ((1 ≤ d) ∧ (((¬ (0 : Int32) < 0 ∧ ¬ (0 : Int32) < 0 ∧ ¬ (gi M b1 11) < 0) ∧ ((0 : Int32)).toNatClampNeg + ((gi M b1 11)).toNatClampNeg ≤ m3 ∧ ((0 : Int32)).toNatClampNeg + ((gi M b1 11)).toNatClampNeg ≤ m2) ∧ ((∀ i, i < ((gi M b1 11)).toNatClampNeg → zfit .boolean (gi M b3 (((0 : Int32)).toNatClampNeg + i))) ∧ (Z E YX43_copy d (cpi M b3 ((0 : Int32)).toNatClampNeg b2 ((0 : Int32)).toNatClampNeg ((gi M b1 11)).toNatClampNeg) [(0, vr (some (a0, 7, 0))), (1, vr (some (a1, 7, 0)))] 160 [] Q)))))))) : Z E YX43_copy d M [(0, vr (some (a0, 7, 0))), (1, vr (some (a1, 7, 0)))] 140 [] Q := by
  refine z_aload_n dX43_copy_140 rfl rfl ?_
  refine z_getr (r := (gr M a1 8)) dX43_copy_141 fsX43_46_7 rfl ?_
  refine z_iconst (v := 0) dX43_copy_144 rfl ?_
  refine z_aload_n dX43_copy_145 rfl rfl ?_
  refine z_getr (r := (gr M a0 8)) dX43_copy_146 fsX43_46_7 rfl ?_
  refine z_iconst (v := 0) dX43_copy_149 rfl ?_
  refine z_aload_n dX43_copy_150 rfl rfl ?_
  refine z_getr (r := (gr M a0 0)) dX43_copy_151 fsX43_21_7 rfl ?_
  obtain ⟨b1, e1_, k⟩ := k
  refine Z.eqs (lv' := [(0, vr (some (a0, 7, 0))), (1, vr (some (a1, 7, 0)))]) (st' := [vr (some (b1, 0, 0)), vi (0 : Int32), vr (gr M a0 8), vi (0 : Int32), vr (gr M a1 8)]) rfl (by rw [e1_] <;> rfl) ?_
  refine z_geti dX43_copy_154 fsX43_103_0 ?_
  obtain ⟨b2, m2, e2_, k⟩ := k
  refine Z.eqs (lv' := [(0, vr (some (a0, 7, 0))), (1, vr (some (a1, 7, 0)))]) (st' := [vi (gi M b1 11), vi (0 : Int32), vr (some (b2, 104, m2)), vi (0 : Int32), vr (gr M a1 8)]) rfl (by rw [e2_] <;> rfl) ?_
  obtain ⟨b3, m3, e3_, k⟩ := k
  refine Z.eqs (lv' := [(0, vr (some (a0, 7, 0))), (1, vr (some (a1, 7, 0)))]) (st' := [vi (gi M b1 11), vi (0 : Int32), vr (some (b2, 104, m2)), vi (0 : Int32), vr (some (b3, 104, m3))]) rfl (by rw [e3_] <;> rfl) ?_
  obtain ⟨g_, k⟩ := k
  obtain ⟨d_, k⟩ := k
  obtain ⟨b_, k⟩ := k
  obtain ⟨z_, k⟩ := k
  refine z_copyz g_ dX43_copy_157 q3441 d_ (Nat.le_of_ble_eq_true rfl) b_.1.1 b_.1.2.1 b_.1.2.2 b_.2.1 b_.2.2 z_ ?_
  exact k
theorem sX43_copy_160 {E : zE} {d : Nat} {Q : zO → zM → Prop} (M : zM) (a0 : Nat) (a1 : Nat) (k : ∃ b1 : Nat, (gr M a0 0) = some (b1, 0, 0) ∧ (∃ b2 m2 : Nat, (gr M a0 9) = some (b2, 104, m2) ∧ (∃ b3 m3 : Nat, (gr M a1 9) = some (b3, 104, m3) ∧ (16 ≤ b2 ∧ ((1 ≤ d) ∧ (((¬ (0 : Int32) < 0 ∧ ¬ (0 : Int32) < 0 ∧ ¬ (gi M b1 11) < 0) ∧ ((0 : Int32)).toNatClampNeg + ((gi M b1 11)).toNatClampNeg ≤ m3 ∧ ((0 : Int32)).toNatClampNeg + ((gi M b1 11)).toNatClampNeg ≤ m2) ∧ ((∀ i, i < ((gi M b1 11)).toNatClampNeg → zfit .boolean (gi M b3 (((0 : Int32)).toNatClampNeg + i))) ∧ (Z E YX43_copy d (cpi M b3 ((0 : Int32)).toNatClampNeg b2 ((0 : Int32)).toNatClampNeg ((gi M b1 11)).toNatClampNeg) [(0, vr (some (a0, 7, 0))), (1, vr (some (a1, 7, 0)))] 180 [] Q)))))))) : Z E YX43_copy d M [(0, vr (some (a0, 7, 0))), (1, vr (some (a1, 7, 0)))] 160 [] Q := by
  refine z_aload_n dX43_copy_160 rfl rfl ?_
  refine z_getr (r := (gr M a1 9)) dX43_copy_161 fsX43_50_7 rfl ?_
  refine z_iconst (v := 0) dX43_copy_164 rfl ?_
  refine z_aload_n dX43_copy_165 rfl rfl ?_
  refine z_getr (r := (gr M a0 9)) dX43_copy_166 fsX43_50_7 rfl ?_
  refine z_iconst (v := 0) dX43_copy_169 rfl ?_
  refine z_aload_n dX43_copy_170 rfl rfl ?_
  refine z_getr (r := (gr M a0 0)) dX43_copy_171 fsX43_21_7 rfl ?_
  obtain ⟨b1, e1_, k⟩ := k
  refine Z.eqs (lv' := [(0, vr (some (a0, 7, 0))), (1, vr (some (a1, 7, 0)))]) (st' := [vr (some (b1, 0, 0)), vi (0 : Int32), vr (gr M a0 9), vi (0 : Int32), vr (gr M a1 9)]) rfl (by rw [e1_] <;> rfl) ?_
  refine z_geti dX43_copy_174 fsX43_103_0 ?_
  obtain ⟨b2, m2, e2_, k⟩ := k
  refine Z.eqs (lv' := [(0, vr (some (a0, 7, 0))), (1, vr (some (a1, 7, 0)))]) (st' := [vi (gi M b1 11), vi (0 : Int32), vr (some (b2, 104, m2)), vi (0 : Int32), vr (gr M a1 9)]) rfl (by rw [e2_] <;> rfl) ?_
  obtain ⟨b3, m3, e3_, k⟩ := k
  refine Z.eqs (lv' := [(0, vr (some (a0, 7, 0))), (1, vr (some (a1, 7, 0)))]) (st' := [vi (gi M b1 11), vi (0 : Int32), vr (some (b2, 104, m2)), vi (0 : Int32), vr (some (b3, 104, m3))]) rfl (by rw [e3_] <;> rfl) ?_
  obtain ⟨g_, k⟩ := k
  obtain ⟨d_, k⟩ := k
  obtain ⟨b_, k⟩ := k
  obtain ⟨z_, k⟩ := k
  refine z_copyz g_ dX43_copy_177 q3441 d_ (Nat.le_of_ble_eq_true rfl) b_.1.1 b_.1.2.1 b_.1.2.2 b_.2.1 b_.2.2 z_ ?_
  exact k
theorem sX43_copy_180 {E : zE} {d : Nat} {Q : zO → zM → Prop} (M : zM) (a0 : Nat) (a1 : Nat) (k : ∃ b1 m1 : Nat, (gr M a0 10) = some (b1, 105, m1) ∧ (∃ b2 m2 : Nat, (gr M a1 10) = some (b2, 105, m2) ∧ (16 ≤ b1 ∧ ((1 ≤ d) ∧ (((¬ (0 : Int32) < 0 ∧ ¬ (0 : Int32) < 0 ∧ ¬ (gi M a1 13) < 0) ∧ ((0 : Int32)).toNatClampNeg + ((gi M a1 13)).toNatClampNeg ≤ m2 ∧ ((0 : Int32)).toNatClampNeg + ((gi M a1 13)).toNatClampNeg ≤ m1) ∧ (Z E YX43_copy d (cpl M b2 ((0 : Int32)).toNatClampNeg b1 ((0 : Int32)).toNatClampNeg ((gi M a1 13)).toNatClampNeg) [(0, vr (some (a0, 7, 0))), (1, vr (some (a1, 7, 0)))] 197 [] Q)))))) : Z E YX43_copy d M [(0, vr (some (a0, 7, 0))), (1, vr (some (a1, 7, 0)))] 180 [] Q := by
  refine z_aload_n dX43_copy_180 rfl rfl ?_
  refine z_getr (r := (gr M a1 10)) dX43_copy_181 fsX43_9_7 rfl ?_
  refine z_iconst (v := 0) dX43_copy_184 rfl ?_
  refine z_aload_n dX43_copy_185 rfl rfl ?_
  refine z_getr (r := (gr M a0 10)) dX43_copy_186 fsX43_9_7 rfl ?_
  refine z_iconst (v := 0) dX43_copy_189 rfl ?_
  refine z_aload_n dX43_copy_190 rfl rfl ?_
  refine z_geti dX43_copy_191 fsX43_57_7 ?_
  obtain ⟨b1, m1, e1_, k⟩ := k
  refine Z.eqs (lv' := [(0, vr (some (a0, 7, 0))), (1, vr (some (a1, 7, 0)))]) (st' := [vi (gi M a1 13), vi (0 : Int32), vr (some (b1, 105, m1)), vi (0 : Int32), vr (gr M a1 10)]) rfl (by rw [e1_] <;> rfl) ?_
  obtain ⟨b2, m2, e2_, k⟩ := k
  refine Z.eqs (lv' := [(0, vr (some (a0, 7, 0))), (1, vr (some (a1, 7, 0)))]) (st' := [vi (gi M a1 13), vi (0 : Int32), vr (some (b1, 105, m1)), vi (0 : Int32), vr (some (b2, 105, m2))]) rfl (by rw [e2_] <;> rfl) ?_
  obtain ⟨g_, k⟩ := k
  obtain ⟨d_, k⟩ := k
  obtain ⟨b_, k⟩ := k
  refine z_copyl g_ dX43_copy_194 q3441 d_ (Nat.le_of_ble_eq_true rfl) b_.1.1 b_.1.2.1 b_.1.2.2 b_.2.1 b_.2.2 ?_
  exact k
theorem sX43_copy_197 {E : zE} {d : Nat} {Q : zO → zM → Prop} (M : zM) (a0 : Nat) (a1 : Nat) (k : ∃ b1 m1 : Nat, (gr M a0 11) = some (b1, 105, m1) ∧ (∃ b2 m2 : Nat, (gr M a1 11) = some (b2, 105, m2) ∧ (16 ≤ b1 ∧ ((1 ≤ d) ∧ (((¬ (0 : Int32) < 0 ∧ ¬ (0 : Int32) < 0 ∧ ¬ (gi M a1 13) < 0) ∧ ((0 : Int32)).toNatClampNeg + ((gi M a1 13)).toNatClampNeg ≤ m2 ∧ ((0 : Int32)).toNatClampNeg + ((gi M a1 13)).toNatClampNeg ≤ m1) ∧ (Z E YX43_copy d (cpl M b2 ((0 : Int32)).toNatClampNeg b1 ((0 : Int32)).toNatClampNeg ((gi M a1 13)).toNatClampNeg) [(0, vr (some (a0, 7, 0))), (1, vr (some (a1, 7, 0)))] 214 [] Q)))))) : Z E YX43_copy d M [(0, vr (some (a0, 7, 0))), (1, vr (some (a1, 7, 0)))] 197 [] Q := by
  refine z_aload_n dX43_copy_197 rfl rfl ?_
  refine z_getr (r := (gr M a1 11)) dX43_copy_198 fsX43_15_7 rfl ?_
  refine z_iconst (v := 0) dX43_copy_201 rfl ?_
  refine z_aload_n dX43_copy_202 rfl rfl ?_
  refine z_getr (r := (gr M a0 11)) dX43_copy_203 fsX43_15_7 rfl ?_
  refine z_iconst (v := 0) dX43_copy_206 rfl ?_
  refine z_aload_n dX43_copy_207 rfl rfl ?_
  refine z_geti dX43_copy_208 fsX43_57_7 ?_
  obtain ⟨b1, m1, e1_, k⟩ := k
  refine Z.eqs (lv' := [(0, vr (some (a0, 7, 0))), (1, vr (some (a1, 7, 0)))]) (st' := [vi (gi M a1 13), vi (0 : Int32), vr (some (b1, 105, m1)), vi (0 : Int32), vr (gr M a1 11)]) rfl (by rw [e1_] <;> rfl) ?_
  obtain ⟨b2, m2, e2_, k⟩ := k
  refine Z.eqs (lv' := [(0, vr (some (a0, 7, 0))), (1, vr (some (a1, 7, 0)))]) (st' := [vi (gi M a1 13), vi (0 : Int32), vr (some (b1, 105, m1)), vi (0 : Int32), vr (some (b2, 105, m2))]) rfl (by rw [e2_] <;> rfl) ?_
  obtain ⟨g_, k⟩ := k
  obtain ⟨d_, k⟩ := k
  obtain ⟨b_, k⟩ := k
  refine z_copyl g_ dX43_copy_211 q3441 d_ (Nat.le_of_ble_eq_true rfl) b_.1.1 b_.1.2.1 b_.1.2.2 b_.2.1 b_.2.2 ?_
  exact k
theorem sX43_copy_214 {E : zE} {d : Nat} {Q : zO → zM → Prop} (M : zM) (a0 : Nat) (a1 : Nat) (k : ∃ b1 m1 : Nat, (gr M a0 12) = some (b1, 105, m1) ∧ (∃ b2 m2 : Nat, (gr M a1 12) = some (b2, 105, m2) ∧ (16 ≤ b1 ∧ ((1 ≤ d) ∧ (((¬ (0 : Int32) < 0 ∧ ¬ (0 : Int32) < 0 ∧ ¬ (gi M a1 13) < 0) ∧ ((0 : Int32)).toNatClampNeg + ((gi M a1 13)).toNatClampNeg ≤ m2 ∧ ((0 : Int32)).toNatClampNeg + ((gi M a1 13)).toNatClampNeg ≤ m1) ∧ (Z E YX43_copy d (cpl M b2 ((0 : Int32)).toNatClampNeg b1 ((0 : Int32)).toNatClampNeg ((gi M a1 13)).toNatClampNeg) [(0, vr (some (a0, 7, 0))), (1, vr (some (a1, 7, 0)))] 231 [] Q)))))) : Z E YX43_copy d M [(0, vr (some (a0, 7, 0))), (1, vr (some (a1, 7, 0)))] 214 [] Q := by
  refine z_aload_n dX43_copy_214 rfl rfl ?_
  refine z_getr (r := (gr M a1 12)) dX43_copy_215 fsX43_18_7 rfl ?_
  refine z_iconst (v := 0) dX43_copy_218 rfl ?_
  refine z_aload_n dX43_copy_219 rfl rfl ?_
  refine z_getr (r := (gr M a0 12)) dX43_copy_220 fsX43_18_7 rfl ?_
  refine z_iconst (v := 0) dX43_copy_223 rfl ?_
  refine z_aload_n dX43_copy_224 rfl rfl ?_
  refine z_geti dX43_copy_225 fsX43_57_7 ?_
  obtain ⟨b1, m1, e1_, k⟩ := k
  refine Z.eqs (lv' := [(0, vr (some (a0, 7, 0))), (1, vr (some (a1, 7, 0)))]) (st' := [vi (gi M a1 13), vi (0 : Int32), vr (some (b1, 105, m1)), vi (0 : Int32), vr (gr M a1 12)]) rfl (by rw [e1_] <;> rfl) ?_
  obtain ⟨b2, m2, e2_, k⟩ := k
  refine Z.eqs (lv' := [(0, vr (some (a0, 7, 0))), (1, vr (some (a1, 7, 0)))]) (st' := [vi (gi M a1 13), vi (0 : Int32), vr (some (b1, 105, m1)), vi (0 : Int32), vr (some (b2, 105, m2))]) rfl (by rw [e2_] <;> rfl) ?_
  obtain ⟨g_, k⟩ := k
  obtain ⟨d_, k⟩ := k
  obtain ⟨b_, k⟩ := k
  refine z_copyl g_ dX43_copy_228 q3441 d_ (Nat.le_of_ble_eq_true rfl) b_.1.1 b_.1.2.1 b_.1.2.2 b_.2.1 b_.2.2 ?_
  exact k
theorem sX43_copy_231 {E : zE} {d : Nat} {Q : zO → zM → Prop} (M : zM) (a0 : Nat) (a1 : Nat) (k : 16 ≤ a0 ∧ (16 ≤ a0 ∧ (16 ≤ a0 ∧ (16 ≤ a0 ∧ (16 ≤ a0 ∧ (16 ≤ a0 ∧ (Q (.inl none) (sl (sl (sl (sl (sl (si M a0 13 (gi M a1 13)) a0 14 (gl M a1 14)) a0 15 (gl (sl (si M a0 13 (gi M a1 13)) a0 14 (gl M a1 14)) a1 15)) a0 16 (gl (sl (sl (si M a0 13 (gi M a1 13)) a0 14 (gl M a1 14)) a0 15 (gl (sl (si M a0 13 (gi M a1 13)) a0 14 (gl M a1 14)) a1 15)) a1 16)) a0 17 (gl (sl (sl (sl (si M a0 13 (gi M a1 13)) a0 14 (gl M a1 14)) a0 15 (gl (sl (si M a0 13 (gi M a1 13)) a0 14 (gl M a1 14)) a1 15)) a0 16 (gl (sl (sl (si M a0 13 (gi M a1 13)) a0 14 (gl M a1 14)) a0 15 (gl (sl (si M a0 13 (gi M a1 13)) a0 14 (gl M a1 14)) a1 15)) a1 16)) a1 17)) a0 18 (gl (sl (sl (sl (sl (si M a0 13 (gi M a1 13)) a0 14 (gl M a1 14)) a0 15 (gl (sl (si M a0 13 (gi M a1 13)) a0 14 (gl M a1 14)) a1 15)) a0 16 (gl (sl (sl (si M a0 13 (gi M a1 13)) a0 14 (gl M a1 14)) a0 15 (gl (sl (si M a0 13 (gi M a1 13)) a0 14 (gl M a1 14)) a1 15)) a1 16)) a0 17 (gl (sl (sl (sl (si M a0 13 (gi M a1 13)) a0 14 (gl M a1 14)) a0 15 (gl (sl (si M a0 13 (gi M a1 13)) a0 14 (gl M a1 14)) a1 15)) a0 16 (gl (sl (sl (si M a0 13 (gi M a1 13)) a0 14 (gl M a1 14)) a0 15 (gl (sl (si M a0 13 (gi M a1 13)) a0 14 (gl M a1 14)) a1 15)) a1 16)) a1 17)) a1 18))))))))) : Z E YX43_copy d M [(0, vr (some (a0, 7, 0))), (1, vr (some (a1, 7, 0)))] 231 [] Q := by
  refine z_aload_n dX43_copy_231 rfl rfl ?_
  refine z_aload_n dX43_copy_232 rfl rfl ?_
  refine z_geti dX43_copy_233 fsX43_57_7 ?_
  obtain ⟨g_, k⟩ := k
  refine z_puti g_ dX43_copy_236 (zfwN.w fwX43_57_7) rfl ⟨rfl, rfl⟩ ?_
  refine z_aload_n dX43_copy_239 rfl rfl ?_
  refine z_aload_n dX43_copy_240 rfl rfl ?_
  refine z_getl dX43_copy_241 fsX43_110_7 ?_
  obtain ⟨g_, k⟩ := k
  refine z_putl g_ dX43_copy_244 (zfwN.w fwX43_110_7) ?_
  refine z_aload_n dX43_copy_247 rfl rfl ?_
  refine z_aload_n dX43_copy_248 rfl rfl ?_
  refine z_getl dX43_copy_249 fsX43_116_7 ?_
  obtain ⟨g_, k⟩ := k
  refine z_putl g_ dX43_copy_252 (zfwN.w fwX43_116_7) ?_
  refine z_aload_n dX43_copy_255 rfl rfl ?_
  refine z_aload_n dX43_copy_256 rfl rfl ?_
  refine z_getl dX43_copy_257 fsX43_132_7 ?_
  obtain ⟨g_, k⟩ := k
  refine z_putl g_ dX43_copy_260 (zfwN.w fwX43_132_7) ?_
  refine z_aload_n dX43_copy_263 rfl rfl ?_
  refine z_aload_n dX43_copy_264 rfl rfl ?_
  refine z_getl dX43_copy_265 fsX43_113_7 ?_
  obtain ⟨g_, k⟩ := k
  refine z_putl g_ dX43_copy_268 (zfwN.w fwX43_113_7) ?_
  refine z_aload_n dX43_copy_271 rfl rfl ?_
  refine z_aload_n dX43_copy_272 rfl rfl ?_
  refine z_getl dX43_copy_273 fsX43_119_7 ?_
  obtain ⟨g_, k⟩ := k
  refine z_putl g_ dX43_copy_276 (zfwN.w fwX43_119_7) ?_
  exact z_vret dX43_copy_279 rfl k
/-! ScriptTypes.printed(II)I -/
theorem bX1_printed_0 : zdec cX1_printed 0 [(0, .aload_n 0, 1), (1, .getfield 277, 3), (4, .ifCond .eq 15, 3), (7, .iload_n 1, 1), (8, .ifCond .lt 11, 3), (11, .iload_n 1, 1), (12, .aload_n 0, 1), (13, .getfield 325, 3), (16, .if_icmp .lt 5, 3), (19, .iconst (-1), 1), (20, .ireturn, 1), (21, .iload_n 2, 1), (22, .iconst (-1), 1), (23, .if_icmp .ne 12, 3), (26, .aload_n 0, 1), (27, .getfield 190, 3)] = true := by decide +kernel
theorem dX1_printed_0 : decode cX1_printed 0 = .ok (.aload_n 0, 1) := zdec_at bX1_printed_0 0 rfl
theorem dX1_printed_1 : decode cX1_printed 1 = .ok (.getfield 277, 3) := zdec_at bX1_printed_0 1 rfl
theorem dX1_printed_4 : decode cX1_printed 4 = .ok (.ifCond .eq 15, 3) := zdec_at bX1_printed_0 2 rfl
theorem dX1_printed_7 : decode cX1_printed 7 = .ok (.iload_n 1, 1) := zdec_at bX1_printed_0 3 rfl
theorem dX1_printed_8 : decode cX1_printed 8 = .ok (.ifCond .lt 11, 3) := zdec_at bX1_printed_0 4 rfl
theorem dX1_printed_11 : decode cX1_printed 11 = .ok (.iload_n 1, 1) := zdec_at bX1_printed_0 5 rfl
theorem dX1_printed_12 : decode cX1_printed 12 = .ok (.aload_n 0, 1) := zdec_at bX1_printed_0 6 rfl
theorem dX1_printed_13 : decode cX1_printed 13 = .ok (.getfield 325, 3) := zdec_at bX1_printed_0 7 rfl
theorem dX1_printed_16 : decode cX1_printed 16 = .ok (.if_icmp .lt 5, 3) := zdec_at bX1_printed_0 8 rfl
theorem dX1_printed_19 : decode cX1_printed 19 = .ok (.iconst (-1), 1) := zdec_at bX1_printed_0 9 rfl
theorem dX1_printed_20 : decode cX1_printed 20 = .ok (.ireturn, 1) := zdec_at bX1_printed_0 10 rfl
theorem dX1_printed_21 : decode cX1_printed 21 = .ok (.iload_n 2, 1) := zdec_at bX1_printed_0 11 rfl
theorem dX1_printed_22 : decode cX1_printed 22 = .ok (.iconst (-1), 1) := zdec_at bX1_printed_0 12 rfl
theorem dX1_printed_23 : decode cX1_printed 23 = .ok (.if_icmp .ne 12, 3) := zdec_at bX1_printed_0 13 rfl
theorem dX1_printed_26 : decode cX1_printed 26 = .ok (.aload_n 0, 1) := zdec_at bX1_printed_0 14 rfl
theorem dX1_printed_27 : decode cX1_printed 27 = .ok (.getfield 190, 3) := zdec_at bX1_printed_0 15 rfl
theorem bX1_printed_30 : zdec cX1_printed 30 [(30, .iload_n 1, 1), (31, .saload, 1), (32, .goto 14, 3), (35, .aload_n 0, 1), (36, .aload_n 0, 1), (37, .getfield 190, 3), (40, .iload_n 1, 1), (41, .saload, 1), (42, .iload_n 2, 1), (43, .invokevirtual 604, 3), (46, .ireturn, 1)] = true := by decide +kernel
theorem dX1_printed_30 : decode cX1_printed 30 = .ok (.iload_n 1, 1) := zdec_at bX1_printed_30 0 rfl
theorem dX1_printed_31 : decode cX1_printed 31 = .ok (.saload, 1) := zdec_at bX1_printed_30 1 rfl
theorem dX1_printed_32 : decode cX1_printed 32 = .ok (.goto 14, 3) := zdec_at bX1_printed_30 2 rfl
theorem dX1_printed_35 : decode cX1_printed 35 = .ok (.aload_n 0, 1) := zdec_at bX1_printed_30 3 rfl
theorem dX1_printed_36 : decode cX1_printed 36 = .ok (.aload_n 0, 1) := zdec_at bX1_printed_30 4 rfl
theorem dX1_printed_37 : decode cX1_printed 37 = .ok (.getfield 190, 3) := zdec_at bX1_printed_30 5 rfl
theorem dX1_printed_40 : decode cX1_printed 40 = .ok (.iload_n 1, 1) := zdec_at bX1_printed_30 6 rfl
theorem dX1_printed_41 : decode cX1_printed 41 = .ok (.saload, 1) := zdec_at bX1_printed_30 7 rfl
theorem dX1_printed_42 : decode cX1_printed 42 = .ok (.iload_n 2, 1) := zdec_at bX1_printed_30 8 rfl
theorem dX1_printed_43 : decode cX1_printed 43 = .ok (.invokevirtual 604, 3) := zdec_at bX1_printed_30 9 rfl
theorem dX1_printed_46 : decode cX1_printed 46 = .ok (.ireturn, 1) := zdec_at bX1_printed_30 10 rfl
theorem sX1_printed_0 {E : zE} {d : Nat} {Q : zO → zM → Prop} (M : zM) (l1 : Int32) (l2 : Int32) (hw : cw M) (k : if (gi M 16 51) = 0 then (Q (.inl (some (vi (-1 : Int32)))) M) else (if l1 < 0 then (Q (.inl (some (vi (-1 : Int32)))) M) else (if l1 < (gi M 16 53) then (if l2 = (-1 : Int32) then (vp_in l1 100 ∧ (Z E YX1_printed (d + 1) M [] 46 [vi (gi M 67 (l1).toNatClampNeg)] Q)) else (vp_in l1 100 ∧ (Z E YX1_letter d M (zargs 0 [vr (some (16, 0, 0)), vi (gi M 67 (l1).toNatClampNeg), vi l2]) 0 [] (zafter E YX1_printed (d + 1) [] 43 3 [] Q)))) else (Q (.inl (some (vi (-1 : Int32)))) M)))) : Z E YX1_printed (d + 1) M [(0, vr (some (16, 0, 0))), (1, vi l1), (2, vi l2)] 0 [] Q := by
  refine z_aload_n dX1_printed_0 rfl rfl ?_
  refine z_geti dX1_printed_1 fsX1_277_0 ?_
  refine z_if_eq (tgt := 19) dX1_printed_4 rfl (fun h_ => ?_) (fun h_ => ?_)
  · have k := zit h_ k
    refine z_iconst (v := -1) dX1_printed_19 rfl ?_
    exact z_iret dX1_printed_20 rfl rfl k
  · have k := zif h_ k
    refine z_iload_n dX1_printed_7 rfl rfl ?_
    refine z_if_lt (tgt := 19) dX1_printed_8 rfl (fun h_ => ?_) (fun h_ => ?_)
    · have k := zit h_ k
      refine z_iconst (v := -1) dX1_printed_19 rfl ?_
      exact z_iret dX1_printed_20 rfl rfl k
    · have k := zif h_ k
      refine z_iload_n dX1_printed_11 rfl rfl ?_
      refine z_aload_n dX1_printed_12 rfl rfl ?_
      refine z_geti dX1_printed_13 fsX1_325_0 ?_
      refine z_icmp_lt (tgt := 21) dX1_printed_16 rfl (fun h_ => ?_) (fun h_ => ?_)
      · have k := zit h_ k
        refine z_iload_n dX1_printed_21 rfl rfl ?_
        refine z_iconst (v := -1) dX1_printed_22 rfl ?_
        refine z_icmp_ne (tgt := 35) dX1_printed_23 rfl (fun h_ => ?_) (fun h_ => ?_)
        · have k := zif h_ k
          refine z_aload_n dX1_printed_35 rfl rfl ?_
          refine z_aload_n dX1_printed_36 rfl rfl ?_
          refine z_getr dX1_printed_37 fsX1_190_0 (show gr M 16 56 = some (67, 102, 100) from cw_at hw 35 rfl) ?_
          refine z_iload_n dX1_printed_40 rfl rfl ?_
          obtain ⟨b_, k⟩ := k
          refine z_sald dX1_printed_41 b_ ?_
          refine z_iload_n dX1_printed_42 rfl rfl ?_
          refine Z.pick [] rfl ?_
          exact z_callV (as := [vi (gi M 67 (l1).toNatClampNeg), vi l2]) (st := []) dX1_printed_43 vsX1_604_0 (Nat.le_refl _) (Nat.le_of_ble_eq_true rfl) (Nat.le_of_ble_eq_true rfl) rfl k
        · have k := zit h_ k
          refine z_aload_n dX1_printed_26 rfl rfl ?_
          refine z_getr dX1_printed_27 fsX1_190_0 (show gr M 16 56 = some (67, 102, 100) from cw_at hw 35 rfl) ?_
          refine z_iload_n dX1_printed_30 rfl rfl ?_
          obtain ⟨b_, k⟩ := k
          refine z_sald dX1_printed_31 b_ ?_
          refine z_goto (tgt := 46) dX1_printed_32 rfl ?_
          refine Z.pick [] rfl ?_
          exact k
      · have k := zif h_ k
        refine z_iconst (v := -1) dX1_printed_19 rfl ?_
        exact z_iret dX1_printed_20 rfl rfl k
theorem sX1_printed_46 {E : zE} {d : Nat} {Q : zO → zM → Prop} (M : zM) (s0 : Int32) (hw : cw M) (k : Q (.inl (some (vi s0))) M) : Z E YX1_printed (d + 1) M [] 46 [vi s0] Q := by
  exact z_iret dX1_printed_46 rfl rfl k
/-! ScriptTypes.uncaught(I)I -/
theorem bX1_uncaught_0 : zdec cX1_uncaught 0 [(0, .aload_n 0, 1), (1, .getfield 277, 3), (4, .iconst 3, 1), (5, .if_icmp .ne 19, 3), (8, .aload_n 0, 1), (9, .aload_n 0, 1), (10, .getfield 470, 3), (13, .aload_n 0, 1), (14, .getfield 473, 3), (17, .iload_n 1, 1), (18, .invokevirtual 591, 3), (21, .goto 4, 3), (24, .iconst (-1), 1), (25, .ireturn, 1)] = true := by decide +kernel
theorem dX1_uncaught_0 : decode cX1_uncaught 0 = .ok (.aload_n 0, 1) := zdec_at bX1_uncaught_0 0 rfl
theorem dX1_uncaught_1 : decode cX1_uncaught 1 = .ok (.getfield 277, 3) := zdec_at bX1_uncaught_0 1 rfl
theorem dX1_uncaught_4 : decode cX1_uncaught 4 = .ok (.iconst 3, 1) := zdec_at bX1_uncaught_0 2 rfl
theorem dX1_uncaught_5 : decode cX1_uncaught 5 = .ok (.if_icmp .ne 19, 3) := zdec_at bX1_uncaught_0 3 rfl
theorem dX1_uncaught_8 : decode cX1_uncaught 8 = .ok (.aload_n 0, 1) := zdec_at bX1_uncaught_0 4 rfl
theorem dX1_uncaught_9 : decode cX1_uncaught 9 = .ok (.aload_n 0, 1) := zdec_at bX1_uncaught_0 5 rfl
theorem dX1_uncaught_10 : decode cX1_uncaught 10 = .ok (.getfield 470, 3) := zdec_at bX1_uncaught_0 6 rfl
theorem dX1_uncaught_13 : decode cX1_uncaught 13 = .ok (.aload_n 0, 1) := zdec_at bX1_uncaught_0 7 rfl
theorem dX1_uncaught_14 : decode cX1_uncaught 14 = .ok (.getfield 473, 3) := zdec_at bX1_uncaught_0 8 rfl
theorem dX1_uncaught_17 : decode cX1_uncaught 17 = .ok (.iload_n 1, 1) := zdec_at bX1_uncaught_0 9 rfl
theorem dX1_uncaught_18 : decode cX1_uncaught 18 = .ok (.invokevirtual 591, 3) := zdec_at bX1_uncaught_0 10 rfl
theorem dX1_uncaught_21 : decode cX1_uncaught 21 = .ok (.goto 4, 3) := zdec_at bX1_uncaught_0 11 rfl
theorem dX1_uncaught_24 : decode cX1_uncaught 24 = .ok (.iconst (-1), 1) := zdec_at bX1_uncaught_0 12 rfl
theorem dX1_uncaught_25 : decode cX1_uncaught 25 = .ok (.ireturn, 1) := zdec_at bX1_uncaught_0 13 rfl
theorem sX1_uncaught_0 {E : zE} {d : Nat} {Q : zO → zM → Prop} (M : zM) (l1 : Int32) (hw : cw M) (k : if (gi M 16 51) = (3 : Int32) then (Z E YX1_told d M (zargs 0 [vr (some (16, 0, 0)), vi (gi M 16 54), vi (gi M 16 55), vi l1]) 0 [] (zafter E YX1_uncaught (d + 1) [] 18 3 [] Q)) else (Q (.inl (some (vi (-1 : Int32)))) M)) : Z E YX1_uncaught (d + 1) M [(0, vr (some (16, 0, 0))), (1, vi l1)] 0 [] Q := by
  refine z_aload_n dX1_uncaught_0 rfl rfl ?_
  refine z_geti dX1_uncaught_1 fsX1_277_0 ?_
  refine z_iconst (v := 3) dX1_uncaught_4 rfl ?_
  refine z_icmp_ne (tgt := 24) dX1_uncaught_5 rfl (fun h_ => ?_) (fun h_ => ?_)
  · have k := zif h_ k
    refine z_iconst (v := -1) dX1_uncaught_24 rfl ?_
    exact z_iret dX1_uncaught_25 rfl rfl k
  · have k := zit h_ k
    refine z_aload_n dX1_uncaught_8 rfl rfl ?_
    refine z_aload_n dX1_uncaught_9 rfl rfl ?_
    refine z_geti dX1_uncaught_10 fsX1_470_0 ?_
    refine z_aload_n dX1_uncaught_13 rfl rfl ?_
    refine z_geti dX1_uncaught_14 fsX1_473_0 ?_
    refine z_iload_n dX1_uncaught_17 rfl rfl ?_
    refine Z.pick [] rfl ?_
    exact z_callV (as := [vi (gi M 16 54), vi (gi M 16 55), vi l1]) (st := []) dX1_uncaught_18 vsX1_591_0 (Nat.le_refl _) (Nat.le_of_ble_eq_true rfl) (Nat.le_of_ble_eq_true rfl) rfl k
theorem sX1_uncaught_21 {E : zE} {d : Nat} {Q : zO → zM → Prop} (M : zM) (s0 : Int32) (hw : cw M) (k : Q (.inl (some (vi s0))) M) : Z E YX1_uncaught (d + 1) M [] 21 [vi s0] Q := by
  refine z_goto (tgt := 25) dX1_uncaught_21 rfl ?_
  exact z_iret dX1_uncaught_25 rfl rfl k
/-! ScriptTypes.height(I)I -/
theorem bX1_height_0 : zdec cX1_height 0 [(0, .aload_n 0, 1), (1, .iload_n 1, 1), (2, .invokevirtual 1113, 3), (5, .ifCond .eq 15, 3), (8, .aload_n 0, 1), (9, .getfield 674, 3), (12, .getfield 719, 3), (15, .iload_n 1, 1), (16, .iaload, 1), (17, .goto 4, 3), (20, .iconst (-1), 1), (21, .ireturn, 1)] = true := by decide +kernel
theorem dX1_height_0 : decode cX1_height 0 = .ok (.aload_n 0, 1) := zdec_at bX1_height_0 0 rfl
theorem dX1_height_1 : decode cX1_height 1 = .ok (.iload_n 1, 1) := zdec_at bX1_height_0 1 rfl
theorem dX1_height_2 : decode cX1_height 2 = .ok (.invokevirtual 1113, 3) := zdec_at bX1_height_0 2 rfl
theorem dX1_height_5 : decode cX1_height 5 = .ok (.ifCond .eq 15, 3) := zdec_at bX1_height_0 3 rfl
theorem dX1_height_8 : decode cX1_height 8 = .ok (.aload_n 0, 1) := zdec_at bX1_height_0 4 rfl
theorem dX1_height_9 : decode cX1_height 9 = .ok (.getfield 674, 3) := zdec_at bX1_height_0 5 rfl
theorem dX1_height_12 : decode cX1_height 12 = .ok (.getfield 719, 3) := zdec_at bX1_height_0 6 rfl
theorem dX1_height_15 : decode cX1_height 15 = .ok (.iload_n 1, 1) := zdec_at bX1_height_0 7 rfl
theorem dX1_height_16 : decode cX1_height 16 = .ok (.iaload, 1) := zdec_at bX1_height_0 8 rfl
theorem dX1_height_17 : decode cX1_height 17 = .ok (.goto 4, 3) := zdec_at bX1_height_0 9 rfl
theorem dX1_height_20 : decode cX1_height 20 = .ok (.iconst (-1), 1) := zdec_at bX1_height_0 10 rfl
theorem dX1_height_21 : decode cX1_height 21 = .ok (.ireturn, 1) := zdec_at bX1_height_0 11 rfl
theorem sX1_height_0 {E : zE} {d : Nat} {Q : zO → zM → Prop} (M : zM) (l1 : Int32) (hw : cw M) (k : Z E YX1_isReached d M (zargs 0 [vr (some (16, 0, 0)), vi l1]) 0 [] (zafter E YX1_height (d + 1) [(0, vr (some (16, 0, 0))), (1, vi l1)] 2 3 [] Q)) : Z E YX1_height (d + 1) M [(0, vr (some (16, 0, 0))), (1, vi l1)] 0 [] Q := by
  refine z_aload_n dX1_height_0 rfl rfl ?_
  refine z_iload_n dX1_height_1 rfl rfl ?_
  exact z_callV (as := [vi l1]) (st := []) dX1_height_2 vsX1_1113_0 (Nat.le_refl _) (Nat.le_of_ble_eq_true rfl) (Nat.le_of_ble_eq_true rfl) rfl k
theorem sX1_height_5 {E : zE} {d : Nat} {Q : zO → zM → Prop} (M : zM) (l1 : Int32) (s0 : Int32) (hw : cw M) (k : if s0 = 0 then (Q (.inl (some (vi (-1 : Int32)))) M) else (∃ b1 : Nat, (gr M 16 59) = some (b1, 6, 0) ∧ (∃ b2 m2 : Nat, (gr M b1 9) = some (b2, 100, m2) ∧ (vp_in l1 m2 ∧ (Q (.inl (some (vi (gi M b2 (l1).toNatClampNeg)))) M))))) : Z E YX1_height (d + 1) M [(0, vr (some (16, 0, 0))), (1, vi l1)] 5 [vi s0] Q := by
  refine z_if_eq (tgt := 20) dX1_height_5 rfl (fun h_ => ?_) (fun h_ => ?_)
  · have k := zit h_ k
    refine z_iconst (v := -1) dX1_height_20 rfl ?_
    exact z_iret dX1_height_21 rfl rfl k
  · have k := zif h_ k
    refine z_aload_n dX1_height_8 rfl rfl ?_
    refine z_getr (r := (gr M 16 59)) dX1_height_9 fsX1_674_0 rfl ?_
    obtain ⟨b1, e1_, k⟩ := k
    refine Z.eqs (lv' := [(0, vr (some (16, 0, 0))), (1, vi l1)]) (st' := [vr (some (b1, 6, 0))]) rfl (by rw [e1_] <;> rfl) ?_
    refine z_getr (r := (gr M b1 9)) dX1_height_12 fsX1_719_6 rfl ?_
    refine z_iload_n dX1_height_15 rfl rfl ?_
    obtain ⟨b2, m2, e2_, k⟩ := k
    refine Z.eqs (lv' := [(0, vr (some (16, 0, 0))), (1, vi l1)]) (st' := [vi l1, vr (some (b2, 100, m2))]) rfl (by rw [e2_] <;> rfl) ?_
    obtain ⟨b_, k⟩ := k
    refine z_iald dX1_height_16 b_ ?_
    refine z_goto (tgt := 21) dX1_height_17 rfl ?_
    exact z_iret dX1_height_21 rfl rfl k
/-! ScriptTypes.isReached(I)Z -/
theorem bX1_isReached_0 : zdec cX1_isReached 0 [(0, .aload_n 0, 1), (1, .getfield 274, 3), (4, .ifCond .eq 32, 3), (7, .iload_n 1, 1), (8, .ifCond .lt 28, 3), (11, .iload_n 1, 1), (12, .aload_n 0, 1), (13, .getfield 694, 3), (16, .if_icmp .ge 20, 3), (19, .aload_n 0, 1), (20, .getfield 674, 3), (23, .getfield 719, 3), (26, .iload_n 1, 1), (27, .iaload, 1), (28, .iconst (-1), 1), (29, .if_icmp .eq 7, 3)] = true := by decide +kernel
theorem dX1_isReached_0 : decode cX1_isReached 0 = .ok (.aload_n 0, 1) := zdec_at bX1_isReached_0 0 rfl
theorem dX1_isReached_1 : decode cX1_isReached 1 = .ok (.getfield 274, 3) := zdec_at bX1_isReached_0 1 rfl
theorem dX1_isReached_4 : decode cX1_isReached 4 = .ok (.ifCond .eq 32, 3) := zdec_at bX1_isReached_0 2 rfl
theorem dX1_isReached_7 : decode cX1_isReached 7 = .ok (.iload_n 1, 1) := zdec_at bX1_isReached_0 3 rfl
theorem dX1_isReached_8 : decode cX1_isReached 8 = .ok (.ifCond .lt 28, 3) := zdec_at bX1_isReached_0 4 rfl
theorem dX1_isReached_11 : decode cX1_isReached 11 = .ok (.iload_n 1, 1) := zdec_at bX1_isReached_0 5 rfl
theorem dX1_isReached_12 : decode cX1_isReached 12 = .ok (.aload_n 0, 1) := zdec_at bX1_isReached_0 6 rfl
theorem dX1_isReached_13 : decode cX1_isReached 13 = .ok (.getfield 694, 3) := zdec_at bX1_isReached_0 7 rfl
theorem dX1_isReached_16 : decode cX1_isReached 16 = .ok (.if_icmp .ge 20, 3) := zdec_at bX1_isReached_0 8 rfl
theorem dX1_isReached_19 : decode cX1_isReached 19 = .ok (.aload_n 0, 1) := zdec_at bX1_isReached_0 9 rfl
theorem dX1_isReached_20 : decode cX1_isReached 20 = .ok (.getfield 674, 3) := zdec_at bX1_isReached_0 10 rfl
theorem dX1_isReached_23 : decode cX1_isReached 23 = .ok (.getfield 719, 3) := zdec_at bX1_isReached_0 11 rfl
theorem dX1_isReached_26 : decode cX1_isReached 26 = .ok (.iload_n 1, 1) := zdec_at bX1_isReached_0 12 rfl
theorem dX1_isReached_27 : decode cX1_isReached 27 = .ok (.iaload, 1) := zdec_at bX1_isReached_0 13 rfl
theorem dX1_isReached_28 : decode cX1_isReached 28 = .ok (.iconst (-1), 1) := zdec_at bX1_isReached_0 14 rfl
theorem dX1_isReached_29 : decode cX1_isReached 29 = .ok (.if_icmp .eq 7, 3) := zdec_at bX1_isReached_0 15 rfl
theorem bX1_isReached_32 : zdec cX1_isReached 32 [(32, .iconst 1, 1), (33, .goto 4, 3), (36, .iconst 0, 1), (37, .ireturn, 1)] = true := by decide +kernel
theorem dX1_isReached_32 : decode cX1_isReached 32 = .ok (.iconst 1, 1) := zdec_at bX1_isReached_32 0 rfl
theorem dX1_isReached_33 : decode cX1_isReached 33 = .ok (.goto 4, 3) := zdec_at bX1_isReached_32 1 rfl
theorem dX1_isReached_36 : decode cX1_isReached 36 = .ok (.iconst 0, 1) := zdec_at bX1_isReached_32 2 rfl
theorem dX1_isReached_37 : decode cX1_isReached 37 = .ok (.ireturn, 1) := zdec_at bX1_isReached_32 3 rfl
theorem sX1_isReached_0 {E : zE} {d : Nat} {Q : zO → zM → Prop} (M : zM) (l1 : Int32) (hw : cw M) (k : if (gi M 16 62) = 0 then (Q (.inl (some (vi (0 : Int32)))) M) else (if l1 < 0 then (Q (.inl (some (vi (0 : Int32)))) M) else (if (gi M 16 75) ≤ l1 then (Q (.inl (some (vi (0 : Int32)))) M) else (∃ b1 : Nat, (gr M 16 59) = some (b1, 6, 0) ∧ (∃ b2 m2 : Nat, (gr M b1 9) = some (b2, 100, m2) ∧ (vp_in l1 m2 ∧ (if (gi M b2 (l1).toNatClampNeg) = (-1 : Int32) then (Q (.inl (some (vi (0 : Int32)))) M) else (Q (.inl (some (vi (1 : Int32)))) M)))))))) : Z E YX1_isReached d M [(0, vr (some (16, 0, 0))), (1, vi l1)] 0 [] Q := by
  refine z_aload_n dX1_isReached_0 rfl rfl ?_
  refine z_geti dX1_isReached_1 fsX1_274_0 ?_
  refine z_if_eq (tgt := 36) dX1_isReached_4 rfl (fun h_ => ?_) (fun h_ => ?_)
  · have k := zit h_ k
    refine z_iconst (v := 0) dX1_isReached_36 rfl ?_
    exact z_iret dX1_isReached_37 rfl (by decide) k
  · have k := zif h_ k
    refine z_iload_n dX1_isReached_7 rfl rfl ?_
    refine z_if_lt (tgt := 36) dX1_isReached_8 rfl (fun h_ => ?_) (fun h_ => ?_)
    · have k := zit h_ k
      refine z_iconst (v := 0) dX1_isReached_36 rfl ?_
      exact z_iret dX1_isReached_37 rfl (by decide) k
    · have k := zif h_ k
      refine z_iload_n dX1_isReached_11 rfl rfl ?_
      refine z_aload_n dX1_isReached_12 rfl rfl ?_
      refine z_geti dX1_isReached_13 fsX1_694_0 ?_
      refine z_icmp_ge (tgt := 36) dX1_isReached_16 rfl (fun h_ => ?_) (fun h_ => ?_)
      · have k := zit h_ k
        refine z_iconst (v := 0) dX1_isReached_36 rfl ?_
        exact z_iret dX1_isReached_37 rfl (by decide) k
      · have k := zif h_ k
        refine z_aload_n dX1_isReached_19 rfl rfl ?_
        refine z_getr (r := (gr M 16 59)) dX1_isReached_20 fsX1_674_0 rfl ?_
        obtain ⟨b1, e1_, k⟩ := k
        refine Z.eqs (lv' := [(0, vr (some (16, 0, 0))), (1, vi l1)]) (st' := [vr (some (b1, 6, 0))]) rfl (by rw [e1_] <;> rfl) ?_
        refine z_getr (r := (gr M b1 9)) dX1_isReached_23 fsX1_719_6 rfl ?_
        refine z_iload_n dX1_isReached_26 rfl rfl ?_
        obtain ⟨b2, m2, e2_, k⟩ := k
        refine Z.eqs (lv' := [(0, vr (some (16, 0, 0))), (1, vi l1)]) (st' := [vi l1, vr (some (b2, 100, m2))]) rfl (by rw [e2_] <;> rfl) ?_
        obtain ⟨b_, k⟩ := k
        refine z_iald dX1_isReached_27 b_ ?_
        refine z_iconst (v := -1) dX1_isReached_28 rfl ?_
        refine z_icmp_eq (tgt := 36) dX1_isReached_29 rfl (fun h_ => ?_) (fun h_ => ?_)
        · have k := zit h_ k
          refine z_iconst (v := 0) dX1_isReached_36 rfl ?_
          exact z_iret dX1_isReached_37 rfl (by decide) k
        · have k := zif h_ k
          refine z_iconst (v := 1) dX1_isReached_32 rfl ?_
          refine z_goto (tgt := 37) dX1_isReached_33 rfl ?_
          exact z_iret dX1_isReached_37 rfl (by decide) k
/-! ScriptTypes.slot(III)J -/
theorem bX1_slot_0 : zdec cX1_slot 0 [(0, .aload_n 0, 1), (1, .iload_n 1, 1), (2, .invokevirtual 1113, 3), (5, .ifCond .eq 21, 3), (8, .iload_n 2, 1), (9, .iconst (-1), 1), (10, .if_icmp .lt 16, 3), (13, .iload_n 2, 1), (14, .aload_n 0, 1), (15, .getfield 674, 3), (18, .getfield 719, 3), (21, .iload_n 1, 1), (22, .iaload, 1), (23, .if_icmp .lt 5, 3), (26, .lconst 0, 1), (27, .lreturn, 1)] = true := by decide +kernel
theorem dX1_slot_0 : decode cX1_slot 0 = .ok (.aload_n 0, 1) := zdec_at bX1_slot_0 0 rfl
theorem dX1_slot_1 : decode cX1_slot 1 = .ok (.iload_n 1, 1) := zdec_at bX1_slot_0 1 rfl
theorem dX1_slot_2 : decode cX1_slot 2 = .ok (.invokevirtual 1113, 3) := zdec_at bX1_slot_0 2 rfl
theorem dX1_slot_5 : decode cX1_slot 5 = .ok (.ifCond .eq 21, 3) := zdec_at bX1_slot_0 3 rfl
theorem dX1_slot_8 : decode cX1_slot 8 = .ok (.iload_n 2, 1) := zdec_at bX1_slot_0 4 rfl
theorem dX1_slot_9 : decode cX1_slot 9 = .ok (.iconst (-1), 1) := zdec_at bX1_slot_0 5 rfl
theorem dX1_slot_10 : decode cX1_slot 10 = .ok (.if_icmp .lt 16, 3) := zdec_at bX1_slot_0 6 rfl
theorem dX1_slot_13 : decode cX1_slot 13 = .ok (.iload_n 2, 1) := zdec_at bX1_slot_0 7 rfl
theorem dX1_slot_14 : decode cX1_slot 14 = .ok (.aload_n 0, 1) := zdec_at bX1_slot_0 8 rfl
theorem dX1_slot_15 : decode cX1_slot 15 = .ok (.getfield 674, 3) := zdec_at bX1_slot_0 9 rfl
theorem dX1_slot_18 : decode cX1_slot 18 = .ok (.getfield 719, 3) := zdec_at bX1_slot_0 10 rfl
theorem dX1_slot_21 : decode cX1_slot 21 = .ok (.iload_n 1, 1) := zdec_at bX1_slot_0 11 rfl
theorem dX1_slot_22 : decode cX1_slot 22 = .ok (.iaload, 1) := zdec_at bX1_slot_0 12 rfl
theorem dX1_slot_23 : decode cX1_slot 23 = .ok (.if_icmp .lt 5, 3) := zdec_at bX1_slot_0 13 rfl
theorem dX1_slot_26 : decode cX1_slot 26 = .ok (.lconst 0, 1) := zdec_at bX1_slot_0 14 rfl
theorem dX1_slot_27 : decode cX1_slot 27 = .ok (.lreturn, 1) := zdec_at bX1_slot_0 15 rfl
theorem bX1_slot_28 : zdec cX1_slot 28 [(28, .iload_n 2, 1), (29, .iconst (-1), 1), (30, .if_icmp .ne 46, 3), (33, .aload_n 0, 1), (34, .getfield 206, 3), (37, .aload_n 0, 1), (38, .getfield 674, 3), (41, .getfield 1116, 3), (44, .iload_n 1, 1), (45, .laload, 1), (46, .invokevirtual 892, 3), (49, .aload_n 0, 1), (50, .getfield 674, 3), (53, .getfield 1118, 3), (56, .iload_n 1, 1), (57, .laload, 1)] = true := by decide +kernel
theorem dX1_slot_28 : decode cX1_slot 28 = .ok (.iload_n 2, 1) := zdec_at bX1_slot_28 0 rfl
theorem dX1_slot_29 : decode cX1_slot 29 = .ok (.iconst (-1), 1) := zdec_at bX1_slot_28 1 rfl
theorem dX1_slot_30 : decode cX1_slot 30 = .ok (.if_icmp .ne 46, 3) := zdec_at bX1_slot_28 2 rfl
theorem dX1_slot_33 : decode cX1_slot 33 = .ok (.aload_n 0, 1) := zdec_at bX1_slot_28 3 rfl
theorem dX1_slot_34 : decode cX1_slot 34 = .ok (.getfield 206, 3) := zdec_at bX1_slot_28 4 rfl
theorem dX1_slot_37 : decode cX1_slot 37 = .ok (.aload_n 0, 1) := zdec_at bX1_slot_28 5 rfl
theorem dX1_slot_38 : decode cX1_slot 38 = .ok (.getfield 674, 3) := zdec_at bX1_slot_28 6 rfl
theorem dX1_slot_41 : decode cX1_slot 41 = .ok (.getfield 1116, 3) := zdec_at bX1_slot_28 7 rfl
theorem dX1_slot_44 : decode cX1_slot 44 = .ok (.iload_n 1, 1) := zdec_at bX1_slot_28 8 rfl
theorem dX1_slot_45 : decode cX1_slot 45 = .ok (.laload, 1) := zdec_at bX1_slot_28 9 rfl
theorem dX1_slot_46 : decode cX1_slot 46 = .ok (.invokevirtual 892, 3) := zdec_at bX1_slot_28 10 rfl
theorem dX1_slot_49 : decode cX1_slot 49 = .ok (.aload_n 0, 1) := zdec_at bX1_slot_28 11 rfl
theorem dX1_slot_50 : decode cX1_slot 50 = .ok (.getfield 674, 3) := zdec_at bX1_slot_28 12 rfl
theorem dX1_slot_53 : decode cX1_slot 53 = .ok (.getfield 1118, 3) := zdec_at bX1_slot_28 13 rfl
theorem dX1_slot_56 : decode cX1_slot 56 = .ok (.iload_n 1, 1) := zdec_at bX1_slot_28 14 rfl
theorem dX1_slot_57 : decode cX1_slot 57 = .ok (.laload, 1) := zdec_at bX1_slot_28 15 rfl
theorem bX1_slot_58 : zdec cX1_slot 58 [(58, .aload_n 0, 1), (59, .getfield 674, 3), (62, .getfield 1120, 3), (65, .iload_n 1, 1), (66, .laload, 1), (67, .lconst 0, 1), (68, .invokevirtual 871, 3), (71, .iload_n 3, 1), (72, .invokevirtual 1122, 3), (75, .lreturn, 1), (76, .aload_n 0, 1), (77, .getfield 674, 3), (80, .getfield 1075, 3), (83, .iload_n 1, 1), (84, .iaload, 1), (85, .iload_n 2, 1)] = true := by decide +kernel
theorem dX1_slot_58 : decode cX1_slot 58 = .ok (.aload_n 0, 1) := zdec_at bX1_slot_58 0 rfl
theorem dX1_slot_59 : decode cX1_slot 59 = .ok (.getfield 674, 3) := zdec_at bX1_slot_58 1 rfl
theorem dX1_slot_62 : decode cX1_slot 62 = .ok (.getfield 1120, 3) := zdec_at bX1_slot_58 2 rfl
theorem dX1_slot_65 : decode cX1_slot 65 = .ok (.iload_n 1, 1) := zdec_at bX1_slot_58 3 rfl
theorem dX1_slot_66 : decode cX1_slot 66 = .ok (.laload, 1) := zdec_at bX1_slot_58 4 rfl
theorem dX1_slot_67 : decode cX1_slot 67 = .ok (.lconst 0, 1) := zdec_at bX1_slot_58 5 rfl
theorem dX1_slot_68 : decode cX1_slot 68 = .ok (.invokevirtual 871, 3) := zdec_at bX1_slot_58 6 rfl
theorem dX1_slot_71 : decode cX1_slot 71 = .ok (.iload_n 3, 1) := zdec_at bX1_slot_58 7 rfl
theorem dX1_slot_72 : decode cX1_slot 72 = .ok (.invokevirtual 1122, 3) := zdec_at bX1_slot_58 8 rfl
theorem dX1_slot_75 : decode cX1_slot 75 = .ok (.lreturn, 1) := zdec_at bX1_slot_58 9 rfl
theorem dX1_slot_76 : decode cX1_slot 76 = .ok (.aload_n 0, 1) := zdec_at bX1_slot_58 10 rfl
theorem dX1_slot_77 : decode cX1_slot 77 = .ok (.getfield 674, 3) := zdec_at bX1_slot_58 11 rfl
theorem dX1_slot_80 : decode cX1_slot 80 = .ok (.getfield 1075, 3) := zdec_at bX1_slot_58 12 rfl
theorem dX1_slot_83 : decode cX1_slot 83 = .ok (.iload_n 1, 1) := zdec_at bX1_slot_58 13 rfl
theorem dX1_slot_84 : decode cX1_slot 84 = .ok (.iaload, 1) := zdec_at bX1_slot_58 14 rfl
theorem dX1_slot_85 : decode cX1_slot 85 = .ok (.iload_n 2, 1) := zdec_at bX1_slot_58 15 rfl
theorem bX1_slot_86 : zdec cX1_slot 86 [(86, .iadd, 1), (87, .istore 4, 2), (89, .aload_n 0, 1), (90, .getfield 206, 3), (93, .aload_n 0, 1), (94, .getfield 674, 3), (97, .getfield 1078, 3), (100, .iload 4, 2), (102, .laload, 1), (103, .invokevirtual 892, 3), (106, .aload_n 0, 1), (107, .getfield 674, 3), (110, .getfield 1079, 3), (113, .iload 4, 2), (115, .laload, 1), (116, .aload_n 0, 1)] = true := by decide +kernel
theorem dX1_slot_86 : decode cX1_slot 86 = .ok (.iadd, 1) := zdec_at bX1_slot_86 0 rfl
theorem dX1_slot_87 : decode cX1_slot 87 = .ok (.istore 4, 2) := zdec_at bX1_slot_86 1 rfl
theorem dX1_slot_89 : decode cX1_slot 89 = .ok (.aload_n 0, 1) := zdec_at bX1_slot_86 2 rfl
theorem dX1_slot_90 : decode cX1_slot 90 = .ok (.getfield 206, 3) := zdec_at bX1_slot_86 3 rfl
theorem dX1_slot_93 : decode cX1_slot 93 = .ok (.aload_n 0, 1) := zdec_at bX1_slot_86 4 rfl
theorem dX1_slot_94 : decode cX1_slot 94 = .ok (.getfield 674, 3) := zdec_at bX1_slot_86 5 rfl
theorem dX1_slot_97 : decode cX1_slot 97 = .ok (.getfield 1078, 3) := zdec_at bX1_slot_86 6 rfl
theorem dX1_slot_100 : decode cX1_slot 100 = .ok (.iload 4, 2) := zdec_at bX1_slot_86 7 rfl
theorem dX1_slot_102 : decode cX1_slot 102 = .ok (.laload, 1) := zdec_at bX1_slot_86 8 rfl
theorem dX1_slot_103 : decode cX1_slot 103 = .ok (.invokevirtual 892, 3) := zdec_at bX1_slot_86 9 rfl
theorem dX1_slot_106 : decode cX1_slot 106 = .ok (.aload_n 0, 1) := zdec_at bX1_slot_86 10 rfl
theorem dX1_slot_107 : decode cX1_slot 107 = .ok (.getfield 674, 3) := zdec_at bX1_slot_86 11 rfl
theorem dX1_slot_110 : decode cX1_slot 110 = .ok (.getfield 1079, 3) := zdec_at bX1_slot_86 12 rfl
theorem dX1_slot_113 : decode cX1_slot 113 = .ok (.iload 4, 2) := zdec_at bX1_slot_86 13 rfl
theorem dX1_slot_115 : decode cX1_slot 115 = .ok (.laload, 1) := zdec_at bX1_slot_86 14 rfl
theorem dX1_slot_116 : decode cX1_slot 116 = .ok (.aload_n 0, 1) := zdec_at bX1_slot_86 15 rfl
theorem bX1_slot_117 : zdec cX1_slot 117 [(117, .getfield 674, 3), (120, .getfield 1080, 3), (123, .iload 4, 2), (125, .laload, 1), (126, .lconst 0, 1), (127, .invokevirtual 871, 3), (130, .iload_n 3, 1), (131, .invokevirtual 1122, 3), (134, .lreturn, 1)] = true := by decide +kernel
theorem dX1_slot_117 : decode cX1_slot 117 = .ok (.getfield 674, 3) := zdec_at bX1_slot_117 0 rfl
theorem dX1_slot_120 : decode cX1_slot 120 = .ok (.getfield 1080, 3) := zdec_at bX1_slot_117 1 rfl
theorem dX1_slot_123 : decode cX1_slot 123 = .ok (.iload 4, 2) := zdec_at bX1_slot_117 2 rfl
theorem dX1_slot_125 : decode cX1_slot 125 = .ok (.laload, 1) := zdec_at bX1_slot_117 3 rfl
theorem dX1_slot_126 : decode cX1_slot 126 = .ok (.lconst 0, 1) := zdec_at bX1_slot_117 4 rfl
theorem dX1_slot_127 : decode cX1_slot 127 = .ok (.invokevirtual 871, 3) := zdec_at bX1_slot_117 5 rfl
theorem dX1_slot_130 : decode cX1_slot 130 = .ok (.iload_n 3, 1) := zdec_at bX1_slot_117 6 rfl
theorem dX1_slot_131 : decode cX1_slot 131 = .ok (.invokevirtual 1122, 3) := zdec_at bX1_slot_117 7 rfl
theorem dX1_slot_134 : decode cX1_slot 134 = .ok (.lreturn, 1) := zdec_at bX1_slot_117 8 rfl
theorem sX1_slot_0 {E : zE} {d : Nat} {Q : zO → zM → Prop} (M : zM) (l1 : Int32) (l2 : Int32) (l3 : Int32) (hw : cw M) (k : Z E YX1_isReached d M (zargs 0 [vr (some (16, 0, 0)), vi l1]) 0 [] (zafter E YX1_slot (d + 1) [(0, vr (some (16, 0, 0))), (1, vi l1), (2, vi l2), (3, vi l3)] 2 3 [] Q)) : Z E YX1_slot (d + 1) M [(0, vr (some (16, 0, 0))), (1, vi l1), (2, vi l2), (3, vi l3)] 0 [] Q := by
  refine z_aload_n dX1_slot_0 rfl rfl ?_
  refine z_iload_n dX1_slot_1 rfl rfl ?_
  exact z_callV (as := [vi l1]) (st := []) dX1_slot_2 vsX1_1113_0 (Nat.le_refl _) (Nat.le_of_ble_eq_true rfl) (Nat.le_of_ble_eq_true rfl) rfl k
theorem sX1_slot_5 {E : zE} {d : Nat} {Q : zO → zM → Prop} (M : zM) (l1 : Int32) (l2 : Int32) (l3 : Int32) (s0 : Int32) (hw : cw M) (k : if s0 = 0 then (Q (.inl (some (vl (0 : Int64)))) M) else (if l2 < (-1 : Int32) then (Q (.inl (some (vl (0 : Int64)))) M) else (∃ b1 : Nat, (gr M 16 59) = some (b1, 6, 0) ∧ (∃ b2 m2 : Nat, (gr M b1 9) = some (b2, 100, m2) ∧ (vp_in l1 m2 ∧ (if l2 < (gi M b2 (l1).toNatClampNeg) then (if l2 = (-1 : Int32) then (∃ b3 : Nat, (gr M 16 59) = some (b3, 6, 0) ∧ (∃ b4 m4 : Nat, (gr M b3 13) = some (b4, 105, m4) ∧ (vp_in l1 m4 ∧ (Z E YX6_of d M (zargs 0 [vr (some (71, 4, 0)), vl (gl M b4 (l1).toNatClampNeg)]) 0 [] (zafter E YX1_slot (d + 1) [(0, vr (some (16, 0, 0))), (1, vi l1), (3, vi l3)] 46 3 [] Q))))) else (∃ b3 : Nat, (gr M 16 59) = some (b3, 6, 0) ∧ (∃ b4 m4 : Nat, (gr M b3 10) = some (b4, 100, m4) ∧ (vp_in l1 m4 ∧ (∃ b5 : Nat, (gr M 16 59) = some (b5, 6, 0) ∧ (∃ b6 m6 : Nat, (gr M b5 18) = some (b6, 105, m6) ∧ (vp_in ((gi M b4 (l1).toNatClampNeg) + l2) m6 ∧ (Z E YX6_of d M (zargs 0 [vr (some (71, 4, 0)), vl (gl M b6 (((gi M b4 (l1).toNatClampNeg) + l2)).toNatClampNeg)]) 0 [] (zafter E YX1_slot (d + 1) [(0, vr (some (16, 0, 0))), (3, vi l3), (4, vi ((gi M b4 (l1).toNatClampNeg) + l2))] 103 3 [] Q))))))))) else (Q (.inl (some (vl (0 : Int64)))) M))))))) : Z E YX1_slot (d + 1) M [(0, vr (some (16, 0, 0))), (1, vi l1), (2, vi l2), (3, vi l3)] 5 [vi s0] Q := by
  refine z_if_eq (tgt := 26) dX1_slot_5 rfl (fun h_ => ?_) (fun h_ => ?_)
  · have k := zit h_ k
    refine z_lconst (v := 0) dX1_slot_26 rfl ?_
    exact z_lret dX1_slot_27 rfl k
  · have k := zif h_ k
    refine z_iload_n dX1_slot_8 rfl rfl ?_
    refine z_iconst (v := -1) dX1_slot_9 rfl ?_
    refine z_icmp_lt (tgt := 26) dX1_slot_10 rfl (fun h_ => ?_) (fun h_ => ?_)
    · have k := zit h_ k
      refine z_lconst (v := 0) dX1_slot_26 rfl ?_
      exact z_lret dX1_slot_27 rfl k
    · have k := zif h_ k
      refine z_iload_n dX1_slot_13 rfl rfl ?_
      refine z_aload_n dX1_slot_14 rfl rfl ?_
      refine z_getr (r := (gr M 16 59)) dX1_slot_15 fsX1_674_0 rfl ?_
      obtain ⟨b1, e1_, k⟩ := k
      refine Z.eqs (lv' := [(0, vr (some (16, 0, 0))), (1, vi l1), (2, vi l2), (3, vi l3)]) (st' := [vr (some (b1, 6, 0)), vi l2]) rfl (by rw [e1_] <;> rfl) ?_
      refine z_getr (r := (gr M b1 9)) dX1_slot_18 fsX1_719_6 rfl ?_
      refine z_iload_n dX1_slot_21 rfl rfl ?_
      obtain ⟨b2, m2, e2_, k⟩ := k
      refine Z.eqs (lv' := [(0, vr (some (16, 0, 0))), (1, vi l1), (2, vi l2), (3, vi l3)]) (st' := [vi l1, vr (some (b2, 100, m2)), vi l2]) rfl (by rw [e2_] <;> rfl) ?_
      obtain ⟨b_, k⟩ := k
      refine z_iald dX1_slot_22 b_ ?_
      refine z_icmp_lt (tgt := 28) dX1_slot_23 rfl (fun h_ => ?_) (fun h_ => ?_)
      · have k := zit h_ k
        refine z_iload_n dX1_slot_28 rfl rfl ?_
        refine z_iconst (v := -1) dX1_slot_29 rfl ?_
        refine z_icmp_ne (tgt := 76) dX1_slot_30 rfl (fun h_ => ?_) (fun h_ => ?_)
        · have k := zif h_ k
          refine z_aload_n dX1_slot_76 rfl rfl ?_
          refine z_getr (r := (gr M 16 59)) dX1_slot_77 fsX1_674_0 rfl ?_
          obtain ⟨b3, e3_, k⟩ := k
          refine Z.eqs (lv' := [(0, vr (some (16, 0, 0))), (1, vi l1), (2, vi l2), (3, vi l3)]) (st' := [vr (some (b3, 6, 0))]) rfl (by rw [e3_] <;> rfl) ?_
          refine z_getr (r := (gr M b3 10)) dX1_slot_80 fsX1_1075_6 rfl ?_
          refine z_iload_n dX1_slot_83 rfl rfl ?_
          obtain ⟨b4, m4, e4_, k⟩ := k
          refine Z.eqs (lv' := [(0, vr (some (16, 0, 0))), (1, vi l1), (2, vi l2), (3, vi l3)]) (st' := [vi l1, vr (some (b4, 100, m4))]) rfl (by rw [e4_] <;> rfl) ?_
          obtain ⟨b_, k⟩ := k
          refine z_iald dX1_slot_84 b_ ?_
          refine z_iload_n dX1_slot_85 rfl rfl ?_
          refine z_iadd dX1_slot_86 ?_
          refine z_ist dX1_slot_87 (by decide) (lv' := [(0, vr (some (16, 0, 0))), (1, vi l1), (2, vi l2), (3, vi l3), (4, vi ((gi M b4 (l1).toNatClampNeg) + l2))]) rfl ?_
          refine z_aload_n dX1_slot_89 rfl rfl ?_
          refine z_getr dX1_slot_90 fsX1_206_0 (show gr M 16 78 = some (71, 4, 0) from cw_at hw 39 rfl) ?_
          refine z_aload_n dX1_slot_93 rfl rfl ?_
          refine z_getr (r := (gr M 16 59)) dX1_slot_94 fsX1_674_0 rfl ?_
          obtain ⟨b5, e5_, k⟩ := k
          refine Z.eqs (lv' := [(0, vr (some (16, 0, 0))), (1, vi l1), (2, vi l2), (3, vi l3), (4, vi ((gi M b4 (l1).toNatClampNeg) + l2))]) (st' := [vr (some (b5, 6, 0)), vr (some (71, 4, 0))]) rfl (by rw [e5_] <;> rfl) ?_
          refine z_getr (r := (gr M b5 18)) dX1_slot_97 fsX1_1078_6 rfl ?_
          refine z_iload dX1_slot_100 rfl ?_
          obtain ⟨b6, m6, e6_, k⟩ := k
          refine Z.eqs (lv' := [(0, vr (some (16, 0, 0))), (1, vi l1), (2, vi l2), (3, vi l3), (4, vi ((gi M b4 (l1).toNatClampNeg) + l2))]) (st' := [vi ((gi M b4 (l1).toNatClampNeg) + l2), vr (some (b6, 105, m6)), vr (some (71, 4, 0))]) rfl (by rw [e6_] <;> rfl) ?_
          obtain ⟨b_, k⟩ := k
          refine z_lald dX1_slot_102 b_ ?_
          refine Z.pick [0, 3, 4] rfl ?_
          exact z_callV (as := [vl (gl M b6 (((gi M b4 (l1).toNatClampNeg) + l2)).toNatClampNeg)]) (st := []) dX1_slot_103 vsX1_892_4 (Nat.le_refl _) (Nat.le_of_ble_eq_true rfl) (Nat.le_of_ble_eq_true rfl) rfl k
        · have k := zit h_ k
          refine z_aload_n dX1_slot_33 rfl rfl ?_
          refine z_getr dX1_slot_34 fsX1_206_0 (show gr M 16 78 = some (71, 4, 0) from cw_at hw 39 rfl) ?_
          refine z_aload_n dX1_slot_37 rfl rfl ?_
          refine z_getr (r := (gr M 16 59)) dX1_slot_38 fsX1_674_0 rfl ?_
          obtain ⟨b3, e3_, k⟩ := k
          refine Z.eqs (lv' := [(0, vr (some (16, 0, 0))), (1, vi l1), (2, vi l2), (3, vi l3)]) (st' := [vr (some (b3, 6, 0)), vr (some (71, 4, 0))]) rfl (by rw [e3_] <;> rfl) ?_
          refine z_getr (r := (gr M b3 13)) dX1_slot_41 fsX1_1116_6 rfl ?_
          refine z_iload_n dX1_slot_44 rfl rfl ?_
          obtain ⟨b4, m4, e4_, k⟩ := k
          refine Z.eqs (lv' := [(0, vr (some (16, 0, 0))), (1, vi l1), (2, vi l2), (3, vi l3)]) (st' := [vi l1, vr (some (b4, 105, m4)), vr (some (71, 4, 0))]) rfl (by rw [e4_] <;> rfl) ?_
          obtain ⟨b_, k⟩ := k
          refine z_lald dX1_slot_45 b_ ?_
          refine Z.pick [0, 1, 3] rfl ?_
          exact z_callV (as := [vl (gl M b4 (l1).toNatClampNeg)]) (st := []) dX1_slot_46 vsX1_892_4 (Nat.le_refl _) (Nat.le_of_ble_eq_true rfl) (Nat.le_of_ble_eq_true rfl) rfl k
      · have k := zif h_ k
        refine z_lconst (v := 0) dX1_slot_26 rfl ?_
        exact z_lret dX1_slot_27 rfl k
theorem sX1_slot_49 {E : zE} {d : Nat} {Q : zO → zM → Prop} (M : zM) (l1 : Int32) (l3 : Int32) (u0 : Option zP) (hw : cw M) (k : ∃ b1 : Nat, (gr M 16 59) = some (b1, 6, 0) ∧ (∃ b2 m2 : Nat, (gr M b1 11) = some (b2, 105, m2) ∧ (vp_in l1 m2 ∧ (∃ b3 : Nat, (gr M 16 59) = some (b3, 6, 0) ∧ (∃ b4 m4 : Nat, (gr M b3 12) = some (b4, 105, m4) ∧ (vp_in l1 m4 ∧ (∃ b5 : Nat, u0 = some (b5, 4, 0) ∧ (Z E YX6_join3 d M (zargs 0 [vr (some (b5, 4, 0)), vl (gl M b2 (l1).toNatClampNeg), vl (gl M b4 (l1).toNatClampNeg), vl (0 : Int64)]) 0 [] (zafter E YX1_slot (d + 1) [(3, vi l3)] 68 3 [] Q))))))))) : Z E YX1_slot (d + 1) M [(0, vr (some (16, 0, 0))), (1, vi l1), (3, vi l3)] 49 [vr u0] Q := by
  refine z_aload_n dX1_slot_49 rfl rfl ?_
  refine z_getr (r := (gr M 16 59)) dX1_slot_50 fsX1_674_0 rfl ?_
  obtain ⟨b1, e1_, k⟩ := k
  refine Z.eqs (lv' := [(0, vr (some (16, 0, 0))), (1, vi l1), (3, vi l3)]) (st' := [vr (some (b1, 6, 0)), vr u0]) rfl (by rw [e1_] <;> rfl) ?_
  refine z_getr (r := (gr M b1 11)) dX1_slot_53 fsX1_1118_6 rfl ?_
  refine z_iload_n dX1_slot_56 rfl rfl ?_
  obtain ⟨b2, m2, e2_, k⟩ := k
  refine Z.eqs (lv' := [(0, vr (some (16, 0, 0))), (1, vi l1), (3, vi l3)]) (st' := [vi l1, vr (some (b2, 105, m2)), vr u0]) rfl (by rw [e2_] <;> rfl) ?_
  obtain ⟨b_, k⟩ := k
  refine z_lald dX1_slot_57 b_ ?_
  refine z_aload_n dX1_slot_58 rfl rfl ?_
  refine z_getr (r := (gr M 16 59)) dX1_slot_59 fsX1_674_0 rfl ?_
  obtain ⟨b3, e3_, k⟩ := k
  refine Z.eqs (lv' := [(0, vr (some (16, 0, 0))), (1, vi l1), (3, vi l3)]) (st' := [vr (some (b3, 6, 0)), vl (gl M b2 (l1).toNatClampNeg), vr u0]) rfl (by rw [e3_] <;> rfl) ?_
  refine z_getr (r := (gr M b3 12)) dX1_slot_62 fsX1_1120_6 rfl ?_
  refine z_iload_n dX1_slot_65 rfl rfl ?_
  obtain ⟨b4, m4, e4_, k⟩ := k
  refine Z.eqs (lv' := [(0, vr (some (16, 0, 0))), (1, vi l1), (3, vi l3)]) (st' := [vi l1, vr (some (b4, 105, m4)), vl (gl M b2 (l1).toNatClampNeg), vr u0]) rfl (by rw [e4_] <;> rfl) ?_
  obtain ⟨b_, k⟩ := k
  refine z_lald dX1_slot_66 b_ ?_
  refine z_lconst (v := 0) dX1_slot_67 rfl ?_
  obtain ⟨b5, e5_, k⟩ := k
  refine Z.eqs (lv' := [(0, vr (some (16, 0, 0))), (1, vi l1), (3, vi l3)]) (st' := [vl (0 : Int64), vl (gl M b4 (l1).toNatClampNeg), vl (gl M b2 (l1).toNatClampNeg), vr (some (b5, 4, 0))]) rfl (by rw [e5_] <;> rfl) ?_
  refine Z.pick [2] rfl ?_
  exact z_callV (as := [vl (gl M b2 (l1).toNatClampNeg), vl (gl M b4 (l1).toNatClampNeg), vl (0 : Int64)]) (st := []) dX1_slot_68 vsX1_871_4 (Nat.le_refl _) (Nat.le_of_ble_eq_true rfl) (Nat.le_of_ble_eq_true rfl) rfl k
theorem sX1_slot_71 {E : zE} {d : Nat} {Q : zO → zM → Prop} (M : zM) (l3 : Int32) (u0 : Option zP) (hw : cw M) (k : ∃ b1 : Nat, u0 = some (b1, 4, 0) ∧ (Z E YX6_told d M (zargs 0 [vr (some (b1, 4, 0)), vi l3]) 0 [] (zafter E YX1_slot (d + 1) [] 72 3 [] Q))) : Z E YX1_slot (d + 1) M [(3, vi l3)] 71 [vr u0] Q := by
  refine z_iload_n dX1_slot_71 rfl rfl ?_
  obtain ⟨b1, e1_, k⟩ := k
  refine Z.eqs (lv' := [(3, vi l3)]) (st' := [vi l3, vr (some (b1, 4, 0))]) rfl (by rw [e1_] <;> rfl) ?_
  refine Z.pick [] rfl ?_
  exact z_callV (as := [vi l3]) (st := []) dX1_slot_72 vsX1_1122_4 (Nat.le_refl _) (Nat.le_of_ble_eq_true rfl) (Nat.le_of_ble_eq_true rfl) rfl k
theorem sX1_slot_75 {E : zE} {d : Nat} {Q : zO → zM → Prop} (M : zM) (s0 : Int64) (hw : cw M) (k : Q (.inl (some (vl s0))) M) : Z E YX1_slot (d + 1) M [] 75 [vl s0] Q := by
  exact z_lret dX1_slot_75 rfl k
theorem sX1_slot_106 {E : zE} {d : Nat} {Q : zO → zM → Prop} (M : zM) (l3 : Int32) (l4 : Int32) (u0 : Option zP) (hw : cw M) (k : ∃ b1 : Nat, (gr M 16 59) = some (b1, 6, 0) ∧ (∃ b2 m2 : Nat, (gr M b1 16) = some (b2, 105, m2) ∧ (vp_in l4 m2 ∧ (∃ b3 : Nat, (gr M 16 59) = some (b3, 6, 0) ∧ (∃ b4 m4 : Nat, (gr M b3 17) = some (b4, 105, m4) ∧ (vp_in l4 m4 ∧ (∃ b5 : Nat, u0 = some (b5, 4, 0) ∧ (Z E YX6_join3 d M (zargs 0 [vr (some (b5, 4, 0)), vl (gl M b2 (l4).toNatClampNeg), vl (gl M b4 (l4).toNatClampNeg), vl (0 : Int64)]) 0 [] (zafter E YX1_slot (d + 1) [(3, vi l3)] 127 3 [] Q))))))))) : Z E YX1_slot (d + 1) M [(0, vr (some (16, 0, 0))), (3, vi l3), (4, vi l4)] 106 [vr u0] Q := by
  refine z_aload_n dX1_slot_106 rfl rfl ?_
  refine z_getr (r := (gr M 16 59)) dX1_slot_107 fsX1_674_0 rfl ?_
  obtain ⟨b1, e1_, k⟩ := k
  refine Z.eqs (lv' := [(0, vr (some (16, 0, 0))), (3, vi l3), (4, vi l4)]) (st' := [vr (some (b1, 6, 0)), vr u0]) rfl (by rw [e1_] <;> rfl) ?_
  refine z_getr (r := (gr M b1 16)) dX1_slot_110 fsX1_1079_6 rfl ?_
  refine z_iload dX1_slot_113 rfl ?_
  obtain ⟨b2, m2, e2_, k⟩ := k
  refine Z.eqs (lv' := [(0, vr (some (16, 0, 0))), (3, vi l3), (4, vi l4)]) (st' := [vi l4, vr (some (b2, 105, m2)), vr u0]) rfl (by rw [e2_] <;> rfl) ?_
  obtain ⟨b_, k⟩ := k
  refine z_lald dX1_slot_115 b_ ?_
  refine z_aload_n dX1_slot_116 rfl rfl ?_
  refine z_getr (r := (gr M 16 59)) dX1_slot_117 fsX1_674_0 rfl ?_
  obtain ⟨b3, e3_, k⟩ := k
  refine Z.eqs (lv' := [(0, vr (some (16, 0, 0))), (3, vi l3), (4, vi l4)]) (st' := [vr (some (b3, 6, 0)), vl (gl M b2 (l4).toNatClampNeg), vr u0]) rfl (by rw [e3_] <;> rfl) ?_
  refine z_getr (r := (gr M b3 17)) dX1_slot_120 fsX1_1080_6 rfl ?_
  refine z_iload dX1_slot_123 rfl ?_
  obtain ⟨b4, m4, e4_, k⟩ := k
  refine Z.eqs (lv' := [(0, vr (some (16, 0, 0))), (3, vi l3), (4, vi l4)]) (st' := [vi l4, vr (some (b4, 105, m4)), vl (gl M b2 (l4).toNatClampNeg), vr u0]) rfl (by rw [e4_] <;> rfl) ?_
  obtain ⟨b_, k⟩ := k
  refine z_lald dX1_slot_125 b_ ?_
  refine z_lconst (v := 0) dX1_slot_126 rfl ?_
  obtain ⟨b5, e5_, k⟩ := k
  refine Z.eqs (lv' := [(0, vr (some (16, 0, 0))), (3, vi l3), (4, vi l4)]) (st' := [vl (0 : Int64), vl (gl M b4 (l4).toNatClampNeg), vl (gl M b2 (l4).toNatClampNeg), vr (some (b5, 4, 0))]) rfl (by rw [e5_] <;> rfl) ?_
  refine Z.pick [1] rfl ?_
  exact z_callV (as := [vl (gl M b2 (l4).toNatClampNeg), vl (gl M b4 (l4).toNatClampNeg), vl (0 : Int64)]) (st := []) dX1_slot_127 vsX1_871_4 (Nat.le_refl _) (Nat.le_of_ble_eq_true rfl) (Nat.le_of_ble_eq_true rfl) rfl k
theorem sX1_slot_130 {E : zE} {d : Nat} {Q : zO → zM → Prop} (M : zM) (l3 : Int32) (u0 : Option zP) (hw : cw M) (k : ∃ b1 : Nat, u0 = some (b1, 4, 0) ∧ (Z E YX6_told d M (zargs 0 [vr (some (b1, 4, 0)), vi l3]) 0 [] (zafter E YX1_slot (d + 1) [] 131 3 [] Q))) : Z E YX1_slot (d + 1) M [(3, vi l3)] 130 [vr u0] Q := by
  refine z_iload_n dX1_slot_130 rfl rfl ?_
  obtain ⟨b1, e1_, k⟩ := k
  refine Z.eqs (lv' := [(3, vi l3)]) (st' := [vi l3, vr (some (b1, 4, 0))]) rfl (by rw [e1_] <;> rfl) ?_
  refine Z.pick [] rfl ?_
  exact z_callV (as := [vi l3]) (st := []) dX1_slot_131 vsX1_1122_4 (Nat.le_refl _) (Nat.le_of_ble_eq_true rfl) (Nat.le_of_ble_eq_true rfl) rfl k
theorem sX1_slot_134 {E : zE} {d : Nat} {Q : zO → zM → Prop} (M : zM) (s0 : Int64) (hw : cw M) (k : Q (.inl (some (vl s0))) M) : Z E YX1_slot (d + 1) M [] 134 [vl s0] Q := by
  exact z_lret dX1_slot_134 rfl k
/-! ScriptTypes.joined(JJ)J -/
theorem bX1_joined_0 : zdec cX1_joined 0 [(0, .lload_n 0, 1), (1, .lload_n 2, 1), (2, .lor, 1), (3, .ldc2_w 607, 3), (6, .land, 1), (7, .lstore 4, 2), (9, .lload 4, 2), (11, .ldc2_w 609, 3), (14, .land, 1), (15, .lconst 0, 1), (16, .lcmp, 1), (17, .ifCond .eq 7, 3), (20, .lconst 0, 1), (21, .goto 24, 3), (24, .lload_n 0, 1), (25, .ldc2_w 611, 3)] = true := by decide +kernel
theorem dX1_joined_0 : decode cX1_joined 0 = .ok (.lload_n 0, 1) := zdec_at bX1_joined_0 0 rfl
theorem dX1_joined_1 : decode cX1_joined 1 = .ok (.lload_n 2, 1) := zdec_at bX1_joined_0 1 rfl
theorem dX1_joined_2 : decode cX1_joined 2 = .ok (.lor, 1) := zdec_at bX1_joined_0 2 rfl
theorem dX1_joined_3 : decode cX1_joined 3 = .ok (.ldc2_w 607, 3) := zdec_at bX1_joined_0 3 rfl
theorem dX1_joined_6 : decode cX1_joined 6 = .ok (.land, 1) := zdec_at bX1_joined_0 4 rfl
theorem dX1_joined_7 : decode cX1_joined 7 = .ok (.lstore 4, 2) := zdec_at bX1_joined_0 5 rfl
theorem dX1_joined_9 : decode cX1_joined 9 = .ok (.lload 4, 2) := zdec_at bX1_joined_0 6 rfl
theorem dX1_joined_11 : decode cX1_joined 11 = .ok (.ldc2_w 609, 3) := zdec_at bX1_joined_0 7 rfl
theorem dX1_joined_14 : decode cX1_joined 14 = .ok (.land, 1) := zdec_at bX1_joined_0 8 rfl
theorem dX1_joined_15 : decode cX1_joined 15 = .ok (.lconst 0, 1) := zdec_at bX1_joined_0 9 rfl
theorem dX1_joined_16 : decode cX1_joined 16 = .ok (.lcmp, 1) := zdec_at bX1_joined_0 10 rfl
theorem dX1_joined_17 : decode cX1_joined 17 = .ok (.ifCond .eq 7, 3) := zdec_at bX1_joined_0 11 rfl
theorem dX1_joined_20 : decode cX1_joined 20 = .ok (.lconst 0, 1) := zdec_at bX1_joined_0 12 rfl
theorem dX1_joined_21 : decode cX1_joined 21 = .ok (.goto 24, 3) := zdec_at bX1_joined_0 13 rfl
theorem dX1_joined_24 : decode cX1_joined 24 = .ok (.lload_n 0, 1) := zdec_at bX1_joined_0 14 rfl
theorem dX1_joined_25 : decode cX1_joined 25 = .ok (.ldc2_w 611, 3) := zdec_at bX1_joined_0 15 rfl
theorem bX1_joined_28 : zdec cX1_joined 28 [(28, .land, 1), (29, .lconst 0, 1), (30, .lcmp, 1), (31, .ifCond .eq 10, 3), (34, .lload_n 0, 1), (35, .bipush 32, 2), (37, .lshr, 1), (38, .goto 7, 3), (41, .lload_n 2, 1), (42, .bipush 32, 2), (44, .lshr, 1), (45, .lstore 6, 2), (47, .lload 4, 2), (49, .ldc2_w 613, 3), (52, .land, 1), (53, .lconst 0, 1)] = true := by decide +kernel
theorem dX1_joined_28 : decode cX1_joined 28 = .ok (.land, 1) := zdec_at bX1_joined_28 0 rfl
theorem dX1_joined_29 : decode cX1_joined 29 = .ok (.lconst 0, 1) := zdec_at bX1_joined_28 1 rfl
theorem dX1_joined_30 : decode cX1_joined 30 = .ok (.lcmp, 1) := zdec_at bX1_joined_28 2 rfl
theorem dX1_joined_31 : decode cX1_joined 31 = .ok (.ifCond .eq 10, 3) := zdec_at bX1_joined_28 3 rfl
theorem dX1_joined_34 : decode cX1_joined 34 = .ok (.lload_n 0, 1) := zdec_at bX1_joined_28 4 rfl
theorem dX1_joined_35 : decode cX1_joined 35 = .ok (.bipush 32, 2) := zdec_at bX1_joined_28 5 rfl
theorem dX1_joined_37 : decode cX1_joined 37 = .ok (.lshr, 1) := zdec_at bX1_joined_28 6 rfl
theorem dX1_joined_38 : decode cX1_joined 38 = .ok (.goto 7, 3) := zdec_at bX1_joined_28 7 rfl
theorem dX1_joined_41 : decode cX1_joined 41 = .ok (.lload_n 2, 1) := zdec_at bX1_joined_28 8 rfl
theorem dX1_joined_42 : decode cX1_joined 42 = .ok (.bipush 32, 2) := zdec_at bX1_joined_28 9 rfl
theorem dX1_joined_44 : decode cX1_joined 44 = .ok (.lshr, 1) := zdec_at bX1_joined_28 10 rfl
theorem dX1_joined_45 : decode cX1_joined 45 = .ok (.lstore 6, 2) := zdec_at bX1_joined_28 11 rfl
theorem dX1_joined_47 : decode cX1_joined 47 = .ok (.lload 4, 2) := zdec_at bX1_joined_28 12 rfl
theorem dX1_joined_49 : decode cX1_joined 49 = .ok (.ldc2_w 613, 3) := zdec_at bX1_joined_28 13 rfl
theorem dX1_joined_52 : decode cX1_joined 52 = .ok (.land, 1) := zdec_at bX1_joined_28 14 rfl
theorem dX1_joined_53 : decode cX1_joined 53 = .ok (.lconst 0, 1) := zdec_at bX1_joined_28 15 rfl
theorem bX1_joined_54 : zdec cX1_joined 54 [(54, .lcmp, 1), (55, .ifCond .eq 7, 3), (58, .lconst 0, 1), (59, .goto 25, 3), (62, .lload_n 0, 1), (63, .ldc2_w 615, 3), (66, .land, 1), (67, .lconst 0, 1), (68, .lcmp, 1), (69, .ifCond .eq 7, 3), (72, .lload_n 0, 1), (73, .goto 4, 3), (76, .lload_n 2, 1), (77, .bipush 16, 2), (79, .lshr, 1), (80, .ldc2_w 617, 3)] = true := by decide +kernel
theorem dX1_joined_54 : decode cX1_joined 54 = .ok (.lcmp, 1) := zdec_at bX1_joined_54 0 rfl
theorem dX1_joined_55 : decode cX1_joined 55 = .ok (.ifCond .eq 7, 3) := zdec_at bX1_joined_54 1 rfl
theorem dX1_joined_58 : decode cX1_joined 58 = .ok (.lconst 0, 1) := zdec_at bX1_joined_54 2 rfl
theorem dX1_joined_59 : decode cX1_joined 59 = .ok (.goto 25, 3) := zdec_at bX1_joined_54 3 rfl
theorem dX1_joined_62 : decode cX1_joined 62 = .ok (.lload_n 0, 1) := zdec_at bX1_joined_54 4 rfl
theorem dX1_joined_63 : decode cX1_joined 63 = .ok (.ldc2_w 615, 3) := zdec_at bX1_joined_54 5 rfl
theorem dX1_joined_66 : decode cX1_joined 66 = .ok (.land, 1) := zdec_at bX1_joined_54 6 rfl
theorem dX1_joined_67 : decode cX1_joined 67 = .ok (.lconst 0, 1) := zdec_at bX1_joined_54 7 rfl
theorem dX1_joined_68 : decode cX1_joined 68 = .ok (.lcmp, 1) := zdec_at bX1_joined_54 8 rfl
theorem dX1_joined_69 : decode cX1_joined 69 = .ok (.ifCond .eq 7, 3) := zdec_at bX1_joined_54 9 rfl
theorem dX1_joined_72 : decode cX1_joined 72 = .ok (.lload_n 0, 1) := zdec_at bX1_joined_54 10 rfl
theorem dX1_joined_73 : decode cX1_joined 73 = .ok (.goto 4, 3) := zdec_at bX1_joined_54 11 rfl
theorem dX1_joined_76 : decode cX1_joined 76 = .ok (.lload_n 2, 1) := zdec_at bX1_joined_54 12 rfl
theorem dX1_joined_77 : decode cX1_joined 77 = .ok (.bipush 16, 2) := zdec_at bX1_joined_54 13 rfl
theorem dX1_joined_79 : decode cX1_joined 79 = .ok (.lshr, 1) := zdec_at bX1_joined_54 14 rfl
theorem dX1_joined_80 : decode cX1_joined 80 = .ok (.ldc2_w 617, 3) := zdec_at bX1_joined_54 15 rfl
theorem bX1_joined_83 : zdec cX1_joined 83 [(83, .land, 1), (84, .lstore 8, 2), (86, .lload 4, 2), (88, .ldc2_w 609, 3), (91, .land, 1), (92, .lconst 0, 1), (93, .lcmp, 1), (94, .ifCond .eq 14, 3), (97, .lload 4, 2), (99, .ldc2_w 619, 3), (102, .land, 1), (103, .lstore 4, 2), (105, .goto 39, 3), (108, .lload_n 0, 1), (109, .lload_n 2, 1), (110, .land, 1)] = true := by decide +kernel
theorem dX1_joined_83 : decode cX1_joined 83 = .ok (.land, 1) := zdec_at bX1_joined_83 0 rfl
theorem dX1_joined_84 : decode cX1_joined 84 = .ok (.lstore 8, 2) := zdec_at bX1_joined_83 1 rfl
theorem dX1_joined_86 : decode cX1_joined 86 = .ok (.lload 4, 2) := zdec_at bX1_joined_83 2 rfl
theorem dX1_joined_88 : decode cX1_joined 88 = .ok (.ldc2_w 609, 3) := zdec_at bX1_joined_83 3 rfl
theorem dX1_joined_91 : decode cX1_joined 91 = .ok (.land, 1) := zdec_at bX1_joined_83 4 rfl
theorem dX1_joined_92 : decode cX1_joined 92 = .ok (.lconst 0, 1) := zdec_at bX1_joined_83 5 rfl
theorem dX1_joined_93 : decode cX1_joined 93 = .ok (.lcmp, 1) := zdec_at bX1_joined_83 6 rfl
theorem dX1_joined_94 : decode cX1_joined 94 = .ok (.ifCond .eq 14, 3) := zdec_at bX1_joined_83 7 rfl
theorem dX1_joined_97 : decode cX1_joined 97 = .ok (.lload 4, 2) := zdec_at bX1_joined_83 8 rfl
theorem dX1_joined_99 : decode cX1_joined 99 = .ok (.ldc2_w 619, 3) := zdec_at bX1_joined_83 9 rfl
theorem dX1_joined_102 : decode cX1_joined 102 = .ok (.land, 1) := zdec_at bX1_joined_83 10 rfl
theorem dX1_joined_103 : decode cX1_joined 103 = .ok (.lstore 4, 2) := zdec_at bX1_joined_83 11 rfl
theorem dX1_joined_105 : decode cX1_joined 105 = .ok (.goto 39, 3) := zdec_at bX1_joined_83 12 rfl
theorem dX1_joined_108 : decode cX1_joined 108 = .ok (.lload_n 0, 1) := zdec_at bX1_joined_83 13 rfl
theorem dX1_joined_109 : decode cX1_joined 109 = .ok (.lload_n 2, 1) := zdec_at bX1_joined_83 14 rfl
theorem dX1_joined_110 : decode cX1_joined 110 = .ok (.land, 1) := zdec_at bX1_joined_83 15 rfl
theorem bX1_joined_111 : zdec cX1_joined 111 [(111, .ldc2_w 611, 3), (114, .land, 1), (115, .lconst 0, 1), (116, .lcmp, 1), (117, .ifCond .eq 27, 3), (120, .lload_n 0, 1), (121, .bipush 32, 2), (123, .lshr, 1), (124, .lload_n 2, 1), (125, .bipush 32, 2), (127, .lshr, 1), (128, .lcmp, 1), (129, .ifCond .eq 15, 3), (132, .lload 4, 2), (134, .ldc2_w 619, 3), (137, .land, 1)] = true := by decide +kernel
theorem dX1_joined_111 : decode cX1_joined 111 = .ok (.ldc2_w 611, 3) := zdec_at bX1_joined_111 0 rfl
theorem dX1_joined_114 : decode cX1_joined 114 = .ok (.land, 1) := zdec_at bX1_joined_111 1 rfl
theorem dX1_joined_115 : decode cX1_joined 115 = .ok (.lconst 0, 1) := zdec_at bX1_joined_111 2 rfl
theorem dX1_joined_116 : decode cX1_joined 116 = .ok (.lcmp, 1) := zdec_at bX1_joined_111 3 rfl
theorem dX1_joined_117 : decode cX1_joined 117 = .ok (.ifCond .eq 27, 3) := zdec_at bX1_joined_111 4 rfl
theorem dX1_joined_120 : decode cX1_joined 120 = .ok (.lload_n 0, 1) := zdec_at bX1_joined_111 5 rfl
theorem dX1_joined_121 : decode cX1_joined 121 = .ok (.bipush 32, 2) := zdec_at bX1_joined_111 6 rfl
theorem dX1_joined_123 : decode cX1_joined 123 = .ok (.lshr, 1) := zdec_at bX1_joined_111 7 rfl
theorem dX1_joined_124 : decode cX1_joined 124 = .ok (.lload_n 2, 1) := zdec_at bX1_joined_111 8 rfl
theorem dX1_joined_125 : decode cX1_joined 125 = .ok (.bipush 32, 2) := zdec_at bX1_joined_111 9 rfl
theorem dX1_joined_127 : decode cX1_joined 127 = .ok (.lshr, 1) := zdec_at bX1_joined_111 10 rfl
theorem dX1_joined_128 : decode cX1_joined 128 = .ok (.lcmp, 1) := zdec_at bX1_joined_111 11 rfl
theorem dX1_joined_129 : decode cX1_joined 129 = .ok (.ifCond .eq 15, 3) := zdec_at bX1_joined_111 12 rfl
theorem dX1_joined_132 : decode cX1_joined 132 = .ok (.lload 4, 2) := zdec_at bX1_joined_111 13 rfl
theorem dX1_joined_134 : decode cX1_joined 134 = .ok (.ldc2_w 619, 3) := zdec_at bX1_joined_111 14 rfl
theorem dX1_joined_137 : decode cX1_joined 137 = .ok (.land, 1) := zdec_at bX1_joined_111 15 rfl
theorem bX1_joined_138 : zdec cX1_joined 138 [(138, .ldc2_w 609, 3), (141, .lor, 1), (142, .lstore 4, 2), (144, .lload 4, 2), (146, .ldc2_w 613, 3), (149, .land, 1), (150, .lconst 0, 1), (151, .lcmp, 1), (152, .ifCond .eq 14, 3), (155, .lload 4, 2), (157, .ldc2_w 621, 3), (160, .land, 1), (161, .lstore 4, 2), (163, .goto 47, 3), (166, .lload_n 0, 1), (167, .lload_n 2, 1)] = true := by decide +kernel
theorem dX1_joined_138 : decode cX1_joined 138 = .ok (.ldc2_w 609, 3) := zdec_at bX1_joined_138 0 rfl
theorem dX1_joined_141 : decode cX1_joined 141 = .ok (.lor, 1) := zdec_at bX1_joined_138 1 rfl
theorem dX1_joined_142 : decode cX1_joined 142 = .ok (.lstore 4, 2) := zdec_at bX1_joined_138 2 rfl
theorem dX1_joined_144 : decode cX1_joined 144 = .ok (.lload 4, 2) := zdec_at bX1_joined_138 3 rfl
theorem dX1_joined_146 : decode cX1_joined 146 = .ok (.ldc2_w 613, 3) := zdec_at bX1_joined_138 4 rfl
theorem dX1_joined_149 : decode cX1_joined 149 = .ok (.land, 1) := zdec_at bX1_joined_138 5 rfl
theorem dX1_joined_150 : decode cX1_joined 150 = .ok (.lconst 0, 1) := zdec_at bX1_joined_138 6 rfl
theorem dX1_joined_151 : decode cX1_joined 151 = .ok (.lcmp, 1) := zdec_at bX1_joined_138 7 rfl
theorem dX1_joined_152 : decode cX1_joined 152 = .ok (.ifCond .eq 14, 3) := zdec_at bX1_joined_138 8 rfl
theorem dX1_joined_155 : decode cX1_joined 155 = .ok (.lload 4, 2) := zdec_at bX1_joined_138 9 rfl
theorem dX1_joined_157 : decode cX1_joined 157 = .ok (.ldc2_w 621, 3) := zdec_at bX1_joined_138 10 rfl
theorem dX1_joined_160 : decode cX1_joined 160 = .ok (.land, 1) := zdec_at bX1_joined_138 11 rfl
theorem dX1_joined_161 : decode cX1_joined 161 = .ok (.lstore 4, 2) := zdec_at bX1_joined_138 12 rfl
theorem dX1_joined_163 : decode cX1_joined 163 = .ok (.goto 47, 3) := zdec_at bX1_joined_138 13 rfl
theorem dX1_joined_166 : decode cX1_joined 166 = .ok (.lload_n 0, 1) := zdec_at bX1_joined_138 14 rfl
theorem dX1_joined_167 : decode cX1_joined 167 = .ok (.lload_n 2, 1) := zdec_at bX1_joined_138 15 rfl
theorem bX1_joined_168 : zdec cX1_joined 168 [(168, .land, 1), (169, .ldc2_w 615, 3), (172, .land, 1), (173, .lconst 0, 1), (174, .lcmp, 1), (175, .ifCond .eq 35, 3), (178, .lload_n 0, 1), (179, .bipush 16, 2), (181, .lshr, 1), (182, .ldc2_w 617, 3), (185, .land, 1), (186, .lload_n 2, 1), (187, .bipush 16, 2), (189, .lshr, 1), (190, .ldc2_w 617, 3), (193, .land, 1)] = true := by decide +kernel
theorem dX1_joined_168 : decode cX1_joined 168 = .ok (.land, 1) := zdec_at bX1_joined_168 0 rfl
theorem dX1_joined_169 : decode cX1_joined 169 = .ok (.ldc2_w 615, 3) := zdec_at bX1_joined_168 1 rfl
theorem dX1_joined_172 : decode cX1_joined 172 = .ok (.land, 1) := zdec_at bX1_joined_168 2 rfl
theorem dX1_joined_173 : decode cX1_joined 173 = .ok (.lconst 0, 1) := zdec_at bX1_joined_168 3 rfl
theorem dX1_joined_174 : decode cX1_joined 174 = .ok (.lcmp, 1) := zdec_at bX1_joined_168 4 rfl
theorem dX1_joined_175 : decode cX1_joined 175 = .ok (.ifCond .eq 35, 3) := zdec_at bX1_joined_168 5 rfl
theorem dX1_joined_178 : decode cX1_joined 178 = .ok (.lload_n 0, 1) := zdec_at bX1_joined_168 6 rfl
theorem dX1_joined_179 : decode cX1_joined 179 = .ok (.bipush 16, 2) := zdec_at bX1_joined_168 7 rfl
theorem dX1_joined_181 : decode cX1_joined 181 = .ok (.lshr, 1) := zdec_at bX1_joined_168 8 rfl
theorem dX1_joined_182 : decode cX1_joined 182 = .ok (.ldc2_w 617, 3) := zdec_at bX1_joined_168 9 rfl
theorem dX1_joined_185 : decode cX1_joined 185 = .ok (.land, 1) := zdec_at bX1_joined_168 10 rfl
theorem dX1_joined_186 : decode cX1_joined 186 = .ok (.lload_n 2, 1) := zdec_at bX1_joined_168 11 rfl
theorem dX1_joined_187 : decode cX1_joined 187 = .ok (.bipush 16, 2) := zdec_at bX1_joined_168 12 rfl
theorem dX1_joined_189 : decode cX1_joined 189 = .ok (.lshr, 1) := zdec_at bX1_joined_168 13 rfl
theorem dX1_joined_190 : decode cX1_joined 190 = .ok (.ldc2_w 617, 3) := zdec_at bX1_joined_168 14 rfl
theorem dX1_joined_193 : decode cX1_joined 193 = .ok (.land, 1) := zdec_at bX1_joined_168 15 rfl
theorem bX1_joined_194 : zdec cX1_joined 194 [(194, .lcmp, 1), (195, .ifCond .eq 15, 3), (198, .lload 4, 2), (200, .ldc2_w 621, 3), (203, .land, 1), (204, .ldc2_w 613, 3), (207, .lor, 1), (208, .lstore 4, 2), (210, .lload 4, 2), (212, .lload 4, 2), (214, .ldc2_w 615, 3), (217, .land, 1), (218, .lconst 0, 1), (219, .lcmp, 1), (220, .ifCond .eq 11, 3), (223, .lload 8, 2)] = true := by decide +kernel
theorem dX1_joined_194 : decode cX1_joined 194 = .ok (.lcmp, 1) := zdec_at bX1_joined_194 0 rfl
theorem dX1_joined_195 : decode cX1_joined 195 = .ok (.ifCond .eq 15, 3) := zdec_at bX1_joined_194 1 rfl
theorem dX1_joined_198 : decode cX1_joined 198 = .ok (.lload 4, 2) := zdec_at bX1_joined_194 2 rfl
theorem dX1_joined_200 : decode cX1_joined 200 = .ok (.ldc2_w 621, 3) := zdec_at bX1_joined_194 3 rfl
theorem dX1_joined_203 : decode cX1_joined 203 = .ok (.land, 1) := zdec_at bX1_joined_194 4 rfl
theorem dX1_joined_204 : decode cX1_joined 204 = .ok (.ldc2_w 613, 3) := zdec_at bX1_joined_194 5 rfl
theorem dX1_joined_207 : decode cX1_joined 207 = .ok (.lor, 1) := zdec_at bX1_joined_194 6 rfl
theorem dX1_joined_208 : decode cX1_joined 208 = .ok (.lstore 4, 2) := zdec_at bX1_joined_194 7 rfl
theorem dX1_joined_210 : decode cX1_joined 210 = .ok (.lload 4, 2) := zdec_at bX1_joined_194 8 rfl
theorem dX1_joined_212 : decode cX1_joined 212 = .ok (.lload 4, 2) := zdec_at bX1_joined_194 9 rfl
theorem dX1_joined_214 : decode cX1_joined 214 = .ok (.ldc2_w 615, 3) := zdec_at bX1_joined_194 10 rfl
theorem dX1_joined_217 : decode cX1_joined 217 = .ok (.land, 1) := zdec_at bX1_joined_194 11 rfl
theorem dX1_joined_218 : decode cX1_joined 218 = .ok (.lconst 0, 1) := zdec_at bX1_joined_194 12 rfl
theorem dX1_joined_219 : decode cX1_joined 219 = .ok (.lcmp, 1) := zdec_at bX1_joined_194 13 rfl
theorem dX1_joined_220 : decode cX1_joined 220 = .ok (.ifCond .eq 11, 3) := zdec_at bX1_joined_194 14 rfl
theorem dX1_joined_223 : decode cX1_joined 223 = .ok (.lload 8, 2) := zdec_at bX1_joined_194 15 rfl
theorem bX1_joined_225 : zdec cX1_joined 225 [(225, .bipush 16, 2), (227, .lshl, 1), (228, .goto 4, 3), (231, .lconst 0, 1), (232, .lor, 1), (233, .lload 4, 2), (235, .ldc2_w 611, 3), (238, .land, 1), (239, .lconst 0, 1), (240, .lcmp, 1), (241, .ifCond .eq 11, 3), (244, .lload 6, 2), (246, .bipush 32, 2), (248, .lshl, 1), (249, .goto 4, 3), (252, .lconst 0, 1)] = true := by decide +kernel
theorem dX1_joined_225 : decode cX1_joined 225 = .ok (.bipush 16, 2) := zdec_at bX1_joined_225 0 rfl
theorem dX1_joined_227 : decode cX1_joined 227 = .ok (.lshl, 1) := zdec_at bX1_joined_225 1 rfl
theorem dX1_joined_228 : decode cX1_joined 228 = .ok (.goto 4, 3) := zdec_at bX1_joined_225 2 rfl
theorem dX1_joined_231 : decode cX1_joined 231 = .ok (.lconst 0, 1) := zdec_at bX1_joined_225 3 rfl
theorem dX1_joined_232 : decode cX1_joined 232 = .ok (.lor, 1) := zdec_at bX1_joined_225 4 rfl
theorem dX1_joined_233 : decode cX1_joined 233 = .ok (.lload 4, 2) := zdec_at bX1_joined_225 5 rfl
theorem dX1_joined_235 : decode cX1_joined 235 = .ok (.ldc2_w 611, 3) := zdec_at bX1_joined_225 6 rfl
theorem dX1_joined_238 : decode cX1_joined 238 = .ok (.land, 1) := zdec_at bX1_joined_225 7 rfl
theorem dX1_joined_239 : decode cX1_joined 239 = .ok (.lconst 0, 1) := zdec_at bX1_joined_225 8 rfl
theorem dX1_joined_240 : decode cX1_joined 240 = .ok (.lcmp, 1) := zdec_at bX1_joined_225 9 rfl
theorem dX1_joined_241 : decode cX1_joined 241 = .ok (.ifCond .eq 11, 3) := zdec_at bX1_joined_225 10 rfl
theorem dX1_joined_244 : decode cX1_joined 244 = .ok (.lload 6, 2) := zdec_at bX1_joined_225 11 rfl
theorem dX1_joined_246 : decode cX1_joined 246 = .ok (.bipush 32, 2) := zdec_at bX1_joined_225 12 rfl
theorem dX1_joined_248 : decode cX1_joined 248 = .ok (.lshl, 1) := zdec_at bX1_joined_225 13 rfl
theorem dX1_joined_249 : decode cX1_joined 249 = .ok (.goto 4, 3) := zdec_at bX1_joined_225 14 rfl
theorem dX1_joined_252 : decode cX1_joined 252 = .ok (.lconst 0, 1) := zdec_at bX1_joined_225 15 rfl
theorem bX1_joined_253 : zdec cX1_joined 253 [(253, .lor, 1), (254, .lreturn, 1)] = true := by decide +kernel
theorem dX1_joined_253 : decode cX1_joined 253 = .ok (.lor, 1) := zdec_at bX1_joined_253 0 rfl
theorem dX1_joined_254 : decode cX1_joined 254 = .ok (.lreturn, 1) := zdec_at bX1_joined_253 1 rfl
theorem sX1_joined_0 {E : zE} {d : Nat} {Q : zO → zM → Prop} (M : zM) (l0 : Int64) (l2 : Int64) (hw : cw M) (k : if (lg_cmp (((l0 ||| l2) &&& (1023 : Int64)) &&& (64 : Int64)) (0 : Int64)) = 0 then (if (lg_cmp (l0 &&& (32 : Int64)) (0 : Int64)) = 0 then (∀ x1_ : Int64, x1_ = (zlr l2 (32 : Int32)) → (Z E YX1_joined d M [(0, vl l0), (2, vl l2), (4, vl ((l0 ||| l2) &&& (1023 : Int64)))] 45 [vl x1_] Q)) else (∀ x1_ : Int64, x1_ = (zlr l0 (32 : Int32)) → (Z E YX1_joined d M [(0, vl l0), (2, vl l2), (4, vl ((l0 ||| l2) &&& (1023 : Int64)))] 45 [vl x1_] Q))) else (Z E YX1_joined d M [(0, vl l0), (2, vl l2), (4, vl ((l0 ||| l2) &&& (1023 : Int64)))] 45 [vl (0 : Int64)] Q)) : Z E YX1_joined d M [(0, vl l0), (2, vl l2)] 0 [] Q := by
  refine z_lload_n dX1_joined_0 rfl rfl ?_
  refine z_lload_n dX1_joined_1 rfl rfl ?_
  refine z_lor dX1_joined_2 ?_
  refine z_ldc2 (v := 1023) dX1_joined_3 q2566 ?_
  refine z_land dX1_joined_6 ?_
  refine z_lst dX1_joined_7 (by decide) (lv' := [(0, vl l0), (2, vl l2), (4, vl ((l0 ||| l2) &&& (1023 : Int64)))]) rfl ?_
  refine z_lload dX1_joined_9 rfl ?_
  refine z_ldc2 (v := 64) dX1_joined_11 q2567 ?_
  refine z_land dX1_joined_14 ?_
  refine z_lconst (v := 0) dX1_joined_15 rfl ?_
  refine z_lcmp dX1_joined_16 ?_
  refine z_if_eq (tgt := 24) dX1_joined_17 rfl (fun h_ => ?_) (fun h_ => ?_)
  · have k := zit h_ k
    refine z_lload_n dX1_joined_24 rfl rfl ?_
    refine z_ldc2 (v := 32) dX1_joined_25 q2568 ?_
    refine z_land dX1_joined_28 ?_
    refine z_lconst (v := 0) dX1_joined_29 rfl ?_
    refine z_lcmp dX1_joined_30 ?_
    refine z_if_eq (tgt := 41) dX1_joined_31 rfl (fun h_ => ?_) (fun h_ => ?_)
    · have k := zit h_ k
      refine z_lload_n dX1_joined_41 rfl rfl ?_
      refine z_bipush (v := 32) dX1_joined_42 rfl ?_
      refine z_lshr dX1_joined_44 ?_
      generalize hx1_ : zlr l2 (32 : Int32) = x1_
      have k := k x1_ hx1_.symm
      exact k
    · have k := zif h_ k
      refine z_lload_n dX1_joined_34 rfl rfl ?_
      refine z_bipush (v := 32) dX1_joined_35 rfl ?_
      refine z_lshr dX1_joined_37 ?_
      generalize hx1_ : zlr l0 (32 : Int32) = x1_
      have k := k x1_ hx1_.symm
      refine z_goto (tgt := 45) dX1_joined_38 rfl ?_
      exact k
  · have k := zif h_ k
    refine z_lconst (v := 0) dX1_joined_20 rfl ?_
    refine z_goto (tgt := 45) dX1_joined_21 rfl ?_
    exact k
theorem sX1_joined_45 {E : zE} {d : Nat} {Q : zO → zM → Prop} (M : zM) (l0 : Int64) (l2 : Int64) (l4 : Int64) (s0 : Int64) (hw : cw M) (k : if (lg_cmp (l4 &&& (256 : Int64)) (0 : Int64)) = 0 then (if (lg_cmp (l0 &&& (128 : Int64)) (0 : Int64)) = 0 then (Z E YX1_joined d M [(0, vl l0), (2, vl l2), (4, vl l4), (6, vl s0)] 84 [vl ((zlr l2 (16 : Int32)) &&& (65535 : Int64))] Q) else (Z E YX1_joined d M [(0, vl l0), (2, vl l2), (4, vl l4), (6, vl s0)] 84 [vl ((zlr l0 (16 : Int32)) &&& (65535 : Int64))] Q)) else (Z E YX1_joined d M [(0, vl l0), (2, vl l2), (4, vl l4), (6, vl s0)] 84 [vl (0 : Int64)] Q)) : Z E YX1_joined d M [(0, vl l0), (2, vl l2), (4, vl l4)] 45 [vl s0] Q := by
  refine z_lst dX1_joined_45 (by decide) (lv' := [(0, vl l0), (2, vl l2), (4, vl l4), (6, vl s0)]) rfl ?_
  refine z_lload dX1_joined_47 rfl ?_
  refine z_ldc2 (v := 256) dX1_joined_49 q2569 ?_
  refine z_land dX1_joined_52 ?_
  refine z_lconst (v := 0) dX1_joined_53 rfl ?_
  refine z_lcmp dX1_joined_54 ?_
  refine z_if_eq (tgt := 62) dX1_joined_55 rfl (fun h_ => ?_) (fun h_ => ?_)
  · have k := zit h_ k
    refine z_lload_n dX1_joined_62 rfl rfl ?_
    refine z_ldc2 (v := 128) dX1_joined_63 q2570 ?_
    refine z_land dX1_joined_66 ?_
    refine z_lconst (v := 0) dX1_joined_67 rfl ?_
    refine z_lcmp dX1_joined_68 ?_
    refine z_if_eq (tgt := 76) dX1_joined_69 rfl (fun h_ => ?_) (fun h_ => ?_)
    · have k := zit h_ k
      refine z_lload_n dX1_joined_76 rfl rfl ?_
      refine z_bipush (v := 16) dX1_joined_77 rfl ?_
      refine z_lshr dX1_joined_79 ?_
      refine z_ldc2 (v := 65535) dX1_joined_80 q2571 ?_
      refine z_land dX1_joined_83 ?_
      exact k
    · have k := zif h_ k
      refine z_lload_n dX1_joined_72 rfl rfl ?_
      refine z_goto (tgt := 77) dX1_joined_73 rfl ?_
      refine z_bipush (v := 16) dX1_joined_77 rfl ?_
      refine z_lshr dX1_joined_79 ?_
      refine z_ldc2 (v := 65535) dX1_joined_80 q2571 ?_
      refine z_land dX1_joined_83 ?_
      exact k
  · have k := zif h_ k
    refine z_lconst (v := 0) dX1_joined_58 rfl ?_
    refine z_goto (tgt := 84) dX1_joined_59 rfl ?_
    exact k
theorem sX1_joined_84 {E : zE} {d : Nat} {Q : zO → zM → Prop} (M : zM) (l0 : Int64) (l2 : Int64) (l4 : Int64) (l6 : Int64) (s0 : Int64) (hw : cw M) (k : if (lg_cmp (l4 &&& (64 : Int64)) (0 : Int64)) = 0 then (if (lg_cmp ((l0 &&& l2) &&& (32 : Int64)) (0 : Int64)) = 0 then (Z E YX1_joined d M [(0, vl l0), (2, vl l2), (4, vl l4), (6, vl l6), (8, vl s0)] 144 [] Q) else (∀ x1_ : Int64, x1_ = (zlr l0 (32 : Int32)) → (∀ x2_ : Int64, x2_ = (zlr l2 (32 : Int32)) → (if (lg_cmp x1_ x2_) = 0 then (Z E YX1_joined d M [(0, vl l0), (2, vl l2), (4, vl l4), (6, vl l6), (8, vl s0)] 144 [] Q) else (Z E YX1_joined d M [(0, vl l0), (2, vl l2), (4, vl ((l4 &&& (-33 : Int64)) ||| (64 : Int64))), (6, vl l6), (8, vl s0)] 144 [] Q))))) else (Z E YX1_joined d M [(0, vl l0), (2, vl l2), (4, vl (l4 &&& (-33 : Int64))), (6, vl l6), (8, vl s0)] 144 [] Q)) : Z E YX1_joined d M [(0, vl l0), (2, vl l2), (4, vl l4), (6, vl l6)] 84 [vl s0] Q := by
  refine z_lst dX1_joined_84 (by decide) (lv' := [(0, vl l0), (2, vl l2), (4, vl l4), (6, vl l6), (8, vl s0)]) rfl ?_
  refine z_lload dX1_joined_86 rfl ?_
  refine z_ldc2 (v := 64) dX1_joined_88 q2567 ?_
  refine z_land dX1_joined_91 ?_
  refine z_lconst (v := 0) dX1_joined_92 rfl ?_
  refine z_lcmp dX1_joined_93 ?_
  refine z_if_eq (tgt := 108) dX1_joined_94 rfl (fun h_ => ?_) (fun h_ => ?_)
  · have k := zit h_ k
    refine z_lload_n dX1_joined_108 rfl rfl ?_
    refine z_lload_n dX1_joined_109 rfl rfl ?_
    refine z_land dX1_joined_110 ?_
    refine z_ldc2 (v := 32) dX1_joined_111 q2568 ?_
    refine z_land dX1_joined_114 ?_
    refine z_lconst (v := 0) dX1_joined_115 rfl ?_
    refine z_lcmp dX1_joined_116 ?_
    refine z_if_eq (tgt := 144) dX1_joined_117 rfl (fun h_ => ?_) (fun h_ => ?_)
    · have k := zit h_ k
      exact k
    · have k := zif h_ k
      refine z_lload_n dX1_joined_120 rfl rfl ?_
      refine z_bipush (v := 32) dX1_joined_121 rfl ?_
      refine z_lshr dX1_joined_123 ?_
      generalize hx1_ : zlr l0 (32 : Int32) = x1_
      have k := k x1_ hx1_.symm
      refine z_lload_n dX1_joined_124 rfl rfl ?_
      refine z_bipush (v := 32) dX1_joined_125 rfl ?_
      refine z_lshr dX1_joined_127 ?_
      generalize hx2_ : zlr l2 (32 : Int32) = x2_
      have k := k x2_ hx2_.symm
      refine z_lcmp dX1_joined_128 ?_
      refine z_if_eq (tgt := 144) dX1_joined_129 rfl (fun h_ => ?_) (fun h_ => ?_)
      · have k := zit h_ k
        exact k
      · have k := zif h_ k
        refine z_lload dX1_joined_132 rfl ?_
        refine z_ldc2 (v := -33) dX1_joined_134 q2572 ?_
        refine z_land dX1_joined_137 ?_
        refine z_ldc2 (v := 64) dX1_joined_138 q2567 ?_
        refine z_lor dX1_joined_141 ?_
        refine z_lst dX1_joined_142 (by decide) (lv' := [(0, vl l0), (2, vl l2), (4, vl ((l4 &&& (-33 : Int64)) ||| (64 : Int64))), (6, vl l6), (8, vl s0)]) rfl ?_
        exact k
  · have k := zif h_ k
    refine z_lload dX1_joined_97 rfl ?_
    refine z_ldc2 (v := -33) dX1_joined_99 q2572 ?_
    refine z_land dX1_joined_102 ?_
    refine z_lst dX1_joined_103 (by decide) (lv' := [(0, vl l0), (2, vl l2), (4, vl (l4 &&& (-33 : Int64))), (6, vl l6), (8, vl s0)]) rfl ?_
    refine z_goto (tgt := 144) dX1_joined_105 rfl ?_
    exact k
theorem sX1_joined_144 {E : zE} {d : Nat} {Q : zO → zM → Prop} (M : zM) (l0 : Int64) (l2 : Int64) (l4 : Int64) (l6 : Int64) (l8 : Int64) (hw : cw M) (k : if (lg_cmp (l4 &&& (256 : Int64)) (0 : Int64)) = 0 then (if (lg_cmp ((l0 &&& l2) &&& (128 : Int64)) (0 : Int64)) = 0 then (Z E YX1_joined d M [(4, vl l4), (6, vl l6), (8, vl l8)] 210 [] Q) else (if (lg_cmp ((zlr l0 (16 : Int32)) &&& (65535 : Int64)) ((zlr l2 (16 : Int32)) &&& (65535 : Int64))) = 0 then (Z E YX1_joined d M [(4, vl l4), (6, vl l6), (8, vl l8)] 210 [] Q) else (Z E YX1_joined d M [(4, vl ((l4 &&& (-129 : Int64)) ||| (256 : Int64))), (6, vl l6), (8, vl l8)] 210 [] Q))) else (Z E YX1_joined d M [(4, vl (l4 &&& (-129 : Int64))), (6, vl l6), (8, vl l8)] 210 [] Q)) : Z E YX1_joined d M [(0, vl l0), (2, vl l2), (4, vl l4), (6, vl l6), (8, vl l8)] 144 [] Q := by
  refine z_lload dX1_joined_144 rfl ?_
  refine z_ldc2 (v := 256) dX1_joined_146 q2569 ?_
  refine z_land dX1_joined_149 ?_
  refine z_lconst (v := 0) dX1_joined_150 rfl ?_
  refine z_lcmp dX1_joined_151 ?_
  refine z_if_eq (tgt := 166) dX1_joined_152 rfl (fun h_ => ?_) (fun h_ => ?_)
  · have k := zit h_ k
    refine z_lload_n dX1_joined_166 rfl rfl ?_
    refine z_lload_n dX1_joined_167 rfl rfl ?_
    refine z_land dX1_joined_168 ?_
    refine z_ldc2 (v := 128) dX1_joined_169 q2570 ?_
    refine z_land dX1_joined_172 ?_
    refine z_lconst (v := 0) dX1_joined_173 rfl ?_
    refine z_lcmp dX1_joined_174 ?_
    refine z_if_eq (tgt := 210) dX1_joined_175 rfl (fun h_ => ?_) (fun h_ => ?_)
    · have k := zit h_ k
      refine Z.pick [2, 3, 4] rfl ?_
      exact k
    · have k := zif h_ k
      refine z_lload_n dX1_joined_178 rfl rfl ?_
      refine z_bipush (v := 16) dX1_joined_179 rfl ?_
      refine z_lshr dX1_joined_181 ?_
      refine z_ldc2 (v := 65535) dX1_joined_182 q2571 ?_
      refine z_land dX1_joined_185 ?_
      refine z_lload_n dX1_joined_186 rfl rfl ?_
      refine z_bipush (v := 16) dX1_joined_187 rfl ?_
      refine z_lshr dX1_joined_189 ?_
      refine z_ldc2 (v := 65535) dX1_joined_190 q2571 ?_
      refine z_land dX1_joined_193 ?_
      refine z_lcmp dX1_joined_194 ?_
      refine z_if_eq (tgt := 210) dX1_joined_195 rfl (fun h_ => ?_) (fun h_ => ?_)
      · have k := zit h_ k
        refine Z.pick [2, 3, 4] rfl ?_
        exact k
      · have k := zif h_ k
        refine z_lload dX1_joined_198 rfl ?_
        refine z_ldc2 (v := -129) dX1_joined_200 q2573 ?_
        refine z_land dX1_joined_203 ?_
        refine z_ldc2 (v := 256) dX1_joined_204 q2569 ?_
        refine z_lor dX1_joined_207 ?_
        refine z_lst dX1_joined_208 (by decide) (lv' := [(0, vl l0), (2, vl l2), (4, vl ((l4 &&& (-129 : Int64)) ||| (256 : Int64))), (6, vl l6), (8, vl l8)]) rfl ?_
        refine Z.pick [2, 3, 4] rfl ?_
        exact k
  · have k := zif h_ k
    refine z_lload dX1_joined_155 rfl ?_
    refine z_ldc2 (v := -129) dX1_joined_157 q2573 ?_
    refine z_land dX1_joined_160 ?_
    refine z_lst dX1_joined_161 (by decide) (lv' := [(0, vl l0), (2, vl l2), (4, vl (l4 &&& (-129 : Int64))), (6, vl l6), (8, vl l8)]) rfl ?_
    refine z_goto (tgt := 210) dX1_joined_163 rfl ?_
    refine Z.pick [2, 3, 4] rfl ?_
    exact k
theorem sX1_joined_210 {E : zE} {d : Nat} {Q : zO → zM → Prop} (M : zM) (l4 : Int64) (l6 : Int64) (l8 : Int64) (hw : cw M) (k : if (lg_cmp (l4 &&& (128 : Int64)) (0 : Int64)) = 0 then (Z E YX1_joined d M [(4, vl l4), (6, vl l6)] 232 [vl (0 : Int64), vl l4] Q) else (Z E YX1_joined d M [(4, vl l4), (6, vl l6)] 232 [vl (zls l8 (16 : Int32)), vl l4] Q)) : Z E YX1_joined d M [(4, vl l4), (6, vl l6), (8, vl l8)] 210 [] Q := by
  refine z_lload dX1_joined_210 rfl ?_
  refine z_lload dX1_joined_212 rfl ?_
  refine z_ldc2 (v := 128) dX1_joined_214 q2570 ?_
  refine z_land dX1_joined_217 ?_
  refine z_lconst (v := 0) dX1_joined_218 rfl ?_
  refine z_lcmp dX1_joined_219 ?_
  refine z_if_eq (tgt := 231) dX1_joined_220 rfl (fun h_ => ?_) (fun h_ => ?_)
  · have k := zit h_ k
    refine z_lconst (v := 0) dX1_joined_231 rfl ?_
    refine Z.pick [0, 1] rfl ?_
    exact k
  · have k := zif h_ k
    refine z_lload dX1_joined_223 rfl ?_
    refine z_bipush (v := 16) dX1_joined_225 rfl ?_
    refine z_lshl dX1_joined_227 ?_
    refine z_goto (tgt := 232) dX1_joined_228 rfl ?_
    refine Z.pick [0, 1] rfl ?_
    exact k
theorem sX1_joined_232 {E : zE} {d : Nat} {Q : zO → zM → Prop} (M : zM) (l4 : Int64) (l6 : Int64) (s0 : Int64) (s1 : Int64) (hw : cw M) (k : if (lg_cmp (l4 &&& (32 : Int64)) (0 : Int64)) = 0 then (Q (.inl (some (vl ((s1 ||| s0) ||| (0 : Int64))))) M) else (∀ x1_ : Int64, x1_ = (zls l6 (32 : Int32)) → (Q (.inl (some (vl ((s1 ||| s0) ||| x1_)))) M))) : Z E YX1_joined d M [(4, vl l4), (6, vl l6)] 232 [vl s0, vl s1] Q := by
  refine z_lor dX1_joined_232 ?_
  refine z_lload dX1_joined_233 rfl ?_
  refine z_ldc2 (v := 32) dX1_joined_235 q2568 ?_
  refine z_land dX1_joined_238 ?_
  refine z_lconst (v := 0) dX1_joined_239 rfl ?_
  refine z_lcmp dX1_joined_240 ?_
  refine z_if_eq (tgt := 252) dX1_joined_241 rfl (fun h_ => ?_) (fun h_ => ?_)
  · have k := zit h_ k
    refine z_lconst (v := 0) dX1_joined_252 rfl ?_
    refine z_lor dX1_joined_253 ?_
    exact z_lret dX1_joined_254 rfl k
  · have k := zif h_ k
    refine z_lload dX1_joined_244 rfl ?_
    refine z_bipush (v := 32) dX1_joined_246 rfl ?_
    refine z_lshl dX1_joined_248 ?_
    generalize hx1_ : zls l6 (32 : Int32) = x1_
    have k := k x1_ hx1_.symm
    refine z_goto (tgt := 253) dX1_joined_249 rfl ?_
    refine z_lor dX1_joined_253 ?_
    exact z_lret dX1_joined_254 rfl k
/-! ScriptTypes.field(IIII)J -/
theorem bX1_field_0 : zdec cX1_field 0 [(0, .aload_n 0, 1), (1, .iload_n 1, 1), (2, .invokevirtual 1113, 3), (5, .ifCond .eq 27, 3), (8, .iload_n 2, 1), (9, .ifCond .lt 23, 3), (12, .iload_n 2, 1), (13, .aload_n 0, 1), (14, .getfield 313, 3), (17, .if_icmp .ge 15, 3), (20, .iload_n 3, 1), (21, .ifCond .lt 11, 3), (24, .iload_n 3, 1), (25, .aload_n 0, 1), (26, .getfield 58, 3), (29, .if_icmp .le 5, 3)] = true := by decide +kernel
theorem dX1_field_0 : decode cX1_field 0 = .ok (.aload_n 0, 1) := zdec_at bX1_field_0 0 rfl
theorem dX1_field_1 : decode cX1_field 1 = .ok (.iload_n 1, 1) := zdec_at bX1_field_0 1 rfl
theorem dX1_field_2 : decode cX1_field 2 = .ok (.invokevirtual 1113, 3) := zdec_at bX1_field_0 2 rfl
theorem dX1_field_5 : decode cX1_field 5 = .ok (.ifCond .eq 27, 3) := zdec_at bX1_field_0 3 rfl
theorem dX1_field_8 : decode cX1_field 8 = .ok (.iload_n 2, 1) := zdec_at bX1_field_0 4 rfl
theorem dX1_field_9 : decode cX1_field 9 = .ok (.ifCond .lt 23, 3) := zdec_at bX1_field_0 5 rfl
theorem dX1_field_12 : decode cX1_field 12 = .ok (.iload_n 2, 1) := zdec_at bX1_field_0 6 rfl
theorem dX1_field_13 : decode cX1_field 13 = .ok (.aload_n 0, 1) := zdec_at bX1_field_0 7 rfl
theorem dX1_field_14 : decode cX1_field 14 = .ok (.getfield 313, 3) := zdec_at bX1_field_0 8 rfl
theorem dX1_field_17 : decode cX1_field 17 = .ok (.if_icmp .ge 15, 3) := zdec_at bX1_field_0 9 rfl
theorem dX1_field_20 : decode cX1_field 20 = .ok (.iload_n 3, 1) := zdec_at bX1_field_0 10 rfl
theorem dX1_field_21 : decode cX1_field 21 = .ok (.ifCond .lt 11, 3) := zdec_at bX1_field_0 11 rfl
theorem dX1_field_24 : decode cX1_field 24 = .ok (.iload_n 3, 1) := zdec_at bX1_field_0 12 rfl
theorem dX1_field_25 : decode cX1_field 25 = .ok (.aload_n 0, 1) := zdec_at bX1_field_0 13 rfl
theorem dX1_field_26 : decode cX1_field 26 = .ok (.getfield 58, 3) := zdec_at bX1_field_0 14 rfl
theorem dX1_field_29 : decode cX1_field 29 = .ok (.if_icmp .le 5, 3) := zdec_at bX1_field_0 15 rfl
theorem bX1_field_32 : zdec cX1_field 32 [(32, .lconst 0, 1), (33, .lreturn, 1), (34, .iload_n 1, 1), (35, .aload_n 0, 1), (36, .getfield 313, 3), (39, .imul, 1), (40, .iload_n 2, 1), (41, .iadd, 1), (42, .aload_n 0, 1), (43, .getfield 58, 3), (46, .iconst 1, 1), (47, .iadd, 1), (48, .imul, 1), (49, .iload_n 3, 1), (50, .iadd, 1), (51, .istore 5, 2)] = true := by decide +kernel
theorem dX1_field_32 : decode cX1_field 32 = .ok (.lconst 0, 1) := zdec_at bX1_field_32 0 rfl
theorem dX1_field_33 : decode cX1_field 33 = .ok (.lreturn, 1) := zdec_at bX1_field_32 1 rfl
theorem dX1_field_34 : decode cX1_field 34 = .ok (.iload_n 1, 1) := zdec_at bX1_field_32 2 rfl
theorem dX1_field_35 : decode cX1_field 35 = .ok (.aload_n 0, 1) := zdec_at bX1_field_32 3 rfl
theorem dX1_field_36 : decode cX1_field 36 = .ok (.getfield 313, 3) := zdec_at bX1_field_32 4 rfl
theorem dX1_field_39 : decode cX1_field 39 = .ok (.imul, 1) := zdec_at bX1_field_32 5 rfl
theorem dX1_field_40 : decode cX1_field 40 = .ok (.iload_n 2, 1) := zdec_at bX1_field_32 6 rfl
theorem dX1_field_41 : decode cX1_field 41 = .ok (.iadd, 1) := zdec_at bX1_field_32 7 rfl
theorem dX1_field_42 : decode cX1_field 42 = .ok (.aload_n 0, 1) := zdec_at bX1_field_32 8 rfl
theorem dX1_field_43 : decode cX1_field 43 = .ok (.getfield 58, 3) := zdec_at bX1_field_32 9 rfl
theorem dX1_field_46 : decode cX1_field 46 = .ok (.iconst 1, 1) := zdec_at bX1_field_32 10 rfl
theorem dX1_field_47 : decode cX1_field 47 = .ok (.iadd, 1) := zdec_at bX1_field_32 11 rfl
theorem dX1_field_48 : decode cX1_field 48 = .ok (.imul, 1) := zdec_at bX1_field_32 12 rfl
theorem dX1_field_49 : decode cX1_field 49 = .ok (.iload_n 3, 1) := zdec_at bX1_field_32 13 rfl
theorem dX1_field_50 : decode cX1_field 50 = .ok (.iadd, 1) := zdec_at bX1_field_32 14 rfl
theorem dX1_field_51 : decode cX1_field 51 = .ok (.istore 5, 2) := zdec_at bX1_field_32 15 rfl
theorem bX1_field_53 : zdec cX1_field 53 [(53, .aload_n 0, 1), (54, .getfield 206, 3), (57, .aload_n 0, 1), (58, .getfield 674, 3), (61, .getfield 1124, 3), (64, .iload 5, 2), (66, .laload, 1), (67, .invokevirtual 892, 3), (70, .aload_n 0, 1), (71, .getfield 674, 3), (74, .getfield 1125, 3), (77, .iload 5, 2), (79, .laload, 1), (80, .aload_n 0, 1), (81, .getfield 674, 3), (84, .getfield 1126, 3)] = true := by decide +kernel
theorem dX1_field_53 : decode cX1_field 53 = .ok (.aload_n 0, 1) := zdec_at bX1_field_53 0 rfl
theorem dX1_field_54 : decode cX1_field 54 = .ok (.getfield 206, 3) := zdec_at bX1_field_53 1 rfl
theorem dX1_field_57 : decode cX1_field 57 = .ok (.aload_n 0, 1) := zdec_at bX1_field_53 2 rfl
theorem dX1_field_58 : decode cX1_field 58 = .ok (.getfield 674, 3) := zdec_at bX1_field_53 3 rfl
theorem dX1_field_61 : decode cX1_field 61 = .ok (.getfield 1124, 3) := zdec_at bX1_field_53 4 rfl
theorem dX1_field_64 : decode cX1_field 64 = .ok (.iload 5, 2) := zdec_at bX1_field_53 5 rfl
theorem dX1_field_66 : decode cX1_field 66 = .ok (.laload, 1) := zdec_at bX1_field_53 6 rfl
theorem dX1_field_67 : decode cX1_field 67 = .ok (.invokevirtual 892, 3) := zdec_at bX1_field_53 7 rfl
theorem dX1_field_70 : decode cX1_field 70 = .ok (.aload_n 0, 1) := zdec_at bX1_field_53 8 rfl
theorem dX1_field_71 : decode cX1_field 71 = .ok (.getfield 674, 3) := zdec_at bX1_field_53 9 rfl
theorem dX1_field_74 : decode cX1_field 74 = .ok (.getfield 1125, 3) := zdec_at bX1_field_53 10 rfl
theorem dX1_field_77 : decode cX1_field 77 = .ok (.iload 5, 2) := zdec_at bX1_field_53 11 rfl
theorem dX1_field_79 : decode cX1_field 79 = .ok (.laload, 1) := zdec_at bX1_field_53 12 rfl
theorem dX1_field_80 : decode cX1_field 80 = .ok (.aload_n 0, 1) := zdec_at bX1_field_53 13 rfl
theorem dX1_field_81 : decode cX1_field 81 = .ok (.getfield 674, 3) := zdec_at bX1_field_53 14 rfl
theorem dX1_field_84 : decode cX1_field 84 = .ok (.getfield 1126, 3) := zdec_at bX1_field_53 15 rfl
theorem bX1_field_87 : zdec cX1_field 87 [(87, .iload 5, 2), (89, .laload, 1), (90, .lconst 0, 1), (91, .invokevirtual 871, 3), (94, .iload 4, 2), (96, .invokevirtual 1122, 3), (99, .lreturn, 1)] = true := by decide +kernel
theorem dX1_field_87 : decode cX1_field 87 = .ok (.iload 5, 2) := zdec_at bX1_field_87 0 rfl
theorem dX1_field_89 : decode cX1_field 89 = .ok (.laload, 1) := zdec_at bX1_field_87 1 rfl
theorem dX1_field_90 : decode cX1_field 90 = .ok (.lconst 0, 1) := zdec_at bX1_field_87 2 rfl
theorem dX1_field_91 : decode cX1_field 91 = .ok (.invokevirtual 871, 3) := zdec_at bX1_field_87 3 rfl
theorem dX1_field_94 : decode cX1_field 94 = .ok (.iload 4, 2) := zdec_at bX1_field_87 4 rfl
theorem dX1_field_96 : decode cX1_field 96 = .ok (.invokevirtual 1122, 3) := zdec_at bX1_field_87 5 rfl
theorem dX1_field_99 : decode cX1_field 99 = .ok (.lreturn, 1) := zdec_at bX1_field_87 6 rfl
theorem sX1_field_0 {E : zE} {d : Nat} {Q : zO → zM → Prop} (M : zM) (l1 : Int32) (l2 : Int32) (l3 : Int32) (l4 : Int32) (hw : cw M) (k : Z E YX1_isReached d M (zargs 0 [vr (some (16, 0, 0)), vi l1]) 0 [] (zafter E YX1_field (d + 1) [(0, vr (some (16, 0, 0))), (1, vi l1), (2, vi l2), (3, vi l3), (4, vi l4)] 2 3 [] Q)) : Z E YX1_field (d + 1) M [(0, vr (some (16, 0, 0))), (1, vi l1), (2, vi l2), (3, vi l3), (4, vi l4)] 0 [] Q := by
  refine z_aload_n dX1_field_0 rfl rfl ?_
  refine z_iload_n dX1_field_1 rfl rfl ?_
  exact z_callV (as := [vi l1]) (st := []) dX1_field_2 vsX1_1113_0 (Nat.le_refl _) (Nat.le_of_ble_eq_true rfl) (Nat.le_of_ble_eq_true rfl) rfl k
theorem sX1_field_5 {E : zE} {d : Nat} {Q : zO → zM → Prop} (M : zM) (l1 : Int32) (l2 : Int32) (l3 : Int32) (l4 : Int32) (s0 : Int32) (hw : cw M) (k : if s0 = 0 then (Q (.inl (some (vl (0 : Int64)))) M) else (if l2 < 0 then (Q (.inl (some (vl (0 : Int64)))) M) else (if (gi M 16 11) ≤ l2 then (Q (.inl (some (vl (0 : Int64)))) M) else (if l3 < 0 then (Q (.inl (some (vl (0 : Int64)))) M) else (if l3 ≤ (gi M 16 1) then (∃ b1 : Nat, (gr M 16 59) = some (b1, 6, 0) ∧ (∃ b2 m2 : Nat, (gr M b1 3) = some (b2, 105, m2) ∧ (vp_in ((((l1 * (gi M 16 11)) + l2) * ((gi M 16 1) + (1 : Int32))) + l3) m2 ∧ (Z E YX6_of d M (zargs 0 [vr (some (71, 4, 0)), vl (gl M b2 (((((l1 * (gi M 16 11)) + l2) * ((gi M 16 1) + (1 : Int32))) + l3)).toNatClampNeg)]) 0 [] (zafter E YX1_field (d + 1) [(0, vr (some (16, 0, 0))), (4, vi l4), (5, vi ((((l1 * (gi M 16 11)) + l2) * ((gi M 16 1) + (1 : Int32))) + l3))] 67 3 [] Q))))) else (Q (.inl (some (vl (0 : Int64)))) M)))))) : Z E YX1_field (d + 1) M [(0, vr (some (16, 0, 0))), (1, vi l1), (2, vi l2), (3, vi l3), (4, vi l4)] 5 [vi s0] Q := by
  refine z_if_eq (tgt := 32) dX1_field_5 rfl (fun h_ => ?_) (fun h_ => ?_)
  · have k := zit h_ k
    refine z_lconst (v := 0) dX1_field_32 rfl ?_
    exact z_lret dX1_field_33 rfl k
  · have k := zif h_ k
    refine z_iload_n dX1_field_8 rfl rfl ?_
    refine z_if_lt (tgt := 32) dX1_field_9 rfl (fun h_ => ?_) (fun h_ => ?_)
    · have k := zit h_ k
      refine z_lconst (v := 0) dX1_field_32 rfl ?_
      exact z_lret dX1_field_33 rfl k
    · have k := zif h_ k
      refine z_iload_n dX1_field_12 rfl rfl ?_
      refine z_aload_n dX1_field_13 rfl rfl ?_
      refine z_geti dX1_field_14 fsX1_313_0 ?_
      refine z_icmp_ge (tgt := 32) dX1_field_17 rfl (fun h_ => ?_) (fun h_ => ?_)
      · have k := zit h_ k
        refine z_lconst (v := 0) dX1_field_32 rfl ?_
        exact z_lret dX1_field_33 rfl k
      · have k := zif h_ k
        refine z_iload_n dX1_field_20 rfl rfl ?_
        refine z_if_lt (tgt := 32) dX1_field_21 rfl (fun h_ => ?_) (fun h_ => ?_)
        · have k := zit h_ k
          refine z_lconst (v := 0) dX1_field_32 rfl ?_
          exact z_lret dX1_field_33 rfl k
        · have k := zif h_ k
          refine z_iload_n dX1_field_24 rfl rfl ?_
          refine z_aload_n dX1_field_25 rfl rfl ?_
          refine z_geti dX1_field_26 fsX1_58_0 ?_
          refine z_icmp_le (tgt := 34) dX1_field_29 rfl (fun h_ => ?_) (fun h_ => ?_)
          · have k := zit h_ k
            refine z_iload_n dX1_field_34 rfl rfl ?_
            refine z_aload_n dX1_field_35 rfl rfl ?_
            refine z_geti dX1_field_36 fsX1_313_0 ?_
            refine z_imul dX1_field_39 ?_
            refine z_iload_n dX1_field_40 rfl rfl ?_
            refine z_iadd dX1_field_41 ?_
            refine z_aload_n dX1_field_42 rfl rfl ?_
            refine z_geti dX1_field_43 fsX1_58_0 ?_
            refine z_iconst (v := 1) dX1_field_46 rfl ?_
            refine z_iadd dX1_field_47 ?_
            refine z_imul dX1_field_48 ?_
            refine z_iload_n dX1_field_49 rfl rfl ?_
            refine z_iadd dX1_field_50 ?_
            refine z_ist dX1_field_51 (by decide) (lv' := [(0, vr (some (16, 0, 0))), (1, vi l1), (2, vi l2), (3, vi l3), (4, vi l4), (5, vi ((((l1 * (gi M 16 11)) + l2) * ((gi M 16 1) + (1 : Int32))) + l3))]) rfl ?_
            refine z_aload_n dX1_field_53 rfl rfl ?_
            refine z_getr dX1_field_54 fsX1_206_0 (show gr M 16 78 = some (71, 4, 0) from cw_at hw 39 rfl) ?_
            refine z_aload_n dX1_field_57 rfl rfl ?_
            refine z_getr (r := (gr M 16 59)) dX1_field_58 fsX1_674_0 rfl ?_
            obtain ⟨b1, e1_, k⟩ := k
            refine Z.eqs (lv' := [(0, vr (some (16, 0, 0))), (1, vi l1), (2, vi l2), (3, vi l3), (4, vi l4), (5, vi ((((l1 * (gi M 16 11)) + l2) * ((gi M 16 1) + (1 : Int32))) + l3))]) (st' := [vr (some (b1, 6, 0)), vr (some (71, 4, 0))]) rfl (by rw [e1_] <;> rfl) ?_
            refine z_getr (r := (gr M b1 3)) dX1_field_61 fsX1_1124_6 rfl ?_
            refine z_iload dX1_field_64 rfl ?_
            obtain ⟨b2, m2, e2_, k⟩ := k
            refine Z.eqs (lv' := [(0, vr (some (16, 0, 0))), (1, vi l1), (2, vi l2), (3, vi l3), (4, vi l4), (5, vi ((((l1 * (gi M 16 11)) + l2) * ((gi M 16 1) + (1 : Int32))) + l3))]) (st' := [vi ((((l1 * (gi M 16 11)) + l2) * ((gi M 16 1) + (1 : Int32))) + l3), vr (some (b2, 105, m2)), vr (some (71, 4, 0))]) rfl (by rw [e2_] <;> rfl) ?_
            obtain ⟨b_, k⟩ := k
            refine z_lald dX1_field_66 b_ ?_
            refine Z.pick [0, 4, 5] rfl ?_
            exact z_callV (as := [vl (gl M b2 (((((l1 * (gi M 16 11)) + l2) * ((gi M 16 1) + (1 : Int32))) + l3)).toNatClampNeg)]) (st := []) dX1_field_67 vsX1_892_4 (Nat.le_refl _) (Nat.le_of_ble_eq_true rfl) (Nat.le_of_ble_eq_true rfl) rfl k
          · have k := zif h_ k
            refine z_lconst (v := 0) dX1_field_32 rfl ?_
            exact z_lret dX1_field_33 rfl k
theorem sX1_field_70 {E : zE} {d : Nat} {Q : zO → zM → Prop} (M : zM) (l4 : Int32) (l5 : Int32) (u0 : Option zP) (hw : cw M) (k : ∃ b1 : Nat, (gr M 16 59) = some (b1, 6, 0) ∧ (∃ b2 m2 : Nat, (gr M b1 1) = some (b2, 105, m2) ∧ (vp_in l5 m2 ∧ (∃ b3 : Nat, (gr M 16 59) = some (b3, 6, 0) ∧ (∃ b4 m4 : Nat, (gr M b3 2) = some (b4, 105, m4) ∧ (vp_in l5 m4 ∧ (∃ b5 : Nat, u0 = some (b5, 4, 0) ∧ (Z E YX6_join3 d M (zargs 0 [vr (some (b5, 4, 0)), vl (gl M b2 (l5).toNatClampNeg), vl (gl M b4 (l5).toNatClampNeg), vl (0 : Int64)]) 0 [] (zafter E YX1_field (d + 1) [(4, vi l4)] 91 3 [] Q))))))))) : Z E YX1_field (d + 1) M [(0, vr (some (16, 0, 0))), (4, vi l4), (5, vi l5)] 70 [vr u0] Q := by
  refine z_aload_n dX1_field_70 rfl rfl ?_
  refine z_getr (r := (gr M 16 59)) dX1_field_71 fsX1_674_0 rfl ?_
  obtain ⟨b1, e1_, k⟩ := k
  refine Z.eqs (lv' := [(0, vr (some (16, 0, 0))), (4, vi l4), (5, vi l5)]) (st' := [vr (some (b1, 6, 0)), vr u0]) rfl (by rw [e1_] <;> rfl) ?_
  refine z_getr (r := (gr M b1 1)) dX1_field_74 fsX1_1125_6 rfl ?_
  refine z_iload dX1_field_77 rfl ?_
  obtain ⟨b2, m2, e2_, k⟩ := k
  refine Z.eqs (lv' := [(0, vr (some (16, 0, 0))), (4, vi l4), (5, vi l5)]) (st' := [vi l5, vr (some (b2, 105, m2)), vr u0]) rfl (by rw [e2_] <;> rfl) ?_
  obtain ⟨b_, k⟩ := k
  refine z_lald dX1_field_79 b_ ?_
  refine z_aload_n dX1_field_80 rfl rfl ?_
  refine z_getr (r := (gr M 16 59)) dX1_field_81 fsX1_674_0 rfl ?_
  obtain ⟨b3, e3_, k⟩ := k
  refine Z.eqs (lv' := [(0, vr (some (16, 0, 0))), (4, vi l4), (5, vi l5)]) (st' := [vr (some (b3, 6, 0)), vl (gl M b2 (l5).toNatClampNeg), vr u0]) rfl (by rw [e3_] <;> rfl) ?_
  refine z_getr (r := (gr M b3 2)) dX1_field_84 fsX1_1126_6 rfl ?_
  refine z_iload dX1_field_87 rfl ?_
  obtain ⟨b4, m4, e4_, k⟩ := k
  refine Z.eqs (lv' := [(0, vr (some (16, 0, 0))), (4, vi l4), (5, vi l5)]) (st' := [vi l5, vr (some (b4, 105, m4)), vl (gl M b2 (l5).toNatClampNeg), vr u0]) rfl (by rw [e4_] <;> rfl) ?_
  obtain ⟨b_, k⟩ := k
  refine z_lald dX1_field_89 b_ ?_
  refine z_lconst (v := 0) dX1_field_90 rfl ?_
  obtain ⟨b5, e5_, k⟩ := k
  refine Z.eqs (lv' := [(0, vr (some (16, 0, 0))), (4, vi l4), (5, vi l5)]) (st' := [vl (0 : Int64), vl (gl M b4 (l5).toNatClampNeg), vl (gl M b2 (l5).toNatClampNeg), vr (some (b5, 4, 0))]) rfl (by rw [e5_] <;> rfl) ?_
  refine Z.pick [1] rfl ?_
  exact z_callV (as := [vl (gl M b2 (l5).toNatClampNeg), vl (gl M b4 (l5).toNatClampNeg), vl (0 : Int64)]) (st := []) dX1_field_91 vsX1_871_4 (Nat.le_refl _) (Nat.le_of_ble_eq_true rfl) (Nat.le_of_ble_eq_true rfl) rfl k
theorem sX1_field_94 {E : zE} {d : Nat} {Q : zO → zM → Prop} (M : zM) (l4 : Int32) (u0 : Option zP) (hw : cw M) (k : ∃ b1 : Nat, u0 = some (b1, 4, 0) ∧ (Z E YX6_told d M (zargs 0 [vr (some (b1, 4, 0)), vi l4]) 0 [] (zafter E YX1_field (d + 1) [] 96 3 [] Q))) : Z E YX1_field (d + 1) M [(4, vi l4)] 94 [vr u0] Q := by
  refine z_iload dX1_field_94 rfl ?_
  obtain ⟨b1, e1_, k⟩ := k
  refine Z.eqs (lv' := [(4, vi l4)]) (st' := [vi l4, vr (some (b1, 4, 0))]) rfl (by rw [e1_] <;> rfl) ?_
  refine Z.pick [] rfl ?_
  exact z_callV (as := [vi l4]) (st := []) dX1_field_96 vsX1_1122_4 (Nat.le_refl _) (Nat.le_of_ble_eq_true rfl) (Nat.le_of_ble_eq_true rfl) rfl k
theorem sX1_field_99 {E : zE} {d : Nat} {Q : zO → zM → Prop} (M : zM) (s0 : Int64) (hw : cw M) (k : Q (.inl (some (vl s0))) M) : Z E YX1_field (d + 1) M [] 99 [vl s0] Q := by
  exact z_lret dX1_field_99 rfl k
/-! ScriptTypes.link(III)J -/
theorem bX1_link_0 : zdec cX1_link 0 [(0, .aload_n 0, 1), (1, .iload_n 1, 1), (2, .invokevirtual 1113, 3), (5, .ifCond .eq 16, 3), (8, .iload_n 2, 1), (9, .iconst (-1), 1), (10, .if_icmp .lt 11, 3), (13, .iload_n 2, 1), (14, .aload_n 0, 1), (15, .getfield 313, 3), (18, .if_icmp .lt 5, 3), (21, .lconst 0, 1), (22, .lreturn, 1), (23, .iload_n 2, 1), (24, .iconst (-1), 1), (25, .if_icmp .ne 39, 3)] = true := by decide +kernel
theorem dX1_link_0 : decode cX1_link 0 = .ok (.aload_n 0, 1) := zdec_at bX1_link_0 0 rfl
theorem dX1_link_1 : decode cX1_link 1 = .ok (.iload_n 1, 1) := zdec_at bX1_link_0 1 rfl
theorem dX1_link_2 : decode cX1_link 2 = .ok (.invokevirtual 1113, 3) := zdec_at bX1_link_0 2 rfl
theorem dX1_link_5 : decode cX1_link 5 = .ok (.ifCond .eq 16, 3) := zdec_at bX1_link_0 3 rfl
theorem dX1_link_8 : decode cX1_link 8 = .ok (.iload_n 2, 1) := zdec_at bX1_link_0 4 rfl
theorem dX1_link_9 : decode cX1_link 9 = .ok (.iconst (-1), 1) := zdec_at bX1_link_0 5 rfl
theorem dX1_link_10 : decode cX1_link 10 = .ok (.if_icmp .lt 11, 3) := zdec_at bX1_link_0 6 rfl
theorem dX1_link_13 : decode cX1_link 13 = .ok (.iload_n 2, 1) := zdec_at bX1_link_0 7 rfl
theorem dX1_link_14 : decode cX1_link 14 = .ok (.aload_n 0, 1) := zdec_at bX1_link_0 8 rfl
theorem dX1_link_15 : decode cX1_link 15 = .ok (.getfield 313, 3) := zdec_at bX1_link_0 9 rfl
theorem dX1_link_18 : decode cX1_link 18 = .ok (.if_icmp .lt 5, 3) := zdec_at bX1_link_0 10 rfl
theorem dX1_link_21 : decode cX1_link 21 = .ok (.lconst 0, 1) := zdec_at bX1_link_0 11 rfl
theorem dX1_link_22 : decode cX1_link 22 = .ok (.lreturn, 1) := zdec_at bX1_link_0 12 rfl
theorem dX1_link_23 : decode cX1_link 23 = .ok (.iload_n 2, 1) := zdec_at bX1_link_0 13 rfl
theorem dX1_link_24 : decode cX1_link 24 = .ok (.iconst (-1), 1) := zdec_at bX1_link_0 14 rfl
theorem dX1_link_25 : decode cX1_link 25 = .ok (.if_icmp .ne 39, 3) := zdec_at bX1_link_0 15 rfl
theorem bX1_link_28 : zdec cX1_link 28 [(28, .iload_n 3, 1), (29, .iconst 3, 1), (30, .if_icmp .ne 15, 3), (33, .aload_n 0, 1), (34, .getfield 674, 3), (37, .getfield 1127, 3), (40, .iload_n 1, 1), (41, .laload, 1), (42, .goto 21, 3), (45, .iload_n 3, 1), (46, .iconst 4, 1), (47, .if_icmp .ne 15, 3), (50, .aload_n 0, 1), (51, .getfield 674, 3), (54, .getfield 1129, 3), (57, .iload_n 1, 1)] = true := by decide +kernel
theorem dX1_link_28 : decode cX1_link 28 = .ok (.iload_n 3, 1) := zdec_at bX1_link_28 0 rfl
theorem dX1_link_29 : decode cX1_link 29 = .ok (.iconst 3, 1) := zdec_at bX1_link_28 1 rfl
theorem dX1_link_30 : decode cX1_link 30 = .ok (.if_icmp .ne 15, 3) := zdec_at bX1_link_28 2 rfl
theorem dX1_link_33 : decode cX1_link 33 = .ok (.aload_n 0, 1) := zdec_at bX1_link_28 3 rfl
theorem dX1_link_34 : decode cX1_link 34 = .ok (.getfield 674, 3) := zdec_at bX1_link_28 4 rfl
theorem dX1_link_37 : decode cX1_link 37 = .ok (.getfield 1127, 3) := zdec_at bX1_link_28 5 rfl
theorem dX1_link_40 : decode cX1_link 40 = .ok (.iload_n 1, 1) := zdec_at bX1_link_28 6 rfl
theorem dX1_link_41 : decode cX1_link 41 = .ok (.laload, 1) := zdec_at bX1_link_28 7 rfl
theorem dX1_link_42 : decode cX1_link 42 = .ok (.goto 21, 3) := zdec_at bX1_link_28 8 rfl
theorem dX1_link_45 : decode cX1_link 45 = .ok (.iload_n 3, 1) := zdec_at bX1_link_28 9 rfl
theorem dX1_link_46 : decode cX1_link 46 = .ok (.iconst 4, 1) := zdec_at bX1_link_28 10 rfl
theorem dX1_link_47 : decode cX1_link 47 = .ok (.if_icmp .ne 15, 3) := zdec_at bX1_link_28 11 rfl
theorem dX1_link_50 : decode cX1_link 50 = .ok (.aload_n 0, 1) := zdec_at bX1_link_28 12 rfl
theorem dX1_link_51 : decode cX1_link 51 = .ok (.getfield 674, 3) := zdec_at bX1_link_28 13 rfl
theorem dX1_link_54 : decode cX1_link 54 = .ok (.getfield 1129, 3) := zdec_at bX1_link_28 14 rfl
theorem dX1_link_57 : decode cX1_link 57 = .ok (.iload_n 1, 1) := zdec_at bX1_link_28 15 rfl
theorem bX1_link_58 : zdec cX1_link 58 [(58, .laload, 1), (59, .goto 4, 3), (62, .lconst 0, 1), (63, .lreturn, 1), (64, .iload_n 1, 1), (65, .aload_n 0, 1), (66, .getfield 313, 3), (69, .imul, 1), (70, .iload_n 2, 1), (71, .iadd, 1), (72, .istore 4, 2), (74, .iload_n 3, 1)] = true := by decide +kernel
theorem dX1_link_58 : decode cX1_link 58 = .ok (.laload, 1) := zdec_at bX1_link_58 0 rfl
theorem dX1_link_59 : decode cX1_link 59 = .ok (.goto 4, 3) := zdec_at bX1_link_58 1 rfl
theorem dX1_link_62 : decode cX1_link 62 = .ok (.lconst 0, 1) := zdec_at bX1_link_58 2 rfl
theorem dX1_link_63 : decode cX1_link 63 = .ok (.lreturn, 1) := zdec_at bX1_link_58 3 rfl
theorem dX1_link_64 : decode cX1_link 64 = .ok (.iload_n 1, 1) := zdec_at bX1_link_58 4 rfl
theorem dX1_link_65 : decode cX1_link 65 = .ok (.aload_n 0, 1) := zdec_at bX1_link_58 5 rfl
theorem dX1_link_66 : decode cX1_link 66 = .ok (.getfield 313, 3) := zdec_at bX1_link_58 6 rfl
theorem dX1_link_69 : decode cX1_link 69 = .ok (.imul, 1) := zdec_at bX1_link_58 7 rfl
theorem dX1_link_70 : decode cX1_link 70 = .ok (.iload_n 2, 1) := zdec_at bX1_link_58 8 rfl
theorem dX1_link_71 : decode cX1_link 71 = .ok (.iadd, 1) := zdec_at bX1_link_58 9 rfl
theorem dX1_link_72 : decode cX1_link 72 = .ok (.istore 4, 2) := zdec_at bX1_link_58 10 rfl
theorem dX1_link_74 : decode cX1_link 74 = .ok (.iload_n 3, 1) := zdec_at bX1_link_58 11 rfl
theorem dX1_link_75 : decode cX1_link 75 = .ok (.tableswitch 111 0 5 #[37, 48, 59, 75, 86, 97], 37) := by decide +kernel
theorem bX1_link_112 : zdec cX1_link 112 [(112, .aload_n 0, 1), (113, .getfield 674, 3), (116, .getfield 1131, 3), (119, .iload 4, 2), (121, .laload, 1), (122, .lreturn, 1), (123, .aload_n 0, 1), (124, .getfield 674, 3), (127, .getfield 1132, 3), (130, .iload 4, 2), (132, .laload, 1), (133, .lreturn, 1), (134, .aload_n 0, 1), (135, .getfield 674, 3), (138, .getfield 1133, 3), (141, .iload 4, 2)] = true := by decide +kernel
theorem dX1_link_112 : decode cX1_link 112 = .ok (.aload_n 0, 1) := zdec_at bX1_link_112 0 rfl
theorem dX1_link_113 : decode cX1_link 113 = .ok (.getfield 674, 3) := zdec_at bX1_link_112 1 rfl
theorem dX1_link_116 : decode cX1_link 116 = .ok (.getfield 1131, 3) := zdec_at bX1_link_112 2 rfl
theorem dX1_link_119 : decode cX1_link 119 = .ok (.iload 4, 2) := zdec_at bX1_link_112 3 rfl
theorem dX1_link_121 : decode cX1_link 121 = .ok (.laload, 1) := zdec_at bX1_link_112 4 rfl
theorem dX1_link_122 : decode cX1_link 122 = .ok (.lreturn, 1) := zdec_at bX1_link_112 5 rfl
theorem dX1_link_123 : decode cX1_link 123 = .ok (.aload_n 0, 1) := zdec_at bX1_link_112 6 rfl
theorem dX1_link_124 : decode cX1_link 124 = .ok (.getfield 674, 3) := zdec_at bX1_link_112 7 rfl
theorem dX1_link_127 : decode cX1_link 127 = .ok (.getfield 1132, 3) := zdec_at bX1_link_112 8 rfl
theorem dX1_link_130 : decode cX1_link 130 = .ok (.iload 4, 2) := zdec_at bX1_link_112 9 rfl
theorem dX1_link_132 : decode cX1_link 132 = .ok (.laload, 1) := zdec_at bX1_link_112 10 rfl
theorem dX1_link_133 : decode cX1_link 133 = .ok (.lreturn, 1) := zdec_at bX1_link_112 11 rfl
theorem dX1_link_134 : decode cX1_link 134 = .ok (.aload_n 0, 1) := zdec_at bX1_link_112 12 rfl
theorem dX1_link_135 : decode cX1_link 135 = .ok (.getfield 674, 3) := zdec_at bX1_link_112 13 rfl
theorem dX1_link_138 : decode cX1_link 138 = .ok (.getfield 1133, 3) := zdec_at bX1_link_112 14 rfl
theorem dX1_link_141 : decode cX1_link 141 = .ok (.iload 4, 2) := zdec_at bX1_link_112 15 rfl
theorem bX1_link_143 : zdec cX1_link 143 [(143, .baload, 1), (144, .iconst 1, 1), (145, .ishr, 1), (146, .iconst 1, 1), (147, .iand, 1), (148, .i2l, 1), (149, .lreturn, 1), (150, .aload_n 0, 1), (151, .getfield 674, 3), (154, .getfield 1136, 3), (157, .iload 4, 2), (159, .laload, 1), (160, .lreturn, 1), (161, .aload_n 0, 1), (162, .getfield 674, 3), (165, .getfield 1137, 3)] = true := by decide +kernel
theorem dX1_link_143 : decode cX1_link 143 = .ok (.baload, 1) := zdec_at bX1_link_143 0 rfl
theorem dX1_link_144 : decode cX1_link 144 = .ok (.iconst 1, 1) := zdec_at bX1_link_143 1 rfl
theorem dX1_link_145 : decode cX1_link 145 = .ok (.ishr, 1) := zdec_at bX1_link_143 2 rfl
theorem dX1_link_146 : decode cX1_link 146 = .ok (.iconst 1, 1) := zdec_at bX1_link_143 3 rfl
theorem dX1_link_147 : decode cX1_link 147 = .ok (.iand, 1) := zdec_at bX1_link_143 4 rfl
theorem dX1_link_148 : decode cX1_link 148 = .ok (.i2l, 1) := zdec_at bX1_link_143 5 rfl
theorem dX1_link_149 : decode cX1_link 149 = .ok (.lreturn, 1) := zdec_at bX1_link_143 6 rfl
theorem dX1_link_150 : decode cX1_link 150 = .ok (.aload_n 0, 1) := zdec_at bX1_link_143 7 rfl
theorem dX1_link_151 : decode cX1_link 151 = .ok (.getfield 674, 3) := zdec_at bX1_link_143 8 rfl
theorem dX1_link_154 : decode cX1_link 154 = .ok (.getfield 1136, 3) := zdec_at bX1_link_143 9 rfl
theorem dX1_link_157 : decode cX1_link 157 = .ok (.iload 4, 2) := zdec_at bX1_link_143 10 rfl
theorem dX1_link_159 : decode cX1_link 159 = .ok (.laload, 1) := zdec_at bX1_link_143 11 rfl
theorem dX1_link_160 : decode cX1_link 160 = .ok (.lreturn, 1) := zdec_at bX1_link_143 12 rfl
theorem dX1_link_161 : decode cX1_link 161 = .ok (.aload_n 0, 1) := zdec_at bX1_link_143 13 rfl
theorem dX1_link_162 : decode cX1_link 162 = .ok (.getfield 674, 3) := zdec_at bX1_link_143 14 rfl
theorem dX1_link_165 : decode cX1_link 165 = .ok (.getfield 1137, 3) := zdec_at bX1_link_143 15 rfl
theorem bX1_link_168 : zdec cX1_link 168 [(168, .iload 4, 2), (170, .laload, 1), (171, .lreturn, 1), (172, .aload_n 0, 1), (173, .getfield 674, 3), (176, .getfield 1133, 3), (179, .iload 4, 2), (181, .baload, 1), (182, .iconst 1, 1), (183, .iand, 1), (184, .i2l, 1), (185, .lreturn, 1), (186, .lconst 0, 1), (187, .lreturn, 1)] = true := by decide +kernel
theorem dX1_link_168 : decode cX1_link 168 = .ok (.iload 4, 2) := zdec_at bX1_link_168 0 rfl
theorem dX1_link_170 : decode cX1_link 170 = .ok (.laload, 1) := zdec_at bX1_link_168 1 rfl
theorem dX1_link_171 : decode cX1_link 171 = .ok (.lreturn, 1) := zdec_at bX1_link_168 2 rfl
theorem dX1_link_172 : decode cX1_link 172 = .ok (.aload_n 0, 1) := zdec_at bX1_link_168 3 rfl
theorem dX1_link_173 : decode cX1_link 173 = .ok (.getfield 674, 3) := zdec_at bX1_link_168 4 rfl
theorem dX1_link_176 : decode cX1_link 176 = .ok (.getfield 1133, 3) := zdec_at bX1_link_168 5 rfl
theorem dX1_link_179 : decode cX1_link 179 = .ok (.iload 4, 2) := zdec_at bX1_link_168 6 rfl
theorem dX1_link_181 : decode cX1_link 181 = .ok (.baload, 1) := zdec_at bX1_link_168 7 rfl
theorem dX1_link_182 : decode cX1_link 182 = .ok (.iconst 1, 1) := zdec_at bX1_link_168 8 rfl
theorem dX1_link_183 : decode cX1_link 183 = .ok (.iand, 1) := zdec_at bX1_link_168 9 rfl
theorem dX1_link_184 : decode cX1_link 184 = .ok (.i2l, 1) := zdec_at bX1_link_168 10 rfl
theorem dX1_link_185 : decode cX1_link 185 = .ok (.lreturn, 1) := zdec_at bX1_link_168 11 rfl
theorem dX1_link_186 : decode cX1_link 186 = .ok (.lconst 0, 1) := zdec_at bX1_link_168 12 rfl
theorem dX1_link_187 : decode cX1_link 187 = .ok (.lreturn, 1) := zdec_at bX1_link_168 13 rfl
theorem sX1_link_0 {E : zE} {d : Nat} {Q : zO → zM → Prop} (M : zM) (l1 : Int32) (l2 : Int32) (l3 : Int32) (hw : cw M) (k : Z E YX1_isReached d M (zargs 0 [vr (some (16, 0, 0)), vi l1]) 0 [] (zafter E YX1_link (d + 1) [(0, vr (some (16, 0, 0))), (1, vi l1), (2, vi l2), (3, vi l3)] 2 3 [] Q)) : Z E YX1_link (d + 1) M [(0, vr (some (16, 0, 0))), (1, vi l1), (2, vi l2), (3, vi l3)] 0 [] Q := by
  refine z_aload_n dX1_link_0 rfl rfl ?_
  refine z_iload_n dX1_link_1 rfl rfl ?_
  exact z_callV (as := [vi l1]) (st := []) dX1_link_2 vsX1_1113_0 (Nat.le_refl _) (Nat.le_of_ble_eq_true rfl) (Nat.le_of_ble_eq_true rfl) rfl k
theorem sX1_link_5 {E : zE} {d : Nat} {Q : zO → zM → Prop} (M : zM) (l1 : Int32) (l2 : Int32) (l3 : Int32) (s0 : Int32) (hw : cw M) (k : if s0 = 0 then (Q (.inl (some (vl (0 : Int64)))) M) else (if l2 < (-1 : Int32) then (Q (.inl (some (vl (0 : Int64)))) M) else (if l2 < (gi M 16 11) then (if l2 = (-1 : Int32) then (if l3 = (3 : Int32) then (∃ b1 : Nat, (gr M 16 59) = some (b1, 6, 0) ∧ (∃ b2 m2 : Nat, (gr M b1 14) = some (b2, 105, m2) ∧ (vp_in l1 m2 ∧ (Q (.inl (some (vl (gl M b2 (l1).toNatClampNeg)))) M)))) else (if l3 = (4 : Int32) then (∃ b1 : Nat, (gr M 16 59) = some (b1, 6, 0) ∧ (∃ b2 m2 : Nat, (gr M b1 15) = some (b2, 105, m2) ∧ (vp_in l1 m2 ∧ (Q (.inl (some (vl (gl M b2 (l1).toNatClampNeg)))) M)))) else (Q (.inl (some (vl (0 : Int64)))) M))) else (if l3 = 0 then (∃ b1 : Nat, (gr M 16 59) = some (b1, 6, 0) ∧ (∃ b2 m2 : Nat, (gr M b1 4) = some (b2, 105, m2) ∧ (vp_in ((l1 * (gi M 16 11)) + l2) m2 ∧ (Q (.inl (some (vl (gl M b2 (((l1 * (gi M 16 11)) + l2)).toNatClampNeg)))) M)))) else (if l3 = 1 then (∃ b3 : Nat, (gr M 16 59) = some (b3, 6, 0) ∧ (∃ b4 m4 : Nat, (gr M b3 5) = some (b4, 105, m4) ∧ (vp_in ((l1 * (gi M 16 11)) + l2) m4 ∧ (Q (.inl (some (vl (gl M b4 (((l1 * (gi M 16 11)) + l2)).toNatClampNeg)))) M)))) else (if l3 = 2 then (∃ b5 : Nat, (gr M 16 59) = some (b5, 6, 0) ∧ (∃ b6 m6 : Nat, (gr M b5 8) = some (b6, 101, m6) ∧ (vp_in ((l1 * (gi M 16 11)) + l2) m6 ∧ (Q (.inl (some (vl ((((gi M b6 (((l1 * (gi M 16 11)) + l2)).toNatClampNeg) >>> ((1 : Int32) &&& 31)) &&& (1 : Int32))).toInt64))) M)))) else (if l3 = 3 then (∃ b7 : Nat, (gr M 16 59) = some (b7, 6, 0) ∧ (∃ b8 m8 : Nat, (gr M b7 6) = some (b8, 105, m8) ∧ (vp_in ((l1 * (gi M 16 11)) + l2) m8 ∧ (Q (.inl (some (vl (gl M b8 (((l1 * (gi M 16 11)) + l2)).toNatClampNeg)))) M)))) else (if l3 = 4 then (∃ b9 : Nat, (gr M 16 59) = some (b9, 6, 0) ∧ (∃ b10 m10 : Nat, (gr M b9 7) = some (b10, 105, m10) ∧ (vp_in ((l1 * (gi M 16 11)) + l2) m10 ∧ (Q (.inl (some (vl (gl M b10 (((l1 * (gi M 16 11)) + l2)).toNatClampNeg)))) M)))) else (if l3 = 5 then (∃ b11 : Nat, (gr M 16 59) = some (b11, 6, 0) ∧ (∃ b12 m12 : Nat, (gr M b11 8) = some (b12, 101, m12) ∧ (vp_in ((l1 * (gi M 16 11)) + l2) m12 ∧ (Q (.inl (some (vl (((gi M b12 (((l1 * (gi M 16 11)) + l2)).toNatClampNeg) &&& (1 : Int32))).toInt64))) M)))) else (Q (.inl (some (vl (0 : Int64)))) M)))))))) else (Q (.inl (some (vl (0 : Int64)))) M)))) : Z E YX1_link (d + 1) M [(0, vr (some (16, 0, 0))), (1, vi l1), (2, vi l2), (3, vi l3)] 5 [vi s0] Q := by
  refine z_if_eq (tgt := 21) dX1_link_5 rfl (fun h_ => ?_) (fun h_ => ?_)
  · have k := zit h_ k
    refine z_lconst (v := 0) dX1_link_21 rfl ?_
    exact z_lret dX1_link_22 rfl k
  · have k := zif h_ k
    refine z_iload_n dX1_link_8 rfl rfl ?_
    refine z_iconst (v := -1) dX1_link_9 rfl ?_
    refine z_icmp_lt (tgt := 21) dX1_link_10 rfl (fun h_ => ?_) (fun h_ => ?_)
    · have k := zit h_ k
      refine z_lconst (v := 0) dX1_link_21 rfl ?_
      exact z_lret dX1_link_22 rfl k
    · have k := zif h_ k
      refine z_iload_n dX1_link_13 rfl rfl ?_
      refine z_aload_n dX1_link_14 rfl rfl ?_
      refine z_geti dX1_link_15 fsX1_313_0 ?_
      refine z_icmp_lt (tgt := 23) dX1_link_18 rfl (fun h_ => ?_) (fun h_ => ?_)
      · have k := zit h_ k
        refine z_iload_n dX1_link_23 rfl rfl ?_
        refine z_iconst (v := -1) dX1_link_24 rfl ?_
        refine z_icmp_ne (tgt := 64) dX1_link_25 rfl (fun h_ => ?_) (fun h_ => ?_)
        · have k := zif h_ k
          refine z_iload_n dX1_link_64 rfl rfl ?_
          refine z_aload_n dX1_link_65 rfl rfl ?_
          refine z_geti dX1_link_66 fsX1_313_0 ?_
          refine z_imul dX1_link_69 ?_
          refine z_iload_n dX1_link_70 rfl rfl ?_
          refine z_iadd dX1_link_71 ?_
          refine z_ist dX1_link_72 (by decide) (lv' := [(0, vr (some (16, 0, 0))), (1, vi l1), (2, vi l2), (3, vi l3), (4, vi ((l1 * (gi M 16 11)) + l2))]) rfl ?_
          refine z_iload_n dX1_link_74 rfl rfl ?_
          by_cases h0_ : l3 = 0
          · have k := zit h0_ k
            refine z_tableIn (off := 37) (tgt := 112) dX1_link_75 (by rw [h0_]; decide) (by rw [h0_]; decide) (by rw [h0_]; rfl) rfl ?_
            refine z_aload_n dX1_link_112 rfl rfl ?_
            refine z_getr (r := (gr M 16 59)) dX1_link_113 fsX1_674_0 rfl ?_
            obtain ⟨b1, e1_, k⟩ := k
            refine Z.eqs (lv' := [(0, vr (some (16, 0, 0))), (1, vi l1), (2, vi l2), (3, vi l3), (4, vi ((l1 * (gi M 16 11)) + l2))]) (st' := [vr (some (b1, 6, 0))]) rfl (by rw [e1_] <;> rfl) ?_
            refine z_getr (r := (gr M b1 4)) dX1_link_116 fsX1_1131_6 rfl ?_
            refine z_iload dX1_link_119 rfl ?_
            obtain ⟨b2, m2, e2_, k⟩ := k
            refine Z.eqs (lv' := [(0, vr (some (16, 0, 0))), (1, vi l1), (2, vi l2), (3, vi l3), (4, vi ((l1 * (gi M 16 11)) + l2))]) (st' := [vi ((l1 * (gi M 16 11)) + l2), vr (some (b2, 105, m2))]) rfl (by rw [e2_] <;> rfl) ?_
            obtain ⟨b_, k⟩ := k
            refine z_lald dX1_link_121 b_ ?_
            exact z_lret dX1_link_122 rfl k
          · have k := zif h0_ k
            by_cases h1_ : l3 = 1
            · have k := zit h1_ k
              refine z_tableIn (off := 48) (tgt := 123) dX1_link_75 (by rw [h1_]; decide) (by rw [h1_]; decide) (by rw [h1_]; rfl) rfl ?_
              refine z_aload_n dX1_link_123 rfl rfl ?_
              refine z_getr (r := (gr M 16 59)) dX1_link_124 fsX1_674_0 rfl ?_
              obtain ⟨b3, e3_, k⟩ := k
              refine Z.eqs (lv' := [(0, vr (some (16, 0, 0))), (1, vi l1), (2, vi l2), (3, vi l3), (4, vi ((l1 * (gi M 16 11)) + l2))]) (st' := [vr (some (b3, 6, 0))]) rfl (by rw [e3_] <;> rfl) ?_
              refine z_getr (r := (gr M b3 5)) dX1_link_127 fsX1_1132_6 rfl ?_
              refine z_iload dX1_link_130 rfl ?_
              obtain ⟨b4, m4, e4_, k⟩ := k
              refine Z.eqs (lv' := [(0, vr (some (16, 0, 0))), (1, vi l1), (2, vi l2), (3, vi l3), (4, vi ((l1 * (gi M 16 11)) + l2))]) (st' := [vi ((l1 * (gi M 16 11)) + l2), vr (some (b4, 105, m4))]) rfl (by rw [e4_] <;> rfl) ?_
              obtain ⟨b_, k⟩ := k
              refine z_lald dX1_link_132 b_ ?_
              exact z_lret dX1_link_133 rfl k
            · have k := zif h1_ k
              by_cases h2_ : l3 = 2
              · have k := zit h2_ k
                refine z_tableIn (off := 59) (tgt := 134) dX1_link_75 (by rw [h2_]; decide) (by rw [h2_]; decide) (by rw [h2_]; rfl) rfl ?_
                refine z_aload_n dX1_link_134 rfl rfl ?_
                refine z_getr (r := (gr M 16 59)) dX1_link_135 fsX1_674_0 rfl ?_
                obtain ⟨b5, e5_, k⟩ := k
                refine Z.eqs (lv' := [(0, vr (some (16, 0, 0))), (1, vi l1), (2, vi l2), (3, vi l3), (4, vi ((l1 * (gi M 16 11)) + l2))]) (st' := [vr (some (b5, 6, 0))]) rfl (by rw [e5_] <;> rfl) ?_
                refine z_getr (r := (gr M b5 8)) dX1_link_138 fsX1_1133_6 rfl ?_
                refine z_iload dX1_link_141 rfl ?_
                obtain ⟨b6, m6, e6_, k⟩ := k
                refine Z.eqs (lv' := [(0, vr (some (16, 0, 0))), (1, vi l1), (2, vi l2), (3, vi l3), (4, vi ((l1 * (gi M 16 11)) + l2))]) (st' := [vi ((l1 * (gi M 16 11)) + l2), vr (some (b6, 101, m6))]) rfl (by rw [e6_] <;> rfl) ?_
                obtain ⟨b_, k⟩ := k
                refine z_bald dX1_link_143 b_ ?_
                refine z_iconst (v := 1) dX1_link_144 rfl ?_
                refine z_ishr dX1_link_145 ?_
                refine z_iconst (v := 1) dX1_link_146 rfl ?_
                refine z_iand dX1_link_147 ?_
                refine z_i2l dX1_link_148 ?_
                exact z_lret dX1_link_149 rfl k
              · have k := zif h2_ k
                by_cases h3_ : l3 = 3
                · have k := zit h3_ k
                  refine z_tableIn (off := 75) (tgt := 150) dX1_link_75 (by rw [h3_]; decide) (by rw [h3_]; decide) (by rw [h3_]; rfl) rfl ?_
                  refine z_aload_n dX1_link_150 rfl rfl ?_
                  refine z_getr (r := (gr M 16 59)) dX1_link_151 fsX1_674_0 rfl ?_
                  obtain ⟨b7, e7_, k⟩ := k
                  refine Z.eqs (lv' := [(0, vr (some (16, 0, 0))), (1, vi l1), (2, vi l2), (3, vi l3), (4, vi ((l1 * (gi M 16 11)) + l2))]) (st' := [vr (some (b7, 6, 0))]) rfl (by rw [e7_] <;> rfl) ?_
                  refine z_getr (r := (gr M b7 6)) dX1_link_154 fsX1_1136_6 rfl ?_
                  refine z_iload dX1_link_157 rfl ?_
                  obtain ⟨b8, m8, e8_, k⟩ := k
                  refine Z.eqs (lv' := [(0, vr (some (16, 0, 0))), (1, vi l1), (2, vi l2), (3, vi l3), (4, vi ((l1 * (gi M 16 11)) + l2))]) (st' := [vi ((l1 * (gi M 16 11)) + l2), vr (some (b8, 105, m8))]) rfl (by rw [e8_] <;> rfl) ?_
                  obtain ⟨b_, k⟩ := k
                  refine z_lald dX1_link_159 b_ ?_
                  exact z_lret dX1_link_160 rfl k
                · have k := zif h3_ k
                  by_cases h4_ : l3 = 4
                  · have k := zit h4_ k
                    refine z_tableIn (off := 86) (tgt := 161) dX1_link_75 (by rw [h4_]; decide) (by rw [h4_]; decide) (by rw [h4_]; rfl) rfl ?_
                    refine z_aload_n dX1_link_161 rfl rfl ?_
                    refine z_getr (r := (gr M 16 59)) dX1_link_162 fsX1_674_0 rfl ?_
                    obtain ⟨b9, e9_, k⟩ := k
                    refine Z.eqs (lv' := [(0, vr (some (16, 0, 0))), (1, vi l1), (2, vi l2), (3, vi l3), (4, vi ((l1 * (gi M 16 11)) + l2))]) (st' := [vr (some (b9, 6, 0))]) rfl (by rw [e9_] <;> rfl) ?_
                    refine z_getr (r := (gr M b9 7)) dX1_link_165 fsX1_1137_6 rfl ?_
                    refine z_iload dX1_link_168 rfl ?_
                    obtain ⟨b10, m10, e10_, k⟩ := k
                    refine Z.eqs (lv' := [(0, vr (some (16, 0, 0))), (1, vi l1), (2, vi l2), (3, vi l3), (4, vi ((l1 * (gi M 16 11)) + l2))]) (st' := [vi ((l1 * (gi M 16 11)) + l2), vr (some (b10, 105, m10))]) rfl (by rw [e10_] <;> rfl) ?_
                    obtain ⟨b_, k⟩ := k
                    refine z_lald dX1_link_170 b_ ?_
                    exact z_lret dX1_link_171 rfl k
                  · have k := zif h4_ k
                    by_cases h5_ : l3 = 5
                    · have k := zit h5_ k
                      refine z_tableIn (off := 97) (tgt := 172) dX1_link_75 (by rw [h5_]; decide) (by rw [h5_]; decide) (by rw [h5_]; rfl) rfl ?_
                      refine z_aload_n dX1_link_172 rfl rfl ?_
                      refine z_getr (r := (gr M 16 59)) dX1_link_173 fsX1_674_0 rfl ?_
                      obtain ⟨b11, e11_, k⟩ := k
                      refine Z.eqs (lv' := [(0, vr (some (16, 0, 0))), (1, vi l1), (2, vi l2), (3, vi l3), (4, vi ((l1 * (gi M 16 11)) + l2))]) (st' := [vr (some (b11, 6, 0))]) rfl (by rw [e11_] <;> rfl) ?_
                      refine z_getr (r := (gr M b11 8)) dX1_link_176 fsX1_1133_6 rfl ?_
                      refine z_iload dX1_link_179 rfl ?_
                      obtain ⟨b12, m12, e12_, k⟩ := k
                      refine Z.eqs (lv' := [(0, vr (some (16, 0, 0))), (1, vi l1), (2, vi l2), (3, vi l3), (4, vi ((l1 * (gi M 16 11)) + l2))]) (st' := [vi ((l1 * (gi M 16 11)) + l2), vr (some (b12, 101, m12))]) rfl (by rw [e12_] <;> rfl) ?_
                      obtain ⟨b_, k⟩ := k
                      refine z_bald dX1_link_181 b_ ?_
                      refine z_iconst (v := 1) dX1_link_182 rfl ?_
                      refine z_iand dX1_link_183 ?_
                      refine z_i2l dX1_link_184 ?_
                      exact z_lret dX1_link_185 rfl k
                    · have k := zif h5_ k
                      refine z_tout (tgt := 186) [0, 1, 2, 3, 4, 5] (by decide) dX1_link_75 (zall_1 h0_ (zall_1 h1_ (zall_1 h2_ (zall_1 h3_ (zall_1 h4_ (zall_1 h5_ zall_0)))))) rfl ?_
                      refine z_lconst (v := 0) dX1_link_186 rfl ?_
                      exact z_lret dX1_link_187 rfl k
        · have k := zit h_ k
          refine z_iload_n dX1_link_28 rfl rfl ?_
          refine z_iconst (v := 3) dX1_link_29 rfl ?_
          refine z_icmp_ne (tgt := 45) dX1_link_30 rfl (fun h_ => ?_) (fun h_ => ?_)
          · have k := zif h_ k
            refine z_iload_n dX1_link_45 rfl rfl ?_
            refine z_iconst (v := 4) dX1_link_46 rfl ?_
            refine z_icmp_ne (tgt := 62) dX1_link_47 rfl (fun h_ => ?_) (fun h_ => ?_)
            · have k := zif h_ k
              refine z_lconst (v := 0) dX1_link_62 rfl ?_
              exact z_lret dX1_link_63 rfl k
            · have k := zit h_ k
              refine z_aload_n dX1_link_50 rfl rfl ?_
              refine z_getr (r := (gr M 16 59)) dX1_link_51 fsX1_674_0 rfl ?_
              obtain ⟨b1, e1_, k⟩ := k
              refine Z.eqs (lv' := [(0, vr (some (16, 0, 0))), (1, vi l1), (2, vi l2), (3, vi l3)]) (st' := [vr (some (b1, 6, 0))]) rfl (by rw [e1_] <;> rfl) ?_
              refine z_getr (r := (gr M b1 15)) dX1_link_54 fsX1_1129_6 rfl ?_
              refine z_iload_n dX1_link_57 rfl rfl ?_
              obtain ⟨b2, m2, e2_, k⟩ := k
              refine Z.eqs (lv' := [(0, vr (some (16, 0, 0))), (1, vi l1), (2, vi l2), (3, vi l3)]) (st' := [vi l1, vr (some (b2, 105, m2))]) rfl (by rw [e2_] <;> rfl) ?_
              obtain ⟨b_, k⟩ := k
              refine z_lald dX1_link_58 b_ ?_
              refine z_goto (tgt := 63) dX1_link_59 rfl ?_
              exact z_lret dX1_link_63 rfl k
          · have k := zit h_ k
            refine z_aload_n dX1_link_33 rfl rfl ?_
            refine z_getr (r := (gr M 16 59)) dX1_link_34 fsX1_674_0 rfl ?_
            obtain ⟨b1, e1_, k⟩ := k
            refine Z.eqs (lv' := [(0, vr (some (16, 0, 0))), (1, vi l1), (2, vi l2), (3, vi l3)]) (st' := [vr (some (b1, 6, 0))]) rfl (by rw [e1_] <;> rfl) ?_
            refine z_getr (r := (gr M b1 14)) dX1_link_37 fsX1_1127_6 rfl ?_
            refine z_iload_n dX1_link_40 rfl rfl ?_
            obtain ⟨b2, m2, e2_, k⟩ := k
            refine Z.eqs (lv' := [(0, vr (some (16, 0, 0))), (1, vi l1), (2, vi l2), (3, vi l3)]) (st' := [vi l1, vr (some (b2, 105, m2))]) rfl (by rw [e2_] <;> rfl) ?_
            obtain ⟨b_, k⟩ := k
            refine z_lald dX1_link_41 b_ ?_
            refine z_goto (tgt := 63) dX1_link_42 rfl ?_
            exact z_lret dX1_link_63 rfl k
      · have k := zif h_ k
        refine z_lconst (v := 0) dX1_link_21 rfl ?_
        exact z_lret dX1_link_22 rfl k
/-! ScriptTypes.result(III)J -/
theorem bX1_result_0 : zdec cX1_result 0 [(0, .aload_n 0, 1), (1, .getfield 274, 3), (4, .ifCond .eq 49, 3), (7, .iload_n 1, 1), (8, .ifCond .lt 45, 3), (11, .iload_n 1, 1), (12, .aload_n 0, 1), (13, .getfield 82, 3), (16, .invokevirtual 291, 3), (19, .if_icmp .ge 34, 3), (22, .iload_n 2, 1), (23, .ifCond .lt 30, 3), (26, .iload_n 2, 1), (27, .iconst 1, 1), (28, .if_icmp .gt 25, 3), (31, .aload_n 0, 1)] = true := by decide +kernel
theorem dX1_result_0 : decode cX1_result 0 = .ok (.aload_n 0, 1) := zdec_at bX1_result_0 0 rfl
theorem dX1_result_1 : decode cX1_result 1 = .ok (.getfield 274, 3) := zdec_at bX1_result_0 1 rfl
theorem dX1_result_4 : decode cX1_result 4 = .ok (.ifCond .eq 49, 3) := zdec_at bX1_result_0 2 rfl
theorem dX1_result_7 : decode cX1_result 7 = .ok (.iload_n 1, 1) := zdec_at bX1_result_0 3 rfl
theorem dX1_result_8 : decode cX1_result 8 = .ok (.ifCond .lt 45, 3) := zdec_at bX1_result_0 4 rfl
theorem dX1_result_11 : decode cX1_result 11 = .ok (.iload_n 1, 1) := zdec_at bX1_result_0 5 rfl
theorem dX1_result_12 : decode cX1_result 12 = .ok (.aload_n 0, 1) := zdec_at bX1_result_0 6 rfl
theorem dX1_result_13 : decode cX1_result 13 = .ok (.getfield 82, 3) := zdec_at bX1_result_0 7 rfl
theorem dX1_result_16 : decode cX1_result 16 = .ok (.invokevirtual 291, 3) := zdec_at bX1_result_0 8 rfl
theorem dX1_result_19 : decode cX1_result 19 = .ok (.if_icmp .ge 34, 3) := zdec_at bX1_result_0 9 rfl
theorem dX1_result_22 : decode cX1_result 22 = .ok (.iload_n 2, 1) := zdec_at bX1_result_0 10 rfl
theorem dX1_result_23 : decode cX1_result 23 = .ok (.ifCond .lt 30, 3) := zdec_at bX1_result_0 11 rfl
theorem dX1_result_26 : decode cX1_result 26 = .ok (.iload_n 2, 1) := zdec_at bX1_result_0 12 rfl
theorem dX1_result_27 : decode cX1_result 27 = .ok (.iconst 1, 1) := zdec_at bX1_result_0 13 rfl
theorem dX1_result_28 : decode cX1_result 28 = .ok (.if_icmp .gt 25, 3) := zdec_at bX1_result_0 14 rfl
theorem dX1_result_31 : decode cX1_result 31 = .ok (.aload_n 0, 1) := zdec_at bX1_result_0 15 rfl
theorem bX1_result_32 : zdec cX1_result 32 [(32, .getfield 674, 3), (35, .getfield 719, 3), (38, .aload_n 0, 1), (39, .getfield 694, 3), (42, .iconst 2, 1), (43, .iload_n 1, 1), (44, .imul, 1), (45, .iadd, 1), (46, .iload_n 2, 1), (47, .iadd, 1), (48, .iaload, 1), (49, .iconst (-1), 1), (50, .if_icmp .ne 5, 3), (53, .lconst 0, 1), (54, .lreturn, 1), (55, .aload_n 0, 1)] = true := by decide +kernel
theorem dX1_result_32 : decode cX1_result 32 = .ok (.getfield 674, 3) := zdec_at bX1_result_32 0 rfl
theorem dX1_result_35 : decode cX1_result 35 = .ok (.getfield 719, 3) := zdec_at bX1_result_32 1 rfl
theorem dX1_result_38 : decode cX1_result 38 = .ok (.aload_n 0, 1) := zdec_at bX1_result_32 2 rfl
theorem dX1_result_39 : decode cX1_result 39 = .ok (.getfield 694, 3) := zdec_at bX1_result_32 3 rfl
theorem dX1_result_42 : decode cX1_result 42 = .ok (.iconst 2, 1) := zdec_at bX1_result_32 4 rfl
theorem dX1_result_43 : decode cX1_result 43 = .ok (.iload_n 1, 1) := zdec_at bX1_result_32 5 rfl
theorem dX1_result_44 : decode cX1_result 44 = .ok (.imul, 1) := zdec_at bX1_result_32 6 rfl
theorem dX1_result_45 : decode cX1_result 45 = .ok (.iadd, 1) := zdec_at bX1_result_32 7 rfl
theorem dX1_result_46 : decode cX1_result 46 = .ok (.iload_n 2, 1) := zdec_at bX1_result_32 8 rfl
theorem dX1_result_47 : decode cX1_result 47 = .ok (.iadd, 1) := zdec_at bX1_result_32 9 rfl
theorem dX1_result_48 : decode cX1_result 48 = .ok (.iaload, 1) := zdec_at bX1_result_32 10 rfl
theorem dX1_result_49 : decode cX1_result 49 = .ok (.iconst (-1), 1) := zdec_at bX1_result_32 11 rfl
theorem dX1_result_50 : decode cX1_result 50 = .ok (.if_icmp .ne 5, 3) := zdec_at bX1_result_32 12 rfl
theorem dX1_result_53 : decode cX1_result 53 = .ok (.lconst 0, 1) := zdec_at bX1_result_32 13 rfl
theorem dX1_result_54 : decode cX1_result 54 = .ok (.lreturn, 1) := zdec_at bX1_result_32 14 rfl
theorem dX1_result_55 : decode cX1_result 55 = .ok (.aload_n 0, 1) := zdec_at bX1_result_32 15 rfl
theorem bX1_result_56 : zdec cX1_result 56 [(56, .getfield 674, 3), (59, .getfield 1075, 3), (62, .aload_n 0, 1), (63, .getfield 694, 3), (66, .iconst 2, 1), (67, .iload_n 1, 1), (68, .imul, 1), (69, .iadd, 1), (70, .iload_n 2, 1), (71, .iadd, 1), (72, .iaload, 1), (73, .istore 4, 2), (75, .aload_n 0, 1), (76, .getfield 206, 3), (79, .aload_n 0, 1), (80, .getfield 674, 3)] = true := by decide +kernel
theorem dX1_result_56 : decode cX1_result 56 = .ok (.getfield 674, 3) := zdec_at bX1_result_56 0 rfl
theorem dX1_result_59 : decode cX1_result 59 = .ok (.getfield 1075, 3) := zdec_at bX1_result_56 1 rfl
theorem dX1_result_62 : decode cX1_result 62 = .ok (.aload_n 0, 1) := zdec_at bX1_result_56 2 rfl
theorem dX1_result_63 : decode cX1_result 63 = .ok (.getfield 694, 3) := zdec_at bX1_result_56 3 rfl
theorem dX1_result_66 : decode cX1_result 66 = .ok (.iconst 2, 1) := zdec_at bX1_result_56 4 rfl
theorem dX1_result_67 : decode cX1_result 67 = .ok (.iload_n 1, 1) := zdec_at bX1_result_56 5 rfl
theorem dX1_result_68 : decode cX1_result 68 = .ok (.imul, 1) := zdec_at bX1_result_56 6 rfl
theorem dX1_result_69 : decode cX1_result 69 = .ok (.iadd, 1) := zdec_at bX1_result_56 7 rfl
theorem dX1_result_70 : decode cX1_result 70 = .ok (.iload_n 2, 1) := zdec_at bX1_result_56 8 rfl
theorem dX1_result_71 : decode cX1_result 71 = .ok (.iadd, 1) := zdec_at bX1_result_56 9 rfl
theorem dX1_result_72 : decode cX1_result 72 = .ok (.iaload, 1) := zdec_at bX1_result_56 10 rfl
theorem dX1_result_73 : decode cX1_result 73 = .ok (.istore 4, 2) := zdec_at bX1_result_56 11 rfl
theorem dX1_result_75 : decode cX1_result 75 = .ok (.aload_n 0, 1) := zdec_at bX1_result_56 12 rfl
theorem dX1_result_76 : decode cX1_result 76 = .ok (.getfield 206, 3) := zdec_at bX1_result_56 13 rfl
theorem dX1_result_79 : decode cX1_result 79 = .ok (.aload_n 0, 1) := zdec_at bX1_result_56 14 rfl
theorem dX1_result_80 : decode cX1_result 80 = .ok (.getfield 674, 3) := zdec_at bX1_result_56 15 rfl
theorem bX1_result_83 : zdec cX1_result 83 [(83, .getfield 1078, 3), (86, .iload 4, 2), (88, .laload, 1), (89, .invokevirtual 892, 3), (92, .aload_n 0, 1), (93, .getfield 674, 3), (96, .getfield 1079, 3), (99, .iload 4, 2), (101, .laload, 1), (102, .aload_n 0, 1), (103, .getfield 674, 3), (106, .getfield 1080, 3), (109, .iload 4, 2), (111, .laload, 1), (112, .lconst 0, 1), (113, .invokevirtual 871, 3)] = true := by decide +kernel
theorem dX1_result_83 : decode cX1_result 83 = .ok (.getfield 1078, 3) := zdec_at bX1_result_83 0 rfl
theorem dX1_result_86 : decode cX1_result 86 = .ok (.iload 4, 2) := zdec_at bX1_result_83 1 rfl
theorem dX1_result_88 : decode cX1_result 88 = .ok (.laload, 1) := zdec_at bX1_result_83 2 rfl
theorem dX1_result_89 : decode cX1_result 89 = .ok (.invokevirtual 892, 3) := zdec_at bX1_result_83 3 rfl
theorem dX1_result_92 : decode cX1_result 92 = .ok (.aload_n 0, 1) := zdec_at bX1_result_83 4 rfl
theorem dX1_result_93 : decode cX1_result 93 = .ok (.getfield 674, 3) := zdec_at bX1_result_83 5 rfl
theorem dX1_result_96 : decode cX1_result 96 = .ok (.getfield 1079, 3) := zdec_at bX1_result_83 6 rfl
theorem dX1_result_99 : decode cX1_result 99 = .ok (.iload 4, 2) := zdec_at bX1_result_83 7 rfl
theorem dX1_result_101 : decode cX1_result 101 = .ok (.laload, 1) := zdec_at bX1_result_83 8 rfl
theorem dX1_result_102 : decode cX1_result 102 = .ok (.aload_n 0, 1) := zdec_at bX1_result_83 9 rfl
theorem dX1_result_103 : decode cX1_result 103 = .ok (.getfield 674, 3) := zdec_at bX1_result_83 10 rfl
theorem dX1_result_106 : decode cX1_result 106 = .ok (.getfield 1080, 3) := zdec_at bX1_result_83 11 rfl
theorem dX1_result_109 : decode cX1_result 109 = .ok (.iload 4, 2) := zdec_at bX1_result_83 12 rfl
theorem dX1_result_111 : decode cX1_result 111 = .ok (.laload, 1) := zdec_at bX1_result_83 13 rfl
theorem dX1_result_112 : decode cX1_result 112 = .ok (.lconst 0, 1) := zdec_at bX1_result_83 14 rfl
theorem dX1_result_113 : decode cX1_result 113 = .ok (.invokevirtual 871, 3) := zdec_at bX1_result_83 15 rfl
theorem bX1_result_116 : zdec cX1_result 116 [(116, .iload_n 3, 1), (117, .invokevirtual 1122, 3), (120, .lreturn, 1)] = true := by decide +kernel
theorem dX1_result_116 : decode cX1_result 116 = .ok (.iload_n 3, 1) := zdec_at bX1_result_116 0 rfl
theorem dX1_result_117 : decode cX1_result 117 = .ok (.invokevirtual 1122, 3) := zdec_at bX1_result_116 1 rfl
theorem dX1_result_120 : decode cX1_result 120 = .ok (.lreturn, 1) := zdec_at bX1_result_116 2 rfl
theorem sX1_result_0 {E : zE} {d : Nat} {Q : zO → zM → Prop} (M : zM) (l1 : Int32) (l2 : Int32) (l3 : Int32) (hw : cw M) (k : if (gi M 16 62) = 0 then (Q (.inl (some (vl (0 : Int64)))) M) else (if l1 < 0 then (Q (.inl (some (vl (0 : Int64)))) M) else (∃ b1 : Nat, (gr M 16 8) = some (b1, 11, 0) ∧ (Z E YJ2_size d M (zargs 0 [vr (some (b1, 11, 0))]) 0 [] (zafter E YX1_result (d + 1) [(0, vr (some (16, 0, 0))), (1, vi l1), (2, vi l2), (3, vi l3)] 16 3 [vi l1] Q))))) : Z E YX1_result (d + 1) M [(0, vr (some (16, 0, 0))), (1, vi l1), (2, vi l2), (3, vi l3)] 0 [] Q := by
  refine z_aload_n dX1_result_0 rfl rfl ?_
  refine z_geti dX1_result_1 fsX1_274_0 ?_
  refine z_if_eq (tgt := 53) dX1_result_4 rfl (fun h_ => ?_) (fun h_ => ?_)
  · have k := zit h_ k
    refine z_lconst (v := 0) dX1_result_53 rfl ?_
    exact z_lret dX1_result_54 rfl k
  · have k := zif h_ k
    refine z_iload_n dX1_result_7 rfl rfl ?_
    refine z_if_lt (tgt := 53) dX1_result_8 rfl (fun h_ => ?_) (fun h_ => ?_)
    · have k := zit h_ k
      refine z_lconst (v := 0) dX1_result_53 rfl ?_
      exact z_lret dX1_result_54 rfl k
    · have k := zif h_ k
      refine z_iload_n dX1_result_11 rfl rfl ?_
      refine z_aload_n dX1_result_12 rfl rfl ?_
      refine z_getr (r := (gr M 16 8)) dX1_result_13 fsX1_82_0 rfl ?_
      obtain ⟨b1, e1_, k⟩ := k
      refine Z.eqs (lv' := [(0, vr (some (16, 0, 0))), (1, vi l1), (2, vi l2), (3, vi l3)]) (st' := [vr (some (b1, 11, 0)), vi l1]) rfl (by rw [e1_] <;> rfl) ?_
      exact z_callV (as := []) (st := [vi l1]) dX1_result_16 vsX1_291_11 (Nat.le_refl _) (Nat.le_of_ble_eq_true rfl) (Nat.le_of_ble_eq_true rfl) rfl k
theorem sX1_result_19 {E : zE} {d : Nat} {Q : zO → zM → Prop} (M : zM) (l1 : Int32) (l2 : Int32) (l3 : Int32) (s0 : Int32) (s1 : Int32) (hw : cw M) (k : if s0 ≤ s1 then (Q (.inl (some (vl (0 : Int64)))) M) else (if l2 < 0 then (Q (.inl (some (vl (0 : Int64)))) M) else (if (1 : Int32) < l2 then (Q (.inl (some (vl (0 : Int64)))) M) else (∃ b1 : Nat, (gr M 16 59) = some (b1, 6, 0) ∧ (∃ b2 m2 : Nat, (gr M b1 9) = some (b2, 100, m2) ∧ (vp_in (((gi M 16 75) + ((2 : Int32) * l1)) + l2) m2 ∧ (if (gi M b2 ((((gi M 16 75) + ((2 : Int32) * l1)) + l2)).toNatClampNeg) = (-1 : Int32) then (Q (.inl (some (vl (0 : Int64)))) M) else (∃ b3 : Nat, (gr M 16 59) = some (b3, 6, 0) ∧ (∃ b4 m4 : Nat, (gr M b3 10) = some (b4, 100, m4) ∧ (vp_in (((gi M 16 75) + ((2 : Int32) * l1)) + l2) m4 ∧ (∃ b5 : Nat, (gr M 16 59) = some (b5, 6, 0) ∧ (∃ b6 m6 : Nat, (gr M b5 18) = some (b6, 105, m6) ∧ (vp_in (gi M b4 ((((gi M 16 75) + ((2 : Int32) * l1)) + l2)).toNatClampNeg) m6 ∧ (Z E YX6_of d M (zargs 0 [vr (some (71, 4, 0)), vl (gl M b6 ((gi M b4 ((((gi M 16 75) + ((2 : Int32) * l1)) + l2)).toNatClampNeg)).toNatClampNeg)]) 0 [] (zafter E YX1_result (d + 1) [(0, vr (some (16, 0, 0))), (3, vi l3), (4, vi (gi M b4 ((((gi M 16 75) + ((2 : Int32) * l1)) + l2)).toNatClampNeg))] 89 3 [] Q))))))))))))))) : Z E YX1_result (d + 1) M [(0, vr (some (16, 0, 0))), (1, vi l1), (2, vi l2), (3, vi l3)] 19 [vi s0, vi s1] Q := by
  refine z_icmp_ge (tgt := 53) dX1_result_19 rfl (fun h_ => ?_) (fun h_ => ?_)
  · have k := zit h_ k
    refine z_lconst (v := 0) dX1_result_53 rfl ?_
    exact z_lret dX1_result_54 rfl k
  · have k := zif h_ k
    refine z_iload_n dX1_result_22 rfl rfl ?_
    refine z_if_lt (tgt := 53) dX1_result_23 rfl (fun h_ => ?_) (fun h_ => ?_)
    · have k := zit h_ k
      refine z_lconst (v := 0) dX1_result_53 rfl ?_
      exact z_lret dX1_result_54 rfl k
    · have k := zif h_ k
      refine z_iload_n dX1_result_26 rfl rfl ?_
      refine z_iconst (v := 1) dX1_result_27 rfl ?_
      refine z_icmp_gt (tgt := 53) dX1_result_28 rfl (fun h_ => ?_) (fun h_ => ?_)
      · have k := zit h_ k
        refine z_lconst (v := 0) dX1_result_53 rfl ?_
        exact z_lret dX1_result_54 rfl k
      · have k := zif h_ k
        refine z_aload_n dX1_result_31 rfl rfl ?_
        refine z_getr (r := (gr M 16 59)) dX1_result_32 fsX1_674_0 rfl ?_
        obtain ⟨b1, e1_, k⟩ := k
        refine Z.eqs (lv' := [(0, vr (some (16, 0, 0))), (1, vi l1), (2, vi l2), (3, vi l3)]) (st' := [vr (some (b1, 6, 0))]) rfl (by rw [e1_] <;> rfl) ?_
        refine z_getr (r := (gr M b1 9)) dX1_result_35 fsX1_719_6 rfl ?_
        refine z_aload_n dX1_result_38 rfl rfl ?_
        refine z_geti dX1_result_39 fsX1_694_0 ?_
        refine z_iconst (v := 2) dX1_result_42 rfl ?_
        refine z_iload_n dX1_result_43 rfl rfl ?_
        refine z_imul dX1_result_44 ?_
        refine z_iadd dX1_result_45 ?_
        refine z_iload_n dX1_result_46 rfl rfl ?_
        refine z_iadd dX1_result_47 ?_
        obtain ⟨b2, m2, e2_, k⟩ := k
        refine Z.eqs (lv' := [(0, vr (some (16, 0, 0))), (1, vi l1), (2, vi l2), (3, vi l3)]) (st' := [vi (((gi M 16 75) + ((2 : Int32) * l1)) + l2), vr (some (b2, 100, m2))]) rfl (by rw [e2_] <;> rfl) ?_
        obtain ⟨b_, k⟩ := k
        refine z_iald dX1_result_48 b_ ?_
        refine z_iconst (v := -1) dX1_result_49 rfl ?_
        refine z_icmp_ne (tgt := 55) dX1_result_50 rfl (fun h_ => ?_) (fun h_ => ?_)
        · have k := zif h_ k
          refine z_aload_n dX1_result_55 rfl rfl ?_
          refine z_getr (r := (gr M 16 59)) dX1_result_56 fsX1_674_0 rfl ?_
          obtain ⟨b3, e3_, k⟩ := k
          refine Z.eqs (lv' := [(0, vr (some (16, 0, 0))), (1, vi l1), (2, vi l2), (3, vi l3)]) (st' := [vr (some (b3, 6, 0))]) rfl (by rw [e3_] <;> rfl) ?_
          refine z_getr (r := (gr M b3 10)) dX1_result_59 fsX1_1075_6 rfl ?_
          refine z_aload_n dX1_result_62 rfl rfl ?_
          refine z_geti dX1_result_63 fsX1_694_0 ?_
          refine z_iconst (v := 2) dX1_result_66 rfl ?_
          refine z_iload_n dX1_result_67 rfl rfl ?_
          refine z_imul dX1_result_68 ?_
          refine z_iadd dX1_result_69 ?_
          refine z_iload_n dX1_result_70 rfl rfl ?_
          refine z_iadd dX1_result_71 ?_
          obtain ⟨b4, m4, e4_, k⟩ := k
          refine Z.eqs (lv' := [(0, vr (some (16, 0, 0))), (1, vi l1), (2, vi l2), (3, vi l3)]) (st' := [vi (((gi M 16 75) + ((2 : Int32) * l1)) + l2), vr (some (b4, 100, m4))]) rfl (by rw [e4_] <;> rfl) ?_
          obtain ⟨b_, k⟩ := k
          refine z_iald dX1_result_72 b_ ?_
          refine z_ist dX1_result_73 (by decide) (lv' := [(0, vr (some (16, 0, 0))), (1, vi l1), (2, vi l2), (3, vi l3), (4, vi (gi M b4 ((((gi M 16 75) + ((2 : Int32) * l1)) + l2)).toNatClampNeg))]) rfl ?_
          refine z_aload_n dX1_result_75 rfl rfl ?_
          refine z_getr dX1_result_76 fsX1_206_0 (show gr M 16 78 = some (71, 4, 0) from cw_at hw 39 rfl) ?_
          refine z_aload_n dX1_result_79 rfl rfl ?_
          refine z_getr (r := (gr M 16 59)) dX1_result_80 fsX1_674_0 rfl ?_
          obtain ⟨b5, e5_, k⟩ := k
          refine Z.eqs (lv' := [(0, vr (some (16, 0, 0))), (1, vi l1), (2, vi l2), (3, vi l3), (4, vi (gi M b4 ((((gi M 16 75) + ((2 : Int32) * l1)) + l2)).toNatClampNeg))]) (st' := [vr (some (b5, 6, 0)), vr (some (71, 4, 0))]) rfl (by rw [e5_] <;> rfl) ?_
          refine z_getr (r := (gr M b5 18)) dX1_result_83 fsX1_1078_6 rfl ?_
          refine z_iload dX1_result_86 rfl ?_
          obtain ⟨b6, m6, e6_, k⟩ := k
          refine Z.eqs (lv' := [(0, vr (some (16, 0, 0))), (1, vi l1), (2, vi l2), (3, vi l3), (4, vi (gi M b4 ((((gi M 16 75) + ((2 : Int32) * l1)) + l2)).toNatClampNeg))]) (st' := [vi (gi M b4 ((((gi M 16 75) + ((2 : Int32) * l1)) + l2)).toNatClampNeg), vr (some (b6, 105, m6)), vr (some (71, 4, 0))]) rfl (by rw [e6_] <;> rfl) ?_
          obtain ⟨b_, k⟩ := k
          refine z_lald dX1_result_88 b_ ?_
          refine Z.pick [0, 3, 4] rfl ?_
          exact z_callV (as := [vl (gl M b6 ((gi M b4 ((((gi M 16 75) + ((2 : Int32) * l1)) + l2)).toNatClampNeg)).toNatClampNeg)]) (st := []) dX1_result_89 vsX1_892_4 (Nat.le_refl _) (Nat.le_of_ble_eq_true rfl) (Nat.le_of_ble_eq_true rfl) rfl k
        · have k := zit h_ k
          refine z_lconst (v := 0) dX1_result_53 rfl ?_
          exact z_lret dX1_result_54 rfl k
theorem sX1_result_92 {E : zE} {d : Nat} {Q : zO → zM → Prop} (M : zM) (l3 : Int32) (l4 : Int32) (u0 : Option zP) (hw : cw M) (k : ∃ b1 : Nat, (gr M 16 59) = some (b1, 6, 0) ∧ (∃ b2 m2 : Nat, (gr M b1 16) = some (b2, 105, m2) ∧ (vp_in l4 m2 ∧ (∃ b3 : Nat, (gr M 16 59) = some (b3, 6, 0) ∧ (∃ b4 m4 : Nat, (gr M b3 17) = some (b4, 105, m4) ∧ (vp_in l4 m4 ∧ (∃ b5 : Nat, u0 = some (b5, 4, 0) ∧ (Z E YX6_join3 d M (zargs 0 [vr (some (b5, 4, 0)), vl (gl M b2 (l4).toNatClampNeg), vl (gl M b4 (l4).toNatClampNeg), vl (0 : Int64)]) 0 [] (zafter E YX1_result (d + 1) [(3, vi l3)] 113 3 [] Q))))))))) : Z E YX1_result (d + 1) M [(0, vr (some (16, 0, 0))), (3, vi l3), (4, vi l4)] 92 [vr u0] Q := by
  refine z_aload_n dX1_result_92 rfl rfl ?_
  refine z_getr (r := (gr M 16 59)) dX1_result_93 fsX1_674_0 rfl ?_
  obtain ⟨b1, e1_, k⟩ := k
  refine Z.eqs (lv' := [(0, vr (some (16, 0, 0))), (3, vi l3), (4, vi l4)]) (st' := [vr (some (b1, 6, 0)), vr u0]) rfl (by rw [e1_] <;> rfl) ?_
  refine z_getr (r := (gr M b1 16)) dX1_result_96 fsX1_1079_6 rfl ?_
  refine z_iload dX1_result_99 rfl ?_
  obtain ⟨b2, m2, e2_, k⟩ := k
  refine Z.eqs (lv' := [(0, vr (some (16, 0, 0))), (3, vi l3), (4, vi l4)]) (st' := [vi l4, vr (some (b2, 105, m2)), vr u0]) rfl (by rw [e2_] <;> rfl) ?_
  obtain ⟨b_, k⟩ := k
  refine z_lald dX1_result_101 b_ ?_
  refine z_aload_n dX1_result_102 rfl rfl ?_
  refine z_getr (r := (gr M 16 59)) dX1_result_103 fsX1_674_0 rfl ?_
  obtain ⟨b3, e3_, k⟩ := k
  refine Z.eqs (lv' := [(0, vr (some (16, 0, 0))), (3, vi l3), (4, vi l4)]) (st' := [vr (some (b3, 6, 0)), vl (gl M b2 (l4).toNatClampNeg), vr u0]) rfl (by rw [e3_] <;> rfl) ?_
  refine z_getr (r := (gr M b3 17)) dX1_result_106 fsX1_1080_6 rfl ?_
  refine z_iload dX1_result_109 rfl ?_
  obtain ⟨b4, m4, e4_, k⟩ := k
  refine Z.eqs (lv' := [(0, vr (some (16, 0, 0))), (3, vi l3), (4, vi l4)]) (st' := [vi l4, vr (some (b4, 105, m4)), vl (gl M b2 (l4).toNatClampNeg), vr u0]) rfl (by rw [e4_] <;> rfl) ?_
  obtain ⟨b_, k⟩ := k
  refine z_lald dX1_result_111 b_ ?_
  refine z_lconst (v := 0) dX1_result_112 rfl ?_
  obtain ⟨b5, e5_, k⟩ := k
  refine Z.eqs (lv' := [(0, vr (some (16, 0, 0))), (3, vi l3), (4, vi l4)]) (st' := [vl (0 : Int64), vl (gl M b4 (l4).toNatClampNeg), vl (gl M b2 (l4).toNatClampNeg), vr (some (b5, 4, 0))]) rfl (by rw [e5_] <;> rfl) ?_
  refine Z.pick [1] rfl ?_
  exact z_callV (as := [vl (gl M b2 (l4).toNatClampNeg), vl (gl M b4 (l4).toNatClampNeg), vl (0 : Int64)]) (st := []) dX1_result_113 vsX1_871_4 (Nat.le_refl _) (Nat.le_of_ble_eq_true rfl) (Nat.le_of_ble_eq_true rfl) rfl k
theorem sX1_result_116 {E : zE} {d : Nat} {Q : zO → zM → Prop} (M : zM) (l3 : Int32) (u0 : Option zP) (hw : cw M) (k : ∃ b1 : Nat, u0 = some (b1, 4, 0) ∧ (Z E YX6_told d M (zargs 0 [vr (some (b1, 4, 0)), vi l3]) 0 [] (zafter E YX1_result (d + 1) [] 117 3 [] Q))) : Z E YX1_result (d + 1) M [(3, vi l3)] 116 [vr u0] Q := by
  refine z_iload_n dX1_result_116 rfl rfl ?_
  obtain ⟨b1, e1_, k⟩ := k
  refine Z.eqs (lv' := [(3, vi l3)]) (st' := [vi l3, vr (some (b1, 4, 0))]) rfl (by rw [e1_] <;> rfl) ?_
  refine Z.pick [] rfl ?_
  exact z_callV (as := [vi l3]) (st := []) dX1_result_117 vsX1_1122_4 (Nat.le_refl _) (Nat.le_of_ble_eq_true rfl) (Nat.le_of_ble_eq_true rfl) rfl k
theorem sX1_result_120 {E : zE} {d : Nat} {Q : zO → zM → Prop} (M : zM) (s0 : Int64) (hw : cw M) (k : Q (.inl (some (vl s0))) M) : Z E YX1_result (d + 1) M [] 120 [vl s0] Q := by
  exact z_lret dX1_result_120 rfl k
/-! ScriptTypes.warns(I)I -/
theorem bX1_warns_0 : zdec cX1_warns 0 [(0, .aload_n 0, 1), (1, .iload_n 1, 1), (2, .invokevirtual 1113, 3), (5, .ifCond .eq 12, 3), (8, .aload_n 0, 1), (9, .getfield 200, 3), (12, .iload_n 1, 1), (13, .baload, 1), (14, .goto 4, 3), (17, .iconst (-1), 1), (18, .ireturn, 1)] = true := by decide +kernel
theorem dX1_warns_0 : decode cX1_warns 0 = .ok (.aload_n 0, 1) := zdec_at bX1_warns_0 0 rfl
theorem dX1_warns_1 : decode cX1_warns 1 = .ok (.iload_n 1, 1) := zdec_at bX1_warns_0 1 rfl
theorem dX1_warns_2 : decode cX1_warns 2 = .ok (.invokevirtual 1113, 3) := zdec_at bX1_warns_0 2 rfl
theorem dX1_warns_5 : decode cX1_warns 5 = .ok (.ifCond .eq 12, 3) := zdec_at bX1_warns_0 3 rfl
theorem dX1_warns_8 : decode cX1_warns 8 = .ok (.aload_n 0, 1) := zdec_at bX1_warns_0 4 rfl
theorem dX1_warns_9 : decode cX1_warns 9 = .ok (.getfield 200, 3) := zdec_at bX1_warns_0 5 rfl
theorem dX1_warns_12 : decode cX1_warns 12 = .ok (.iload_n 1, 1) := zdec_at bX1_warns_0 6 rfl
theorem dX1_warns_13 : decode cX1_warns 13 = .ok (.baload, 1) := zdec_at bX1_warns_0 7 rfl
theorem dX1_warns_14 : decode cX1_warns 14 = .ok (.goto 4, 3) := zdec_at bX1_warns_0 8 rfl
theorem dX1_warns_17 : decode cX1_warns 17 = .ok (.iconst (-1), 1) := zdec_at bX1_warns_0 9 rfl
theorem dX1_warns_18 : decode cX1_warns 18 = .ok (.ireturn, 1) := zdec_at bX1_warns_0 10 rfl
theorem sX1_warns_0 {E : zE} {d : Nat} {Q : zO → zM → Prop} (M : zM) (l1 : Int32) (hw : cw M) (k : Z E YX1_isReached d M (zargs 0 [vr (some (16, 0, 0)), vi l1]) 0 [] (zafter E YX1_warns (d + 1) [(0, vr (some (16, 0, 0))), (1, vi l1)] 2 3 [] Q)) : Z E YX1_warns (d + 1) M [(0, vr (some (16, 0, 0))), (1, vi l1)] 0 [] Q := by
  refine z_aload_n dX1_warns_0 rfl rfl ?_
  refine z_iload_n dX1_warns_1 rfl rfl ?_
  exact z_callV (as := [vi l1]) (st := []) dX1_warns_2 vsX1_1113_0 (Nat.le_refl _) (Nat.le_of_ble_eq_true rfl) (Nat.le_of_ble_eq_true rfl) rfl k
theorem sX1_warns_5 {E : zE} {d : Nat} {Q : zO → zM → Prop} (M : zM) (l1 : Int32) (s0 : Int32) (hw : cw M) (k : if s0 = 0 then (Q (.inl (some (vi (-1 : Int32)))) M) else (vp_in l1 600 ∧ (Q (.inl (some (vi (gi M 70 (l1).toNatClampNeg)))) M))) : Z E YX1_warns (d + 1) M [(0, vr (some (16, 0, 0))), (1, vi l1)] 5 [vi s0] Q := by
  refine z_if_eq (tgt := 17) dX1_warns_5 rfl (fun h_ => ?_) (fun h_ => ?_)
  · have k := zit h_ k
    refine z_iconst (v := -1) dX1_warns_17 rfl ?_
    exact z_iret dX1_warns_18 rfl rfl k
  · have k := zif h_ k
    refine z_aload_n dX1_warns_8 rfl rfl ?_
    refine z_getr dX1_warns_9 fsX1_200_0 (show gr M 16 66 = some (70, 101, 600) from cw_at hw 38 rfl) ?_
    refine z_iload_n dX1_warns_12 rfl rfl ?_
    obtain ⟨b_, k⟩ := k
    refine z_bald dX1_warns_13 b_ ?_
    refine z_goto (tgt := 18) dX1_warns_14 rfl ?_
    exact z_iret dX1_warns_18 rfl rfl k
/-! ScriptTypes.solve()I -/
theorem bX1_solve_0 : zdec cX1_solve 0 [(0, .aload_n 0, 1), (1, .getfield 270, 3), (4, .ifCond .ne 11, 3), (7, .new 434, 3), (10, .dup, 1), (11, .invokespecial 436, 3), (14, .athrow, 1), (15, .aload_n 0, 1), (16, .getfield 274, 3), (19, .ifCond .eq 8, 3), (22, .aload_n 0, 1), (23, .getfield 331, 3), (26, .ireturn, 1), (27, .aload_n 0, 1), (28, .getfield 674, 3), (31, .ifnonnull 39, 3)] = true := by decide +kernel
theorem dX1_solve_0 : decode cX1_solve 0 = .ok (.aload_n 0, 1) := zdec_at bX1_solve_0 0 rfl
theorem dX1_solve_1 : decode cX1_solve 1 = .ok (.getfield 270, 3) := zdec_at bX1_solve_0 1 rfl
theorem dX1_solve_4 : decode cX1_solve 4 = .ok (.ifCond .ne 11, 3) := zdec_at bX1_solve_0 2 rfl
theorem dX1_solve_7 : decode cX1_solve 7 = .ok (.new 434, 3) := zdec_at bX1_solve_0 3 rfl
theorem dX1_solve_10 : decode cX1_solve 10 = .ok (.dup, 1) := zdec_at bX1_solve_0 4 rfl
theorem dX1_solve_11 : decode cX1_solve 11 = .ok (.invokespecial 436, 3) := zdec_at bX1_solve_0 5 rfl
theorem dX1_solve_14 : decode cX1_solve 14 = .ok (.athrow, 1) := zdec_at bX1_solve_0 6 rfl
theorem dX1_solve_15 : decode cX1_solve 15 = .ok (.aload_n 0, 1) := zdec_at bX1_solve_0 7 rfl
theorem dX1_solve_16 : decode cX1_solve 16 = .ok (.getfield 274, 3) := zdec_at bX1_solve_0 8 rfl
theorem dX1_solve_19 : decode cX1_solve 19 = .ok (.ifCond .eq 8, 3) := zdec_at bX1_solve_0 9 rfl
theorem dX1_solve_22 : decode cX1_solve 22 = .ok (.aload_n 0, 1) := zdec_at bX1_solve_0 10 rfl
theorem dX1_solve_23 : decode cX1_solve 23 = .ok (.getfield 331, 3) := zdec_at bX1_solve_0 11 rfl
theorem dX1_solve_26 : decode cX1_solve 26 = .ok (.ireturn, 1) := zdec_at bX1_solve_0 12 rfl
theorem dX1_solve_27 : decode cX1_solve 27 = .ok (.aload_n 0, 1) := zdec_at bX1_solve_0 13 rfl
theorem dX1_solve_28 : decode cX1_solve 28 = .ok (.getfield 674, 3) := zdec_at bX1_solve_0 14 rfl
theorem dX1_solve_31 : decode cX1_solve 31 = .ok (.ifnonnull 39, 3) := zdec_at bX1_solve_0 15 rfl
theorem bX1_solve_34 : zdec cX1_solve 34 [(34, .aload_n 0, 1), (35, .new 678, 3), (38, .dup, 1), (39, .aload_n 0, 1), (40, .invokespecial 680, 3), (43, .putfield 674, 3), (46, .aload_n 0, 1), (47, .new 681, 3), (50, .dup, 1), (51, .aload_n 0, 1), (52, .invokespecial 683, 3), (55, .putfield 684, 3), (58, .aload_n 0, 1), (59, .new 681, 3), (62, .dup, 1), (63, .aload_n 0, 1)] = true := by decide +kernel
theorem dX1_solve_34 : decode cX1_solve 34 = .ok (.aload_n 0, 1) := zdec_at bX1_solve_34 0 rfl
theorem dX1_solve_35 : decode cX1_solve 35 = .ok (.new 678, 3) := zdec_at bX1_solve_34 1 rfl
theorem dX1_solve_38 : decode cX1_solve 38 = .ok (.dup, 1) := zdec_at bX1_solve_34 2 rfl
theorem dX1_solve_39 : decode cX1_solve 39 = .ok (.aload_n 0, 1) := zdec_at bX1_solve_34 3 rfl
theorem dX1_solve_40 : decode cX1_solve 40 = .ok (.invokespecial 680, 3) := zdec_at bX1_solve_34 4 rfl
theorem dX1_solve_43 : decode cX1_solve 43 = .ok (.putfield 674, 3) := zdec_at bX1_solve_34 5 rfl
theorem dX1_solve_46 : decode cX1_solve 46 = .ok (.aload_n 0, 1) := zdec_at bX1_solve_34 6 rfl
theorem dX1_solve_47 : decode cX1_solve 47 = .ok (.new 681, 3) := zdec_at bX1_solve_34 7 rfl
theorem dX1_solve_50 : decode cX1_solve 50 = .ok (.dup, 1) := zdec_at bX1_solve_34 8 rfl
theorem dX1_solve_51 : decode cX1_solve 51 = .ok (.aload_n 0, 1) := zdec_at bX1_solve_34 9 rfl
theorem dX1_solve_52 : decode cX1_solve 52 = .ok (.invokespecial 683, 3) := zdec_at bX1_solve_34 10 rfl
theorem dX1_solve_55 : decode cX1_solve 55 = .ok (.putfield 684, 3) := zdec_at bX1_solve_34 11 rfl
theorem dX1_solve_58 : decode cX1_solve 58 = .ok (.aload_n 0, 1) := zdec_at bX1_solve_34 12 rfl
theorem dX1_solve_59 : decode cX1_solve 59 = .ok (.new 681, 3) := zdec_at bX1_solve_34 13 rfl
theorem dX1_solve_62 : decode cX1_solve 62 = .ok (.dup, 1) := zdec_at bX1_solve_34 14 rfl
theorem dX1_solve_63 : decode cX1_solve 63 = .ok (.aload_n 0, 1) := zdec_at bX1_solve_34 15 rfl
theorem bX1_solve_64 : zdec cX1_solve 64 [(64, .invokespecial 683, 3), (67, .putfield 688, 3), (70, .aload_n 0, 1), (71, .invokevirtual 691, 3), (74, .aload_n 0, 1), (75, .aload_n 0, 1), (76, .getfield 89, 3), (79, .getfield 287, 3), (82, .putfield 694, 3), (85, .aload_n 0, 1), (86, .getfield 694, 3), (89, .iconst 2, 1), (90, .aload_n 0, 1), (91, .getfield 82, 3), (94, .invokevirtual 291, 3), (97, .imul, 1)] = true := by decide +kernel
theorem dX1_solve_64 : decode cX1_solve 64 = .ok (.invokespecial 683, 3) := zdec_at bX1_solve_64 0 rfl
theorem dX1_solve_67 : decode cX1_solve 67 = .ok (.putfield 688, 3) := zdec_at bX1_solve_64 1 rfl
theorem dX1_solve_70 : decode cX1_solve 70 = .ok (.aload_n 0, 1) := zdec_at bX1_solve_64 2 rfl
theorem dX1_solve_71 : decode cX1_solve 71 = .ok (.invokevirtual 691, 3) := zdec_at bX1_solve_64 3 rfl
theorem dX1_solve_74 : decode cX1_solve 74 = .ok (.aload_n 0, 1) := zdec_at bX1_solve_64 4 rfl
theorem dX1_solve_75 : decode cX1_solve 75 = .ok (.aload_n 0, 1) := zdec_at bX1_solve_64 5 rfl
theorem dX1_solve_76 : decode cX1_solve 76 = .ok (.getfield 89, 3) := zdec_at bX1_solve_64 6 rfl
theorem dX1_solve_79 : decode cX1_solve 79 = .ok (.getfield 287, 3) := zdec_at bX1_solve_64 7 rfl
theorem dX1_solve_82 : decode cX1_solve 82 = .ok (.putfield 694, 3) := zdec_at bX1_solve_64 8 rfl
theorem dX1_solve_85 : decode cX1_solve 85 = .ok (.aload_n 0, 1) := zdec_at bX1_solve_64 9 rfl
theorem dX1_solve_86 : decode cX1_solve 86 = .ok (.getfield 694, 3) := zdec_at bX1_solve_64 10 rfl
theorem dX1_solve_89 : decode cX1_solve 89 = .ok (.iconst 2, 1) := zdec_at bX1_solve_64 11 rfl
theorem dX1_solve_90 : decode cX1_solve 90 = .ok (.aload_n 0, 1) := zdec_at bX1_solve_64 12 rfl
theorem dX1_solve_91 : decode cX1_solve 91 = .ok (.getfield 82, 3) := zdec_at bX1_solve_64 13 rfl
theorem dX1_solve_94 : decode cX1_solve 94 = .ok (.invokevirtual 291, 3) := zdec_at bX1_solve_64 14 rfl
theorem dX1_solve_97 : decode cX1_solve 97 = .ok (.imul, 1) := zdec_at bX1_solve_64 15 rfl
theorem bX1_solve_98 : zdec cX1_solve 98 [(98, .iadd, 1), (99, .istore_n 1, 1), (100, .aload_n 0, 1), (101, .getfield 674, 3), (104, .iload_n 1, 1), (105, .invokevirtual 697, 3), (108, .iconst 0, 1), (109, .istore_n 2, 1), (110, .iload_n 2, 1), (111, .iload_n 1, 1), (112, .if_icmp .ge 23, 3), (115, .aload_n 0, 1), (116, .getfield 193, 3), (119, .iload_n 2, 1), (120, .iconst 0, 1), (121, .bastore, 1)] = true := by decide +kernel
theorem dX1_solve_98 : decode cX1_solve 98 = .ok (.iadd, 1) := zdec_at bX1_solve_98 0 rfl
theorem dX1_solve_99 : decode cX1_solve 99 = .ok (.istore_n 1, 1) := zdec_at bX1_solve_98 1 rfl
theorem dX1_solve_100 : decode cX1_solve 100 = .ok (.aload_n 0, 1) := zdec_at bX1_solve_98 2 rfl
theorem dX1_solve_101 : decode cX1_solve 101 = .ok (.getfield 674, 3) := zdec_at bX1_solve_98 3 rfl
theorem dX1_solve_104 : decode cX1_solve 104 = .ok (.iload_n 1, 1) := zdec_at bX1_solve_98 4 rfl
theorem dX1_solve_105 : decode cX1_solve 105 = .ok (.invokevirtual 697, 3) := zdec_at bX1_solve_98 5 rfl
theorem dX1_solve_108 : decode cX1_solve 108 = .ok (.iconst 0, 1) := zdec_at bX1_solve_98 6 rfl
theorem dX1_solve_109 : decode cX1_solve 109 = .ok (.istore_n 2, 1) := zdec_at bX1_solve_98 7 rfl
theorem dX1_solve_110 : decode cX1_solve 110 = .ok (.iload_n 2, 1) := zdec_at bX1_solve_98 8 rfl
theorem dX1_solve_111 : decode cX1_solve 111 = .ok (.iload_n 1, 1) := zdec_at bX1_solve_98 9 rfl
theorem dX1_solve_112 : decode cX1_solve 112 = .ok (.if_icmp .ge 23, 3) := zdec_at bX1_solve_98 10 rfl
theorem dX1_solve_115 : decode cX1_solve 115 = .ok (.aload_n 0, 1) := zdec_at bX1_solve_98 11 rfl
theorem dX1_solve_116 : decode cX1_solve 116 = .ok (.getfield 193, 3) := zdec_at bX1_solve_98 12 rfl
theorem dX1_solve_119 : decode cX1_solve 119 = .ok (.iload_n 2, 1) := zdec_at bX1_solve_98 13 rfl
theorem dX1_solve_120 : decode cX1_solve 120 = .ok (.iconst 0, 1) := zdec_at bX1_solve_98 14 rfl
theorem dX1_solve_121 : decode cX1_solve 121 = .ok (.bastore, 1) := zdec_at bX1_solve_98 15 rfl
theorem bX1_solve_122 : zdec cX1_solve 122 [(122, .aload_n 0, 1), (123, .getfield 197, 3), (126, .iload_n 2, 1), (127, .iconst 0, 1), (128, .sastore, 1), (129, .iinc 2 1, 3), (132, .goto (-22), 3), (135, .aload_n 0, 1), (136, .invokevirtual 700, 3), (139, .aload_n 0, 1), (140, .iconst 0, 1), (141, .aload_n 0, 1), (142, .getfield 684, 3), (145, .invokevirtual 703, 3), (148, .iconst 1, 1), (149, .istore_n 2, 1)] = true := by decide +kernel
theorem dX1_solve_122 : decode cX1_solve 122 = .ok (.aload_n 0, 1) := zdec_at bX1_solve_122 0 rfl
theorem dX1_solve_123 : decode cX1_solve 123 = .ok (.getfield 197, 3) := zdec_at bX1_solve_122 1 rfl
theorem dX1_solve_126 : decode cX1_solve 126 = .ok (.iload_n 2, 1) := zdec_at bX1_solve_122 2 rfl
theorem dX1_solve_127 : decode cX1_solve 127 = .ok (.iconst 0, 1) := zdec_at bX1_solve_122 3 rfl
theorem dX1_solve_128 : decode cX1_solve 128 = .ok (.sastore, 1) := zdec_at bX1_solve_122 4 rfl
theorem dX1_solve_129 : decode cX1_solve 129 = .ok (.iinc 2 1, 3) := zdec_at bX1_solve_122 5 rfl
theorem dX1_solve_132 : decode cX1_solve 132 = .ok (.goto (-22), 3) := zdec_at bX1_solve_122 6 rfl
theorem dX1_solve_135 : decode cX1_solve 135 = .ok (.aload_n 0, 1) := zdec_at bX1_solve_122 7 rfl
theorem dX1_solve_136 : decode cX1_solve 136 = .ok (.invokevirtual 700, 3) := zdec_at bX1_solve_122 8 rfl
theorem dX1_solve_139 : decode cX1_solve 139 = .ok (.aload_n 0, 1) := zdec_at bX1_solve_122 9 rfl
theorem dX1_solve_140 : decode cX1_solve 140 = .ok (.iconst 0, 1) := zdec_at bX1_solve_122 10 rfl
theorem dX1_solve_141 : decode cX1_solve 141 = .ok (.aload_n 0, 1) := zdec_at bX1_solve_122 11 rfl
theorem dX1_solve_142 : decode cX1_solve 142 = .ok (.getfield 684, 3) := zdec_at bX1_solve_122 12 rfl
theorem dX1_solve_145 : decode cX1_solve 145 = .ok (.invokevirtual 703, 3) := zdec_at bX1_solve_122 13 rfl
theorem dX1_solve_148 : decode cX1_solve 148 = .ok (.iconst 1, 1) := zdec_at bX1_solve_122 14 rfl
theorem dX1_solve_149 : decode cX1_solve 149 = .ok (.istore_n 2, 1) := zdec_at bX1_solve_122 15 rfl
theorem bX1_solve_150 : zdec cX1_solve 150 [(150, .iload_n 2, 1), (151, .ifCond .eq 126, 3), (154, .iconst 0, 1), (155, .istore_n 2, 1), (156, .iconst 0, 1), (157, .istore_n 3, 1), (158, .iload_n 3, 1), (159, .aload_n 0, 1), (160, .getfield 89, 3), (163, .getfield 287, 3), (166, .if_icmp .ge 108, 3), (169, .aload_n 0, 1), (170, .getfield 193, 3), (173, .iload_n 3, 1), (174, .baload, 1), (175, .ifCond .ne 6, 3)] = true := by decide +kernel
theorem dX1_solve_150 : decode cX1_solve 150 = .ok (.iload_n 2, 1) := zdec_at bX1_solve_150 0 rfl
theorem dX1_solve_151 : decode cX1_solve 151 = .ok (.ifCond .eq 126, 3) := zdec_at bX1_solve_150 1 rfl
theorem dX1_solve_154 : decode cX1_solve 154 = .ok (.iconst 0, 1) := zdec_at bX1_solve_150 2 rfl
theorem dX1_solve_155 : decode cX1_solve 155 = .ok (.istore_n 2, 1) := zdec_at bX1_solve_150 3 rfl
theorem dX1_solve_156 : decode cX1_solve 156 = .ok (.iconst 0, 1) := zdec_at bX1_solve_150 4 rfl
theorem dX1_solve_157 : decode cX1_solve 157 = .ok (.istore_n 3, 1) := zdec_at bX1_solve_150 5 rfl
theorem dX1_solve_158 : decode cX1_solve 158 = .ok (.iload_n 3, 1) := zdec_at bX1_solve_150 6 rfl
theorem dX1_solve_159 : decode cX1_solve 159 = .ok (.aload_n 0, 1) := zdec_at bX1_solve_150 7 rfl
theorem dX1_solve_160 : decode cX1_solve 160 = .ok (.getfield 89, 3) := zdec_at bX1_solve_150 8 rfl
theorem dX1_solve_163 : decode cX1_solve 163 = .ok (.getfield 287, 3) := zdec_at bX1_solve_150 9 rfl
theorem dX1_solve_166 : decode cX1_solve 166 = .ok (.if_icmp .ge 108, 3) := zdec_at bX1_solve_150 10 rfl
theorem dX1_solve_169 : decode cX1_solve 169 = .ok (.aload_n 0, 1) := zdec_at bX1_solve_150 11 rfl
theorem dX1_solve_170 : decode cX1_solve 170 = .ok (.getfield 193, 3) := zdec_at bX1_solve_150 12 rfl
theorem dX1_solve_173 : decode cX1_solve 173 = .ok (.iload_n 3, 1) := zdec_at bX1_solve_150 13 rfl
theorem dX1_solve_174 : decode cX1_solve 174 = .ok (.baload, 1) := zdec_at bX1_solve_150 14 rfl
theorem dX1_solve_175 : decode cX1_solve 175 = .ok (.ifCond .ne 6, 3) := zdec_at bX1_solve_150 15 rfl
theorem bX1_solve_178 : zdec cX1_solve 178 [(178, .goto 90, 3), (181, .aload_n 0, 1), (182, .getfield 193, 3), (185, .iload_n 3, 1), (186, .iconst 0, 1), (187, .bastore, 1), (188, .iconst 1, 1), (189, .istore_n 2, 1), (190, .aload_n 0, 1), (191, .getfield 674, 3), (194, .iload_n 3, 1), (195, .aload_n 0, 1), (196, .getfield 684, 3), (199, .invokevirtual 707, 3), (202, .aload_n 0, 1), (203, .getfield 200, 3)] = true := by decide +kernel
theorem dX1_solve_178 : decode cX1_solve 178 = .ok (.goto 90, 3) := zdec_at bX1_solve_178 0 rfl
theorem dX1_solve_181 : decode cX1_solve 181 = .ok (.aload_n 0, 1) := zdec_at bX1_solve_178 1 rfl
theorem dX1_solve_182 : decode cX1_solve 182 = .ok (.getfield 193, 3) := zdec_at bX1_solve_178 2 rfl
theorem dX1_solve_185 : decode cX1_solve 185 = .ok (.iload_n 3, 1) := zdec_at bX1_solve_178 3 rfl
theorem dX1_solve_186 : decode cX1_solve 186 = .ok (.iconst 0, 1) := zdec_at bX1_solve_178 4 rfl
theorem dX1_solve_187 : decode cX1_solve 187 = .ok (.bastore, 1) := zdec_at bX1_solve_178 5 rfl
theorem dX1_solve_188 : decode cX1_solve 188 = .ok (.iconst 1, 1) := zdec_at bX1_solve_178 6 rfl
theorem dX1_solve_189 : decode cX1_solve 189 = .ok (.istore_n 2, 1) := zdec_at bX1_solve_178 7 rfl
theorem dX1_solve_190 : decode cX1_solve 190 = .ok (.aload_n 0, 1) := zdec_at bX1_solve_178 8 rfl
theorem dX1_solve_191 : decode cX1_solve 191 = .ok (.getfield 674, 3) := zdec_at bX1_solve_178 9 rfl
theorem dX1_solve_194 : decode cX1_solve 194 = .ok (.iload_n 3, 1) := zdec_at bX1_solve_178 10 rfl
theorem dX1_solve_195 : decode cX1_solve 195 = .ok (.aload_n 0, 1) := zdec_at bX1_solve_178 11 rfl
theorem dX1_solve_196 : decode cX1_solve 196 = .ok (.getfield 684, 3) := zdec_at bX1_solve_178 12 rfl
theorem dX1_solve_199 : decode cX1_solve 199 = .ok (.invokevirtual 707, 3) := zdec_at bX1_solve_178 13 rfl
theorem dX1_solve_202 : decode cX1_solve 202 = .ok (.aload_n 0, 1) := zdec_at bX1_solve_178 14 rfl
theorem dX1_solve_203 : decode cX1_solve 203 = .ok (.getfield 200, 3) := zdec_at bX1_solve_178 15 rfl
theorem bX1_solve_206 : zdec cX1_solve 206 [(206, .iload_n 3, 1), (207, .iconst 0, 1), (208, .bastore, 1), (209, .aload_n 0, 1), (210, .iconst 0, 1), (211, .putfield 710, 3), (214, .aload_n 0, 1), (215, .iload_n 3, 1), (216, .putfield 713, 3), (219, .aload_n 0, 1), (220, .aload_n 0, 1), (221, .getfield 89, 3), (224, .getfield 334, 3), (227, .iload_n 3, 1), (228, .baload, 1), (229, .aload_n 0, 1)] = true := by decide +kernel
theorem dX1_solve_206 : decode cX1_solve 206 = .ok (.iload_n 3, 1) := zdec_at bX1_solve_206 0 rfl
theorem dX1_solve_207 : decode cX1_solve 207 = .ok (.iconst 0, 1) := zdec_at bX1_solve_206 1 rfl
theorem dX1_solve_208 : decode cX1_solve 208 = .ok (.bastore, 1) := zdec_at bX1_solve_206 2 rfl
theorem dX1_solve_209 : decode cX1_solve 209 = .ok (.aload_n 0, 1) := zdec_at bX1_solve_206 3 rfl
theorem dX1_solve_210 : decode cX1_solve 210 = .ok (.iconst 0, 1) := zdec_at bX1_solve_206 4 rfl
theorem dX1_solve_211 : decode cX1_solve 211 = .ok (.putfield 710, 3) := zdec_at bX1_solve_206 5 rfl
theorem dX1_solve_214 : decode cX1_solve 214 = .ok (.aload_n 0, 1) := zdec_at bX1_solve_206 6 rfl
theorem dX1_solve_215 : decode cX1_solve 215 = .ok (.iload_n 3, 1) := zdec_at bX1_solve_206 7 rfl
theorem dX1_solve_216 : decode cX1_solve 216 = .ok (.putfield 713, 3) := zdec_at bX1_solve_206 8 rfl
theorem dX1_solve_219 : decode cX1_solve 219 = .ok (.aload_n 0, 1) := zdec_at bX1_solve_206 9 rfl
theorem dX1_solve_220 : decode cX1_solve 220 = .ok (.aload_n 0, 1) := zdec_at bX1_solve_206 10 rfl
theorem dX1_solve_221 : decode cX1_solve 221 = .ok (.getfield 89, 3) := zdec_at bX1_solve_206 11 rfl
theorem dX1_solve_224 : decode cX1_solve 224 = .ok (.getfield 334, 3) := zdec_at bX1_solve_206 12 rfl
theorem dX1_solve_227 : decode cX1_solve 227 = .ok (.iload_n 3, 1) := zdec_at bX1_solve_206 13 rfl
theorem dX1_solve_228 : decode cX1_solve 228 = .ok (.baload, 1) := zdec_at bX1_solve_206 14 rfl
theorem dX1_solve_229 : decode cX1_solve 229 = .ok (.aload_n 0, 1) := zdec_at bX1_solve_206 15 rfl
theorem bX1_solve_230 : zdec cX1_solve 230 [(230, .getfield 89, 3), (233, .getfield 337, 3), (236, .iload_n 3, 1), (237, .saload, 1), (238, .aload_n 0, 1), (239, .getfield 89, 3), (242, .getfield 340, 3), (245, .iload_n 3, 1), (246, .iaload, 1), (247, .invokevirtual 716, 3), (250, .aload_n 0, 1), (251, .getfield 710, 3), (254, .ifCond .ne 14, 3), (257, .aload_n 0, 1), (258, .getfield 200, 3), (261, .iload_n 3, 1)] = true := by decide +kernel
theorem dX1_solve_230 : decode cX1_solve 230 = .ok (.getfield 89, 3) := zdec_at bX1_solve_230 0 rfl
theorem dX1_solve_233 : decode cX1_solve 233 = .ok (.getfield 337, 3) := zdec_at bX1_solve_230 1 rfl
theorem dX1_solve_236 : decode cX1_solve 236 = .ok (.iload_n 3, 1) := zdec_at bX1_solve_230 2 rfl
theorem dX1_solve_237 : decode cX1_solve 237 = .ok (.saload, 1) := zdec_at bX1_solve_230 3 rfl
theorem dX1_solve_238 : decode cX1_solve 238 = .ok (.aload_n 0, 1) := zdec_at bX1_solve_230 4 rfl
theorem dX1_solve_239 : decode cX1_solve 239 = .ok (.getfield 89, 3) := zdec_at bX1_solve_230 5 rfl
theorem dX1_solve_242 : decode cX1_solve 242 = .ok (.getfield 340, 3) := zdec_at bX1_solve_230 6 rfl
theorem dX1_solve_245 : decode cX1_solve 245 = .ok (.iload_n 3, 1) := zdec_at bX1_solve_230 7 rfl
theorem dX1_solve_246 : decode cX1_solve 246 = .ok (.iaload, 1) := zdec_at bX1_solve_230 8 rfl
theorem dX1_solve_247 : decode cX1_solve 247 = .ok (.invokevirtual 716, 3) := zdec_at bX1_solve_230 9 rfl
theorem dX1_solve_250 : decode cX1_solve 250 = .ok (.aload_n 0, 1) := zdec_at bX1_solve_230 10 rfl
theorem dX1_solve_251 : decode cX1_solve 251 = .ok (.getfield 710, 3) := zdec_at bX1_solve_230 11 rfl
theorem dX1_solve_254 : decode cX1_solve 254 = .ok (.ifCond .ne 14, 3) := zdec_at bX1_solve_230 12 rfl
theorem dX1_solve_257 : decode cX1_solve 257 = .ok (.aload_n 0, 1) := zdec_at bX1_solve_230 13 rfl
theorem dX1_solve_258 : decode cX1_solve 258 = .ok (.getfield 200, 3) := zdec_at bX1_solve_230 14 rfl
theorem dX1_solve_261 : decode cX1_solve 261 = .ok (.iload_n 3, 1) := zdec_at bX1_solve_230 15 rfl
theorem bX1_solve_262 : zdec cX1_solve 262 [(262, .dup2, 1), (263, .baload, 1), (264, .iconst 4, 1), (265, .ior, 1), (266, .i2b, 1), (267, .bastore, 1), (268, .iinc 3 1, 3), (271, .goto (-113), 3), (274, .goto (-124), 3), (277, .aload_n 0, 1), (278, .iconst 0, 1), (279, .putfield 331, 3), (282, .iconst 0, 1), (283, .istore_n 3, 1), (284, .iload_n 3, 1), (285, .aload_n 0, 1)] = true := by decide +kernel
theorem dX1_solve_262 : decode cX1_solve 262 = .ok (.dup2, 1) := zdec_at bX1_solve_262 0 rfl
theorem dX1_solve_263 : decode cX1_solve 263 = .ok (.baload, 1) := zdec_at bX1_solve_262 1 rfl
theorem dX1_solve_264 : decode cX1_solve 264 = .ok (.iconst 4, 1) := zdec_at bX1_solve_262 2 rfl
theorem dX1_solve_265 : decode cX1_solve 265 = .ok (.ior, 1) := zdec_at bX1_solve_262 3 rfl
theorem dX1_solve_266 : decode cX1_solve 266 = .ok (.i2b, 1) := zdec_at bX1_solve_262 4 rfl
theorem dX1_solve_267 : decode cX1_solve 267 = .ok (.bastore, 1) := zdec_at bX1_solve_262 5 rfl
theorem dX1_solve_268 : decode cX1_solve 268 = .ok (.iinc 3 1, 3) := zdec_at bX1_solve_262 6 rfl
theorem dX1_solve_271 : decode cX1_solve 271 = .ok (.goto (-113), 3) := zdec_at bX1_solve_262 7 rfl
theorem dX1_solve_274 : decode cX1_solve 274 = .ok (.goto (-124), 3) := zdec_at bX1_solve_262 8 rfl
theorem dX1_solve_277 : decode cX1_solve 277 = .ok (.aload_n 0, 1) := zdec_at bX1_solve_262 9 rfl
theorem dX1_solve_278 : decode cX1_solve 278 = .ok (.iconst 0, 1) := zdec_at bX1_solve_262 10 rfl
theorem dX1_solve_279 : decode cX1_solve 279 = .ok (.putfield 331, 3) := zdec_at bX1_solve_262 11 rfl
theorem dX1_solve_282 : decode cX1_solve 282 = .ok (.iconst 0, 1) := zdec_at bX1_solve_262 12 rfl
theorem dX1_solve_283 : decode cX1_solve 283 = .ok (.istore_n 3, 1) := zdec_at bX1_solve_262 13 rfl
theorem dX1_solve_284 : decode cX1_solve 284 = .ok (.iload_n 3, 1) := zdec_at bX1_solve_262 14 rfl
theorem dX1_solve_285 : decode cX1_solve 285 = .ok (.aload_n 0, 1) := zdec_at bX1_solve_262 15 rfl
theorem bX1_solve_286 : zdec cX1_solve 286 [(286, .getfield 89, 3), (289, .getfield 287, 3), (292, .if_icmp .ge 36, 3), (295, .aload_n 0, 1), (296, .dup, 1), (297, .getfield 331, 3), (300, .aload_n 0, 1), (301, .getfield 674, 3), (304, .getfield 719, 3), (307, .iload_n 3, 1), (308, .iaload, 1), (309, .iconst (-1), 1), (310, .if_icmp .ne 7, 3), (313, .iconst 0, 1), (314, .goto 4, 3), (317, .iconst 1, 1)] = true := by decide +kernel
theorem dX1_solve_286 : decode cX1_solve 286 = .ok (.getfield 89, 3) := zdec_at bX1_solve_286 0 rfl
theorem dX1_solve_289 : decode cX1_solve 289 = .ok (.getfield 287, 3) := zdec_at bX1_solve_286 1 rfl
theorem dX1_solve_292 : decode cX1_solve 292 = .ok (.if_icmp .ge 36, 3) := zdec_at bX1_solve_286 2 rfl
theorem dX1_solve_295 : decode cX1_solve 295 = .ok (.aload_n 0, 1) := zdec_at bX1_solve_286 3 rfl
theorem dX1_solve_296 : decode cX1_solve 296 = .ok (.dup, 1) := zdec_at bX1_solve_286 4 rfl
theorem dX1_solve_297 : decode cX1_solve 297 = .ok (.getfield 331, 3) := zdec_at bX1_solve_286 5 rfl
theorem dX1_solve_300 : decode cX1_solve 300 = .ok (.aload_n 0, 1) := zdec_at bX1_solve_286 6 rfl
theorem dX1_solve_301 : decode cX1_solve 301 = .ok (.getfield 674, 3) := zdec_at bX1_solve_286 7 rfl
theorem dX1_solve_304 : decode cX1_solve 304 = .ok (.getfield 719, 3) := zdec_at bX1_solve_286 8 rfl
theorem dX1_solve_307 : decode cX1_solve 307 = .ok (.iload_n 3, 1) := zdec_at bX1_solve_286 9 rfl
theorem dX1_solve_308 : decode cX1_solve 308 = .ok (.iaload, 1) := zdec_at bX1_solve_286 10 rfl
theorem dX1_solve_309 : decode cX1_solve 309 = .ok (.iconst (-1), 1) := zdec_at bX1_solve_286 11 rfl
theorem dX1_solve_310 : decode cX1_solve 310 = .ok (.if_icmp .ne 7, 3) := zdec_at bX1_solve_286 12 rfl
theorem dX1_solve_313 : decode cX1_solve 313 = .ok (.iconst 0, 1) := zdec_at bX1_solve_286 13 rfl
theorem dX1_solve_314 : decode cX1_solve 314 = .ok (.goto 4, 3) := zdec_at bX1_solve_286 14 rfl
theorem dX1_solve_317 : decode cX1_solve 317 = .ok (.iconst 1, 1) := zdec_at bX1_solve_286 15 rfl
theorem bX1_solve_318 : zdec cX1_solve 318 [(318, .iadd, 1), (319, .putfield 331, 3), (322, .iinc 3 1, 3), (325, .goto (-41), 3), (328, .aload_n 0, 1), (329, .iconst 1, 1), (330, .putfield 274, 3), (333, .aload_n 0, 1), (334, .getfield 331, 3), (337, .ireturn, 1)] = true := by decide +kernel
theorem dX1_solve_318 : decode cX1_solve 318 = .ok (.iadd, 1) := zdec_at bX1_solve_318 0 rfl
theorem dX1_solve_319 : decode cX1_solve 319 = .ok (.putfield 331, 3) := zdec_at bX1_solve_318 1 rfl
theorem dX1_solve_322 : decode cX1_solve 322 = .ok (.iinc 3 1, 3) := zdec_at bX1_solve_318 2 rfl
theorem dX1_solve_325 : decode cX1_solve 325 = .ok (.goto (-41), 3) := zdec_at bX1_solve_318 3 rfl
theorem dX1_solve_328 : decode cX1_solve 328 = .ok (.aload_n 0, 1) := zdec_at bX1_solve_318 4 rfl
theorem dX1_solve_329 : decode cX1_solve 329 = .ok (.iconst 1, 1) := zdec_at bX1_solve_318 5 rfl
theorem dX1_solve_330 : decode cX1_solve 330 = .ok (.putfield 274, 3) := zdec_at bX1_solve_318 6 rfl
theorem dX1_solve_333 : decode cX1_solve 333 = .ok (.aload_n 0, 1) := zdec_at bX1_solve_318 7 rfl
theorem dX1_solve_334 : decode cX1_solve 334 = .ok (.getfield 331, 3) := zdec_at bX1_solve_318 8 rfl
theorem dX1_solve_337 : decode cX1_solve 337 = .ok (.ireturn, 1) := zdec_at bX1_solve_318 9 rfl
theorem sX1_solve_0 {E : zE} {d : Nat} {Q : zO → zM → Prop} (M : zM)  (hw : cw M) (k : if (gi M 16 10) = 0 then ((7 ≤ (d + 1)) ∧ (Q (.inr ((zsz M), 15, 0)) (sr (sr (sr (zn M 6) (zsz M) 0 (some (zsz M, 15, 0))) (zsz M) 1 (zsv E 2)) (zsz M) 2 (zsv E 3)))) else (if (gi M 16 62) = 0 then (if (gr M 16 59) = none then (Z E YX1_solve (d + 1) (zn M 21) [(0, vr (some (16, 0, 0)))] 38 [vr (some ((zsz M), 6, 0)), vr (some (16, 0, 0))] Q) else (Z E YX1_masks d M (zargs 0 [vr (some (16, 0, 0))]) 0 [] (zafter E YX1_solve (d + 1) [(0, vr (some (16, 0, 0)))] 71 3 [] Q))) else (Q (.inl (some (vi (gi M 16 63)))) M))) : Z E YX1_solve (d + 1) M [(0, vr (some (16, 0, 0)))] 0 [] Q := by
  refine z_aload_n dX1_solve_0 rfl rfl ?_
  refine z_geti dX1_solve_1 fsX1_270_0 ?_
  refine z_if_ne (tgt := 15) dX1_solve_4 rfl (fun h_ => ?_) (fun h_ => ?_)
  · have k := zif h_ k
    refine z_aload_n dX1_solve_15 rfl rfl ?_
    refine z_geti dX1_solve_16 fsX1_274_0 ?_
    refine z_if_eq (tgt := 27) dX1_solve_19 rfl (fun h_ => ?_) (fun h_ => ?_)
    · have k := zit h_ k
      refine z_aload_n dX1_solve_27 rfl rfl ?_
      refine z_getr (r := (gr M 16 59)) dX1_solve_28 fsX1_674_0 rfl ?_
      refine z_ifnonnull (tgt := 70) dX1_solve_31 rfl (fun h_ => ?_) (fun h_ => ?_)
      · have k := zif h_ k
        refine z_aload_n dX1_solve_70 rfl rfl ?_
        exact z_callV (as := []) (st := []) dX1_solve_71 vsX1_691_0 (Nat.le_refl _) (Nat.le_of_ble_eq_true rfl) (Nat.le_of_ble_eq_true rfl) rfl k
      · have k := zit h_ k
        refine z_aload_n dX1_solve_34 rfl rfl ?_
        refine z_new dX1_solve_35 csX1_678 zff_6 ?_
        exact k
    · have k := zif h_ k
      refine z_aload_n dX1_solve_22 rfl rfl ?_
      refine z_geti dX1_solve_23 fsX1_331_0 ?_
      exact z_iret dX1_solve_26 rfl rfl k
  · have k := zit h_ k
    obtain ⟨d_, k⟩ := k
    refine z_newExc15 dX1_solve_7 dX1_solve_10 dX1_solve_11 q2616 q2625 d_ (Nat.le_of_ble_eq_true rfl) ?_
    exact z_athrow dX1_solve_14 (ZT.out (by decide) k)
theorem sX1_solve_38 {E : zE} {d : Nat} {Q : zO → zM → Prop} (M : zM) (p0 : Nat) (hw : cw M) (k : Z E YX42_init d M (zargs 0 [vr (some (p0, 6, 0)), vr (some (16, 0, 0))]) 0 [] (zafter E YX1_solve (d + 1) [(0, vr (some (16, 0, 0)))] 40 3 [vr (some (p0, 6, 0)), vr (some (16, 0, 0))] Q)) : Z E YX1_solve (d + 1) M [(0, vr (some (16, 0, 0)))] 38 [vr (some (p0, 6, 0)), vr (some (16, 0, 0))] Q := by
  refine z_dup dX1_solve_38 rfl ?_
  refine z_aload_n dX1_solve_39 rfl rfl ?_
  exact z_callI (as := [vr (some (16, 0, 0))]) (st := [vr (some (p0, 6, 0)), vr (some (16, 0, 0))]) dX1_solve_40 isX1_680 (Nat.le_refl _) (Nat.le_of_ble_eq_true rfl) (Nat.le_of_ble_eq_true rfl) rfl k
theorem sX1_solve_43 {E : zE} {d : Nat} {Q : zO → zM → Prop} (M : zM) (p0 : Nat) (hw : cw M) (k : Z E YX1_solve (d + 1) (zn (sr M 16 59 (some (p0, 6, 0))) 19) [(0, vr (some (16, 0, 0)))] 50 [vr (some ((zsz M), 7, 0)), vr (some (16, 0, 0))] Q) : Z E YX1_solve (d + 1) M [(0, vr (some (16, 0, 0)))] 43 [vr (some (p0, 6, 0)), vr (some (16, 0, 0))] Q := by
  refine z_putr (by decide) dX1_solve_43 (zfwN.w fwX1_674_0) rfl ?_
  refine z_aload_n dX1_solve_46 rfl rfl ?_
  refine z_new dX1_solve_47 csX1_681 zff_7 ?_
  exact k
theorem sX1_solve_50 {E : zE} {d : Nat} {Q : zO → zM → Prop} (M : zM) (p0 : Nat) (hw : cw M) (k : Z E YX43_init d M (zargs 0 [vr (some (p0, 7, 0)), vr (some (16, 0, 0))]) 0 [] (zafter E YX1_solve (d + 1) [(0, vr (some (16, 0, 0)))] 52 3 [vr (some (p0, 7, 0)), vr (some (16, 0, 0))] Q)) : Z E YX1_solve (d + 1) M [(0, vr (some (16, 0, 0)))] 50 [vr (some (p0, 7, 0)), vr (some (16, 0, 0))] Q := by
  refine z_dup dX1_solve_50 rfl ?_
  refine z_aload_n dX1_solve_51 rfl rfl ?_
  exact z_callI (as := [vr (some (16, 0, 0))]) (st := [vr (some (p0, 7, 0)), vr (some (16, 0, 0))]) dX1_solve_52 isX1_683 (Nat.le_refl _) (Nat.le_of_ble_eq_true rfl) (Nat.le_of_ble_eq_true rfl) rfl k
theorem sX1_solve_55 {E : zE} {d : Nat} {Q : zO → zM → Prop} (M : zM) (p0 : Nat) (hw : cw M) (k : Z E YX1_solve (d + 1) (zn (sr M 16 60 (some (p0, 7, 0))) 19) [(0, vr (some (16, 0, 0)))] 62 [vr (some ((zsz M), 7, 0)), vr (some (16, 0, 0))] Q) : Z E YX1_solve (d + 1) M [(0, vr (some (16, 0, 0)))] 55 [vr (some (p0, 7, 0)), vr (some (16, 0, 0))] Q := by
  refine z_putr (by decide) dX1_solve_55 (zfwN.w fwX1_684_0) rfl ?_
  refine z_aload_n dX1_solve_58 rfl rfl ?_
  refine z_new dX1_solve_59 csX1_681 zff_7 ?_
  exact k
theorem sX1_solve_62 {E : zE} {d : Nat} {Q : zO → zM → Prop} (M : zM) (p0 : Nat) (hw : cw M) (k : Z E YX43_init d M (zargs 0 [vr (some (p0, 7, 0)), vr (some (16, 0, 0))]) 0 [] (zafter E YX1_solve (d + 1) [(0, vr (some (16, 0, 0)))] 64 3 [vr (some (p0, 7, 0)), vr (some (16, 0, 0))] Q)) : Z E YX1_solve (d + 1) M [(0, vr (some (16, 0, 0)))] 62 [vr (some (p0, 7, 0)), vr (some (16, 0, 0))] Q := by
  refine z_dup dX1_solve_62 rfl ?_
  refine z_aload_n dX1_solve_63 rfl rfl ?_
  exact z_callI (as := [vr (some (16, 0, 0))]) (st := [vr (some (p0, 7, 0)), vr (some (16, 0, 0))]) dX1_solve_64 isX1_683 (Nat.le_refl _) (Nat.le_of_ble_eq_true rfl) (Nat.le_of_ble_eq_true rfl) rfl k
theorem sX1_solve_67 {E : zE} {d : Nat} {Q : zO → zM → Prop} (M : zM) (p0 : Nat) (hw : cw M) (k : Z E YX1_masks d (sr M 16 61 (some (p0, 7, 0))) (zargs 0 [vr (some (16, 0, 0))]) 0 [] (zafter E YX1_solve (d + 1) [(0, vr (some (16, 0, 0)))] 71 3 [] Q)) : Z E YX1_solve (d + 1) M [(0, vr (some (16, 0, 0)))] 67 [vr (some (p0, 7, 0)), vr (some (16, 0, 0))] Q := by
  refine z_putr (by decide) dX1_solve_67 (zfwN.w fwX1_688_0) rfl ?_
  refine z_aload_n dX1_solve_70 rfl rfl ?_
  exact z_callV (as := []) (st := []) dX1_solve_71 vsX1_691_0 (Nat.le_refl _) (Nat.le_of_ble_eq_true rfl) (Nat.le_of_ble_eq_true rfl) rfl k
theorem sX1_solve_74 {E : zE} {d : Nat} {Q : zO → zM → Prop} (M : zM)  (hw : cw M) (k : ∃ b1 : Nat, (gr M 16 8) = some (b1, 11, 0) ∧ (Z E YJ2_size d (si M 16 75 (gi M 29 7)) (zargs 0 [vr (some (b1, 11, 0))]) 0 [] (zafter E YX1_solve (d + 1) [(0, vr (some (16, 0, 0)))] 94 3 [vi (2 : Int32), vi (gi M 29 7)] Q))) : Z E YX1_solve (d + 1) M [(0, vr (some (16, 0, 0)))] 74 [] Q := by
  refine z_aload_n dX1_solve_74 rfl rfl ?_
  refine z_aload_n dX1_solve_75 rfl rfl ?_
  refine z_getr dX1_solve_76 fsX1_89_0 (show gr M 16 9 = some (29, 3, 0) from cw_at hw 5 rfl) ?_
  refine z_geti dX1_solve_79 fsX1_287_3 ?_
  refine z_puti (by decide) dX1_solve_82 (zfwN.w fwX1_694_0) rfl ⟨rfl, rfl⟩ ?_
  refine z_aload_n dX1_solve_85 rfl rfl ?_
  refine z_geti dX1_solve_86 fsX1_694_0 ?_
  refine z_iconst (v := 2) dX1_solve_89 rfl ?_
  refine z_aload_n dX1_solve_90 rfl rfl ?_
  refine z_getr (r := (gr M 16 8)) dX1_solve_91 fsX1_82_0 rfl ?_
  obtain ⟨b1, e1_, k⟩ := k
  refine Z.eqs (lv' := [(0, vr (some (16, 0, 0)))]) (st' := [vr (some (b1, 11, 0)), vi (2 : Int32), vi (gi M 29 7)]) rfl (by rw [e1_] <;> rfl) ?_
  exact z_callV (as := []) (st := [vi (2 : Int32), vi (gi M 29 7)]) dX1_solve_94 vsX1_291_11 (Nat.le_refl _) (Nat.le_of_ble_eq_true rfl) (Nat.le_of_ble_eq_true rfl) rfl k
theorem sX1_solve_97 {E : zE} {d : Nat} {Q : zO → zM → Prop} (M : zM) (s0 : Int32) (s1 : Int32) (s2 : Int32) (hw : cw M) (k : ∃ b1 : Nat, (gr M 16 59) = some (b1, 6, 0) ∧ (Z E YX42_clear d M (zargs 0 [vr (some (b1, 6, 0)), vi (s2 + (s1 * s0))]) 0 [] (zafter E YX1_solve (d + 1) [(0, vr (some (16, 0, 0))), (1, vi (s2 + (s1 * s0)))] 105 3 [] Q))) : Z E YX1_solve (d + 1) M [(0, vr (some (16, 0, 0)))] 97 [vi s0, vi s1, vi s2] Q := by
  refine z_imul dX1_solve_97 ?_
  refine z_iadd dX1_solve_98 ?_
  refine z_ist_n dX1_solve_99 rfl (by decide) (lv' := [(0, vr (some (16, 0, 0))), (1, vi (s2 + (s1 * s0)))]) rfl ?_
  refine z_aload_n dX1_solve_100 rfl rfl ?_
  refine z_getr (r := (gr M 16 59)) dX1_solve_101 fsX1_674_0 rfl ?_
  refine z_iload_n dX1_solve_104 rfl rfl ?_
  obtain ⟨b1, e1_, k⟩ := k
  refine Z.eqs (lv' := [(0, vr (some (16, 0, 0))), (1, vi (s2 + (s1 * s0)))]) (st' := [vi (s2 + (s1 * s0)), vr (some (b1, 6, 0))]) rfl (by rw [e1_] <;> rfl) ?_
  exact z_callV (as := [vi (s2 + (s1 * s0))]) (st := []) dX1_solve_105 vsX1_697_6 (Nat.le_refl _) (Nat.le_of_ble_eq_true rfl) (Nat.le_of_ble_eq_true rfl) rfl k
theorem sX1_solve_108 {E : zE} {d : Nat} {Q : zO → zM → Prop} (M : zM) (l1 : Int32) (hw : cw M) (k : Z E YX1_solve (d + 1) M [(0, vr (some (16, 0, 0))), (1, vi l1), (2, vi (0 : Int32))] 110 [] Q) : Z E YX1_solve (d + 1) M [(0, vr (some (16, 0, 0))), (1, vi l1)] 108 [] Q := by
  refine z_iconst (v := 0) dX1_solve_108 rfl ?_
  refine z_ist_n dX1_solve_109 rfl (by decide) (lv' := [(0, vr (some (16, 0, 0))), (1, vi l1), (2, vi (0 : Int32))]) rfl ?_
  exact k
theorem sX1_solve_110 {E : zE} {d : Nat} {Q : zO → zM → Prop} (M : zM) (l1 : Int32) (l2 : Int32) (hw : cw M) (k : if l1 ≤ l2 then (Z E YX1_atFirst d M (zargs 0 [vr (some (16, 0, 0))]) 0 [] (zafter E YX1_solve (d + 1) [(0, vr (some (16, 0, 0)))] 136 3 [] Q)) else (vp_in l2 624 ∧ (vp_in l2 624 ∧ (Z E YX1_solve (d + 1) (si (si M 68 (l2).toNatClampNeg (vp_nar .boolean (0 : Int32))) 69 (l2).toNatClampNeg (vp_nar .short (0 : Int32))) [(0, vr (some (16, 0, 0))), (1, vi l1), (2, vi (l2 + (1 : Int32)))] 110 [] Q)))) : Z E YX1_solve (d + 1) M [(0, vr (some (16, 0, 0))), (1, vi l1), (2, vi l2)] 110 [] Q := by
  refine z_iload_n dX1_solve_110 rfl rfl ?_
  refine z_iload_n dX1_solve_111 rfl rfl ?_
  refine z_icmp_ge (tgt := 135) dX1_solve_112 rfl (fun h_ => ?_) (fun h_ => ?_)
  · have k := zit h_ k
    refine z_aload_n dX1_solve_135 rfl rfl ?_
    refine Z.pick [0] rfl ?_
    exact z_callV (as := []) (st := []) dX1_solve_136 vsX1_700_0 (Nat.le_refl _) (Nat.le_of_ble_eq_true rfl) (Nat.le_of_ble_eq_true rfl) rfl k
  · have k := zif h_ k
    refine z_aload_n dX1_solve_115 rfl rfl ?_
    refine z_getr dX1_solve_116 fsX1_193_0 (show gr M 16 64 = some (68, 104, 624) from cw_at hw 36 rfl) ?_
    refine z_iload_n dX1_solve_119 rfl rfl ?_
    refine z_iconst (v := 0) dX1_solve_120 rfl ?_
    obtain ⟨b_, k⟩ := k
    refine z_zast (by decide) dX1_solve_121 b_ ?_
    refine z_aload_n dX1_solve_122 rfl rfl ?_
    refine z_getr dX1_solve_123 fsX1_197_0 (show gr M 16 65 = some (69, 102, 624) from cw_at hw 37 rfl) ?_
    refine z_iload_n dX1_solve_126 rfl rfl ?_
    refine z_iconst (v := 0) dX1_solve_127 rfl ?_
    obtain ⟨b_, k⟩ := k
    refine z_sast (by decide) dX1_solve_128 b_ ?_
    refine z_inc (v := (l2 + (1 : Int32))) dX1_solve_129 rfl rfl (by decide) (lv' := [(0, vr (some (16, 0, 0))), (1, vi l1), (2, vi (l2 + (1 : Int32)))]) rfl ?_
    refine z_goto (tgt := 110) dX1_solve_132 rfl ?_
    exact k
theorem sX1_solve_139 {E : zE} {d : Nat} {Q : zO → zM → Prop} (M : zM)  (hw : cw M) (k : Z E YX1_goes d M (zargs 0 [vr (some (16, 0, 0)), vi (0 : Int32), vr (gr M 16 60)]) 0 [] (zafter E YX1_solve (d + 1) [(0, vr (some (16, 0, 0)))] 145 3 [] Q)) : Z E YX1_solve (d + 1) M [(0, vr (some (16, 0, 0)))] 139 [] Q := by
  refine z_aload_n dX1_solve_139 rfl rfl ?_
  refine z_iconst (v := 0) dX1_solve_140 rfl ?_
  refine z_aload_n dX1_solve_141 rfl rfl ?_
  refine z_getr (r := (gr M 16 60)) dX1_solve_142 fsX1_684_0 rfl ?_
  exact z_callV (as := [vi (0 : Int32), vr (gr M 16 60)]) (st := []) dX1_solve_145 vsX1_703_0 (Nat.le_refl _) (Nat.le_of_ble_eq_true rfl) (Nat.le_of_ble_eq_true rfl) rfl k
theorem sX1_solve_148 {E : zE} {d : Nat} {Q : zO → zM → Prop} (M : zM)  (hw : cw M) (k : Z E YX1_solve (d + 1) M [(0, vr (some (16, 0, 0))), (2, vi (1 : Int32))] 150 [] Q) : Z E YX1_solve (d + 1) M [(0, vr (some (16, 0, 0)))] 148 [] Q := by
  refine z_iconst (v := 1) dX1_solve_148 rfl ?_
  refine z_ist_n dX1_solve_149 rfl (by decide) (lv' := [(0, vr (some (16, 0, 0))), (2, vi (1 : Int32))]) rfl ?_
  exact k
theorem sX1_solve_150 {E : zE} {d : Nat} {Q : zO → zM → Prop} (M : zM) (l2 : Int32) (hw : cw M) (k : if l2 = 0 then (Z E YX1_solve (d + 1) (si M 16 63 (0 : Int32)) [(0, vr (some (16, 0, 0))), (3, vi (0 : Int32))] 284 [] Q) else (Z E YX1_solve (d + 1) M [(0, vr (some (16, 0, 0))), (2, vi (0 : Int32)), (3, vi (0 : Int32))] 158 [] Q)) : Z E YX1_solve (d + 1) M [(0, vr (some (16, 0, 0))), (2, vi l2)] 150 [] Q := by
  refine z_iload_n dX1_solve_150 rfl rfl ?_
  refine z_if_eq (tgt := 277) dX1_solve_151 rfl (fun h_ => ?_) (fun h_ => ?_)
  · have k := zit h_ k
    refine z_aload_n dX1_solve_277 rfl rfl ?_
    refine z_iconst (v := 0) dX1_solve_278 rfl ?_
    refine z_puti (by decide) dX1_solve_279 (zfwN.w fwX1_331_0) rfl ⟨rfl, rfl⟩ ?_
    refine z_iconst (v := 0) dX1_solve_282 rfl ?_
    refine z_ist_n dX1_solve_283 rfl (by decide) (lv' := [(0, vr (some (16, 0, 0))), (2, vi l2), (3, vi (0 : Int32))]) rfl ?_
    refine Z.pick [0, 2] rfl ?_
    exact k
  · have k := zif h_ k
    refine z_iconst (v := 0) dX1_solve_154 rfl ?_
    refine z_ist_n dX1_solve_155 rfl (by decide) (lv' := [(0, vr (some (16, 0, 0))), (2, vi (0 : Int32))]) rfl ?_
    refine z_iconst (v := 0) dX1_solve_156 rfl ?_
    refine z_ist_n dX1_solve_157 rfl (by decide) (lv' := [(0, vr (some (16, 0, 0))), (2, vi (0 : Int32)), (3, vi (0 : Int32))]) rfl ?_
    exact k
theorem sX1_solve_158 {E : zE} {d : Nat} {Q : zO → zM → Prop} (M : zM) (l2 : Int32) (l3 : Int32) (hw : cw M) (k : if (gi M 29 7) ≤ l3 then (Z E YX1_solve (d + 1) M [(0, vr (some (16, 0, 0))), (2, vi l2)] 150 [] Q) else (vp_in l3 624 ∧ (if (gi M 68 (l3).toNatClampNeg) = 0 then (Z E YX1_solve (d + 1) M [(0, vr (some (16, 0, 0))), (2, vi l2), (3, vi (l3 + (1 : Int32)))] 158 [] Q) else (vp_in l3 624 ∧ (∃ b1 : Nat, (gr M 16 59) = some (b1, 6, 0) ∧ (Z E YX42_load d (si M 68 (l3).toNatClampNeg (vp_nar .boolean (0 : Int32))) (zargs 0 [vr (some (b1, 6, 0)), vi l3, vr (gr M 16 60)]) 0 [] (zafter E YX1_solve (d + 1) [(0, vr (some (16, 0, 0))), (2, vi (1 : Int32)), (3, vi l3)] 199 3 [] Q))))))) : Z E YX1_solve (d + 1) M [(0, vr (some (16, 0, 0))), (2, vi l2), (3, vi l3)] 158 [] Q := by
  refine z_iload_n dX1_solve_158 rfl rfl ?_
  refine z_aload_n dX1_solve_159 rfl rfl ?_
  refine z_getr dX1_solve_160 fsX1_89_0 (show gr M 16 9 = some (29, 3, 0) from cw_at hw 5 rfl) ?_
  refine z_geti dX1_solve_163 fsX1_287_3 ?_
  refine z_icmp_ge (tgt := 274) dX1_solve_166 rfl (fun h_ => ?_) (fun h_ => ?_)
  · have k := zit h_ k
    refine z_goto (tgt := 150) dX1_solve_274 rfl ?_
    refine Z.pick [0, 1] rfl ?_
    exact k
  · have k := zif h_ k
    refine z_aload_n dX1_solve_169 rfl rfl ?_
    refine z_getr dX1_solve_170 fsX1_193_0 (show gr M 16 64 = some (68, 104, 624) from cw_at hw 36 rfl) ?_
    refine z_iload_n dX1_solve_173 rfl rfl ?_
    obtain ⟨b_, k⟩ := k
    refine z_zald dX1_solve_174 b_ ?_
    refine z_if_ne (tgt := 181) dX1_solve_175 rfl (fun h_ => ?_) (fun h_ => ?_)
    · have k := zif h_ k
      refine z_aload_n dX1_solve_181 rfl rfl ?_
      refine z_getr dX1_solve_182 fsX1_193_0 (show gr M 16 64 = some (68, 104, 624) from cw_at hw 36 rfl) ?_
      refine z_iload_n dX1_solve_185 rfl rfl ?_
      refine z_iconst (v := 0) dX1_solve_186 rfl ?_
      obtain ⟨b_, k⟩ := k
      refine z_zast (by decide) dX1_solve_187 b_ ?_
      refine z_iconst (v := 1) dX1_solve_188 rfl ?_
      refine z_ist_n dX1_solve_189 rfl (by decide) (lv' := [(0, vr (some (16, 0, 0))), (2, vi (1 : Int32)), (3, vi l3)]) rfl ?_
      refine z_aload_n dX1_solve_190 rfl rfl ?_
      refine z_getr (r := (gr M 16 59)) dX1_solve_191 fsX1_674_0 rfl ?_
      refine z_iload_n dX1_solve_194 rfl rfl ?_
      refine z_aload_n dX1_solve_195 rfl rfl ?_
      refine z_getr (r := (gr M 16 60)) dX1_solve_196 fsX1_684_0 rfl ?_
      obtain ⟨b1, e1_, k⟩ := k
      refine Z.eqs (lv' := [(0, vr (some (16, 0, 0))), (2, vi (1 : Int32)), (3, vi l3)]) (st' := [vr (gr M 16 60), vi l3, vr (some (b1, 6, 0))]) rfl (by rw [e1_] <;> rfl) ?_
      exact z_callV (as := [vi l3, vr (gr M 16 60)]) (st := []) dX1_solve_199 vsX1_707_6 (Nat.le_refl _) (Nat.le_of_ble_eq_true rfl) (Nat.le_of_ble_eq_true rfl) rfl k
    · have k := zit h_ k
      refine z_goto (tgt := 268) dX1_solve_178 rfl ?_
      refine z_inc (v := (l3 + (1 : Int32))) dX1_solve_268 rfl rfl (by decide) (lv' := [(0, vr (some (16, 0, 0))), (2, vi l2), (3, vi (l3 + (1 : Int32)))]) rfl ?_
      refine z_goto (tgt := 158) dX1_solve_271 rfl ?_
      exact k
theorem sX1_solve_202 {E : zE} {d : Nat} {Q : zO → zM → Prop} (M : zM) (l2 : Int32) (l3 : Int32) (hw : cw M) (k : vp_in l3 600 ∧ (vp_in l3 600 ∧ (vp_in l3 600 ∧ (vp_in l3 600 ∧ (Z E YX1_transfer d (si (si (si M 70 (l3).toNatClampNeg (vp_nar .byte (0 : Int32))) 16 77 (0 : Int32)) 16 76 l3) (zargs 0 [vr (some (16, 0, 0)), vi (gi M 30 (l3).toNatClampNeg), vi (gi M 31 (l3).toNatClampNeg), vi (gi M 34 (l3).toNatClampNeg)]) 0 [] (zafter E YX1_solve (d + 1) [(0, vr (some (16, 0, 0))), (2, vi l2), (3, vi l3)] 247 3 [] Q)))))) : Z E YX1_solve (d + 1) M [(0, vr (some (16, 0, 0))), (2, vi l2), (3, vi l3)] 202 [] Q := by
  refine z_aload_n dX1_solve_202 rfl rfl ?_
  refine z_getr dX1_solve_203 fsX1_200_0 (show gr M 16 66 = some (70, 101, 600) from cw_at hw 38 rfl) ?_
  refine z_iload_n dX1_solve_206 rfl rfl ?_
  refine z_iconst (v := 0) dX1_solve_207 rfl ?_
  obtain ⟨b_, k⟩ := k
  refine z_bast (by decide) dX1_solve_208 b_ ?_
  refine z_aload_n dX1_solve_209 rfl rfl ?_
  refine z_iconst (v := 0) dX1_solve_210 rfl ?_
  refine z_puti (by decide) dX1_solve_211 (zfwN.w fwX1_710_0) rfl ⟨by decide, by decide⟩ ?_
  refine z_aload_n dX1_solve_214 rfl rfl ?_
  refine z_iload_n dX1_solve_215 rfl rfl ?_
  refine z_puti (by decide) dX1_solve_216 (zfwN.w fwX1_713_0) rfl ⟨rfl, rfl⟩ ?_
  refine z_aload_n dX1_solve_219 rfl rfl ?_
  refine z_aload_n dX1_solve_220 rfl rfl ?_
  refine z_getr dX1_solve_221 fsX1_89_0 (show gr M 16 9 = some (29, 3, 0) from cw_at hw 5 rfl) ?_
  refine z_getr dX1_solve_224 fsX1_334_3 (show gr M 29 0 = some (30, 101, 600) from cw_at hw 50 rfl) ?_
  refine z_iload_n dX1_solve_227 rfl rfl ?_
  obtain ⟨b_, k⟩ := k
  refine z_bald dX1_solve_228 b_ ?_
  refine z_aload_n dX1_solve_229 rfl rfl ?_
  refine z_getr dX1_solve_230 fsX1_89_0 (show gr M 16 9 = some (29, 3, 0) from cw_at hw 5 rfl) ?_
  refine z_getr dX1_solve_233 fsX1_337_3 (show gr M 29 1 = some (31, 102, 600) from cw_at hw 51 rfl) ?_
  refine z_iload_n dX1_solve_236 rfl rfl ?_
  obtain ⟨b_, k⟩ := k
  refine z_sald dX1_solve_237 b_ ?_
  refine z_aload_n dX1_solve_238 rfl rfl ?_
  refine z_getr dX1_solve_239 fsX1_89_0 (show gr M 16 9 = some (29, 3, 0) from cw_at hw 5 rfl) ?_
  refine z_getr dX1_solve_242 fsX1_340_3 (show gr M 29 4 = some (34, 100, 600) from cw_at hw 54 rfl) ?_
  refine z_iload_n dX1_solve_245 rfl rfl ?_
  obtain ⟨b_, k⟩ := k
  refine z_iald dX1_solve_246 b_ ?_
  exact z_callV (as := [vi (gi M 30 (l3).toNatClampNeg), vi (gi M 31 (l3).toNatClampNeg), vi (gi M 34 (l3).toNatClampNeg)]) (st := []) dX1_solve_247 vsX1_716_0 (Nat.le_refl _) (Nat.le_of_ble_eq_true rfl) (Nat.le_of_ble_eq_true rfl) rfl k
theorem sX1_solve_250 {E : zE} {d : Nat} {Q : zO → zM → Prop} (M : zM) (l2 : Int32) (l3 : Int32) (hw : cw M) (k : if (gi M 16 77) = 0 then (vp_in l3 600 ∧ (vp_in l3 600 ∧ (Z E YX1_solve (d + 1) (si M 70 (l3).toNatClampNeg (vp_nar .byte (((gi M 70 (l3).toNatClampNeg) ||| (4 : Int32))).toInt8.toInt32)) [(0, vr (some (16, 0, 0))), (2, vi l2), (3, vi (l3 + (1 : Int32)))] 158 [] Q))) else (Z E YX1_solve (d + 1) M [(0, vr (some (16, 0, 0))), (2, vi l2), (3, vi (l3 + (1 : Int32)))] 158 [] Q)) : Z E YX1_solve (d + 1) M [(0, vr (some (16, 0, 0))), (2, vi l2), (3, vi l3)] 250 [] Q := by
  refine z_aload_n dX1_solve_250 rfl rfl ?_
  refine z_geti dX1_solve_251 fsX1_710_0 ?_
  refine z_if_ne (tgt := 268) dX1_solve_254 rfl (fun h_ => ?_) (fun h_ => ?_)
  · have k := zif h_ k
    refine z_inc (v := (l3 + (1 : Int32))) dX1_solve_268 rfl rfl (by decide) (lv' := [(0, vr (some (16, 0, 0))), (2, vi l2), (3, vi (l3 + (1 : Int32)))]) rfl ?_
    refine z_goto (tgt := 158) dX1_solve_271 rfl ?_
    exact k
  · have k := zit h_ k
    refine z_aload_n dX1_solve_257 rfl rfl ?_
    refine z_getr dX1_solve_258 fsX1_200_0 (show gr M 16 66 = some (70, 101, 600) from cw_at hw 38 rfl) ?_
    refine z_iload_n dX1_solve_261 rfl rfl ?_
    refine z_dup2 dX1_solve_262 rfl rfl ?_
    obtain ⟨b_, k⟩ := k
    refine z_bald dX1_solve_263 b_ ?_
    refine z_iconst (v := 4) dX1_solve_264 rfl ?_
    refine z_ior dX1_solve_265 ?_
    refine z_i2b dX1_solve_266 ?_
    obtain ⟨b_, k⟩ := k
    refine z_bast (by decide) dX1_solve_267 b_ ?_
    refine z_inc (v := (l3 + (1 : Int32))) dX1_solve_268 rfl rfl (by decide) (lv' := [(0, vr (some (16, 0, 0))), (2, vi l2), (3, vi (l3 + (1 : Int32)))]) rfl ?_
    refine z_goto (tgt := 158) dX1_solve_271 rfl ?_
    exact k
theorem sX1_solve_284 {E : zE} {d : Nat} {Q : zO → zM → Prop} (M : zM) (l3 : Int32) (hw : cw M) (k : if (gi M 29 7) ≤ l3 then (Q (.inl (some (vi (gi M 16 63)))) (si M 16 62 (1 : Int32))) else (∃ b1 : Nat, (gr M 16 59) = some (b1, 6, 0) ∧ (∃ b2 m2 : Nat, (gr M b1 9) = some (b2, 100, m2) ∧ (vp_in l3 m2 ∧ (if (gi M b2 (l3).toNatClampNeg) = (-1 : Int32) then (Z E YX1_solve (d + 1) (si M 16 63 ((gi M 16 63) + (0 : Int32))) [(0, vr (some (16, 0, 0))), (3, vi (l3 + (1 : Int32)))] 284 [] Q) else (Z E YX1_solve (d + 1) (si M 16 63 ((gi M 16 63) + (1 : Int32))) [(0, vr (some (16, 0, 0))), (3, vi (l3 + (1 : Int32)))] 284 [] Q)))))) : Z E YX1_solve (d + 1) M [(0, vr (some (16, 0, 0))), (3, vi l3)] 284 [] Q := by
  refine z_iload_n dX1_solve_284 rfl rfl ?_
  refine z_aload_n dX1_solve_285 rfl rfl ?_
  refine z_getr dX1_solve_286 fsX1_89_0 (show gr M 16 9 = some (29, 3, 0) from cw_at hw 5 rfl) ?_
  refine z_geti dX1_solve_289 fsX1_287_3 ?_
  refine z_icmp_ge (tgt := 328) dX1_solve_292 rfl (fun h_ => ?_) (fun h_ => ?_)
  · have k := zit h_ k
    refine z_aload_n dX1_solve_328 rfl rfl ?_
    refine z_iconst (v := 1) dX1_solve_329 rfl ?_
    refine z_puti (by decide) dX1_solve_330 (zfwN.w fwX1_274_0) rfl ⟨by decide, by decide⟩ ?_
    refine z_aload_n dX1_solve_333 rfl rfl ?_
    refine z_geti dX1_solve_334 fsX1_331_0 ?_
    exact z_iret dX1_solve_337 rfl rfl k
  · have k := zif h_ k
    refine z_aload_n dX1_solve_295 rfl rfl ?_
    refine z_dup dX1_solve_296 rfl ?_
    refine z_geti dX1_solve_297 fsX1_331_0 ?_
    refine z_aload_n dX1_solve_300 rfl rfl ?_
    refine z_getr (r := (gr M 16 59)) dX1_solve_301 fsX1_674_0 rfl ?_
    obtain ⟨b1, e1_, k⟩ := k
    refine Z.eqs (lv' := [(0, vr (some (16, 0, 0))), (3, vi l3)]) (st' := [vr (some (b1, 6, 0)), vi (gi M 16 63), vr (some (16, 0, 0))]) rfl (by rw [e1_] <;> rfl) ?_
    refine z_getr (r := (gr M b1 9)) dX1_solve_304 fsX1_719_6 rfl ?_
    refine z_iload_n dX1_solve_307 rfl rfl ?_
    obtain ⟨b2, m2, e2_, k⟩ := k
    refine Z.eqs (lv' := [(0, vr (some (16, 0, 0))), (3, vi l3)]) (st' := [vi l3, vr (some (b2, 100, m2)), vi (gi M 16 63), vr (some (16, 0, 0))]) rfl (by rw [e2_] <;> rfl) ?_
    obtain ⟨b_, k⟩ := k
    refine z_iald dX1_solve_308 b_ ?_
    refine z_iconst (v := -1) dX1_solve_309 rfl ?_
    refine z_icmp_ne (tgt := 317) dX1_solve_310 rfl (fun h_ => ?_) (fun h_ => ?_)
    · have k := zif h_ k
      refine z_iconst (v := 1) dX1_solve_317 rfl ?_
      refine z_iadd dX1_solve_318 ?_
      refine z_puti (by decide) dX1_solve_319 (zfwN.w fwX1_331_0) rfl ⟨rfl, rfl⟩ ?_
      refine z_inc (v := (l3 + (1 : Int32))) dX1_solve_322 rfl rfl (by decide) (lv' := [(0, vr (some (16, 0, 0))), (3, vi (l3 + (1 : Int32)))]) rfl ?_
      refine z_goto (tgt := 284) dX1_solve_325 rfl ?_
      exact k
    · have k := zit h_ k
      refine z_iconst (v := 0) dX1_solve_313 rfl ?_
      refine z_goto (tgt := 318) dX1_solve_314 rfl ?_
      refine z_iadd dX1_solve_318 ?_
      refine z_puti (by decide) dX1_solve_319 (zfwN.w fwX1_331_0) rfl ⟨rfl, rfl⟩ ?_
      refine z_inc (v := (l3 + (1 : Int32))) dX1_solve_322 rfl rfl (by decide) (lv' := [(0, vr (some (16, 0, 0))), (3, vi (l3 + (1 : Int32)))]) rfl ?_
      refine z_goto (tgt := 284) dX1_solve_325 rfl ?_
      exact k
/-! ScriptTypes.masks()V -/
theorem bX1_masks_0 : zdec cX1_masks 0 [(0, .aload_n 0, 1), (1, .aload_n 0, 1), (2, .aload_n 0, 1), (3, .aload_n 0, 1), (4, .aload_n 0, 1), (5, .aload_n 0, 1), (6, .aload_n 0, 1), (7, .aload_n 0, 1), (8, .lconst 0, 1), (9, .dup2_x1, 1), (10, .putfield 661, 3), (13, .dup2_x1, 1), (14, .putfield 658, 3), (17, .dup2_x1, 1), (18, .putfield 655, 3), (21, .dup2_x1, 1)] = true := by decide +kernel
theorem dX1_masks_0 : decode cX1_masks 0 = .ok (.aload_n 0, 1) := zdec_at bX1_masks_0 0 rfl
theorem dX1_masks_1 : decode cX1_masks 1 = .ok (.aload_n 0, 1) := zdec_at bX1_masks_0 1 rfl
theorem dX1_masks_2 : decode cX1_masks 2 = .ok (.aload_n 0, 1) := zdec_at bX1_masks_0 2 rfl
theorem dX1_masks_3 : decode cX1_masks 3 = .ok (.aload_n 0, 1) := zdec_at bX1_masks_0 3 rfl
theorem dX1_masks_4 : decode cX1_masks 4 = .ok (.aload_n 0, 1) := zdec_at bX1_masks_0 4 rfl
theorem dX1_masks_5 : decode cX1_masks 5 = .ok (.aload_n 0, 1) := zdec_at bX1_masks_0 5 rfl
theorem dX1_masks_6 : decode cX1_masks 6 = .ok (.aload_n 0, 1) := zdec_at bX1_masks_0 6 rfl
theorem dX1_masks_7 : decode cX1_masks 7 = .ok (.aload_n 0, 1) := zdec_at bX1_masks_0 7 rfl
theorem dX1_masks_8 : decode cX1_masks 8 = .ok (.lconst 0, 1) := zdec_at bX1_masks_0 8 rfl
theorem dX1_masks_9 : decode cX1_masks 9 = .ok (.dup2_x1, 1) := zdec_at bX1_masks_0 9 rfl
theorem dX1_masks_10 : decode cX1_masks 10 = .ok (.putfield 661, 3) := zdec_at bX1_masks_0 10 rfl
theorem dX1_masks_13 : decode cX1_masks 13 = .ok (.dup2_x1, 1) := zdec_at bX1_masks_0 11 rfl
theorem dX1_masks_14 : decode cX1_masks 14 = .ok (.putfield 658, 3) := zdec_at bX1_masks_0 12 rfl
theorem dX1_masks_17 : decode cX1_masks 17 = .ok (.dup2_x1, 1) := zdec_at bX1_masks_0 13 rfl
theorem dX1_masks_18 : decode cX1_masks 18 = .ok (.putfield 655, 3) := zdec_at bX1_masks_0 14 rfl
theorem dX1_masks_21 : decode cX1_masks 21 = .ok (.dup2_x1, 1) := zdec_at bX1_masks_0 15 rfl
theorem bX1_masks_22 : zdec cX1_masks 22 [(22, .putfield 652, 3), (25, .dup2_x1, 1), (26, .putfield 649, 3), (29, .dup2_x1, 1), (30, .putfield 646, 3), (33, .dup2_x1, 1), (34, .putfield 643, 3), (37, .putfield 639, 3), (40, .iconst 0, 1), (41, .istore_n 1, 1), (42, .iload_n 1, 1), (43, .aload_n 0, 1), (44, .getfield 58, 3), (47, .if_icmp .ge 40, 3), (50, .aload_n 0, 1), (51, .iload_n 1, 1)] = true := by decide +kernel
theorem dX1_masks_22 : decode cX1_masks 22 = .ok (.putfield 652, 3) := zdec_at bX1_masks_22 0 rfl
theorem dX1_masks_25 : decode cX1_masks 25 = .ok (.dup2_x1, 1) := zdec_at bX1_masks_22 1 rfl
theorem dX1_masks_26 : decode cX1_masks 26 = .ok (.putfield 649, 3) := zdec_at bX1_masks_22 2 rfl
theorem dX1_masks_29 : decode cX1_masks 29 = .ok (.dup2_x1, 1) := zdec_at bX1_masks_22 3 rfl
theorem dX1_masks_30 : decode cX1_masks 30 = .ok (.putfield 646, 3) := zdec_at bX1_masks_22 4 rfl
theorem dX1_masks_33 : decode cX1_masks 33 = .ok (.dup2_x1, 1) := zdec_at bX1_masks_22 5 rfl
theorem dX1_masks_34 : decode cX1_masks 34 = .ok (.putfield 643, 3) := zdec_at bX1_masks_22 6 rfl
theorem dX1_masks_37 : decode cX1_masks 37 = .ok (.putfield 639, 3) := zdec_at bX1_masks_22 7 rfl
theorem dX1_masks_40 : decode cX1_masks 40 = .ok (.iconst 0, 1) := zdec_at bX1_masks_22 8 rfl
theorem dX1_masks_41 : decode cX1_masks 41 = .ok (.istore_n 1, 1) := zdec_at bX1_masks_22 9 rfl
theorem dX1_masks_42 : decode cX1_masks 42 = .ok (.iload_n 1, 1) := zdec_at bX1_masks_22 10 rfl
theorem dX1_masks_43 : decode cX1_masks 43 = .ok (.aload_n 0, 1) := zdec_at bX1_masks_22 11 rfl
theorem dX1_masks_44 : decode cX1_masks 44 = .ok (.getfield 58, 3) := zdec_at bX1_masks_22 12 rfl
theorem dX1_masks_47 : decode cX1_masks 47 = .ok (.if_icmp .ge 40, 3) := zdec_at bX1_masks_22 13 rfl
theorem dX1_masks_50 : decode cX1_masks 50 = .ok (.aload_n 0, 1) := zdec_at bX1_masks_22 14 rfl
theorem dX1_masks_51 : decode cX1_masks 51 = .ok (.iload_n 1, 1) := zdec_at bX1_masks_22 15 rfl
theorem bX1_masks_52 : zdec cX1_masks 52 [(52, .aload_n 0, 1), (53, .iload_n 1, 1), (54, .invokevirtual 664, 3), (57, .iconst 0, 1), (58, .invokevirtual 667, 3), (61, .aload_n 0, 1), (62, .iload_n 1, 1), (63, .aload_n 0, 1), (64, .iload_n 1, 1), (65, .invokevirtual 552, 3), (68, .iconst (-1), 1), (69, .if_icmp .eq 7, 3), (72, .iconst 1, 1), (73, .goto 4, 3), (76, .iconst 0, 1), (77, .iconst 1, 1)] = true := by decide +kernel
theorem dX1_masks_52 : decode cX1_masks 52 = .ok (.aload_n 0, 1) := zdec_at bX1_masks_52 0 rfl
theorem dX1_masks_53 : decode cX1_masks 53 = .ok (.iload_n 1, 1) := zdec_at bX1_masks_52 1 rfl
theorem dX1_masks_54 : decode cX1_masks 54 = .ok (.invokevirtual 664, 3) := zdec_at bX1_masks_52 2 rfl
theorem dX1_masks_57 : decode cX1_masks 57 = .ok (.iconst 0, 1) := zdec_at bX1_masks_52 3 rfl
theorem dX1_masks_58 : decode cX1_masks 58 = .ok (.invokevirtual 667, 3) := zdec_at bX1_masks_52 4 rfl
theorem dX1_masks_61 : decode cX1_masks 61 = .ok (.aload_n 0, 1) := zdec_at bX1_masks_52 5 rfl
theorem dX1_masks_62 : decode cX1_masks 62 = .ok (.iload_n 1, 1) := zdec_at bX1_masks_52 6 rfl
theorem dX1_masks_63 : decode cX1_masks 63 = .ok (.aload_n 0, 1) := zdec_at bX1_masks_52 7 rfl
theorem dX1_masks_64 : decode cX1_masks 64 = .ok (.iload_n 1, 1) := zdec_at bX1_masks_52 8 rfl
theorem dX1_masks_65 : decode cX1_masks 65 = .ok (.invokevirtual 552, 3) := zdec_at bX1_masks_52 9 rfl
theorem dX1_masks_68 : decode cX1_masks 68 = .ok (.iconst (-1), 1) := zdec_at bX1_masks_52 10 rfl
theorem dX1_masks_69 : decode cX1_masks 69 = .ok (.if_icmp .eq 7, 3) := zdec_at bX1_masks_52 11 rfl
theorem dX1_masks_72 : decode cX1_masks 72 = .ok (.iconst 1, 1) := zdec_at bX1_masks_52 12 rfl
theorem dX1_masks_73 : decode cX1_masks 73 = .ok (.goto 4, 3) := zdec_at bX1_masks_52 13 rfl
theorem dX1_masks_76 : decode cX1_masks 76 = .ok (.iconst 0, 1) := zdec_at bX1_masks_52 14 rfl
theorem dX1_masks_77 : decode cX1_masks 77 = .ok (.iconst 1, 1) := zdec_at bX1_masks_52 15 rfl
theorem bX1_masks_78 : zdec cX1_masks 78 [(78, .invokevirtual 667, 3), (81, .iinc 1 1, 3), (84, .goto (-42), 3), (87, .aload_n 0, 1), (88, .bipush 24, 2), (90, .iconst 1, 1), (91, .iconst 2, 1), (92, .invokevirtual 667, 3), (95, .iconst 0, 1), (96, .istore_n 1, 1), (97, .iload_n 1, 1), (98, .aload_n 0, 1), (99, .getfield 307, 3), (102, .if_icmp .ge 61, 3), (105, .aload_n 0, 1), (106, .getfield 89, 3)] = true := by decide +kernel
theorem dX1_masks_78 : decode cX1_masks 78 = .ok (.invokevirtual 667, 3) := zdec_at bX1_masks_78 0 rfl
theorem dX1_masks_81 : decode cX1_masks 81 = .ok (.iinc 1 1, 3) := zdec_at bX1_masks_78 1 rfl
theorem dX1_masks_84 : decode cX1_masks 84 = .ok (.goto (-42), 3) := zdec_at bX1_masks_78 2 rfl
theorem dX1_masks_87 : decode cX1_masks 87 = .ok (.aload_n 0, 1) := zdec_at bX1_masks_78 3 rfl
theorem dX1_masks_88 : decode cX1_masks 88 = .ok (.bipush 24, 2) := zdec_at bX1_masks_78 4 rfl
theorem dX1_masks_90 : decode cX1_masks 90 = .ok (.iconst 1, 1) := zdec_at bX1_masks_78 5 rfl
theorem dX1_masks_91 : decode cX1_masks 91 = .ok (.iconst 2, 1) := zdec_at bX1_masks_78 6 rfl
theorem dX1_masks_92 : decode cX1_masks 92 = .ok (.invokevirtual 667, 3) := zdec_at bX1_masks_78 7 rfl
theorem dX1_masks_95 : decode cX1_masks 95 = .ok (.iconst 0, 1) := zdec_at bX1_masks_78 8 rfl
theorem dX1_masks_96 : decode cX1_masks 96 = .ok (.istore_n 1, 1) := zdec_at bX1_masks_78 9 rfl
theorem dX1_masks_97 : decode cX1_masks 97 = .ok (.iload_n 1, 1) := zdec_at bX1_masks_78 10 rfl
theorem dX1_masks_98 : decode cX1_masks 98 = .ok (.aload_n 0, 1) := zdec_at bX1_masks_78 11 rfl
theorem dX1_masks_99 : decode cX1_masks 99 = .ok (.getfield 307, 3) := zdec_at bX1_masks_78 12 rfl
theorem dX1_masks_102 : decode cX1_masks 102 = .ok (.if_icmp .ge 61, 3) := zdec_at bX1_masks_78 13 rfl
theorem dX1_masks_105 : decode cX1_masks 105 = .ok (.aload_n 0, 1) := zdec_at bX1_masks_78 14 rfl
theorem dX1_masks_106 : decode cX1_masks 106 = .ok (.getfield 89, 3) := zdec_at bX1_masks_78 15 rfl
theorem bX1_masks_109 : zdec cX1_masks 109 [(109, .getfield 334, 3), (112, .aload_n 0, 1), (113, .getfield 89, 3), (116, .getfield 671, 3), (119, .iload_n 1, 1), (120, .iaload, 1), (121, .baload, 1), (122, .bipush 8, 2), (124, .if_icmp .ne 7, 3), (127, .iconst 1, 1), (128, .goto 4, 3), (131, .iconst 0, 1), (132, .istore_n 2, 1), (133, .aload_n 0, 1), (134, .aload_n 0, 1), (135, .iload_n 1, 1)] = true := by decide +kernel
theorem dX1_masks_109 : decode cX1_masks 109 = .ok (.getfield 334, 3) := zdec_at bX1_masks_109 0 rfl
theorem dX1_masks_112 : decode cX1_masks 112 = .ok (.aload_n 0, 1) := zdec_at bX1_masks_109 1 rfl
theorem dX1_masks_113 : decode cX1_masks 113 = .ok (.getfield 89, 3) := zdec_at bX1_masks_109 2 rfl
theorem dX1_masks_116 : decode cX1_masks 116 = .ok (.getfield 671, 3) := zdec_at bX1_masks_109 3 rfl
theorem dX1_masks_119 : decode cX1_masks 119 = .ok (.iload_n 1, 1) := zdec_at bX1_masks_109 4 rfl
theorem dX1_masks_120 : decode cX1_masks 120 = .ok (.iaload, 1) := zdec_at bX1_masks_109 5 rfl
theorem dX1_masks_121 : decode cX1_masks 121 = .ok (.baload, 1) := zdec_at bX1_masks_109 6 rfl
theorem dX1_masks_122 : decode cX1_masks 122 = .ok (.bipush 8, 2) := zdec_at bX1_masks_109 7 rfl
theorem dX1_masks_124 : decode cX1_masks 124 = .ok (.if_icmp .ne 7, 3) := zdec_at bX1_masks_109 8 rfl
theorem dX1_masks_127 : decode cX1_masks 127 = .ok (.iconst 1, 1) := zdec_at bX1_masks_109 9 rfl
theorem dX1_masks_128 : decode cX1_masks 128 = .ok (.goto 4, 3) := zdec_at bX1_masks_109 10 rfl
theorem dX1_masks_131 : decode cX1_masks 131 = .ok (.iconst 0, 1) := zdec_at bX1_masks_109 11 rfl
theorem dX1_masks_132 : decode cX1_masks 132 = .ok (.istore_n 2, 1) := zdec_at bX1_masks_109 12 rfl
theorem dX1_masks_133 : decode cX1_masks 133 = .ok (.aload_n 0, 1) := zdec_at bX1_masks_109 13 rfl
theorem dX1_masks_134 : decode cX1_masks 134 = .ok (.aload_n 0, 1) := zdec_at bX1_masks_109 14 rfl
theorem dX1_masks_135 : decode cX1_masks 135 = .ok (.iload_n 1, 1) := zdec_at bX1_masks_109 15 rfl
theorem bX1_masks_136 : zdec cX1_masks 136 [(136, .invokevirtual 486, 3), (139, .iload_n 2, 1), (140, .iconst 2, 1), (141, .invokevirtual 667, 3), (144, .aload_n 0, 1), (145, .aload_n 0, 1), (146, .iload_n 1, 1), (147, .invokevirtual 486, 3), (150, .iconst 1, 1), (151, .iadd, 1), (152, .iload_n 2, 1), (153, .iconst 2, 1), (154, .invokevirtual 667, 3), (157, .iinc 1 1, 3), (160, .goto (-63), 3), (163, .iconst 1, 1)] = true := by decide +kernel
theorem dX1_masks_136 : decode cX1_masks 136 = .ok (.invokevirtual 486, 3) := zdec_at bX1_masks_136 0 rfl
theorem dX1_masks_139 : decode cX1_masks 139 = .ok (.iload_n 2, 1) := zdec_at bX1_masks_136 1 rfl
theorem dX1_masks_140 : decode cX1_masks 140 = .ok (.iconst 2, 1) := zdec_at bX1_masks_136 2 rfl
theorem dX1_masks_141 : decode cX1_masks 141 = .ok (.invokevirtual 667, 3) := zdec_at bX1_masks_136 3 rfl
theorem dX1_masks_144 : decode cX1_masks 144 = .ok (.aload_n 0, 1) := zdec_at bX1_masks_136 4 rfl
theorem dX1_masks_145 : decode cX1_masks 145 = .ok (.aload_n 0, 1) := zdec_at bX1_masks_136 5 rfl
theorem dX1_masks_146 : decode cX1_masks 146 = .ok (.iload_n 1, 1) := zdec_at bX1_masks_136 6 rfl
theorem dX1_masks_147 : decode cX1_masks 147 = .ok (.invokevirtual 486, 3) := zdec_at bX1_masks_136 7 rfl
theorem dX1_masks_150 : decode cX1_masks 150 = .ok (.iconst 1, 1) := zdec_at bX1_masks_136 8 rfl
theorem dX1_masks_151 : decode cX1_masks 151 = .ok (.iadd, 1) := zdec_at bX1_masks_136 9 rfl
theorem dX1_masks_152 : decode cX1_masks 152 = .ok (.iload_n 2, 1) := zdec_at bX1_masks_136 10 rfl
theorem dX1_masks_153 : decode cX1_masks 153 = .ok (.iconst 2, 1) := zdec_at bX1_masks_136 11 rfl
theorem dX1_masks_154 : decode cX1_masks 154 = .ok (.invokevirtual 667, 3) := zdec_at bX1_masks_136 12 rfl
theorem dX1_masks_157 : decode cX1_masks 157 = .ok (.iinc 1 1, 3) := zdec_at bX1_masks_136 13 rfl
theorem dX1_masks_160 : decode cX1_masks 160 = .ok (.goto (-63), 3) := zdec_at bX1_masks_136 14 rfl
theorem dX1_masks_163 : decode cX1_masks 163 = .ok (.iconst 1, 1) := zdec_at bX1_masks_136 15 rfl
theorem bX1_masks_164 : zdec cX1_masks 164 [(164, .istore_n 1, 1), (165, .iload_n 1, 1), (166, .aload_n 0, 1), (167, .getfield 82, 3), (170, .invokevirtual 291, 3), (173, .if_icmp .ge 35, 3), (176, .aload_n 0, 1), (177, .aload_n 0, 1), (178, .iload_n 1, 1), (179, .invokevirtual 538, 3), (182, .iconst 2, 1), (183, .iadd, 1), (184, .iconst 1, 1), (185, .iconst 3, 1), (186, .invokevirtual 667, 3), (189, .aload_n 0, 1)] = true := by decide +kernel
theorem dX1_masks_164 : decode cX1_masks 164 = .ok (.istore_n 1, 1) := zdec_at bX1_masks_164 0 rfl
theorem dX1_masks_165 : decode cX1_masks 165 = .ok (.iload_n 1, 1) := zdec_at bX1_masks_164 1 rfl
theorem dX1_masks_166 : decode cX1_masks 166 = .ok (.aload_n 0, 1) := zdec_at bX1_masks_164 2 rfl
theorem dX1_masks_167 : decode cX1_masks 167 = .ok (.getfield 82, 3) := zdec_at bX1_masks_164 3 rfl
theorem dX1_masks_170 : decode cX1_masks 170 = .ok (.invokevirtual 291, 3) := zdec_at bX1_masks_164 4 rfl
theorem dX1_masks_173 : decode cX1_masks 173 = .ok (.if_icmp .ge 35, 3) := zdec_at bX1_masks_164 5 rfl
theorem dX1_masks_176 : decode cX1_masks 176 = .ok (.aload_n 0, 1) := zdec_at bX1_masks_164 6 rfl
theorem dX1_masks_177 : decode cX1_masks 177 = .ok (.aload_n 0, 1) := zdec_at bX1_masks_164 7 rfl
theorem dX1_masks_178 : decode cX1_masks 178 = .ok (.iload_n 1, 1) := zdec_at bX1_masks_164 8 rfl
theorem dX1_masks_179 : decode cX1_masks 179 = .ok (.invokevirtual 538, 3) := zdec_at bX1_masks_164 9 rfl
theorem dX1_masks_182 : decode cX1_masks 182 = .ok (.iconst 2, 1) := zdec_at bX1_masks_164 10 rfl
theorem dX1_masks_183 : decode cX1_masks 183 = .ok (.iadd, 1) := zdec_at bX1_masks_164 11 rfl
theorem dX1_masks_184 : decode cX1_masks 184 = .ok (.iconst 1, 1) := zdec_at bX1_masks_164 12 rfl
theorem dX1_masks_185 : decode cX1_masks 185 = .ok (.iconst 3, 1) := zdec_at bX1_masks_164 13 rfl
theorem dX1_masks_186 : decode cX1_masks 186 = .ok (.invokevirtual 667, 3) := zdec_at bX1_masks_164 14 rfl
theorem dX1_masks_189 : decode cX1_masks 189 = .ok (.aload_n 0, 1) := zdec_at bX1_masks_164 15 rfl
theorem bX1_masks_190 : zdec cX1_masks 190 [(190, .aload_n 0, 1), (191, .iload_n 1, 1), (192, .invokevirtual 538, 3), (195, .iconst 3, 1), (196, .iadd, 1), (197, .iconst 1, 1), (198, .iconst 3, 1), (199, .invokevirtual 667, 3), (202, .iinc 1 1, 3), (205, .goto (-40), 3), (208, .return_, 1)] = true := by decide +kernel
theorem dX1_masks_190 : decode cX1_masks 190 = .ok (.aload_n 0, 1) := zdec_at bX1_masks_190 0 rfl
theorem dX1_masks_191 : decode cX1_masks 191 = .ok (.iload_n 1, 1) := zdec_at bX1_masks_190 1 rfl
theorem dX1_masks_192 : decode cX1_masks 192 = .ok (.invokevirtual 538, 3) := zdec_at bX1_masks_190 2 rfl
theorem dX1_masks_195 : decode cX1_masks 195 = .ok (.iconst 3, 1) := zdec_at bX1_masks_190 3 rfl
theorem dX1_masks_196 : decode cX1_masks 196 = .ok (.iadd, 1) := zdec_at bX1_masks_190 4 rfl
theorem dX1_masks_197 : decode cX1_masks 197 = .ok (.iconst 1, 1) := zdec_at bX1_masks_190 5 rfl
theorem dX1_masks_198 : decode cX1_masks 198 = .ok (.iconst 3, 1) := zdec_at bX1_masks_190 6 rfl
theorem dX1_masks_199 : decode cX1_masks 199 = .ok (.invokevirtual 667, 3) := zdec_at bX1_masks_190 7 rfl
theorem dX1_masks_202 : decode cX1_masks 202 = .ok (.iinc 1 1, 3) := zdec_at bX1_masks_190 8 rfl
theorem dX1_masks_205 : decode cX1_masks 205 = .ok (.goto (-40), 3) := zdec_at bX1_masks_190 9 rfl
theorem dX1_masks_208 : decode cX1_masks 208 = .ok (.return_, 1) := zdec_at bX1_masks_190 10 rfl
theorem sX1_masks_0 {E : zE} {d : Nat} {Q : zO → zM → Prop} (M : zM)  (hw : cw M) (k : Z E YX1_masks (d + 1) (sl (sl (sl (sl (sl (sl (sl (sl M 16 74 (0 : Int64)) 16 73 (0 : Int64)) 16 72 (0 : Int64)) 16 71 (0 : Int64)) 16 70 (0 : Int64)) 16 69 (0 : Int64)) 16 68 (0 : Int64)) 16 67 (0 : Int64)) [(0, vr (some (16, 0, 0))), (1, vi (0 : Int32))] 42 [] Q) : Z E YX1_masks (d + 1) M [(0, vr (some (16, 0, 0)))] 0 [] Q := by
  refine z_aload_n dX1_masks_0 rfl rfl ?_
  refine z_aload_n dX1_masks_1 rfl rfl ?_
  refine z_aload_n dX1_masks_2 rfl rfl ?_
  refine z_aload_n dX1_masks_3 rfl rfl ?_
  refine z_aload_n dX1_masks_4 rfl rfl ?_
  refine z_aload_n dX1_masks_5 rfl rfl ?_
  refine z_aload_n dX1_masks_6 rfl rfl ?_
  refine z_aload_n dX1_masks_7 rfl rfl ?_
  refine z_lconst (v := 0) dX1_masks_8 rfl ?_
  refine z_dup2_x1 dX1_masks_9 rfl rfl ?_
  refine z_putl (by decide) dX1_masks_10 (zfwN.w fwX1_661_0) ?_
  refine z_dup2_x1 dX1_masks_13 rfl rfl ?_
  refine z_putl (by decide) dX1_masks_14 (zfwN.w fwX1_658_0) ?_
  refine z_dup2_x1 dX1_masks_17 rfl rfl ?_
  refine z_putl (by decide) dX1_masks_18 (zfwN.w fwX1_655_0) ?_
  refine z_dup2_x1 dX1_masks_21 rfl rfl ?_
  refine z_putl (by decide) dX1_masks_22 (zfwN.w fwX1_652_0) ?_
  refine z_dup2_x1 dX1_masks_25 rfl rfl ?_
  refine z_putl (by decide) dX1_masks_26 (zfwN.w fwX1_649_0) ?_
  refine z_dup2_x1 dX1_masks_29 rfl rfl ?_
  refine z_putl (by decide) dX1_masks_30 (zfwN.w fwX1_646_0) ?_
  refine z_dup2_x1 dX1_masks_33 rfl rfl ?_
  refine z_putl (by decide) dX1_masks_34 (zfwN.w fwX1_643_0) ?_
  refine z_putl (by decide) dX1_masks_37 (zfwN.w fwX1_639_0) ?_
  refine z_iconst (v := 0) dX1_masks_40 rfl ?_
  refine z_ist_n dX1_masks_41 rfl (by decide) (lv' := [(0, vr (some (16, 0, 0))), (1, vi (0 : Int32))]) rfl ?_
  exact k
theorem sX1_masks_42 {E : zE} {d : Nat} {Q : zO → zM → Prop} (M : zM) (l1 : Int32) (hw : cw M) (k : if (gi M 16 1) ≤ l1 then (Z E YX1_bit d M (zargs 0 [vr (some (16, 0, 0)), vi (24 : Int32), vi (1 : Int32), vi (2 : Int32)]) 0 [] (zafter E YX1_masks (d + 1) [(0, vr (some (16, 0, 0)))] 92 3 [] Q)) else (Z E YX1_isInt d M (zargs 0 [vr (some (16, 0, 0)), vi l1]) 0 [] (zafter E YX1_masks (d + 1) [(0, vr (some (16, 0, 0))), (1, vi l1)] 54 3 [vi l1, vr (some (16, 0, 0))] Q))) : Z E YX1_masks (d + 1) M [(0, vr (some (16, 0, 0))), (1, vi l1)] 42 [] Q := by
  refine z_iload_n dX1_masks_42 rfl rfl ?_
  refine z_aload_n dX1_masks_43 rfl rfl ?_
  refine z_geti dX1_masks_44 fsX1_58_0 ?_
  refine z_icmp_ge (tgt := 87) dX1_masks_47 rfl (fun h_ => ?_) (fun h_ => ?_)
  · have k := zit h_ k
    refine z_aload_n dX1_masks_87 rfl rfl ?_
    refine z_bipush (v := 24) dX1_masks_88 rfl ?_
    refine z_iconst (v := 1) dX1_masks_90 rfl ?_
    refine z_iconst (v := 2) dX1_masks_91 rfl ?_
    refine Z.pick [0] rfl ?_
    exact z_callV (as := [vi (24 : Int32), vi (1 : Int32), vi (2 : Int32)]) (st := []) dX1_masks_92 vsX1_667_0 (Nat.le_refl _) (Nat.le_of_ble_eq_true rfl) (Nat.le_of_ble_eq_true rfl) rfl k
  · have k := zif h_ k
    refine z_aload_n dX1_masks_50 rfl rfl ?_
    refine z_iload_n dX1_masks_51 rfl rfl ?_
    refine z_aload_n dX1_masks_52 rfl rfl ?_
    refine z_iload_n dX1_masks_53 rfl rfl ?_
    exact z_callV (as := [vi l1]) (st := [vi l1, vr (some (16, 0, 0))]) dX1_masks_54 vsX1_664_0 (Nat.le_refl _) (Nat.le_of_ble_eq_true rfl) (Nat.le_of_ble_eq_true rfl) rfl k
theorem sX1_masks_57 {E : zE} {d : Nat} {Q : zO → zM → Prop} (M : zM) (l1 : Int32) (s0 : Int32) (s1 : Int32) (hw : cw M) (k : Z E YX1_bit d M (zargs 0 [vr (some (16, 0, 0)), vi s1, vi s0, vi (0 : Int32)]) 0 [] (zafter E YX1_masks (d + 1) [(0, vr (some (16, 0, 0))), (1, vi l1)] 58 3 [] Q)) : Z E YX1_masks (d + 1) M [(0, vr (some (16, 0, 0))), (1, vi l1)] 57 [vi s0, vi s1, vr (some (16, 0, 0))] Q := by
  refine z_iconst (v := 0) dX1_masks_57 rfl ?_
  exact z_callV (as := [vi s1, vi s0, vi (0 : Int32)]) (st := []) dX1_masks_58 vsX1_667_0 (Nat.le_refl _) (Nat.le_of_ble_eq_true rfl) (Nat.le_of_ble_eq_true rfl) rfl k
theorem sX1_masks_61 {E : zE} {d : Nat} {Q : zO → zM → Prop} (M : zM) (l1 : Int32) (hw : cw M) (k : Z E YX1_indexOf d M (zargs 0 [vr (some (16, 0, 0)), vi l1]) 0 [] (zafter E YX1_masks (d + 1) [(0, vr (some (16, 0, 0))), (1, vi l1)] 65 3 [vi l1, vr (some (16, 0, 0))] Q)) : Z E YX1_masks (d + 1) M [(0, vr (some (16, 0, 0))), (1, vi l1)] 61 [] Q := by
  refine z_aload_n dX1_masks_61 rfl rfl ?_
  refine z_iload_n dX1_masks_62 rfl rfl ?_
  refine z_aload_n dX1_masks_63 rfl rfl ?_
  refine z_iload_n dX1_masks_64 rfl rfl ?_
  exact z_callV (as := [vi l1]) (st := [vi l1, vr (some (16, 0, 0))]) dX1_masks_65 vsX1_552_0 (Nat.le_refl _) (Nat.le_of_ble_eq_true rfl) (Nat.le_of_ble_eq_true rfl) rfl k
theorem sX1_masks_68 {E : zE} {d : Nat} {Q : zO → zM → Prop} (M : zM) (l1 : Int32) (s0 : Int32) (s1 : Int32) (hw : cw M) (k : if s0 = (-1 : Int32) then (Z E YX1_bit d M (zargs 0 [vr (some (16, 0, 0)), vi s1, vi (0 : Int32), vi (1 : Int32)]) 0 [] (zafter E YX1_masks (d + 1) [(0, vr (some (16, 0, 0))), (1, vi l1)] 78 3 [] Q)) else (Z E YX1_bit d M (zargs 0 [vr (some (16, 0, 0)), vi s1, vi (1 : Int32), vi (1 : Int32)]) 0 [] (zafter E YX1_masks (d + 1) [(0, vr (some (16, 0, 0))), (1, vi l1)] 78 3 [] Q))) : Z E YX1_masks (d + 1) M [(0, vr (some (16, 0, 0))), (1, vi l1)] 68 [vi s0, vi s1, vr (some (16, 0, 0))] Q := by
  refine z_iconst (v := -1) dX1_masks_68 rfl ?_
  refine z_icmp_eq (tgt := 76) dX1_masks_69 rfl (fun h_ => ?_) (fun h_ => ?_)
  · have k := zit h_ k
    refine z_iconst (v := 0) dX1_masks_76 rfl ?_
    refine z_iconst (v := 1) dX1_masks_77 rfl ?_
    exact z_callV (as := [vi s1, vi (0 : Int32), vi (1 : Int32)]) (st := []) dX1_masks_78 vsX1_667_0 (Nat.le_refl _) (Nat.le_of_ble_eq_true rfl) (Nat.le_of_ble_eq_true rfl) rfl k
  · have k := zif h_ k
    refine z_iconst (v := 1) dX1_masks_72 rfl ?_
    refine z_goto (tgt := 77) dX1_masks_73 rfl ?_
    refine z_iconst (v := 1) dX1_masks_77 rfl ?_
    exact z_callV (as := [vi s1, vi (1 : Int32), vi (1 : Int32)]) (st := []) dX1_masks_78 vsX1_667_0 (Nat.le_refl _) (Nat.le_of_ble_eq_true rfl) (Nat.le_of_ble_eq_true rfl) rfl k
theorem sX1_masks_81 {E : zE} {d : Nat} {Q : zO → zM → Prop} (M : zM) (l1 : Int32) (hw : cw M) (k : Z E YX1_masks (d + 1) M [(0, vr (some (16, 0, 0))), (1, vi (l1 + (1 : Int32)))] 42 [] Q) : Z E YX1_masks (d + 1) M [(0, vr (some (16, 0, 0))), (1, vi l1)] 81 [] Q := by
  refine z_inc (v := (l1 + (1 : Int32))) dX1_masks_81 rfl rfl (by decide) (lv' := [(0, vr (some (16, 0, 0))), (1, vi (l1 + (1 : Int32)))]) rfl ?_
  refine z_goto (tgt := 42) dX1_masks_84 rfl ?_
  exact k
theorem sX1_masks_95 {E : zE} {d : Nat} {Q : zO → zM → Prop} (M : zM)  (hw : cw M) (k : Z E YX1_masks (d + 1) M [(0, vr (some (16, 0, 0))), (1, vi (0 : Int32))] 97 [] Q) : Z E YX1_masks (d + 1) M [(0, vr (some (16, 0, 0)))] 95 [] Q := by
  refine z_iconst (v := 0) dX1_masks_95 rfl ?_
  refine z_ist_n dX1_masks_96 rfl (by decide) (lv' := [(0, vr (some (16, 0, 0))), (1, vi (0 : Int32))]) rfl ?_
  exact k
theorem sX1_masks_97 {E : zE} {d : Nat} {Q : zO → zM → Prop} (M : zM) (l1 : Int32) (hw : cw M) (k : if (gi M 16 12) ≤ l1 then (Z E YX1_masks (d + 1) M [(0, vr (some (16, 0, 0))), (1, vi (1 : Int32))] 165 [] Q) else (vp_in l1 20 ∧ (vp_in (gi M 36 (l1).toNatClampNeg) 600 ∧ (if (gi M 30 ((gi M 36 (l1).toNatClampNeg)).toNatClampNeg) = (8 : Int32) then (Z E YX1_sitePair d M (zargs 0 [vr (some (16, 0, 0)), vi l1]) 0 [] (zafter E YX1_masks (d + 1) [(0, vr (some (16, 0, 0))), (1, vi l1), (2, vi (1 : Int32))] 136 3 [vr (some (16, 0, 0))] Q)) else (Z E YX1_sitePair d M (zargs 0 [vr (some (16, 0, 0)), vi l1]) 0 [] (zafter E YX1_masks (d + 1) [(0, vr (some (16, 0, 0))), (1, vi l1), (2, vi (0 : Int32))] 136 3 [vr (some (16, 0, 0))] Q)))))) : Z E YX1_masks (d + 1) M [(0, vr (some (16, 0, 0))), (1, vi l1)] 97 [] Q := by
  refine z_iload_n dX1_masks_97 rfl rfl ?_
  refine z_aload_n dX1_masks_98 rfl rfl ?_
  refine z_geti dX1_masks_99 fsX1_307_0 ?_
  refine z_icmp_ge (tgt := 163) dX1_masks_102 rfl (fun h_ => ?_) (fun h_ => ?_)
  · have k := zit h_ k
    refine z_iconst (v := 1) dX1_masks_163 rfl ?_
    refine z_ist_n dX1_masks_164 rfl (by decide) (lv' := [(0, vr (some (16, 0, 0))), (1, vi (1 : Int32))]) rfl ?_
    exact k
  · have k := zif h_ k
    refine z_aload_n dX1_masks_105 rfl rfl ?_
    refine z_getr dX1_masks_106 fsX1_89_0 (show gr M 16 9 = some (29, 3, 0) from cw_at hw 5 rfl) ?_
    refine z_getr dX1_masks_109 fsX1_334_3 (show gr M 29 0 = some (30, 101, 600) from cw_at hw 50 rfl) ?_
    refine z_aload_n dX1_masks_112 rfl rfl ?_
    refine z_getr dX1_masks_113 fsX1_89_0 (show gr M 16 9 = some (29, 3, 0) from cw_at hw 5 rfl) ?_
    refine z_getr dX1_masks_116 fsX1_671_3 (show gr M 29 6 = some (36, 100, 20) from cw_at hw 56 rfl) ?_
    refine z_iload_n dX1_masks_119 rfl rfl ?_
    obtain ⟨b_, k⟩ := k
    refine z_iald dX1_masks_120 b_ ?_
    obtain ⟨b_, k⟩ := k
    refine z_bald dX1_masks_121 b_ ?_
    refine z_bipush (v := 8) dX1_masks_122 rfl ?_
    refine z_icmp_ne (tgt := 131) dX1_masks_124 rfl (fun h_ => ?_) (fun h_ => ?_)
    · have k := zif h_ k
      refine z_iconst (v := 0) dX1_masks_131 rfl ?_
      refine z_ist_n dX1_masks_132 rfl (by decide) (lv' := [(0, vr (some (16, 0, 0))), (1, vi l1), (2, vi (0 : Int32))]) rfl ?_
      refine z_aload_n dX1_masks_133 rfl rfl ?_
      refine z_aload_n dX1_masks_134 rfl rfl ?_
      refine z_iload_n dX1_masks_135 rfl rfl ?_
      exact z_callV (as := [vi l1]) (st := [vr (some (16, 0, 0))]) dX1_masks_136 vsX1_486_0 (Nat.le_refl _) (Nat.le_of_ble_eq_true rfl) (Nat.le_of_ble_eq_true rfl) rfl k
    · have k := zit h_ k
      refine z_iconst (v := 1) dX1_masks_127 rfl ?_
      refine z_goto (tgt := 132) dX1_masks_128 rfl ?_
      refine z_ist_n dX1_masks_132 rfl (by decide) (lv' := [(0, vr (some (16, 0, 0))), (1, vi l1), (2, vi (1 : Int32))]) rfl ?_
      refine z_aload_n dX1_masks_133 rfl rfl ?_
      refine z_aload_n dX1_masks_134 rfl rfl ?_
      refine z_iload_n dX1_masks_135 rfl rfl ?_
      exact z_callV (as := [vi l1]) (st := [vr (some (16, 0, 0))]) dX1_masks_136 vsX1_486_0 (Nat.le_refl _) (Nat.le_of_ble_eq_true rfl) (Nat.le_of_ble_eq_true rfl) rfl k
theorem sX1_masks_139 {E : zE} {d : Nat} {Q : zO → zM → Prop} (M : zM) (l1 : Int32) (l2 : Int32) (s0 : Int32) (hw : cw M) (k : Z E YX1_bit d M (zargs 0 [vr (some (16, 0, 0)), vi s0, vi l2, vi (2 : Int32)]) 0 [] (zafter E YX1_masks (d + 1) [(0, vr (some (16, 0, 0))), (1, vi l1), (2, vi l2)] 141 3 [] Q)) : Z E YX1_masks (d + 1) M [(0, vr (some (16, 0, 0))), (1, vi l1), (2, vi l2)] 139 [vi s0, vr (some (16, 0, 0))] Q := by
  refine z_iload_n dX1_masks_139 rfl rfl ?_
  refine z_iconst (v := 2) dX1_masks_140 rfl ?_
  exact z_callV (as := [vi s0, vi l2, vi (2 : Int32)]) (st := []) dX1_masks_141 vsX1_667_0 (Nat.le_refl _) (Nat.le_of_ble_eq_true rfl) (Nat.le_of_ble_eq_true rfl) rfl k
theorem sX1_masks_144 {E : zE} {d : Nat} {Q : zO → zM → Prop} (M : zM) (l1 : Int32) (l2 : Int32) (hw : cw M) (k : Z E YX1_sitePair d M (zargs 0 [vr (some (16, 0, 0)), vi l1]) 0 [] (zafter E YX1_masks (d + 1) [(0, vr (some (16, 0, 0))), (1, vi l1), (2, vi l2)] 147 3 [vr (some (16, 0, 0))] Q)) : Z E YX1_masks (d + 1) M [(0, vr (some (16, 0, 0))), (1, vi l1), (2, vi l2)] 144 [] Q := by
  refine z_aload_n dX1_masks_144 rfl rfl ?_
  refine z_aload_n dX1_masks_145 rfl rfl ?_
  refine z_iload_n dX1_masks_146 rfl rfl ?_
  exact z_callV (as := [vi l1]) (st := [vr (some (16, 0, 0))]) dX1_masks_147 vsX1_486_0 (Nat.le_refl _) (Nat.le_of_ble_eq_true rfl) (Nat.le_of_ble_eq_true rfl) rfl k
theorem sX1_masks_150 {E : zE} {d : Nat} {Q : zO → zM → Prop} (M : zM) (l1 : Int32) (l2 : Int32) (s0 : Int32) (hw : cw M) (k : Z E YX1_bit d M (zargs 0 [vr (some (16, 0, 0)), vi (s0 + (1 : Int32)), vi l2, vi (2 : Int32)]) 0 [] (zafter E YX1_masks (d + 1) [(0, vr (some (16, 0, 0))), (1, vi l1)] 154 3 [] Q)) : Z E YX1_masks (d + 1) M [(0, vr (some (16, 0, 0))), (1, vi l1), (2, vi l2)] 150 [vi s0, vr (some (16, 0, 0))] Q := by
  refine z_iconst (v := 1) dX1_masks_150 rfl ?_
  refine z_iadd dX1_masks_151 ?_
  refine z_iload_n dX1_masks_152 rfl rfl ?_
  refine z_iconst (v := 2) dX1_masks_153 rfl ?_
  refine Z.pick [0, 1] rfl ?_
  exact z_callV (as := [vi (s0 + (1 : Int32)), vi l2, vi (2 : Int32)]) (st := []) dX1_masks_154 vsX1_667_0 (Nat.le_refl _) (Nat.le_of_ble_eq_true rfl) (Nat.le_of_ble_eq_true rfl) rfl k
theorem sX1_masks_157 {E : zE} {d : Nat} {Q : zO → zM → Prop} (M : zM) (l1 : Int32) (hw : cw M) (k : Z E YX1_masks (d + 1) M [(0, vr (some (16, 0, 0))), (1, vi (l1 + (1 : Int32)))] 97 [] Q) : Z E YX1_masks (d + 1) M [(0, vr (some (16, 0, 0))), (1, vi l1)] 157 [] Q := by
  refine z_inc (v := (l1 + (1 : Int32))) dX1_masks_157 rfl rfl (by decide) (lv' := [(0, vr (some (16, 0, 0))), (1, vi (l1 + (1 : Int32)))]) rfl ?_
  refine z_goto (tgt := 97) dX1_masks_160 rfl ?_
  exact k
theorem sX1_masks_165 {E : zE} {d : Nat} {Q : zO → zM → Prop} (M : zM) (l1 : Int32) (hw : cw M) (k : ∃ b1 : Nat, (gr M 16 8) = some (b1, 11, 0) ∧ (Z E YJ2_size d M (zargs 0 [vr (some (b1, 11, 0))]) 0 [] (zafter E YX1_masks (d + 1) [(0, vr (some (16, 0, 0))), (1, vi l1)] 170 3 [vi l1] Q))) : Z E YX1_masks (d + 1) M [(0, vr (some (16, 0, 0))), (1, vi l1)] 165 [] Q := by
  refine z_iload_n dX1_masks_165 rfl rfl ?_
  refine z_aload_n dX1_masks_166 rfl rfl ?_
  refine z_getr (r := (gr M 16 8)) dX1_masks_167 fsX1_82_0 rfl ?_
  obtain ⟨b1, e1_, k⟩ := k
  refine Z.eqs (lv' := [(0, vr (some (16, 0, 0))), (1, vi l1)]) (st' := [vr (some (b1, 11, 0)), vi l1]) rfl (by rw [e1_] <;> rfl) ?_
  exact z_callV (as := []) (st := [vi l1]) dX1_masks_170 vsX1_291_11 (Nat.le_refl _) (Nat.le_of_ble_eq_true rfl) (Nat.le_of_ble_eq_true rfl) rfl k
theorem sX1_masks_173 {E : zE} {d : Nat} {Q : zO → zM → Prop} (M : zM) (l1 : Int32) (s0 : Int32) (s1 : Int32) (hw : cw M) (k : if s0 ≤ s1 then (Q (.inl none) M) else (Z E YX1_scopePair d M (zargs 0 [vr (some (16, 0, 0)), vi l1]) 0 [] (zafter E YX1_masks (d + 1) [(0, vr (some (16, 0, 0))), (1, vi l1)] 179 3 [vr (some (16, 0, 0))] Q))) : Z E YX1_masks (d + 1) M [(0, vr (some (16, 0, 0))), (1, vi l1)] 173 [vi s0, vi s1] Q := by
  refine z_icmp_ge (tgt := 208) dX1_masks_173 rfl (fun h_ => ?_) (fun h_ => ?_)
  · have k := zit h_ k
    exact z_vret dX1_masks_208 rfl k
  · have k := zif h_ k
    refine z_aload_n dX1_masks_176 rfl rfl ?_
    refine z_aload_n dX1_masks_177 rfl rfl ?_
    refine z_iload_n dX1_masks_178 rfl rfl ?_
    exact z_callV (as := [vi l1]) (st := [vr (some (16, 0, 0))]) dX1_masks_179 vsX1_538_0 (Nat.le_refl _) (Nat.le_of_ble_eq_true rfl) (Nat.le_of_ble_eq_true rfl) rfl k
theorem sX1_masks_182 {E : zE} {d : Nat} {Q : zO → zM → Prop} (M : zM) (l1 : Int32) (s0 : Int32) (hw : cw M) (k : Z E YX1_bit d M (zargs 0 [vr (some (16, 0, 0)), vi (s0 + (2 : Int32)), vi (1 : Int32), vi (3 : Int32)]) 0 [] (zafter E YX1_masks (d + 1) [(0, vr (some (16, 0, 0))), (1, vi l1)] 186 3 [] Q)) : Z E YX1_masks (d + 1) M [(0, vr (some (16, 0, 0))), (1, vi l1)] 182 [vi s0, vr (some (16, 0, 0))] Q := by
  refine z_iconst (v := 2) dX1_masks_182 rfl ?_
  refine z_iadd dX1_masks_183 ?_
  refine z_iconst (v := 1) dX1_masks_184 rfl ?_
  refine z_iconst (v := 3) dX1_masks_185 rfl ?_
  exact z_callV (as := [vi (s0 + (2 : Int32)), vi (1 : Int32), vi (3 : Int32)]) (st := []) dX1_masks_186 vsX1_667_0 (Nat.le_refl _) (Nat.le_of_ble_eq_true rfl) (Nat.le_of_ble_eq_true rfl) rfl k
theorem sX1_masks_189 {E : zE} {d : Nat} {Q : zO → zM → Prop} (M : zM) (l1 : Int32) (hw : cw M) (k : Z E YX1_scopePair d M (zargs 0 [vr (some (16, 0, 0)), vi l1]) 0 [] (zafter E YX1_masks (d + 1) [(0, vr (some (16, 0, 0))), (1, vi l1)] 192 3 [vr (some (16, 0, 0))] Q)) : Z E YX1_masks (d + 1) M [(0, vr (some (16, 0, 0))), (1, vi l1)] 189 [] Q := by
  refine z_aload_n dX1_masks_189 rfl rfl ?_
  refine z_aload_n dX1_masks_190 rfl rfl ?_
  refine z_iload_n dX1_masks_191 rfl rfl ?_
  exact z_callV (as := [vi l1]) (st := [vr (some (16, 0, 0))]) dX1_masks_192 vsX1_538_0 (Nat.le_refl _) (Nat.le_of_ble_eq_true rfl) (Nat.le_of_ble_eq_true rfl) rfl k
theorem sX1_masks_195 {E : zE} {d : Nat} {Q : zO → zM → Prop} (M : zM) (l1 : Int32) (s0 : Int32) (hw : cw M) (k : Z E YX1_bit d M (zargs 0 [vr (some (16, 0, 0)), vi (s0 + (3 : Int32)), vi (1 : Int32), vi (3 : Int32)]) 0 [] (zafter E YX1_masks (d + 1) [(0, vr (some (16, 0, 0))), (1, vi l1)] 199 3 [] Q)) : Z E YX1_masks (d + 1) M [(0, vr (some (16, 0, 0))), (1, vi l1)] 195 [vi s0, vr (some (16, 0, 0))] Q := by
  refine z_iconst (v := 3) dX1_masks_195 rfl ?_
  refine z_iadd dX1_masks_196 ?_
  refine z_iconst (v := 1) dX1_masks_197 rfl ?_
  refine z_iconst (v := 3) dX1_masks_198 rfl ?_
  exact z_callV (as := [vi (s0 + (3 : Int32)), vi (1 : Int32), vi (3 : Int32)]) (st := []) dX1_masks_199 vsX1_667_0 (Nat.le_refl _) (Nat.le_of_ble_eq_true rfl) (Nat.le_of_ble_eq_true rfl) rfl k
theorem sX1_masks_202 {E : zE} {d : Nat} {Q : zO → zM → Prop} (M : zM) (l1 : Int32) (hw : cw M) (k : Z E YX1_masks (d + 1) M [(0, vr (some (16, 0, 0))), (1, vi (l1 + (1 : Int32)))] 165 [] Q) : Z E YX1_masks (d + 1) M [(0, vr (some (16, 0, 0))), (1, vi l1)] 202 [] Q := by
  refine z_inc (v := (l1 + (1 : Int32))) dX1_masks_202 rfl rfl (by decide) (lv' := [(0, vr (some (16, 0, 0))), (1, vi (l1 + (1 : Int32)))]) rfl ?_
  refine z_goto (tgt := 165) dX1_masks_205 rfl ?_
  exact k
/-! ScriptTypes.isInt(I)Z -/
theorem bX1_isInt_0 : zdec cX1_isInt 0 [(0, .aload_n 0, 1), (1, .getfield 19, 3), (4, .iload_n 1, 1), (5, .invokevirtual 23, 3), (8, .istore_n 2, 1), (9, .iload_n 2, 1), (10, .ifCond .le 21, 3), (13, .aload_n 0, 1), (14, .getfield 19, 3), (17, .iload_n 1, 1), (18, .iconst 0, 1), (19, .invokevirtual 29, 3), (22, .bipush 45, 2), (24, .if_icmp .ne 7, 3), (27, .iconst 1, 1), (28, .goto 4, 3)] = true := by decide +kernel
theorem dX1_isInt_0 : decode cX1_isInt 0 = .ok (.aload_n 0, 1) := zdec_at bX1_isInt_0 0 rfl
theorem dX1_isInt_1 : decode cX1_isInt 1 = .ok (.getfield 19, 3) := zdec_at bX1_isInt_0 1 rfl
theorem dX1_isInt_4 : decode cX1_isInt 4 = .ok (.iload_n 1, 1) := zdec_at bX1_isInt_0 2 rfl
theorem dX1_isInt_5 : decode cX1_isInt 5 = .ok (.invokevirtual 23, 3) := zdec_at bX1_isInt_0 3 rfl
theorem dX1_isInt_8 : decode cX1_isInt 8 = .ok (.istore_n 2, 1) := zdec_at bX1_isInt_0 4 rfl
theorem dX1_isInt_9 : decode cX1_isInt 9 = .ok (.iload_n 2, 1) := zdec_at bX1_isInt_0 5 rfl
theorem dX1_isInt_10 : decode cX1_isInt 10 = .ok (.ifCond .le 21, 3) := zdec_at bX1_isInt_0 6 rfl
theorem dX1_isInt_13 : decode cX1_isInt 13 = .ok (.aload_n 0, 1) := zdec_at bX1_isInt_0 7 rfl
theorem dX1_isInt_14 : decode cX1_isInt 14 = .ok (.getfield 19, 3) := zdec_at bX1_isInt_0 8 rfl
theorem dX1_isInt_17 : decode cX1_isInt 17 = .ok (.iload_n 1, 1) := zdec_at bX1_isInt_0 9 rfl
theorem dX1_isInt_18 : decode cX1_isInt 18 = .ok (.iconst 0, 1) := zdec_at bX1_isInt_0 10 rfl
theorem dX1_isInt_19 : decode cX1_isInt 19 = .ok (.invokevirtual 29, 3) := zdec_at bX1_isInt_0 11 rfl
theorem dX1_isInt_22 : decode cX1_isInt 22 = .ok (.bipush 45, 2) := zdec_at bX1_isInt_0 12 rfl
theorem dX1_isInt_24 : decode cX1_isInt 24 = .ok (.if_icmp .ne 7, 3) := zdec_at bX1_isInt_0 13 rfl
theorem dX1_isInt_27 : decode cX1_isInt 27 = .ok (.iconst 1, 1) := zdec_at bX1_isInt_0 14 rfl
theorem dX1_isInt_28 : decode cX1_isInt 28 = .ok (.goto 4, 3) := zdec_at bX1_isInt_0 15 rfl
theorem bX1_isInt_31 : zdec cX1_isInt 31 [(31, .iconst 0, 1), (32, .istore_n 3, 1), (33, .iload_n 2, 1), (34, .iload_n 3, 1), (35, .if_icmp .eq 22, 3), (38, .aload_n 0, 1), (39, .getfield 19, 3), (42, .iload_n 1, 1), (43, .iload_n 3, 1), (44, .invokevirtual 29, 3), (47, .bipush 48, 2), (49, .if_icmp .ne 10, 3), (52, .iload_n 2, 1), (53, .iconst 1, 1), (54, .if_icmp .le 5, 3), (57, .iconst 0, 1)] = true := by decide +kernel
theorem dX1_isInt_31 : decode cX1_isInt 31 = .ok (.iconst 0, 1) := zdec_at bX1_isInt_31 0 rfl
theorem dX1_isInt_32 : decode cX1_isInt 32 = .ok (.istore_n 3, 1) := zdec_at bX1_isInt_31 1 rfl
theorem dX1_isInt_33 : decode cX1_isInt 33 = .ok (.iload_n 2, 1) := zdec_at bX1_isInt_31 2 rfl
theorem dX1_isInt_34 : decode cX1_isInt 34 = .ok (.iload_n 3, 1) := zdec_at bX1_isInt_31 3 rfl
theorem dX1_isInt_35 : decode cX1_isInt 35 = .ok (.if_icmp .eq 22, 3) := zdec_at bX1_isInt_31 4 rfl
theorem dX1_isInt_38 : decode cX1_isInt 38 = .ok (.aload_n 0, 1) := zdec_at bX1_isInt_31 5 rfl
theorem dX1_isInt_39 : decode cX1_isInt 39 = .ok (.getfield 19, 3) := zdec_at bX1_isInt_31 6 rfl
theorem dX1_isInt_42 : decode cX1_isInt 42 = .ok (.iload_n 1, 1) := zdec_at bX1_isInt_31 7 rfl
theorem dX1_isInt_43 : decode cX1_isInt 43 = .ok (.iload_n 3, 1) := zdec_at bX1_isInt_31 8 rfl
theorem dX1_isInt_44 : decode cX1_isInt 44 = .ok (.invokevirtual 29, 3) := zdec_at bX1_isInt_31 9 rfl
theorem dX1_isInt_47 : decode cX1_isInt 47 = .ok (.bipush 48, 2) := zdec_at bX1_isInt_31 10 rfl
theorem dX1_isInt_49 : decode cX1_isInt 49 = .ok (.if_icmp .ne 10, 3) := zdec_at bX1_isInt_31 11 rfl
theorem dX1_isInt_52 : decode cX1_isInt 52 = .ok (.iload_n 2, 1) := zdec_at bX1_isInt_31 12 rfl
theorem dX1_isInt_53 : decode cX1_isInt 53 = .ok (.iconst 1, 1) := zdec_at bX1_isInt_31 13 rfl
theorem dX1_isInt_54 : decode cX1_isInt 54 = .ok (.if_icmp .le 5, 3) := zdec_at bX1_isInt_31 14 rfl
theorem dX1_isInt_57 : decode cX1_isInt 57 = .ok (.iconst 0, 1) := zdec_at bX1_isInt_31 15 rfl
theorem bX1_isInt_58 : zdec cX1_isInt 58 [(58, .ireturn, 1), (59, .aload_n 0, 1), (60, .bipush 6, 2), (62, .iload_n 1, 1), (63, .invokevirtual 412, 3), (66, .ireturn, 1)] = true := by decide +kernel
theorem dX1_isInt_58 : decode cX1_isInt 58 = .ok (.ireturn, 1) := zdec_at bX1_isInt_58 0 rfl
theorem dX1_isInt_59 : decode cX1_isInt 59 = .ok (.aload_n 0, 1) := zdec_at bX1_isInt_58 1 rfl
theorem dX1_isInt_60 : decode cX1_isInt 60 = .ok (.bipush 6, 2) := zdec_at bX1_isInt_58 2 rfl
theorem dX1_isInt_62 : decode cX1_isInt 62 = .ok (.iload_n 1, 1) := zdec_at bX1_isInt_58 3 rfl
theorem dX1_isInt_63 : decode cX1_isInt 63 = .ok (.invokevirtual 412, 3) := zdec_at bX1_isInt_58 4 rfl
theorem dX1_isInt_66 : decode cX1_isInt 66 = .ok (.ireturn, 1) := zdec_at bX1_isInt_58 5 rfl
theorem sX1_isInt_0 {E : zE} {d : Nat} {Q : zO → zM → Prop} (M : zM) (l1 : Int32) (hw : cw M) (k : Z E YX2_length d M (zargs 0 [vr (some (17, 2, 0)), vi l1]) 0 [] (zafter E YX1_isInt (d + 1) [(0, vr (some (16, 0, 0))), (1, vi l1)] 5 3 [] Q)) : Z E YX1_isInt (d + 1) M [(0, vr (some (16, 0, 0))), (1, vi l1)] 0 [] Q := by
  refine z_aload_n dX1_isInt_0 rfl rfl ?_
  refine z_getr dX1_isInt_1 fsX1_19_0 (show gr M 16 0 = some (17, 2, 0) from cw_at hw 0 rfl) ?_
  refine z_iload_n dX1_isInt_4 rfl rfl ?_
  exact z_callV (as := [vi l1]) (st := []) dX1_isInt_5 vsX1_23_2 (Nat.le_refl _) (Nat.le_of_ble_eq_true rfl) (Nat.le_of_ble_eq_true rfl) rfl k
theorem sX1_isInt_8 {E : zE} {d : Nat} {Q : zO → zM → Prop} (M : zM) (l1 : Int32) (s0 : Int32) (hw : cw M) (k : if s0 ≤ 0 then (Z E YX1_isInt (d + 1) M [(0, vr (some (16, 0, 0))), (1, vi l1), (2, vi s0)] 32 [vi (0 : Int32)] Q) else (Z E YX2_sign d M (zargs 0 [vr (some (17, 2, 0)), vi l1, vi (0 : Int32)]) 0 [] (zafter E YX1_isInt (d + 1) [(0, vr (some (16, 0, 0))), (1, vi l1), (2, vi s0)] 19 3 [] Q))) : Z E YX1_isInt (d + 1) M [(0, vr (some (16, 0, 0))), (1, vi l1)] 8 [vi s0] Q := by
  refine z_ist_n dX1_isInt_8 rfl (by decide) (lv' := [(0, vr (some (16, 0, 0))), (1, vi l1), (2, vi s0)]) rfl ?_
  refine z_iload_n dX1_isInt_9 rfl rfl ?_
  refine z_if_le (tgt := 31) dX1_isInt_10 rfl (fun h_ => ?_) (fun h_ => ?_)
  · have k := zit h_ k
    refine z_iconst (v := 0) dX1_isInt_31 rfl ?_
    exact k
  · have k := zif h_ k
    refine z_aload_n dX1_isInt_13 rfl rfl ?_
    refine z_getr dX1_isInt_14 fsX1_19_0 (show gr M 16 0 = some (17, 2, 0) from cw_at hw 0 rfl) ?_
    refine z_iload_n dX1_isInt_17 rfl rfl ?_
    refine z_iconst (v := 0) dX1_isInt_18 rfl ?_
    exact z_callV (as := [vi l1, vi (0 : Int32)]) (st := []) dX1_isInt_19 vsX1_29_2 (Nat.le_refl _) (Nat.le_of_ble_eq_true rfl) (Nat.le_of_ble_eq_true rfl) rfl k
theorem sX1_isInt_22 {E : zE} {d : Nat} {Q : zO → zM → Prop} (M : zM) (l1 : Int32) (l2 : Int32) (s0 : Int32) (hw : cw M) (k : if s0 = (45 : Int32) then (Z E YX1_isInt (d + 1) M [(0, vr (some (16, 0, 0))), (1, vi l1), (2, vi l2)] 32 [vi (1 : Int32)] Q) else (Z E YX1_isInt (d + 1) M [(0, vr (some (16, 0, 0))), (1, vi l1), (2, vi l2)] 32 [vi (0 : Int32)] Q)) : Z E YX1_isInt (d + 1) M [(0, vr (some (16, 0, 0))), (1, vi l1), (2, vi l2)] 22 [vi s0] Q := by
  refine z_bipush (v := 45) dX1_isInt_22 rfl ?_
  refine z_icmp_ne (tgt := 31) dX1_isInt_24 rfl (fun h_ => ?_) (fun h_ => ?_)
  · have k := zif h_ k
    refine z_iconst (v := 0) dX1_isInt_31 rfl ?_
    exact k
  · have k := zit h_ k
    refine z_iconst (v := 1) dX1_isInt_27 rfl ?_
    refine z_goto (tgt := 32) dX1_isInt_28 rfl ?_
    exact k
theorem sX1_isInt_32 {E : zE} {d : Nat} {Q : zO → zM → Prop} (M : zM) (l1 : Int32) (l2 : Int32) (s0 : Int32) (hw : cw M) (k : if l2 = s0 then (Q (.inl (some (vi (0 : Int32)))) M) else (Z E YX2_sign d M (zargs 0 [vr (some (17, 2, 0)), vi l1, vi s0]) 0 [] (zafter E YX1_isInt (d + 1) [(0, vr (some (16, 0, 0))), (1, vi l1), (2, vi l2)] 44 3 [] Q))) : Z E YX1_isInt (d + 1) M [(0, vr (some (16, 0, 0))), (1, vi l1), (2, vi l2)] 32 [vi s0] Q := by
  refine z_ist_n dX1_isInt_32 rfl (by decide) (lv' := [(0, vr (some (16, 0, 0))), (1, vi l1), (2, vi l2), (3, vi s0)]) rfl ?_
  refine z_iload_n dX1_isInt_33 rfl rfl ?_
  refine z_iload_n dX1_isInt_34 rfl rfl ?_
  refine z_icmp_eq (tgt := 57) dX1_isInt_35 rfl (fun h_ => ?_) (fun h_ => ?_)
  · have k := zit h_ k
    refine z_iconst (v := 0) dX1_isInt_57 rfl ?_
    exact z_iret dX1_isInt_58 rfl (by decide) k
  · have k := zif h_ k
    refine z_aload_n dX1_isInt_38 rfl rfl ?_
    refine z_getr dX1_isInt_39 fsX1_19_0 (show gr M 16 0 = some (17, 2, 0) from cw_at hw 0 rfl) ?_
    refine z_iload_n dX1_isInt_42 rfl rfl ?_
    refine z_iload_n dX1_isInt_43 rfl rfl ?_
    refine Z.pick [0, 1, 2] rfl ?_
    exact z_callV (as := [vi l1, vi s0]) (st := []) dX1_isInt_44 vsX1_29_2 (Nat.le_refl _) (Nat.le_of_ble_eq_true rfl) (Nat.le_of_ble_eq_true rfl) rfl k
theorem sX1_isInt_47 {E : zE} {d : Nat} {Q : zO → zM → Prop} (M : zM) (l1 : Int32) (l2 : Int32) (s0 : Int32) (hw : cw M) (k : if s0 = (48 : Int32) then (if l2 ≤ (1 : Int32) then (Z E YX1_hasNumber d M (zargs 0 [vr (some (16, 0, 0)), vi (6 : Int32), vi l1]) 0 [] (zafter E YX1_isInt (d + 1) [] 63 3 [] Q)) else (Q (.inl (some (vi (0 : Int32)))) M)) else (Z E YX1_hasNumber d M (zargs 0 [vr (some (16, 0, 0)), vi (6 : Int32), vi l1]) 0 [] (zafter E YX1_isInt (d + 1) [] 63 3 [] Q))) : Z E YX1_isInt (d + 1) M [(0, vr (some (16, 0, 0))), (1, vi l1), (2, vi l2)] 47 [vi s0] Q := by
  refine z_bipush (v := 48) dX1_isInt_47 rfl ?_
  refine z_icmp_ne (tgt := 59) dX1_isInt_49 rfl (fun h_ => ?_) (fun h_ => ?_)
  · have k := zif h_ k
    refine z_aload_n dX1_isInt_59 rfl rfl ?_
    refine z_bipush (v := 6) dX1_isInt_60 rfl ?_
    refine z_iload_n dX1_isInt_62 rfl rfl ?_
    refine Z.pick [] rfl ?_
    exact z_callV (as := [vi (6 : Int32), vi l1]) (st := []) dX1_isInt_63 vsX1_412_0 (Nat.le_refl _) (Nat.le_of_ble_eq_true rfl) (Nat.le_of_ble_eq_true rfl) rfl k
  · have k := zit h_ k
    refine z_iload_n dX1_isInt_52 rfl rfl ?_
    refine z_iconst (v := 1) dX1_isInt_53 rfl ?_
    refine z_icmp_le (tgt := 59) dX1_isInt_54 rfl (fun h_ => ?_) (fun h_ => ?_)
    · have k := zit h_ k
      refine z_aload_n dX1_isInt_59 rfl rfl ?_
      refine z_bipush (v := 6) dX1_isInt_60 rfl ?_
      refine z_iload_n dX1_isInt_62 rfl rfl ?_
      refine Z.pick [] rfl ?_
      exact z_callV (as := [vi (6 : Int32), vi l1]) (st := []) dX1_isInt_63 vsX1_412_0 (Nat.le_refl _) (Nat.le_of_ble_eq_true rfl) (Nat.le_of_ble_eq_true rfl) rfl k
    · have k := zif h_ k
      refine z_iconst (v := 0) dX1_isInt_57 rfl ?_
      exact z_iret dX1_isInt_58 rfl (by decide) k
theorem sX1_isInt_66 {E : zE} {d : Nat} {Q : zO → zM → Prop} (M : zM) (s0 : Int32) (hw : cw M) (k : (narrow .boolean (.int s0) = .int s0) ∧ Q (.inl (some (vi s0))) M) : Z E YX1_isInt (d + 1) M [] 66 [vi s0] Q := by
  exact z_iret dX1_isInt_66 rfl k.1 k.2
/-! ScriptTypes.bit(IZI)V -/
theorem bX1_bit_0 : zdec cX1_bit 0 [(0, .iload_n 2, 1), (1, .ifCond .ne 4, 3), (4, .return_, 1), (5, .iload_n 1, 1), (6, .bipush 64, 2), (8, .if_icmp .ge 9, 3), (11, .lconst 1, 1), (12, .iload_n 1, 1), (13, .lshl, 1), (14, .goto 4, 3), (17, .lconst 0, 1), (18, .lstore 4, 2), (20, .iload_n 1, 1), (21, .bipush 64, 2), (23, .if_icmp .ge 7, 3), (26, .lconst 0, 1)] = true := by decide +kernel
theorem dX1_bit_0 : decode cX1_bit 0 = .ok (.iload_n 2, 1) := zdec_at bX1_bit_0 0 rfl
theorem dX1_bit_1 : decode cX1_bit 1 = .ok (.ifCond .ne 4, 3) := zdec_at bX1_bit_0 1 rfl
theorem dX1_bit_4 : decode cX1_bit 4 = .ok (.return_, 1) := zdec_at bX1_bit_0 2 rfl
theorem dX1_bit_5 : decode cX1_bit 5 = .ok (.iload_n 1, 1) := zdec_at bX1_bit_0 3 rfl
theorem dX1_bit_6 : decode cX1_bit 6 = .ok (.bipush 64, 2) := zdec_at bX1_bit_0 4 rfl
theorem dX1_bit_8 : decode cX1_bit 8 = .ok (.if_icmp .ge 9, 3) := zdec_at bX1_bit_0 5 rfl
theorem dX1_bit_11 : decode cX1_bit 11 = .ok (.lconst 1, 1) := zdec_at bX1_bit_0 6 rfl
theorem dX1_bit_12 : decode cX1_bit 12 = .ok (.iload_n 1, 1) := zdec_at bX1_bit_0 7 rfl
theorem dX1_bit_13 : decode cX1_bit 13 = .ok (.lshl, 1) := zdec_at bX1_bit_0 8 rfl
theorem dX1_bit_14 : decode cX1_bit 14 = .ok (.goto 4, 3) := zdec_at bX1_bit_0 9 rfl
theorem dX1_bit_17 : decode cX1_bit 17 = .ok (.lconst 0, 1) := zdec_at bX1_bit_0 10 rfl
theorem dX1_bit_18 : decode cX1_bit 18 = .ok (.lstore 4, 2) := zdec_at bX1_bit_0 11 rfl
theorem dX1_bit_20 : decode cX1_bit 20 = .ok (.iload_n 1, 1) := zdec_at bX1_bit_0 12 rfl
theorem dX1_bit_21 : decode cX1_bit 21 = .ok (.bipush 64, 2) := zdec_at bX1_bit_0 13 rfl
theorem dX1_bit_23 : decode cX1_bit 23 = .ok (.if_icmp .ge 7, 3) := zdec_at bX1_bit_0 14 rfl
theorem dX1_bit_26 : decode cX1_bit 26 = .ok (.lconst 0, 1) := zdec_at bX1_bit_0 15 rfl
theorem bX1_bit_27 : zdec cX1_bit 27 [(27, .goto 9, 3), (30, .lconst 1, 1), (31, .iload_n 1, 1), (32, .bipush 64, 2), (34, .isub, 1), (35, .lshl, 1), (36, .lstore 6, 2), (38, .iload_n 3, 1), (39, .ifCond .ne 28, 3), (42, .aload_n 0, 1), (43, .dup, 1), (44, .getfield 639, 3), (47, .lload 4, 2), (49, .lor, 1), (50, .putfield 639, 3), (53, .aload_n 0, 1)] = true := by decide +kernel
theorem dX1_bit_27 : decode cX1_bit 27 = .ok (.goto 9, 3) := zdec_at bX1_bit_27 0 rfl
theorem dX1_bit_30 : decode cX1_bit 30 = .ok (.lconst 1, 1) := zdec_at bX1_bit_27 1 rfl
theorem dX1_bit_31 : decode cX1_bit 31 = .ok (.iload_n 1, 1) := zdec_at bX1_bit_27 2 rfl
theorem dX1_bit_32 : decode cX1_bit 32 = .ok (.bipush 64, 2) := zdec_at bX1_bit_27 3 rfl
theorem dX1_bit_34 : decode cX1_bit 34 = .ok (.isub, 1) := zdec_at bX1_bit_27 4 rfl
theorem dX1_bit_35 : decode cX1_bit 35 = .ok (.lshl, 1) := zdec_at bX1_bit_27 5 rfl
theorem dX1_bit_36 : decode cX1_bit 36 = .ok (.lstore 6, 2) := zdec_at bX1_bit_27 6 rfl
theorem dX1_bit_38 : decode cX1_bit 38 = .ok (.iload_n 3, 1) := zdec_at bX1_bit_27 7 rfl
theorem dX1_bit_39 : decode cX1_bit 39 = .ok (.ifCond .ne 28, 3) := zdec_at bX1_bit_27 8 rfl
theorem dX1_bit_42 : decode cX1_bit 42 = .ok (.aload_n 0, 1) := zdec_at bX1_bit_27 9 rfl
theorem dX1_bit_43 : decode cX1_bit 43 = .ok (.dup, 1) := zdec_at bX1_bit_27 10 rfl
theorem dX1_bit_44 : decode cX1_bit 44 = .ok (.getfield 639, 3) := zdec_at bX1_bit_27 11 rfl
theorem dX1_bit_47 : decode cX1_bit 47 = .ok (.lload 4, 2) := zdec_at bX1_bit_27 12 rfl
theorem dX1_bit_49 : decode cX1_bit 49 = .ok (.lor, 1) := zdec_at bX1_bit_27 13 rfl
theorem dX1_bit_50 : decode cX1_bit 50 = .ok (.putfield 639, 3) := zdec_at bX1_bit_27 14 rfl
theorem dX1_bit_53 : decode cX1_bit 53 = .ok (.aload_n 0, 1) := zdec_at bX1_bit_27 15 rfl
theorem bX1_bit_54 : zdec cX1_bit 54 [(54, .dup, 1), (55, .getfield 643, 3), (58, .lload 6, 2), (60, .lor, 1), (61, .putfield 643, 3), (64, .goto 85, 3), (67, .iload_n 3, 1), (68, .iconst 1, 1), (69, .if_icmp .ne 28, 3), (72, .aload_n 0, 1), (73, .dup, 1), (74, .getfield 646, 3), (77, .lload 4, 2), (79, .lor, 1), (80, .putfield 646, 3), (83, .aload_n 0, 1)] = true := by decide +kernel
theorem dX1_bit_54 : decode cX1_bit 54 = .ok (.dup, 1) := zdec_at bX1_bit_54 0 rfl
theorem dX1_bit_55 : decode cX1_bit 55 = .ok (.getfield 643, 3) := zdec_at bX1_bit_54 1 rfl
theorem dX1_bit_58 : decode cX1_bit 58 = .ok (.lload 6, 2) := zdec_at bX1_bit_54 2 rfl
theorem dX1_bit_60 : decode cX1_bit 60 = .ok (.lor, 1) := zdec_at bX1_bit_54 3 rfl
theorem dX1_bit_61 : decode cX1_bit 61 = .ok (.putfield 643, 3) := zdec_at bX1_bit_54 4 rfl
theorem dX1_bit_64 : decode cX1_bit 64 = .ok (.goto 85, 3) := zdec_at bX1_bit_54 5 rfl
theorem dX1_bit_67 : decode cX1_bit 67 = .ok (.iload_n 3, 1) := zdec_at bX1_bit_54 6 rfl
theorem dX1_bit_68 : decode cX1_bit 68 = .ok (.iconst 1, 1) := zdec_at bX1_bit_54 7 rfl
theorem dX1_bit_69 : decode cX1_bit 69 = .ok (.if_icmp .ne 28, 3) := zdec_at bX1_bit_54 8 rfl
theorem dX1_bit_72 : decode cX1_bit 72 = .ok (.aload_n 0, 1) := zdec_at bX1_bit_54 9 rfl
theorem dX1_bit_73 : decode cX1_bit 73 = .ok (.dup, 1) := zdec_at bX1_bit_54 10 rfl
theorem dX1_bit_74 : decode cX1_bit 74 = .ok (.getfield 646, 3) := zdec_at bX1_bit_54 11 rfl
theorem dX1_bit_77 : decode cX1_bit 77 = .ok (.lload 4, 2) := zdec_at bX1_bit_54 12 rfl
theorem dX1_bit_79 : decode cX1_bit 79 = .ok (.lor, 1) := zdec_at bX1_bit_54 13 rfl
theorem dX1_bit_80 : decode cX1_bit 80 = .ok (.putfield 646, 3) := zdec_at bX1_bit_54 14 rfl
theorem dX1_bit_83 : decode cX1_bit 83 = .ok (.aload_n 0, 1) := zdec_at bX1_bit_54 15 rfl
theorem bX1_bit_84 : zdec cX1_bit 84 [(84, .dup, 1), (85, .getfield 649, 3), (88, .lload 6, 2), (90, .lor, 1), (91, .putfield 649, 3), (94, .goto 55, 3), (97, .iload_n 3, 1), (98, .iconst 2, 1), (99, .if_icmp .ne 28, 3), (102, .aload_n 0, 1), (103, .dup, 1), (104, .getfield 652, 3), (107, .lload 4, 2), (109, .lor, 1), (110, .putfield 652, 3), (113, .aload_n 0, 1)] = true := by decide +kernel
theorem dX1_bit_84 : decode cX1_bit 84 = .ok (.dup, 1) := zdec_at bX1_bit_84 0 rfl
theorem dX1_bit_85 : decode cX1_bit 85 = .ok (.getfield 649, 3) := zdec_at bX1_bit_84 1 rfl
theorem dX1_bit_88 : decode cX1_bit 88 = .ok (.lload 6, 2) := zdec_at bX1_bit_84 2 rfl
theorem dX1_bit_90 : decode cX1_bit 90 = .ok (.lor, 1) := zdec_at bX1_bit_84 3 rfl
theorem dX1_bit_91 : decode cX1_bit 91 = .ok (.putfield 649, 3) := zdec_at bX1_bit_84 4 rfl
theorem dX1_bit_94 : decode cX1_bit 94 = .ok (.goto 55, 3) := zdec_at bX1_bit_84 5 rfl
theorem dX1_bit_97 : decode cX1_bit 97 = .ok (.iload_n 3, 1) := zdec_at bX1_bit_84 6 rfl
theorem dX1_bit_98 : decode cX1_bit 98 = .ok (.iconst 2, 1) := zdec_at bX1_bit_84 7 rfl
theorem dX1_bit_99 : decode cX1_bit 99 = .ok (.if_icmp .ne 28, 3) := zdec_at bX1_bit_84 8 rfl
theorem dX1_bit_102 : decode cX1_bit 102 = .ok (.aload_n 0, 1) := zdec_at bX1_bit_84 9 rfl
theorem dX1_bit_103 : decode cX1_bit 103 = .ok (.dup, 1) := zdec_at bX1_bit_84 10 rfl
theorem dX1_bit_104 : decode cX1_bit 104 = .ok (.getfield 652, 3) := zdec_at bX1_bit_84 11 rfl
theorem dX1_bit_107 : decode cX1_bit 107 = .ok (.lload 4, 2) := zdec_at bX1_bit_84 12 rfl
theorem dX1_bit_109 : decode cX1_bit 109 = .ok (.lor, 1) := zdec_at bX1_bit_84 13 rfl
theorem dX1_bit_110 : decode cX1_bit 110 = .ok (.putfield 652, 3) := zdec_at bX1_bit_84 14 rfl
theorem dX1_bit_113 : decode cX1_bit 113 = .ok (.aload_n 0, 1) := zdec_at bX1_bit_84 15 rfl
theorem bX1_bit_114 : zdec cX1_bit 114 [(114, .dup, 1), (115, .getfield 655, 3), (118, .lload 6, 2), (120, .lor, 1), (121, .putfield 655, 3), (124, .goto 25, 3), (127, .aload_n 0, 1), (128, .dup, 1), (129, .getfield 658, 3), (132, .lload 4, 2), (134, .lor, 1), (135, .putfield 658, 3), (138, .aload_n 0, 1), (139, .dup, 1), (140, .getfield 661, 3), (143, .lload 6, 2)] = true := by decide +kernel
theorem dX1_bit_114 : decode cX1_bit 114 = .ok (.dup, 1) := zdec_at bX1_bit_114 0 rfl
theorem dX1_bit_115 : decode cX1_bit 115 = .ok (.getfield 655, 3) := zdec_at bX1_bit_114 1 rfl
theorem dX1_bit_118 : decode cX1_bit 118 = .ok (.lload 6, 2) := zdec_at bX1_bit_114 2 rfl
theorem dX1_bit_120 : decode cX1_bit 120 = .ok (.lor, 1) := zdec_at bX1_bit_114 3 rfl
theorem dX1_bit_121 : decode cX1_bit 121 = .ok (.putfield 655, 3) := zdec_at bX1_bit_114 4 rfl
theorem dX1_bit_124 : decode cX1_bit 124 = .ok (.goto 25, 3) := zdec_at bX1_bit_114 5 rfl
theorem dX1_bit_127 : decode cX1_bit 127 = .ok (.aload_n 0, 1) := zdec_at bX1_bit_114 6 rfl
theorem dX1_bit_128 : decode cX1_bit 128 = .ok (.dup, 1) := zdec_at bX1_bit_114 7 rfl
theorem dX1_bit_129 : decode cX1_bit 129 = .ok (.getfield 658, 3) := zdec_at bX1_bit_114 8 rfl
theorem dX1_bit_132 : decode cX1_bit 132 = .ok (.lload 4, 2) := zdec_at bX1_bit_114 9 rfl
theorem dX1_bit_134 : decode cX1_bit 134 = .ok (.lor, 1) := zdec_at bX1_bit_114 10 rfl
theorem dX1_bit_135 : decode cX1_bit 135 = .ok (.putfield 658, 3) := zdec_at bX1_bit_114 11 rfl
theorem dX1_bit_138 : decode cX1_bit 138 = .ok (.aload_n 0, 1) := zdec_at bX1_bit_114 12 rfl
theorem dX1_bit_139 : decode cX1_bit 139 = .ok (.dup, 1) := zdec_at bX1_bit_114 13 rfl
theorem dX1_bit_140 : decode cX1_bit 140 = .ok (.getfield 661, 3) := zdec_at bX1_bit_114 14 rfl
theorem dX1_bit_143 : decode cX1_bit 143 = .ok (.lload 6, 2) := zdec_at bX1_bit_114 15 rfl
theorem bX1_bit_145 : zdec cX1_bit 145 [(145, .lor, 1), (146, .putfield 661, 3), (149, .return_, 1)] = true := by decide +kernel
theorem dX1_bit_145 : decode cX1_bit 145 = .ok (.lor, 1) := zdec_at bX1_bit_145 0 rfl
theorem dX1_bit_146 : decode cX1_bit 146 = .ok (.putfield 661, 3) := zdec_at bX1_bit_145 1 rfl
theorem dX1_bit_149 : decode cX1_bit 149 = .ok (.return_, 1) := zdec_at bX1_bit_145 2 rfl
theorem sX1_bit_0 {E : zE} {d : Nat} {Q : zO → zM → Prop} (M : zM) (l1 : Int32) (l2 : Int32) (l3 : Int32) (hw : cw M) (k : if l2 = 0 then (Q (.inl none) M) else (if (64 : Int32) ≤ l1 then (Z E YX1_bit d M [(0, vr (some (16, 0, 0))), (1, vi l1), (3, vi l3)] 18 [vl (0 : Int64)] Q) else (Z E YX1_bit d M [(0, vr (some (16, 0, 0))), (1, vi l1), (3, vi l3)] 18 [vl (zls (1 : Int64) l1)] Q))) : Z E YX1_bit d M [(0, vr (some (16, 0, 0))), (1, vi l1), (2, vi l2), (3, vi l3)] 0 [] Q := by
  refine z_iload_n dX1_bit_0 rfl rfl ?_
  refine z_if_ne (tgt := 5) dX1_bit_1 rfl (fun h_ => ?_) (fun h_ => ?_)
  · have k := zif h_ k
    refine z_iload_n dX1_bit_5 rfl rfl ?_
    refine z_bipush (v := 64) dX1_bit_6 rfl ?_
    refine z_icmp_ge (tgt := 17) dX1_bit_8 rfl (fun h_ => ?_) (fun h_ => ?_)
    · have k := zit h_ k
      refine z_lconst (v := 0) dX1_bit_17 rfl ?_
      refine Z.pick [0, 1, 3] rfl ?_
      exact k
    · have k := zif h_ k
      refine z_lconst (v := 1) dX1_bit_11 rfl ?_
      refine z_iload_n dX1_bit_12 rfl rfl ?_
      refine z_lshl dX1_bit_13 ?_
      refine z_goto (tgt := 18) dX1_bit_14 rfl ?_
      refine Z.pick [0, 1, 3] rfl ?_
      exact k
  · have k := zit h_ k
    exact z_vret dX1_bit_4 rfl k
theorem sX1_bit_18 {E : zE} {d : Nat} {Q : zO → zM → Prop} (M : zM) (l1 : Int32) (l3 : Int32) (s0 : Int64) (hw : cw M) (k : if (64 : Int32) ≤ l1 then (Z E YX1_bit d M [(0, vr (some (16, 0, 0))), (3, vi l3), (4, vl s0)] 36 [vl (zls (1 : Int64) (l1 - (64 : Int32)))] Q) else (Z E YX1_bit d M [(0, vr (some (16, 0, 0))), (3, vi l3), (4, vl s0)] 36 [vl (0 : Int64)] Q)) : Z E YX1_bit d M [(0, vr (some (16, 0, 0))), (1, vi l1), (3, vi l3)] 18 [vl s0] Q := by
  refine z_lst dX1_bit_18 (by decide) (lv' := [(0, vr (some (16, 0, 0))), (1, vi l1), (3, vi l3), (4, vl s0)]) rfl ?_
  refine z_iload_n dX1_bit_20 rfl rfl ?_
  refine z_bipush (v := 64) dX1_bit_21 rfl ?_
  refine z_icmp_ge (tgt := 30) dX1_bit_23 rfl (fun h_ => ?_) (fun h_ => ?_)
  · have k := zit h_ k
    refine z_lconst (v := 1) dX1_bit_30 rfl ?_
    refine z_iload_n dX1_bit_31 rfl rfl ?_
    refine z_bipush (v := 64) dX1_bit_32 rfl ?_
    refine z_isub dX1_bit_34 ?_
    refine z_lshl dX1_bit_35 ?_
    refine Z.pick [0, 2, 3] rfl ?_
    exact k
  · have k := zif h_ k
    refine z_lconst (v := 0) dX1_bit_26 rfl ?_
    refine z_goto (tgt := 36) dX1_bit_27 rfl ?_
    refine Z.pick [0, 2, 3] rfl ?_
    exact k
theorem sX1_bit_36 {E : zE} {d : Nat} {Q : zO → zM → Prop} (M : zM) (l3 : Int32) (l4 : Int64) (s0 : Int64) (hw : cw M) (k : if l3 = 0 then (Q (.inl none) (sl (sl M 16 67 ((gl M 16 67) ||| l4)) 16 68 ((gl M 16 68) ||| s0))) else (if l3 = (1 : Int32) then (Q (.inl none) (sl (sl M 16 69 ((gl M 16 69) ||| l4)) 16 70 ((gl M 16 70) ||| s0))) else (if l3 = (2 : Int32) then (Q (.inl none) (sl (sl M 16 71 ((gl M 16 71) ||| l4)) 16 72 ((gl M 16 72) ||| s0))) else (Q (.inl none) (sl (sl M 16 73 ((gl M 16 73) ||| l4)) 16 74 ((gl M 16 74) ||| s0)))))) : Z E YX1_bit d M [(0, vr (some (16, 0, 0))), (3, vi l3), (4, vl l4)] 36 [vl s0] Q := by
  refine z_lst dX1_bit_36 (by decide) (lv' := [(0, vr (some (16, 0, 0))), (3, vi l3), (4, vl l4), (6, vl s0)]) rfl ?_
  refine z_iload_n dX1_bit_38 rfl rfl ?_
  refine z_if_ne (tgt := 67) dX1_bit_39 rfl (fun h_ => ?_) (fun h_ => ?_)
  · have k := zif h_ k
    refine z_iload_n dX1_bit_67 rfl rfl ?_
    refine z_iconst (v := 1) dX1_bit_68 rfl ?_
    refine z_icmp_ne (tgt := 97) dX1_bit_69 rfl (fun h_ => ?_) (fun h_ => ?_)
    · have k := zif h_ k
      refine z_iload_n dX1_bit_97 rfl rfl ?_
      refine z_iconst (v := 2) dX1_bit_98 rfl ?_
      refine z_icmp_ne (tgt := 127) dX1_bit_99 rfl (fun h_ => ?_) (fun h_ => ?_)
      · have k := zif h_ k
        refine z_aload_n dX1_bit_127 rfl rfl ?_
        refine z_dup dX1_bit_128 rfl ?_
        refine z_getl dX1_bit_129 fsX1_658_0 ?_
        refine z_lload dX1_bit_132 rfl ?_
        refine z_lor dX1_bit_134 ?_
        refine z_putl (by decide) dX1_bit_135 (zfwN.w fwX1_658_0) ?_
        refine z_aload_n dX1_bit_138 rfl rfl ?_
        refine z_dup dX1_bit_139 rfl ?_
        refine z_getl dX1_bit_140 fsX1_661_0 ?_
        refine z_lload dX1_bit_143 rfl ?_
        refine z_lor dX1_bit_145 ?_
        refine z_putl (by decide) dX1_bit_146 (zfwN.w fwX1_661_0) ?_
        exact z_vret dX1_bit_149 rfl k
      · have k := zit h_ k
        refine z_aload_n dX1_bit_102 rfl rfl ?_
        refine z_dup dX1_bit_103 rfl ?_
        refine z_getl dX1_bit_104 fsX1_652_0 ?_
        refine z_lload dX1_bit_107 rfl ?_
        refine z_lor dX1_bit_109 ?_
        refine z_putl (by decide) dX1_bit_110 (zfwN.w fwX1_652_0) ?_
        refine z_aload_n dX1_bit_113 rfl rfl ?_
        refine z_dup dX1_bit_114 rfl ?_
        refine z_getl dX1_bit_115 fsX1_655_0 ?_
        refine z_lload dX1_bit_118 rfl ?_
        refine z_lor dX1_bit_120 ?_
        refine z_putl (by decide) dX1_bit_121 (zfwN.w fwX1_655_0) ?_
        refine z_goto (tgt := 149) dX1_bit_124 rfl ?_
        exact z_vret dX1_bit_149 rfl k
    · have k := zit h_ k
      refine z_aload_n dX1_bit_72 rfl rfl ?_
      refine z_dup dX1_bit_73 rfl ?_
      refine z_getl dX1_bit_74 fsX1_646_0 ?_
      refine z_lload dX1_bit_77 rfl ?_
      refine z_lor dX1_bit_79 ?_
      refine z_putl (by decide) dX1_bit_80 (zfwN.w fwX1_646_0) ?_
      refine z_aload_n dX1_bit_83 rfl rfl ?_
      refine z_dup dX1_bit_84 rfl ?_
      refine z_getl dX1_bit_85 fsX1_649_0 ?_
      refine z_lload dX1_bit_88 rfl ?_
      refine z_lor dX1_bit_90 ?_
      refine z_putl (by decide) dX1_bit_91 (zfwN.w fwX1_649_0) ?_
      refine z_goto (tgt := 149) dX1_bit_94 rfl ?_
      exact z_vret dX1_bit_149 rfl k
  · have k := zit h_ k
    refine z_aload_n dX1_bit_42 rfl rfl ?_
    refine z_dup dX1_bit_43 rfl ?_
    refine z_getl dX1_bit_44 fsX1_639_0 ?_
    refine z_lload dX1_bit_47 rfl ?_
    refine z_lor dX1_bit_49 ?_
    refine z_putl (by decide) dX1_bit_50 (zfwN.w fwX1_639_0) ?_
    refine z_aload_n dX1_bit_53 rfl rfl ?_
    refine z_dup dX1_bit_54 rfl ?_
    refine z_getl dX1_bit_55 fsX1_643_0 ?_
    refine z_lload dX1_bit_58 rfl ?_
    refine z_lor dX1_bit_60 ?_
    refine z_putl (by decide) dX1_bit_61 (zfwN.w fwX1_643_0) ?_
    refine z_goto (tgt := 149) dX1_bit_64 rfl ?_
    exact z_vret dX1_bit_149 rfl k
/-! ScriptTypes.atFirst()V -/
theorem bX1_atFirst_0 : zdec cX1_atFirst 0 [(0, .aload_n 0, 1), (1, .getfield 684, 3), (4, .iconst 0, 1), (5, .putfield 726, 3), (8, .iconst 0, 1), (9, .istore_n 1, 1), (10, .iload_n 1, 1), (11, .aload_n 0, 1), (12, .getfield 313, 3), (15, .if_icmp .ge 67, 3), (18, .aload_n 0, 1), (19, .getfield 684, 3), (22, .iload_n 1, 1), (23, .iconst 0, 1), (24, .iconst 0, 1), (25, .invokevirtual 727, 3)] = true := by decide +kernel
theorem dX1_atFirst_0 : decode cX1_atFirst 0 = .ok (.aload_n 0, 1) := zdec_at bX1_atFirst_0 0 rfl
theorem dX1_atFirst_1 : decode cX1_atFirst 1 = .ok (.getfield 684, 3) := zdec_at bX1_atFirst_0 1 rfl
theorem dX1_atFirst_4 : decode cX1_atFirst 4 = .ok (.iconst 0, 1) := zdec_at bX1_atFirst_0 2 rfl
theorem dX1_atFirst_5 : decode cX1_atFirst 5 = .ok (.putfield 726, 3) := zdec_at bX1_atFirst_0 3 rfl
theorem dX1_atFirst_8 : decode cX1_atFirst 8 = .ok (.iconst 0, 1) := zdec_at bX1_atFirst_0 4 rfl
theorem dX1_atFirst_9 : decode cX1_atFirst 9 = .ok (.istore_n 1, 1) := zdec_at bX1_atFirst_0 5 rfl
theorem dX1_atFirst_10 : decode cX1_atFirst 10 = .ok (.iload_n 1, 1) := zdec_at bX1_atFirst_0 6 rfl
theorem dX1_atFirst_11 : decode cX1_atFirst 11 = .ok (.aload_n 0, 1) := zdec_at bX1_atFirst_0 7 rfl
theorem dX1_atFirst_12 : decode cX1_atFirst 12 = .ok (.getfield 313, 3) := zdec_at bX1_atFirst_0 8 rfl
theorem dX1_atFirst_15 : decode cX1_atFirst 15 = .ok (.if_icmp .ge 67, 3) := zdec_at bX1_atFirst_0 9 rfl
theorem dX1_atFirst_18 : decode cX1_atFirst 18 = .ok (.aload_n 0, 1) := zdec_at bX1_atFirst_0 10 rfl
theorem dX1_atFirst_19 : decode cX1_atFirst 19 = .ok (.getfield 684, 3) := zdec_at bX1_atFirst_0 11 rfl
theorem dX1_atFirst_22 : decode cX1_atFirst 22 = .ok (.iload_n 1, 1) := zdec_at bX1_atFirst_0 12 rfl
theorem dX1_atFirst_23 : decode cX1_atFirst 23 = .ok (.iconst 0, 1) := zdec_at bX1_atFirst_0 13 rfl
theorem dX1_atFirst_24 : decode cX1_atFirst 24 = .ok (.iconst 0, 1) := zdec_at bX1_atFirst_0 14 rfl
theorem dX1_atFirst_25 : decode cX1_atFirst 25 = .ok (.invokevirtual 727, 3) := zdec_at bX1_atFirst_0 15 rfl
theorem bX1_atFirst_28 : zdec cX1_atFirst 28 [(28, .iconst 0, 1), (29, .istore_n 2, 1), (30, .iload_n 2, 1), (31, .aload_n 0, 1), (32, .getfield 58, 3), (35, .if_icmp .gt 21, 3), (38, .aload_n 0, 1), (39, .getfield 684, 3), (42, .iload_n 1, 1), (43, .iload_n 2, 1), (44, .lconst 0, 1), (45, .lconst 0, 1), (46, .lconst 0, 1), (47, .invokevirtual 722, 3), (50, .iinc 2 1, 3), (53, .goto (-23), 3)] = true := by decide +kernel
theorem dX1_atFirst_28 : decode cX1_atFirst 28 = .ok (.iconst 0, 1) := zdec_at bX1_atFirst_28 0 rfl
theorem dX1_atFirst_29 : decode cX1_atFirst 29 = .ok (.istore_n 2, 1) := zdec_at bX1_atFirst_28 1 rfl
theorem dX1_atFirst_30 : decode cX1_atFirst 30 = .ok (.iload_n 2, 1) := zdec_at bX1_atFirst_28 2 rfl
theorem dX1_atFirst_31 : decode cX1_atFirst 31 = .ok (.aload_n 0, 1) := zdec_at bX1_atFirst_28 3 rfl
theorem dX1_atFirst_32 : decode cX1_atFirst 32 = .ok (.getfield 58, 3) := zdec_at bX1_atFirst_28 4 rfl
theorem dX1_atFirst_35 : decode cX1_atFirst 35 = .ok (.if_icmp .gt 21, 3) := zdec_at bX1_atFirst_28 5 rfl
theorem dX1_atFirst_38 : decode cX1_atFirst 38 = .ok (.aload_n 0, 1) := zdec_at bX1_atFirst_28 6 rfl
theorem dX1_atFirst_39 : decode cX1_atFirst 39 = .ok (.getfield 684, 3) := zdec_at bX1_atFirst_28 7 rfl
theorem dX1_atFirst_42 : decode cX1_atFirst 42 = .ok (.iload_n 1, 1) := zdec_at bX1_atFirst_28 8 rfl
theorem dX1_atFirst_43 : decode cX1_atFirst 43 = .ok (.iload_n 2, 1) := zdec_at bX1_atFirst_28 9 rfl
theorem dX1_atFirst_44 : decode cX1_atFirst 44 = .ok (.lconst 0, 1) := zdec_at bX1_atFirst_28 10 rfl
theorem dX1_atFirst_45 : decode cX1_atFirst 45 = .ok (.lconst 0, 1) := zdec_at bX1_atFirst_28 11 rfl
theorem dX1_atFirst_46 : decode cX1_atFirst 46 = .ok (.lconst 0, 1) := zdec_at bX1_atFirst_28 12 rfl
theorem dX1_atFirst_47 : decode cX1_atFirst 47 = .ok (.invokevirtual 722, 3) := zdec_at bX1_atFirst_28 13 rfl
theorem dX1_atFirst_50 : decode cX1_atFirst 50 = .ok (.iinc 2 1, 3) := zdec_at bX1_atFirst_28 14 rfl
theorem dX1_atFirst_53 : decode cX1_atFirst 53 = .ok (.goto (-23), 3) := zdec_at bX1_atFirst_28 15 rfl
theorem bX1_atFirst_56 : zdec cX1_atFirst 56 [(56, .aload_n 0, 1), (57, .getfield 684, 3), (60, .getfield 731, 3), (63, .iload_n 1, 1), (64, .iconst 0, 1), (65, .bastore, 1), (66, .aload_n 0, 1), (67, .getfield 684, 3), (70, .getfield 734, 3), (73, .iload_n 1, 1), (74, .lconst 0, 1), (75, .lastore, 1), (76, .iinc 1 1, 3), (79, .goto (-69), 3), (82, .iconst 0, 1), (83, .istore_n 1, 1)] = true := by decide +kernel
theorem dX1_atFirst_56 : decode cX1_atFirst 56 = .ok (.aload_n 0, 1) := zdec_at bX1_atFirst_56 0 rfl
theorem dX1_atFirst_57 : decode cX1_atFirst 57 = .ok (.getfield 684, 3) := zdec_at bX1_atFirst_56 1 rfl
theorem dX1_atFirst_60 : decode cX1_atFirst 60 = .ok (.getfield 731, 3) := zdec_at bX1_atFirst_56 2 rfl
theorem dX1_atFirst_63 : decode cX1_atFirst 63 = .ok (.iload_n 1, 1) := zdec_at bX1_atFirst_56 3 rfl
theorem dX1_atFirst_64 : decode cX1_atFirst 64 = .ok (.iconst 0, 1) := zdec_at bX1_atFirst_56 4 rfl
theorem dX1_atFirst_65 : decode cX1_atFirst 65 = .ok (.bastore, 1) := zdec_at bX1_atFirst_56 5 rfl
theorem dX1_atFirst_66 : decode cX1_atFirst 66 = .ok (.aload_n 0, 1) := zdec_at bX1_atFirst_56 6 rfl
theorem dX1_atFirst_67 : decode cX1_atFirst 67 = .ok (.getfield 684, 3) := zdec_at bX1_atFirst_56 7 rfl
theorem dX1_atFirst_70 : decode cX1_atFirst 70 = .ok (.getfield 734, 3) := zdec_at bX1_atFirst_56 8 rfl
theorem dX1_atFirst_73 : decode cX1_atFirst 73 = .ok (.iload_n 1, 1) := zdec_at bX1_atFirst_56 9 rfl
theorem dX1_atFirst_74 : decode cX1_atFirst 74 = .ok (.lconst 0, 1) := zdec_at bX1_atFirst_56 10 rfl
theorem dX1_atFirst_75 : decode cX1_atFirst 75 = .ok (.lastore, 1) := zdec_at bX1_atFirst_56 11 rfl
theorem dX1_atFirst_76 : decode cX1_atFirst 76 = .ok (.iinc 1 1, 3) := zdec_at bX1_atFirst_56 12 rfl
theorem dX1_atFirst_79 : decode cX1_atFirst 79 = .ok (.goto (-69), 3) := zdec_at bX1_atFirst_56 13 rfl
theorem dX1_atFirst_82 : decode cX1_atFirst 82 = .ok (.iconst 0, 1) := zdec_at bX1_atFirst_56 14 rfl
theorem dX1_atFirst_83 : decode cX1_atFirst 83 = .ok (.istore_n 1, 1) := zdec_at bX1_atFirst_56 15 rfl
theorem bX1_atFirst_84 : zdec cX1_atFirst 84 [(84, .iload_n 1, 1), (85, .bipush 23, 2), (87, .if_icmp .ge 57, 3), (90, .aload_n 0, 1), (91, .getfield 684, 3), (94, .iload_n 1, 1), (95, .iload_n 1, 1), (96, .iconst 1, 1), (97, .if_icmp .ne 7, 3), (100, .iconst (-1), 1), (101, .goto 24, 3), (104, .iload_n 1, 1), (105, .bipush 6, 2), (107, .if_icmp .ge 7, 3), (110, .iconst 1, 1), (111, .goto 14, 3)] = true := by decide +kernel
theorem dX1_atFirst_84 : decode cX1_atFirst 84 = .ok (.iload_n 1, 1) := zdec_at bX1_atFirst_84 0 rfl
theorem dX1_atFirst_85 : decode cX1_atFirst 85 = .ok (.bipush 23, 2) := zdec_at bX1_atFirst_84 1 rfl
theorem dX1_atFirst_87 : decode cX1_atFirst 87 = .ok (.if_icmp .ge 57, 3) := zdec_at bX1_atFirst_84 2 rfl
theorem dX1_atFirst_90 : decode cX1_atFirst 90 = .ok (.aload_n 0, 1) := zdec_at bX1_atFirst_84 3 rfl
theorem dX1_atFirst_91 : decode cX1_atFirst 91 = .ok (.getfield 684, 3) := zdec_at bX1_atFirst_84 4 rfl
theorem dX1_atFirst_94 : decode cX1_atFirst 94 = .ok (.iload_n 1, 1) := zdec_at bX1_atFirst_84 5 rfl
theorem dX1_atFirst_95 : decode cX1_atFirst 95 = .ok (.iload_n 1, 1) := zdec_at bX1_atFirst_84 6 rfl
theorem dX1_atFirst_96 : decode cX1_atFirst 96 = .ok (.iconst 1, 1) := zdec_at bX1_atFirst_84 7 rfl
theorem dX1_atFirst_97 : decode cX1_atFirst 97 = .ok (.if_icmp .ne 7, 3) := zdec_at bX1_atFirst_84 8 rfl
theorem dX1_atFirst_100 : decode cX1_atFirst 100 = .ok (.iconst (-1), 1) := zdec_at bX1_atFirst_84 9 rfl
theorem dX1_atFirst_101 : decode cX1_atFirst 101 = .ok (.goto 24, 3) := zdec_at bX1_atFirst_84 10 rfl
theorem dX1_atFirst_104 : decode cX1_atFirst 104 = .ok (.iload_n 1, 1) := zdec_at bX1_atFirst_84 11 rfl
theorem dX1_atFirst_105 : decode cX1_atFirst 105 = .ok (.bipush 6, 2) := zdec_at bX1_atFirst_84 12 rfl
theorem dX1_atFirst_107 : decode cX1_atFirst 107 = .ok (.if_icmp .ge 7, 3) := zdec_at bX1_atFirst_84 13 rfl
theorem dX1_atFirst_110 : decode cX1_atFirst 110 = .ok (.iconst 1, 1) := zdec_at bX1_atFirst_84 14 rfl
theorem dX1_atFirst_111 : decode cX1_atFirst 111 = .ok (.goto 14, 3) := zdec_at bX1_atFirst_84 15 rfl
theorem bX1_atFirst_114 : zdec cX1_atFirst 114 [(114, .iload_n 1, 1), (115, .bipush 9, 2), (117, .if_icmp .ge 7, 3), (120, .iconst 5, 1), (121, .goto 4, 3), (124, .iconst 2, 1), (125, .iload_n 1, 1), (126, .iconst 1, 1), (127, .if_icmp .ne 7, 3), (130, .iconst 1, 1), (131, .goto 4, 3), (134, .iconst 0, 1), (135, .invokevirtual 727, 3), (138, .iinc 1 1, 3), (141, .goto (-57), 3), (144, .bipush 9, 2)] = true := by decide +kernel
theorem dX1_atFirst_114 : decode cX1_atFirst 114 = .ok (.iload_n 1, 1) := zdec_at bX1_atFirst_114 0 rfl
theorem dX1_atFirst_115 : decode cX1_atFirst 115 = .ok (.bipush 9, 2) := zdec_at bX1_atFirst_114 1 rfl
theorem dX1_atFirst_117 : decode cX1_atFirst 117 = .ok (.if_icmp .ge 7, 3) := zdec_at bX1_atFirst_114 2 rfl
theorem dX1_atFirst_120 : decode cX1_atFirst 120 = .ok (.iconst 5, 1) := zdec_at bX1_atFirst_114 3 rfl
theorem dX1_atFirst_121 : decode cX1_atFirst 121 = .ok (.goto 4, 3) := zdec_at bX1_atFirst_114 4 rfl
theorem dX1_atFirst_124 : decode cX1_atFirst 124 = .ok (.iconst 2, 1) := zdec_at bX1_atFirst_114 5 rfl
theorem dX1_atFirst_125 : decode cX1_atFirst 125 = .ok (.iload_n 1, 1) := zdec_at bX1_atFirst_114 6 rfl
theorem dX1_atFirst_126 : decode cX1_atFirst 126 = .ok (.iconst 1, 1) := zdec_at bX1_atFirst_114 7 rfl
theorem dX1_atFirst_127 : decode cX1_atFirst 127 = .ok (.if_icmp .ne 7, 3) := zdec_at bX1_atFirst_114 8 rfl
theorem dX1_atFirst_130 : decode cX1_atFirst 130 = .ok (.iconst 1, 1) := zdec_at bX1_atFirst_114 9 rfl
theorem dX1_atFirst_131 : decode cX1_atFirst 131 = .ok (.goto 4, 3) := zdec_at bX1_atFirst_114 10 rfl
theorem dX1_atFirst_134 : decode cX1_atFirst 134 = .ok (.iconst 0, 1) := zdec_at bX1_atFirst_114 11 rfl
theorem dX1_atFirst_135 : decode cX1_atFirst 135 = .ok (.invokevirtual 727, 3) := zdec_at bX1_atFirst_114 12 rfl
theorem dX1_atFirst_138 : decode cX1_atFirst 138 = .ok (.iinc 1 1, 3) := zdec_at bX1_atFirst_114 13 rfl
theorem dX1_atFirst_141 : decode cX1_atFirst 141 = .ok (.goto (-57), 3) := zdec_at bX1_atFirst_114 14 rfl
theorem dX1_atFirst_144 : decode cX1_atFirst 144 = .ok (.bipush 9, 2) := zdec_at bX1_atFirst_114 15 rfl
theorem bX1_atFirst_146 : zdec cX1_atFirst 146 [(146, .istore_n 1, 1), (147, .iload_n 1, 1), (148, .bipush 18, 2), (150, .if_icmp .ge 18, 3), (153, .aload_n 0, 1), (154, .iconst 0, 1), (155, .iload_n 1, 1), (156, .iconst 4, 1), (157, .isub, 1), (158, .iload_n 1, 1), (159, .invokevirtual 738, 3), (162, .iinc 1 1, 3), (165, .goto (-18), 3), (168, .aload_n 0, 1), (169, .iconst 1, 1), (170, .iconst 2, 1)] = true := by decide +kernel
theorem dX1_atFirst_146 : decode cX1_atFirst 146 = .ok (.istore_n 1, 1) := zdec_at bX1_atFirst_146 0 rfl
theorem dX1_atFirst_147 : decode cX1_atFirst 147 = .ok (.iload_n 1, 1) := zdec_at bX1_atFirst_146 1 rfl
theorem dX1_atFirst_148 : decode cX1_atFirst 148 = .ok (.bipush 18, 2) := zdec_at bX1_atFirst_146 2 rfl
theorem dX1_atFirst_150 : decode cX1_atFirst 150 = .ok (.if_icmp .ge 18, 3) := zdec_at bX1_atFirst_146 3 rfl
theorem dX1_atFirst_153 : decode cX1_atFirst 153 = .ok (.aload_n 0, 1) := zdec_at bX1_atFirst_146 4 rfl
theorem dX1_atFirst_154 : decode cX1_atFirst 154 = .ok (.iconst 0, 1) := zdec_at bX1_atFirst_146 5 rfl
theorem dX1_atFirst_155 : decode cX1_atFirst 155 = .ok (.iload_n 1, 1) := zdec_at bX1_atFirst_146 6 rfl
theorem dX1_atFirst_156 : decode cX1_atFirst 156 = .ok (.iconst 4, 1) := zdec_at bX1_atFirst_146 7 rfl
theorem dX1_atFirst_157 : decode cX1_atFirst 157 = .ok (.isub, 1) := zdec_at bX1_atFirst_146 8 rfl
theorem dX1_atFirst_158 : decode cX1_atFirst 158 = .ok (.iload_n 1, 1) := zdec_at bX1_atFirst_146 9 rfl
theorem dX1_atFirst_159 : decode cX1_atFirst 159 = .ok (.invokevirtual 738, 3) := zdec_at bX1_atFirst_146 10 rfl
theorem dX1_atFirst_162 : decode cX1_atFirst 162 = .ok (.iinc 1 1, 3) := zdec_at bX1_atFirst_146 11 rfl
theorem dX1_atFirst_165 : decode cX1_atFirst 165 = .ok (.goto (-18), 3) := zdec_at bX1_atFirst_146 12 rfl
theorem dX1_atFirst_168 : decode cX1_atFirst 168 = .ok (.aload_n 0, 1) := zdec_at bX1_atFirst_146 13 rfl
theorem dX1_atFirst_169 : decode cX1_atFirst 169 = .ok (.iconst 1, 1) := zdec_at bX1_atFirst_146 14 rfl
theorem dX1_atFirst_170 : decode cX1_atFirst 170 = .ok (.iconst 2, 1) := zdec_at bX1_atFirst_146 15 rfl
theorem bX1_atFirst_171 : zdec cX1_atFirst 171 [(171, .bipush 10, 2), (173, .invokevirtual 738, 3), (176, .aload_n 0, 1), (177, .iconst 1, 1), (178, .bipush 17, 2), (180, .bipush 21, 2), (182, .invokevirtual 738, 3), (185, .aload_n 0, 1), (186, .iconst 2, 1), (187, .bipush 16, 2), (189, .bipush 20, 2), (191, .invokevirtual 738, 3), (194, .aload_n 0, 1), (195, .iconst 3, 1), (196, .iconst 2, 1), (197, .bipush 11, 2)] = true := by decide +kernel
theorem dX1_atFirst_171 : decode cX1_atFirst 171 = .ok (.bipush 10, 2) := zdec_at bX1_atFirst_171 0 rfl
theorem dX1_atFirst_173 : decode cX1_atFirst 173 = .ok (.invokevirtual 738, 3) := zdec_at bX1_atFirst_171 1 rfl
theorem dX1_atFirst_176 : decode cX1_atFirst 176 = .ok (.aload_n 0, 1) := zdec_at bX1_atFirst_171 2 rfl
theorem dX1_atFirst_177 : decode cX1_atFirst 177 = .ok (.iconst 1, 1) := zdec_at bX1_atFirst_171 3 rfl
theorem dX1_atFirst_178 : decode cX1_atFirst 178 = .ok (.bipush 17, 2) := zdec_at bX1_atFirst_171 4 rfl
theorem dX1_atFirst_180 : decode cX1_atFirst 180 = .ok (.bipush 21, 2) := zdec_at bX1_atFirst_171 5 rfl
theorem dX1_atFirst_182 : decode cX1_atFirst 182 = .ok (.invokevirtual 738, 3) := zdec_at bX1_atFirst_171 6 rfl
theorem dX1_atFirst_185 : decode cX1_atFirst 185 = .ok (.aload_n 0, 1) := zdec_at bX1_atFirst_171 7 rfl
theorem dX1_atFirst_186 : decode cX1_atFirst 186 = .ok (.iconst 2, 1) := zdec_at bX1_atFirst_171 8 rfl
theorem dX1_atFirst_187 : decode cX1_atFirst 187 = .ok (.bipush 16, 2) := zdec_at bX1_atFirst_171 9 rfl
theorem dX1_atFirst_189 : decode cX1_atFirst 189 = .ok (.bipush 20, 2) := zdec_at bX1_atFirst_171 10 rfl
theorem dX1_atFirst_191 : decode cX1_atFirst 191 = .ok (.invokevirtual 738, 3) := zdec_at bX1_atFirst_171 11 rfl
theorem dX1_atFirst_194 : decode cX1_atFirst 194 = .ok (.aload_n 0, 1) := zdec_at bX1_atFirst_171 12 rfl
theorem dX1_atFirst_195 : decode cX1_atFirst 195 = .ok (.iconst 3, 1) := zdec_at bX1_atFirst_171 13 rfl
theorem dX1_atFirst_196 : decode cX1_atFirst 196 = .ok (.iconst 2, 1) := zdec_at bX1_atFirst_171 14 rfl
theorem dX1_atFirst_197 : decode cX1_atFirst 197 = .ok (.bipush 11, 2) := zdec_at bX1_atFirst_171 15 rfl
theorem bX1_atFirst_199 : zdec cX1_atFirst 199 [(199, .invokevirtual 738, 3), (202, .aload_n 0, 1), (203, .iconst 3, 1), (204, .bipush 14, 2), (206, .bipush 18, 2), (208, .invokevirtual 738, 3), (211, .aload_n 0, 1), (212, .iconst 3, 1), (213, .bipush 15, 2), (215, .bipush 19, 2), (217, .invokevirtual 738, 3), (220, .aload_n 0, 1), (221, .iconst 4, 1), (222, .iconst 2, 1), (223, .bipush 12, 2), (225, .invokevirtual 738, 3)] = true := by decide +kernel
theorem dX1_atFirst_199 : decode cX1_atFirst 199 = .ok (.invokevirtual 738, 3) := zdec_at bX1_atFirst_199 0 rfl
theorem dX1_atFirst_202 : decode cX1_atFirst 202 = .ok (.aload_n 0, 1) := zdec_at bX1_atFirst_199 1 rfl
theorem dX1_atFirst_203 : decode cX1_atFirst 203 = .ok (.iconst 3, 1) := zdec_at bX1_atFirst_199 2 rfl
theorem dX1_atFirst_204 : decode cX1_atFirst 204 = .ok (.bipush 14, 2) := zdec_at bX1_atFirst_199 3 rfl
theorem dX1_atFirst_206 : decode cX1_atFirst 206 = .ok (.bipush 18, 2) := zdec_at bX1_atFirst_199 4 rfl
theorem dX1_atFirst_208 : decode cX1_atFirst 208 = .ok (.invokevirtual 738, 3) := zdec_at bX1_atFirst_199 5 rfl
theorem dX1_atFirst_211 : decode cX1_atFirst 211 = .ok (.aload_n 0, 1) := zdec_at bX1_atFirst_199 6 rfl
theorem dX1_atFirst_212 : decode cX1_atFirst 212 = .ok (.iconst 3, 1) := zdec_at bX1_atFirst_199 7 rfl
theorem dX1_atFirst_213 : decode cX1_atFirst 213 = .ok (.bipush 15, 2) := zdec_at bX1_atFirst_199 8 rfl
theorem dX1_atFirst_215 : decode cX1_atFirst 215 = .ok (.bipush 19, 2) := zdec_at bX1_atFirst_199 9 rfl
theorem dX1_atFirst_217 : decode cX1_atFirst 217 = .ok (.invokevirtual 738, 3) := zdec_at bX1_atFirst_199 10 rfl
theorem dX1_atFirst_220 : decode cX1_atFirst 220 = .ok (.aload_n 0, 1) := zdec_at bX1_atFirst_199 11 rfl
theorem dX1_atFirst_221 : decode cX1_atFirst 221 = .ok (.iconst 4, 1) := zdec_at bX1_atFirst_199 12 rfl
theorem dX1_atFirst_222 : decode cX1_atFirst 222 = .ok (.iconst 2, 1) := zdec_at bX1_atFirst_199 13 rfl
theorem dX1_atFirst_223 : decode cX1_atFirst 223 = .ok (.bipush 12, 2) := zdec_at bX1_atFirst_199 14 rfl
theorem dX1_atFirst_225 : decode cX1_atFirst 225 = .ok (.invokevirtual 738, 3) := zdec_at bX1_atFirst_199 15 rfl
theorem bX1_atFirst_228 : zdec cX1_atFirst 228 [(228, .aload_n 0, 1), (229, .iconst 4, 1), (230, .bipush 18, 2), (232, .bipush 22, 2), (234, .invokevirtual 738, 3), (237, .iconst 5, 1), (238, .istore_n 1, 1), (239, .iload_n 1, 1), (240, .bipush 9, 2), (242, .if_icmp .ge 36, 3), (245, .aload_n 0, 1), (246, .iload_n 1, 1), (247, .iconst 2, 1), (248, .iload_n 1, 1), (249, .bipush 9, 2), (251, .iadd, 1)] = true := by decide +kernel
theorem dX1_atFirst_228 : decode cX1_atFirst 228 = .ok (.aload_n 0, 1) := zdec_at bX1_atFirst_228 0 rfl
theorem dX1_atFirst_229 : decode cX1_atFirst 229 = .ok (.iconst 4, 1) := zdec_at bX1_atFirst_228 1 rfl
theorem dX1_atFirst_230 : decode cX1_atFirst 230 = .ok (.bipush 18, 2) := zdec_at bX1_atFirst_228 2 rfl
theorem dX1_atFirst_232 : decode cX1_atFirst 232 = .ok (.bipush 22, 2) := zdec_at bX1_atFirst_228 3 rfl
theorem dX1_atFirst_234 : decode cX1_atFirst 234 = .ok (.invokevirtual 738, 3) := zdec_at bX1_atFirst_228 4 rfl
theorem dX1_atFirst_237 : decode cX1_atFirst 237 = .ok (.iconst 5, 1) := zdec_at bX1_atFirst_228 5 rfl
theorem dX1_atFirst_238 : decode cX1_atFirst 238 = .ok (.istore_n 1, 1) := zdec_at bX1_atFirst_228 6 rfl
theorem dX1_atFirst_239 : decode cX1_atFirst 239 = .ok (.iload_n 1, 1) := zdec_at bX1_atFirst_228 7 rfl
theorem dX1_atFirst_240 : decode cX1_atFirst 240 = .ok (.bipush 9, 2) := zdec_at bX1_atFirst_228 8 rfl
theorem dX1_atFirst_242 : decode cX1_atFirst 242 = .ok (.if_icmp .ge 36, 3) := zdec_at bX1_atFirst_228 9 rfl
theorem dX1_atFirst_245 : decode cX1_atFirst 245 = .ok (.aload_n 0, 1) := zdec_at bX1_atFirst_228 10 rfl
theorem dX1_atFirst_246 : decode cX1_atFirst 246 = .ok (.iload_n 1, 1) := zdec_at bX1_atFirst_228 11 rfl
theorem dX1_atFirst_247 : decode cX1_atFirst 247 = .ok (.iconst 2, 1) := zdec_at bX1_atFirst_228 12 rfl
theorem dX1_atFirst_248 : decode cX1_atFirst 248 = .ok (.iload_n 1, 1) := zdec_at bX1_atFirst_228 13 rfl
theorem dX1_atFirst_249 : decode cX1_atFirst 249 = .ok (.bipush 9, 2) := zdec_at bX1_atFirst_228 14 rfl
theorem dX1_atFirst_251 : decode cX1_atFirst 251 = .ok (.iadd, 1) := zdec_at bX1_atFirst_228 15 rfl
theorem bX1_atFirst_252 : zdec cX1_atFirst 252 [(252, .invokevirtual 738, 3), (255, .aload_n 0, 1), (256, .getfield 684, 3), (259, .iload_n 1, 1), (260, .iconst 4, 1), (261, .lconst 0, 1), (262, .lconst 0, 1), (263, .iload_n 1, 1), (264, .iconst 5, 1), (265, .iadd, 1), (266, .invokestatic 741, 3), (269, .invokevirtual 722, 3), (272, .iinc 1 1, 3), (275, .goto (-36), 3), (278, .bipush 10, 2), (280, .istore_n 1, 1)] = true := by decide +kernel
theorem dX1_atFirst_252 : decode cX1_atFirst 252 = .ok (.invokevirtual 738, 3) := zdec_at bX1_atFirst_252 0 rfl
theorem dX1_atFirst_255 : decode cX1_atFirst 255 = .ok (.aload_n 0, 1) := zdec_at bX1_atFirst_252 1 rfl
theorem dX1_atFirst_256 : decode cX1_atFirst 256 = .ok (.getfield 684, 3) := zdec_at bX1_atFirst_252 2 rfl
theorem dX1_atFirst_259 : decode cX1_atFirst 259 = .ok (.iload_n 1, 1) := zdec_at bX1_atFirst_252 3 rfl
theorem dX1_atFirst_260 : decode cX1_atFirst 260 = .ok (.iconst 4, 1) := zdec_at bX1_atFirst_252 4 rfl
theorem dX1_atFirst_261 : decode cX1_atFirst 261 = .ok (.lconst 0, 1) := zdec_at bX1_atFirst_252 5 rfl
theorem dX1_atFirst_262 : decode cX1_atFirst 262 = .ok (.lconst 0, 1) := zdec_at bX1_atFirst_252 6 rfl
theorem dX1_atFirst_263 : decode cX1_atFirst 263 = .ok (.iload_n 1, 1) := zdec_at bX1_atFirst_252 7 rfl
theorem dX1_atFirst_264 : decode cX1_atFirst 264 = .ok (.iconst 5, 1) := zdec_at bX1_atFirst_252 8 rfl
theorem dX1_atFirst_265 : decode cX1_atFirst 265 = .ok (.iadd, 1) := zdec_at bX1_atFirst_252 9 rfl
theorem dX1_atFirst_266 : decode cX1_atFirst 266 = .ok (.invokestatic 741, 3) := zdec_at bX1_atFirst_252 10 rfl
theorem dX1_atFirst_269 : decode cX1_atFirst 269 = .ok (.invokevirtual 722, 3) := zdec_at bX1_atFirst_252 11 rfl
theorem dX1_atFirst_272 : decode cX1_atFirst 272 = .ok (.iinc 1 1, 3) := zdec_at bX1_atFirst_252 12 rfl
theorem dX1_atFirst_275 : decode cX1_atFirst 275 = .ok (.goto (-36), 3) := zdec_at bX1_atFirst_252 13 rfl
theorem dX1_atFirst_278 : decode cX1_atFirst 278 = .ok (.bipush 10, 2) := zdec_at bX1_atFirst_252 14 rfl
theorem dX1_atFirst_280 : decode cX1_atFirst 280 = .ok (.istore_n 1, 1) := zdec_at bX1_atFirst_252 15 rfl
theorem bX1_atFirst_281 : zdec cX1_atFirst 281 [(281, .iload_n 1, 1), (282, .bipush 18, 2), (284, .if_icmp .ge 48, 3), (287, .iload_n 1, 1), (288, .bipush 13, 2), (290, .if_icmp .eq 36, 3), (293, .aload_n 0, 1), (294, .iload_n 1, 1), (295, .iconst 1, 1), (296, .iload_n 1, 1), (297, .bipush 10, 2), (299, .if_icmp .ne 7, 3), (302, .iconst 1, 1), (303, .goto 20, 3), (306, .iload_n 1, 1), (307, .bipush 13, 2)] = true := by decide +kernel
theorem dX1_atFirst_281 : decode cX1_atFirst 281 = .ok (.iload_n 1, 1) := zdec_at bX1_atFirst_281 0 rfl
theorem dX1_atFirst_282 : decode cX1_atFirst 282 = .ok (.bipush 18, 2) := zdec_at bX1_atFirst_281 1 rfl
theorem dX1_atFirst_284 : decode cX1_atFirst 284 = .ok (.if_icmp .ge 48, 3) := zdec_at bX1_atFirst_281 2 rfl
theorem dX1_atFirst_287 : decode cX1_atFirst 287 = .ok (.iload_n 1, 1) := zdec_at bX1_atFirst_281 3 rfl
theorem dX1_atFirst_288 : decode cX1_atFirst 288 = .ok (.bipush 13, 2) := zdec_at bX1_atFirst_281 4 rfl
theorem dX1_atFirst_290 : decode cX1_atFirst 290 = .ok (.if_icmp .eq 36, 3) := zdec_at bX1_atFirst_281 5 rfl
theorem dX1_atFirst_293 : decode cX1_atFirst 293 = .ok (.aload_n 0, 1) := zdec_at bX1_atFirst_281 6 rfl
theorem dX1_atFirst_294 : decode cX1_atFirst 294 = .ok (.iload_n 1, 1) := zdec_at bX1_atFirst_281 7 rfl
theorem dX1_atFirst_295 : decode cX1_atFirst 295 = .ok (.iconst 1, 1) := zdec_at bX1_atFirst_281 8 rfl
theorem dX1_atFirst_296 : decode cX1_atFirst 296 = .ok (.iload_n 1, 1) := zdec_at bX1_atFirst_281 9 rfl
theorem dX1_atFirst_297 : decode cX1_atFirst 297 = .ok (.bipush 10, 2) := zdec_at bX1_atFirst_281 10 rfl
theorem dX1_atFirst_299 : decode cX1_atFirst 299 = .ok (.if_icmp .ne 7, 3) := zdec_at bX1_atFirst_281 11 rfl
theorem dX1_atFirst_302 : decode cX1_atFirst 302 = .ok (.iconst 1, 1) := zdec_at bX1_atFirst_281 12 rfl
theorem dX1_atFirst_303 : decode cX1_atFirst 303 = .ok (.goto 20, 3) := zdec_at bX1_atFirst_281 13 rfl
theorem dX1_atFirst_306 : decode cX1_atFirst 306 = .ok (.iload_n 1, 1) := zdec_at bX1_atFirst_281 14 rfl
theorem dX1_atFirst_307 : decode cX1_atFirst 307 = .ok (.bipush 13, 2) := zdec_at bX1_atFirst_281 15 rfl
theorem bX1_atFirst_309 : zdec cX1_atFirst 309 [(309, .if_icmp .ge 10, 3), (312, .iload_n 1, 1), (313, .bipush 8, 2), (315, .isub, 1), (316, .goto 7, 3), (319, .iload_n 1, 1), (320, .bipush 9, 2), (322, .isub, 1), (323, .invokevirtual 738, 3), (326, .iinc 1 1, 3), (329, .goto (-48), 3), (332, .aload_n 0, 1), (333, .getfield 684, 3), (336, .lconst 0, 1), (337, .putfield 745, 3), (340, .aload_n 0, 1)] = true := by decide +kernel
theorem dX1_atFirst_309 : decode cX1_atFirst 309 = .ok (.if_icmp .ge 10, 3) := zdec_at bX1_atFirst_309 0 rfl
theorem dX1_atFirst_312 : decode cX1_atFirst 312 = .ok (.iload_n 1, 1) := zdec_at bX1_atFirst_309 1 rfl
theorem dX1_atFirst_313 : decode cX1_atFirst 313 = .ok (.bipush 8, 2) := zdec_at bX1_atFirst_309 2 rfl
theorem dX1_atFirst_315 : decode cX1_atFirst 315 = .ok (.isub, 1) := zdec_at bX1_atFirst_309 3 rfl
theorem dX1_atFirst_316 : decode cX1_atFirst 316 = .ok (.goto 7, 3) := zdec_at bX1_atFirst_309 4 rfl
theorem dX1_atFirst_319 : decode cX1_atFirst 319 = .ok (.iload_n 1, 1) := zdec_at bX1_atFirst_309 5 rfl
theorem dX1_atFirst_320 : decode cX1_atFirst 320 = .ok (.bipush 9, 2) := zdec_at bX1_atFirst_309 6 rfl
theorem dX1_atFirst_322 : decode cX1_atFirst 322 = .ok (.isub, 1) := zdec_at bX1_atFirst_309 7 rfl
theorem dX1_atFirst_323 : decode cX1_atFirst 323 = .ok (.invokevirtual 738, 3) := zdec_at bX1_atFirst_309 8 rfl
theorem dX1_atFirst_326 : decode cX1_atFirst 326 = .ok (.iinc 1 1, 3) := zdec_at bX1_atFirst_309 9 rfl
theorem dX1_atFirst_329 : decode cX1_atFirst 329 = .ok (.goto (-48), 3) := zdec_at bX1_atFirst_309 10 rfl
theorem dX1_atFirst_332 : decode cX1_atFirst 332 = .ok (.aload_n 0, 1) := zdec_at bX1_atFirst_309 11 rfl
theorem dX1_atFirst_333 : decode cX1_atFirst 333 = .ok (.getfield 684, 3) := zdec_at bX1_atFirst_309 12 rfl
theorem dX1_atFirst_336 : decode cX1_atFirst 336 = .ok (.lconst 0, 1) := zdec_at bX1_atFirst_309 13 rfl
theorem dX1_atFirst_337 : decode cX1_atFirst 337 = .ok (.putfield 745, 3) := zdec_at bX1_atFirst_309 14 rfl
theorem dX1_atFirst_340 : decode cX1_atFirst 340 = .ok (.aload_n 0, 1) := zdec_at bX1_atFirst_309 15 rfl
theorem bX1_atFirst_341 : zdec cX1_atFirst 341 [(341, .getfield 684, 3), (344, .lconst 0, 1), (345, .putfield 748, 3), (348, .aload_n 0, 1), (349, .getfield 684, 3), (352, .lconst 1, 1), (353, .putfield 751, 3), (356, .aload_n 0, 1), (357, .getfield 684, 3), (360, .lconst 0, 1), (361, .putfield 754, 3), (364, .aload_n 0, 1), (365, .getfield 684, 3), (368, .lconst 0, 1), (369, .putfield 757, 3), (372, .return_, 1)] = true := by decide +kernel
theorem dX1_atFirst_341 : decode cX1_atFirst 341 = .ok (.getfield 684, 3) := zdec_at bX1_atFirst_341 0 rfl
theorem dX1_atFirst_344 : decode cX1_atFirst 344 = .ok (.lconst 0, 1) := zdec_at bX1_atFirst_341 1 rfl
theorem dX1_atFirst_345 : decode cX1_atFirst 345 = .ok (.putfield 748, 3) := zdec_at bX1_atFirst_341 2 rfl
theorem dX1_atFirst_348 : decode cX1_atFirst 348 = .ok (.aload_n 0, 1) := zdec_at bX1_atFirst_341 3 rfl
theorem dX1_atFirst_349 : decode cX1_atFirst 349 = .ok (.getfield 684, 3) := zdec_at bX1_atFirst_341 4 rfl
theorem dX1_atFirst_352 : decode cX1_atFirst 352 = .ok (.lconst 1, 1) := zdec_at bX1_atFirst_341 5 rfl
theorem dX1_atFirst_353 : decode cX1_atFirst 353 = .ok (.putfield 751, 3) := zdec_at bX1_atFirst_341 6 rfl
theorem dX1_atFirst_356 : decode cX1_atFirst 356 = .ok (.aload_n 0, 1) := zdec_at bX1_atFirst_341 7 rfl
theorem dX1_atFirst_357 : decode cX1_atFirst 357 = .ok (.getfield 684, 3) := zdec_at bX1_atFirst_341 8 rfl
theorem dX1_atFirst_360 : decode cX1_atFirst 360 = .ok (.lconst 0, 1) := zdec_at bX1_atFirst_341 9 rfl
theorem dX1_atFirst_361 : decode cX1_atFirst 361 = .ok (.putfield 754, 3) := zdec_at bX1_atFirst_341 10 rfl
theorem dX1_atFirst_364 : decode cX1_atFirst 364 = .ok (.aload_n 0, 1) := zdec_at bX1_atFirst_341 11 rfl
theorem dX1_atFirst_365 : decode cX1_atFirst 365 = .ok (.getfield 684, 3) := zdec_at bX1_atFirst_341 12 rfl
theorem dX1_atFirst_368 : decode cX1_atFirst 368 = .ok (.lconst 0, 1) := zdec_at bX1_atFirst_341 13 rfl
theorem dX1_atFirst_369 : decode cX1_atFirst 369 = .ok (.putfield 757, 3) := zdec_at bX1_atFirst_341 14 rfl
theorem dX1_atFirst_372 : decode cX1_atFirst 372 = .ok (.return_, 1) := zdec_at bX1_atFirst_341 15 rfl
theorem sX1_atFirst_0 {E : zE} {d : Nat} {Q : zO → zM → Prop} (M : zM)  (hw : cw M) (k : ∃ b1 : Nat, (gr M 16 60) = some (b1, 7, 0) ∧ (16 ≤ b1 ∧ (Z E YX1_atFirst (d + 1) (si M b1 13 (0 : Int32)) [(0, vr (some (16, 0, 0))), (1, vi (0 : Int32))] 10 [] Q))) : Z E YX1_atFirst (d + 1) M [(0, vr (some (16, 0, 0)))] 0 [] Q := by
  refine z_aload_n dX1_atFirst_0 rfl rfl ?_
  refine z_getr (r := (gr M 16 60)) dX1_atFirst_1 fsX1_684_0 rfl ?_
  refine z_iconst (v := 0) dX1_atFirst_4 rfl ?_
  obtain ⟨b1, e1_, k⟩ := k
  refine Z.eqs (lv' := [(0, vr (some (16, 0, 0)))]) (st' := [vi (0 : Int32), vr (some (b1, 7, 0))]) rfl (by rw [e1_] <;> rfl) ?_
  obtain ⟨g_, k⟩ := k
  refine z_puti g_ dX1_atFirst_5 (zfwN.w fwX1_726_7) rfl ⟨rfl, rfl⟩ ?_
  refine z_iconst (v := 0) dX1_atFirst_8 rfl ?_
  refine z_ist_n dX1_atFirst_9 rfl (by decide) (lv' := [(0, vr (some (16, 0, 0))), (1, vi (0 : Int32))]) rfl ?_
  exact k
theorem sX1_atFirst_10 {E : zE} {d : Nat} {Q : zO → zM → Prop} (M : zM) (l1 : Int32) (hw : cw M) (k : if (gi M 16 11) ≤ l1 then (Z E YX1_atFirst (d + 1) M [(0, vr (some (16, 0, 0))), (1, vi (0 : Int32))] 84 [] Q) else (∃ b1 : Nat, (gr M 16 60) = some (b1, 7, 0) ∧ (Z E YX43_renew d M (zargs 0 [vr (some (b1, 7, 0)), vi l1, vi (0 : Int32), vi (0 : Int32)]) 0 [] (zafter E YX1_atFirst (d + 1) [(0, vr (some (16, 0, 0))), (1, vi l1)] 25 3 [] Q)))) : Z E YX1_atFirst (d + 1) M [(0, vr (some (16, 0, 0))), (1, vi l1)] 10 [] Q := by
  refine z_iload_n dX1_atFirst_10 rfl rfl ?_
  refine z_aload_n dX1_atFirst_11 rfl rfl ?_
  refine z_geti dX1_atFirst_12 fsX1_313_0 ?_
  refine z_icmp_ge (tgt := 82) dX1_atFirst_15 rfl (fun h_ => ?_) (fun h_ => ?_)
  · have k := zit h_ k
    refine z_iconst (v := 0) dX1_atFirst_82 rfl ?_
    refine z_ist_n dX1_atFirst_83 rfl (by decide) (lv' := [(0, vr (some (16, 0, 0))), (1, vi (0 : Int32))]) rfl ?_
    exact k
  · have k := zif h_ k
    refine z_aload_n dX1_atFirst_18 rfl rfl ?_
    refine z_getr (r := (gr M 16 60)) dX1_atFirst_19 fsX1_684_0 rfl ?_
    refine z_iload_n dX1_atFirst_22 rfl rfl ?_
    refine z_iconst (v := 0) dX1_atFirst_23 rfl ?_
    refine z_iconst (v := 0) dX1_atFirst_24 rfl ?_
    obtain ⟨b1, e1_, k⟩ := k
    refine Z.eqs (lv' := [(0, vr (some (16, 0, 0))), (1, vi l1)]) (st' := [vi (0 : Int32), vi (0 : Int32), vi l1, vr (some (b1, 7, 0))]) rfl (by rw [e1_] <;> rfl) ?_
    exact z_callV (as := [vi l1, vi (0 : Int32), vi (0 : Int32)]) (st := []) dX1_atFirst_25 vsX1_727_7 (Nat.le_refl _) (Nat.le_of_ble_eq_true rfl) (Nat.le_of_ble_eq_true rfl) rfl k
theorem sX1_atFirst_28 {E : zE} {d : Nat} {Q : zO → zM → Prop} (M : zM) (l1 : Int32) (hw : cw M) (k : Z E YX1_atFirst (d + 1) M [(0, vr (some (16, 0, 0))), (1, vi l1), (2, vi (0 : Int32))] 30 [] Q) : Z E YX1_atFirst (d + 1) M [(0, vr (some (16, 0, 0))), (1, vi l1)] 28 [] Q := by
  refine z_iconst (v := 0) dX1_atFirst_28 rfl ?_
  refine z_ist_n dX1_atFirst_29 rfl (by decide) (lv' := [(0, vr (some (16, 0, 0))), (1, vi l1), (2, vi (0 : Int32))]) rfl ?_
  exact k
theorem sX1_atFirst_30 {E : zE} {d : Nat} {Q : zO → zM → Prop} (M : zM) (l1 : Int32) (l2 : Int32) (hw : cw M) (k : if (gi M 16 1) < l2 then (∃ b1 : Nat, (gr M 16 60) = some (b1, 7, 0) ∧ (∃ b2 m2 : Nat, (gr M b1 8) = some (b2, 104, m2) ∧ (16 ≤ b2 ∧ (vp_in l1 m2 ∧ (∃ b3 : Nat, (gr M 16 60) = some (b3, 7, 0) ∧ (∃ b4 m4 : Nat, (gr M b3 4) = some (b4, 105, m4) ∧ (16 ≤ b4 ∧ (vp_in l1 m4 ∧ (Z E YX1_atFirst (d + 1) (sl (si M b2 (l1).toNatClampNeg (vp_nar .boolean (0 : Int32))) b4 (l1).toNatClampNeg (0 : Int64)) [(0, vr (some (16, 0, 0))), (1, vi (l1 + (1 : Int32)))] 10 [] Q))))))))) else (∃ b1 : Nat, (gr M 16 60) = some (b1, 7, 0) ∧ (Z E YX43_put d M (zargs 0 [vr (some (b1, 7, 0)), vi l1, vi l2, vl (0 : Int64), vl (0 : Int64), vl (0 : Int64)]) 0 [] (zafter E YX1_atFirst (d + 1) [(0, vr (some (16, 0, 0))), (1, vi l1), (2, vi l2)] 47 3 [] Q)))) : Z E YX1_atFirst (d + 1) M [(0, vr (some (16, 0, 0))), (1, vi l1), (2, vi l2)] 30 [] Q := by
  refine z_iload_n dX1_atFirst_30 rfl rfl ?_
  refine z_aload_n dX1_atFirst_31 rfl rfl ?_
  refine z_geti dX1_atFirst_32 fsX1_58_0 ?_
  refine z_icmp_gt (tgt := 56) dX1_atFirst_35 rfl (fun h_ => ?_) (fun h_ => ?_)
  · have k := zit h_ k
    refine z_aload_n dX1_atFirst_56 rfl rfl ?_
    refine z_getr (r := (gr M 16 60)) dX1_atFirst_57 fsX1_684_0 rfl ?_
    obtain ⟨b1, e1_, k⟩ := k
    refine Z.eqs (lv' := [(0, vr (some (16, 0, 0))), (1, vi l1), (2, vi l2)]) (st' := [vr (some (b1, 7, 0))]) rfl (by rw [e1_] <;> rfl) ?_
    refine z_getr (r := (gr M b1 8)) dX1_atFirst_60 fsX1_731_7 rfl ?_
    refine z_iload_n dX1_atFirst_63 rfl rfl ?_
    refine z_iconst (v := 0) dX1_atFirst_64 rfl ?_
    obtain ⟨b2, m2, e2_, k⟩ := k
    refine Z.eqs (lv' := [(0, vr (some (16, 0, 0))), (1, vi l1), (2, vi l2)]) (st' := [vi (0 : Int32), vi l1, vr (some (b2, 104, m2))]) rfl (by rw [e2_] <;> rfl) ?_
    obtain ⟨g_, k⟩ := k
    obtain ⟨b_, k⟩ := k
    refine z_zast g_ dX1_atFirst_65 b_ ?_
    refine z_aload_n dX1_atFirst_66 rfl rfl ?_
    refine z_getr (r := (gr M 16 60)) dX1_atFirst_67 fsX1_684_0 rfl ?_
    obtain ⟨b3, e3_, k⟩ := k
    refine Z.eqs (lv' := [(0, vr (some (16, 0, 0))), (1, vi l1), (2, vi l2)]) (st' := [vr (some (b3, 7, 0))]) rfl (by rw [e3_] <;> rfl) ?_
    refine z_getr (r := (gr M b3 4)) dX1_atFirst_70 fsX1_734_7 rfl ?_
    refine z_iload_n dX1_atFirst_73 rfl rfl ?_
    refine z_lconst (v := 0) dX1_atFirst_74 rfl ?_
    obtain ⟨b4, m4, e4_, k⟩ := k
    refine Z.eqs (lv' := [(0, vr (some (16, 0, 0))), (1, vi l1), (2, vi l2)]) (st' := [vl (0 : Int64), vi l1, vr (some (b4, 105, m4))]) rfl (by rw [e4_] <;> rfl) ?_
    obtain ⟨g_, k⟩ := k
    obtain ⟨b_, k⟩ := k
    refine z_last g_ dX1_atFirst_75 b_ ?_
    refine z_inc (v := (l1 + (1 : Int32))) dX1_atFirst_76 rfl rfl (by decide) (lv' := [(0, vr (some (16, 0, 0))), (1, vi (l1 + (1 : Int32))), (2, vi l2)]) rfl ?_
    refine z_goto (tgt := 10) dX1_atFirst_79 rfl ?_
    refine Z.pick [0, 1] rfl ?_
    exact k
  · have k := zif h_ k
    refine z_aload_n dX1_atFirst_38 rfl rfl ?_
    refine z_getr (r := (gr M 16 60)) dX1_atFirst_39 fsX1_684_0 rfl ?_
    refine z_iload_n dX1_atFirst_42 rfl rfl ?_
    refine z_iload_n dX1_atFirst_43 rfl rfl ?_
    refine z_lconst (v := 0) dX1_atFirst_44 rfl ?_
    refine z_lconst (v := 0) dX1_atFirst_45 rfl ?_
    refine z_lconst (v := 0) dX1_atFirst_46 rfl ?_
    obtain ⟨b1, e1_, k⟩ := k
    refine Z.eqs (lv' := [(0, vr (some (16, 0, 0))), (1, vi l1), (2, vi l2)]) (st' := [vl (0 : Int64), vl (0 : Int64), vl (0 : Int64), vi l2, vi l1, vr (some (b1, 7, 0))]) rfl (by rw [e1_] <;> rfl) ?_
    exact z_callV (as := [vi l1, vi l2, vl (0 : Int64), vl (0 : Int64), vl (0 : Int64)]) (st := []) dX1_atFirst_47 vsX1_722_7 (Nat.le_refl _) (Nat.le_of_ble_eq_true rfl) (Nat.le_of_ble_eq_true rfl) rfl k
theorem sX1_atFirst_50 {E : zE} {d : Nat} {Q : zO → zM → Prop} (M : zM) (l1 : Int32) (l2 : Int32) (hw : cw M) (k : Z E YX1_atFirst (d + 1) M [(0, vr (some (16, 0, 0))), (1, vi l1), (2, vi (l2 + (1 : Int32)))] 30 [] Q) : Z E YX1_atFirst (d + 1) M [(0, vr (some (16, 0, 0))), (1, vi l1), (2, vi l2)] 50 [] Q := by
  refine z_inc (v := (l2 + (1 : Int32))) dX1_atFirst_50 rfl rfl (by decide) (lv' := [(0, vr (some (16, 0, 0))), (1, vi l1), (2, vi (l2 + (1 : Int32)))]) rfl ?_
  refine z_goto (tgt := 30) dX1_atFirst_53 rfl ?_
  exact k
theorem sX1_atFirst_84 {E : zE} {d : Nat} {Q : zO → zM → Prop} (M : zM) (l1 : Int32) (hw : cw M) (k : if (23 : Int32) ≤ l1 then (Z E YX1_atFirst (d + 1) M [(0, vr (some (16, 0, 0))), (1, vi (9 : Int32))] 147 [] Q) else (if l1 = (1 : Int32) then (Z E YX1_atFirst (d + 1) M [(0, vr (some (16, 0, 0))), (1, vi l1)] 125 [vi (-1 : Int32), vi l1, vr (gr M 16 60)] Q) else (if (6 : Int32) ≤ l1 then (if (9 : Int32) ≤ l1 then (Z E YX1_atFirst (d + 1) M [(0, vr (some (16, 0, 0))), (1, vi l1)] 125 [vi (2 : Int32), vi l1, vr (gr M 16 60)] Q) else (Z E YX1_atFirst (d + 1) M [(0, vr (some (16, 0, 0))), (1, vi l1)] 125 [vi (5 : Int32), vi l1, vr (gr M 16 60)] Q)) else (Z E YX1_atFirst (d + 1) M [(0, vr (some (16, 0, 0))), (1, vi l1)] 125 [vi (1 : Int32), vi l1, vr (gr M 16 60)] Q)))) : Z E YX1_atFirst (d + 1) M [(0, vr (some (16, 0, 0))), (1, vi l1)] 84 [] Q := by
  refine z_iload_n dX1_atFirst_84 rfl rfl ?_
  refine z_bipush (v := 23) dX1_atFirst_85 rfl ?_
  refine z_icmp_ge (tgt := 144) dX1_atFirst_87 rfl (fun h_ => ?_) (fun h_ => ?_)
  · have k := zit h_ k
    refine z_bipush (v := 9) dX1_atFirst_144 rfl ?_
    refine z_ist_n dX1_atFirst_146 rfl (by decide) (lv' := [(0, vr (some (16, 0, 0))), (1, vi (9 : Int32))]) rfl ?_
    exact k
  · have k := zif h_ k
    refine z_aload_n dX1_atFirst_90 rfl rfl ?_
    refine z_getr (r := (gr M 16 60)) dX1_atFirst_91 fsX1_684_0 rfl ?_
    refine z_iload_n dX1_atFirst_94 rfl rfl ?_
    refine z_iload_n dX1_atFirst_95 rfl rfl ?_
    refine z_iconst (v := 1) dX1_atFirst_96 rfl ?_
    refine z_icmp_ne (tgt := 104) dX1_atFirst_97 rfl (fun h_ => ?_) (fun h_ => ?_)
    · have k := zif h_ k
      refine z_iload_n dX1_atFirst_104 rfl rfl ?_
      refine z_bipush (v := 6) dX1_atFirst_105 rfl ?_
      refine z_icmp_ge (tgt := 114) dX1_atFirst_107 rfl (fun h_ => ?_) (fun h_ => ?_)
      · have k := zit h_ k
        refine z_iload_n dX1_atFirst_114 rfl rfl ?_
        refine z_bipush (v := 9) dX1_atFirst_115 rfl ?_
        refine z_icmp_ge (tgt := 124) dX1_atFirst_117 rfl (fun h_ => ?_) (fun h_ => ?_)
        · have k := zit h_ k
          refine z_iconst (v := 2) dX1_atFirst_124 rfl ?_
          exact k
        · have k := zif h_ k
          refine z_iconst (v := 5) dX1_atFirst_120 rfl ?_
          refine z_goto (tgt := 125) dX1_atFirst_121 rfl ?_
          exact k
      · have k := zif h_ k
        refine z_iconst (v := 1) dX1_atFirst_110 rfl ?_
        refine z_goto (tgt := 125) dX1_atFirst_111 rfl ?_
        exact k
    · have k := zit h_ k
      refine z_iconst (v := -1) dX1_atFirst_100 rfl ?_
      refine z_goto (tgt := 125) dX1_atFirst_101 rfl ?_
      exact k
theorem sX1_atFirst_125 {E : zE} {d : Nat} {Q : zO → zM → Prop} (M : zM) (l1 : Int32) (s0 : Int32) (s1 : Int32) (u2 : Option zP) (hw : cw M) (k : if l1 = (1 : Int32) then (∃ b1 : Nat, u2 = some (b1, 7, 0) ∧ (Z E YX43_renew d M (zargs 0 [vr (some (b1, 7, 0)), vi s1, vi s0, vi (1 : Int32)]) 0 [] (zafter E YX1_atFirst (d + 1) [(0, vr (some (16, 0, 0))), (1, vi l1)] 135 3 [] Q))) else (∃ b1 : Nat, u2 = some (b1, 7, 0) ∧ (Z E YX43_renew d M (zargs 0 [vr (some (b1, 7, 0)), vi s1, vi s0, vi (0 : Int32)]) 0 [] (zafter E YX1_atFirst (d + 1) [(0, vr (some (16, 0, 0))), (1, vi l1)] 135 3 [] Q)))) : Z E YX1_atFirst (d + 1) M [(0, vr (some (16, 0, 0))), (1, vi l1)] 125 [vi s0, vi s1, vr u2] Q := by
  refine z_iload_n dX1_atFirst_125 rfl rfl ?_
  refine z_iconst (v := 1) dX1_atFirst_126 rfl ?_
  refine z_icmp_ne (tgt := 134) dX1_atFirst_127 rfl (fun h_ => ?_) (fun h_ => ?_)
  · have k := zif h_ k
    refine z_iconst (v := 0) dX1_atFirst_134 rfl ?_
    obtain ⟨b1, e1_, k⟩ := k
    refine Z.eqs (lv' := [(0, vr (some (16, 0, 0))), (1, vi l1)]) (st' := [vi (0 : Int32), vi s0, vi s1, vr (some (b1, 7, 0))]) rfl (by rw [e1_] <;> rfl) ?_
    exact z_callV (as := [vi s1, vi s0, vi (0 : Int32)]) (st := []) dX1_atFirst_135 vsX1_727_7 (Nat.le_refl _) (Nat.le_of_ble_eq_true rfl) (Nat.le_of_ble_eq_true rfl) rfl k
  · have k := zit h_ k
    refine z_iconst (v := 1) dX1_atFirst_130 rfl ?_
    refine z_goto (tgt := 135) dX1_atFirst_131 rfl ?_
    obtain ⟨b1, e1_, k⟩ := k
    refine Z.eqs (lv' := [(0, vr (some (16, 0, 0))), (1, vi l1)]) (st' := [vi (1 : Int32), vi s0, vi s1, vr (some (b1, 7, 0))]) rfl (by rw [e1_] <;> rfl) ?_
    exact z_callV (as := [vi s1, vi s0, vi (1 : Int32)]) (st := []) dX1_atFirst_135 vsX1_727_7 (Nat.le_refl _) (Nat.le_of_ble_eq_true rfl) (Nat.le_of_ble_eq_true rfl) rfl k
theorem sX1_atFirst_138 {E : zE} {d : Nat} {Q : zO → zM → Prop} (M : zM) (l1 : Int32) (hw : cw M) (k : Z E YX1_atFirst (d + 1) M [(0, vr (some (16, 0, 0))), (1, vi (l1 + (1 : Int32)))] 84 [] Q) : Z E YX1_atFirst (d + 1) M [(0, vr (some (16, 0, 0))), (1, vi l1)] 138 [] Q := by
  refine z_inc (v := (l1 + (1 : Int32))) dX1_atFirst_138 rfl rfl (by decide) (lv' := [(0, vr (some (16, 0, 0))), (1, vi (l1 + (1 : Int32)))]) rfl ?_
  refine z_goto (tgt := 84) dX1_atFirst_141 rfl ?_
  exact k
theorem sX1_atFirst_147 {E : zE} {d : Nat} {Q : zO → zM → Prop} (M : zM) (l1 : Int32) (hw : cw M) (k : if (18 : Int32) ≤ l1 then (Z E YX1_thing d M (zargs 0 [vr (some (16, 0, 0)), vi (1 : Int32), vi (2 : Int32), vi (10 : Int32)]) 0 [] (zafter E YX1_atFirst (d + 1) [(0, vr (some (16, 0, 0)))] 173 3 [] Q)) else (Z E YX1_thing d M (zargs 0 [vr (some (16, 0, 0)), vi (0 : Int32), vi (l1 - (4 : Int32)), vi l1]) 0 [] (zafter E YX1_atFirst (d + 1) [(0, vr (some (16, 0, 0))), (1, vi l1)] 159 3 [] Q))) : Z E YX1_atFirst (d + 1) M [(0, vr (some (16, 0, 0))), (1, vi l1)] 147 [] Q := by
  refine z_iload_n dX1_atFirst_147 rfl rfl ?_
  refine z_bipush (v := 18) dX1_atFirst_148 rfl ?_
  refine z_icmp_ge (tgt := 168) dX1_atFirst_150 rfl (fun h_ => ?_) (fun h_ => ?_)
  · have k := zit h_ k
    refine z_aload_n dX1_atFirst_168 rfl rfl ?_
    refine z_iconst (v := 1) dX1_atFirst_169 rfl ?_
    refine z_iconst (v := 2) dX1_atFirst_170 rfl ?_
    refine z_bipush (v := 10) dX1_atFirst_171 rfl ?_
    refine Z.pick [0] rfl ?_
    exact z_callV (as := [vi (1 : Int32), vi (2 : Int32), vi (10 : Int32)]) (st := []) dX1_atFirst_173 vsX1_738_0 (Nat.le_refl _) (Nat.le_of_ble_eq_true rfl) (Nat.le_of_ble_eq_true rfl) rfl k
  · have k := zif h_ k
    refine z_aload_n dX1_atFirst_153 rfl rfl ?_
    refine z_iconst (v := 0) dX1_atFirst_154 rfl ?_
    refine z_iload_n dX1_atFirst_155 rfl rfl ?_
    refine z_iconst (v := 4) dX1_atFirst_156 rfl ?_
    refine z_isub dX1_atFirst_157 ?_
    refine z_iload_n dX1_atFirst_158 rfl rfl ?_
    exact z_callV (as := [vi (0 : Int32), vi (l1 - (4 : Int32)), vi l1]) (st := []) dX1_atFirst_159 vsX1_738_0 (Nat.le_refl _) (Nat.le_of_ble_eq_true rfl) (Nat.le_of_ble_eq_true rfl) rfl k
theorem sX1_atFirst_162 {E : zE} {d : Nat} {Q : zO → zM → Prop} (M : zM) (l1 : Int32) (hw : cw M) (k : Z E YX1_atFirst (d + 1) M [(0, vr (some (16, 0, 0))), (1, vi (l1 + (1 : Int32)))] 147 [] Q) : Z E YX1_atFirst (d + 1) M [(0, vr (some (16, 0, 0))), (1, vi l1)] 162 [] Q := by
  refine z_inc (v := (l1 + (1 : Int32))) dX1_atFirst_162 rfl rfl (by decide) (lv' := [(0, vr (some (16, 0, 0))), (1, vi (l1 + (1 : Int32)))]) rfl ?_
  refine z_goto (tgt := 147) dX1_atFirst_165 rfl ?_
  exact k
theorem sX1_atFirst_176 {E : zE} {d : Nat} {Q : zO → zM → Prop} (M : zM)  (hw : cw M) (k : Z E YX1_thing d M (zargs 0 [vr (some (16, 0, 0)), vi (1 : Int32), vi (17 : Int32), vi (21 : Int32)]) 0 [] (zafter E YX1_atFirst (d + 1) [(0, vr (some (16, 0, 0)))] 182 3 [] Q)) : Z E YX1_atFirst (d + 1) M [(0, vr (some (16, 0, 0)))] 176 [] Q := by
  refine z_aload_n dX1_atFirst_176 rfl rfl ?_
  refine z_iconst (v := 1) dX1_atFirst_177 rfl ?_
  refine z_bipush (v := 17) dX1_atFirst_178 rfl ?_
  refine z_bipush (v := 21) dX1_atFirst_180 rfl ?_
  exact z_callV (as := [vi (1 : Int32), vi (17 : Int32), vi (21 : Int32)]) (st := []) dX1_atFirst_182 vsX1_738_0 (Nat.le_refl _) (Nat.le_of_ble_eq_true rfl) (Nat.le_of_ble_eq_true rfl) rfl k
theorem sX1_atFirst_185 {E : zE} {d : Nat} {Q : zO → zM → Prop} (M : zM)  (hw : cw M) (k : Z E YX1_thing d M (zargs 0 [vr (some (16, 0, 0)), vi (2 : Int32), vi (16 : Int32), vi (20 : Int32)]) 0 [] (zafter E YX1_atFirst (d + 1) [(0, vr (some (16, 0, 0)))] 191 3 [] Q)) : Z E YX1_atFirst (d + 1) M [(0, vr (some (16, 0, 0)))] 185 [] Q := by
  refine z_aload_n dX1_atFirst_185 rfl rfl ?_
  refine z_iconst (v := 2) dX1_atFirst_186 rfl ?_
  refine z_bipush (v := 16) dX1_atFirst_187 rfl ?_
  refine z_bipush (v := 20) dX1_atFirst_189 rfl ?_
  exact z_callV (as := [vi (2 : Int32), vi (16 : Int32), vi (20 : Int32)]) (st := []) dX1_atFirst_191 vsX1_738_0 (Nat.le_refl _) (Nat.le_of_ble_eq_true rfl) (Nat.le_of_ble_eq_true rfl) rfl k
theorem sX1_atFirst_194 {E : zE} {d : Nat} {Q : zO → zM → Prop} (M : zM)  (hw : cw M) (k : Z E YX1_thing d M (zargs 0 [vr (some (16, 0, 0)), vi (3 : Int32), vi (2 : Int32), vi (11 : Int32)]) 0 [] (zafter E YX1_atFirst (d + 1) [(0, vr (some (16, 0, 0)))] 199 3 [] Q)) : Z E YX1_atFirst (d + 1) M [(0, vr (some (16, 0, 0)))] 194 [] Q := by
  refine z_aload_n dX1_atFirst_194 rfl rfl ?_
  refine z_iconst (v := 3) dX1_atFirst_195 rfl ?_
  refine z_iconst (v := 2) dX1_atFirst_196 rfl ?_
  refine z_bipush (v := 11) dX1_atFirst_197 rfl ?_
  exact z_callV (as := [vi (3 : Int32), vi (2 : Int32), vi (11 : Int32)]) (st := []) dX1_atFirst_199 vsX1_738_0 (Nat.le_refl _) (Nat.le_of_ble_eq_true rfl) (Nat.le_of_ble_eq_true rfl) rfl k
theorem sX1_atFirst_202 {E : zE} {d : Nat} {Q : zO → zM → Prop} (M : zM)  (hw : cw M) (k : Z E YX1_thing d M (zargs 0 [vr (some (16, 0, 0)), vi (3 : Int32), vi (14 : Int32), vi (18 : Int32)]) 0 [] (zafter E YX1_atFirst (d + 1) [(0, vr (some (16, 0, 0)))] 208 3 [] Q)) : Z E YX1_atFirst (d + 1) M [(0, vr (some (16, 0, 0)))] 202 [] Q := by
  refine z_aload_n dX1_atFirst_202 rfl rfl ?_
  refine z_iconst (v := 3) dX1_atFirst_203 rfl ?_
  refine z_bipush (v := 14) dX1_atFirst_204 rfl ?_
  refine z_bipush (v := 18) dX1_atFirst_206 rfl ?_
  exact z_callV (as := [vi (3 : Int32), vi (14 : Int32), vi (18 : Int32)]) (st := []) dX1_atFirst_208 vsX1_738_0 (Nat.le_refl _) (Nat.le_of_ble_eq_true rfl) (Nat.le_of_ble_eq_true rfl) rfl k
theorem sX1_atFirst_211 {E : zE} {d : Nat} {Q : zO → zM → Prop} (M : zM)  (hw : cw M) (k : Z E YX1_thing d M (zargs 0 [vr (some (16, 0, 0)), vi (3 : Int32), vi (15 : Int32), vi (19 : Int32)]) 0 [] (zafter E YX1_atFirst (d + 1) [(0, vr (some (16, 0, 0)))] 217 3 [] Q)) : Z E YX1_atFirst (d + 1) M [(0, vr (some (16, 0, 0)))] 211 [] Q := by
  refine z_aload_n dX1_atFirst_211 rfl rfl ?_
  refine z_iconst (v := 3) dX1_atFirst_212 rfl ?_
  refine z_bipush (v := 15) dX1_atFirst_213 rfl ?_
  refine z_bipush (v := 19) dX1_atFirst_215 rfl ?_
  exact z_callV (as := [vi (3 : Int32), vi (15 : Int32), vi (19 : Int32)]) (st := []) dX1_atFirst_217 vsX1_738_0 (Nat.le_refl _) (Nat.le_of_ble_eq_true rfl) (Nat.le_of_ble_eq_true rfl) rfl k
theorem sX1_atFirst_220 {E : zE} {d : Nat} {Q : zO → zM → Prop} (M : zM)  (hw : cw M) (k : Z E YX1_thing d M (zargs 0 [vr (some (16, 0, 0)), vi (4 : Int32), vi (2 : Int32), vi (12 : Int32)]) 0 [] (zafter E YX1_atFirst (d + 1) [(0, vr (some (16, 0, 0)))] 225 3 [] Q)) : Z E YX1_atFirst (d + 1) M [(0, vr (some (16, 0, 0)))] 220 [] Q := by
  refine z_aload_n dX1_atFirst_220 rfl rfl ?_
  refine z_iconst (v := 4) dX1_atFirst_221 rfl ?_
  refine z_iconst (v := 2) dX1_atFirst_222 rfl ?_
  refine z_bipush (v := 12) dX1_atFirst_223 rfl ?_
  exact z_callV (as := [vi (4 : Int32), vi (2 : Int32), vi (12 : Int32)]) (st := []) dX1_atFirst_225 vsX1_738_0 (Nat.le_refl _) (Nat.le_of_ble_eq_true rfl) (Nat.le_of_ble_eq_true rfl) rfl k
theorem sX1_atFirst_228 {E : zE} {d : Nat} {Q : zO → zM → Prop} (M : zM)  (hw : cw M) (k : Z E YX1_thing d M (zargs 0 [vr (some (16, 0, 0)), vi (4 : Int32), vi (18 : Int32), vi (22 : Int32)]) 0 [] (zafter E YX1_atFirst (d + 1) [(0, vr (some (16, 0, 0)))] 234 3 [] Q)) : Z E YX1_atFirst (d + 1) M [(0, vr (some (16, 0, 0)))] 228 [] Q := by
  refine z_aload_n dX1_atFirst_228 rfl rfl ?_
  refine z_iconst (v := 4) dX1_atFirst_229 rfl ?_
  refine z_bipush (v := 18) dX1_atFirst_230 rfl ?_
  refine z_bipush (v := 22) dX1_atFirst_232 rfl ?_
  exact z_callV (as := [vi (4 : Int32), vi (18 : Int32), vi (22 : Int32)]) (st := []) dX1_atFirst_234 vsX1_738_0 (Nat.le_refl _) (Nat.le_of_ble_eq_true rfl) (Nat.le_of_ble_eq_true rfl) rfl k
theorem sX1_atFirst_237 {E : zE} {d : Nat} {Q : zO → zM → Prop} (M : zM)  (hw : cw M) (k : Z E YX1_atFirst (d + 1) M [(0, vr (some (16, 0, 0))), (1, vi (5 : Int32))] 239 [] Q) : Z E YX1_atFirst (d + 1) M [(0, vr (some (16, 0, 0)))] 237 [] Q := by
  refine z_iconst (v := 5) dX1_atFirst_237 rfl ?_
  refine z_ist_n dX1_atFirst_238 rfl (by decide) (lv' := [(0, vr (some (16, 0, 0))), (1, vi (5 : Int32))]) rfl ?_
  exact k
theorem sX1_atFirst_239 {E : zE} {d : Nat} {Q : zO → zM → Prop} (M : zM) (l1 : Int32) (hw : cw M) (k : if (9 : Int32) ≤ l1 then (Z E YX1_atFirst (d + 1) M [(0, vr (some (16, 0, 0))), (1, vi (10 : Int32))] 281 [] Q) else (Z E YX1_thing d M (zargs 0 [vr (some (16, 0, 0)), vi l1, vi (2 : Int32), vi (l1 + (9 : Int32))]) 0 [] (zafter E YX1_atFirst (d + 1) [(0, vr (some (16, 0, 0))), (1, vi l1)] 252 3 [] Q))) : Z E YX1_atFirst (d + 1) M [(0, vr (some (16, 0, 0))), (1, vi l1)] 239 [] Q := by
  refine z_iload_n dX1_atFirst_239 rfl rfl ?_
  refine z_bipush (v := 9) dX1_atFirst_240 rfl ?_
  refine z_icmp_ge (tgt := 278) dX1_atFirst_242 rfl (fun h_ => ?_) (fun h_ => ?_)
  · have k := zit h_ k
    refine z_bipush (v := 10) dX1_atFirst_278 rfl ?_
    refine z_ist_n dX1_atFirst_280 rfl (by decide) (lv' := [(0, vr (some (16, 0, 0))), (1, vi (10 : Int32))]) rfl ?_
    exact k
  · have k := zif h_ k
    refine z_aload_n dX1_atFirst_245 rfl rfl ?_
    refine z_iload_n dX1_atFirst_246 rfl rfl ?_
    refine z_iconst (v := 2) dX1_atFirst_247 rfl ?_
    refine z_iload_n dX1_atFirst_248 rfl rfl ?_
    refine z_bipush (v := 9) dX1_atFirst_249 rfl ?_
    refine z_iadd dX1_atFirst_251 ?_
    exact z_callV (as := [vi l1, vi (2 : Int32), vi (l1 + (9 : Int32))]) (st := []) dX1_atFirst_252 vsX1_738_0 (Nat.le_refl _) (Nat.le_of_ble_eq_true rfl) (Nat.le_of_ble_eq_true rfl) rfl k
theorem sX1_atFirst_255 {E : zE} {d : Nat} {Q : zO → zM → Prop} (M : zM) (l1 : Int32) (hw : cw M) (k : Z E YX1_textSet d M (zargs 0 [vi (l1 + (5 : Int32))]) 0 [] (zafter E YX1_atFirst (d + 1) [(0, vr (some (16, 0, 0))), (1, vi l1)] 266 3 [vl (0 : Int64), vl (0 : Int64), vi (4 : Int32), vi l1, vr (gr M 16 60)] Q)) : Z E YX1_atFirst (d + 1) M [(0, vr (some (16, 0, 0))), (1, vi l1)] 255 [] Q := by
  refine z_aload_n dX1_atFirst_255 rfl rfl ?_
  refine z_getr (r := (gr M 16 60)) dX1_atFirst_256 fsX1_684_0 rfl ?_
  refine z_iload_n dX1_atFirst_259 rfl rfl ?_
  refine z_iconst (v := 4) dX1_atFirst_260 rfl ?_
  refine z_lconst (v := 0) dX1_atFirst_261 rfl ?_
  refine z_lconst (v := 0) dX1_atFirst_262 rfl ?_
  refine z_iload_n dX1_atFirst_263 rfl rfl ?_
  refine z_iconst (v := 5) dX1_atFirst_264 rfl ?_
  refine z_iadd dX1_atFirst_265 ?_
  exact z_callS (as := [vi (l1 + (5 : Int32))]) (st := [vl (0 : Int64), vl (0 : Int64), vi (4 : Int32), vi l1, vr (gr M 16 60)]) dX1_atFirst_266 ssX1_741 (Nat.le_refl _) (Nat.le_of_ble_eq_true rfl) (Nat.le_of_ble_eq_true rfl) rfl k
theorem sX1_atFirst_269 {E : zE} {d : Nat} {Q : zO → zM → Prop} (M : zM) (l1 : Int32) (s0 : Int64) (s1 : Int64) (s2 : Int64) (s3 : Int32) (s4 : Int32) (u5 : Option zP) (hw : cw M) (k : ∃ b1 : Nat, u5 = some (b1, 7, 0) ∧ (Z E YX43_put d M (zargs 0 [vr (some (b1, 7, 0)), vi s4, vi s3, vl s2, vl s1, vl s0]) 0 [] (zafter E YX1_atFirst (d + 1) [(0, vr (some (16, 0, 0))), (1, vi l1)] 269 3 [] Q))) : Z E YX1_atFirst (d + 1) M [(0, vr (some (16, 0, 0))), (1, vi l1)] 269 [vl s0, vl s1, vl s2, vi s3, vi s4, vr u5] Q := by
  obtain ⟨b1, e1_, k⟩ := k
  refine Z.eqs (lv' := [(0, vr (some (16, 0, 0))), (1, vi l1)]) (st' := [vl s0, vl s1, vl s2, vi s3, vi s4, vr (some (b1, 7, 0))]) rfl (by rw [e1_] <;> rfl) ?_
  exact z_callV (as := [vi s4, vi s3, vl s2, vl s1, vl s0]) (st := []) dX1_atFirst_269 vsX1_722_7 (Nat.le_refl _) (Nat.le_of_ble_eq_true rfl) (Nat.le_of_ble_eq_true rfl) rfl k
theorem sX1_atFirst_272 {E : zE} {d : Nat} {Q : zO → zM → Prop} (M : zM) (l1 : Int32) (hw : cw M) (k : Z E YX1_atFirst (d + 1) M [(0, vr (some (16, 0, 0))), (1, vi (l1 + (1 : Int32)))] 239 [] Q) : Z E YX1_atFirst (d + 1) M [(0, vr (some (16, 0, 0))), (1, vi l1)] 272 [] Q := by
  refine z_inc (v := (l1 + (1 : Int32))) dX1_atFirst_272 rfl rfl (by decide) (lv' := [(0, vr (some (16, 0, 0))), (1, vi (l1 + (1 : Int32)))]) rfl ?_
  refine z_goto (tgt := 239) dX1_atFirst_275 rfl ?_
  exact k
theorem sX1_atFirst_281 {E : zE} {d : Nat} {Q : zO → zM → Prop} (M : zM) (l1 : Int32) (hw : cw M) (k : if (18 : Int32) ≤ l1 then (∃ b1 : Nat, (gr M 16 60) = some (b1, 7, 0) ∧ (16 ≤ b1 ∧ (∃ b2 : Nat, (gr M 16 60) = some (b2, 7, 0) ∧ (16 ≤ b2 ∧ (∃ b3 : Nat, (gr M 16 60) = some (b3, 7, 0) ∧ (16 ≤ b3 ∧ (∃ b4 : Nat, (gr M 16 60) = some (b4, 7, 0) ∧ (16 ≤ b4 ∧ (∃ b5 : Nat, (gr M 16 60) = some (b5, 7, 0) ∧ (16 ≤ b5 ∧ (Q (.inl none) (sl (sl (sl (sl (sl M b1 14 (0 : Int64)) b2 15 (0 : Int64)) b3 16 (1 : Int64)) b4 17 (0 : Int64)) b5 18 (0 : Int64))))))))))))) else (if l1 = (13 : Int32) then (Z E YX1_atFirst (d + 1) M [(0, vr (some (16, 0, 0))), (1, vi l1)] 326 [] Q) else (if l1 = (10 : Int32) then (Z E YX1_thing d M (zargs 0 [vr (some (16, 0, 0)), vi l1, vi (1 : Int32), vi (1 : Int32)]) 0 [] (zafter E YX1_atFirst (d + 1) [(0, vr (some (16, 0, 0))), (1, vi l1)] 323 3 [] Q)) else (if (13 : Int32) ≤ l1 then (Z E YX1_thing d M (zargs 0 [vr (some (16, 0, 0)), vi l1, vi (1 : Int32), vi (l1 - (9 : Int32))]) 0 [] (zafter E YX1_atFirst (d + 1) [(0, vr (some (16, 0, 0))), (1, vi l1)] 323 3 [] Q)) else (Z E YX1_thing d M (zargs 0 [vr (some (16, 0, 0)), vi l1, vi (1 : Int32), vi (l1 - (8 : Int32))]) 0 [] (zafter E YX1_atFirst (d + 1) [(0, vr (some (16, 0, 0))), (1, vi l1)] 323 3 [] Q)))))) : Z E YX1_atFirst (d + 1) M [(0, vr (some (16, 0, 0))), (1, vi l1)] 281 [] Q := by
  refine z_iload_n dX1_atFirst_281 rfl rfl ?_
  refine z_bipush (v := 18) dX1_atFirst_282 rfl ?_
  refine z_icmp_ge (tgt := 332) dX1_atFirst_284 rfl (fun h_ => ?_) (fun h_ => ?_)
  · have k := zit h_ k
    refine z_aload_n dX1_atFirst_332 rfl rfl ?_
    refine z_getr (r := (gr M 16 60)) dX1_atFirst_333 fsX1_684_0 rfl ?_
    refine z_lconst (v := 0) dX1_atFirst_336 rfl ?_
    obtain ⟨b1, e1_, k⟩ := k
    refine Z.eqs (lv' := [(0, vr (some (16, 0, 0))), (1, vi l1)]) (st' := [vl (0 : Int64), vr (some (b1, 7, 0))]) rfl (by rw [e1_] <;> rfl) ?_
    obtain ⟨g_, k⟩ := k
    refine z_putl g_ dX1_atFirst_337 (zfwN.w fwX1_745_7) ?_
    refine z_aload_n dX1_atFirst_340 rfl rfl ?_
    refine z_getr (r := (gr M 16 60)) dX1_atFirst_341 fsX1_684_0 rfl ?_
    refine z_lconst (v := 0) dX1_atFirst_344 rfl ?_
    obtain ⟨b2, e2_, k⟩ := k
    refine Z.eqs (lv' := [(0, vr (some (16, 0, 0))), (1, vi l1)]) (st' := [vl (0 : Int64), vr (some (b2, 7, 0))]) rfl (by rw [e2_] <;> rfl) ?_
    obtain ⟨g_, k⟩ := k
    refine z_putl g_ dX1_atFirst_345 (zfwN.w fwX1_748_7) ?_
    refine z_aload_n dX1_atFirst_348 rfl rfl ?_
    refine z_getr (r := (gr M 16 60)) dX1_atFirst_349 fsX1_684_0 rfl ?_
    refine z_lconst (v := 1) dX1_atFirst_352 rfl ?_
    obtain ⟨b3, e3_, k⟩ := k
    refine Z.eqs (lv' := [(0, vr (some (16, 0, 0))), (1, vi l1)]) (st' := [vl (1 : Int64), vr (some (b3, 7, 0))]) rfl (by rw [e3_] <;> rfl) ?_
    obtain ⟨g_, k⟩ := k
    refine z_putl g_ dX1_atFirst_353 (zfwN.w fwX1_751_7) ?_
    refine z_aload_n dX1_atFirst_356 rfl rfl ?_
    refine z_getr (r := (gr M 16 60)) dX1_atFirst_357 fsX1_684_0 rfl ?_
    refine z_lconst (v := 0) dX1_atFirst_360 rfl ?_
    obtain ⟨b4, e4_, k⟩ := k
    refine Z.eqs (lv' := [(0, vr (some (16, 0, 0))), (1, vi l1)]) (st' := [vl (0 : Int64), vr (some (b4, 7, 0))]) rfl (by rw [e4_] <;> rfl) ?_
    obtain ⟨g_, k⟩ := k
    refine z_putl g_ dX1_atFirst_361 (zfwN.w fwX1_754_7) ?_
    refine z_aload_n dX1_atFirst_364 rfl rfl ?_
    refine z_getr (r := (gr M 16 60)) dX1_atFirst_365 fsX1_684_0 rfl ?_
    refine z_lconst (v := 0) dX1_atFirst_368 rfl ?_
    obtain ⟨b5, e5_, k⟩ := k
    refine Z.eqs (lv' := [(0, vr (some (16, 0, 0))), (1, vi l1)]) (st' := [vl (0 : Int64), vr (some (b5, 7, 0))]) rfl (by rw [e5_] <;> rfl) ?_
    obtain ⟨g_, k⟩ := k
    refine z_putl g_ dX1_atFirst_369 (zfwN.w fwX1_757_7) ?_
    exact z_vret dX1_atFirst_372 rfl k
  · have k := zif h_ k
    refine z_iload_n dX1_atFirst_287 rfl rfl ?_
    refine z_bipush (v := 13) dX1_atFirst_288 rfl ?_
    refine z_icmp_eq (tgt := 326) dX1_atFirst_290 rfl (fun h_ => ?_) (fun h_ => ?_)
    · have k := zit h_ k
      exact k
    · have k := zif h_ k
      refine z_aload_n dX1_atFirst_293 rfl rfl ?_
      refine z_iload_n dX1_atFirst_294 rfl rfl ?_
      refine z_iconst (v := 1) dX1_atFirst_295 rfl ?_
      refine z_iload_n dX1_atFirst_296 rfl rfl ?_
      refine z_bipush (v := 10) dX1_atFirst_297 rfl ?_
      refine z_icmp_ne (tgt := 306) dX1_atFirst_299 rfl (fun h_ => ?_) (fun h_ => ?_)
      · have k := zif h_ k
        refine z_iload_n dX1_atFirst_306 rfl rfl ?_
        refine z_bipush (v := 13) dX1_atFirst_307 rfl ?_
        refine z_icmp_ge (tgt := 319) dX1_atFirst_309 rfl (fun h_ => ?_) (fun h_ => ?_)
        · have k := zit h_ k
          refine z_iload_n dX1_atFirst_319 rfl rfl ?_
          refine z_bipush (v := 9) dX1_atFirst_320 rfl ?_
          refine z_isub dX1_atFirst_322 ?_
          exact z_callV (as := [vi l1, vi (1 : Int32), vi (l1 - (9 : Int32))]) (st := []) dX1_atFirst_323 vsX1_738_0 (Nat.le_refl _) (Nat.le_of_ble_eq_true rfl) (Nat.le_of_ble_eq_true rfl) rfl k
        · have k := zif h_ k
          refine z_iload_n dX1_atFirst_312 rfl rfl ?_
          refine z_bipush (v := 8) dX1_atFirst_313 rfl ?_
          refine z_isub dX1_atFirst_315 ?_
          refine z_goto (tgt := 323) dX1_atFirst_316 rfl ?_
          exact z_callV (as := [vi l1, vi (1 : Int32), vi (l1 - (8 : Int32))]) (st := []) dX1_atFirst_323 vsX1_738_0 (Nat.le_refl _) (Nat.le_of_ble_eq_true rfl) (Nat.le_of_ble_eq_true rfl) rfl k
      · have k := zit h_ k
        refine z_iconst (v := 1) dX1_atFirst_302 rfl ?_
        refine z_goto (tgt := 323) dX1_atFirst_303 rfl ?_
        exact z_callV (as := [vi l1, vi (1 : Int32), vi (1 : Int32)]) (st := []) dX1_atFirst_323 vsX1_738_0 (Nat.le_refl _) (Nat.le_of_ble_eq_true rfl) (Nat.le_of_ble_eq_true rfl) rfl k
theorem sX1_atFirst_326 {E : zE} {d : Nat} {Q : zO → zM → Prop} (M : zM) (l1 : Int32) (hw : cw M) (k : Z E YX1_atFirst (d + 1) M [(0, vr (some (16, 0, 0))), (1, vi (l1 + (1 : Int32)))] 281 [] Q) : Z E YX1_atFirst (d + 1) M [(0, vr (some (16, 0, 0))), (1, vi l1)] 326 [] Q := by
  refine z_inc (v := (l1 + (1 : Int32))) dX1_atFirst_326 rfl rfl (by decide) (lv' := [(0, vr (some (16, 0, 0))), (1, vi (l1 + (1 : Int32)))]) rfl ?_
  refine z_goto (tgt := 281) dX1_atFirst_329 rfl ?_
  exact k
/-! ScriptTypes.thing(III)V -/
theorem bX1_thing_0 : zdec cX1_thing 0 [(0, .aload_n 0, 1), (1, .getfield 684, 3), (4, .iload_n 1, 1), (5, .iload_n 2, 1), (6, .iload_n 3, 1), (7, .bipush 64, 2), (9, .if_icmp .ge 9, 3), (12, .lconst 1, 1), (13, .iload_n 3, 1), (14, .lshl, 1), (15, .goto 4, 3), (18, .lconst 0, 1), (19, .iload_n 3, 1), (20, .bipush 64, 2), (22, .if_icmp .ge 7, 3), (25, .lconst 0, 1)] = true := by decide +kernel
theorem dX1_thing_0 : decode cX1_thing 0 = .ok (.aload_n 0, 1) := zdec_at bX1_thing_0 0 rfl
theorem dX1_thing_1 : decode cX1_thing 1 = .ok (.getfield 684, 3) := zdec_at bX1_thing_0 1 rfl
theorem dX1_thing_4 : decode cX1_thing 4 = .ok (.iload_n 1, 1) := zdec_at bX1_thing_0 2 rfl
theorem dX1_thing_5 : decode cX1_thing 5 = .ok (.iload_n 2, 1) := zdec_at bX1_thing_0 3 rfl
theorem dX1_thing_6 : decode cX1_thing 6 = .ok (.iload_n 3, 1) := zdec_at bX1_thing_0 4 rfl
theorem dX1_thing_7 : decode cX1_thing 7 = .ok (.bipush 64, 2) := zdec_at bX1_thing_0 5 rfl
theorem dX1_thing_9 : decode cX1_thing 9 = .ok (.if_icmp .ge 9, 3) := zdec_at bX1_thing_0 6 rfl
theorem dX1_thing_12 : decode cX1_thing 12 = .ok (.lconst 1, 1) := zdec_at bX1_thing_0 7 rfl
theorem dX1_thing_13 : decode cX1_thing 13 = .ok (.iload_n 3, 1) := zdec_at bX1_thing_0 8 rfl
theorem dX1_thing_14 : decode cX1_thing 14 = .ok (.lshl, 1) := zdec_at bX1_thing_0 9 rfl
theorem dX1_thing_15 : decode cX1_thing 15 = .ok (.goto 4, 3) := zdec_at bX1_thing_0 10 rfl
theorem dX1_thing_18 : decode cX1_thing 18 = .ok (.lconst 0, 1) := zdec_at bX1_thing_0 11 rfl
theorem dX1_thing_19 : decode cX1_thing 19 = .ok (.iload_n 3, 1) := zdec_at bX1_thing_0 12 rfl
theorem dX1_thing_20 : decode cX1_thing 20 = .ok (.bipush 64, 2) := zdec_at bX1_thing_0 13 rfl
theorem dX1_thing_22 : decode cX1_thing 22 = .ok (.if_icmp .ge 7, 3) := zdec_at bX1_thing_0 14 rfl
theorem dX1_thing_25 : decode cX1_thing 25 = .ok (.lconst 0, 1) := zdec_at bX1_thing_0 15 rfl
theorem bX1_thing_26 : zdec cX1_thing 26 [(26, .goto 9, 3), (29, .lconst 1, 1), (30, .iload_n 3, 1), (31, .bipush 64, 2), (33, .isub, 1), (34, .lshl, 1), (35, .lconst 0, 1), (36, .invokevirtual 722, 3), (39, .return_, 1)] = true := by decide +kernel
theorem dX1_thing_26 : decode cX1_thing 26 = .ok (.goto 9, 3) := zdec_at bX1_thing_26 0 rfl
theorem dX1_thing_29 : decode cX1_thing 29 = .ok (.lconst 1, 1) := zdec_at bX1_thing_26 1 rfl
theorem dX1_thing_30 : decode cX1_thing 30 = .ok (.iload_n 3, 1) := zdec_at bX1_thing_26 2 rfl
theorem dX1_thing_31 : decode cX1_thing 31 = .ok (.bipush 64, 2) := zdec_at bX1_thing_26 3 rfl
theorem dX1_thing_33 : decode cX1_thing 33 = .ok (.isub, 1) := zdec_at bX1_thing_26 4 rfl
theorem dX1_thing_34 : decode cX1_thing 34 = .ok (.lshl, 1) := zdec_at bX1_thing_26 5 rfl
theorem dX1_thing_35 : decode cX1_thing 35 = .ok (.lconst 0, 1) := zdec_at bX1_thing_26 6 rfl
theorem dX1_thing_36 : decode cX1_thing 36 = .ok (.invokevirtual 722, 3) := zdec_at bX1_thing_26 7 rfl
theorem dX1_thing_39 : decode cX1_thing 39 = .ok (.return_, 1) := zdec_at bX1_thing_26 8 rfl
theorem sX1_thing_0 {E : zE} {d : Nat} {Q : zO → zM → Prop} (M : zM) (l1 : Int32) (l2 : Int32) (l3 : Int32) (hw : cw M) (k : if (64 : Int32) ≤ l3 then (Z E YX1_thing (d + 1) M [(3, vi l3)] 19 [vl (0 : Int64), vi l2, vi l1, vr (gr M 16 60)] Q) else (Z E YX1_thing (d + 1) M [(3, vi l3)] 19 [vl (zls (1 : Int64) l3), vi l2, vi l1, vr (gr M 16 60)] Q)) : Z E YX1_thing (d + 1) M [(0, vr (some (16, 0, 0))), (1, vi l1), (2, vi l2), (3, vi l3)] 0 [] Q := by
  refine z_aload_n dX1_thing_0 rfl rfl ?_
  refine z_getr (r := (gr M 16 60)) dX1_thing_1 fsX1_684_0 rfl ?_
  refine z_iload_n dX1_thing_4 rfl rfl ?_
  refine z_iload_n dX1_thing_5 rfl rfl ?_
  refine z_iload_n dX1_thing_6 rfl rfl ?_
  refine z_bipush (v := 64) dX1_thing_7 rfl ?_
  refine z_icmp_ge (tgt := 18) dX1_thing_9 rfl (fun h_ => ?_) (fun h_ => ?_)
  · have k := zit h_ k
    refine z_lconst (v := 0) dX1_thing_18 rfl ?_
    refine Z.pick [3] rfl ?_
    exact k
  · have k := zif h_ k
    refine z_lconst (v := 1) dX1_thing_12 rfl ?_
    refine z_iload_n dX1_thing_13 rfl rfl ?_
    refine z_lshl dX1_thing_14 ?_
    refine z_goto (tgt := 19) dX1_thing_15 rfl ?_
    refine Z.pick [3] rfl ?_
    exact k
theorem sX1_thing_19 {E : zE} {d : Nat} {Q : zO → zM → Prop} (M : zM) (l3 : Int32) (s0 : Int64) (s1 : Int32) (s2 : Int32) (u3 : Option zP) (hw : cw M) (k : if (64 : Int32) ≤ l3 then (∃ b1 : Nat, u3 = some (b1, 7, 0) ∧ (Z E YX43_put d M (zargs 0 [vr (some (b1, 7, 0)), vi s2, vi s1, vl s0, vl (zls (1 : Int64) (l3 - (64 : Int32))), vl (0 : Int64)]) 0 [] (zafter E YX1_thing (d + 1) [] 36 3 [] Q))) else (∃ b1 : Nat, u3 = some (b1, 7, 0) ∧ (Z E YX43_put d M (zargs 0 [vr (some (b1, 7, 0)), vi s2, vi s1, vl s0, vl (0 : Int64), vl (0 : Int64)]) 0 [] (zafter E YX1_thing (d + 1) [] 36 3 [] Q)))) : Z E YX1_thing (d + 1) M [(3, vi l3)] 19 [vl s0, vi s1, vi s2, vr u3] Q := by
  refine z_iload_n dX1_thing_19 rfl rfl ?_
  refine z_bipush (v := 64) dX1_thing_20 rfl ?_
  refine z_icmp_ge (tgt := 29) dX1_thing_22 rfl (fun h_ => ?_) (fun h_ => ?_)
  · have k := zit h_ k
    refine z_lconst (v := 1) dX1_thing_29 rfl ?_
    refine z_iload_n dX1_thing_30 rfl rfl ?_
    refine z_bipush (v := 64) dX1_thing_31 rfl ?_
    refine z_isub dX1_thing_33 ?_
    refine z_lshl dX1_thing_34 ?_
    refine z_lconst (v := 0) dX1_thing_35 rfl ?_
    obtain ⟨b1, e1_, k⟩ := k
    refine Z.eqs (lv' := [(3, vi l3)]) (st' := [vl (0 : Int64), vl (zls (1 : Int64) (l3 - (64 : Int32))), vl s0, vi s1, vi s2, vr (some (b1, 7, 0))]) rfl (by rw [e1_] <;> rfl) ?_
    refine Z.pick [] rfl ?_
    exact z_callV (as := [vi s2, vi s1, vl s0, vl (zls (1 : Int64) (l3 - (64 : Int32))), vl (0 : Int64)]) (st := []) dX1_thing_36 vsX1_722_7 (Nat.le_refl _) (Nat.le_of_ble_eq_true rfl) (Nat.le_of_ble_eq_true rfl) rfl k
  · have k := zif h_ k
    refine z_lconst (v := 0) dX1_thing_25 rfl ?_
    refine z_goto (tgt := 35) dX1_thing_26 rfl ?_
    refine z_lconst (v := 0) dX1_thing_35 rfl ?_
    obtain ⟨b1, e1_, k⟩ := k
    refine Z.eqs (lv' := [(3, vi l3)]) (st' := [vl (0 : Int64), vl (0 : Int64), vl s0, vi s1, vi s2, vr (some (b1, 7, 0))]) rfl (by rw [e1_] <;> rfl) ?_
    refine Z.pick [] rfl ?_
    exact z_callV (as := [vi s2, vi s1, vl s0, vl (0 : Int64), vl (0 : Int64)]) (st := []) dX1_thing_36 vsX1_722_7 (Nat.le_refl _) (Nat.le_of_ble_eq_true rfl) (Nat.le_of_ble_eq_true rfl) rfl k
theorem sX1_thing_39 {E : zE} {d : Nat} {Q : zO → zM → Prop} (M : zM)  (hw : cw M) (k : Q (.inl none) M) : Z E YX1_thing (d + 1) M [] 39 [] Q := by
  exact z_vret dX1_thing_39 rfl k
/-! ScriptTypes.textSet(I)J -/
theorem bX1_textSet_0 : zdec cX1_textSet 0 [(0, .iload_n 0, 1), (1, .iconst (-1), 1), (2, .if_icmp .ne 9, 3), (5, .ldc2_w 613, 3), (8, .goto 12, 3), (11, .ldc2_w 615, 3), (14, .iload_n 0, 1), (15, .i2l, 1), (16, .bipush 16, 2), (18, .lshl, 1), (19, .lor, 1), (20, .lreturn, 1)] = true := by decide +kernel
theorem dX1_textSet_0 : decode cX1_textSet 0 = .ok (.iload_n 0, 1) := zdec_at bX1_textSet_0 0 rfl
theorem dX1_textSet_1 : decode cX1_textSet 1 = .ok (.iconst (-1), 1) := zdec_at bX1_textSet_0 1 rfl
theorem dX1_textSet_2 : decode cX1_textSet 2 = .ok (.if_icmp .ne 9, 3) := zdec_at bX1_textSet_0 2 rfl
theorem dX1_textSet_5 : decode cX1_textSet 5 = .ok (.ldc2_w 613, 3) := zdec_at bX1_textSet_0 3 rfl
theorem dX1_textSet_8 : decode cX1_textSet 8 = .ok (.goto 12, 3) := zdec_at bX1_textSet_0 4 rfl
theorem dX1_textSet_11 : decode cX1_textSet 11 = .ok (.ldc2_w 615, 3) := zdec_at bX1_textSet_0 5 rfl
theorem dX1_textSet_14 : decode cX1_textSet 14 = .ok (.iload_n 0, 1) := zdec_at bX1_textSet_0 6 rfl
theorem dX1_textSet_15 : decode cX1_textSet 15 = .ok (.i2l, 1) := zdec_at bX1_textSet_0 7 rfl
theorem dX1_textSet_16 : decode cX1_textSet 16 = .ok (.bipush 16, 2) := zdec_at bX1_textSet_0 8 rfl
theorem dX1_textSet_18 : decode cX1_textSet 18 = .ok (.lshl, 1) := zdec_at bX1_textSet_0 9 rfl
theorem dX1_textSet_19 : decode cX1_textSet 19 = .ok (.lor, 1) := zdec_at bX1_textSet_0 10 rfl
theorem dX1_textSet_20 : decode cX1_textSet 20 = .ok (.lreturn, 1) := zdec_at bX1_textSet_0 11 rfl
theorem sX1_textSet_0 {E : zE} {d : Nat} {Q : zO → zM → Prop} (M : zM) (l0 : Int32) (hw : cw M) (k : if l0 = (-1 : Int32) then (Q (.inl (some (vl (256 : Int64)))) M) else (Q (.inl (some (vl ((128 : Int64) ||| (zls (l0).toInt64 (16 : Int32)))))) M)) : Z E YX1_textSet d M [(0, vi l0)] 0 [] Q := by
  refine z_iload_n dX1_textSet_0 rfl rfl ?_
  refine z_iconst (v := -1) dX1_textSet_1 rfl ?_
  refine z_icmp_ne (tgt := 11) dX1_textSet_2 rfl (fun h_ => ?_) (fun h_ => ?_)
  · have k := zif h_ k
    refine z_ldc2 (v := 128) dX1_textSet_11 q2570 ?_
    refine z_iload_n dX1_textSet_14 rfl rfl ?_
    refine z_i2l dX1_textSet_15 ?_
    refine z_bipush (v := 16) dX1_textSet_16 rfl ?_
    refine z_lshl dX1_textSet_18 ?_
    refine z_lor dX1_textSet_19 ?_
    exact z_lret dX1_textSet_20 rfl k
  · have k := zit h_ k
    refine z_ldc2 (v := 256) dX1_textSet_5 q2569 ?_
    refine z_goto (tgt := 20) dX1_textSet_8 rfl ?_
    exact z_lret dX1_textSet_20 rfl k
/-! ScriptTypes.goes(ILScriptTypes$Work;)V -/
theorem bX1_goes_0 : zdec cX1_goes 0 [(0, .aload_n 0, 1), (1, .getfield 674, 3), (4, .iload_n 1, 1), (5, .aload_n 2, 1), (6, .invokevirtual 760, 3), (9, .ifCond .ne 4, 3), (12, .return_, 1), (13, .iload_n 1, 1), (14, .aload_n 0, 1), (15, .getfield 694, 3), (18, .if_icmp .ge 11, 3), (21, .aload_n 0, 1), (22, .getfield 193, 3), (25, .iload_n 1, 1), (26, .iconst 1, 1), (27, .bastore, 1)] = true := by decide +kernel
theorem dX1_goes_0 : decode cX1_goes 0 = .ok (.aload_n 0, 1) := zdec_at bX1_goes_0 0 rfl
theorem dX1_goes_1 : decode cX1_goes 1 = .ok (.getfield 674, 3) := zdec_at bX1_goes_0 1 rfl
theorem dX1_goes_4 : decode cX1_goes 4 = .ok (.iload_n 1, 1) := zdec_at bX1_goes_0 2 rfl
theorem dX1_goes_5 : decode cX1_goes 5 = .ok (.aload_n 2, 1) := zdec_at bX1_goes_0 3 rfl
theorem dX1_goes_6 : decode cX1_goes 6 = .ok (.invokevirtual 760, 3) := zdec_at bX1_goes_0 4 rfl
theorem dX1_goes_9 : decode cX1_goes 9 = .ok (.ifCond .ne 4, 3) := zdec_at bX1_goes_0 5 rfl
theorem dX1_goes_12 : decode cX1_goes 12 = .ok (.return_, 1) := zdec_at bX1_goes_0 6 rfl
theorem dX1_goes_13 : decode cX1_goes 13 = .ok (.iload_n 1, 1) := zdec_at bX1_goes_0 7 rfl
theorem dX1_goes_14 : decode cX1_goes 14 = .ok (.aload_n 0, 1) := zdec_at bX1_goes_0 8 rfl
theorem dX1_goes_15 : decode cX1_goes 15 = .ok (.getfield 694, 3) := zdec_at bX1_goes_0 9 rfl
theorem dX1_goes_18 : decode cX1_goes 18 = .ok (.if_icmp .ge 11, 3) := zdec_at bX1_goes_0 10 rfl
theorem dX1_goes_21 : decode cX1_goes 21 = .ok (.aload_n 0, 1) := zdec_at bX1_goes_0 11 rfl
theorem dX1_goes_22 : decode cX1_goes 22 = .ok (.getfield 193, 3) := zdec_at bX1_goes_0 12 rfl
theorem dX1_goes_25 : decode cX1_goes 25 = .ok (.iload_n 1, 1) := zdec_at bX1_goes_0 13 rfl
theorem dX1_goes_26 : decode cX1_goes 26 = .ok (.iconst 1, 1) := zdec_at bX1_goes_0 14 rfl
theorem dX1_goes_27 : decode cX1_goes 27 = .ok (.bastore, 1) := zdec_at bX1_goes_0 15 rfl
theorem bX1_goes_28 : zdec cX1_goes 28 [(28, .return_, 1), (29, .iload_n 1, 1), (30, .aload_n 0, 1), (31, .getfield 694, 3), (34, .isub, 1), (35, .iconst 2, 1), (36, .idiv, 1), (37, .istore_n 3, 1), (38, .iconst 0, 1), (39, .istore 4, 2), (41, .iload 4, 2), (43, .aload_n 0, 1), (44, .getfield 694, 3), (47, .if_icmp .ge 31, 3), (50, .aload_n 0, 1), (51, .getfield 197, 3)] = true := by decide +kernel
theorem dX1_goes_28 : decode cX1_goes 28 = .ok (.return_, 1) := zdec_at bX1_goes_28 0 rfl
theorem dX1_goes_29 : decode cX1_goes 29 = .ok (.iload_n 1, 1) := zdec_at bX1_goes_28 1 rfl
theorem dX1_goes_30 : decode cX1_goes 30 = .ok (.aload_n 0, 1) := zdec_at bX1_goes_28 2 rfl
theorem dX1_goes_31 : decode cX1_goes 31 = .ok (.getfield 694, 3) := zdec_at bX1_goes_28 3 rfl
theorem dX1_goes_34 : decode cX1_goes 34 = .ok (.isub, 1) := zdec_at bX1_goes_28 4 rfl
theorem dX1_goes_35 : decode cX1_goes 35 = .ok (.iconst 2, 1) := zdec_at bX1_goes_28 5 rfl
theorem dX1_goes_36 : decode cX1_goes 36 = .ok (.idiv, 1) := zdec_at bX1_goes_28 6 rfl
theorem dX1_goes_37 : decode cX1_goes 37 = .ok (.istore_n 3, 1) := zdec_at bX1_goes_28 7 rfl
theorem dX1_goes_38 : decode cX1_goes 38 = .ok (.iconst 0, 1) := zdec_at bX1_goes_28 8 rfl
theorem dX1_goes_39 : decode cX1_goes 39 = .ok (.istore 4, 2) := zdec_at bX1_goes_28 9 rfl
theorem dX1_goes_41 : decode cX1_goes 41 = .ok (.iload 4, 2) := zdec_at bX1_goes_28 10 rfl
theorem dX1_goes_43 : decode cX1_goes 43 = .ok (.aload_n 0, 1) := zdec_at bX1_goes_28 11 rfl
theorem dX1_goes_44 : decode cX1_goes 44 = .ok (.getfield 694, 3) := zdec_at bX1_goes_28 12 rfl
theorem dX1_goes_47 : decode cX1_goes 47 = .ok (.if_icmp .ge 31, 3) := zdec_at bX1_goes_28 13 rfl
theorem dX1_goes_50 : decode cX1_goes 50 = .ok (.aload_n 0, 1) := zdec_at bX1_goes_28 14 rfl
theorem dX1_goes_51 : decode cX1_goes 51 = .ok (.getfield 197, 3) := zdec_at bX1_goes_28 15 rfl
theorem bX1_goes_54 : zdec cX1_goes 54 [(54, .iload 4, 2), (56, .saload, 1), (57, .iload_n 3, 1), (58, .ishr, 1), (59, .iconst 1, 1), (60, .iand, 1), (61, .ifCond .eq 11, 3), (64, .aload_n 0, 1), (65, .getfield 193, 3), (68, .iload 4, 2), (70, .iconst 1, 1), (71, .bastore, 1), (72, .iinc 4 1, 3), (75, .goto (-34), 3), (78, .return_, 1)] = true := by decide +kernel
theorem dX1_goes_54 : decode cX1_goes 54 = .ok (.iload 4, 2) := zdec_at bX1_goes_54 0 rfl
theorem dX1_goes_56 : decode cX1_goes 56 = .ok (.saload, 1) := zdec_at bX1_goes_54 1 rfl
theorem dX1_goes_57 : decode cX1_goes 57 = .ok (.iload_n 3, 1) := zdec_at bX1_goes_54 2 rfl
theorem dX1_goes_58 : decode cX1_goes 58 = .ok (.ishr, 1) := zdec_at bX1_goes_54 3 rfl
theorem dX1_goes_59 : decode cX1_goes 59 = .ok (.iconst 1, 1) := zdec_at bX1_goes_54 4 rfl
theorem dX1_goes_60 : decode cX1_goes 60 = .ok (.iand, 1) := zdec_at bX1_goes_54 5 rfl
theorem dX1_goes_61 : decode cX1_goes 61 = .ok (.ifCond .eq 11, 3) := zdec_at bX1_goes_54 6 rfl
theorem dX1_goes_64 : decode cX1_goes 64 = .ok (.aload_n 0, 1) := zdec_at bX1_goes_54 7 rfl
theorem dX1_goes_65 : decode cX1_goes 65 = .ok (.getfield 193, 3) := zdec_at bX1_goes_54 8 rfl
theorem dX1_goes_68 : decode cX1_goes 68 = .ok (.iload 4, 2) := zdec_at bX1_goes_54 9 rfl
theorem dX1_goes_70 : decode cX1_goes 70 = .ok (.iconst 1, 1) := zdec_at bX1_goes_54 10 rfl
theorem dX1_goes_71 : decode cX1_goes 71 = .ok (.bastore, 1) := zdec_at bX1_goes_54 11 rfl
theorem dX1_goes_72 : decode cX1_goes 72 = .ok (.iinc 4 1, 3) := zdec_at bX1_goes_54 12 rfl
theorem dX1_goes_75 : decode cX1_goes 75 = .ok (.goto (-34), 3) := zdec_at bX1_goes_54 13 rfl
theorem dX1_goes_78 : decode cX1_goes 78 = .ok (.return_, 1) := zdec_at bX1_goes_54 14 rfl
theorem sX1_goes_0 {E : zE} {d : Nat} {Q : zO → zM → Prop} (M : zM) (l1 : Int32) (r2 : Option zP) (hw : cw M) (k : ∃ b1 : Nat, (gr M 16 59) = some (b1, 6, 0) ∧ (Z E YX42_join d M (zargs 0 [vr (some (b1, 6, 0)), vi l1, vr r2]) 0 [] (zafter E YX1_goes (d + 1) [(0, vr (some (16, 0, 0))), (1, vi l1)] 6 3 [] Q))) : Z E YX1_goes (d + 1) M [(0, vr (some (16, 0, 0))), (1, vi l1), (2, vr r2)] 0 [] Q := by
  refine z_aload_n dX1_goes_0 rfl rfl ?_
  refine z_getr (r := (gr M 16 59)) dX1_goes_1 fsX1_674_0 rfl ?_
  refine z_iload_n dX1_goes_4 rfl rfl ?_
  refine z_aload_n dX1_goes_5 rfl rfl ?_
  obtain ⟨b1, e1_, k⟩ := k
  refine Z.eqs (lv' := [(0, vr (some (16, 0, 0))), (1, vi l1), (2, vr r2)]) (st' := [vr r2, vi l1, vr (some (b1, 6, 0))]) rfl (by rw [e1_] <;> rfl) ?_
  refine Z.pick [0, 1] rfl ?_
  exact z_callV (as := [vi l1, vr r2]) (st := []) dX1_goes_6 vsX1_760_6 (Nat.le_refl _) (Nat.le_of_ble_eq_true rfl) (Nat.le_of_ble_eq_true rfl) rfl k
theorem sX1_goes_9 {E : zE} {d : Nat} {Q : zO → zM → Prop} (M : zM) (l1 : Int32) (s0 : Int32) (hw : cw M) (k : if s0 = 0 then (Q (.inl none) M) else (if (gi M 16 75) ≤ l1 then (Z E YX1_goes (d + 1) M [(0, vr (some (16, 0, 0))), (3, vi ((l1 - (gi M 16 75)) / (2 : Int32))), (4, vi (0 : Int32))] 41 [] Q) else (vp_in l1 624 ∧ (Q (.inl none) (si M 68 (l1).toNatClampNeg (vp_nar .boolean (1 : Int32))))))) : Z E YX1_goes (d + 1) M [(0, vr (some (16, 0, 0))), (1, vi l1)] 9 [vi s0] Q := by
  refine z_if_ne (tgt := 13) dX1_goes_9 rfl (fun h_ => ?_) (fun h_ => ?_)
  · have k := zif h_ k
    refine z_iload_n dX1_goes_13 rfl rfl ?_
    refine z_aload_n dX1_goes_14 rfl rfl ?_
    refine z_geti dX1_goes_15 fsX1_694_0 ?_
    refine z_icmp_ge (tgt := 29) dX1_goes_18 rfl (fun h_ => ?_) (fun h_ => ?_)
    · have k := zit h_ k
      refine z_iload_n dX1_goes_29 rfl rfl ?_
      refine z_aload_n dX1_goes_30 rfl rfl ?_
      refine z_geti dX1_goes_31 fsX1_694_0 ?_
      refine z_isub dX1_goes_34 ?_
      refine z_iconst (v := 2) dX1_goes_35 rfl ?_
      refine z_idiv dX1_goes_36 (by decide) ?_
      refine z_ist_n dX1_goes_37 rfl (by decide) (lv' := [(0, vr (some (16, 0, 0))), (1, vi l1), (3, vi ((l1 - (gi M 16 75)) / (2 : Int32)))]) rfl ?_
      refine z_iconst (v := 0) dX1_goes_38 rfl ?_
      refine z_ist dX1_goes_39 (by decide) (lv' := [(0, vr (some (16, 0, 0))), (1, vi l1), (3, vi ((l1 - (gi M 16 75)) / (2 : Int32))), (4, vi (0 : Int32))]) rfl ?_
      refine Z.pick [0, 2, 3] rfl ?_
      exact k
    · have k := zif h_ k
      refine z_aload_n dX1_goes_21 rfl rfl ?_
      refine z_getr dX1_goes_22 fsX1_193_0 (show gr M 16 64 = some (68, 104, 624) from cw_at hw 36 rfl) ?_
      refine z_iload_n dX1_goes_25 rfl rfl ?_
      refine z_iconst (v := 1) dX1_goes_26 rfl ?_
      obtain ⟨b_, k⟩ := k
      refine z_zast (by decide) dX1_goes_27 b_ ?_
      exact z_vret dX1_goes_28 rfl k
  · have k := zit h_ k
    exact z_vret dX1_goes_12 rfl k
theorem sX1_goes_41 {E : zE} {d : Nat} {Q : zO → zM → Prop} (M : zM) (l3 : Int32) (l4 : Int32) (hw : cw M) (k : if (gi M 16 75) ≤ l4 then (Q (.inl none) M) else (vp_in l4 624 ∧ (if (((gi M 69 (l4).toNatClampNeg) >>> (l3 &&& 31)) &&& (1 : Int32)) = 0 then (Z E YX1_goes (d + 1) M [(0, vr (some (16, 0, 0))), (3, vi l3), (4, vi (l4 + (1 : Int32)))] 41 [] Q) else (vp_in l4 624 ∧ (Z E YX1_goes (d + 1) (si M 68 (l4).toNatClampNeg (vp_nar .boolean (1 : Int32))) [(0, vr (some (16, 0, 0))), (3, vi l3), (4, vi (l4 + (1 : Int32)))] 41 [] Q))))) : Z E YX1_goes (d + 1) M [(0, vr (some (16, 0, 0))), (3, vi l3), (4, vi l4)] 41 [] Q := by
  refine z_iload dX1_goes_41 rfl ?_
  refine z_aload_n dX1_goes_43 rfl rfl ?_
  refine z_geti dX1_goes_44 fsX1_694_0 ?_
  refine z_icmp_ge (tgt := 78) dX1_goes_47 rfl (fun h_ => ?_) (fun h_ => ?_)
  · have k := zit h_ k
    exact z_vret dX1_goes_78 rfl k
  · have k := zif h_ k
    refine z_aload_n dX1_goes_50 rfl rfl ?_
    refine z_getr dX1_goes_51 fsX1_197_0 (show gr M 16 65 = some (69, 102, 624) from cw_at hw 37 rfl) ?_
    refine z_iload dX1_goes_54 rfl ?_
    obtain ⟨b_, k⟩ := k
    refine z_sald dX1_goes_56 b_ ?_
    refine z_iload_n dX1_goes_57 rfl rfl ?_
    refine z_ishr dX1_goes_58 ?_
    refine z_iconst (v := 1) dX1_goes_59 rfl ?_
    refine z_iand dX1_goes_60 ?_
    refine z_if_eq (tgt := 72) dX1_goes_61 rfl (fun h_ => ?_) (fun h_ => ?_)
    · have k := zit h_ k
      refine z_inc (v := (l4 + (1 : Int32))) dX1_goes_72 rfl rfl (by decide) (lv' := [(0, vr (some (16, 0, 0))), (3, vi l3), (4, vi (l4 + (1 : Int32)))]) rfl ?_
      refine z_goto (tgt := 41) dX1_goes_75 rfl ?_
      exact k
    · have k := zif h_ k
      refine z_aload_n dX1_goes_64 rfl rfl ?_
      refine z_getr dX1_goes_65 fsX1_193_0 (show gr M 16 64 = some (68, 104, 624) from cw_at hw 36 rfl) ?_
      refine z_iload dX1_goes_68 rfl ?_
      refine z_iconst (v := 1) dX1_goes_70 rfl ?_
      obtain ⟨b_, k⟩ := k
      refine z_zast (by decide) dX1_goes_71 b_ ?_
      refine z_inc (v := (l4 + (1 : Int32))) dX1_goes_72 rfl rfl (by decide) (lv' := [(0, vr (some (16, 0, 0))), (3, vi l3), (4, vi (l4 + (1 : Int32)))]) rfl ?_
      refine z_goto (tgt := 41) dX1_goes_75 rfl ?_
      exact k
/-! ScriptTypes.transfer(III)V -/
theorem bX1_transfer_0 : zdec cX1_transfer 0 [(0, .iload_n 1, 1)] = true := by decide +kernel
theorem dX1_transfer_0 : decode cX1_transfer 0 = .ok (.iload_n 1, 1) := zdec_at bX1_transfer_0 0 rfl
theorem dX1_transfer_1 : decode cX1_transfer 1 = .ok (.tableswitch 513 0 14 #[75, 117, 126, 202, 211, 275, 284, 328, 328, 398, 406, 413, 420, 427, 455], 75) := by decide +kernel
theorem bX1_transfer_76 : zdec cX1_transfer 76 [(76, .aload_n 0, 1), (77, .aload_n 0, 1), (78, .getfield 206, 3), (81, .iload_n 2, 1), (82, .iconst 5, 1), (83, .if_icmp .ne 10, 3), (86, .iload_n 3, 1), (87, .invokestatic 889, 3), (90, .goto 19, 3), (93, .iload_n 2, 1), (94, .bipush 6, 2), (96, .if_icmp .ne 10, 3), (99, .iload_n 3, 1), (100, .invokestatic 741, 3), (103, .goto 6, 3), (106, .lconst 1, 1)] = true := by decide +kernel
theorem dX1_transfer_76 : decode cX1_transfer 76 = .ok (.aload_n 0, 1) := zdec_at bX1_transfer_76 0 rfl
theorem dX1_transfer_77 : decode cX1_transfer 77 = .ok (.aload_n 0, 1) := zdec_at bX1_transfer_76 1 rfl
theorem dX1_transfer_78 : decode cX1_transfer 78 = .ok (.getfield 206, 3) := zdec_at bX1_transfer_76 2 rfl
theorem dX1_transfer_81 : decode cX1_transfer 81 = .ok (.iload_n 2, 1) := zdec_at bX1_transfer_76 3 rfl
theorem dX1_transfer_82 : decode cX1_transfer 82 = .ok (.iconst 5, 1) := zdec_at bX1_transfer_76 4 rfl
theorem dX1_transfer_83 : decode cX1_transfer 83 = .ok (.if_icmp .ne 10, 3) := zdec_at bX1_transfer_76 5 rfl
theorem dX1_transfer_86 : decode cX1_transfer 86 = .ok (.iload_n 3, 1) := zdec_at bX1_transfer_76 6 rfl
theorem dX1_transfer_87 : decode cX1_transfer 87 = .ok (.invokestatic 889, 3) := zdec_at bX1_transfer_76 7 rfl
theorem dX1_transfer_90 : decode cX1_transfer 90 = .ok (.goto 19, 3) := zdec_at bX1_transfer_76 8 rfl
theorem dX1_transfer_93 : decode cX1_transfer 93 = .ok (.iload_n 2, 1) := zdec_at bX1_transfer_76 9 rfl
theorem dX1_transfer_94 : decode cX1_transfer 94 = .ok (.bipush 6, 2) := zdec_at bX1_transfer_76 10 rfl
theorem dX1_transfer_96 : decode cX1_transfer 96 = .ok (.if_icmp .ne 10, 3) := zdec_at bX1_transfer_76 11 rfl
theorem dX1_transfer_99 : decode cX1_transfer 99 = .ok (.iload_n 3, 1) := zdec_at bX1_transfer_76 12 rfl
theorem dX1_transfer_100 : decode cX1_transfer 100 = .ok (.invokestatic 741, 3) := zdec_at bX1_transfer_76 13 rfl
theorem dX1_transfer_103 : decode cX1_transfer 103 = .ok (.goto 6, 3) := zdec_at bX1_transfer_76 14 rfl
theorem dX1_transfer_106 : decode cX1_transfer 106 = .ok (.lconst 1, 1) := zdec_at bX1_transfer_76 15 rfl
theorem bX1_transfer_107 : zdec cX1_transfer 107 [(107, .iload_n 2, 1), (108, .lshl, 1), (109, .invokevirtual 892, 3), (112, .invokevirtual 895, 3), (115, .goto 406, 3), (118, .aload_n 0, 1), (119, .iload_n 2, 1), (120, .iload_n 3, 1), (121, .invokevirtual 898, 3), (124, .goto 397, 3), (127, .aload_n 0, 1), (128, .iload_n 2, 1), (129, .invokevirtual 900, 3), (132, .aload_n 0, 1), (133, .getfield 684, 3), (136, .aload_n 0, 1)] = true := by decide +kernel
theorem dX1_transfer_107 : decode cX1_transfer 107 = .ok (.iload_n 2, 1) := zdec_at bX1_transfer_107 0 rfl
theorem dX1_transfer_108 : decode cX1_transfer 108 = .ok (.lshl, 1) := zdec_at bX1_transfer_107 1 rfl
theorem dX1_transfer_109 : decode cX1_transfer 109 = .ok (.invokevirtual 892, 3) := zdec_at bX1_transfer_107 2 rfl
theorem dX1_transfer_112 : decode cX1_transfer 112 = .ok (.invokevirtual 895, 3) := zdec_at bX1_transfer_107 3 rfl
theorem dX1_transfer_115 : decode cX1_transfer 115 = .ok (.goto 406, 3) := zdec_at bX1_transfer_107 4 rfl
theorem dX1_transfer_118 : decode cX1_transfer 118 = .ok (.aload_n 0, 1) := zdec_at bX1_transfer_107 5 rfl
theorem dX1_transfer_119 : decode cX1_transfer 119 = .ok (.iload_n 2, 1) := zdec_at bX1_transfer_107 6 rfl
theorem dX1_transfer_120 : decode cX1_transfer 120 = .ok (.iload_n 3, 1) := zdec_at bX1_transfer_107 7 rfl
theorem dX1_transfer_121 : decode cX1_transfer 121 = .ok (.invokevirtual 898, 3) := zdec_at bX1_transfer_107 8 rfl
theorem dX1_transfer_124 : decode cX1_transfer 124 = .ok (.goto 397, 3) := zdec_at bX1_transfer_107 9 rfl
theorem dX1_transfer_127 : decode cX1_transfer 127 = .ok (.aload_n 0, 1) := zdec_at bX1_transfer_107 10 rfl
theorem dX1_transfer_128 : decode cX1_transfer 128 = .ok (.iload_n 2, 1) := zdec_at bX1_transfer_107 11 rfl
theorem dX1_transfer_129 : decode cX1_transfer 129 = .ok (.invokevirtual 900, 3) := zdec_at bX1_transfer_107 12 rfl
theorem dX1_transfer_132 : decode cX1_transfer 132 = .ok (.aload_n 0, 1) := zdec_at bX1_transfer_107 13 rfl
theorem dX1_transfer_133 : decode cX1_transfer 133 = .ok (.getfield 684, 3) := zdec_at bX1_transfer_107 14 rfl
theorem dX1_transfer_136 : decode cX1_transfer 136 = .ok (.aload_n 0, 1) := zdec_at bX1_transfer_107 15 rfl
theorem bX1_transfer_137 : zdec cX1_transfer 137 [(137, .getfield 684, 3), (140, .getfield 726, 3), (143, .iconst 1, 1), (144, .isub, 1), (145, .aload_n 0, 1), (146, .getfield 206, 3), (149, .invokevirtual 903, 3), (152, .pop, 1), (153, .aload_n 0, 1), (154, .aload_n 0, 1), (155, .lconst 0, 1), (156, .dup2_x1, 1), (157, .putfield 821, 3), (160, .putfield 818, 3), (163, .aload_n 0, 1), (164, .iconst 0, 1)] = true := by decide +kernel
theorem dX1_transfer_137 : decode cX1_transfer 137 = .ok (.getfield 684, 3) := zdec_at bX1_transfer_137 0 rfl
theorem dX1_transfer_140 : decode cX1_transfer 140 = .ok (.getfield 726, 3) := zdec_at bX1_transfer_137 1 rfl
theorem dX1_transfer_143 : decode cX1_transfer 143 = .ok (.iconst 1, 1) := zdec_at bX1_transfer_137 2 rfl
theorem dX1_transfer_144 : decode cX1_transfer 144 = .ok (.isub, 1) := zdec_at bX1_transfer_137 3 rfl
theorem dX1_transfer_145 : decode cX1_transfer 145 = .ok (.aload_n 0, 1) := zdec_at bX1_transfer_137 4 rfl
theorem dX1_transfer_146 : decode cX1_transfer 146 = .ok (.getfield 206, 3) := zdec_at bX1_transfer_137 5 rfl
theorem dX1_transfer_149 : decode cX1_transfer 149 = .ok (.invokevirtual 903, 3) := zdec_at bX1_transfer_137 6 rfl
theorem dX1_transfer_152 : decode cX1_transfer 152 = .ok (.pop, 1) := zdec_at bX1_transfer_137 7 rfl
theorem dX1_transfer_153 : decode cX1_transfer 153 = .ok (.aload_n 0, 1) := zdec_at bX1_transfer_137 8 rfl
theorem dX1_transfer_154 : decode cX1_transfer 154 = .ok (.aload_n 0, 1) := zdec_at bX1_transfer_137 9 rfl
theorem dX1_transfer_155 : decode cX1_transfer 155 = .ok (.lconst 0, 1) := zdec_at bX1_transfer_137 10 rfl
theorem dX1_transfer_156 : decode cX1_transfer 156 = .ok (.dup2_x1, 1) := zdec_at bX1_transfer_137 11 rfl
theorem dX1_transfer_157 : decode cX1_transfer 157 = .ok (.putfield 821, 3) := zdec_at bX1_transfer_137 12 rfl
theorem dX1_transfer_160 : decode cX1_transfer 160 = .ok (.putfield 818, 3) := zdec_at bX1_transfer_137 13 rfl
theorem dX1_transfer_163 : decode cX1_transfer 163 = .ok (.aload_n 0, 1) := zdec_at bX1_transfer_137 14 rfl
theorem dX1_transfer_164 : decode cX1_transfer 164 = .ok (.iconst 0, 1) := zdec_at bX1_transfer_137 15 rfl
theorem bX1_transfer_165 : zdec cX1_transfer 165 [(165, .putfield 824, 3), (168, .aload_n 0, 1), (169, .iload_n 3, 1), (170, .invokevirtual 834, 3), (173, .aload_n 0, 1), (174, .aload_n 0, 1), (175, .getfield 906, 3), (178, .aload_n 0, 1), (179, .getfield 907, 3), (182, .iconst 1, 1), (183, .aload_n 0, 1), (184, .getfield 206, 3), (187, .invokevirtual 908, 3), (190, .aload_n 0, 1), (191, .aload_n 0, 1), (192, .getfield 713, 3)] = true := by decide +kernel
theorem dX1_transfer_165 : decode cX1_transfer 165 = .ok (.putfield 824, 3) := zdec_at bX1_transfer_165 0 rfl
theorem dX1_transfer_168 : decode cX1_transfer 168 = .ok (.aload_n 0, 1) := zdec_at bX1_transfer_165 1 rfl
theorem dX1_transfer_169 : decode cX1_transfer 169 = .ok (.iload_n 3, 1) := zdec_at bX1_transfer_165 2 rfl
theorem dX1_transfer_170 : decode cX1_transfer 170 = .ok (.invokevirtual 834, 3) := zdec_at bX1_transfer_165 3 rfl
theorem dX1_transfer_173 : decode cX1_transfer 173 = .ok (.aload_n 0, 1) := zdec_at bX1_transfer_165 4 rfl
theorem dX1_transfer_174 : decode cX1_transfer 174 = .ok (.aload_n 0, 1) := zdec_at bX1_transfer_165 5 rfl
theorem dX1_transfer_175 : decode cX1_transfer 175 = .ok (.getfield 906, 3) := zdec_at bX1_transfer_165 6 rfl
theorem dX1_transfer_178 : decode cX1_transfer 178 = .ok (.aload_n 0, 1) := zdec_at bX1_transfer_165 7 rfl
theorem dX1_transfer_179 : decode cX1_transfer 179 = .ok (.getfield 907, 3) := zdec_at bX1_transfer_165 8 rfl
theorem dX1_transfer_182 : decode cX1_transfer 182 = .ok (.iconst 1, 1) := zdec_at bX1_transfer_165 9 rfl
theorem dX1_transfer_183 : decode cX1_transfer 183 = .ok (.aload_n 0, 1) := zdec_at bX1_transfer_165 10 rfl
theorem dX1_transfer_184 : decode cX1_transfer 184 = .ok (.getfield 206, 3) := zdec_at bX1_transfer_165 11 rfl
theorem dX1_transfer_187 : decode cX1_transfer 187 = .ok (.invokevirtual 908, 3) := zdec_at bX1_transfer_165 12 rfl
theorem dX1_transfer_190 : decode cX1_transfer 190 = .ok (.aload_n 0, 1) := zdec_at bX1_transfer_165 13 rfl
theorem dX1_transfer_191 : decode cX1_transfer 191 = .ok (.aload_n 0, 1) := zdec_at bX1_transfer_165 14 rfl
theorem dX1_transfer_192 : decode cX1_transfer 192 = .ok (.getfield 713, 3) := zdec_at bX1_transfer_165 15 rfl
theorem bX1_transfer_195 : zdec cX1_transfer 195 [(195, .iconst 1, 1), (196, .iadd, 1), (197, .invokevirtual 770, 3), (200, .goto 321, 3), (203, .aload_n 0, 1), (204, .iload_n 3, 1), (205, .iconst 0, 1), (206, .invokevirtual 912, 3), (209, .goto 312, 3), (212, .aload_n 0, 1), (213, .getfield 684, 3), (216, .aload_n 0, 1), (217, .getfield 684, 3), (220, .getfield 726, 3), (223, .iconst 1, 1), (224, .isub, 1)] = true := by decide +kernel
theorem dX1_transfer_195 : decode cX1_transfer 195 = .ok (.iconst 1, 1) := zdec_at bX1_transfer_195 0 rfl
theorem dX1_transfer_196 : decode cX1_transfer 196 = .ok (.iadd, 1) := zdec_at bX1_transfer_195 1 rfl
theorem dX1_transfer_197 : decode cX1_transfer 197 = .ok (.invokevirtual 770, 3) := zdec_at bX1_transfer_195 2 rfl
theorem dX1_transfer_200 : decode cX1_transfer 200 = .ok (.goto 321, 3) := zdec_at bX1_transfer_195 3 rfl
theorem dX1_transfer_203 : decode cX1_transfer 203 = .ok (.aload_n 0, 1) := zdec_at bX1_transfer_195 4 rfl
theorem dX1_transfer_204 : decode cX1_transfer 204 = .ok (.iload_n 3, 1) := zdec_at bX1_transfer_195 5 rfl
theorem dX1_transfer_205 : decode cX1_transfer 205 = .ok (.iconst 0, 1) := zdec_at bX1_transfer_195 6 rfl
theorem dX1_transfer_206 : decode cX1_transfer 206 = .ok (.invokevirtual 912, 3) := zdec_at bX1_transfer_195 7 rfl
theorem dX1_transfer_209 : decode cX1_transfer 209 = .ok (.goto 312, 3) := zdec_at bX1_transfer_195 8 rfl
theorem dX1_transfer_212 : decode cX1_transfer 212 = .ok (.aload_n 0, 1) := zdec_at bX1_transfer_195 9 rfl
theorem dX1_transfer_213 : decode cX1_transfer 213 = .ok (.getfield 684, 3) := zdec_at bX1_transfer_195 10 rfl
theorem dX1_transfer_216 : decode cX1_transfer 216 = .ok (.aload_n 0, 1) := zdec_at bX1_transfer_195 11 rfl
theorem dX1_transfer_217 : decode cX1_transfer 217 = .ok (.getfield 684, 3) := zdec_at bX1_transfer_195 12 rfl
theorem dX1_transfer_220 : decode cX1_transfer 220 = .ok (.getfield 726, 3) := zdec_at bX1_transfer_195 13 rfl
theorem dX1_transfer_223 : decode cX1_transfer 223 = .ok (.iconst 1, 1) := zdec_at bX1_transfer_195 14 rfl
theorem dX1_transfer_224 : decode cX1_transfer 224 = .ok (.isub, 1) := zdec_at bX1_transfer_195 15 rfl
theorem bX1_transfer_225 : zdec cX1_transfer 225 [(225, .aload_n 0, 1), (226, .getfield 206, 3), (229, .invokevirtual 903, 3), (232, .pop, 1), (233, .aload_n 0, 1), (234, .getfield 684, 3), (237, .iconst 0, 1), (238, .iload_n 3, 1), (239, .aload_n 0, 1), (240, .getfield 206, 3), (243, .getfield 916, 3), (246, .aload_n 0, 1), (247, .getfield 206, 3), (250, .getfield 918, 3), (253, .aload_n 0, 1), (254, .getfield 206, 3)] = true := by decide +kernel
theorem dX1_transfer_225 : decode cX1_transfer 225 = .ok (.aload_n 0, 1) := zdec_at bX1_transfer_225 0 rfl
theorem dX1_transfer_226 : decode cX1_transfer 226 = .ok (.getfield 206, 3) := zdec_at bX1_transfer_225 1 rfl
theorem dX1_transfer_229 : decode cX1_transfer 229 = .ok (.invokevirtual 903, 3) := zdec_at bX1_transfer_225 2 rfl
theorem dX1_transfer_232 : decode cX1_transfer 232 = .ok (.pop, 1) := zdec_at bX1_transfer_225 3 rfl
theorem dX1_transfer_233 : decode cX1_transfer 233 = .ok (.aload_n 0, 1) := zdec_at bX1_transfer_225 4 rfl
theorem dX1_transfer_234 : decode cX1_transfer 234 = .ok (.getfield 684, 3) := zdec_at bX1_transfer_225 5 rfl
theorem dX1_transfer_237 : decode cX1_transfer 237 = .ok (.iconst 0, 1) := zdec_at bX1_transfer_225 6 rfl
theorem dX1_transfer_238 : decode cX1_transfer 238 = .ok (.iload_n 3, 1) := zdec_at bX1_transfer_225 7 rfl
theorem dX1_transfer_239 : decode cX1_transfer 239 = .ok (.aload_n 0, 1) := zdec_at bX1_transfer_225 8 rfl
theorem dX1_transfer_240 : decode cX1_transfer 240 = .ok (.getfield 206, 3) := zdec_at bX1_transfer_225 9 rfl
theorem dX1_transfer_243 : decode cX1_transfer 243 = .ok (.getfield 916, 3) := zdec_at bX1_transfer_225 10 rfl
theorem dX1_transfer_246 : decode cX1_transfer 246 = .ok (.aload_n 0, 1) := zdec_at bX1_transfer_225 11 rfl
theorem dX1_transfer_247 : decode cX1_transfer 247 = .ok (.getfield 206, 3) := zdec_at bX1_transfer_225 12 rfl
theorem dX1_transfer_250 : decode cX1_transfer 250 = .ok (.getfield 918, 3) := zdec_at bX1_transfer_225 13 rfl
theorem dX1_transfer_253 : decode cX1_transfer 253 = .ok (.aload_n 0, 1) := zdec_at bX1_transfer_225 14 rfl
theorem dX1_transfer_254 : decode cX1_transfer 254 = .ok (.getfield 206, 3) := zdec_at bX1_transfer_225 15 rfl
theorem bX1_transfer_257 : zdec cX1_transfer 257 [(257, .getfield 920, 3), (260, .invokevirtual 722, 3), (263, .aload_n 0, 1), (264, .aload_n 0, 1), (265, .getfield 713, 3), (268, .iconst 1, 1), (269, .iadd, 1), (270, .invokevirtual 770, 3), (273, .goto 248, 3), (276, .aload_n 0, 1), (277, .iload_n 3, 1), (278, .iconst 1, 1), (279, .invokevirtual 912, 3), (282, .goto 239, 3), (285, .aload_n 0, 1), (286, .getfield 206, 3)] = true := by decide +kernel
theorem dX1_transfer_257 : decode cX1_transfer 257 = .ok (.getfield 920, 3) := zdec_at bX1_transfer_257 0 rfl
theorem dX1_transfer_260 : decode cX1_transfer 260 = .ok (.invokevirtual 722, 3) := zdec_at bX1_transfer_257 1 rfl
theorem dX1_transfer_263 : decode cX1_transfer 263 = .ok (.aload_n 0, 1) := zdec_at bX1_transfer_257 2 rfl
theorem dX1_transfer_264 : decode cX1_transfer 264 = .ok (.aload_n 0, 1) := zdec_at bX1_transfer_257 3 rfl
theorem dX1_transfer_265 : decode cX1_transfer 265 = .ok (.getfield 713, 3) := zdec_at bX1_transfer_257 4 rfl
theorem dX1_transfer_268 : decode cX1_transfer 268 = .ok (.iconst 1, 1) := zdec_at bX1_transfer_257 5 rfl
theorem dX1_transfer_269 : decode cX1_transfer 269 = .ok (.iadd, 1) := zdec_at bX1_transfer_257 6 rfl
theorem dX1_transfer_270 : decode cX1_transfer 270 = .ok (.invokevirtual 770, 3) := zdec_at bX1_transfer_257 7 rfl
theorem dX1_transfer_273 : decode cX1_transfer 273 = .ok (.goto 248, 3) := zdec_at bX1_transfer_257 8 rfl
theorem dX1_transfer_276 : decode cX1_transfer 276 = .ok (.aload_n 0, 1) := zdec_at bX1_transfer_257 9 rfl
theorem dX1_transfer_277 : decode cX1_transfer 277 = .ok (.iload_n 3, 1) := zdec_at bX1_transfer_257 10 rfl
theorem dX1_transfer_278 : decode cX1_transfer 278 = .ok (.iconst 1, 1) := zdec_at bX1_transfer_257 11 rfl
theorem dX1_transfer_279 : decode cX1_transfer 279 = .ok (.invokevirtual 912, 3) := zdec_at bX1_transfer_257 12 rfl
theorem dX1_transfer_282 : decode cX1_transfer 282 = .ok (.goto 239, 3) := zdec_at bX1_transfer_257 13 rfl
theorem dX1_transfer_285 : decode cX1_transfer 285 = .ok (.aload_n 0, 1) := zdec_at bX1_transfer_257 14 rfl
theorem dX1_transfer_286 : decode cX1_transfer 286 = .ok (.getfield 206, 3) := zdec_at bX1_transfer_257 15 rfl
theorem bX1_transfer_289 : zdec cX1_transfer 289 [(289, .aload_n 0, 1), (290, .getfield 684, 3), (293, .getfield 751, 3), (296, .invokevirtual 892, 3), (299, .aload_n 0, 1), (300, .getfield 684, 3), (303, .getfield 745, 3), (306, .aload_n 0, 1), (307, .getfield 684, 3), (310, .getfield 748, 3), (313, .lconst 0, 1), (314, .invokevirtual 871, 3), (317, .pop, 1), (318, .aload_n 0, 1), (319, .aload_n 0, 1), (320, .getfield 206, 3)] = true := by decide +kernel
theorem dX1_transfer_289 : decode cX1_transfer 289 = .ok (.aload_n 0, 1) := zdec_at bX1_transfer_289 0 rfl
theorem dX1_transfer_290 : decode cX1_transfer 290 = .ok (.getfield 684, 3) := zdec_at bX1_transfer_289 1 rfl
theorem dX1_transfer_293 : decode cX1_transfer 293 = .ok (.getfield 751, 3) := zdec_at bX1_transfer_289 2 rfl
theorem dX1_transfer_296 : decode cX1_transfer 296 = .ok (.invokevirtual 892, 3) := zdec_at bX1_transfer_289 3 rfl
theorem dX1_transfer_299 : decode cX1_transfer 299 = .ok (.aload_n 0, 1) := zdec_at bX1_transfer_289 4 rfl
theorem dX1_transfer_300 : decode cX1_transfer 300 = .ok (.getfield 684, 3) := zdec_at bX1_transfer_289 5 rfl
theorem dX1_transfer_303 : decode cX1_transfer 303 = .ok (.getfield 745, 3) := zdec_at bX1_transfer_289 6 rfl
theorem dX1_transfer_306 : decode cX1_transfer 306 = .ok (.aload_n 0, 1) := zdec_at bX1_transfer_289 7 rfl
theorem dX1_transfer_307 : decode cX1_transfer 307 = .ok (.getfield 684, 3) := zdec_at bX1_transfer_289 8 rfl
theorem dX1_transfer_310 : decode cX1_transfer 310 = .ok (.getfield 748, 3) := zdec_at bX1_transfer_289 9 rfl
theorem dX1_transfer_313 : decode cX1_transfer 313 = .ok (.lconst 0, 1) := zdec_at bX1_transfer_289 10 rfl
theorem dX1_transfer_314 : decode cX1_transfer 314 = .ok (.invokevirtual 871, 3) := zdec_at bX1_transfer_289 11 rfl
theorem dX1_transfer_317 : decode cX1_transfer 317 = .ok (.pop, 1) := zdec_at bX1_transfer_289 12 rfl
theorem dX1_transfer_318 : decode cX1_transfer 318 = .ok (.aload_n 0, 1) := zdec_at bX1_transfer_289 13 rfl
theorem dX1_transfer_319 : decode cX1_transfer 319 = .ok (.aload_n 0, 1) := zdec_at bX1_transfer_289 14 rfl
theorem dX1_transfer_320 : decode cX1_transfer 320 = .ok (.getfield 206, 3) := zdec_at bX1_transfer_289 15 rfl
theorem bX1_transfer_323 : zdec cX1_transfer 323 [(323, .invokevirtual 895, 3), (326, .goto 195, 3), (329, .aload_n 0, 1), (330, .getfield 684, 3), (333, .aload_n 0, 1), (334, .iload_n 2, 1), (335, .invokevirtual 486, 3), (338, .iload_n 1, 1), (339, .bipush 7, 2), (341, .if_icmp .ne 7, 3), (344, .iconst 1, 1), (345, .goto 4, 3), (348, .iconst 3, 1), (349, .invokevirtual 922, 3), (352, .iload_n 1, 1), (353, .bipush 8, 2)] = true := by decide +kernel
theorem dX1_transfer_323 : decode cX1_transfer 323 = .ok (.invokevirtual 895, 3) := zdec_at bX1_transfer_323 0 rfl
theorem dX1_transfer_326 : decode cX1_transfer 326 = .ok (.goto 195, 3) := zdec_at bX1_transfer_323 1 rfl
theorem dX1_transfer_329 : decode cX1_transfer 329 = .ok (.aload_n 0, 1) := zdec_at bX1_transfer_323 2 rfl
theorem dX1_transfer_330 : decode cX1_transfer 330 = .ok (.getfield 684, 3) := zdec_at bX1_transfer_323 3 rfl
theorem dX1_transfer_333 : decode cX1_transfer 333 = .ok (.aload_n 0, 1) := zdec_at bX1_transfer_323 4 rfl
theorem dX1_transfer_334 : decode cX1_transfer 334 = .ok (.iload_n 2, 1) := zdec_at bX1_transfer_323 5 rfl
theorem dX1_transfer_335 : decode cX1_transfer 335 = .ok (.invokevirtual 486, 3) := zdec_at bX1_transfer_323 6 rfl
theorem dX1_transfer_338 : decode cX1_transfer 338 = .ok (.iload_n 1, 1) := zdec_at bX1_transfer_323 7 rfl
theorem dX1_transfer_339 : decode cX1_transfer 339 = .ok (.bipush 7, 2) := zdec_at bX1_transfer_323 8 rfl
theorem dX1_transfer_341 : decode cX1_transfer 341 = .ok (.if_icmp .ne 7, 3) := zdec_at bX1_transfer_323 9 rfl
theorem dX1_transfer_344 : decode cX1_transfer 344 = .ok (.iconst 1, 1) := zdec_at bX1_transfer_323 10 rfl
theorem dX1_transfer_345 : decode cX1_transfer 345 = .ok (.goto 4, 3) := zdec_at bX1_transfer_323 11 rfl
theorem dX1_transfer_348 : decode cX1_transfer 348 = .ok (.iconst 3, 1) := zdec_at bX1_transfer_323 12 rfl
theorem dX1_transfer_349 : decode cX1_transfer 349 = .ok (.invokevirtual 922, 3) := zdec_at bX1_transfer_323 13 rfl
theorem dX1_transfer_352 : decode cX1_transfer 352 = .ok (.iload_n 1, 1) := zdec_at bX1_transfer_323 14 rfl
theorem dX1_transfer_353 : decode cX1_transfer 353 = .ok (.bipush 8, 2) := zdec_at bX1_transfer_323 15 rfl
theorem bX1_transfer_355 : zdec cX1_transfer 355 [(355, .if_icmp .ne 22, 3), (358, .aload_n 0, 1), (359, .getfield 684, 3), (362, .aload_n 0, 1), (363, .iload_n 2, 1), (364, .invokevirtual 486, 3), (367, .iconst 0, 1), (368, .lconst 0, 1), (369, .lconst 0, 1), (370, .iconst 0, 1), (371, .invokestatic 889, 3), (374, .invokevirtual 722, 3), (377, .aload_n 0, 1), (378, .aload_n 0, 1), (379, .getfield 206, 3), (382, .invokevirtual 796, 3)] = true := by decide +kernel
theorem dX1_transfer_355 : decode cX1_transfer 355 = .ok (.if_icmp .ne 22, 3) := zdec_at bX1_transfer_355 0 rfl
theorem dX1_transfer_358 : decode cX1_transfer 358 = .ok (.aload_n 0, 1) := zdec_at bX1_transfer_355 1 rfl
theorem dX1_transfer_359 : decode cX1_transfer 359 = .ok (.getfield 684, 3) := zdec_at bX1_transfer_355 2 rfl
theorem dX1_transfer_362 : decode cX1_transfer 362 = .ok (.aload_n 0, 1) := zdec_at bX1_transfer_355 3 rfl
theorem dX1_transfer_363 : decode cX1_transfer 363 = .ok (.iload_n 2, 1) := zdec_at bX1_transfer_355 4 rfl
theorem dX1_transfer_364 : decode cX1_transfer 364 = .ok (.invokevirtual 486, 3) := zdec_at bX1_transfer_355 5 rfl
theorem dX1_transfer_367 : decode cX1_transfer 367 = .ok (.iconst 0, 1) := zdec_at bX1_transfer_355 6 rfl
theorem dX1_transfer_368 : decode cX1_transfer 368 = .ok (.lconst 0, 1) := zdec_at bX1_transfer_355 7 rfl
theorem dX1_transfer_369 : decode cX1_transfer 369 = .ok (.lconst 0, 1) := zdec_at bX1_transfer_355 8 rfl
theorem dX1_transfer_370 : decode cX1_transfer 370 = .ok (.iconst 0, 1) := zdec_at bX1_transfer_355 9 rfl
theorem dX1_transfer_371 : decode cX1_transfer 371 = .ok (.invokestatic 889, 3) := zdec_at bX1_transfer_355 10 rfl
theorem dX1_transfer_374 : decode cX1_transfer 374 = .ok (.invokevirtual 722, 3) := zdec_at bX1_transfer_355 11 rfl
theorem dX1_transfer_377 : decode cX1_transfer 377 = .ok (.aload_n 0, 1) := zdec_at bX1_transfer_355 12 rfl
theorem dX1_transfer_378 : decode cX1_transfer 378 = .ok (.aload_n 0, 1) := zdec_at bX1_transfer_355 13 rfl
theorem dX1_transfer_379 : decode cX1_transfer 379 = .ok (.getfield 206, 3) := zdec_at bX1_transfer_355 14 rfl
theorem dX1_transfer_382 : decode cX1_transfer 382 = .ok (.invokevirtual 796, 3) := zdec_at bX1_transfer_355 15 rfl
theorem bX1_transfer_385 : zdec cX1_transfer 385 [(385, .aload_n 0, 1), (386, .iload_n 2, 1), (387, .invokevirtual 486, 3), (390, .invokevirtual 800, 3), (393, .invokevirtual 895, 3), (396, .goto 125, 3), (399, .aload_n 0, 1), (400, .iload_n 2, 1), (401, .invokevirtual 925, 3), (404, .goto 117, 3), (407, .aload_n 0, 1), (408, .invokevirtual 928, 3), (411, .goto 110, 3), (414, .aload_n 0, 1), (415, .invokevirtual 931, 3), (418, .goto 103, 3)] = true := by decide +kernel
theorem dX1_transfer_385 : decode cX1_transfer 385 = .ok (.aload_n 0, 1) := zdec_at bX1_transfer_385 0 rfl
theorem dX1_transfer_386 : decode cX1_transfer 386 = .ok (.iload_n 2, 1) := zdec_at bX1_transfer_385 1 rfl
theorem dX1_transfer_387 : decode cX1_transfer 387 = .ok (.invokevirtual 486, 3) := zdec_at bX1_transfer_385 2 rfl
theorem dX1_transfer_390 : decode cX1_transfer 390 = .ok (.invokevirtual 800, 3) := zdec_at bX1_transfer_385 3 rfl
theorem dX1_transfer_393 : decode cX1_transfer 393 = .ok (.invokevirtual 895, 3) := zdec_at bX1_transfer_385 4 rfl
theorem dX1_transfer_396 : decode cX1_transfer 396 = .ok (.goto 125, 3) := zdec_at bX1_transfer_385 5 rfl
theorem dX1_transfer_399 : decode cX1_transfer 399 = .ok (.aload_n 0, 1) := zdec_at bX1_transfer_385 6 rfl
theorem dX1_transfer_400 : decode cX1_transfer 400 = .ok (.iload_n 2, 1) := zdec_at bX1_transfer_385 7 rfl
theorem dX1_transfer_401 : decode cX1_transfer 401 = .ok (.invokevirtual 925, 3) := zdec_at bX1_transfer_385 8 rfl
theorem dX1_transfer_404 : decode cX1_transfer 404 = .ok (.goto 117, 3) := zdec_at bX1_transfer_385 9 rfl
theorem dX1_transfer_407 : decode cX1_transfer 407 = .ok (.aload_n 0, 1) := zdec_at bX1_transfer_385 10 rfl
theorem dX1_transfer_408 : decode cX1_transfer 408 = .ok (.invokevirtual 928, 3) := zdec_at bX1_transfer_385 11 rfl
theorem dX1_transfer_411 : decode cX1_transfer 411 = .ok (.goto 110, 3) := zdec_at bX1_transfer_385 12 rfl
theorem dX1_transfer_414 : decode cX1_transfer 414 = .ok (.aload_n 0, 1) := zdec_at bX1_transfer_385 13 rfl
theorem dX1_transfer_415 : decode cX1_transfer 415 = .ok (.invokevirtual 931, 3) := zdec_at bX1_transfer_385 14 rfl
theorem dX1_transfer_418 : decode cX1_transfer 418 = .ok (.goto 103, 3) := zdec_at bX1_transfer_385 15 rfl
theorem bX1_transfer_421 : zdec cX1_transfer 421 [(421, .aload_n 0, 1), (422, .invokevirtual 934, 3), (425, .goto 96, 3), (428, .aload_n 0, 1), (429, .getfield 684, 3), (432, .aload_n 0, 1), (433, .getfield 206, 3), (436, .invokevirtual 937, 3), (439, .pop, 1), (440, .aload_n 0, 1), (441, .iload_n 2, 1), (442, .invokevirtual 941, 3), (445, .aload_n 0, 1), (446, .aload_n 0, 1), (447, .getfield 216, 3), (450, .invokevirtual 895, 3)] = true := by decide +kernel
theorem dX1_transfer_421 : decode cX1_transfer 421 = .ok (.aload_n 0, 1) := zdec_at bX1_transfer_421 0 rfl
theorem dX1_transfer_422 : decode cX1_transfer 422 = .ok (.invokevirtual 934, 3) := zdec_at bX1_transfer_421 1 rfl
theorem dX1_transfer_425 : decode cX1_transfer 425 = .ok (.goto 96, 3) := zdec_at bX1_transfer_421 2 rfl
theorem dX1_transfer_428 : decode cX1_transfer 428 = .ok (.aload_n 0, 1) := zdec_at bX1_transfer_421 3 rfl
theorem dX1_transfer_429 : decode cX1_transfer 429 = .ok (.getfield 684, 3) := zdec_at bX1_transfer_421 4 rfl
theorem dX1_transfer_432 : decode cX1_transfer 432 = .ok (.aload_n 0, 1) := zdec_at bX1_transfer_421 5 rfl
theorem dX1_transfer_433 : decode cX1_transfer 433 = .ok (.getfield 206, 3) := zdec_at bX1_transfer_421 6 rfl
theorem dX1_transfer_436 : decode cX1_transfer 436 = .ok (.invokevirtual 937, 3) := zdec_at bX1_transfer_421 7 rfl
theorem dX1_transfer_439 : decode cX1_transfer 439 = .ok (.pop, 1) := zdec_at bX1_transfer_421 8 rfl
theorem dX1_transfer_440 : decode cX1_transfer 440 = .ok (.aload_n 0, 1) := zdec_at bX1_transfer_421 9 rfl
theorem dX1_transfer_441 : decode cX1_transfer 441 = .ok (.iload_n 2, 1) := zdec_at bX1_transfer_421 10 rfl
theorem dX1_transfer_442 : decode cX1_transfer 442 = .ok (.invokevirtual 941, 3) := zdec_at bX1_transfer_421 11 rfl
theorem dX1_transfer_445 : decode cX1_transfer 445 = .ok (.aload_n 0, 1) := zdec_at bX1_transfer_421 12 rfl
theorem dX1_transfer_446 : decode cX1_transfer 446 = .ok (.aload_n 0, 1) := zdec_at bX1_transfer_421 13 rfl
theorem dX1_transfer_447 : decode cX1_transfer 447 = .ok (.getfield 216, 3) := zdec_at bX1_transfer_421 14 rfl
theorem dX1_transfer_450 : decode cX1_transfer 450 = .ok (.invokevirtual 895, 3) := zdec_at bX1_transfer_421 15 rfl
theorem bX1_transfer_453 : zdec cX1_transfer 453 [(453, .goto 68, 3), (456, .aload_n 0, 1), (457, .getfield 684, 3), (460, .aload_n 0, 1), (461, .getfield 210, 3), (464, .invokevirtual 937, 3), (467, .pop, 1), (468, .aload_n 0, 1), (469, .getfield 684, 3), (472, .aload_n 0, 1), (473, .getfield 206, 3), (476, .invokevirtual 937, 3), (479, .pop, 1), (480, .iload_n 2, 1), (481, .bipush 19, 2), (483, .if_icmp .ne 10, 3)] = true := by decide +kernel
theorem dX1_transfer_453 : decode cX1_transfer 453 = .ok (.goto 68, 3) := zdec_at bX1_transfer_453 0 rfl
theorem dX1_transfer_456 : decode cX1_transfer 456 = .ok (.aload_n 0, 1) := zdec_at bX1_transfer_453 1 rfl
theorem dX1_transfer_457 : decode cX1_transfer 457 = .ok (.getfield 684, 3) := zdec_at bX1_transfer_453 2 rfl
theorem dX1_transfer_460 : decode cX1_transfer 460 = .ok (.aload_n 0, 1) := zdec_at bX1_transfer_453 3 rfl
theorem dX1_transfer_461 : decode cX1_transfer 461 = .ok (.getfield 210, 3) := zdec_at bX1_transfer_453 4 rfl
theorem dX1_transfer_464 : decode cX1_transfer 464 = .ok (.invokevirtual 937, 3) := zdec_at bX1_transfer_453 5 rfl
theorem dX1_transfer_467 : decode cX1_transfer 467 = .ok (.pop, 1) := zdec_at bX1_transfer_453 6 rfl
theorem dX1_transfer_468 : decode cX1_transfer 468 = .ok (.aload_n 0, 1) := zdec_at bX1_transfer_453 7 rfl
theorem dX1_transfer_469 : decode cX1_transfer 469 = .ok (.getfield 684, 3) := zdec_at bX1_transfer_453 8 rfl
theorem dX1_transfer_472 : decode cX1_transfer 472 = .ok (.aload_n 0, 1) := zdec_at bX1_transfer_453 9 rfl
theorem dX1_transfer_473 : decode cX1_transfer 473 = .ok (.getfield 206, 3) := zdec_at bX1_transfer_453 10 rfl
theorem dX1_transfer_476 : decode cX1_transfer 476 = .ok (.invokevirtual 937, 3) := zdec_at bX1_transfer_453 11 rfl
theorem dX1_transfer_479 : decode cX1_transfer 479 = .ok (.pop, 1) := zdec_at bX1_transfer_453 12 rfl
theorem dX1_transfer_480 : decode cX1_transfer 480 = .ok (.iload_n 2, 1) := zdec_at bX1_transfer_453 13 rfl
theorem dX1_transfer_481 : decode cX1_transfer 481 = .ok (.bipush 19, 2) := zdec_at bX1_transfer_453 14 rfl
theorem dX1_transfer_483 : decode cX1_transfer 483 = .ok (.if_icmp .ne 10, 3) := zdec_at bX1_transfer_453 15 rfl
theorem bX1_transfer_486 : zdec cX1_transfer 486 [(486, .aload_n 0, 1), (487, .invokevirtual 944, 3), (490, .goto 31, 3), (493, .iload_n 2, 1), (494, .bipush 20, 2), (496, .if_icmp .ne 10, 3), (499, .aload_n 0, 1), (500, .invokevirtual 947, 3), (503, .goto 18, 3), (506, .aload_n 0, 1), (507, .iload_n 2, 1), (508, .invokevirtual 950, 3), (511, .goto 10, 3), (514, .aload_n 0, 1), (515, .iload_n 1, 1), (516, .iload_n 2, 1)] = true := by decide +kernel
theorem dX1_transfer_486 : decode cX1_transfer 486 = .ok (.aload_n 0, 1) := zdec_at bX1_transfer_486 0 rfl
theorem dX1_transfer_487 : decode cX1_transfer 487 = .ok (.invokevirtual 944, 3) := zdec_at bX1_transfer_486 1 rfl
theorem dX1_transfer_490 : decode cX1_transfer 490 = .ok (.goto 31, 3) := zdec_at bX1_transfer_486 2 rfl
theorem dX1_transfer_493 : decode cX1_transfer 493 = .ok (.iload_n 2, 1) := zdec_at bX1_transfer_486 3 rfl
theorem dX1_transfer_494 : decode cX1_transfer 494 = .ok (.bipush 20, 2) := zdec_at bX1_transfer_486 4 rfl
theorem dX1_transfer_496 : decode cX1_transfer 496 = .ok (.if_icmp .ne 10, 3) := zdec_at bX1_transfer_486 5 rfl
theorem dX1_transfer_499 : decode cX1_transfer 499 = .ok (.aload_n 0, 1) := zdec_at bX1_transfer_486 6 rfl
theorem dX1_transfer_500 : decode cX1_transfer 500 = .ok (.invokevirtual 947, 3) := zdec_at bX1_transfer_486 7 rfl
theorem dX1_transfer_503 : decode cX1_transfer 503 = .ok (.goto 18, 3) := zdec_at bX1_transfer_486 8 rfl
theorem dX1_transfer_506 : decode cX1_transfer 506 = .ok (.aload_n 0, 1) := zdec_at bX1_transfer_486 9 rfl
theorem dX1_transfer_507 : decode cX1_transfer 507 = .ok (.iload_n 2, 1) := zdec_at bX1_transfer_486 10 rfl
theorem dX1_transfer_508 : decode cX1_transfer 508 = .ok (.invokevirtual 950, 3) := zdec_at bX1_transfer_486 11 rfl
theorem dX1_transfer_511 : decode cX1_transfer 511 = .ok (.goto 10, 3) := zdec_at bX1_transfer_486 12 rfl
theorem dX1_transfer_514 : decode cX1_transfer 514 = .ok (.aload_n 0, 1) := zdec_at bX1_transfer_486 13 rfl
theorem dX1_transfer_515 : decode cX1_transfer 515 = .ok (.iload_n 1, 1) := zdec_at bX1_transfer_486 14 rfl
theorem dX1_transfer_516 : decode cX1_transfer 516 = .ok (.iload_n 2, 1) := zdec_at bX1_transfer_486 15 rfl
theorem bX1_transfer_517 : zdec cX1_transfer 517 [(517, .iload_n 3, 1), (518, .invokevirtual 953, 3), (521, .return_, 1)] = true := by decide +kernel
theorem dX1_transfer_517 : decode cX1_transfer 517 = .ok (.iload_n 3, 1) := zdec_at bX1_transfer_517 0 rfl
theorem dX1_transfer_518 : decode cX1_transfer 518 = .ok (.invokevirtual 953, 3) := zdec_at bX1_transfer_517 1 rfl
theorem dX1_transfer_521 : decode cX1_transfer 521 = .ok (.return_, 1) := zdec_at bX1_transfer_517 2 rfl
theorem sX1_transfer_0 {E : zE} {d : Nat} {Q : zO → zM → Prop} (M : zM) (l1 : Int32) (l2 : Int32) (l3 : Int32) (hw : cw M) (k : if l1 = 0 then (if l2 = (5 : Int32) then (Z E YX1_numberSet d M (zargs 0 [vi l3]) 0 [] (zafter E YX1_transfer (d + 1) [] 87 3 [vr (some (71, 4, 0)), vr (some (16, 0, 0))] Q)) else (if l2 = (6 : Int32) then (Z E YX1_textSet d M (zargs 0 [vi l3]) 0 [] (zafter E YX1_transfer (d + 1) [] 100 3 [vr (some (71, 4, 0)), vr (some (16, 0, 0))] Q)) else (Z E YX6_of d M (zargs 0 [vr (some (71, 4, 0)), vl (zls (1 : Int64) l2)]) 0 [] (zafter E YX1_transfer (d + 1) [] 109 3 [vr (some (16, 0, 0))] Q)))) else (if l1 = 1 then (Z E YX1_load d M (zargs 0 [vr (some (16, 0, 0)), vi l2, vi l3]) 0 [] (zafter E YX1_transfer (d + 1) [] 121 3 [] Q)) else (if l1 = 2 then (Z E YX1_scope d M (zargs 0 [vr (some (16, 0, 0)), vi l2]) 0 [] (zafter E YX1_transfer (d + 1) [(0, vr (some (16, 0, 0))), (3, vi l3)] 129 3 [] Q)) else (if l1 = 3 then (Z E YX1_global d M (zargs 0 [vr (some (16, 0, 0)), vi l3, vi (0 : Int32)]) 0 [] (zafter E YX1_transfer (d + 1) [] 206 3 [] Q)) else (if l1 = 4 then (∃ b1 : Nat, (gr M 16 60) = some (b1, 7, 0) ∧ (Z E YX43_at d M (zargs 0 [vr (some (b1, 7, 0)), vi ((gi M b1 13) - (1 : Int32)), vr (some (71, 4, 0))]) 0 [] (zafter E YX1_transfer (d + 1) [(0, vr (some (16, 0, 0))), (3, vi l3)] 229 3 [] Q))) else (if l1 = 5 then (Z E YX1_global d M (zargs 0 [vr (some (16, 0, 0)), vi l3, vi (1 : Int32)]) 0 [] (zafter E YX1_transfer (d + 1) [] 279 3 [] Q)) else (if l1 = 6 then (∃ b2 : Nat, (gr M 16 60) = some (b2, 7, 0) ∧ (Z E YX6_of d M (zargs 0 [vr (some (71, 4, 0)), vl (gl M b2 16)]) 0 [] (zafter E YX1_transfer (d + 1) [(0, vr (some (16, 0, 0)))] 296 3 [] Q))) else (if l1 = 7 then (Z E YX1_sitePair d M (zargs 0 [vr (some (16, 0, 0)), vi l2]) 0 [] (zafter E YX1_transfer (d + 1) [(0, vr (some (16, 0, 0))), (1, vi l1), (2, vi l2)] 335 3 [vr (gr M 16 60)] Q)) else (if l1 = 8 then (Z E YX1_sitePair d M (zargs 0 [vr (some (16, 0, 0)), vi l2]) 0 [] (zafter E YX1_transfer (d + 1) [(0, vr (some (16, 0, 0))), (1, vi l1), (2, vi l2)] 335 3 [vr (gr M 16 60)] Q)) else (if l1 = 9 then (Z E YX1_function d M (zargs 0 [vr (some (16, 0, 0)), vi l2]) 0 [] (zafter E YX1_transfer (d + 1) [] 401 3 [] Q)) else (if l1 = 10 then (Z E YX1_gets d M (zargs 0 [vr (some (16, 0, 0))]) 0 [] (zafter E YX1_transfer (d + 1) [] 408 3 [] Q)) else (if l1 = 11 then (Z E YX1_puts d M (zargs 0 [vr (some (16, 0, 0))]) 0 [] (zafter E YX1_transfer (d + 1) [] 415 3 [] Q)) else (if l1 = 12 then (Z E YX1_deletes d M (zargs 0 [vr (some (16, 0, 0))]) 0 [] (zafter E YX1_transfer (d + 1) [] 422 3 [] Q)) else (if l1 = 13 then (∃ b3 : Nat, (gr M 16 60) = some (b3, 7, 0) ∧ (Z E YX43_pop d M (zargs 0 [vr (some (b3, 7, 0)), vr (some (71, 4, 0))]) 0 [] (zafter E YX1_transfer (d + 1) [(0, vr (some (16, 0, 0))), (2, vi l2)] 436 3 [] Q))) else (if l1 = 14 then (∃ b4 : Nat, (gr M 16 60) = some (b4, 7, 0) ∧ (Z E YX43_pop d M (zargs 0 [vr (some (b4, 7, 0)), vr (some (72, 4, 0))]) 0 [] (zafter E YX1_transfer (d + 1) [(0, vr (some (16, 0, 0))), (2, vi l2)] 464 3 [] Q))) else (Z E YX1_goesOn d M (zargs 0 [vr (some (16, 0, 0)), vi l1, vi l2, vi l3]) 0 [] (zafter E YX1_transfer (d + 1) [] 518 3 [] Q))))))))))))))))) : Z E YX1_transfer (d + 1) M [(0, vr (some (16, 0, 0))), (1, vi l1), (2, vi l2), (3, vi l3)] 0 [] Q := by
  refine z_iload_n dX1_transfer_0 rfl rfl ?_
  by_cases h0_ : l1 = 0
  · have k := zit h0_ k
    refine z_tableIn (off := 75) (tgt := 76) dX1_transfer_1 (by rw [h0_]; decide) (by rw [h0_]; decide) (by rw [h0_]; rfl) rfl ?_
    refine z_aload_n dX1_transfer_76 rfl rfl ?_
    refine z_aload_n dX1_transfer_77 rfl rfl ?_
    refine z_getr dX1_transfer_78 fsX1_206_0 (show gr M 16 78 = some (71, 4, 0) from cw_at hw 39 rfl) ?_
    refine z_iload_n dX1_transfer_81 rfl rfl ?_
    refine z_iconst (v := 5) dX1_transfer_82 rfl ?_
    refine z_icmp_ne (tgt := 93) dX1_transfer_83 rfl (fun h_ => ?_) (fun h_ => ?_)
    · have k := zif h_ k
      refine z_iload_n dX1_transfer_93 rfl rfl ?_
      refine z_bipush (v := 6) dX1_transfer_94 rfl ?_
      refine z_icmp_ne (tgt := 106) dX1_transfer_96 rfl (fun h_ => ?_) (fun h_ => ?_)
      · have k := zif h_ k
        refine z_lconst (v := 1) dX1_transfer_106 rfl ?_
        refine z_iload_n dX1_transfer_107 rfl rfl ?_
        refine z_lshl dX1_transfer_108 ?_
        refine Z.pick [] rfl ?_
        exact z_callV (as := [vl (zls (1 : Int64) l2)]) (st := [vr (some (16, 0, 0))]) dX1_transfer_109 vsX1_892_4 (Nat.le_refl _) (Nat.le_of_ble_eq_true rfl) (Nat.le_of_ble_eq_true rfl) rfl k
      · have k := zit h_ k
        refine z_iload_n dX1_transfer_99 rfl rfl ?_
        refine Z.pick [] rfl ?_
        exact z_callS (as := [vi l3]) (st := [vr (some (71, 4, 0)), vr (some (16, 0, 0))]) dX1_transfer_100 ssX1_741 (Nat.le_refl _) (Nat.le_of_ble_eq_true rfl) (Nat.le_of_ble_eq_true rfl) rfl k
    · have k := zit h_ k
      refine z_iload_n dX1_transfer_86 rfl rfl ?_
      refine Z.pick [] rfl ?_
      exact z_callS (as := [vi l3]) (st := [vr (some (71, 4, 0)), vr (some (16, 0, 0))]) dX1_transfer_87 ssX1_889 (Nat.le_refl _) (Nat.le_of_ble_eq_true rfl) (Nat.le_of_ble_eq_true rfl) rfl k
  · have k := zif h0_ k
    by_cases h1_ : l1 = 1
    · have k := zit h1_ k
      refine z_tableIn (off := 117) (tgt := 118) dX1_transfer_1 (by rw [h1_]; decide) (by rw [h1_]; decide) (by rw [h1_]; rfl) rfl ?_
      refine z_aload_n dX1_transfer_118 rfl rfl ?_
      refine z_iload_n dX1_transfer_119 rfl rfl ?_
      refine z_iload_n dX1_transfer_120 rfl rfl ?_
      refine Z.pick [] rfl ?_
      exact z_callV (as := [vi l2, vi l3]) (st := []) dX1_transfer_121 vsX1_898_0 (Nat.le_refl _) (Nat.le_of_ble_eq_true rfl) (Nat.le_of_ble_eq_true rfl) rfl k
    · have k := zif h1_ k
      by_cases h2_ : l1 = 2
      · have k := zit h2_ k
        refine z_tableIn (off := 126) (tgt := 127) dX1_transfer_1 (by rw [h2_]; decide) (by rw [h2_]; decide) (by rw [h2_]; rfl) rfl ?_
        refine z_aload_n dX1_transfer_127 rfl rfl ?_
        refine z_iload_n dX1_transfer_128 rfl rfl ?_
        refine Z.pick [0, 3] rfl ?_
        exact z_callV (as := [vi l2]) (st := []) dX1_transfer_129 vsX1_900_0 (Nat.le_refl _) (Nat.le_of_ble_eq_true rfl) (Nat.le_of_ble_eq_true rfl) rfl k
      · have k := zif h2_ k
        by_cases h3_ : l1 = 3
        · have k := zit h3_ k
          refine z_tableIn (off := 202) (tgt := 203) dX1_transfer_1 (by rw [h3_]; decide) (by rw [h3_]; decide) (by rw [h3_]; rfl) rfl ?_
          refine z_aload_n dX1_transfer_203 rfl rfl ?_
          refine z_iload_n dX1_transfer_204 rfl rfl ?_
          refine z_iconst (v := 0) dX1_transfer_205 rfl ?_
          refine Z.pick [] rfl ?_
          exact z_callV (as := [vi l3, vi (0 : Int32)]) (st := []) dX1_transfer_206 vsX1_912_0 (Nat.le_refl _) (Nat.le_of_ble_eq_true rfl) (Nat.le_of_ble_eq_true rfl) rfl k
        · have k := zif h3_ k
          by_cases h4_ : l1 = 4
          · have k := zit h4_ k
            refine z_tableIn (off := 211) (tgt := 212) dX1_transfer_1 (by rw [h4_]; decide) (by rw [h4_]; decide) (by rw [h4_]; rfl) rfl ?_
            refine z_aload_n dX1_transfer_212 rfl rfl ?_
            refine z_getr (r := (gr M 16 60)) dX1_transfer_213 fsX1_684_0 rfl ?_
            refine z_aload_n dX1_transfer_216 rfl rfl ?_
            refine z_getr (r := (gr M 16 60)) dX1_transfer_217 fsX1_684_0 rfl ?_
            obtain ⟨b1, e1_, k⟩ := k
            refine Z.eqs (lv' := [(0, vr (some (16, 0, 0))), (1, vi l1), (2, vi l2), (3, vi l3)]) (st' := [vr (some (b1, 7, 0)), vr (some (b1, 7, 0))]) rfl (by rw [e1_] <;> rfl) ?_
            refine z_geti dX1_transfer_220 fsX1_726_7 ?_
            refine z_iconst (v := 1) dX1_transfer_223 rfl ?_
            refine z_isub dX1_transfer_224 ?_
            refine z_aload_n dX1_transfer_225 rfl rfl ?_
            refine z_getr dX1_transfer_226 fsX1_206_0 (show gr M 16 78 = some (71, 4, 0) from cw_at hw 39 rfl) ?_
            refine Z.pick [0, 3] rfl ?_
            exact z_callV (as := [vi ((gi M b1 13) - (1 : Int32)), vr (some (71, 4, 0))]) (st := []) dX1_transfer_229 vsX1_903_7 (Nat.le_refl _) (Nat.le_of_ble_eq_true rfl) (Nat.le_of_ble_eq_true rfl) rfl k
          · have k := zif h4_ k
            by_cases h5_ : l1 = 5
            · have k := zit h5_ k
              refine z_tableIn (off := 275) (tgt := 276) dX1_transfer_1 (by rw [h5_]; decide) (by rw [h5_]; decide) (by rw [h5_]; rfl) rfl ?_
              refine z_aload_n dX1_transfer_276 rfl rfl ?_
              refine z_iload_n dX1_transfer_277 rfl rfl ?_
              refine z_iconst (v := 1) dX1_transfer_278 rfl ?_
              refine Z.pick [] rfl ?_
              exact z_callV (as := [vi l3, vi (1 : Int32)]) (st := []) dX1_transfer_279 vsX1_912_0 (Nat.le_refl _) (Nat.le_of_ble_eq_true rfl) (Nat.le_of_ble_eq_true rfl) rfl k
            · have k := zif h5_ k
              by_cases h6_ : l1 = 6
              · have k := zit h6_ k
                refine z_tableIn (off := 284) (tgt := 285) dX1_transfer_1 (by rw [h6_]; decide) (by rw [h6_]; decide) (by rw [h6_]; rfl) rfl ?_
                refine z_aload_n dX1_transfer_285 rfl rfl ?_
                refine z_getr dX1_transfer_286 fsX1_206_0 (show gr M 16 78 = some (71, 4, 0) from cw_at hw 39 rfl) ?_
                refine z_aload_n dX1_transfer_289 rfl rfl ?_
                refine z_getr (r := (gr M 16 60)) dX1_transfer_290 fsX1_684_0 rfl ?_
                obtain ⟨b2, e2_, k⟩ := k
                refine Z.eqs (lv' := [(0, vr (some (16, 0, 0))), (1, vi l1), (2, vi l2), (3, vi l3)]) (st' := [vr (some (b2, 7, 0)), vr (some (71, 4, 0))]) rfl (by rw [e2_] <;> rfl) ?_
                refine z_getl dX1_transfer_293 fsX1_751_7 ?_
                refine Z.pick [0] rfl ?_
                exact z_callV (as := [vl (gl M b2 16)]) (st := []) dX1_transfer_296 vsX1_892_4 (Nat.le_refl _) (Nat.le_of_ble_eq_true rfl) (Nat.le_of_ble_eq_true rfl) rfl k
              · have k := zif h6_ k
                by_cases h7_ : l1 = 7
                · have k := zit h7_ k
                  refine z_tableIn (off := 328) (tgt := 329) dX1_transfer_1 (by rw [h7_]; decide) (by rw [h7_]; decide) (by rw [h7_]; rfl) rfl ?_
                  refine z_aload_n dX1_transfer_329 rfl rfl ?_
                  refine z_getr (r := (gr M 16 60)) dX1_transfer_330 fsX1_684_0 rfl ?_
                  refine z_aload_n dX1_transfer_333 rfl rfl ?_
                  refine z_iload_n dX1_transfer_334 rfl rfl ?_
                  refine Z.pick [0, 1, 2] rfl ?_
                  exact z_callV (as := [vi l2]) (st := [vr (gr M 16 60)]) dX1_transfer_335 vsX1_486_0 (Nat.le_refl _) (Nat.le_of_ble_eq_true rfl) (Nat.le_of_ble_eq_true rfl) rfl k
                · have k := zif h7_ k
                  by_cases h8_ : l1 = 8
                  · have k := zit h8_ k
                    refine z_tableIn (off := 328) (tgt := 329) dX1_transfer_1 (by rw [h8_]; decide) (by rw [h8_]; decide) (by rw [h8_]; rfl) rfl ?_
                    refine z_aload_n dX1_transfer_329 rfl rfl ?_
                    refine z_getr (r := (gr M 16 60)) dX1_transfer_330 fsX1_684_0 rfl ?_
                    refine z_aload_n dX1_transfer_333 rfl rfl ?_
                    refine z_iload_n dX1_transfer_334 rfl rfl ?_
                    refine Z.pick [0, 1, 2] rfl ?_
                    exact z_callV (as := [vi l2]) (st := [vr (gr M 16 60)]) dX1_transfer_335 vsX1_486_0 (Nat.le_refl _) (Nat.le_of_ble_eq_true rfl) (Nat.le_of_ble_eq_true rfl) rfl k
                  · have k := zif h8_ k
                    by_cases h9_ : l1 = 9
                    · have k := zit h9_ k
                      refine z_tableIn (off := 398) (tgt := 399) dX1_transfer_1 (by rw [h9_]; decide) (by rw [h9_]; decide) (by rw [h9_]; rfl) rfl ?_
                      refine z_aload_n dX1_transfer_399 rfl rfl ?_
                      refine z_iload_n dX1_transfer_400 rfl rfl ?_
                      refine Z.pick [] rfl ?_
                      exact z_callV (as := [vi l2]) (st := []) dX1_transfer_401 vsX1_925_0 (Nat.le_refl _) (Nat.le_of_ble_eq_true rfl) (Nat.le_of_ble_eq_true rfl) rfl k
                    · have k := zif h9_ k
                      by_cases h10_ : l1 = 10
                      · have k := zit h10_ k
                        refine z_tableIn (off := 406) (tgt := 407) dX1_transfer_1 (by rw [h10_]; decide) (by rw [h10_]; decide) (by rw [h10_]; rfl) rfl ?_
                        refine z_aload_n dX1_transfer_407 rfl rfl ?_
                        refine Z.pick [] rfl ?_
                        exact z_callV (as := []) (st := []) dX1_transfer_408 vsX1_928_0 (Nat.le_refl _) (Nat.le_of_ble_eq_true rfl) (Nat.le_of_ble_eq_true rfl) rfl k
                      · have k := zif h10_ k
                        by_cases h11_ : l1 = 11
                        · have k := zit h11_ k
                          refine z_tableIn (off := 413) (tgt := 414) dX1_transfer_1 (by rw [h11_]; decide) (by rw [h11_]; decide) (by rw [h11_]; rfl) rfl ?_
                          refine z_aload_n dX1_transfer_414 rfl rfl ?_
                          refine Z.pick [] rfl ?_
                          exact z_callV (as := []) (st := []) dX1_transfer_415 vsX1_931_0 (Nat.le_refl _) (Nat.le_of_ble_eq_true rfl) (Nat.le_of_ble_eq_true rfl) rfl k
                        · have k := zif h11_ k
                          by_cases h12_ : l1 = 12
                          · have k := zit h12_ k
                            refine z_tableIn (off := 420) (tgt := 421) dX1_transfer_1 (by rw [h12_]; decide) (by rw [h12_]; decide) (by rw [h12_]; rfl) rfl ?_
                            refine z_aload_n dX1_transfer_421 rfl rfl ?_
                            refine Z.pick [] rfl ?_
                            exact z_callV (as := []) (st := []) dX1_transfer_422 vsX1_934_0 (Nat.le_refl _) (Nat.le_of_ble_eq_true rfl) (Nat.le_of_ble_eq_true rfl) rfl k
                          · have k := zif h12_ k
                            by_cases h13_ : l1 = 13
                            · have k := zit h13_ k
                              refine z_tableIn (off := 427) (tgt := 428) dX1_transfer_1 (by rw [h13_]; decide) (by rw [h13_]; decide) (by rw [h13_]; rfl) rfl ?_
                              refine z_aload_n dX1_transfer_428 rfl rfl ?_
                              refine z_getr (r := (gr M 16 60)) dX1_transfer_429 fsX1_684_0 rfl ?_
                              refine z_aload_n dX1_transfer_432 rfl rfl ?_
                              refine z_getr dX1_transfer_433 fsX1_206_0 (show gr M 16 78 = some (71, 4, 0) from cw_at hw 39 rfl) ?_
                              obtain ⟨b3, e3_, k⟩ := k
                              refine Z.eqs (lv' := [(0, vr (some (16, 0, 0))), (1, vi l1), (2, vi l2), (3, vi l3)]) (st' := [vr (some (71, 4, 0)), vr (some (b3, 7, 0))]) rfl (by rw [e3_] <;> rfl) ?_
                              refine Z.pick [0, 2] rfl ?_
                              exact z_callV (as := [vr (some (71, 4, 0))]) (st := []) dX1_transfer_436 vsX1_937_7 (Nat.le_refl _) (Nat.le_of_ble_eq_true rfl) (Nat.le_of_ble_eq_true rfl) rfl k
                            · have k := zif h13_ k
                              by_cases h14_ : l1 = 14
                              · have k := zit h14_ k
                                refine z_tableIn (off := 455) (tgt := 456) dX1_transfer_1 (by rw [h14_]; decide) (by rw [h14_]; decide) (by rw [h14_]; rfl) rfl ?_
                                refine z_aload_n dX1_transfer_456 rfl rfl ?_
                                refine z_getr (r := (gr M 16 60)) dX1_transfer_457 fsX1_684_0 rfl ?_
                                refine z_aload_n dX1_transfer_460 rfl rfl ?_
                                refine z_getr dX1_transfer_461 fsX1_210_0 (show gr M 16 79 = some (72, 4, 0) from cw_at hw 40 rfl) ?_
                                obtain ⟨b4, e4_, k⟩ := k
                                refine Z.eqs (lv' := [(0, vr (some (16, 0, 0))), (1, vi l1), (2, vi l2), (3, vi l3)]) (st' := [vr (some (72, 4, 0)), vr (some (b4, 7, 0))]) rfl (by rw [e4_] <;> rfl) ?_
                                refine Z.pick [0, 2] rfl ?_
                                exact z_callV (as := [vr (some (72, 4, 0))]) (st := []) dX1_transfer_464 vsX1_937_7 (Nat.le_refl _) (Nat.le_of_ble_eq_true rfl) (Nat.le_of_ble_eq_true rfl) rfl k
                              · have k := zif h14_ k
                                refine z_tout (tgt := 514) [0, 1, 2, 3, 4, 5, 6, 7, 8, 9, 10, 11, 12, 13, 14] (by decide) dX1_transfer_1 (zall_1 h0_ (zall_1 h1_ (zall_1 h2_ (zall_1 h3_ (zall_1 h4_ (zall_1 h5_ (zall_1 h6_ (zall_1 h7_ (zall_1 h8_ (zall_1 h9_ (zall_1 h10_ (zall_1 h11_ (zall_1 h12_ (zall_1 h13_ (zall_1 h14_ zall_0))))))))))))))) rfl ?_
                                refine z_aload_n dX1_transfer_514 rfl rfl ?_
                                refine z_iload_n dX1_transfer_515 rfl rfl ?_
                                refine z_iload_n dX1_transfer_516 rfl rfl ?_
                                refine z_iload_n dX1_transfer_517 rfl rfl ?_
                                refine Z.pick [] rfl ?_
                                exact z_callV (as := [vi l1, vi l2, vi l3]) (st := []) dX1_transfer_518 vsX1_953_0 (Nat.le_refl _) (Nat.le_of_ble_eq_true rfl) (Nat.le_of_ble_eq_true rfl) rfl k
theorem sX1_transfer_90 {E : zE} {d : Nat} {Q : zO → zM → Prop} (M : zM) (s0 : Int64) (hw : cw M) (k : Z E YX6_of d M (zargs 0 [vr (some (71, 4, 0)), vl s0]) 0 [] (zafter E YX1_transfer (d + 1) [] 109 3 [vr (some (16, 0, 0))] Q)) : Z E YX1_transfer (d + 1) M [] 90 [vl s0, vr (some (71, 4, 0)), vr (some (16, 0, 0))] Q := by
  refine z_goto (tgt := 109) dX1_transfer_90 rfl ?_
  exact z_callV (as := [vl s0]) (st := [vr (some (16, 0, 0))]) dX1_transfer_109 vsX1_892_4 (Nat.le_refl _) (Nat.le_of_ble_eq_true rfl) (Nat.le_of_ble_eq_true rfl) rfl k
theorem sX1_transfer_103 {E : zE} {d : Nat} {Q : zO → zM → Prop} (M : zM) (s0 : Int64) (hw : cw M) (k : Z E YX6_of d M (zargs 0 [vr (some (71, 4, 0)), vl s0]) 0 [] (zafter E YX1_transfer (d + 1) [] 109 3 [vr (some (16, 0, 0))] Q)) : Z E YX1_transfer (d + 1) M [] 103 [vl s0, vr (some (71, 4, 0)), vr (some (16, 0, 0))] Q := by
  refine z_goto (tgt := 109) dX1_transfer_103 rfl ?_
  exact z_callV (as := [vl s0]) (st := [vr (some (16, 0, 0))]) dX1_transfer_109 vsX1_892_4 (Nat.le_refl _) (Nat.le_of_ble_eq_true rfl) (Nat.le_of_ble_eq_true rfl) rfl k
theorem sX1_transfer_112 {E : zE} {d : Nat} {Q : zO → zM → Prop} (M : zM) (u0 : Option zP) (hw : cw M) (k : Z E YX1_nextWith d M (zargs 0 [vr (some (16, 0, 0)), vr u0]) 0 [] (zafter E YX1_transfer (d + 1) [] 112 3 [] Q)) : Z E YX1_transfer (d + 1) M [] 112 [vr u0, vr (some (16, 0, 0))] Q := by
  exact z_callV (as := [vr u0]) (st := []) dX1_transfer_112 vsX1_895_0 (Nat.le_refl _) (Nat.le_of_ble_eq_true rfl) (Nat.le_of_ble_eq_true rfl) rfl k
theorem sX1_transfer_115 {E : zE} {d : Nat} {Q : zO → zM → Prop} (M : zM)  (hw : cw M) (k : Z E YX1_transfer (d + 1) M [] 521 [] Q) : Z E YX1_transfer (d + 1) M [] 115 [] Q := by
  refine z_goto (tgt := 521) dX1_transfer_115 rfl ?_
  exact k
theorem sX1_transfer_124 {E : zE} {d : Nat} {Q : zO → zM → Prop} (M : zM)  (hw : cw M) (k : Z E YX1_transfer (d + 1) M [] 521 [] Q) : Z E YX1_transfer (d + 1) M [] 124 [] Q := by
  refine z_goto (tgt := 521) dX1_transfer_124 rfl ?_
  exact k
theorem sX1_transfer_132 {E : zE} {d : Nat} {Q : zO → zM → Prop} (M : zM) (l3 : Int32) (hw : cw M) (k : ∃ b1 : Nat, (gr M 16 60) = some (b1, 7, 0) ∧ (Z E YX43_at d M (zargs 0 [vr (some (b1, 7, 0)), vi ((gi M b1 13) - (1 : Int32)), vr (some (71, 4, 0))]) 0 [] (zafter E YX1_transfer (d + 1) [(0, vr (some (16, 0, 0))), (3, vi l3)] 149 3 [] Q))) : Z E YX1_transfer (d + 1) M [(0, vr (some (16, 0, 0))), (3, vi l3)] 132 [] Q := by
  refine z_aload_n dX1_transfer_132 rfl rfl ?_
  refine z_getr (r := (gr M 16 60)) dX1_transfer_133 fsX1_684_0 rfl ?_
  refine z_aload_n dX1_transfer_136 rfl rfl ?_
  refine z_getr (r := (gr M 16 60)) dX1_transfer_137 fsX1_684_0 rfl ?_
  obtain ⟨b1, e1_, k⟩ := k
  refine Z.eqs (lv' := [(0, vr (some (16, 0, 0))), (3, vi l3)]) (st' := [vr (some (b1, 7, 0)), vr (some (b1, 7, 0))]) rfl (by rw [e1_] <;> rfl) ?_
  refine z_geti dX1_transfer_140 fsX1_726_7 ?_
  refine z_iconst (v := 1) dX1_transfer_143 rfl ?_
  refine z_isub dX1_transfer_144 ?_
  refine z_aload_n dX1_transfer_145 rfl rfl ?_
  refine z_getr dX1_transfer_146 fsX1_206_0 (show gr M 16 78 = some (71, 4, 0) from cw_at hw 39 rfl) ?_
  exact z_callV (as := [vi ((gi M b1 13) - (1 : Int32)), vr (some (71, 4, 0))]) (st := []) dX1_transfer_149 vsX1_903_7 (Nat.le_refl _) (Nat.le_of_ble_eq_true rfl) (Nat.le_of_ble_eq_true rfl) rfl k
theorem sX1_transfer_152 {E : zE} {d : Nat} {Q : zO → zM → Prop} (M : zM) (l3 : Int32) (u0 : Option zP) (hw : cw M) (k : Z E YX1_key d (si (sl (sl M 16 89 (0 : Int64)) 16 88 (0 : Int64)) 16 90 (0 : Int32)) (zargs 0 [vr (some (16, 0, 0)), vi l3]) 0 [] (zafter E YX1_transfer (d + 1) [(0, vr (some (16, 0, 0)))] 170 3 [] Q)) : Z E YX1_transfer (d + 1) M [(0, vr (some (16, 0, 0))), (3, vi l3)] 152 [vr u0] Q := by
  refine z_pop dX1_transfer_152 rfl ?_
  refine z_aload_n dX1_transfer_153 rfl rfl ?_
  refine z_aload_n dX1_transfer_154 rfl rfl ?_
  refine z_lconst (v := 0) dX1_transfer_155 rfl ?_
  refine z_dup2_x1 dX1_transfer_156 rfl rfl ?_
  refine z_putl (by decide) dX1_transfer_157 (zfwN.w fwX1_821_0) ?_
  refine z_putl (by decide) dX1_transfer_160 (zfwN.w fwX1_818_0) ?_
  refine z_aload_n dX1_transfer_163 rfl rfl ?_
  refine z_iconst (v := 0) dX1_transfer_164 rfl ?_
  refine z_puti (by decide) dX1_transfer_165 (zfwN.w fwX1_824_0) rfl ⟨by decide, by decide⟩ ?_
  refine z_aload_n dX1_transfer_168 rfl rfl ?_
  refine z_iload_n dX1_transfer_169 rfl rfl ?_
  refine Z.pick [0] rfl ?_
  exact z_callV (as := [vi l3]) (st := []) dX1_transfer_170 vsX1_834_0 (Nat.le_refl _) (Nat.le_of_ble_eq_true rfl) (Nat.le_of_ble_eq_true rfl) rfl k
theorem sX1_transfer_173 {E : zE} {d : Nat} {Q : zO → zM → Prop} (M : zM)  (hw : cw M) (k : Z E YX1_writes d M (zargs 0 [vr (some (16, 0, 0)), vl (gl M 16 93), vl (gl M 16 94), vi (1 : Int32), vr (some (71, 4, 0))]) 0 [] (zafter E YX1_transfer (d + 1) [(0, vr (some (16, 0, 0)))] 187 3 [] Q)) : Z E YX1_transfer (d + 1) M [(0, vr (some (16, 0, 0)))] 173 [] Q := by
  refine z_aload_n dX1_transfer_173 rfl rfl ?_
  refine z_aload_n dX1_transfer_174 rfl rfl ?_
  refine z_getl dX1_transfer_175 fsX1_906_0 ?_
  refine z_aload_n dX1_transfer_178 rfl rfl ?_
  refine z_getl dX1_transfer_179 fsX1_907_0 ?_
  refine z_iconst (v := 1) dX1_transfer_182 rfl ?_
  refine z_aload_n dX1_transfer_183 rfl rfl ?_
  refine z_getr dX1_transfer_184 fsX1_206_0 (show gr M 16 78 = some (71, 4, 0) from cw_at hw 39 rfl) ?_
  exact z_callV (as := [vl (gl M 16 93), vl (gl M 16 94), vi (1 : Int32), vr (some (71, 4, 0))]) (st := []) dX1_transfer_187 vsX1_908_0 (Nat.le_refl _) (Nat.le_of_ble_eq_true rfl) (Nat.le_of_ble_eq_true rfl) rfl k
theorem sX1_transfer_190 {E : zE} {d : Nat} {Q : zO → zM → Prop} (M : zM)  (hw : cw M) (k : Z E YX1_next d M (zargs 0 [vr (some (16, 0, 0)), vi ((gi M 16 76) + (1 : Int32))]) 0 [] (zafter E YX1_transfer (d + 1) [] 197 3 [] Q)) : Z E YX1_transfer (d + 1) M [(0, vr (some (16, 0, 0)))] 190 [] Q := by
  refine z_aload_n dX1_transfer_190 rfl rfl ?_
  refine z_aload_n dX1_transfer_191 rfl rfl ?_
  refine z_geti dX1_transfer_192 fsX1_713_0 ?_
  refine z_iconst (v := 1) dX1_transfer_195 rfl ?_
  refine z_iadd dX1_transfer_196 ?_
  refine Z.pick [] rfl ?_
  exact z_callV (as := [vi ((gi M 16 76) + (1 : Int32))]) (st := []) dX1_transfer_197 vsX1_770_0 (Nat.le_refl _) (Nat.le_of_ble_eq_true rfl) (Nat.le_of_ble_eq_true rfl) rfl k
theorem sX1_transfer_200 {E : zE} {d : Nat} {Q : zO → zM → Prop} (M : zM)  (hw : cw M) (k : Z E YX1_transfer (d + 1) M [] 521 [] Q) : Z E YX1_transfer (d + 1) M [] 200 [] Q := by
  refine z_goto (tgt := 521) dX1_transfer_200 rfl ?_
  exact k
theorem sX1_transfer_209 {E : zE} {d : Nat} {Q : zO → zM → Prop} (M : zM)  (hw : cw M) (k : Z E YX1_transfer (d + 1) M [] 521 [] Q) : Z E YX1_transfer (d + 1) M [] 209 [] Q := by
  refine z_goto (tgt := 521) dX1_transfer_209 rfl ?_
  exact k
theorem sX1_transfer_232 {E : zE} {d : Nat} {Q : zO → zM → Prop} (M : zM) (l3 : Int32) (u0 : Option zP) (hw : cw M) (k : ∃ b1 : Nat, (gr M 16 60) = some (b1, 7, 0) ∧ (Z E YX43_put d M (zargs 0 [vr (some (b1, 7, 0)), vi (0 : Int32), vi l3, vl (gl M 71 0), vl (gl M 71 1), vl (gl M 71 2)]) 0 [] (zafter E YX1_transfer (d + 1) [(0, vr (some (16, 0, 0)))] 260 3 [] Q))) : Z E YX1_transfer (d + 1) M [(0, vr (some (16, 0, 0))), (3, vi l3)] 232 [vr u0] Q := by
  refine z_pop dX1_transfer_232 rfl ?_
  refine z_aload_n dX1_transfer_233 rfl rfl ?_
  refine z_getr (r := (gr M 16 60)) dX1_transfer_234 fsX1_684_0 rfl ?_
  refine z_iconst (v := 0) dX1_transfer_237 rfl ?_
  refine z_iload_n dX1_transfer_238 rfl rfl ?_
  refine z_aload_n dX1_transfer_239 rfl rfl ?_
  refine z_getr dX1_transfer_240 fsX1_206_0 (show gr M 16 78 = some (71, 4, 0) from cw_at hw 39 rfl) ?_
  refine z_getl dX1_transfer_243 fsX1_916_4 ?_
  refine z_aload_n dX1_transfer_246 rfl rfl ?_
  refine z_getr dX1_transfer_247 fsX1_206_0 (show gr M 16 78 = some (71, 4, 0) from cw_at hw 39 rfl) ?_
  refine z_getl dX1_transfer_250 fsX1_918_4 ?_
  refine z_aload_n dX1_transfer_253 rfl rfl ?_
  refine z_getr dX1_transfer_254 fsX1_206_0 (show gr M 16 78 = some (71, 4, 0) from cw_at hw 39 rfl) ?_
  refine z_getl dX1_transfer_257 fsX1_920_4 ?_
  obtain ⟨b1, e1_, k⟩ := k
  refine Z.eqs (lv' := [(0, vr (some (16, 0, 0))), (3, vi l3)]) (st' := [vl (gl M 71 2), vl (gl M 71 1), vl (gl M 71 0), vi l3, vi (0 : Int32), vr (some (b1, 7, 0))]) rfl (by rw [e1_] <;> rfl) ?_
  refine Z.pick [0] rfl ?_
  exact z_callV (as := [vi (0 : Int32), vi l3, vl (gl M 71 0), vl (gl M 71 1), vl (gl M 71 2)]) (st := []) dX1_transfer_260 vsX1_722_7 (Nat.le_refl _) (Nat.le_of_ble_eq_true rfl) (Nat.le_of_ble_eq_true rfl) rfl k
theorem sX1_transfer_263 {E : zE} {d : Nat} {Q : zO → zM → Prop} (M : zM)  (hw : cw M) (k : Z E YX1_next d M (zargs 0 [vr (some (16, 0, 0)), vi ((gi M 16 76) + (1 : Int32))]) 0 [] (zafter E YX1_transfer (d + 1) [] 270 3 [] Q)) : Z E YX1_transfer (d + 1) M [(0, vr (some (16, 0, 0)))] 263 [] Q := by
  refine z_aload_n dX1_transfer_263 rfl rfl ?_
  refine z_aload_n dX1_transfer_264 rfl rfl ?_
  refine z_geti dX1_transfer_265 fsX1_713_0 ?_
  refine z_iconst (v := 1) dX1_transfer_268 rfl ?_
  refine z_iadd dX1_transfer_269 ?_
  refine Z.pick [] rfl ?_
  exact z_callV (as := [vi ((gi M 16 76) + (1 : Int32))]) (st := []) dX1_transfer_270 vsX1_770_0 (Nat.le_refl _) (Nat.le_of_ble_eq_true rfl) (Nat.le_of_ble_eq_true rfl) rfl k
theorem sX1_transfer_273 {E : zE} {d : Nat} {Q : zO → zM → Prop} (M : zM)  (hw : cw M) (k : Z E YX1_transfer (d + 1) M [] 521 [] Q) : Z E YX1_transfer (d + 1) M [] 273 [] Q := by
  refine z_goto (tgt := 521) dX1_transfer_273 rfl ?_
  exact k
theorem sX1_transfer_282 {E : zE} {d : Nat} {Q : zO → zM → Prop} (M : zM)  (hw : cw M) (k : Z E YX1_transfer (d + 1) M [] 521 [] Q) : Z E YX1_transfer (d + 1) M [] 282 [] Q := by
  refine z_goto (tgt := 521) dX1_transfer_282 rfl ?_
  exact k
theorem sX1_transfer_299 {E : zE} {d : Nat} {Q : zO → zM → Prop} (M : zM) (u0 : Option zP) (hw : cw M) (k : ∃ b1 : Nat, (gr M 16 60) = some (b1, 7, 0) ∧ (∃ b2 : Nat, (gr M 16 60) = some (b2, 7, 0) ∧ (∃ b3 : Nat, u0 = some (b3, 4, 0) ∧ (Z E YX6_join3 d M (zargs 0 [vr (some (b3, 4, 0)), vl (gl M b1 14), vl (gl M b2 15), vl (0 : Int64)]) 0 [] (zafter E YX1_transfer (d + 1) [(0, vr (some (16, 0, 0)))] 314 3 [] Q))))) : Z E YX1_transfer (d + 1) M [(0, vr (some (16, 0, 0)))] 299 [vr u0] Q := by
  refine z_aload_n dX1_transfer_299 rfl rfl ?_
  refine z_getr (r := (gr M 16 60)) dX1_transfer_300 fsX1_684_0 rfl ?_
  obtain ⟨b1, e1_, k⟩ := k
  refine Z.eqs (lv' := [(0, vr (some (16, 0, 0)))]) (st' := [vr (some (b1, 7, 0)), vr u0]) rfl (by rw [e1_] <;> rfl) ?_
  refine z_getl dX1_transfer_303 fsX1_745_7 ?_
  refine z_aload_n dX1_transfer_306 rfl rfl ?_
  refine z_getr (r := (gr M 16 60)) dX1_transfer_307 fsX1_684_0 rfl ?_
  obtain ⟨b2, e2_, k⟩ := k
  refine Z.eqs (lv' := [(0, vr (some (16, 0, 0)))]) (st' := [vr (some (b2, 7, 0)), vl (gl M b1 14), vr u0]) rfl (by rw [e2_] <;> rfl) ?_
  refine z_getl dX1_transfer_310 fsX1_748_7 ?_
  refine z_lconst (v := 0) dX1_transfer_313 rfl ?_
  obtain ⟨b3, e3_, k⟩ := k
  refine Z.eqs (lv' := [(0, vr (some (16, 0, 0)))]) (st' := [vl (0 : Int64), vl (gl M b2 15), vl (gl M b1 14), vr (some (b3, 4, 0))]) rfl (by rw [e3_] <;> rfl) ?_
  exact z_callV (as := [vl (gl M b1 14), vl (gl M b2 15), vl (0 : Int64)]) (st := []) dX1_transfer_314 vsX1_871_4 (Nat.le_refl _) (Nat.le_of_ble_eq_true rfl) (Nat.le_of_ble_eq_true rfl) rfl k
theorem sX1_transfer_317 {E : zE} {d : Nat} {Q : zO → zM → Prop} (M : zM) (u0 : Option zP) (hw : cw M) (k : Z E YX1_nextWith d M (zargs 0 [vr (some (16, 0, 0)), vr (some (71, 4, 0))]) 0 [] (zafter E YX1_transfer (d + 1) [] 323 3 [] Q)) : Z E YX1_transfer (d + 1) M [(0, vr (some (16, 0, 0)))] 317 [vr u0] Q := by
  refine z_pop dX1_transfer_317 rfl ?_
  refine z_aload_n dX1_transfer_318 rfl rfl ?_
  refine z_aload_n dX1_transfer_319 rfl rfl ?_
  refine z_getr dX1_transfer_320 fsX1_206_0 (show gr M 16 78 = some (71, 4, 0) from cw_at hw 39 rfl) ?_
  refine Z.pick [] rfl ?_
  exact z_callV (as := [vr (some (71, 4, 0))]) (st := []) dX1_transfer_323 vsX1_895_0 (Nat.le_refl _) (Nat.le_of_ble_eq_true rfl) (Nat.le_of_ble_eq_true rfl) rfl k
theorem sX1_transfer_326 {E : zE} {d : Nat} {Q : zO → zM → Prop} (M : zM)  (hw : cw M) (k : Z E YX1_transfer (d + 1) M [] 521 [] Q) : Z E YX1_transfer (d + 1) M [] 326 [] Q := by
  refine z_goto (tgt := 521) dX1_transfer_326 rfl ?_
  exact k
theorem sX1_transfer_338 {E : zE} {d : Nat} {Q : zO → zM → Prop} (M : zM) (l1 : Int32) (l2 : Int32) (s0 : Int32) (u1 : Option zP) (hw : cw M) (k : if l1 = (7 : Int32) then (∃ b1 : Nat, u1 = some (b1, 7, 0) ∧ (Z E YX43_make d M (zargs 0 [vr (some (b1, 7, 0)), vi s0, vi (1 : Int32)]) 0 [] (zafter E YX1_transfer (d + 1) [(0, vr (some (16, 0, 0))), (1, vi l1), (2, vi l2)] 349 3 [] Q))) else (∃ b1 : Nat, u1 = some (b1, 7, 0) ∧ (Z E YX43_make d M (zargs 0 [vr (some (b1, 7, 0)), vi s0, vi (3 : Int32)]) 0 [] (zafter E YX1_transfer (d + 1) [(0, vr (some (16, 0, 0))), (1, vi l1), (2, vi l2)] 349 3 [] Q)))) : Z E YX1_transfer (d + 1) M [(0, vr (some (16, 0, 0))), (1, vi l1), (2, vi l2)] 338 [vi s0, vr u1] Q := by
  refine z_iload_n dX1_transfer_338 rfl rfl ?_
  refine z_bipush (v := 7) dX1_transfer_339 rfl ?_
  refine z_icmp_ne (tgt := 348) dX1_transfer_341 rfl (fun h_ => ?_) (fun h_ => ?_)
  · have k := zif h_ k
    refine z_iconst (v := 3) dX1_transfer_348 rfl ?_
    obtain ⟨b1, e1_, k⟩ := k
    refine Z.eqs (lv' := [(0, vr (some (16, 0, 0))), (1, vi l1), (2, vi l2)]) (st' := [vi (3 : Int32), vi s0, vr (some (b1, 7, 0))]) rfl (by rw [e1_] <;> rfl) ?_
    exact z_callV (as := [vi s0, vi (3 : Int32)]) (st := []) dX1_transfer_349 vsX1_922_7 (Nat.le_refl _) (Nat.le_of_ble_eq_true rfl) (Nat.le_of_ble_eq_true rfl) rfl k
  · have k := zit h_ k
    refine z_iconst (v := 1) dX1_transfer_344 rfl ?_
    refine z_goto (tgt := 349) dX1_transfer_345 rfl ?_
    obtain ⟨b1, e1_, k⟩ := k
    refine Z.eqs (lv' := [(0, vr (some (16, 0, 0))), (1, vi l1), (2, vi l2)]) (st' := [vi (1 : Int32), vi s0, vr (some (b1, 7, 0))]) rfl (by rw [e1_] <;> rfl) ?_
    exact z_callV (as := [vi s0, vi (1 : Int32)]) (st := []) dX1_transfer_349 vsX1_922_7 (Nat.le_refl _) (Nat.le_of_ble_eq_true rfl) (Nat.le_of_ble_eq_true rfl) rfl k
theorem sX1_transfer_352 {E : zE} {d : Nat} {Q : zO → zM → Prop} (M : zM) (l1 : Int32) (l2 : Int32) (hw : cw M) (k : if l1 = (8 : Int32) then (Z E YX1_sitePair d M (zargs 0 [vr (some (16, 0, 0)), vi l2]) 0 [] (zafter E YX1_transfer (d + 1) [(0, vr (some (16, 0, 0))), (2, vi l2)] 364 3 [vr (gr M 16 60)] Q)) else (Z E YX1_transfer (d + 1) M [(0, vr (some (16, 0, 0))), (2, vi l2)] 377 [] Q)) : Z E YX1_transfer (d + 1) M [(0, vr (some (16, 0, 0))), (1, vi l1), (2, vi l2)] 352 [] Q := by
  refine z_iload_n dX1_transfer_352 rfl rfl ?_
  refine z_bipush (v := 8) dX1_transfer_353 rfl ?_
  refine z_icmp_ne (tgt := 377) dX1_transfer_355 rfl (fun h_ => ?_) (fun h_ => ?_)
  · have k := zif h_ k
    refine Z.pick [0, 2] rfl ?_
    exact k
  · have k := zit h_ k
    refine z_aload_n dX1_transfer_358 rfl rfl ?_
    refine z_getr (r := (gr M 16 60)) dX1_transfer_359 fsX1_684_0 rfl ?_
    refine z_aload_n dX1_transfer_362 rfl rfl ?_
    refine z_iload_n dX1_transfer_363 rfl rfl ?_
    refine Z.pick [0, 2] rfl ?_
    exact z_callV (as := [vi l2]) (st := [vr (gr M 16 60)]) dX1_transfer_364 vsX1_486_0 (Nat.le_refl _) (Nat.le_of_ble_eq_true rfl) (Nat.le_of_ble_eq_true rfl) rfl k
theorem sX1_transfer_367 {E : zE} {d : Nat} {Q : zO → zM → Prop} (M : zM) (l2 : Int32) (s0 : Int32) (u1 : Option zP) (hw : cw M) (k : Z E YX1_numberSet d M (zargs 0 [vi (0 : Int32)]) 0 [] (zafter E YX1_transfer (d + 1) [(0, vr (some (16, 0, 0))), (2, vi l2)] 371 3 [vl (0 : Int64), vl (0 : Int64), vi (0 : Int32), vi s0, vr u1] Q)) : Z E YX1_transfer (d + 1) M [(0, vr (some (16, 0, 0))), (2, vi l2)] 367 [vi s0, vr u1] Q := by
  refine z_iconst (v := 0) dX1_transfer_367 rfl ?_
  refine z_lconst (v := 0) dX1_transfer_368 rfl ?_
  refine z_lconst (v := 0) dX1_transfer_369 rfl ?_
  refine z_iconst (v := 0) dX1_transfer_370 rfl ?_
  exact z_callS (as := [vi (0 : Int32)]) (st := [vl (0 : Int64), vl (0 : Int64), vi (0 : Int32), vi s0, vr u1]) dX1_transfer_371 ssX1_889 (Nat.le_refl _) (Nat.le_of_ble_eq_true rfl) (Nat.le_of_ble_eq_true rfl) rfl k
theorem sX1_transfer_374 {E : zE} {d : Nat} {Q : zO → zM → Prop} (M : zM) (l2 : Int32) (s0 : Int64) (s1 : Int64) (s2 : Int64) (s3 : Int32) (s4 : Int32) (u5 : Option zP) (hw : cw M) (k : ∃ b1 : Nat, u5 = some (b1, 7, 0) ∧ (Z E YX43_put d M (zargs 0 [vr (some (b1, 7, 0)), vi s4, vi s3, vl s2, vl s1, vl s0]) 0 [] (zafter E YX1_transfer (d + 1) [(0, vr (some (16, 0, 0))), (2, vi l2)] 374 3 [] Q))) : Z E YX1_transfer (d + 1) M [(0, vr (some (16, 0, 0))), (2, vi l2)] 374 [vl s0, vl s1, vl s2, vi s3, vi s4, vr u5] Q := by
  obtain ⟨b1, e1_, k⟩ := k
  refine Z.eqs (lv' := [(0, vr (some (16, 0, 0))), (2, vi l2)]) (st' := [vl s0, vl s1, vl s2, vi s3, vi s4, vr (some (b1, 7, 0))]) rfl (by rw [e1_] <;> rfl) ?_
  exact z_callV (as := [vi s4, vi s3, vl s2, vl s1, vl s0]) (st := []) dX1_transfer_374 vsX1_722_7 (Nat.le_refl _) (Nat.le_of_ble_eq_true rfl) (Nat.le_of_ble_eq_true rfl) rfl k
theorem sX1_transfer_377 {E : zE} {d : Nat} {Q : zO → zM → Prop} (M : zM) (l2 : Int32) (hw : cw M) (k : Z E YX6_empty d M (zargs 0 [vr (some (71, 4, 0))]) 0 [] (zafter E YX1_transfer (d + 1) [(0, vr (some (16, 0, 0))), (2, vi l2)] 382 3 [vr (some (16, 0, 0))] Q)) : Z E YX1_transfer (d + 1) M [(0, vr (some (16, 0, 0))), (2, vi l2)] 377 [] Q := by
  refine z_aload_n dX1_transfer_377 rfl rfl ?_
  refine z_aload_n dX1_transfer_378 rfl rfl ?_
  refine z_getr dX1_transfer_379 fsX1_206_0 (show gr M 16 78 = some (71, 4, 0) from cw_at hw 39 rfl) ?_
  exact z_callV (as := []) (st := [vr (some (16, 0, 0))]) dX1_transfer_382 vsX1_796_4 (Nat.le_refl _) (Nat.le_of_ble_eq_true rfl) (Nat.le_of_ble_eq_true rfl) rfl k
theorem sX1_transfer_385 {E : zE} {d : Nat} {Q : zO → zM → Prop} (M : zM) (l2 : Int32) (u0 : Option zP) (hw : cw M) (k : Z E YX1_sitePair d M (zargs 0 [vr (some (16, 0, 0)), vi l2]) 0 [] (zafter E YX1_transfer (d + 1) [] 387 3 [vr u0, vr (some (16, 0, 0))] Q)) : Z E YX1_transfer (d + 1) M [(0, vr (some (16, 0, 0))), (2, vi l2)] 385 [vr u0, vr (some (16, 0, 0))] Q := by
  refine z_aload_n dX1_transfer_385 rfl rfl ?_
  refine z_iload_n dX1_transfer_386 rfl rfl ?_
  refine Z.pick [] rfl ?_
  exact z_callV (as := [vi l2]) (st := [vr u0, vr (some (16, 0, 0))]) dX1_transfer_387 vsX1_486_0 (Nat.le_refl _) (Nat.le_of_ble_eq_true rfl) (Nat.le_of_ble_eq_true rfl) rfl k
theorem sX1_transfer_390 {E : zE} {d : Nat} {Q : zO → zM → Prop} (M : zM) (s0 : Int32) (u1 : Option zP) (hw : cw M) (k : ∃ b1 : Nat, u1 = some (b1, 4, 0) ∧ (Z E YX6_add d M (zargs 0 [vr (some (b1, 4, 0)), vi s0]) 0 [] (zafter E YX1_transfer (d + 1) [] 390 3 [vr (some (16, 0, 0))] Q))) : Z E YX1_transfer (d + 1) M [] 390 [vi s0, vr u1, vr (some (16, 0, 0))] Q := by
  obtain ⟨b1, e1_, k⟩ := k
  refine Z.eqs (lv' := []) (st' := [vi s0, vr (some (b1, 4, 0)), vr (some (16, 0, 0))]) rfl (by rw [e1_] <;> rfl) ?_
  exact z_callV (as := [vi s0]) (st := [vr (some (16, 0, 0))]) dX1_transfer_390 vsX1_800_4 (Nat.le_refl _) (Nat.le_of_ble_eq_true rfl) (Nat.le_of_ble_eq_true rfl) rfl k
theorem sX1_transfer_393 {E : zE} {d : Nat} {Q : zO → zM → Prop} (M : zM) (u0 : Option zP) (hw : cw M) (k : Z E YX1_nextWith d M (zargs 0 [vr (some (16, 0, 0)), vr u0]) 0 [] (zafter E YX1_transfer (d + 1) [] 393 3 [] Q)) : Z E YX1_transfer (d + 1) M [] 393 [vr u0, vr (some (16, 0, 0))] Q := by
  exact z_callV (as := [vr u0]) (st := []) dX1_transfer_393 vsX1_895_0 (Nat.le_refl _) (Nat.le_of_ble_eq_true rfl) (Nat.le_of_ble_eq_true rfl) rfl k
theorem sX1_transfer_396 {E : zE} {d : Nat} {Q : zO → zM → Prop} (M : zM)  (hw : cw M) (k : Z E YX1_transfer (d + 1) M [] 521 [] Q) : Z E YX1_transfer (d + 1) M [] 396 [] Q := by
  refine z_goto (tgt := 521) dX1_transfer_396 rfl ?_
  exact k
theorem sX1_transfer_404 {E : zE} {d : Nat} {Q : zO → zM → Prop} (M : zM)  (hw : cw M) (k : Z E YX1_transfer (d + 1) M [] 521 [] Q) : Z E YX1_transfer (d + 1) M [] 404 [] Q := by
  refine z_goto (tgt := 521) dX1_transfer_404 rfl ?_
  exact k
theorem sX1_transfer_411 {E : zE} {d : Nat} {Q : zO → zM → Prop} (M : zM)  (hw : cw M) (k : Z E YX1_transfer (d + 1) M [] 521 [] Q) : Z E YX1_transfer (d + 1) M [] 411 [] Q := by
  refine z_goto (tgt := 521) dX1_transfer_411 rfl ?_
  exact k
theorem sX1_transfer_418 {E : zE} {d : Nat} {Q : zO → zM → Prop} (M : zM)  (hw : cw M) (k : Z E YX1_transfer (d + 1) M [] 521 [] Q) : Z E YX1_transfer (d + 1) M [] 418 [] Q := by
  refine z_goto (tgt := 521) dX1_transfer_418 rfl ?_
  exact k
theorem sX1_transfer_425 {E : zE} {d : Nat} {Q : zO → zM → Prop} (M : zM)  (hw : cw M) (k : Z E YX1_transfer (d + 1) M [] 521 [] Q) : Z E YX1_transfer (d + 1) M [] 425 [] Q := by
  refine z_goto (tgt := 521) dX1_transfer_425 rfl ?_
  exact k
theorem sX1_transfer_439 {E : zE} {d : Nat} {Q : zO → zM → Prop} (M : zM) (l2 : Int32) (u0 : Option zP) (hw : cw M) (k : Z E YX1_unaryOf d M (zargs 0 [vr (some (16, 0, 0)), vi l2]) 0 [] (zafter E YX1_transfer (d + 1) [(0, vr (some (16, 0, 0)))] 442 3 [] Q)) : Z E YX1_transfer (d + 1) M [(0, vr (some (16, 0, 0))), (2, vi l2)] 439 [vr u0] Q := by
  refine z_pop dX1_transfer_439 rfl ?_
  refine z_aload_n dX1_transfer_440 rfl rfl ?_
  refine z_iload_n dX1_transfer_441 rfl rfl ?_
  refine Z.pick [0] rfl ?_
  exact z_callV (as := [vi l2]) (st := []) dX1_transfer_442 vsX1_941_0 (Nat.le_refl _) (Nat.le_of_ble_eq_true rfl) (Nat.le_of_ble_eq_true rfl) rfl k
theorem sX1_transfer_445 {E : zE} {d : Nat} {Q : zO → zM → Prop} (M : zM)  (hw : cw M) (k : Z E YX1_nextWith d M (zargs 0 [vr (some (16, 0, 0)), vr (some (74, 4, 0))]) 0 [] (zafter E YX1_transfer (d + 1) [] 450 3 [] Q)) : Z E YX1_transfer (d + 1) M [(0, vr (some (16, 0, 0)))] 445 [] Q := by
  refine z_aload_n dX1_transfer_445 rfl rfl ?_
  refine z_aload_n dX1_transfer_446 rfl rfl ?_
  refine z_getr dX1_transfer_447 fsX1_216_0 (show gr M 16 81 = some (74, 4, 0) from cw_at hw 42 rfl) ?_
  refine Z.pick [] rfl ?_
  exact z_callV (as := [vr (some (74, 4, 0))]) (st := []) dX1_transfer_450 vsX1_895_0 (Nat.le_refl _) (Nat.le_of_ble_eq_true rfl) (Nat.le_of_ble_eq_true rfl) rfl k
theorem sX1_transfer_453 {E : zE} {d : Nat} {Q : zO → zM → Prop} (M : zM)  (hw : cw M) (k : Z E YX1_transfer (d + 1) M [] 521 [] Q) : Z E YX1_transfer (d + 1) M [] 453 [] Q := by
  refine z_goto (tgt := 521) dX1_transfer_453 rfl ?_
  exact k
theorem sX1_transfer_467 {E : zE} {d : Nat} {Q : zO → zM → Prop} (M : zM) (l2 : Int32) (u0 : Option zP) (hw : cw M) (k : ∃ b1 : Nat, (gr M 16 60) = some (b1, 7, 0) ∧ (Z E YX43_pop d M (zargs 0 [vr (some (b1, 7, 0)), vr (some (71, 4, 0))]) 0 [] (zafter E YX1_transfer (d + 1) [(0, vr (some (16, 0, 0))), (2, vi l2)] 476 3 [] Q))) : Z E YX1_transfer (d + 1) M [(0, vr (some (16, 0, 0))), (2, vi l2)] 467 [vr u0] Q := by
  refine z_pop dX1_transfer_467 rfl ?_
  refine z_aload_n dX1_transfer_468 rfl rfl ?_
  refine z_getr (r := (gr M 16 60)) dX1_transfer_469 fsX1_684_0 rfl ?_
  refine z_aload_n dX1_transfer_472 rfl rfl ?_
  refine z_getr dX1_transfer_473 fsX1_206_0 (show gr M 16 78 = some (71, 4, 0) from cw_at hw 39 rfl) ?_
  obtain ⟨b1, e1_, k⟩ := k
  refine Z.eqs (lv' := [(0, vr (some (16, 0, 0))), (2, vi l2)]) (st' := [vr (some (71, 4, 0)), vr (some (b1, 7, 0))]) rfl (by rw [e1_] <;> rfl) ?_
  exact z_callV (as := [vr (some (71, 4, 0))]) (st := []) dX1_transfer_476 vsX1_937_7 (Nat.le_refl _) (Nat.le_of_ble_eq_true rfl) (Nat.le_of_ble_eq_true rfl) rfl k
theorem sX1_transfer_479 {E : zE} {d : Nat} {Q : zO → zM → Prop} (M : zM) (l2 : Int32) (u0 : Option zP) (hw : cw M) (k : if l2 = (19 : Int32) then (Z E YX1_readsIn d M (zargs 0 [vr (some (16, 0, 0))]) 0 [] (zafter E YX1_transfer (d + 1) [] 487 3 [] Q)) else (if l2 = (20 : Int32) then (Z E YX1_isIn d M (zargs 0 [vr (some (16, 0, 0))]) 0 [] (zafter E YX1_transfer (d + 1) [] 500 3 [] Q)) else (Z E YX1_binaryOf d M (zargs 0 [vr (some (16, 0, 0)), vi l2]) 0 [] (zafter E YX1_transfer (d + 1) [] 508 3 [] Q)))) : Z E YX1_transfer (d + 1) M [(0, vr (some (16, 0, 0))), (2, vi l2)] 479 [vr u0] Q := by
  refine z_pop dX1_transfer_479 rfl ?_
  refine z_iload_n dX1_transfer_480 rfl rfl ?_
  refine z_bipush (v := 19) dX1_transfer_481 rfl ?_
  refine z_icmp_ne (tgt := 493) dX1_transfer_483 rfl (fun h_ => ?_) (fun h_ => ?_)
  · have k := zif h_ k
    refine z_iload_n dX1_transfer_493 rfl rfl ?_
    refine z_bipush (v := 20) dX1_transfer_494 rfl ?_
    refine z_icmp_ne (tgt := 506) dX1_transfer_496 rfl (fun h_ => ?_) (fun h_ => ?_)
    · have k := zif h_ k
      refine z_aload_n dX1_transfer_506 rfl rfl ?_
      refine z_iload_n dX1_transfer_507 rfl rfl ?_
      refine Z.pick [] rfl ?_
      exact z_callV (as := [vi l2]) (st := []) dX1_transfer_508 vsX1_950_0 (Nat.le_refl _) (Nat.le_of_ble_eq_true rfl) (Nat.le_of_ble_eq_true rfl) rfl k
    · have k := zit h_ k
      refine z_aload_n dX1_transfer_499 rfl rfl ?_
      refine Z.pick [] rfl ?_
      exact z_callV (as := []) (st := []) dX1_transfer_500 vsX1_947_0 (Nat.le_refl _) (Nat.le_of_ble_eq_true rfl) (Nat.le_of_ble_eq_true rfl) rfl k
  · have k := zit h_ k
    refine z_aload_n dX1_transfer_486 rfl rfl ?_
    refine Z.pick [] rfl ?_
    exact z_callV (as := []) (st := []) dX1_transfer_487 vsX1_944_0 (Nat.le_refl _) (Nat.le_of_ble_eq_true rfl) (Nat.le_of_ble_eq_true rfl) rfl k
theorem sX1_transfer_490 {E : zE} {d : Nat} {Q : zO → zM → Prop} (M : zM)  (hw : cw M) (k : Z E YX1_transfer (d + 1) M [] 521 [] Q) : Z E YX1_transfer (d + 1) M [] 490 [] Q := by
  refine z_goto (tgt := 521) dX1_transfer_490 rfl ?_
  exact k
theorem sX1_transfer_503 {E : zE} {d : Nat} {Q : zO → zM → Prop} (M : zM)  (hw : cw M) (k : Z E YX1_transfer (d + 1) M [] 521 [] Q) : Z E YX1_transfer (d + 1) M [] 503 [] Q := by
  refine z_goto (tgt := 521) dX1_transfer_503 rfl ?_
  exact k
theorem sX1_transfer_511 {E : zE} {d : Nat} {Q : zO → zM → Prop} (M : zM)  (hw : cw M) (k : Z E YX1_transfer (d + 1) M [] 521 [] Q) : Z E YX1_transfer (d + 1) M [] 511 [] Q := by
  refine z_goto (tgt := 521) dX1_transfer_511 rfl ?_
  exact k
theorem sX1_transfer_521 {E : zE} {d : Nat} {Q : zO → zM → Prop} (M : zM)  (hw : cw M) (k : Q (.inl none) M) : Z E YX1_transfer (d + 1) M [] 521 [] Q := by
  exact z_vret dX1_transfer_521 rfl k
/-! ScriptTypes.numberSet(I)J -/
theorem bX1_numberSet_0 : zdec cX1_numberSet 0 [(0, .ldc2_w 611, 3), (3, .iload_n 0, 1), (4, .i2l, 1), (5, .bipush 32, 2), (7, .lshl, 1), (8, .lor, 1), (9, .lreturn, 1)] = true := by decide +kernel
theorem dX1_numberSet_0 : decode cX1_numberSet 0 = .ok (.ldc2_w 611, 3) := zdec_at bX1_numberSet_0 0 rfl
theorem dX1_numberSet_3 : decode cX1_numberSet 3 = .ok (.iload_n 0, 1) := zdec_at bX1_numberSet_0 1 rfl
theorem dX1_numberSet_4 : decode cX1_numberSet 4 = .ok (.i2l, 1) := zdec_at bX1_numberSet_0 2 rfl
theorem dX1_numberSet_5 : decode cX1_numberSet 5 = .ok (.bipush 32, 2) := zdec_at bX1_numberSet_0 3 rfl
theorem dX1_numberSet_7 : decode cX1_numberSet 7 = .ok (.lshl, 1) := zdec_at bX1_numberSet_0 4 rfl
theorem dX1_numberSet_8 : decode cX1_numberSet 8 = .ok (.lor, 1) := zdec_at bX1_numberSet_0 5 rfl
theorem dX1_numberSet_9 : decode cX1_numberSet 9 = .ok (.lreturn, 1) := zdec_at bX1_numberSet_0 6 rfl
theorem sX1_numberSet_0 {E : zE} {d : Nat} {Q : zO → zM → Prop} (M : zM) (l0 : Int32) (hw : cw M) (k : ∀ x1_ : Int64, x1_ = (zls (l0).toInt64 (32 : Int32)) → (Q (.inl (some (vl ((32 : Int64) ||| x1_)))) M)) : Z E YX1_numberSet d M [(0, vi l0)] 0 [] Q := by
  refine z_ldc2 (v := 32) dX1_numberSet_0 q2568 ?_
  refine z_iload_n dX1_numberSet_3 rfl rfl ?_
  refine z_i2l dX1_numberSet_4 ?_
  refine z_bipush (v := 32) dX1_numberSet_5 rfl ?_
  refine z_lshl dX1_numberSet_7 ?_
  generalize hx1_ : zls (l0).toInt64 (32 : Int32) = x1_
  have k := k x1_ hx1_.symm
  refine z_lor dX1_numberSet_8 ?_
  exact z_lret dX1_numberSet_9 rfl k
/-! ScriptTypes.nextWith(LScriptTypes$Bag;)V -/
theorem bX1_nextWith_0 : zdec cX1_nextWith 0 [(0, .aload_n 1, 1), (1, .invokevirtual 764, 3), (4, .ifCond .eq 4, 3), (7, .return_, 1), (8, .aload_n 0, 1), (9, .getfield 684, 3), (12, .aload_n 1, 1), (13, .invokevirtual 767, 3), (16, .aload_n 0, 1), (17, .aload_n 0, 1), (18, .getfield 713, 3), (21, .iconst 1, 1), (22, .iadd, 1), (23, .invokevirtual 770, 3), (26, .aload_n 0, 1), (27, .getfield 684, 3)] = true := by decide +kernel
theorem dX1_nextWith_0 : decode cX1_nextWith 0 = .ok (.aload_n 1, 1) := zdec_at bX1_nextWith_0 0 rfl
theorem dX1_nextWith_1 : decode cX1_nextWith 1 = .ok (.invokevirtual 764, 3) := zdec_at bX1_nextWith_0 1 rfl
theorem dX1_nextWith_4 : decode cX1_nextWith 4 = .ok (.ifCond .eq 4, 3) := zdec_at bX1_nextWith_0 2 rfl
theorem dX1_nextWith_7 : decode cX1_nextWith 7 = .ok (.return_, 1) := zdec_at bX1_nextWith_0 3 rfl
theorem dX1_nextWith_8 : decode cX1_nextWith 8 = .ok (.aload_n 0, 1) := zdec_at bX1_nextWith_0 4 rfl
theorem dX1_nextWith_9 : decode cX1_nextWith 9 = .ok (.getfield 684, 3) := zdec_at bX1_nextWith_0 5 rfl
theorem dX1_nextWith_12 : decode cX1_nextWith 12 = .ok (.aload_n 1, 1) := zdec_at bX1_nextWith_0 6 rfl
theorem dX1_nextWith_13 : decode cX1_nextWith 13 = .ok (.invokevirtual 767, 3) := zdec_at bX1_nextWith_0 7 rfl
theorem dX1_nextWith_16 : decode cX1_nextWith 16 = .ok (.aload_n 0, 1) := zdec_at bX1_nextWith_0 8 rfl
theorem dX1_nextWith_17 : decode cX1_nextWith 17 = .ok (.aload_n 0, 1) := zdec_at bX1_nextWith_0 9 rfl
theorem dX1_nextWith_18 : decode cX1_nextWith 18 = .ok (.getfield 713, 3) := zdec_at bX1_nextWith_0 10 rfl
theorem dX1_nextWith_21 : decode cX1_nextWith 21 = .ok (.iconst 1, 1) := zdec_at bX1_nextWith_0 11 rfl
theorem dX1_nextWith_22 : decode cX1_nextWith 22 = .ok (.iadd, 1) := zdec_at bX1_nextWith_0 12 rfl
theorem dX1_nextWith_23 : decode cX1_nextWith 23 = .ok (.invokevirtual 770, 3) := zdec_at bX1_nextWith_0 13 rfl
theorem dX1_nextWith_26 : decode cX1_nextWith 26 = .ok (.aload_n 0, 1) := zdec_at bX1_nextWith_0 14 rfl
theorem dX1_nextWith_27 : decode cX1_nextWith 27 = .ok (.getfield 684, 3) := zdec_at bX1_nextWith_0 15 rfl
theorem bX1_nextWith_30 : zdec cX1_nextWith 30 [(30, .dup, 1), (31, .getfield 726, 3), (34, .iconst 1, 1), (35, .isub, 1), (36, .putfield 726, 3), (39, .return_, 1)] = true := by decide +kernel
theorem dX1_nextWith_30 : decode cX1_nextWith 30 = .ok (.dup, 1) := zdec_at bX1_nextWith_30 0 rfl
theorem dX1_nextWith_31 : decode cX1_nextWith 31 = .ok (.getfield 726, 3) := zdec_at bX1_nextWith_30 1 rfl
theorem dX1_nextWith_34 : decode cX1_nextWith 34 = .ok (.iconst 1, 1) := zdec_at bX1_nextWith_30 2 rfl
theorem dX1_nextWith_35 : decode cX1_nextWith 35 = .ok (.isub, 1) := zdec_at bX1_nextWith_30 3 rfl
theorem dX1_nextWith_36 : decode cX1_nextWith 36 = .ok (.putfield 726, 3) := zdec_at bX1_nextWith_30 4 rfl
theorem dX1_nextWith_39 : decode cX1_nextWith 39 = .ok (.return_, 1) := zdec_at bX1_nextWith_30 5 rfl
theorem sX1_nextWith_0 {E : zE} {d : Nat} {Q : zO → zM → Prop} (M : zM) (r1 : Option zP) (hw : cw M) (k : ∃ b1 : Nat, r1 = some (b1, 4, 0) ∧ (Z E YX6_isEmpty d M (zargs 0 [vr (some (b1, 4, 0))]) 0 [] (zafter E YX1_nextWith (d + 1) [(0, vr (some (16, 0, 0))), (1, vr (some (b1, 4, 0)))] 1 3 [] Q))) : Z E YX1_nextWith (d + 1) M [(0, vr (some (16, 0, 0))), (1, vr r1)] 0 [] Q := by
  refine z_aload_n dX1_nextWith_0 rfl rfl ?_
  obtain ⟨b1, e1_, k⟩ := k
  refine Z.eqs (lv' := [(0, vr (some (16, 0, 0))), (1, vr (some (b1, 4, 0)))]) (st' := [vr (some (b1, 4, 0))]) (by rw [e1_] <;> rfl) (by rw [e1_] <;> rfl) ?_
  exact z_callV (as := []) (st := []) dX1_nextWith_1 vsX1_764_4 (Nat.le_refl _) (Nat.le_of_ble_eq_true rfl) (Nat.le_of_ble_eq_true rfl) rfl k
theorem sX1_nextWith_4 {E : zE} {d : Nat} {Q : zO → zM → Prop} (M : zM) (a1 : Nat) (s0 : Int32) (hw : cw M) (k : if s0 = 0 then (∃ b1 : Nat, (gr M 16 60) = some (b1, 7, 0) ∧ (Z E YX43_push d M (zargs 0 [vr (some (b1, 7, 0)), vr (some (a1, 4, 0))]) 0 [] (zafter E YX1_nextWith (d + 1) [(0, vr (some (16, 0, 0)))] 13 3 [] Q))) else (Q (.inl none) M)) : Z E YX1_nextWith (d + 1) M [(0, vr (some (16, 0, 0))), (1, vr (some (a1, 4, 0)))] 4 [vi s0] Q := by
  refine z_if_eq (tgt := 8) dX1_nextWith_4 rfl (fun h_ => ?_) (fun h_ => ?_)
  · have k := zit h_ k
    refine z_aload_n dX1_nextWith_8 rfl rfl ?_
    refine z_getr (r := (gr M 16 60)) dX1_nextWith_9 fsX1_684_0 rfl ?_
    refine z_aload_n dX1_nextWith_12 rfl rfl ?_
    obtain ⟨b1, e1_, k⟩ := k
    refine Z.eqs (lv' := [(0, vr (some (16, 0, 0))), (1, vr (some (a1, 4, 0)))]) (st' := [vr (some (a1, 4, 0)), vr (some (b1, 7, 0))]) rfl (by rw [e1_] <;> rfl) ?_
    refine Z.pick [0] rfl ?_
    exact z_callV (as := [vr (some (a1, 4, 0))]) (st := []) dX1_nextWith_13 vsX1_767_7 (Nat.le_refl _) (Nat.le_of_ble_eq_true rfl) (Nat.le_of_ble_eq_true rfl) rfl k
  · have k := zif h_ k
    exact z_vret dX1_nextWith_7 rfl k
theorem sX1_nextWith_16 {E : zE} {d : Nat} {Q : zO → zM → Prop} (M : zM)  (hw : cw M) (k : Z E YX1_next d M (zargs 0 [vr (some (16, 0, 0)), vi ((gi M 16 76) + (1 : Int32))]) 0 [] (zafter E YX1_nextWith (d + 1) [(0, vr (some (16, 0, 0)))] 23 3 [] Q)) : Z E YX1_nextWith (d + 1) M [(0, vr (some (16, 0, 0)))] 16 [] Q := by
  refine z_aload_n dX1_nextWith_16 rfl rfl ?_
  refine z_aload_n dX1_nextWith_17 rfl rfl ?_
  refine z_geti dX1_nextWith_18 fsX1_713_0 ?_
  refine z_iconst (v := 1) dX1_nextWith_21 rfl ?_
  refine z_iadd dX1_nextWith_22 ?_
  exact z_callV (as := [vi ((gi M 16 76) + (1 : Int32))]) (st := []) dX1_nextWith_23 vsX1_770_0 (Nat.le_refl _) (Nat.le_of_ble_eq_true rfl) (Nat.le_of_ble_eq_true rfl) rfl k
theorem sX1_nextWith_26 {E : zE} {d : Nat} {Q : zO → zM → Prop} (M : zM)  (hw : cw M) (k : ∃ b1 : Nat, (gr M 16 60) = some (b1, 7, 0) ∧ (16 ≤ b1 ∧ (Q (.inl none) (si M b1 13 ((gi M b1 13) - (1 : Int32)))))) : Z E YX1_nextWith (d + 1) M [(0, vr (some (16, 0, 0)))] 26 [] Q := by
  refine z_aload_n dX1_nextWith_26 rfl rfl ?_
  refine z_getr (r := (gr M 16 60)) dX1_nextWith_27 fsX1_684_0 rfl ?_
  refine z_dup dX1_nextWith_30 rfl ?_
  obtain ⟨b1, e1_, k⟩ := k
  refine Z.eqs (lv' := [(0, vr (some (16, 0, 0)))]) (st' := [vr (some (b1, 7, 0)), vr (some (b1, 7, 0))]) rfl (by rw [e1_] <;> rfl) ?_
  refine z_geti dX1_nextWith_31 fsX1_726_7 ?_
  refine z_iconst (v := 1) dX1_nextWith_34 rfl ?_
  refine z_isub dX1_nextWith_35 ?_
  obtain ⟨g_, k⟩ := k
  refine z_puti g_ dX1_nextWith_36 (zfwN.w fwX1_726_7) rfl ⟨rfl, rfl⟩ ?_
  exact z_vret dX1_nextWith_39 rfl k
