/-! ScriptTypesModel.thrown()I -/
theorem bX8_thrown_0 : zdec cX8_thrown 0 [(0, .aload_n 0, 1), (1, .getfield 289, 3), (4, .ireturn, 1)] = true := by decide +kernel
theorem dX8_thrown_0 : decode cX8_thrown 0 = .ok (.aload_n 0, 1) := zdec_at bX8_thrown_0 0 rfl
theorem dX8_thrown_1 : decode cX8_thrown 1 = .ok (.getfield 289, 3) := zdec_at bX8_thrown_0 1 rfl
theorem dX8_thrown_4 : decode cX8_thrown 4 = .ok (.ireturn, 1) := zdec_at bX8_thrown_0 2 rfl
theorem sX8_thrown_0 {E : zE} {d : Nat} {Q : zO → zM → Prop} (M : zM)  (k : Q (.inl (some (vi (gi M 97 0)))) M) : Zm E YX8_thrown d M [(0, vr (some (97, 1, 0)))] 0 [] Q := by
  refine Zm.l (fun _ _ k_ => z_aload_n dX8_thrown_0 rfl rfl k_) ?_
  refine zm_geti dX8_thrown_1 fsX8_289_1 (by decide) (by decide) ?_
  exact zm_iret dX8_thrown_4 rfl rfl k
/-! ScriptTypesModel.feed(IIIII)I -/
theorem bX8_feed_0 : zdec cX8_feed 0 [(0, .aload_n 0, 1), (1, .iconst 0, 1), (2, .putfield 289, 3), (5, .aload_n 0, 1), (6, .getfield 293, 3), (9, .bipush 20, 2), (11, .iadd, 1), (12, .sipush 4000, 3), (15, .if_icmp .le 5, 3), (18, .iconst (-1), 1), (19, .ireturn, 1), (20, .iconst 0, 1), (21, .istore 6, 2), (23, .iload 6, 2), (25, .bipush 20, 2), (27, .if_icmp .ge 83, 3)] = true := by decide +kernel
theorem dX8_feed_0 : decode cX8_feed 0 = .ok (.aload_n 0, 1) := zdec_at bX8_feed_0 0 rfl
theorem dX8_feed_1 : decode cX8_feed 1 = .ok (.iconst 0, 1) := zdec_at bX8_feed_0 1 rfl
theorem dX8_feed_2 : decode cX8_feed 2 = .ok (.putfield 289, 3) := zdec_at bX8_feed_0 2 rfl
theorem dX8_feed_5 : decode cX8_feed 5 = .ok (.aload_n 0, 1) := zdec_at bX8_feed_0 3 rfl
theorem dX8_feed_6 : decode cX8_feed 6 = .ok (.getfield 293, 3) := zdec_at bX8_feed_0 4 rfl
theorem dX8_feed_9 : decode cX8_feed 9 = .ok (.bipush 20, 2) := zdec_at bX8_feed_0 5 rfl
theorem dX8_feed_11 : decode cX8_feed 11 = .ok (.iadd, 1) := zdec_at bX8_feed_0 6 rfl
theorem dX8_feed_12 : decode cX8_feed 12 = .ok (.sipush 4000, 3) := zdec_at bX8_feed_0 7 rfl
theorem dX8_feed_15 : decode cX8_feed 15 = .ok (.if_icmp .le 5, 3) := zdec_at bX8_feed_0 8 rfl
theorem dX8_feed_18 : decode cX8_feed 18 = .ok (.iconst (-1), 1) := zdec_at bX8_feed_0 9 rfl
theorem dX8_feed_19 : decode cX8_feed 19 = .ok (.ireturn, 1) := zdec_at bX8_feed_0 10 rfl
theorem dX8_feed_20 : decode cX8_feed 20 = .ok (.iconst 0, 1) := zdec_at bX8_feed_0 11 rfl
theorem dX8_feed_21 : decode cX8_feed 21 = .ok (.istore 6, 2) := zdec_at bX8_feed_0 12 rfl
theorem dX8_feed_23 : decode cX8_feed 23 = .ok (.iload 6, 2) := zdec_at bX8_feed_0 13 rfl
theorem dX8_feed_25 : decode cX8_feed 25 = .ok (.bipush 20, 2) := zdec_at bX8_feed_0 14 rfl
theorem dX8_feed_27 : decode cX8_feed 27 = .ok (.if_icmp .ge 83, 3) := zdec_at bX8_feed_0 15 rfl
theorem bX8_feed_30 : zdec cX8_feed 30 [(30, .iload 6, 2), (32, .iconst 4, 1), (33, .if_icmp .ge 7, 3), (36, .iload_n 1, 1), (37, .goto 39, 3), (40, .iload 6, 2), (42, .bipush 8, 2), (44, .if_icmp .ge 7, 3), (47, .iload_n 2, 1), (48, .goto 28, 3), (51, .iload 6, 2), (53, .bipush 12, 2), (55, .if_icmp .ge 7, 3), (58, .iload_n 3, 1), (59, .goto 17, 3), (62, .iload 6, 2)] = true := by decide +kernel
theorem dX8_feed_30 : decode cX8_feed 30 = .ok (.iload 6, 2) := zdec_at bX8_feed_30 0 rfl
theorem dX8_feed_32 : decode cX8_feed 32 = .ok (.iconst 4, 1) := zdec_at bX8_feed_30 1 rfl
theorem dX8_feed_33 : decode cX8_feed 33 = .ok (.if_icmp .ge 7, 3) := zdec_at bX8_feed_30 2 rfl
theorem dX8_feed_36 : decode cX8_feed 36 = .ok (.iload_n 1, 1) := zdec_at bX8_feed_30 3 rfl
theorem dX8_feed_37 : decode cX8_feed 37 = .ok (.goto 39, 3) := zdec_at bX8_feed_30 4 rfl
theorem dX8_feed_40 : decode cX8_feed 40 = .ok (.iload 6, 2) := zdec_at bX8_feed_30 5 rfl
theorem dX8_feed_42 : decode cX8_feed 42 = .ok (.bipush 8, 2) := zdec_at bX8_feed_30 6 rfl
theorem dX8_feed_44 : decode cX8_feed 44 = .ok (.if_icmp .ge 7, 3) := zdec_at bX8_feed_30 7 rfl
theorem dX8_feed_47 : decode cX8_feed 47 = .ok (.iload_n 2, 1) := zdec_at bX8_feed_30 8 rfl
theorem dX8_feed_48 : decode cX8_feed 48 = .ok (.goto 28, 3) := zdec_at bX8_feed_30 9 rfl
theorem dX8_feed_51 : decode cX8_feed 51 = .ok (.iload 6, 2) := zdec_at bX8_feed_30 10 rfl
theorem dX8_feed_53 : decode cX8_feed 53 = .ok (.bipush 12, 2) := zdec_at bX8_feed_30 11 rfl
theorem dX8_feed_55 : decode cX8_feed 55 = .ok (.if_icmp .ge 7, 3) := zdec_at bX8_feed_30 12 rfl
theorem dX8_feed_58 : decode cX8_feed 58 = .ok (.iload_n 3, 1) := zdec_at bX8_feed_30 13 rfl
theorem dX8_feed_59 : decode cX8_feed 59 = .ok (.goto 17, 3) := zdec_at bX8_feed_30 14 rfl
theorem dX8_feed_62 : decode cX8_feed 62 = .ok (.iload 6, 2) := zdec_at bX8_feed_30 15 rfl
theorem bX8_feed_64 : zdec cX8_feed 64 [(64, .bipush 16, 2), (66, .if_icmp .ge 8, 3), (69, .iload 4, 2), (71, .goto 5, 3), (74, .iload 5, 2), (76, .istore 7, 2), (78, .aload_n 0, 1), (79, .getfield 7, 3), (82, .aload_n 0, 1), (83, .getfield 293, 3), (86, .iload 6, 2), (88, .iadd, 1), (89, .iload 7, 2), (91, .bipush 24, 2), (93, .bipush 8, 2), (95, .iload 6, 2)] = true := by decide +kernel
theorem dX8_feed_64 : decode cX8_feed 64 = .ok (.bipush 16, 2) := zdec_at bX8_feed_64 0 rfl
theorem dX8_feed_66 : decode cX8_feed 66 = .ok (.if_icmp .ge 8, 3) := zdec_at bX8_feed_64 1 rfl
theorem dX8_feed_69 : decode cX8_feed 69 = .ok (.iload 4, 2) := zdec_at bX8_feed_64 2 rfl
theorem dX8_feed_71 : decode cX8_feed 71 = .ok (.goto 5, 3) := zdec_at bX8_feed_64 3 rfl
theorem dX8_feed_74 : decode cX8_feed 74 = .ok (.iload 5, 2) := zdec_at bX8_feed_64 4 rfl
theorem dX8_feed_76 : decode cX8_feed 76 = .ok (.istore 7, 2) := zdec_at bX8_feed_64 5 rfl
theorem dX8_feed_78 : decode cX8_feed 78 = .ok (.aload_n 0, 1) := zdec_at bX8_feed_64 6 rfl
theorem dX8_feed_79 : decode cX8_feed 79 = .ok (.getfield 7, 3) := zdec_at bX8_feed_64 7 rfl
theorem dX8_feed_82 : decode cX8_feed 82 = .ok (.aload_n 0, 1) := zdec_at bX8_feed_64 8 rfl
theorem dX8_feed_83 : decode cX8_feed 83 = .ok (.getfield 293, 3) := zdec_at bX8_feed_64 9 rfl
theorem dX8_feed_86 : decode cX8_feed 86 = .ok (.iload 6, 2) := zdec_at bX8_feed_64 10 rfl
theorem dX8_feed_88 : decode cX8_feed 88 = .ok (.iadd, 1) := zdec_at bX8_feed_64 11 rfl
theorem dX8_feed_89 : decode cX8_feed 89 = .ok (.iload 7, 2) := zdec_at bX8_feed_64 12 rfl
theorem dX8_feed_91 : decode cX8_feed 91 = .ok (.bipush 24, 2) := zdec_at bX8_feed_64 13 rfl
theorem dX8_feed_93 : decode cX8_feed 93 = .ok (.bipush 8, 2) := zdec_at bX8_feed_64 14 rfl
theorem dX8_feed_95 : decode cX8_feed 95 = .ok (.iload 6, 2) := zdec_at bX8_feed_64 15 rfl
theorem bX8_feed_97 : zdec cX8_feed 97 [(97, .iconst 4, 1), (98, .irem, 1), (99, .imul, 1), (100, .isub, 1), (101, .ishr, 1), (102, .i2b, 1), (103, .bastore, 1), (104, .iinc 6 1, 3), (107, .goto (-84), 3), (110, .aload_n 0, 1), (111, .dup, 1), (112, .getfield 293, 3), (115, .bipush 20, 2), (117, .iadd, 1), (118, .putfield 293, 3), (121, .aload_n 0, 1)] = true := by decide +kernel
theorem dX8_feed_97 : decode cX8_feed 97 = .ok (.iconst 4, 1) := zdec_at bX8_feed_97 0 rfl
theorem dX8_feed_98 : decode cX8_feed 98 = .ok (.irem, 1) := zdec_at bX8_feed_97 1 rfl
theorem dX8_feed_99 : decode cX8_feed 99 = .ok (.imul, 1) := zdec_at bX8_feed_97 2 rfl
theorem dX8_feed_100 : decode cX8_feed 100 = .ok (.isub, 1) := zdec_at bX8_feed_97 3 rfl
theorem dX8_feed_101 : decode cX8_feed 101 = .ok (.ishr, 1) := zdec_at bX8_feed_97 4 rfl
theorem dX8_feed_102 : decode cX8_feed 102 = .ok (.i2b, 1) := zdec_at bX8_feed_97 5 rfl
theorem dX8_feed_103 : decode cX8_feed 103 = .ok (.bastore, 1) := zdec_at bX8_feed_97 6 rfl
theorem dX8_feed_104 : decode cX8_feed 104 = .ok (.iinc 6 1, 3) := zdec_at bX8_feed_97 7 rfl
theorem dX8_feed_107 : decode cX8_feed 107 = .ok (.goto (-84), 3) := zdec_at bX8_feed_97 8 rfl
theorem dX8_feed_110 : decode cX8_feed 110 = .ok (.aload_n 0, 1) := zdec_at bX8_feed_97 9 rfl
theorem dX8_feed_111 : decode cX8_feed 111 = .ok (.dup, 1) := zdec_at bX8_feed_97 10 rfl
theorem dX8_feed_112 : decode cX8_feed 112 = .ok (.getfield 293, 3) := zdec_at bX8_feed_97 11 rfl
theorem dX8_feed_115 : decode cX8_feed 115 = .ok (.bipush 20, 2) := zdec_at bX8_feed_97 12 rfl
theorem dX8_feed_117 : decode cX8_feed 117 = .ok (.iadd, 1) := zdec_at bX8_feed_97 13 rfl
theorem dX8_feed_118 : decode cX8_feed 118 = .ok (.putfield 293, 3) := zdec_at bX8_feed_97 14 rfl
theorem dX8_feed_121 : decode cX8_feed 121 = .ok (.aload_n 0, 1) := zdec_at bX8_feed_97 15 rfl
theorem bX8_feed_122 : zdec cX8_feed 122 [(122, .getfield 293, 3), (125, .ireturn, 1)] = true := by decide +kernel
theorem dX8_feed_122 : decode cX8_feed 122 = .ok (.getfield 293, 3) := zdec_at bX8_feed_122 0 rfl
theorem dX8_feed_125 : decode cX8_feed 125 = .ok (.ireturn, 1) := zdec_at bX8_feed_122 1 rfl
theorem sX8_feed_0 {E : zE} {d : Nat} {Q : zO → zM → Prop} (M : zM) (l1 : Int32) (l2 : Int32) (l3 : Int32) (l4 : Int32) (l5 : Int32) (k : if ((gi M 97 2) + (20 : Int32)) ≤ (4000 : Int32) then (Zm E YX8_feed d (si M 97 0 (0 : Int32)) [(0, vr (some (97, 1, 0))), (1, vi l1), (2, vi l2), (3, vi l3), (4, vi l4), (5, vi l5), (6, vi (0 : Int32))] 23 [] Q) else (Q (.inl (some (vi (-1 : Int32)))) (si M 97 0 (0 : Int32)))) : Zm E YX8_feed d M [(0, vr (some (97, 1, 0))), (1, vi l1), (2, vi l2), (3, vi l3), (4, vi l4), (5, vi l5)] 0 [] Q := by
  refine Zm.l (fun _ _ k_ => z_aload_n dX8_feed_0 rfl rfl k_) ?_
  refine Zm.l (fun _ _ k_ => z_iconst (v := 0) dX8_feed_1 rfl k_) ?_
  refine zm_puti (by decide) (by decide) dX8_feed_2 (zfwN.w fwX8_289_1) rfl ⟨rfl, rfl⟩ ?_
  refine Zm.l (fun _ _ k_ => z_aload_n dX8_feed_5 rfl rfl k_) ?_
  refine zm_geti dX8_feed_6 fsX8_293_1 (by decide) (by decide) ?_
  refine Zm.l (fun _ _ k_ => z_bipush (v := 20) dX8_feed_9 rfl k_) ?_
  refine Zm.l (fun _ _ k_ => z_iadd dX8_feed_11 k_) ?_
  refine Zm.l (fun _ _ k_ => z_sipush (v := 4000) dX8_feed_12 rfl k_) ?_
  refine Zm.br (fun _ _ k1_ k2_ => z_icmp_le (tgt := 20) dX8_feed_15 rfl k1_ k2_) (fun h_ => ?_) (fun h_ => ?_)
  · have k := zit h_ k
    refine Zm.l (fun _ _ k_ => z_iconst (v := 0) dX8_feed_20 rfl k_) ?_
    refine Zm.l (fun _ _ k_ => z_ist dX8_feed_21 (by decide) (lv' := [(0, vr (some (97, 1, 0))), (1, vi l1), (2, vi l2), (3, vi l3), (4, vi l4), (5, vi l5), (6, vi (0 : Int32))]) rfl k_) ?_
    exact k
  · have k := zif h_ k
    refine Zm.l (fun _ _ k_ => z_iconst (v := -1) dX8_feed_18 rfl k_) ?_
    exact zm_iret dX8_feed_19 rfl rfl k
theorem sX8_feed_23 {E : zE} {d : Nat} {Q : zO → zM → Prop} (M : zM) (l1 : Int32) (l2 : Int32) (l3 : Int32) (l4 : Int32) (l5 : Int32) (l6 : Int32) (k : if (20 : Int32) ≤ l6 then (Q (.inl (some (vi ((gi M 97 2) + (20 : Int32))))) (si M 97 2 ((gi M 97 2) + (20 : Int32)))) else (if (4 : Int32) ≤ l6 then (if (8 : Int32) ≤ l6 then (if (12 : Int32) ≤ l6 then (if (16 : Int32) ≤ l6 then (Zm E YX8_feed d M [(0, vr (some (97, 1, 0))), (1, vi l1), (2, vi l2), (3, vi l3), (4, vi l4), (5, vi l5), (6, vi l6)] 76 [vi l5] Q) else (Zm E YX8_feed d M [(0, vr (some (97, 1, 0))), (1, vi l1), (2, vi l2), (3, vi l3), (4, vi l4), (5, vi l5), (6, vi l6)] 76 [vi l4] Q)) else (Zm E YX8_feed d M [(0, vr (some (97, 1, 0))), (1, vi l1), (2, vi l2), (3, vi l3), (4, vi l4), (5, vi l5), (6, vi l6)] 76 [vi l3] Q)) else (Zm E YX8_feed d M [(0, vr (some (97, 1, 0))), (1, vi l1), (2, vi l2), (3, vi l3), (4, vi l4), (5, vi l5), (6, vi l6)] 76 [vi l2] Q)) else (Zm E YX8_feed d M [(0, vr (some (97, 1, 0))), (1, vi l1), (2, vi l2), (3, vi l3), (4, vi l4), (5, vi l5), (6, vi l6)] 76 [vi l1] Q))) : Zm E YX8_feed d M [(0, vr (some (97, 1, 0))), (1, vi l1), (2, vi l2), (3, vi l3), (4, vi l4), (5, vi l5), (6, vi l6)] 23 [] Q := by
  refine Zm.l (fun _ _ k_ => z_iload dX8_feed_23 rfl k_) ?_
  refine Zm.l (fun _ _ k_ => z_bipush (v := 20) dX8_feed_25 rfl k_) ?_
  refine Zm.br (fun _ _ k1_ k2_ => z_icmp_ge (tgt := 110) dX8_feed_27 rfl k1_ k2_) (fun h_ => ?_) (fun h_ => ?_)
  · have k := zit h_ k
    refine Zm.l (fun _ _ k_ => z_aload_n dX8_feed_110 rfl rfl k_) ?_
    refine Zm.l (fun _ _ k_ => z_dup dX8_feed_111 rfl k_) ?_
    refine zm_geti dX8_feed_112 fsX8_293_1 (by decide) (by decide) ?_
    refine Zm.l (fun _ _ k_ => z_bipush (v := 20) dX8_feed_115 rfl k_) ?_
    refine Zm.l (fun _ _ k_ => z_iadd dX8_feed_117 k_) ?_
    refine zm_puti (by decide) (by decide) dX8_feed_118 (zfwN.w fwX8_293_1) rfl ⟨rfl, rfl⟩ ?_
    refine Zm.l (fun _ _ k_ => z_aload_n dX8_feed_121 rfl rfl k_) ?_
    refine zm_geti dX8_feed_122 fsX8_293_1 (by decide) (by decide) ?_
    exact zm_iret dX8_feed_125 rfl rfl k
  · have k := zif h_ k
    refine Zm.l (fun _ _ k_ => z_iload dX8_feed_30 rfl k_) ?_
    refine Zm.l (fun _ _ k_ => z_iconst (v := 4) dX8_feed_32 rfl k_) ?_
    refine Zm.br (fun _ _ k1_ k2_ => z_icmp_ge (tgt := 40) dX8_feed_33 rfl k1_ k2_) (fun h_ => ?_) (fun h_ => ?_)
    · have k := zit h_ k
      refine Zm.l (fun _ _ k_ => z_iload dX8_feed_40 rfl k_) ?_
      refine Zm.l (fun _ _ k_ => z_bipush (v := 8) dX8_feed_42 rfl k_) ?_
      refine Zm.br (fun _ _ k1_ k2_ => z_icmp_ge (tgt := 51) dX8_feed_44 rfl k1_ k2_) (fun h_ => ?_) (fun h_ => ?_)
      · have k := zit h_ k
        refine Zm.l (fun _ _ k_ => z_iload dX8_feed_51 rfl k_) ?_
        refine Zm.l (fun _ _ k_ => z_bipush (v := 12) dX8_feed_53 rfl k_) ?_
        refine Zm.br (fun _ _ k1_ k2_ => z_icmp_ge (tgt := 62) dX8_feed_55 rfl k1_ k2_) (fun h_ => ?_) (fun h_ => ?_)
        · have k := zit h_ k
          refine Zm.l (fun _ _ k_ => z_iload dX8_feed_62 rfl k_) ?_
          refine Zm.l (fun _ _ k_ => z_bipush (v := 16) dX8_feed_64 rfl k_) ?_
          refine Zm.br (fun _ _ k1_ k2_ => z_icmp_ge (tgt := 74) dX8_feed_66 rfl k1_ k2_) (fun h_ => ?_) (fun h_ => ?_)
          · have k := zit h_ k
            refine Zm.l (fun _ _ k_ => z_iload dX8_feed_74 rfl k_) ?_
            exact k
          · have k := zif h_ k
            refine Zm.l (fun _ _ k_ => z_iload dX8_feed_69 rfl k_) ?_
            refine Zm.l (fun _ _ k_ => z_goto (tgt := 76) dX8_feed_71 rfl k_) ?_
            exact k
        · have k := zif h_ k
          refine Zm.l (fun _ _ k_ => z_iload_n dX8_feed_58 rfl rfl k_) ?_
          refine Zm.l (fun _ _ k_ => z_goto (tgt := 76) dX8_feed_59 rfl k_) ?_
          exact k
      · have k := zif h_ k
        refine Zm.l (fun _ _ k_ => z_iload_n dX8_feed_47 rfl rfl k_) ?_
        refine Zm.l (fun _ _ k_ => z_goto (tgt := 76) dX8_feed_48 rfl k_) ?_
        exact k
    · have k := zif h_ k
      refine Zm.l (fun _ _ k_ => z_iload_n dX8_feed_36 rfl rfl k_) ?_
      refine Zm.l (fun _ _ k_ => z_goto (tgt := 76) dX8_feed_37 rfl k_) ?_
      exact k
theorem sX8_feed_76 {E : zE} {d : Nat} {Q : zO → zM → Prop} (M : zM) (l1 : Int32) (l2 : Int32) (l3 : Int32) (l4 : Int32) (l5 : Int32) (l6 : Int32) (s0 : Int32) (k : vp_in ((gi M 97 2) + l6) 4000 ∧ (Zm E YX8_feed d (si M 98 (((gi M 97 2) + l6)).toNatClampNeg (vp_nar .byte ((s0 >>> (((24 : Int32) - ((8 : Int32) * (l6 - l6 / (4 : Int32) * (4 : Int32)))) &&& 31))).toInt8.toInt32)) [(0, vr (some (97, 1, 0))), (1, vi l1), (2, vi l2), (3, vi l3), (4, vi l4), (5, vi l5), (6, vi (l6 + (1 : Int32)))] 23 [] Q)) : Zm E YX8_feed d M [(0, vr (some (97, 1, 0))), (1, vi l1), (2, vi l2), (3, vi l3), (4, vi l4), (5, vi l5), (6, vi l6)] 76 [vi s0] Q := by
  refine Zm.l (fun _ _ k_ => z_ist dX8_feed_76 (by decide) (lv' := [(0, vr (some (97, 1, 0))), (1, vi l1), (2, vi l2), (3, vi l3), (4, vi l4), (5, vi l5), (6, vi l6), (7, vi s0)]) rfl k_) ?_
  refine Zm.l (fun _ _ k_ => z_aload_n dX8_feed_78 rfl rfl k_) ?_
  refine zm_getr 0 dX8_feed_79 fsX8_7_1 rfl ?_
  refine Zm.l (fun _ _ k_ => z_aload_n dX8_feed_82 rfl rfl k_) ?_
  refine zm_geti dX8_feed_83 fsX8_293_1 (by decide) (by decide) ?_
  refine Zm.l (fun _ _ k_ => z_iload dX8_feed_86 rfl k_) ?_
  refine Zm.l (fun _ _ k_ => z_iadd dX8_feed_88 k_) ?_
  refine Zm.l (fun _ _ k_ => z_iload dX8_feed_89 rfl k_) ?_
  refine Zm.l (fun _ _ k_ => z_bipush (v := 24) dX8_feed_91 rfl k_) ?_
  refine Zm.l (fun _ _ k_ => z_bipush (v := 8) dX8_feed_93 rfl k_) ?_
  refine Zm.l (fun _ _ k_ => z_iload dX8_feed_95 rfl k_) ?_
  refine Zm.l (fun _ _ k_ => z_iconst (v := 4) dX8_feed_97 rfl k_) ?_
  refine Zm.l (fun _ _ k_ => z_irem dX8_feed_98 (by decide) k_) ?_
  refine Zm.l (fun _ _ k_ => z_imul dX8_feed_99 k_) ?_
  refine Zm.l (fun _ _ k_ => z_isub dX8_feed_100 k_) ?_
  refine Zm.l (fun _ _ k_ => z_ishr dX8_feed_101 k_) ?_
  refine Zm.l (fun _ _ k_ => z_i2b dX8_feed_102 k_) ?_
  obtain ⟨b_, k⟩ := k
  refine zm_bast dX8_feed_103 b_ (by decide) (by decide) ?_
  refine Zm.l (fun _ _ k_ => z_inc (v := (l6 + (1 : Int32))) dX8_feed_104 rfl rfl (by decide) (lv' := [(0, vr (some (97, 1, 0))), (1, vi l1), (2, vi l2), (3, vi l3), (4, vi l4), (5, vi l5), (6, vi (l6 + (1 : Int32))), (7, vi s0)]) rfl k_) ?_
  refine Zm.l (fun _ _ k_ => z_goto (tgt := 23) dX8_feed_107 rfl k_) ?_
  refine Zm.pick [0, 1, 2, 3, 4, 5, 6] rfl ?_
  exact k
/-! ScriptTypesModel.back(I)I -/
theorem bX8_back_0 : zdec cX8_back 0 [(0, .aload_n 0, 1), (1, .iconst 0, 1), (2, .putfield 289, 3), (5, .iload_n 1, 1), (6, .ifCond .lt 11, 3), (9, .iload_n 1, 1), (10, .aload_n 0, 1), (11, .getfield 293, 3), (14, .if_icmp .le 5, 3), (17, .iconst (-1), 1), (18, .ireturn, 1), (19, .aload_n 0, 1), (20, .dup, 1), (21, .getfield 293, 3), (24, .iload_n 1, 1), (25, .isub, 1)] = true := by decide +kernel
theorem dX8_back_0 : decode cX8_back 0 = .ok (.aload_n 0, 1) := zdec_at bX8_back_0 0 rfl
theorem dX8_back_1 : decode cX8_back 1 = .ok (.iconst 0, 1) := zdec_at bX8_back_0 1 rfl
theorem dX8_back_2 : decode cX8_back 2 = .ok (.putfield 289, 3) := zdec_at bX8_back_0 2 rfl
theorem dX8_back_5 : decode cX8_back 5 = .ok (.iload_n 1, 1) := zdec_at bX8_back_0 3 rfl
theorem dX8_back_6 : decode cX8_back 6 = .ok (.ifCond .lt 11, 3) := zdec_at bX8_back_0 4 rfl
theorem dX8_back_9 : decode cX8_back 9 = .ok (.iload_n 1, 1) := zdec_at bX8_back_0 5 rfl
theorem dX8_back_10 : decode cX8_back 10 = .ok (.aload_n 0, 1) := zdec_at bX8_back_0 6 rfl
theorem dX8_back_11 : decode cX8_back 11 = .ok (.getfield 293, 3) := zdec_at bX8_back_0 7 rfl
theorem dX8_back_14 : decode cX8_back 14 = .ok (.if_icmp .le 5, 3) := zdec_at bX8_back_0 8 rfl
theorem dX8_back_17 : decode cX8_back 17 = .ok (.iconst (-1), 1) := zdec_at bX8_back_0 9 rfl
theorem dX8_back_18 : decode cX8_back 18 = .ok (.ireturn, 1) := zdec_at bX8_back_0 10 rfl
theorem dX8_back_19 : decode cX8_back 19 = .ok (.aload_n 0, 1) := zdec_at bX8_back_0 11 rfl
theorem dX8_back_20 : decode cX8_back 20 = .ok (.dup, 1) := zdec_at bX8_back_0 12 rfl
theorem dX8_back_21 : decode cX8_back 21 = .ok (.getfield 293, 3) := zdec_at bX8_back_0 13 rfl
theorem dX8_back_24 : decode cX8_back 24 = .ok (.iload_n 1, 1) := zdec_at bX8_back_0 14 rfl
theorem dX8_back_25 : decode cX8_back 25 = .ok (.isub, 1) := zdec_at bX8_back_0 15 rfl
theorem bX8_back_26 : zdec cX8_back 26 [(26, .putfield 293, 3), (29, .aload_n 0, 1), (30, .getfield 293, 3), (33, .ireturn, 1)] = true := by decide +kernel
theorem dX8_back_26 : decode cX8_back 26 = .ok (.putfield 293, 3) := zdec_at bX8_back_26 0 rfl
theorem dX8_back_29 : decode cX8_back 29 = .ok (.aload_n 0, 1) := zdec_at bX8_back_26 1 rfl
theorem dX8_back_30 : decode cX8_back 30 = .ok (.getfield 293, 3) := zdec_at bX8_back_26 2 rfl
theorem dX8_back_33 : decode cX8_back 33 = .ok (.ireturn, 1) := zdec_at bX8_back_26 3 rfl
theorem sX8_back_0 {E : zE} {d : Nat} {Q : zO → zM → Prop} (M : zM) (l1 : Int32) (k : if l1 < 0 then (Q (.inl (some (vi (-1 : Int32)))) (si M 97 0 (0 : Int32))) else (if l1 ≤ (gi M 97 2) then (Q (.inl (some (vi ((gi M 97 2) - l1)))) (si (si M 97 0 (0 : Int32)) 97 2 ((gi M 97 2) - l1))) else (Q (.inl (some (vi (-1 : Int32)))) (si M 97 0 (0 : Int32))))) : Zm E YX8_back d M [(0, vr (some (97, 1, 0))), (1, vi l1)] 0 [] Q := by
  refine Zm.l (fun _ _ k_ => z_aload_n dX8_back_0 rfl rfl k_) ?_
  refine Zm.l (fun _ _ k_ => z_iconst (v := 0) dX8_back_1 rfl k_) ?_
  refine zm_puti (by decide) (by decide) dX8_back_2 (zfwN.w fwX8_289_1) rfl ⟨rfl, rfl⟩ ?_
  refine Zm.l (fun _ _ k_ => z_iload_n dX8_back_5 rfl rfl k_) ?_
  refine Zm.br (fun _ _ k1_ k2_ => z_if_lt (tgt := 17) dX8_back_6 rfl k1_ k2_) (fun h_ => ?_) (fun h_ => ?_)
  · have k := zit h_ k
    refine Zm.l (fun _ _ k_ => z_iconst (v := -1) dX8_back_17 rfl k_) ?_
    exact zm_iret dX8_back_18 rfl rfl k
  · have k := zif h_ k
    refine Zm.l (fun _ _ k_ => z_iload_n dX8_back_9 rfl rfl k_) ?_
    refine Zm.l (fun _ _ k_ => z_aload_n dX8_back_10 rfl rfl k_) ?_
    refine zm_geti dX8_back_11 fsX8_293_1 (by decide) (by decide) ?_
    refine Zm.br (fun _ _ k1_ k2_ => z_icmp_le (tgt := 19) dX8_back_14 rfl k1_ k2_) (fun h_ => ?_) (fun h_ => ?_)
    · have k := zit h_ k
      refine Zm.l (fun _ _ k_ => z_aload_n dX8_back_19 rfl rfl k_) ?_
      refine Zm.l (fun _ _ k_ => z_dup dX8_back_20 rfl k_) ?_
      refine zm_geti dX8_back_21 fsX8_293_1 (by decide) (by decide) ?_
      refine Zm.l (fun _ _ k_ => z_iload_n dX8_back_24 rfl rfl k_) ?_
      refine Zm.l (fun _ _ k_ => z_isub dX8_back_25 k_) ?_
      refine zm_puti (by decide) (by decide) dX8_back_26 (zfwN.w fwX8_293_1) rfl ⟨rfl, rfl⟩ ?_
      refine Zm.l (fun _ _ k_ => z_aload_n dX8_back_29 rfl rfl k_) ?_
      refine zm_geti dX8_back_30 fsX8_293_1 (by decide) (by decide) ?_
      exact zm_iret dX8_back_33 rfl rfl k
    · have k := zif h_ k
      refine Zm.l (fun _ _ k_ => z_iconst (v := -1) dX8_back_17 rfl k_) ?_
      exact zm_iret dX8_back_18 rfl rfl k
/-! ScriptTypesModel.read()I -/
theorem bX8_read_0 : zdec cX8_read 0 [(0, .aload_n 0, 1), (1, .iconst 0, 1), (2, .putfield 289, 3), (5, .aload_n 0, 1), (6, .iconst 0, 1), (7, .putfield 770, 3), (10, .aload_n 0, 1), (11, .aload_n 0, 1), (12, .getfield 293, 3), (15, .putfield 328, 3), (18, .iconst 0, 1), (19, .istore_n 1, 1), (20, .iload_n 1, 1), (21, .aload_n 0, 1), (22, .getfield 328, 3), (25, .if_icmp .ge 21, 3)] = true := by decide +kernel
theorem dX8_read_0 : decode cX8_read 0 = .ok (.aload_n 0, 1) := zdec_at bX8_read_0 0 rfl
theorem dX8_read_1 : decode cX8_read 1 = .ok (.iconst 0, 1) := zdec_at bX8_read_0 1 rfl
theorem dX8_read_2 : decode cX8_read 2 = .ok (.putfield 289, 3) := zdec_at bX8_read_0 2 rfl
theorem dX8_read_5 : decode cX8_read 5 = .ok (.aload_n 0, 1) := zdec_at bX8_read_0 3 rfl
theorem dX8_read_6 : decode cX8_read 6 = .ok (.iconst 0, 1) := zdec_at bX8_read_0 4 rfl
theorem dX8_read_7 : decode cX8_read 7 = .ok (.putfield 770, 3) := zdec_at bX8_read_0 5 rfl
theorem dX8_read_10 : decode cX8_read 10 = .ok (.aload_n 0, 1) := zdec_at bX8_read_0 6 rfl
theorem dX8_read_11 : decode cX8_read 11 = .ok (.aload_n 0, 1) := zdec_at bX8_read_0 7 rfl
theorem dX8_read_12 : decode cX8_read 12 = .ok (.getfield 293, 3) := zdec_at bX8_read_0 8 rfl
theorem dX8_read_15 : decode cX8_read 15 = .ok (.putfield 328, 3) := zdec_at bX8_read_0 9 rfl
theorem dX8_read_18 : decode cX8_read 18 = .ok (.iconst 0, 1) := zdec_at bX8_read_0 10 rfl
theorem dX8_read_19 : decode cX8_read 19 = .ok (.istore_n 1, 1) := zdec_at bX8_read_0 11 rfl
theorem dX8_read_20 : decode cX8_read 20 = .ok (.iload_n 1, 1) := zdec_at bX8_read_0 12 rfl
theorem dX8_read_21 : decode cX8_read 21 = .ok (.aload_n 0, 1) := zdec_at bX8_read_0 13 rfl
theorem dX8_read_22 : decode cX8_read 22 = .ok (.getfield 328, 3) := zdec_at bX8_read_0 14 rfl
theorem dX8_read_25 : decode cX8_read 25 = .ok (.if_icmp .ge 21, 3) := zdec_at bX8_read_0 15 rfl
theorem bX8_read_28 : zdec cX8_read 28 [(28, .aload_n 0, 1), (29, .getfield 13, 3), (32, .iload_n 1, 1), (33, .aload_n 0, 1), (34, .getfield 7, 3), (37, .iload_n 1, 1), (38, .baload, 1), (39, .bastore, 1), (40, .iinc 1 1, 3), (43, .goto (-23), 3), (46, .aload_n 0, 1), (47, .iconst 0, 1), (48, .putfield 293, 3), (51, .aload_n 0, 1), (52, .iconst 0, 1), (53, .putfield 773, 3)] = true := by decide +kernel
theorem dX8_read_28 : decode cX8_read 28 = .ok (.aload_n 0, 1) := zdec_at bX8_read_28 0 rfl
theorem dX8_read_29 : decode cX8_read 29 = .ok (.getfield 13, 3) := zdec_at bX8_read_28 1 rfl
theorem dX8_read_32 : decode cX8_read 32 = .ok (.iload_n 1, 1) := zdec_at bX8_read_28 2 rfl
theorem dX8_read_33 : decode cX8_read 33 = .ok (.aload_n 0, 1) := zdec_at bX8_read_28 3 rfl
theorem dX8_read_34 : decode cX8_read 34 = .ok (.getfield 7, 3) := zdec_at bX8_read_28 4 rfl
theorem dX8_read_37 : decode cX8_read 37 = .ok (.iload_n 1, 1) := zdec_at bX8_read_28 5 rfl
theorem dX8_read_38 : decode cX8_read 38 = .ok (.baload, 1) := zdec_at bX8_read_28 6 rfl
theorem dX8_read_39 : decode cX8_read 39 = .ok (.bastore, 1) := zdec_at bX8_read_28 7 rfl
theorem dX8_read_40 : decode cX8_read 40 = .ok (.iinc 1 1, 3) := zdec_at bX8_read_28 8 rfl
theorem dX8_read_43 : decode cX8_read 43 = .ok (.goto (-23), 3) := zdec_at bX8_read_28 9 rfl
theorem dX8_read_46 : decode cX8_read 46 = .ok (.aload_n 0, 1) := zdec_at bX8_read_28 10 rfl
theorem dX8_read_47 : decode cX8_read 47 = .ok (.iconst 0, 1) := zdec_at bX8_read_28 11 rfl
theorem dX8_read_48 : decode cX8_read 48 = .ok (.putfield 293, 3) := zdec_at bX8_read_28 12 rfl
theorem dX8_read_51 : decode cX8_read 51 = .ok (.aload_n 0, 1) := zdec_at bX8_read_28 13 rfl
theorem dX8_read_52 : decode cX8_read 52 = .ok (.iconst 0, 1) := zdec_at bX8_read_28 14 rfl
theorem dX8_read_53 : decode cX8_read 53 = .ok (.putfield 773, 3) := zdec_at bX8_read_28 15 rfl
theorem bX8_read_56 : zdec cX8_read 56 [(56, .aload_n 0, 1), (57, .iconst 0, 1), (58, .putfield 776, 3), (61, .aload_n 0, 1), (62, .invokevirtual 779, 3), (65, .aload_n 0, 1), (66, .invokevirtual 782, 3), (69, .aload_n 0, 1), (70, .iconst 0, 1), (71, .putfield 392, 3), (74, .aload_n 0, 1), (75, .iconst 0, 1), (76, .putfield 389, 3), (79, .aload_n 0, 1), (80, .iconst 0, 1), (81, .putfield 407, 3)] = true := by decide +kernel
theorem dX8_read_56 : decode cX8_read 56 = .ok (.aload_n 0, 1) := zdec_at bX8_read_56 0 rfl
theorem dX8_read_57 : decode cX8_read 57 = .ok (.iconst 0, 1) := zdec_at bX8_read_56 1 rfl
theorem dX8_read_58 : decode cX8_read 58 = .ok (.putfield 776, 3) := zdec_at bX8_read_56 2 rfl
theorem dX8_read_61 : decode cX8_read 61 = .ok (.aload_n 0, 1) := zdec_at bX8_read_56 3 rfl
theorem dX8_read_62 : decode cX8_read 62 = .ok (.invokevirtual 779, 3) := zdec_at bX8_read_56 4 rfl
theorem dX8_read_65 : decode cX8_read 65 = .ok (.aload_n 0, 1) := zdec_at bX8_read_56 5 rfl
theorem dX8_read_66 : decode cX8_read 66 = .ok (.invokevirtual 782, 3) := zdec_at bX8_read_56 6 rfl
theorem dX8_read_69 : decode cX8_read 69 = .ok (.aload_n 0, 1) := zdec_at bX8_read_56 7 rfl
theorem dX8_read_70 : decode cX8_read 70 = .ok (.iconst 0, 1) := zdec_at bX8_read_56 8 rfl
theorem dX8_read_71 : decode cX8_read 71 = .ok (.putfield 392, 3) := zdec_at bX8_read_56 9 rfl
theorem dX8_read_74 : decode cX8_read 74 = .ok (.aload_n 0, 1) := zdec_at bX8_read_56 10 rfl
theorem dX8_read_75 : decode cX8_read 75 = .ok (.iconst 0, 1) := zdec_at bX8_read_56 11 rfl
theorem dX8_read_76 : decode cX8_read 76 = .ok (.putfield 389, 3) := zdec_at bX8_read_56 12 rfl
theorem dX8_read_79 : decode cX8_read 79 = .ok (.aload_n 0, 1) := zdec_at bX8_read_56 13 rfl
theorem dX8_read_80 : decode cX8_read 80 = .ok (.iconst 0, 1) := zdec_at bX8_read_56 14 rfl
theorem dX8_read_81 : decode cX8_read 81 = .ok (.putfield 407, 3) := zdec_at bX8_read_56 15 rfl
theorem bX8_read_84 : zdec cX8_read 84 [(84, .aload_n 0, 1), (85, .iconst 0, 1), (86, .putfield 421, 3), (89, .aload_n 0, 1), (90, .iconst 0, 1), (91, .putfield 424, 3), (94, .aload_n 0, 1), (95, .iconst 1, 1), (96, .putfield 527, 3), (99, .aload_n 0, 1), (100, .iconst 0, 1), (101, .putfield 427, 3), (104, .aload_n 0, 1), (105, .iconst 0, 1), (106, .putfield 530, 3), (109, .aload_n 0, 1)] = true := by decide +kernel
theorem dX8_read_84 : decode cX8_read 84 = .ok (.aload_n 0, 1) := zdec_at bX8_read_84 0 rfl
theorem dX8_read_85 : decode cX8_read 85 = .ok (.iconst 0, 1) := zdec_at bX8_read_84 1 rfl
theorem dX8_read_86 : decode cX8_read 86 = .ok (.putfield 421, 3) := zdec_at bX8_read_84 2 rfl
theorem dX8_read_89 : decode cX8_read 89 = .ok (.aload_n 0, 1) := zdec_at bX8_read_84 3 rfl
theorem dX8_read_90 : decode cX8_read 90 = .ok (.iconst 0, 1) := zdec_at bX8_read_84 4 rfl
theorem dX8_read_91 : decode cX8_read 91 = .ok (.putfield 424, 3) := zdec_at bX8_read_84 5 rfl
theorem dX8_read_94 : decode cX8_read 94 = .ok (.aload_n 0, 1) := zdec_at bX8_read_84 6 rfl
theorem dX8_read_95 : decode cX8_read 95 = .ok (.iconst 1, 1) := zdec_at bX8_read_84 7 rfl
theorem dX8_read_96 : decode cX8_read 96 = .ok (.putfield 527, 3) := zdec_at bX8_read_84 8 rfl
theorem dX8_read_99 : decode cX8_read 99 = .ok (.aload_n 0, 1) := zdec_at bX8_read_84 9 rfl
theorem dX8_read_100 : decode cX8_read 100 = .ok (.iconst 0, 1) := zdec_at bX8_read_84 10 rfl
theorem dX8_read_101 : decode cX8_read 101 = .ok (.putfield 427, 3) := zdec_at bX8_read_84 11 rfl
theorem dX8_read_104 : decode cX8_read 104 = .ok (.aload_n 0, 1) := zdec_at bX8_read_84 12 rfl
theorem dX8_read_105 : decode cX8_read 105 = .ok (.iconst 0, 1) := zdec_at bX8_read_84 13 rfl
theorem dX8_read_106 : decode cX8_read 106 = .ok (.putfield 530, 3) := zdec_at bX8_read_84 14 rfl
theorem dX8_read_109 : decode cX8_read 109 = .ok (.aload_n 0, 1) := zdec_at bX8_read_84 15 rfl
theorem bX8_read_110 : zdec cX8_read 110 [(110, .iconst 0, 1), (111, .putfield 533, 3), (114, .aload_n 0, 1), (115, .iconst 0, 1), (116, .putfield 430, 3), (119, .aload_n 0, 1), (120, .getfield 83, 3), (123, .iconst 0, 1), (124, .iconst 0, 1), (125, .iastore, 1), (126, .aload_n 0, 1), (127, .getfield 77, 3), (130, .iconst 0, 1), (131, .aload_n 0, 1), (132, .iconst 0, 1), (133, .invokevirtual 546, 3)] = true := by decide +kernel
theorem dX8_read_110 : decode cX8_read 110 = .ok (.iconst 0, 1) := zdec_at bX8_read_110 0 rfl
theorem dX8_read_111 : decode cX8_read 111 = .ok (.putfield 533, 3) := zdec_at bX8_read_110 1 rfl
theorem dX8_read_114 : decode cX8_read 114 = .ok (.aload_n 0, 1) := zdec_at bX8_read_110 2 rfl
theorem dX8_read_115 : decode cX8_read 115 = .ok (.iconst 0, 1) := zdec_at bX8_read_110 3 rfl
theorem dX8_read_116 : decode cX8_read 116 = .ok (.putfield 430, 3) := zdec_at bX8_read_110 4 rfl
theorem dX8_read_119 : decode cX8_read 119 = .ok (.aload_n 0, 1) := zdec_at bX8_read_110 5 rfl
theorem dX8_read_120 : decode cX8_read 120 = .ok (.getfield 83, 3) := zdec_at bX8_read_110 6 rfl
theorem dX8_read_123 : decode cX8_read 123 = .ok (.iconst 0, 1) := zdec_at bX8_read_110 7 rfl
theorem dX8_read_124 : decode cX8_read 124 = .ok (.iconst 0, 1) := zdec_at bX8_read_110 8 rfl
theorem dX8_read_125 : decode cX8_read 125 = .ok (.iastore, 1) := zdec_at bX8_read_110 9 rfl
theorem dX8_read_126 : decode cX8_read 126 = .ok (.aload_n 0, 1) := zdec_at bX8_read_110 10 rfl
theorem dX8_read_127 : decode cX8_read 127 = .ok (.getfield 77, 3) := zdec_at bX8_read_110 11 rfl
theorem dX8_read_130 : decode cX8_read 130 = .ok (.iconst 0, 1) := zdec_at bX8_read_110 12 rfl
theorem dX8_read_131 : decode cX8_read 131 = .ok (.aload_n 0, 1) := zdec_at bX8_read_110 13 rfl
theorem dX8_read_132 : decode cX8_read 132 = .ok (.iconst 0, 1) := zdec_at bX8_read_110 14 rfl
theorem dX8_read_133 : decode cX8_read 133 = .ok (.invokevirtual 546, 3) := zdec_at bX8_read_110 15 rfl
theorem bX8_read_136 : zdec cX8_read 136 [(136, .iastore, 1), (137, .aload_n 0, 1), (138, .getfield 389, 3), (141, .ifCond .le 16, 3), (144, .aload_n 0, 1), (145, .getfield 389, 3), (148, .bipush 8, 2), (150, .aload_n 0, 1), (151, .getfield 395, 3), (154, .imul, 1), (155, .iadd, 1), (156, .ireturn, 1), (157, .aload_n 0, 1), (158, .invokevirtual 785, 3), (161, .ifCond .ne 5, 3), (164, .iconst 4, 1)] = true := by decide +kernel
theorem dX8_read_136 : decode cX8_read 136 = .ok (.iastore, 1) := zdec_at bX8_read_136 0 rfl
theorem dX8_read_137 : decode cX8_read 137 = .ok (.aload_n 0, 1) := zdec_at bX8_read_136 1 rfl
theorem dX8_read_138 : decode cX8_read 138 = .ok (.getfield 389, 3) := zdec_at bX8_read_136 2 rfl
theorem dX8_read_141 : decode cX8_read 141 = .ok (.ifCond .le 16, 3) := zdec_at bX8_read_136 3 rfl
theorem dX8_read_144 : decode cX8_read 144 = .ok (.aload_n 0, 1) := zdec_at bX8_read_136 4 rfl
theorem dX8_read_145 : decode cX8_read 145 = .ok (.getfield 389, 3) := zdec_at bX8_read_136 5 rfl
theorem dX8_read_148 : decode cX8_read 148 = .ok (.bipush 8, 2) := zdec_at bX8_read_136 6 rfl
theorem dX8_read_150 : decode cX8_read 150 = .ok (.aload_n 0, 1) := zdec_at bX8_read_136 7 rfl
theorem dX8_read_151 : decode cX8_read 151 = .ok (.getfield 395, 3) := zdec_at bX8_read_136 8 rfl
theorem dX8_read_154 : decode cX8_read 154 = .ok (.imul, 1) := zdec_at bX8_read_136 9 rfl
theorem dX8_read_155 : decode cX8_read 155 = .ok (.iadd, 1) := zdec_at bX8_read_136 10 rfl
theorem dX8_read_156 : decode cX8_read 156 = .ok (.ireturn, 1) := zdec_at bX8_read_136 11 rfl
theorem dX8_read_157 : decode cX8_read 157 = .ok (.aload_n 0, 1) := zdec_at bX8_read_136 12 rfl
theorem dX8_read_158 : decode cX8_read 158 = .ok (.invokevirtual 785, 3) := zdec_at bX8_read_136 13 rfl
theorem dX8_read_161 : decode cX8_read 161 = .ok (.ifCond .ne 5, 3) := zdec_at bX8_read_136 14 rfl
theorem dX8_read_164 : decode cX8_read 164 = .ok (.iconst 4, 1) := zdec_at bX8_read_136 15 rfl
theorem bX8_read_165 : zdec cX8_read 165 [(165, .ireturn, 1), (166, .aload_n 0, 1), (167, .iconst 1, 1), (168, .putfield 770, 3), (171, .iconst 0, 1), (172, .ireturn, 1)] = true := by decide +kernel
theorem dX8_read_165 : decode cX8_read 165 = .ok (.ireturn, 1) := zdec_at bX8_read_165 0 rfl
theorem dX8_read_166 : decode cX8_read 166 = .ok (.aload_n 0, 1) := zdec_at bX8_read_165 1 rfl
theorem dX8_read_167 : decode cX8_read 167 = .ok (.iconst 1, 1) := zdec_at bX8_read_165 2 rfl
theorem dX8_read_168 : decode cX8_read 168 = .ok (.putfield 770, 3) := zdec_at bX8_read_165 3 rfl
theorem dX8_read_171 : decode cX8_read 171 = .ok (.iconst 0, 1) := zdec_at bX8_read_165 4 rfl
theorem dX8_read_172 : decode cX8_read 172 = .ok (.ireturn, 1) := zdec_at bX8_read_165 5 rfl
theorem sX8_read_0 {E : zE} {d : Nat} {Q : zO → zM → Prop} (M : zM)  (k : Zm E YX8_read (d + 1) (si (si (si M 97 0 (0 : Int32)) 97 72 (0 : Int32)) 97 4 (gi M 97 2)) [(0, vr (some (97, 1, 0))), (1, vi (0 : Int32))] 20 [] Q) : Zm E YX8_read (d + 1) M [(0, vr (some (97, 1, 0)))] 0 [] Q := by
  refine Zm.l (fun _ _ k_ => z_aload_n dX8_read_0 rfl rfl k_) ?_
  refine Zm.l (fun _ _ k_ => z_iconst (v := 0) dX8_read_1 rfl k_) ?_
  refine zm_puti (by decide) (by decide) dX8_read_2 (zfwN.w fwX8_289_1) rfl ⟨rfl, rfl⟩ ?_
  refine Zm.l (fun _ _ k_ => z_aload_n dX8_read_5 rfl rfl k_) ?_
  refine Zm.l (fun _ _ k_ => z_iconst (v := 0) dX8_read_6 rfl k_) ?_
  refine zm_puti (by decide) (by decide) dX8_read_7 (zfwN.w fwX8_770_1) rfl ⟨by decide, by decide⟩ ?_
  refine Zm.l (fun _ _ k_ => z_aload_n dX8_read_10 rfl rfl k_) ?_
  refine Zm.l (fun _ _ k_ => z_aload_n dX8_read_11 rfl rfl k_) ?_
  refine zm_geti dX8_read_12 fsX8_293_1 (by decide) (by decide) ?_
  refine zm_puti (by decide) (by decide) dX8_read_15 (zfwN.w fwX8_328_1) rfl ⟨rfl, rfl⟩ ?_
  refine Zm.l (fun _ _ k_ => z_iconst (v := 0) dX8_read_18 rfl k_) ?_
  refine Zm.l (fun _ _ k_ => z_ist_n dX8_read_19 rfl (by decide) (lv' := [(0, vr (some (97, 1, 0))), (1, vi (0 : Int32))]) rfl k_) ?_
  exact k
theorem sX8_read_20 {E : zE} {d : Nat} {Q : zO → zM → Prop} (M : zM) (l1 : Int32) (k : if (gi M 97 4) ≤ l1 then (Zm E YX8_firstNames d (si (si (si M 97 2 (0 : Int32)) 97 73 (0 : Int32)) 97 119 (0 : Int32)) (zargs 0 [vr (some (97, 1, 0))]) 0 [] (zma E YX8_read (d + 1) [(0, vr (some (97, 1, 0)))] 62 3 [] Q)) else (vp_in l1 4000 ∧ (vp_in l1 4000 ∧ (Zm E YX8_read (d + 1) (si M 99 (l1).toNatClampNeg (vp_nar .byte (gi M 98 (l1).toNatClampNeg))) [(0, vr (some (97, 1, 0))), (1, vi (l1 + (1 : Int32)))] 20 [] Q)))) : Zm E YX8_read (d + 1) M [(0, vr (some (97, 1, 0))), (1, vi l1)] 20 [] Q := by
  refine Zm.l (fun _ _ k_ => z_iload_n dX8_read_20 rfl rfl k_) ?_
  refine Zm.l (fun _ _ k_ => z_aload_n dX8_read_21 rfl rfl k_) ?_
  refine zm_geti dX8_read_22 fsX8_328_1 (by decide) (by decide) ?_
  refine Zm.br (fun _ _ k1_ k2_ => z_icmp_ge (tgt := 46) dX8_read_25 rfl k1_ k2_) (fun h_ => ?_) (fun h_ => ?_)
  · have k := zit h_ k
    refine Zm.l (fun _ _ k_ => z_aload_n dX8_read_46 rfl rfl k_) ?_
    refine Zm.l (fun _ _ k_ => z_iconst (v := 0) dX8_read_47 rfl k_) ?_
    refine zm_puti (by decide) (by decide) dX8_read_48 (zfwN.w fwX8_293_1) rfl ⟨rfl, rfl⟩ ?_
    refine Zm.l (fun _ _ k_ => z_aload_n dX8_read_51 rfl rfl k_) ?_
    refine Zm.l (fun _ _ k_ => z_iconst (v := 0) dX8_read_52 rfl k_) ?_
    refine zm_puti (by decide) (by decide) dX8_read_53 (zfwN.w fwX8_773_1) rfl ⟨rfl, rfl⟩ ?_
    refine Zm.l (fun _ _ k_ => z_aload_n dX8_read_56 rfl rfl k_) ?_
    refine Zm.l (fun _ _ k_ => z_iconst (v := 0) dX8_read_57 rfl k_) ?_
    refine zm_puti (by decide) (by decide) dX8_read_58 (zfwN.w fwX8_776_1) rfl ⟨by decide, by decide⟩ ?_
    refine Zm.l (fun _ _ k_ => z_aload_n dX8_read_61 rfl rfl k_) ?_
    refine Zm.pick [0] rfl ?_
    exact zm_callV (as := []) (st := []) dX8_read_62 vsX8_779_1 (Nat.le_refl _) (Nat.le_of_ble_eq_true rfl) (Nat.le_of_ble_eq_true rfl) rfl k
  · have k := zif h_ k
    refine Zm.l (fun _ _ k_ => z_aload_n dX8_read_28 rfl rfl k_) ?_
    refine zm_getr 1 dX8_read_29 fsX8_13_1 rfl ?_
    refine Zm.l (fun _ _ k_ => z_iload_n dX8_read_32 rfl rfl k_) ?_
    refine Zm.l (fun _ _ k_ => z_aload_n dX8_read_33 rfl rfl k_) ?_
    refine zm_getr 0 dX8_read_34 fsX8_7_1 rfl ?_
    refine Zm.l (fun _ _ k_ => z_iload_n dX8_read_37 rfl rfl k_) ?_
    obtain ⟨b_, k⟩ := k
    refine zm_bald dX8_read_38 b_ (by decide) (by decide) ?_
    obtain ⟨b_, k⟩ := k
    refine zm_bast dX8_read_39 b_ (by decide) (by decide) ?_
    refine Zm.l (fun _ _ k_ => z_inc (v := (l1 + (1 : Int32))) dX8_read_40 rfl rfl (by decide) (lv' := [(0, vr (some (97, 1, 0))), (1, vi (l1 + (1 : Int32)))]) rfl k_) ?_
    refine Zm.l (fun _ _ k_ => z_goto (tgt := 20) dX8_read_43 rfl k_) ?_
    exact k
theorem sX8_read_65 {E : zE} {d : Nat} {Q : zO → zM → Prop} (M : zM)  (k : Zm E YX8_cut d M (zargs 0 [vr (some (97, 1, 0))]) 0 [] (zma E YX8_read (d + 1) [(0, vr (some (97, 1, 0)))] 66 3 [] Q)) : Zm E YX8_read (d + 1) M [(0, vr (some (97, 1, 0)))] 65 [] Q := by
  refine Zm.l (fun _ _ k_ => z_aload_n dX8_read_65 rfl rfl k_) ?_
  exact zm_callV (as := []) (st := []) dX8_read_66 vsX8_782_1 (Nat.le_refl _) (Nat.le_of_ble_eq_true rfl) (Nat.le_of_ble_eq_true rfl) rfl k
theorem sX8_read_69 {E : zE} {d : Nat} {Q : zO → zM → Prop} (M : zM)  (k : vp_in (0 : Int32) 12 ∧ (Zm E YX8_parts d (si (si (si (si (si (si (si (si (si (si (si M 97 20 (0 : Int32)) 97 21 (0 : Int32)) 97 23 (0 : Int32)) 97 24 (0 : Int32)) 97 31 (0 : Int32)) 97 32 (1 : Int32)) 97 43 (0 : Int32)) 97 44 (0 : Int32)) 97 45 (0 : Int32)) 97 42 (0 : Int32)) 121 ((0 : Int32)).toNatClampNeg (0 : Int32)) (zargs 0 [vr (some (97, 1, 0)), vi (0 : Int32)]) 0 [] (zma E YX8_read (d + 1) [(0, vr (some (97, 1, 0)))] 133 3 [vi (0 : Int32), vr (some (119, 100, 12))] Q))) : Zm E YX8_read (d + 1) M [(0, vr (some (97, 1, 0)))] 69 [] Q := by
  refine Zm.l (fun _ _ k_ => z_aload_n dX8_read_69 rfl rfl k_) ?_
  refine Zm.l (fun _ _ k_ => z_iconst (v := 0) dX8_read_70 rfl k_) ?_
  refine zm_puti (by decide) (by decide) dX8_read_71 (zfwN.w fwX8_392_1) rfl ⟨rfl, rfl⟩ ?_
  refine Zm.l (fun _ _ k_ => z_aload_n dX8_read_74 rfl rfl k_) ?_
  refine Zm.l (fun _ _ k_ => z_iconst (v := 0) dX8_read_75 rfl k_) ?_
  refine zm_puti (by decide) (by decide) dX8_read_76 (zfwN.w fwX8_389_1) rfl ⟨rfl, rfl⟩ ?_
  refine Zm.l (fun _ _ k_ => z_aload_n dX8_read_79 rfl rfl k_) ?_
  refine Zm.l (fun _ _ k_ => z_iconst (v := 0) dX8_read_80 rfl k_) ?_
  refine zm_puti (by decide) (by decide) dX8_read_81 (zfwN.w fwX8_407_1) rfl ⟨rfl, rfl⟩ ?_
  refine Zm.l (fun _ _ k_ => z_aload_n dX8_read_84 rfl rfl k_) ?_
  refine Zm.l (fun _ _ k_ => z_iconst (v := 0) dX8_read_85 rfl k_) ?_
  refine zm_puti (by decide) (by decide) dX8_read_86 (zfwN.w fwX8_421_1) rfl ⟨rfl, rfl⟩ ?_
  refine Zm.l (fun _ _ k_ => z_aload_n dX8_read_89 rfl rfl k_) ?_
  refine Zm.l (fun _ _ k_ => z_iconst (v := 0) dX8_read_90 rfl k_) ?_
  refine zm_puti (by decide) (by decide) dX8_read_91 (zfwN.w fwX8_424_1) rfl ⟨rfl, rfl⟩ ?_
  refine Zm.l (fun _ _ k_ => z_aload_n dX8_read_94 rfl rfl k_) ?_
  refine Zm.l (fun _ _ k_ => z_iconst (v := 1) dX8_read_95 rfl k_) ?_
  refine zm_puti (by decide) (by decide) dX8_read_96 (zfwN.w fwX8_527_1) rfl ⟨rfl, rfl⟩ ?_
  refine Zm.l (fun _ _ k_ => z_aload_n dX8_read_99 rfl rfl k_) ?_
  refine Zm.l (fun _ _ k_ => z_iconst (v := 0) dX8_read_100 rfl k_) ?_
  refine zm_puti (by decide) (by decide) dX8_read_101 (zfwN.w fwX8_427_1) rfl ⟨rfl, rfl⟩ ?_
  refine Zm.l (fun _ _ k_ => z_aload_n dX8_read_104 rfl rfl k_) ?_
  refine Zm.l (fun _ _ k_ => z_iconst (v := 0) dX8_read_105 rfl k_) ?_
  refine zm_puti (by decide) (by decide) dX8_read_106 (zfwN.w fwX8_530_1) rfl ⟨rfl, rfl⟩ ?_
  refine Zm.l (fun _ _ k_ => z_aload_n dX8_read_109 rfl rfl k_) ?_
  refine Zm.l (fun _ _ k_ => z_iconst (v := 0) dX8_read_110 rfl k_) ?_
  refine zm_puti (by decide) (by decide) dX8_read_111 (zfwN.w fwX8_533_1) rfl ⟨rfl, rfl⟩ ?_
  refine Zm.l (fun _ _ k_ => z_aload_n dX8_read_114 rfl rfl k_) ?_
  refine Zm.l (fun _ _ k_ => z_iconst (v := 0) dX8_read_115 rfl k_) ?_
  refine zm_puti (by decide) (by decide) dX8_read_116 (zfwN.w fwX8_430_1) rfl ⟨rfl, rfl⟩ ?_
  refine Zm.l (fun _ _ k_ => z_aload_n dX8_read_119 rfl rfl k_) ?_
  refine zm_getr 23 dX8_read_120 fsX8_83_1 rfl ?_
  refine Zm.l (fun _ _ k_ => z_iconst (v := 0) dX8_read_123 rfl k_) ?_
  refine Zm.l (fun _ _ k_ => z_iconst (v := 0) dX8_read_124 rfl k_) ?_
  obtain ⟨b_, k⟩ := k
  refine zm_iast dX8_read_125 b_ (by decide) (by decide) ?_
  refine Zm.l (fun _ _ k_ => z_aload_n dX8_read_126 rfl rfl k_) ?_
  refine zm_getr 21 dX8_read_127 fsX8_77_1 rfl ?_
  refine Zm.l (fun _ _ k_ => z_iconst (v := 0) dX8_read_130 rfl k_) ?_
  refine Zm.l (fun _ _ k_ => z_aload_n dX8_read_131 rfl rfl k_) ?_
  refine Zm.l (fun _ _ k_ => z_iconst (v := 0) dX8_read_132 rfl k_) ?_
  exact zm_callV (as := [vi (0 : Int32)]) (st := [vi (0 : Int32), vr (some (119, 100, 12))]) dX8_read_133 vsX8_546_1 (Nat.le_refl _) (Nat.le_of_ble_eq_true rfl) (Nat.le_of_ble_eq_true rfl) rfl k
theorem sX8_read_136 {E : zE} {d : Nat} {Q : zO → zM → Prop} (M : zM) (s0 : Int32) (s1 : Int32) (k : vp_in s1 12 ∧ (if (gi M 97 21) ≤ 0 then (Zm E YX8_compile d (si M 119 (s1).toNatClampNeg s0) (zargs 0 [vr (some (97, 1, 0))]) 0 [] (zma E YX8_read (d + 1) [(0, vr (some (97, 1, 0)))] 158 3 [] Q)) else (Q (.inl (some (vi ((gi M 97 21) + ((8 : Int32) * (gi M 97 22)))))) (si M 119 (s1).toNatClampNeg s0)))) : Zm E YX8_read (d + 1) M [(0, vr (some (97, 1, 0)))] 136 [vi s0, vi s1, vr (some (119, 100, 12))] Q := by
  obtain ⟨b_, k⟩ := k
  refine zm_iast dX8_read_136 b_ (by decide) (by decide) ?_
  refine Zm.l (fun _ _ k_ => z_aload_n dX8_read_137 rfl rfl k_) ?_
  refine zm_geti dX8_read_138 fsX8_389_1 (by decide) (by decide) ?_
  refine Zm.br (fun _ _ k1_ k2_ => z_if_le (tgt := 157) dX8_read_141 rfl k1_ k2_) (fun h_ => ?_) (fun h_ => ?_)
  · have k := zit h_ k
    refine Zm.l (fun _ _ k_ => z_aload_n dX8_read_157 rfl rfl k_) ?_
    exact zm_callV (as := []) (st := []) dX8_read_158 vsX8_785_1 (Nat.le_refl _) (Nat.le_of_ble_eq_true rfl) (Nat.le_of_ble_eq_true rfl) rfl k
  · have k := zif h_ k
    refine Zm.l (fun _ _ k_ => z_aload_n dX8_read_144 rfl rfl k_) ?_
    refine zm_geti dX8_read_145 fsX8_389_1 (by decide) (by decide) ?_
    refine Zm.l (fun _ _ k_ => z_bipush (v := 8) dX8_read_148 rfl k_) ?_
    refine Zm.l (fun _ _ k_ => z_aload_n dX8_read_150 rfl rfl k_) ?_
    refine zm_geti dX8_read_151 fsX8_395_1 (by decide) (by decide) ?_
    refine Zm.l (fun _ _ k_ => z_imul dX8_read_154 k_) ?_
    refine Zm.l (fun _ _ k_ => z_iadd dX8_read_155 k_) ?_
    exact zm_iret dX8_read_156 rfl rfl k
theorem sX8_read_161 {E : zE} {d : Nat} {Q : zO → zM → Prop} (M : zM) (s0 : Int32) (k : if s0 = 0 then (Q (.inl (some (vi (4 : Int32)))) M) else (Q (.inl (some (vi (0 : Int32)))) (si M 97 72 (1 : Int32)))) : Zm E YX8_read (d + 1) M [(0, vr (some (97, 1, 0)))] 161 [vi s0] Q := by
  refine Zm.brn (fun _ _ k1_ k2_ => z_if_ne (tgt := 166) dX8_read_161 rfl k1_ k2_) (fun h_ => ?_) (fun h_ => ?_)
  · have k := zif h_ k
    refine Zm.l (fun _ _ k_ => z_aload_n dX8_read_166 rfl rfl k_) ?_
    refine Zm.l (fun _ _ k_ => z_iconst (v := 1) dX8_read_167 rfl k_) ?_
    refine zm_puti (by decide) (by decide) dX8_read_168 (zfwN.w fwX8_770_1) rfl ⟨by decide, by decide⟩ ?_
    refine Zm.l (fun _ _ k_ => z_iconst (v := 0) dX8_read_171 rfl k_) ?_
    exact zm_iret dX8_read_172 rfl rfl k
  · have k := zit h_ k
    refine Zm.l (fun _ _ k_ => z_iconst (v := 4) dX8_read_164 rfl k_) ?_
    exact zm_iret dX8_read_165 rfl rfl k
/-! ScriptTypesModel.put(I)V -/
theorem bX8_put_0 : zdec cX8_put 0 [(0, .aload_n 0, 1), (1, .getfield 24, 3), (4, .aload_n 0, 1), (5, .getfield 299, 3), (8, .iload_n 1, 1), (9, .i2c, 1), (10, .castore, 1), (11, .aload_n 0, 1), (12, .dup, 1), (13, .getfield 299, 3), (16, .iconst 1, 1), (17, .iadd, 1), (18, .putfield 299, 3), (21, .return_, 1)] = true := by decide +kernel
theorem dX8_put_0 : decode cX8_put 0 = .ok (.aload_n 0, 1) := zdec_at bX8_put_0 0 rfl
theorem dX8_put_1 : decode cX8_put 1 = .ok (.getfield 24, 3) := zdec_at bX8_put_0 1 rfl
theorem dX8_put_4 : decode cX8_put 4 = .ok (.aload_n 0, 1) := zdec_at bX8_put_0 2 rfl
theorem dX8_put_5 : decode cX8_put 5 = .ok (.getfield 299, 3) := zdec_at bX8_put_0 3 rfl
theorem dX8_put_8 : decode cX8_put 8 = .ok (.iload_n 1, 1) := zdec_at bX8_put_0 4 rfl
theorem dX8_put_9 : decode cX8_put 9 = .ok (.i2c, 1) := zdec_at bX8_put_0 5 rfl
theorem dX8_put_10 : decode cX8_put 10 = .ok (.castore, 1) := zdec_at bX8_put_0 6 rfl
theorem dX8_put_11 : decode cX8_put 11 = .ok (.aload_n 0, 1) := zdec_at bX8_put_0 7 rfl
theorem dX8_put_12 : decode cX8_put 12 = .ok (.dup, 1) := zdec_at bX8_put_0 8 rfl
theorem dX8_put_13 : decode cX8_put 13 = .ok (.getfield 299, 3) := zdec_at bX8_put_0 9 rfl
theorem dX8_put_16 : decode cX8_put 16 = .ok (.iconst 1, 1) := zdec_at bX8_put_0 10 rfl
theorem dX8_put_17 : decode cX8_put 17 = .ok (.iadd, 1) := zdec_at bX8_put_0 11 rfl
theorem dX8_put_18 : decode cX8_put 18 = .ok (.putfield 299, 3) := zdec_at bX8_put_0 12 rfl
theorem dX8_put_21 : decode cX8_put 21 = .ok (.return_, 1) := zdec_at bX8_put_0 13 rfl
theorem sX8_put_0 {E : zE} {d : Nat} {Q : zO → zM → Prop} (M : zM) (l1 : Int32) (k : vp_in (gi M 97 11) 200 ∧ (Q (.inl none) (si (si M 102 ((gi M 97 11)).toNatClampNeg (vp_nar .char ((l1).toUInt32 % 65536).toInt32)) 97 11 ((gi M 97 11) + (1 : Int32))))) : Zm E YX8_put d M [(0, vr (some (97, 1, 0))), (1, vi l1)] 0 [] Q := by
  refine Zm.l (fun _ _ k_ => z_aload_n dX8_put_0 rfl rfl k_) ?_
  refine zm_getr 4 dX8_put_1 fsX8_24_1 rfl ?_
  refine Zm.l (fun _ _ k_ => z_aload_n dX8_put_4 rfl rfl k_) ?_
  refine zm_geti dX8_put_5 fsX8_299_1 (by decide) (by decide) ?_
  refine Zm.l (fun _ _ k_ => z_iload_n dX8_put_8 rfl rfl k_) ?_
  refine Zm.l (fun _ _ k_ => z_i2c dX8_put_9 k_) ?_
  obtain ⟨b_, k⟩ := k
  refine zm_cast dX8_put_10 b_ (by decide) (by decide) ?_
  refine Zm.l (fun _ _ k_ => z_aload_n dX8_put_11 rfl rfl k_) ?_
  refine Zm.l (fun _ _ k_ => z_dup dX8_put_12 rfl k_) ?_
  refine zm_geti dX8_put_13 fsX8_299_1 (by decide) (by decide) ?_
  refine Zm.l (fun _ _ k_ => z_iconst (v := 1) dX8_put_16 rfl k_) ?_
  refine Zm.l (fun _ _ k_ => z_iadd dX8_put_17 k_) ?_
  refine zm_puti (by decide) (by decide) dX8_put_18 (zfwN.w fwX8_299_1) rfl ⟨rfl, rfl⟩ ?_
  exact zm_vret dX8_put_21 rfl k
/-! ScriptTypesModel.addText()I -/
theorem bX8_addText_0 : zdec cX8_addText 0 [(0, .iconst 0, 1), (1, .istore_n 1, 1), (2, .iload_n 1, 1), (3, .aload_n 0, 1), (4, .getfield 299, 3), (7, .if_icmp .ge 29, 3), (10, .aload_n 0, 1), (11, .getfield 16, 3), (14, .bipush 60, 2), (16, .aload_n 0, 1), (17, .getfield 296, 3), (20, .imul, 1), (21, .iload_n 1, 1), (22, .iadd, 1), (23, .aload_n 0, 1), (24, .getfield 24, 3)] = true := by decide +kernel
theorem dX8_addText_0 : decode cX8_addText 0 = .ok (.iconst 0, 1) := zdec_at bX8_addText_0 0 rfl
theorem dX8_addText_1 : decode cX8_addText 1 = .ok (.istore_n 1, 1) := zdec_at bX8_addText_0 1 rfl
theorem dX8_addText_2 : decode cX8_addText 2 = .ok (.iload_n 1, 1) := zdec_at bX8_addText_0 2 rfl
theorem dX8_addText_3 : decode cX8_addText 3 = .ok (.aload_n 0, 1) := zdec_at bX8_addText_0 3 rfl
theorem dX8_addText_4 : decode cX8_addText 4 = .ok (.getfield 299, 3) := zdec_at bX8_addText_0 4 rfl
theorem dX8_addText_7 : decode cX8_addText 7 = .ok (.if_icmp .ge 29, 3) := zdec_at bX8_addText_0 5 rfl
theorem dX8_addText_10 : decode cX8_addText 10 = .ok (.aload_n 0, 1) := zdec_at bX8_addText_0 6 rfl
theorem dX8_addText_11 : decode cX8_addText 11 = .ok (.getfield 16, 3) := zdec_at bX8_addText_0 7 rfl
theorem dX8_addText_14 : decode cX8_addText 14 = .ok (.bipush 60, 2) := zdec_at bX8_addText_0 8 rfl
theorem dX8_addText_16 : decode cX8_addText 16 = .ok (.aload_n 0, 1) := zdec_at bX8_addText_0 9 rfl
theorem dX8_addText_17 : decode cX8_addText 17 = .ok (.getfield 296, 3) := zdec_at bX8_addText_0 10 rfl
theorem dX8_addText_20 : decode cX8_addText 20 = .ok (.imul, 1) := zdec_at bX8_addText_0 11 rfl
theorem dX8_addText_21 : decode cX8_addText 21 = .ok (.iload_n 1, 1) := zdec_at bX8_addText_0 12 rfl
theorem dX8_addText_22 : decode cX8_addText 22 = .ok (.iadd, 1) := zdec_at bX8_addText_0 13 rfl
theorem dX8_addText_23 : decode cX8_addText 23 = .ok (.aload_n 0, 1) := zdec_at bX8_addText_0 14 rfl
theorem dX8_addText_24 : decode cX8_addText 24 = .ok (.getfield 24, 3) := zdec_at bX8_addText_0 15 rfl
theorem bX8_addText_27 : zdec cX8_addText 27 [(27, .iload_n 1, 1), (28, .caload, 1), (29, .castore, 1), (30, .iinc 1 1, 3), (33, .goto (-31), 3), (36, .aload_n 0, 1), (37, .getfield 20, 3), (40, .aload_n 0, 1), (41, .getfield 296, 3), (44, .aload_n 0, 1), (45, .getfield 299, 3), (48, .iastore, 1), (49, .aload_n 0, 1), (50, .dup, 1), (51, .getfield 296, 3), (54, .iconst 1, 1)] = true := by decide +kernel
theorem dX8_addText_27 : decode cX8_addText 27 = .ok (.iload_n 1, 1) := zdec_at bX8_addText_27 0 rfl
theorem dX8_addText_28 : decode cX8_addText 28 = .ok (.caload, 1) := zdec_at bX8_addText_27 1 rfl
theorem dX8_addText_29 : decode cX8_addText 29 = .ok (.castore, 1) := zdec_at bX8_addText_27 2 rfl
theorem dX8_addText_30 : decode cX8_addText 30 = .ok (.iinc 1 1, 3) := zdec_at bX8_addText_27 3 rfl
theorem dX8_addText_33 : decode cX8_addText 33 = .ok (.goto (-31), 3) := zdec_at bX8_addText_27 4 rfl
theorem dX8_addText_36 : decode cX8_addText 36 = .ok (.aload_n 0, 1) := zdec_at bX8_addText_27 5 rfl
theorem dX8_addText_37 : decode cX8_addText 37 = .ok (.getfield 20, 3) := zdec_at bX8_addText_27 6 rfl
theorem dX8_addText_40 : decode cX8_addText 40 = .ok (.aload_n 0, 1) := zdec_at bX8_addText_27 7 rfl
theorem dX8_addText_41 : decode cX8_addText 41 = .ok (.getfield 296, 3) := zdec_at bX8_addText_27 8 rfl
theorem dX8_addText_44 : decode cX8_addText 44 = .ok (.aload_n 0, 1) := zdec_at bX8_addText_27 9 rfl
theorem dX8_addText_45 : decode cX8_addText 45 = .ok (.getfield 299, 3) := zdec_at bX8_addText_27 10 rfl
theorem dX8_addText_48 : decode cX8_addText 48 = .ok (.iastore, 1) := zdec_at bX8_addText_27 11 rfl
theorem dX8_addText_49 : decode cX8_addText 49 = .ok (.aload_n 0, 1) := zdec_at bX8_addText_27 12 rfl
theorem dX8_addText_50 : decode cX8_addText 50 = .ok (.dup, 1) := zdec_at bX8_addText_27 13 rfl
theorem dX8_addText_51 : decode cX8_addText 51 = .ok (.getfield 296, 3) := zdec_at bX8_addText_27 14 rfl
theorem dX8_addText_54 : decode cX8_addText 54 = .ok (.iconst 1, 1) := zdec_at bX8_addText_27 15 rfl
theorem bX8_addText_55 : zdec cX8_addText 55 [(55, .iadd, 1), (56, .putfield 296, 3), (59, .aload_n 0, 1), (60, .getfield 296, 3), (63, .iconst 1, 1), (64, .isub, 1), (65, .ireturn, 1)] = true := by decide +kernel
theorem dX8_addText_55 : decode cX8_addText 55 = .ok (.iadd, 1) := zdec_at bX8_addText_55 0 rfl
theorem dX8_addText_56 : decode cX8_addText 56 = .ok (.putfield 296, 3) := zdec_at bX8_addText_55 1 rfl
theorem dX8_addText_59 : decode cX8_addText 59 = .ok (.aload_n 0, 1) := zdec_at bX8_addText_55 2 rfl
theorem dX8_addText_60 : decode cX8_addText 60 = .ok (.getfield 296, 3) := zdec_at bX8_addText_55 3 rfl
theorem dX8_addText_63 : decode cX8_addText 63 = .ok (.iconst 1, 1) := zdec_at bX8_addText_55 4 rfl
theorem dX8_addText_64 : decode cX8_addText 64 = .ok (.isub, 1) := zdec_at bX8_addText_55 5 rfl
theorem dX8_addText_65 : decode cX8_addText 65 = .ok (.ireturn, 1) := zdec_at bX8_addText_55 6 rfl
theorem sX8_addText_0 {E : zE} {d : Nat} {Q : zO → zM → Prop} (M : zM)  (k : Zm E YX8_addText d M [(0, vr (some (97, 1, 0))), (1, vi (0 : Int32))] 2 [] Q) : Zm E YX8_addText d M [(0, vr (some (97, 1, 0)))] 0 [] Q := by
  refine Zm.l (fun _ _ k_ => z_iconst (v := 0) dX8_addText_0 rfl k_) ?_
  refine Zm.l (fun _ _ k_ => z_ist_n dX8_addText_1 rfl (by decide) (lv' := [(0, vr (some (97, 1, 0))), (1, vi (0 : Int32))]) rfl k_) ?_
  exact k
theorem sX8_addText_2 {E : zE} {d : Nat} {Q : zO → zM → Prop} (M : zM) (l1 : Int32) (k : if (gi M 97 11) ≤ l1 then (vp_in (gi M 97 7) 400 ∧ (Q (.inl (some (vi (((gi M 97 7) + (1 : Int32)) - (1 : Int32))))) (si (si M 101 ((gi M 97 7)).toNatClampNeg (gi M 97 11)) 97 7 ((gi M 97 7) + (1 : Int32))))) else (vp_in l1 200 ∧ (vp_in (((60 : Int32) * (gi M 97 7)) + l1) 24000 ∧ (Zm E YX8_addText d (si M 100 ((((60 : Int32) * (gi M 97 7)) + l1)).toNatClampNeg (vp_nar .char (gi M 102 (l1).toNatClampNeg))) [(0, vr (some (97, 1, 0))), (1, vi (l1 + (1 : Int32)))] 2 [] Q)))) : Zm E YX8_addText d M [(0, vr (some (97, 1, 0))), (1, vi l1)] 2 [] Q := by
  refine Zm.l (fun _ _ k_ => z_iload_n dX8_addText_2 rfl rfl k_) ?_
  refine Zm.l (fun _ _ k_ => z_aload_n dX8_addText_3 rfl rfl k_) ?_
  refine zm_geti dX8_addText_4 fsX8_299_1 (by decide) (by decide) ?_
  refine Zm.br (fun _ _ k1_ k2_ => z_icmp_ge (tgt := 36) dX8_addText_7 rfl k1_ k2_) (fun h_ => ?_) (fun h_ => ?_)
  · have k := zit h_ k
    refine Zm.l (fun _ _ k_ => z_aload_n dX8_addText_36 rfl rfl k_) ?_
    refine zm_getr 3 dX8_addText_37 fsX8_20_1 rfl ?_
    refine Zm.l (fun _ _ k_ => z_aload_n dX8_addText_40 rfl rfl k_) ?_
    refine zm_geti dX8_addText_41 fsX8_296_1 (by decide) (by decide) ?_
    refine Zm.l (fun _ _ k_ => z_aload_n dX8_addText_44 rfl rfl k_) ?_
    refine zm_geti dX8_addText_45 fsX8_299_1 (by decide) (by decide) ?_
    obtain ⟨b_, k⟩ := k
    refine zm_iast dX8_addText_48 b_ (by decide) (by decide) ?_
    refine Zm.l (fun _ _ k_ => z_aload_n dX8_addText_49 rfl rfl k_) ?_
    refine Zm.l (fun _ _ k_ => z_dup dX8_addText_50 rfl k_) ?_
    refine zm_geti dX8_addText_51 fsX8_296_1 (by decide) (by decide) ?_
    refine Zm.l (fun _ _ k_ => z_iconst (v := 1) dX8_addText_54 rfl k_) ?_
    refine Zm.l (fun _ _ k_ => z_iadd dX8_addText_55 k_) ?_
    refine zm_puti (by decide) (by decide) dX8_addText_56 (zfwN.w fwX8_296_1) rfl ⟨rfl, rfl⟩ ?_
    refine Zm.l (fun _ _ k_ => z_aload_n dX8_addText_59 rfl rfl k_) ?_
    refine zm_geti dX8_addText_60 fsX8_296_1 (by decide) (by decide) ?_
    refine Zm.l (fun _ _ k_ => z_iconst (v := 1) dX8_addText_63 rfl k_) ?_
    refine Zm.l (fun _ _ k_ => z_isub dX8_addText_64 k_) ?_
    exact zm_iret dX8_addText_65 rfl rfl k
  · have k := zif h_ k
    refine Zm.l (fun _ _ k_ => z_aload_n dX8_addText_10 rfl rfl k_) ?_
    refine zm_getr 2 dX8_addText_11 fsX8_16_1 rfl ?_
    refine Zm.l (fun _ _ k_ => z_bipush (v := 60) dX8_addText_14 rfl k_) ?_
    refine Zm.l (fun _ _ k_ => z_aload_n dX8_addText_16 rfl rfl k_) ?_
    refine zm_geti dX8_addText_17 fsX8_296_1 (by decide) (by decide) ?_
    refine Zm.l (fun _ _ k_ => z_imul dX8_addText_20 k_) ?_
    refine Zm.l (fun _ _ k_ => z_iload_n dX8_addText_21 rfl rfl k_) ?_
    refine Zm.l (fun _ _ k_ => z_iadd dX8_addText_22 k_) ?_
    refine Zm.l (fun _ _ k_ => z_aload_n dX8_addText_23 rfl rfl k_) ?_
    refine zm_getr 4 dX8_addText_24 fsX8_24_1 rfl ?_
    refine Zm.l (fun _ _ k_ => z_iload_n dX8_addText_27 rfl rfl k_) ?_
    obtain ⟨b_, k⟩ := k
    refine zm_cald dX8_addText_28 b_ (by decide) (by decide) ?_
    obtain ⟨b_, k⟩ := k
    refine zm_cast dX8_addText_29 b_ (by decide) (by decide) ?_
    refine Zm.l (fun _ _ k_ => z_inc (v := (l1 + (1 : Int32))) dX8_addText_30 rfl rfl (by decide) (lv' := [(0, vr (some (97, 1, 0))), (1, vi (l1 + (1 : Int32)))]) rfl k_) ?_
    refine Zm.l (fun _ _ k_ => z_goto (tgt := 2) dX8_addText_33 rfl k_) ?_
    exact k
/-! ScriptTypesModel.cut()V -/
theorem bX8_cut_0 : zdec cX8_cut 0 [(0, .aload_n 0, 1), (1, .iconst 0, 1), (2, .putfield 350, 3), (5, .aload_n 0, 1), (6, .iconst 0, 1), (7, .putfield 344, 3), (10, .aload_n 0, 1), (11, .iconst 1, 1), (12, .putfield 347, 3), (15, .iconst 1, 1), (16, .istore_n 1, 1), (17, .iload_n 1, 1), (18, .ifCond .eq 138, 3), (21, .aload_n 0, 1), (22, .invokevirtual 353, 3), (25, .istore_n 2, 1)] = true := by decide +kernel
theorem dX8_cut_0 : decode cX8_cut 0 = .ok (.aload_n 0, 1) := zdec_at bX8_cut_0 0 rfl
theorem dX8_cut_1 : decode cX8_cut 1 = .ok (.iconst 0, 1) := zdec_at bX8_cut_0 1 rfl
theorem dX8_cut_2 : decode cX8_cut 2 = .ok (.putfield 350, 3) := zdec_at bX8_cut_0 2 rfl
theorem dX8_cut_5 : decode cX8_cut 5 = .ok (.aload_n 0, 1) := zdec_at bX8_cut_0 3 rfl
theorem dX8_cut_6 : decode cX8_cut 6 = .ok (.iconst 0, 1) := zdec_at bX8_cut_0 4 rfl
theorem dX8_cut_7 : decode cX8_cut 7 = .ok (.putfield 344, 3) := zdec_at bX8_cut_0 5 rfl
theorem dX8_cut_10 : decode cX8_cut 10 = .ok (.aload_n 0, 1) := zdec_at bX8_cut_0 6 rfl
theorem dX8_cut_11 : decode cX8_cut 11 = .ok (.iconst 1, 1) := zdec_at bX8_cut_0 7 rfl
theorem dX8_cut_12 : decode cX8_cut 12 = .ok (.putfield 347, 3) := zdec_at bX8_cut_0 8 rfl
theorem dX8_cut_15 : decode cX8_cut 15 = .ok (.iconst 1, 1) := zdec_at bX8_cut_0 9 rfl
theorem dX8_cut_16 : decode cX8_cut 16 = .ok (.istore_n 1, 1) := zdec_at bX8_cut_0 10 rfl
theorem dX8_cut_17 : decode cX8_cut 17 = .ok (.iload_n 1, 1) := zdec_at bX8_cut_0 11 rfl
theorem dX8_cut_18 : decode cX8_cut 18 = .ok (.ifCond .eq 138, 3) := zdec_at bX8_cut_0 12 rfl
theorem dX8_cut_21 : decode cX8_cut 21 = .ok (.aload_n 0, 1) := zdec_at bX8_cut_0 13 rfl
theorem dX8_cut_22 : decode cX8_cut 22 = .ok (.invokevirtual 353, 3) := zdec_at bX8_cut_0 14 rfl
theorem dX8_cut_25 : decode cX8_cut 25 = .ok (.istore_n 2, 1) := zdec_at bX8_cut_0 15 rfl
theorem bX8_cut_26 : zdec cX8_cut 26 [(26, .aload_n 0, 1), (27, .getfield 33, 3), (30, .aload_n 0, 1), (31, .getfield 350, 3), (34, .aload_n 0, 1), (35, .getfield 344, 3), (38, .iastore, 1), (39, .aload_n 0, 1), (40, .getfield 39, 3), (43, .aload_n 0, 1), (44, .getfield 350, 3), (47, .aload_n 0, 1), (48, .getfield 347, 3), (51, .iastore, 1), (52, .iload_n 2, 1), (53, .ifCond .ne 17, 3)] = true := by decide +kernel
theorem dX8_cut_26 : decode cX8_cut 26 = .ok (.aload_n 0, 1) := zdec_at bX8_cut_26 0 rfl
theorem dX8_cut_27 : decode cX8_cut 27 = .ok (.getfield 33, 3) := zdec_at bX8_cut_26 1 rfl
theorem dX8_cut_30 : decode cX8_cut 30 = .ok (.aload_n 0, 1) := zdec_at bX8_cut_26 2 rfl
theorem dX8_cut_31 : decode cX8_cut 31 = .ok (.getfield 350, 3) := zdec_at bX8_cut_26 3 rfl
theorem dX8_cut_34 : decode cX8_cut 34 = .ok (.aload_n 0, 1) := zdec_at bX8_cut_26 4 rfl
theorem dX8_cut_35 : decode cX8_cut 35 = .ok (.getfield 344, 3) := zdec_at bX8_cut_26 5 rfl
theorem dX8_cut_38 : decode cX8_cut 38 = .ok (.iastore, 1) := zdec_at bX8_cut_26 6 rfl
theorem dX8_cut_39 : decode cX8_cut 39 = .ok (.aload_n 0, 1) := zdec_at bX8_cut_26 7 rfl
theorem dX8_cut_40 : decode cX8_cut 40 = .ok (.getfield 39, 3) := zdec_at bX8_cut_26 8 rfl
theorem dX8_cut_43 : decode cX8_cut 43 = .ok (.aload_n 0, 1) := zdec_at bX8_cut_26 9 rfl
theorem dX8_cut_44 : decode cX8_cut 44 = .ok (.getfield 350, 3) := zdec_at bX8_cut_26 10 rfl
theorem dX8_cut_47 : decode cX8_cut 47 = .ok (.aload_n 0, 1) := zdec_at bX8_cut_26 11 rfl
theorem dX8_cut_48 : decode cX8_cut 48 = .ok (.getfield 347, 3) := zdec_at bX8_cut_26 12 rfl
theorem dX8_cut_51 : decode cX8_cut 51 = .ok (.iastore, 1) := zdec_at bX8_cut_26 13 rfl
theorem dX8_cut_52 : decode cX8_cut 52 = .ok (.iload_n 2, 1) := zdec_at bX8_cut_26 14 rfl
theorem dX8_cut_53 : decode cX8_cut 53 = .ok (.ifCond .ne 17, 3) := zdec_at bX8_cut_26 15 rfl
theorem bX8_cut_56 : zdec cX8_cut 56 [(56, .aload_n 0, 1), (57, .getfield 27, 3), (60, .aload_n 0, 1), (61, .getfield 350, 3), (64, .bipush 6, 2), (66, .iastore, 1), (67, .goto 31, 3), (70, .aload_n 0, 1), (71, .aload_n 0, 1), (72, .getfield 344, 3), (75, .invokevirtual 331, 3), (78, .ifCond .ne 16, 3), (81, .aload_n 0, 1), (82, .getfield 27, 3), (85, .aload_n 0, 1), (86, .getfield 350, 3)] = true := by decide +kernel
theorem dX8_cut_56 : decode cX8_cut 56 = .ok (.aload_n 0, 1) := zdec_at bX8_cut_56 0 rfl
theorem dX8_cut_57 : decode cX8_cut 57 = .ok (.getfield 27, 3) := zdec_at bX8_cut_56 1 rfl
theorem dX8_cut_60 : decode cX8_cut 60 = .ok (.aload_n 0, 1) := zdec_at bX8_cut_56 2 rfl
theorem dX8_cut_61 : decode cX8_cut 61 = .ok (.getfield 350, 3) := zdec_at bX8_cut_56 3 rfl
theorem dX8_cut_64 : decode cX8_cut 64 = .ok (.bipush 6, 2) := zdec_at bX8_cut_56 4 rfl
theorem dX8_cut_66 : decode cX8_cut 66 = .ok (.iastore, 1) := zdec_at bX8_cut_56 5 rfl
theorem dX8_cut_67 : decode cX8_cut 67 = .ok (.goto 31, 3) := zdec_at bX8_cut_56 6 rfl
theorem dX8_cut_70 : decode cX8_cut 70 = .ok (.aload_n 0, 1) := zdec_at bX8_cut_56 7 rfl
theorem dX8_cut_71 : decode cX8_cut 71 = .ok (.aload_n 0, 1) := zdec_at bX8_cut_56 8 rfl
theorem dX8_cut_72 : decode cX8_cut 72 = .ok (.getfield 344, 3) := zdec_at bX8_cut_56 9 rfl
theorem dX8_cut_75 : decode cX8_cut 75 = .ok (.invokevirtual 331, 3) := zdec_at bX8_cut_56 10 rfl
theorem dX8_cut_78 : decode cX8_cut 78 = .ok (.ifCond .ne 16, 3) := zdec_at bX8_cut_56 11 rfl
theorem dX8_cut_81 : decode cX8_cut 81 = .ok (.aload_n 0, 1) := zdec_at bX8_cut_56 12 rfl
theorem dX8_cut_82 : decode cX8_cut 82 = .ok (.getfield 27, 3) := zdec_at bX8_cut_56 13 rfl
theorem dX8_cut_85 : decode cX8_cut 85 = .ok (.aload_n 0, 1) := zdec_at bX8_cut_56 14 rfl
theorem dX8_cut_86 : decode cX8_cut 86 = .ok (.getfield 350, 3) := zdec_at bX8_cut_56 15 rfl
theorem bX8_cut_89 : zdec cX8_cut 89 [(89, .iconst 0, 1), (90, .iastore, 1), (91, .goto 7, 3), (94, .aload_n 0, 1), (95, .invokevirtual 357, 3), (98, .aload_n 0, 1), (99, .getfield 36, 3), (102, .aload_n 0, 1), (103, .getfield 350, 3), (106, .aload_n 0, 1), (107, .getfield 344, 3), (110, .iastore, 1), (111, .aload_n 0, 1), (112, .getfield 27, 3), (115, .aload_n 0, 1), (116, .getfield 350, 3)] = true := by decide +kernel
theorem dX8_cut_89 : decode cX8_cut 89 = .ok (.iconst 0, 1) := zdec_at bX8_cut_89 0 rfl
theorem dX8_cut_90 : decode cX8_cut 90 = .ok (.iastore, 1) := zdec_at bX8_cut_89 1 rfl
theorem dX8_cut_91 : decode cX8_cut 91 = .ok (.goto 7, 3) := zdec_at bX8_cut_89 2 rfl
theorem dX8_cut_94 : decode cX8_cut 94 = .ok (.aload_n 0, 1) := zdec_at bX8_cut_89 3 rfl
theorem dX8_cut_95 : decode cX8_cut 95 = .ok (.invokevirtual 357, 3) := zdec_at bX8_cut_89 4 rfl
theorem dX8_cut_98 : decode cX8_cut 98 = .ok (.aload_n 0, 1) := zdec_at bX8_cut_89 5 rfl
theorem dX8_cut_99 : decode cX8_cut 99 = .ok (.getfield 36, 3) := zdec_at bX8_cut_89 6 rfl
theorem dX8_cut_102 : decode cX8_cut 102 = .ok (.aload_n 0, 1) := zdec_at bX8_cut_89 7 rfl
theorem dX8_cut_103 : decode cX8_cut 103 = .ok (.getfield 350, 3) := zdec_at bX8_cut_89 8 rfl
theorem dX8_cut_106 : decode cX8_cut 106 = .ok (.aload_n 0, 1) := zdec_at bX8_cut_89 9 rfl
theorem dX8_cut_107 : decode cX8_cut 107 = .ok (.getfield 344, 3) := zdec_at bX8_cut_89 10 rfl
theorem dX8_cut_110 : decode cX8_cut 110 = .ok (.iastore, 1) := zdec_at bX8_cut_89 11 rfl
theorem dX8_cut_111 : decode cX8_cut 111 = .ok (.aload_n 0, 1) := zdec_at bX8_cut_89 12 rfl
theorem dX8_cut_112 : decode cX8_cut 112 = .ok (.getfield 27, 3) := zdec_at bX8_cut_89 13 rfl
theorem dX8_cut_115 : decode cX8_cut 115 = .ok (.aload_n 0, 1) := zdec_at bX8_cut_89 14 rfl
theorem dX8_cut_116 : decode cX8_cut 116 = .ok (.getfield 350, 3) := zdec_at bX8_cut_89 15 rfl
theorem bX8_cut_119 : zdec cX8_cut 119 [(119, .iaload, 1), (120, .bipush 6, 2), (122, .if_icmp .eq 19, 3), (125, .aload_n 0, 1), (126, .getfield 27, 3), (129, .aload_n 0, 1), (130, .getfield 350, 3), (133, .iaload, 1), (134, .ifCond .eq 7, 3), (137, .iconst 1, 1), (138, .goto 4, 3), (141, .iconst 0, 1), (142, .istore_n 1, 1), (143, .aload_n 0, 1), (144, .dup, 1), (145, .getfield 350, 3)] = true := by decide +kernel
theorem dX8_cut_119 : decode cX8_cut 119 = .ok (.iaload, 1) := zdec_at bX8_cut_119 0 rfl
theorem dX8_cut_120 : decode cX8_cut 120 = .ok (.bipush 6, 2) := zdec_at bX8_cut_119 1 rfl
theorem dX8_cut_122 : decode cX8_cut 122 = .ok (.if_icmp .eq 19, 3) := zdec_at bX8_cut_119 2 rfl
theorem dX8_cut_125 : decode cX8_cut 125 = .ok (.aload_n 0, 1) := zdec_at bX8_cut_119 3 rfl
theorem dX8_cut_126 : decode cX8_cut 126 = .ok (.getfield 27, 3) := zdec_at bX8_cut_119 4 rfl
theorem dX8_cut_129 : decode cX8_cut 129 = .ok (.aload_n 0, 1) := zdec_at bX8_cut_119 5 rfl
theorem dX8_cut_130 : decode cX8_cut 130 = .ok (.getfield 350, 3) := zdec_at bX8_cut_119 6 rfl
theorem dX8_cut_133 : decode cX8_cut 133 = .ok (.iaload, 1) := zdec_at bX8_cut_119 7 rfl
theorem dX8_cut_134 : decode cX8_cut 134 = .ok (.ifCond .eq 7, 3) := zdec_at bX8_cut_119 8 rfl
theorem dX8_cut_137 : decode cX8_cut 137 = .ok (.iconst 1, 1) := zdec_at bX8_cut_119 9 rfl
theorem dX8_cut_138 : decode cX8_cut 138 = .ok (.goto 4, 3) := zdec_at bX8_cut_119 10 rfl
theorem dX8_cut_141 : decode cX8_cut 141 = .ok (.iconst 0, 1) := zdec_at bX8_cut_119 11 rfl
theorem dX8_cut_142 : decode cX8_cut 142 = .ok (.istore_n 1, 1) := zdec_at bX8_cut_119 12 rfl
theorem dX8_cut_143 : decode cX8_cut 143 = .ok (.aload_n 0, 1) := zdec_at bX8_cut_119 13 rfl
theorem dX8_cut_144 : decode cX8_cut 144 = .ok (.dup, 1) := zdec_at bX8_cut_119 14 rfl
theorem dX8_cut_145 : decode cX8_cut 145 = .ok (.getfield 350, 3) := zdec_at bX8_cut_119 15 rfl
theorem bX8_cut_148 : zdec cX8_cut 148 [(148, .iconst 1, 1), (149, .iadd, 1), (150, .putfield 350, 3), (153, .goto (-136), 3), (156, .return_, 1)] = true := by decide +kernel
theorem dX8_cut_148 : decode cX8_cut 148 = .ok (.iconst 1, 1) := zdec_at bX8_cut_148 0 rfl
theorem dX8_cut_149 : decode cX8_cut 149 = .ok (.iadd, 1) := zdec_at bX8_cut_148 1 rfl
theorem dX8_cut_150 : decode cX8_cut 150 = .ok (.putfield 350, 3) := zdec_at bX8_cut_148 2 rfl
theorem dX8_cut_153 : decode cX8_cut 153 = .ok (.goto (-136), 3) := zdec_at bX8_cut_148 3 rfl
theorem dX8_cut_156 : decode cX8_cut 156 = .ok (.return_, 1) := zdec_at bX8_cut_148 4 rfl
theorem sX8_cut_0 {E : zE} {d : Nat} {Q : zO → zM → Prop} (M : zM)  (k : Zm E YX8_cut (d + 1) (si (si (si M 97 12 (0 : Int32)) 97 18 (0 : Int32)) 97 19 (1 : Int32)) [(0, vr (some (97, 1, 0))), (1, vi (1 : Int32))] 17 [] Q) : Zm E YX8_cut (d + 1) M [(0, vr (some (97, 1, 0)))] 0 [] Q := by
  refine Zm.l (fun _ _ k_ => z_aload_n dX8_cut_0 rfl rfl k_) ?_
  refine Zm.l (fun _ _ k_ => z_iconst (v := 0) dX8_cut_1 rfl k_) ?_
  refine zm_puti (by decide) (by decide) dX8_cut_2 (zfwN.w fwX8_350_1) rfl ⟨rfl, rfl⟩ ?_
  refine Zm.l (fun _ _ k_ => z_aload_n dX8_cut_5 rfl rfl k_) ?_
  refine Zm.l (fun _ _ k_ => z_iconst (v := 0) dX8_cut_6 rfl k_) ?_
  refine zm_puti (by decide) (by decide) dX8_cut_7 (zfwN.w fwX8_344_1) rfl ⟨rfl, rfl⟩ ?_
  refine Zm.l (fun _ _ k_ => z_aload_n dX8_cut_10 rfl rfl k_) ?_
  refine Zm.l (fun _ _ k_ => z_iconst (v := 1) dX8_cut_11 rfl k_) ?_
  refine zm_puti (by decide) (by decide) dX8_cut_12 (zfwN.w fwX8_347_1) rfl ⟨rfl, rfl⟩ ?_
  refine Zm.l (fun _ _ k_ => z_iconst (v := 1) dX8_cut_15 rfl k_) ?_
  refine Zm.l (fun _ _ k_ => z_ist_n dX8_cut_16 rfl (by decide) (lv' := [(0, vr (some (97, 1, 0))), (1, vi (1 : Int32))]) rfl k_) ?_
  exact k
theorem sX8_cut_17 {E : zE} {d : Nat} {Q : zO → zM → Prop} (M : zM) (l1 : Int32) (k : if l1 = 0 then (Q (.inl none) M) else (Zm E YX8_skip d M (zargs 0 [vr (some (97, 1, 0))]) 0 [] (zma E YX8_cut (d + 1) [(0, vr (some (97, 1, 0)))] 22 3 [] Q))) : Zm E YX8_cut (d + 1) M [(0, vr (some (97, 1, 0))), (1, vi l1)] 17 [] Q := by
  refine Zm.l (fun _ _ k_ => z_iload_n dX8_cut_17 rfl rfl k_) ?_
  refine Zm.br (fun _ _ k1_ k2_ => z_if_eq (tgt := 156) dX8_cut_18 rfl k1_ k2_) (fun h_ => ?_) (fun h_ => ?_)
  · have k := zit h_ k
    exact zm_vret dX8_cut_156 rfl k
  · have k := zif h_ k
    refine Zm.l (fun _ _ k_ => z_aload_n dX8_cut_21 rfl rfl k_) ?_
    refine Zm.pick [0] rfl ?_
    exact zm_callV (as := []) (st := []) dX8_cut_22 vsX8_353_1 (Nat.le_refl _) (Nat.le_of_ble_eq_true rfl) (Nat.le_of_ble_eq_true rfl) rfl k
theorem sX8_cut_25 {E : zE} {d : Nat} {Q : zO → zM → Prop} (M : zM) (s0 : Int32) (k : vp_in (gi M 97 12) 4002 ∧ (vp_in (gi M 97 12) 4002 ∧ (if s0 = 0 then (vp_in (gi M 97 12) 4002 ∧ (Zm E YX8_cut (d + 1) (si (si (si M 105 ((gi M 97 12)).toNatClampNeg (gi M 97 18)) 107 ((gi M 97 12)).toNatClampNeg (gi M 97 19)) 103 ((gi M 97 12)).toNatClampNeg (6 : Int32)) [(0, vr (some (97, 1, 0)))] 98 [] Q)) else (Zm E YX8_isThere d (si (si M 105 ((gi M 97 12)).toNatClampNeg (gi M 97 18)) 107 ((gi M 97 12)).toNatClampNeg (gi M 97 19)) (zargs 0 [vr (some (97, 1, 0)), vi (gi M 97 18)]) 0 [] (zma E YX8_cut (d + 1) [(0, vr (some (97, 1, 0)))] 75 3 [] Q))))) : Zm E YX8_cut (d + 1) M [(0, vr (some (97, 1, 0)))] 25 [vi s0] Q := by
  refine Zm.l (fun _ _ k_ => z_ist_n dX8_cut_25 rfl (by decide) (lv' := [(0, vr (some (97, 1, 0))), (2, vi s0)]) rfl k_) ?_
  refine Zm.l (fun _ _ k_ => z_aload_n dX8_cut_26 rfl rfl k_) ?_
  refine zm_getr 7 dX8_cut_27 fsX8_33_1 rfl ?_
  refine Zm.l (fun _ _ k_ => z_aload_n dX8_cut_30 rfl rfl k_) ?_
  refine zm_geti dX8_cut_31 fsX8_350_1 (by decide) (by decide) ?_
  refine Zm.l (fun _ _ k_ => z_aload_n dX8_cut_34 rfl rfl k_) ?_
  refine zm_geti dX8_cut_35 fsX8_344_1 (by decide) (by decide) ?_
  obtain ⟨b_, k⟩ := k
  refine zm_iast dX8_cut_38 b_ (by decide) (by decide) ?_
  refine Zm.l (fun _ _ k_ => z_aload_n dX8_cut_39 rfl rfl k_) ?_
  refine zm_getr 9 dX8_cut_40 fsX8_39_1 rfl ?_
  refine Zm.l (fun _ _ k_ => z_aload_n dX8_cut_43 rfl rfl k_) ?_
  refine zm_geti dX8_cut_44 fsX8_350_1 (by decide) (by decide) ?_
  refine Zm.l (fun _ _ k_ => z_aload_n dX8_cut_47 rfl rfl k_) ?_
  refine zm_geti dX8_cut_48 fsX8_347_1 (by decide) (by decide) ?_
  obtain ⟨b_, k⟩ := k
  refine zm_iast dX8_cut_51 b_ (by decide) (by decide) ?_
  refine Zm.l (fun _ _ k_ => z_iload_n dX8_cut_52 rfl rfl k_) ?_
  refine Zm.brn (fun _ _ k1_ k2_ => z_if_ne (tgt := 70) dX8_cut_53 rfl k1_ k2_) (fun h_ => ?_) (fun h_ => ?_)
  · have k := zif h_ k
    refine Zm.l (fun _ _ k_ => z_aload_n dX8_cut_70 rfl rfl k_) ?_
    refine Zm.l (fun _ _ k_ => z_aload_n dX8_cut_71 rfl rfl k_) ?_
    refine zm_geti dX8_cut_72 fsX8_344_1 (by decide) (by decide) ?_
    refine Zm.pick [0] rfl ?_
    exact zm_callV (as := [vi (gi M 97 18)]) (st := []) dX8_cut_75 vsX8_331_1 (Nat.le_refl _) (Nat.le_of_ble_eq_true rfl) (Nat.le_of_ble_eq_true rfl) rfl k
  · have k := zit h_ k
    refine Zm.l (fun _ _ k_ => z_aload_n dX8_cut_56 rfl rfl k_) ?_
    refine zm_getr 5 dX8_cut_57 fsX8_27_1 rfl ?_
    refine Zm.l (fun _ _ k_ => z_aload_n dX8_cut_60 rfl rfl k_) ?_
    refine zm_geti dX8_cut_61 fsX8_350_1 (by decide) (by decide) ?_
    refine Zm.l (fun _ _ k_ => z_bipush (v := 6) dX8_cut_64 rfl k_) ?_
    obtain ⟨b_, k⟩ := k
    refine zm_iast dX8_cut_66 b_ (by decide) (by decide) ?_
    refine Zm.l (fun _ _ k_ => z_goto (tgt := 98) dX8_cut_67 rfl k_) ?_
    refine Zm.pick [0] rfl ?_
    exact k
theorem sX8_cut_78 {E : zE} {d : Nat} {Q : zO → zM → Prop} (M : zM) (s0 : Int32) (k : if s0 = 0 then (vp_in (gi M 97 12) 4002 ∧ (Zm E YX8_cut (d + 1) (si M 103 ((gi M 97 12)).toNatClampNeg (0 : Int32)) [(0, vr (some (97, 1, 0)))] 98 [] Q)) else (Zm E YX8_cutOne d M (zargs 0 [vr (some (97, 1, 0))]) 0 [] (zma E YX8_cut (d + 1) [(0, vr (some (97, 1, 0)))] 95 3 [] Q))) : Zm E YX8_cut (d + 1) M [(0, vr (some (97, 1, 0)))] 78 [vi s0] Q := by
  refine Zm.brn (fun _ _ k1_ k2_ => z_if_ne (tgt := 94) dX8_cut_78 rfl k1_ k2_) (fun h_ => ?_) (fun h_ => ?_)
  · have k := zif h_ k
    refine Zm.l (fun _ _ k_ => z_aload_n dX8_cut_94 rfl rfl k_) ?_
    exact zm_callV (as := []) (st := []) dX8_cut_95 vsX8_357_1 (Nat.le_refl _) (Nat.le_of_ble_eq_true rfl) (Nat.le_of_ble_eq_true rfl) rfl k
  · have k := zit h_ k
    refine Zm.l (fun _ _ k_ => z_aload_n dX8_cut_81 rfl rfl k_) ?_
    refine zm_getr 5 dX8_cut_82 fsX8_27_1 rfl ?_
    refine Zm.l (fun _ _ k_ => z_aload_n dX8_cut_85 rfl rfl k_) ?_
    refine zm_geti dX8_cut_86 fsX8_350_1 (by decide) (by decide) ?_
    refine Zm.l (fun _ _ k_ => z_iconst (v := 0) dX8_cut_89 rfl k_) ?_
    obtain ⟨b_, k⟩ := k
    refine zm_iast dX8_cut_90 b_ (by decide) (by decide) ?_
    refine Zm.l (fun _ _ k_ => z_goto (tgt := 98) dX8_cut_91 rfl k_) ?_
    exact k
theorem sX8_cut_98 {E : zE} {d : Nat} {Q : zO → zM → Prop} (M : zM)  (k : vp_in (gi M 97 12) 4002 ∧ (vp_in (gi M 97 12) 4002 ∧ (if (gi M 103 ((gi M 97 12)).toNatClampNeg) = (6 : Int32) then (Zm E YX8_cut (d + 1) (si M 106 ((gi M 97 12)).toNatClampNeg (gi M 97 18)) [(0, vr (some (97, 1, 0)))] 142 [vi (0 : Int32)] Q) else (vp_in (gi M 97 12) 4002 ∧ (if (gi M 103 ((gi M 97 12)).toNatClampNeg) = 0 then (Zm E YX8_cut (d + 1) (si M 106 ((gi M 97 12)).toNatClampNeg (gi M 97 18)) [(0, vr (some (97, 1, 0)))] 142 [vi (0 : Int32)] Q) else (Zm E YX8_cut (d + 1) (si M 106 ((gi M 97 12)).toNatClampNeg (gi M 97 18)) [(0, vr (some (97, 1, 0)))] 142 [vi (1 : Int32)] Q)))))) : Zm E YX8_cut (d + 1) M [(0, vr (some (97, 1, 0)))] 98 [] Q := by
  refine Zm.l (fun _ _ k_ => z_aload_n dX8_cut_98 rfl rfl k_) ?_
  refine zm_getr 8 dX8_cut_99 fsX8_36_1 rfl ?_
  refine Zm.l (fun _ _ k_ => z_aload_n dX8_cut_102 rfl rfl k_) ?_
  refine zm_geti dX8_cut_103 fsX8_350_1 (by decide) (by decide) ?_
  refine Zm.l (fun _ _ k_ => z_aload_n dX8_cut_106 rfl rfl k_) ?_
  refine zm_geti dX8_cut_107 fsX8_344_1 (by decide) (by decide) ?_
  obtain ⟨b_, k⟩ := k
  refine zm_iast dX8_cut_110 b_ (by decide) (by decide) ?_
  refine Zm.l (fun _ _ k_ => z_aload_n dX8_cut_111 rfl rfl k_) ?_
  refine zm_getr 5 dX8_cut_112 fsX8_27_1 rfl ?_
  refine Zm.l (fun _ _ k_ => z_aload_n dX8_cut_115 rfl rfl k_) ?_
  refine zm_geti dX8_cut_116 fsX8_350_1 (by decide) (by decide) ?_
  obtain ⟨b_, k⟩ := k
  refine zm_iald dX8_cut_119 b_ (by decide) (by decide) ?_
  refine Zm.l (fun _ _ k_ => z_bipush (v := 6) dX8_cut_120 rfl k_) ?_
  refine Zm.br (fun _ _ k1_ k2_ => z_icmp_eq (tgt := 141) dX8_cut_122 rfl k1_ k2_) (fun h_ => ?_) (fun h_ => ?_)
  · have k := zit h_ k
    refine Zm.l (fun _ _ k_ => z_iconst (v := 0) dX8_cut_141 rfl k_) ?_
    exact k
  · have k := zif h_ k
    refine Zm.l (fun _ _ k_ => z_aload_n dX8_cut_125 rfl rfl k_) ?_
    refine zm_getr 5 dX8_cut_126 fsX8_27_1 rfl ?_
    refine Zm.l (fun _ _ k_ => z_aload_n dX8_cut_129 rfl rfl k_) ?_
    refine zm_geti dX8_cut_130 fsX8_350_1 (by decide) (by decide) ?_
    obtain ⟨b_, k⟩ := k
    refine zm_iald dX8_cut_133 b_ (by decide) (by decide) ?_
    refine Zm.br (fun _ _ k1_ k2_ => z_if_eq (tgt := 141) dX8_cut_134 rfl k1_ k2_) (fun h_ => ?_) (fun h_ => ?_)
    · have k := zit h_ k
      refine Zm.l (fun _ _ k_ => z_iconst (v := 0) dX8_cut_141 rfl k_) ?_
      exact k
    · have k := zif h_ k
      refine Zm.l (fun _ _ k_ => z_iconst (v := 1) dX8_cut_137 rfl k_) ?_
      refine Zm.l (fun _ _ k_ => z_goto (tgt := 142) dX8_cut_138 rfl k_) ?_
      exact k
theorem sX8_cut_142 {E : zE} {d : Nat} {Q : zO → zM → Prop} (M : zM) (s0 : Int32) (k : Zm E YX8_cut (d + 1) (si M 97 12 ((gi M 97 12) + (1 : Int32))) [(0, vr (some (97, 1, 0))), (1, vi s0)] 17 [] Q) : Zm E YX8_cut (d + 1) M [(0, vr (some (97, 1, 0)))] 142 [vi s0] Q := by
  refine Zm.l (fun _ _ k_ => z_ist_n dX8_cut_142 rfl (by decide) (lv' := [(0, vr (some (97, 1, 0))), (1, vi s0)]) rfl k_) ?_
  refine Zm.l (fun _ _ k_ => z_aload_n dX8_cut_143 rfl rfl k_) ?_
  refine Zm.l (fun _ _ k_ => z_dup dX8_cut_144 rfl k_) ?_
  refine zm_geti dX8_cut_145 fsX8_350_1 (by decide) (by decide) ?_
  refine Zm.l (fun _ _ k_ => z_iconst (v := 1) dX8_cut_148 rfl k_) ?_
  refine Zm.l (fun _ _ k_ => z_iadd dX8_cut_149 k_) ?_
  refine zm_puti (by decide) (by decide) dX8_cut_150 (zfwN.w fwX8_350_1) rfl ⟨rfl, rfl⟩ ?_
  refine Zm.l (fun _ _ k_ => z_goto (tgt := 17) dX8_cut_153 rfl k_) ?_
  exact k
/-! ScriptTypesModel.skip()Z -/
theorem bX8_skip_0 : zdec cX8_skip 0 [(0, .iconst 1, 1), (1, .istore_n 1, 1), (2, .iload_n 1, 1), (3, .ifCond .eq 264, 3), (6, .aload_n 0, 1), (7, .aload_n 0, 1), (8, .getfield 344, 3), (11, .invokevirtual 331, 3), (14, .ifCond .eq 253, 3), (17, .aload_n 0, 1), (18, .aload_n 0, 1), (19, .getfield 344, 3), (22, .invokevirtual 334, 3), (25, .istore_n 2, 1), (26, .iload_n 2, 1), (27, .bipush 9, 2)] = true := by decide +kernel
theorem dX8_skip_0 : decode cX8_skip 0 = .ok (.iconst 1, 1) := zdec_at bX8_skip_0 0 rfl
theorem dX8_skip_1 : decode cX8_skip 1 = .ok (.istore_n 1, 1) := zdec_at bX8_skip_0 1 rfl
theorem dX8_skip_2 : decode cX8_skip 2 = .ok (.iload_n 1, 1) := zdec_at bX8_skip_0 2 rfl
theorem dX8_skip_3 : decode cX8_skip 3 = .ok (.ifCond .eq 264, 3) := zdec_at bX8_skip_0 3 rfl
theorem dX8_skip_6 : decode cX8_skip 6 = .ok (.aload_n 0, 1) := zdec_at bX8_skip_0 4 rfl
theorem dX8_skip_7 : decode cX8_skip 7 = .ok (.aload_n 0, 1) := zdec_at bX8_skip_0 5 rfl
theorem dX8_skip_8 : decode cX8_skip 8 = .ok (.getfield 344, 3) := zdec_at bX8_skip_0 6 rfl
theorem dX8_skip_11 : decode cX8_skip 11 = .ok (.invokevirtual 331, 3) := zdec_at bX8_skip_0 7 rfl
theorem dX8_skip_14 : decode cX8_skip 14 = .ok (.ifCond .eq 253, 3) := zdec_at bX8_skip_0 8 rfl
theorem dX8_skip_17 : decode cX8_skip 17 = .ok (.aload_n 0, 1) := zdec_at bX8_skip_0 9 rfl
theorem dX8_skip_18 : decode cX8_skip 18 = .ok (.aload_n 0, 1) := zdec_at bX8_skip_0 10 rfl
theorem dX8_skip_19 : decode cX8_skip 19 = .ok (.getfield 344, 3) := zdec_at bX8_skip_0 11 rfl
theorem dX8_skip_22 : decode cX8_skip 22 = .ok (.invokevirtual 334, 3) := zdec_at bX8_skip_0 12 rfl
theorem dX8_skip_25 : decode cX8_skip 25 = .ok (.istore_n 2, 1) := zdec_at bX8_skip_0 13 rfl
theorem dX8_skip_26 : decode cX8_skip 26 = .ok (.iload_n 2, 1) := zdec_at bX8_skip_0 14 rfl
theorem dX8_skip_27 : decode cX8_skip 27 = .ok (.bipush 9, 2) := zdec_at bX8_skip_0 15 rfl
theorem bX8_skip_29 : zdec cX8_skip 29 [(29, .if_icmp .eq 15, 3), (32, .iload_n 2, 1), (33, .bipush 10, 2), (35, .if_icmp .eq 9, 3), (38, .iload_n 2, 1), (39, .bipush 32, 2), (41, .if_icmp .ne 36, 3), (44, .aload_n 0, 1), (45, .dup, 1), (46, .getfield 347, 3), (49, .iload_n 2, 1), (50, .bipush 10, 2), (52, .if_icmp .ne 7, 3), (55, .iconst 1, 1), (56, .goto 4, 3), (59, .iconst 0, 1)] = true := by decide +kernel
theorem dX8_skip_29 : decode cX8_skip 29 = .ok (.if_icmp .eq 15, 3) := zdec_at bX8_skip_29 0 rfl
theorem dX8_skip_32 : decode cX8_skip 32 = .ok (.iload_n 2, 1) := zdec_at bX8_skip_29 1 rfl
theorem dX8_skip_33 : decode cX8_skip 33 = .ok (.bipush 10, 2) := zdec_at bX8_skip_29 2 rfl
theorem dX8_skip_35 : decode cX8_skip 35 = .ok (.if_icmp .eq 9, 3) := zdec_at bX8_skip_29 3 rfl
theorem dX8_skip_38 : decode cX8_skip 38 = .ok (.iload_n 2, 1) := zdec_at bX8_skip_29 4 rfl
theorem dX8_skip_39 : decode cX8_skip 39 = .ok (.bipush 32, 2) := zdec_at bX8_skip_29 5 rfl
theorem dX8_skip_41 : decode cX8_skip 41 = .ok (.if_icmp .ne 36, 3) := zdec_at bX8_skip_29 6 rfl
theorem dX8_skip_44 : decode cX8_skip 44 = .ok (.aload_n 0, 1) := zdec_at bX8_skip_29 7 rfl
theorem dX8_skip_45 : decode cX8_skip 45 = .ok (.dup, 1) := zdec_at bX8_skip_29 8 rfl
theorem dX8_skip_46 : decode cX8_skip 46 = .ok (.getfield 347, 3) := zdec_at bX8_skip_29 9 rfl
theorem dX8_skip_49 : decode cX8_skip 49 = .ok (.iload_n 2, 1) := zdec_at bX8_skip_29 10 rfl
theorem dX8_skip_50 : decode cX8_skip 50 = .ok (.bipush 10, 2) := zdec_at bX8_skip_29 11 rfl
theorem dX8_skip_52 : decode cX8_skip 52 = .ok (.if_icmp .ne 7, 3) := zdec_at bX8_skip_29 12 rfl
theorem dX8_skip_55 : decode cX8_skip 55 = .ok (.iconst 1, 1) := zdec_at bX8_skip_29 13 rfl
theorem dX8_skip_56 : decode cX8_skip 56 = .ok (.goto 4, 3) := zdec_at bX8_skip_29 14 rfl
theorem dX8_skip_59 : decode cX8_skip 59 = .ok (.iconst 0, 1) := zdec_at bX8_skip_29 15 rfl
theorem bX8_skip_60 : zdec cX8_skip 60 [(60, .iadd, 1), (61, .putfield 347, 3), (64, .aload_n 0, 1), (65, .dup, 1), (66, .getfield 344, 3), (69, .iconst 1, 1), (70, .iadd, 1), (71, .putfield 344, 3), (74, .goto 190, 3), (77, .iload_n 2, 1), (78, .bipush 47, 2), (80, .if_icmp .ne 55, 3), (83, .aload_n 0, 1), (84, .aload_n 0, 1), (85, .getfield 344, 3), (88, .iconst 1, 1)] = true := by decide +kernel
theorem dX8_skip_60 : decode cX8_skip 60 = .ok (.iadd, 1) := zdec_at bX8_skip_60 0 rfl
theorem dX8_skip_61 : decode cX8_skip 61 = .ok (.putfield 347, 3) := zdec_at bX8_skip_60 1 rfl
theorem dX8_skip_64 : decode cX8_skip 64 = .ok (.aload_n 0, 1) := zdec_at bX8_skip_60 2 rfl
theorem dX8_skip_65 : decode cX8_skip 65 = .ok (.dup, 1) := zdec_at bX8_skip_60 3 rfl
theorem dX8_skip_66 : decode cX8_skip 66 = .ok (.getfield 344, 3) := zdec_at bX8_skip_60 4 rfl
theorem dX8_skip_69 : decode cX8_skip 69 = .ok (.iconst 1, 1) := zdec_at bX8_skip_60 5 rfl
theorem dX8_skip_70 : decode cX8_skip 70 = .ok (.iadd, 1) := zdec_at bX8_skip_60 6 rfl
theorem dX8_skip_71 : decode cX8_skip 71 = .ok (.putfield 344, 3) := zdec_at bX8_skip_60 7 rfl
theorem dX8_skip_74 : decode cX8_skip 74 = .ok (.goto 190, 3) := zdec_at bX8_skip_60 8 rfl
theorem dX8_skip_77 : decode cX8_skip 77 = .ok (.iload_n 2, 1) := zdec_at bX8_skip_60 9 rfl
theorem dX8_skip_78 : decode cX8_skip 78 = .ok (.bipush 47, 2) := zdec_at bX8_skip_60 10 rfl
theorem dX8_skip_80 : decode cX8_skip 80 = .ok (.if_icmp .ne 55, 3) := zdec_at bX8_skip_60 11 rfl
theorem dX8_skip_83 : decode cX8_skip 83 = .ok (.aload_n 0, 1) := zdec_at bX8_skip_60 12 rfl
theorem dX8_skip_84 : decode cX8_skip 84 = .ok (.aload_n 0, 1) := zdec_at bX8_skip_60 13 rfl
theorem dX8_skip_85 : decode cX8_skip 85 = .ok (.getfield 344, 3) := zdec_at bX8_skip_60 14 rfl
theorem dX8_skip_88 : decode cX8_skip 88 = .ok (.iconst 1, 1) := zdec_at bX8_skip_60 15 rfl
theorem bX8_skip_89 : zdec cX8_skip 89 [(89, .iadd, 1), (90, .invokevirtual 334, 3), (93, .bipush 47, 2), (95, .if_icmp .ne 40, 3), (98, .aload_n 0, 1), (99, .aload_n 0, 1), (100, .getfield 344, 3), (103, .invokevirtual 331, 3), (106, .ifCond .eq 158, 3), (109, .aload_n 0, 1), (110, .aload_n 0, 1), (111, .getfield 344, 3), (114, .invokevirtual 334, 3), (117, .bipush 10, 2), (119, .if_icmp .eq 145, 3), (122, .aload_n 0, 1)] = true := by decide +kernel
theorem dX8_skip_89 : decode cX8_skip 89 = .ok (.iadd, 1) := zdec_at bX8_skip_89 0 rfl
theorem dX8_skip_90 : decode cX8_skip 90 = .ok (.invokevirtual 334, 3) := zdec_at bX8_skip_89 1 rfl
theorem dX8_skip_93 : decode cX8_skip 93 = .ok (.bipush 47, 2) := zdec_at bX8_skip_89 2 rfl
theorem dX8_skip_95 : decode cX8_skip 95 = .ok (.if_icmp .ne 40, 3) := zdec_at bX8_skip_89 3 rfl
theorem dX8_skip_98 : decode cX8_skip 98 = .ok (.aload_n 0, 1) := zdec_at bX8_skip_89 4 rfl
theorem dX8_skip_99 : decode cX8_skip 99 = .ok (.aload_n 0, 1) := zdec_at bX8_skip_89 5 rfl
theorem dX8_skip_100 : decode cX8_skip 100 = .ok (.getfield 344, 3) := zdec_at bX8_skip_89 6 rfl
theorem dX8_skip_103 : decode cX8_skip 103 = .ok (.invokevirtual 331, 3) := zdec_at bX8_skip_89 7 rfl
theorem dX8_skip_106 : decode cX8_skip 106 = .ok (.ifCond .eq 158, 3) := zdec_at bX8_skip_89 8 rfl
theorem dX8_skip_109 : decode cX8_skip 109 = .ok (.aload_n 0, 1) := zdec_at bX8_skip_89 9 rfl
theorem dX8_skip_110 : decode cX8_skip 110 = .ok (.aload_n 0, 1) := zdec_at bX8_skip_89 10 rfl
theorem dX8_skip_111 : decode cX8_skip 111 = .ok (.getfield 344, 3) := zdec_at bX8_skip_89 11 rfl
theorem dX8_skip_114 : decode cX8_skip 114 = .ok (.invokevirtual 334, 3) := zdec_at bX8_skip_89 12 rfl
theorem dX8_skip_117 : decode cX8_skip 117 = .ok (.bipush 10, 2) := zdec_at bX8_skip_89 13 rfl
theorem dX8_skip_119 : decode cX8_skip 119 = .ok (.if_icmp .eq 145, 3) := zdec_at bX8_skip_89 14 rfl
theorem dX8_skip_122 : decode cX8_skip 122 = .ok (.aload_n 0, 1) := zdec_at bX8_skip_89 15 rfl
theorem bX8_skip_123 : zdec cX8_skip 123 [(123, .dup, 1), (124, .getfield 344, 3), (127, .iconst 1, 1), (128, .iadd, 1), (129, .putfield 344, 3), (132, .goto (-34), 3), (135, .iload_n 2, 1), (136, .bipush 47, 2), (138, .if_icmp .ne 124, 3), (141, .aload_n 0, 1), (142, .aload_n 0, 1), (143, .getfield 344, 3), (146, .iconst 1, 1), (147, .iadd, 1), (148, .invokevirtual 334, 3), (151, .bipush 42, 2)] = true := by decide +kernel
theorem dX8_skip_123 : decode cX8_skip 123 = .ok (.dup, 1) := zdec_at bX8_skip_123 0 rfl
theorem dX8_skip_124 : decode cX8_skip 124 = .ok (.getfield 344, 3) := zdec_at bX8_skip_123 1 rfl
theorem dX8_skip_127 : decode cX8_skip 127 = .ok (.iconst 1, 1) := zdec_at bX8_skip_123 2 rfl
theorem dX8_skip_128 : decode cX8_skip 128 = .ok (.iadd, 1) := zdec_at bX8_skip_123 3 rfl
theorem dX8_skip_129 : decode cX8_skip 129 = .ok (.putfield 344, 3) := zdec_at bX8_skip_123 4 rfl
theorem dX8_skip_132 : decode cX8_skip 132 = .ok (.goto (-34), 3) := zdec_at bX8_skip_123 5 rfl
theorem dX8_skip_135 : decode cX8_skip 135 = .ok (.iload_n 2, 1) := zdec_at bX8_skip_123 6 rfl
theorem dX8_skip_136 : decode cX8_skip 136 = .ok (.bipush 47, 2) := zdec_at bX8_skip_123 7 rfl
theorem dX8_skip_138 : decode cX8_skip 138 = .ok (.if_icmp .ne 124, 3) := zdec_at bX8_skip_123 8 rfl
theorem dX8_skip_141 : decode cX8_skip 141 = .ok (.aload_n 0, 1) := zdec_at bX8_skip_123 9 rfl
theorem dX8_skip_142 : decode cX8_skip 142 = .ok (.aload_n 0, 1) := zdec_at bX8_skip_123 10 rfl
theorem dX8_skip_143 : decode cX8_skip 143 = .ok (.getfield 344, 3) := zdec_at bX8_skip_123 11 rfl
theorem dX8_skip_146 : decode cX8_skip 146 = .ok (.iconst 1, 1) := zdec_at bX8_skip_123 12 rfl
theorem dX8_skip_147 : decode cX8_skip 147 = .ok (.iadd, 1) := zdec_at bX8_skip_123 13 rfl
theorem dX8_skip_148 : decode cX8_skip 148 = .ok (.invokevirtual 334, 3) := zdec_at bX8_skip_123 14 rfl
theorem dX8_skip_151 : decode cX8_skip 151 = .ok (.bipush 42, 2) := zdec_at bX8_skip_123 15 rfl
theorem bX8_skip_153 : zdec cX8_skip 153 [(153, .if_icmp .ne 109, 3), (156, .aload_n 0, 1), (157, .getfield 344, 3), (160, .iconst 2, 1), (161, .iadd, 1), (162, .istore_n 3, 1), (163, .aload_n 0, 1), (164, .iload_n 3, 1), (165, .invokevirtual 331, 3), (168, .ifCond .eq 31, 3), (171, .aload_n 0, 1), (172, .iload_n 3, 1), (173, .invokevirtual 334, 3), (176, .bipush 42, 2), (178, .if_icmp .ne 15, 3), (181, .aload_n 0, 1)] = true := by decide +kernel
theorem dX8_skip_153 : decode cX8_skip 153 = .ok (.if_icmp .ne 109, 3) := zdec_at bX8_skip_153 0 rfl
theorem dX8_skip_156 : decode cX8_skip 156 = .ok (.aload_n 0, 1) := zdec_at bX8_skip_153 1 rfl
theorem dX8_skip_157 : decode cX8_skip 157 = .ok (.getfield 344, 3) := zdec_at bX8_skip_153 2 rfl
theorem dX8_skip_160 : decode cX8_skip 160 = .ok (.iconst 2, 1) := zdec_at bX8_skip_153 3 rfl
theorem dX8_skip_161 : decode cX8_skip 161 = .ok (.iadd, 1) := zdec_at bX8_skip_153 4 rfl
theorem dX8_skip_162 : decode cX8_skip 162 = .ok (.istore_n 3, 1) := zdec_at bX8_skip_153 5 rfl
theorem dX8_skip_163 : decode cX8_skip 163 = .ok (.aload_n 0, 1) := zdec_at bX8_skip_153 6 rfl
theorem dX8_skip_164 : decode cX8_skip 164 = .ok (.iload_n 3, 1) := zdec_at bX8_skip_153 7 rfl
theorem dX8_skip_165 : decode cX8_skip 165 = .ok (.invokevirtual 331, 3) := zdec_at bX8_skip_153 8 rfl
theorem dX8_skip_168 : decode cX8_skip 168 = .ok (.ifCond .eq 31, 3) := zdec_at bX8_skip_153 9 rfl
theorem dX8_skip_171 : decode cX8_skip 171 = .ok (.aload_n 0, 1) := zdec_at bX8_skip_153 10 rfl
theorem dX8_skip_172 : decode cX8_skip 172 = .ok (.iload_n 3, 1) := zdec_at bX8_skip_153 11 rfl
theorem dX8_skip_173 : decode cX8_skip 173 = .ok (.invokevirtual 334, 3) := zdec_at bX8_skip_153 12 rfl
theorem dX8_skip_176 : decode cX8_skip 176 = .ok (.bipush 42, 2) := zdec_at bX8_skip_153 13 rfl
theorem dX8_skip_178 : decode cX8_skip 178 = .ok (.if_icmp .ne 15, 3) := zdec_at bX8_skip_153 14 rfl
theorem dX8_skip_181 : decode cX8_skip 181 = .ok (.aload_n 0, 1) := zdec_at bX8_skip_153 15 rfl
theorem bX8_skip_182 : zdec cX8_skip 182 [(182, .iload_n 3, 1), (183, .iconst 1, 1), (184, .iadd, 1), (185, .invokevirtual 334, 3), (188, .bipush 47, 2), (190, .if_icmp .eq 9, 3), (193, .iinc 3 1, 3), (196, .goto (-33), 3), (199, .aload_n 0, 1), (200, .iload_n 3, 1), (201, .invokevirtual 331, 3), (204, .ifCond .ne 5, 3), (207, .iconst 0, 1), (208, .ireturn, 1), (209, .aload_n 0, 1), (210, .getfield 344, 3)] = true := by decide +kernel
theorem dX8_skip_182 : decode cX8_skip 182 = .ok (.iload_n 3, 1) := zdec_at bX8_skip_182 0 rfl
theorem dX8_skip_183 : decode cX8_skip 183 = .ok (.iconst 1, 1) := zdec_at bX8_skip_182 1 rfl
theorem dX8_skip_184 : decode cX8_skip 184 = .ok (.iadd, 1) := zdec_at bX8_skip_182 2 rfl
theorem dX8_skip_185 : decode cX8_skip 185 = .ok (.invokevirtual 334, 3) := zdec_at bX8_skip_182 3 rfl
theorem dX8_skip_188 : decode cX8_skip 188 = .ok (.bipush 47, 2) := zdec_at bX8_skip_182 4 rfl
theorem dX8_skip_190 : decode cX8_skip 190 = .ok (.if_icmp .eq 9, 3) := zdec_at bX8_skip_182 5 rfl
theorem dX8_skip_193 : decode cX8_skip 193 = .ok (.iinc 3 1, 3) := zdec_at bX8_skip_182 6 rfl
theorem dX8_skip_196 : decode cX8_skip 196 = .ok (.goto (-33), 3) := zdec_at bX8_skip_182 7 rfl
theorem dX8_skip_199 : decode cX8_skip 199 = .ok (.aload_n 0, 1) := zdec_at bX8_skip_182 8 rfl
theorem dX8_skip_200 : decode cX8_skip 200 = .ok (.iload_n 3, 1) := zdec_at bX8_skip_182 9 rfl
theorem dX8_skip_201 : decode cX8_skip 201 = .ok (.invokevirtual 331, 3) := zdec_at bX8_skip_182 10 rfl
theorem dX8_skip_204 : decode cX8_skip 204 = .ok (.ifCond .ne 5, 3) := zdec_at bX8_skip_182 11 rfl
theorem dX8_skip_207 : decode cX8_skip 207 = .ok (.iconst 0, 1) := zdec_at bX8_skip_182 12 rfl
theorem dX8_skip_208 : decode cX8_skip 208 = .ok (.ireturn, 1) := zdec_at bX8_skip_182 13 rfl
theorem dX8_skip_209 : decode cX8_skip 209 = .ok (.aload_n 0, 1) := zdec_at bX8_skip_182 14 rfl
theorem dX8_skip_210 : decode cX8_skip 210 = .ok (.getfield 344, 3) := zdec_at bX8_skip_182 15 rfl
theorem bX8_skip_213 : zdec cX8_skip 213 [(213, .iload_n 3, 1), (214, .iconst 2, 1), (215, .iadd, 1), (216, .if_icmp .ge 43, 3), (219, .aload_n 0, 1), (220, .dup, 1), (221, .getfield 347, 3), (224, .aload_n 0, 1), (225, .aload_n 0, 1), (226, .getfield 344, 3), (229, .invokevirtual 334, 3), (232, .bipush 10, 2), (234, .if_icmp .ne 7, 3), (237, .iconst 1, 1), (238, .goto 4, 3), (241, .iconst 0, 1)] = true := by decide +kernel
theorem dX8_skip_213 : decode cX8_skip 213 = .ok (.iload_n 3, 1) := zdec_at bX8_skip_213 0 rfl
theorem dX8_skip_214 : decode cX8_skip 214 = .ok (.iconst 2, 1) := zdec_at bX8_skip_213 1 rfl
theorem dX8_skip_215 : decode cX8_skip 215 = .ok (.iadd, 1) := zdec_at bX8_skip_213 2 rfl
theorem dX8_skip_216 : decode cX8_skip 216 = .ok (.if_icmp .ge 43, 3) := zdec_at bX8_skip_213 3 rfl
theorem dX8_skip_219 : decode cX8_skip 219 = .ok (.aload_n 0, 1) := zdec_at bX8_skip_213 4 rfl
theorem dX8_skip_220 : decode cX8_skip 220 = .ok (.dup, 1) := zdec_at bX8_skip_213 5 rfl
theorem dX8_skip_221 : decode cX8_skip 221 = .ok (.getfield 347, 3) := zdec_at bX8_skip_213 6 rfl
theorem dX8_skip_224 : decode cX8_skip 224 = .ok (.aload_n 0, 1) := zdec_at bX8_skip_213 7 rfl
theorem dX8_skip_225 : decode cX8_skip 225 = .ok (.aload_n 0, 1) := zdec_at bX8_skip_213 8 rfl
theorem dX8_skip_226 : decode cX8_skip 226 = .ok (.getfield 344, 3) := zdec_at bX8_skip_213 9 rfl
theorem dX8_skip_229 : decode cX8_skip 229 = .ok (.invokevirtual 334, 3) := zdec_at bX8_skip_213 10 rfl
theorem dX8_skip_232 : decode cX8_skip 232 = .ok (.bipush 10, 2) := zdec_at bX8_skip_213 11 rfl
theorem dX8_skip_234 : decode cX8_skip 234 = .ok (.if_icmp .ne 7, 3) := zdec_at bX8_skip_213 12 rfl
theorem dX8_skip_237 : decode cX8_skip 237 = .ok (.iconst 1, 1) := zdec_at bX8_skip_213 13 rfl
theorem dX8_skip_238 : decode cX8_skip 238 = .ok (.goto 4, 3) := zdec_at bX8_skip_213 14 rfl
theorem dX8_skip_241 : decode cX8_skip 241 = .ok (.iconst 0, 1) := zdec_at bX8_skip_213 15 rfl
theorem bX8_skip_242 : zdec cX8_skip 242 [(242, .iadd, 1), (243, .putfield 347, 3), (246, .aload_n 0, 1), (247, .dup, 1), (248, .getfield 344, 3), (251, .iconst 1, 1), (252, .iadd, 1), (253, .putfield 344, 3), (256, .goto (-47), 3), (259, .goto 5, 3), (262, .iconst 0, 1), (263, .istore_n 1, 1), (264, .goto (-262), 3), (267, .iconst 1, 1), (268, .ireturn, 1)] = true := by decide +kernel
theorem dX8_skip_242 : decode cX8_skip 242 = .ok (.iadd, 1) := zdec_at bX8_skip_242 0 rfl
theorem dX8_skip_243 : decode cX8_skip 243 = .ok (.putfield 347, 3) := zdec_at bX8_skip_242 1 rfl
theorem dX8_skip_246 : decode cX8_skip 246 = .ok (.aload_n 0, 1) := zdec_at bX8_skip_242 2 rfl
theorem dX8_skip_247 : decode cX8_skip 247 = .ok (.dup, 1) := zdec_at bX8_skip_242 3 rfl
theorem dX8_skip_248 : decode cX8_skip 248 = .ok (.getfield 344, 3) := zdec_at bX8_skip_242 4 rfl
theorem dX8_skip_251 : decode cX8_skip 251 = .ok (.iconst 1, 1) := zdec_at bX8_skip_242 5 rfl
theorem dX8_skip_252 : decode cX8_skip 252 = .ok (.iadd, 1) := zdec_at bX8_skip_242 6 rfl
theorem dX8_skip_253 : decode cX8_skip 253 = .ok (.putfield 344, 3) := zdec_at bX8_skip_242 7 rfl
theorem dX8_skip_256 : decode cX8_skip 256 = .ok (.goto (-47), 3) := zdec_at bX8_skip_242 8 rfl
theorem dX8_skip_259 : decode cX8_skip 259 = .ok (.goto 5, 3) := zdec_at bX8_skip_242 9 rfl
theorem dX8_skip_262 : decode cX8_skip 262 = .ok (.iconst 0, 1) := zdec_at bX8_skip_242 10 rfl
theorem dX8_skip_263 : decode cX8_skip 263 = .ok (.istore_n 1, 1) := zdec_at bX8_skip_242 11 rfl
theorem dX8_skip_264 : decode cX8_skip 264 = .ok (.goto (-262), 3) := zdec_at bX8_skip_242 12 rfl
theorem dX8_skip_267 : decode cX8_skip 267 = .ok (.iconst 1, 1) := zdec_at bX8_skip_242 13 rfl
theorem dX8_skip_268 : decode cX8_skip 268 = .ok (.ireturn, 1) := zdec_at bX8_skip_242 14 rfl
theorem sX8_skip_0 {E : zE} {d : Nat} {Q : zO → zM → Prop} (M : zM)  (k : Zm E YX8_skip (d + 1) M [(0, vr (some (97, 1, 0))), (1, vi (1 : Int32))] 2 [] Q) : Zm E YX8_skip (d + 1) M [(0, vr (some (97, 1, 0)))] 0 [] Q := by
  refine Zm.l (fun _ _ k_ => z_iconst (v := 1) dX8_skip_0 rfl k_) ?_
  refine Zm.l (fun _ _ k_ => z_ist_n dX8_skip_1 rfl (by decide) (lv' := [(0, vr (some (97, 1, 0))), (1, vi (1 : Int32))]) rfl k_) ?_
  exact k
theorem sX8_skip_2 {E : zE} {d : Nat} {Q : zO → zM → Prop} (M : zM) (l1 : Int32) (k : if l1 = 0 then (Q (.inl (some (vi (1 : Int32)))) M) else (Zm E YX8_isThere d M (zargs 0 [vr (some (97, 1, 0)), vi (gi M 97 18)]) 0 [] (zma E YX8_skip (d + 1) [(0, vr (some (97, 1, 0))), (1, vi l1)] 11 3 [] Q))) : Zm E YX8_skip (d + 1) M [(0, vr (some (97, 1, 0))), (1, vi l1)] 2 [] Q := by
  refine Zm.l (fun _ _ k_ => z_iload_n dX8_skip_2 rfl rfl k_) ?_
  refine Zm.br (fun _ _ k1_ k2_ => z_if_eq (tgt := 267) dX8_skip_3 rfl k1_ k2_) (fun h_ => ?_) (fun h_ => ?_)
  · have k := zit h_ k
    refine Zm.l (fun _ _ k_ => z_iconst (v := 1) dX8_skip_267 rfl k_) ?_
    exact zm_iret dX8_skip_268 rfl (by decide) k
  · have k := zif h_ k
    refine Zm.l (fun _ _ k_ => z_aload_n dX8_skip_6 rfl rfl k_) ?_
    refine Zm.l (fun _ _ k_ => z_aload_n dX8_skip_7 rfl rfl k_) ?_
    refine zm_geti dX8_skip_8 fsX8_344_1 (by decide) (by decide) ?_
    exact zm_callV (as := [vi (gi M 97 18)]) (st := []) dX8_skip_11 vsX8_331_1 (Nat.le_refl _) (Nat.le_of_ble_eq_true rfl) (Nat.le_of_ble_eq_true rfl) rfl k
theorem sX8_skip_14 {E : zE} {d : Nat} {Q : zO → zM → Prop} (M : zM) (l1 : Int32) (s0 : Int32) (k : if s0 = 0 then (Q (.inl (some (vi (1 : Int32)))) M) else (Zm E YX8_look d M (zargs 0 [vr (some (97, 1, 0)), vi (gi M 97 18)]) 0 [] (zma E YX8_skip (d + 1) [(0, vr (some (97, 1, 0))), (1, vi l1)] 22 3 [] Q))) : Zm E YX8_skip (d + 1) M [(0, vr (some (97, 1, 0))), (1, vi l1)] 14 [vi s0] Q := by
  refine Zm.br (fun _ _ k1_ k2_ => z_if_eq (tgt := 267) dX8_skip_14 rfl k1_ k2_) (fun h_ => ?_) (fun h_ => ?_)
  · have k := zit h_ k
    refine Zm.l (fun _ _ k_ => z_iconst (v := 1) dX8_skip_267 rfl k_) ?_
    exact zm_iret dX8_skip_268 rfl (by decide) k
  · have k := zif h_ k
    refine Zm.l (fun _ _ k_ => z_aload_n dX8_skip_17 rfl rfl k_) ?_
    refine Zm.l (fun _ _ k_ => z_aload_n dX8_skip_18 rfl rfl k_) ?_
    refine zm_geti dX8_skip_19 fsX8_344_1 (by decide) (by decide) ?_
    exact zm_callV (as := [vi (gi M 97 18)]) (st := []) dX8_skip_22 vsX8_334_1 (Nat.le_refl _) (Nat.le_of_ble_eq_true rfl) (Nat.le_of_ble_eq_true rfl) rfl k
theorem sX8_skip_25 {E : zE} {d : Nat} {Q : zO → zM → Prop} (M : zM) (l1 : Int32) (s0 : Int32) (k : if s0 = (9 : Int32) then (Zm E YX8_skip (d + 1) M [(0, vr (some (97, 1, 0))), (1, vi l1), (2, vi s0)] 44 [] Q) else (if s0 = (10 : Int32) then (Zm E YX8_skip (d + 1) M [(0, vr (some (97, 1, 0))), (1, vi l1), (2, vi s0)] 44 [] Q) else (if s0 = (32 : Int32) then (Zm E YX8_skip (d + 1) M [(0, vr (some (97, 1, 0))), (1, vi l1), (2, vi s0)] 44 [] Q) else (if s0 = (47 : Int32) then (Zm E YX8_look d M (zargs 0 [vr (some (97, 1, 0)), vi ((gi M 97 18) + (1 : Int32))]) 0 [] (zma E YX8_skip (d + 1) [(0, vr (some (97, 1, 0))), (1, vi l1), (2, vi s0)] 90 3 [] Q)) else (Zm E YX8_skip (d + 1) M [(0, vr (some (97, 1, 0))), (1, vi l1), (2, vi s0)] 135 [] Q))))) : Zm E YX8_skip (d + 1) M [(0, vr (some (97, 1, 0))), (1, vi l1)] 25 [vi s0] Q := by
  refine Zm.l (fun _ _ k_ => z_ist_n dX8_skip_25 rfl (by decide) (lv' := [(0, vr (some (97, 1, 0))), (1, vi l1), (2, vi s0)]) rfl k_) ?_
  refine Zm.l (fun _ _ k_ => z_iload_n dX8_skip_26 rfl rfl k_) ?_
  refine Zm.l (fun _ _ k_ => z_bipush (v := 9) dX8_skip_27 rfl k_) ?_
  refine Zm.br (fun _ _ k1_ k2_ => z_icmp_eq (tgt := 44) dX8_skip_29 rfl k1_ k2_) (fun h_ => ?_) (fun h_ => ?_)
  · have k := zit h_ k
    exact k
  · have k := zif h_ k
    refine Zm.l (fun _ _ k_ => z_iload_n dX8_skip_32 rfl rfl k_) ?_
    refine Zm.l (fun _ _ k_ => z_bipush (v := 10) dX8_skip_33 rfl k_) ?_
    refine Zm.br (fun _ _ k1_ k2_ => z_icmp_eq (tgt := 44) dX8_skip_35 rfl k1_ k2_) (fun h_ => ?_) (fun h_ => ?_)
    · have k := zit h_ k
      exact k
    · have k := zif h_ k
      refine Zm.l (fun _ _ k_ => z_iload_n dX8_skip_38 rfl rfl k_) ?_
      refine Zm.l (fun _ _ k_ => z_bipush (v := 32) dX8_skip_39 rfl k_) ?_
      refine Zm.brn (fun _ _ k1_ k2_ => z_icmp_ne (tgt := 77) dX8_skip_41 rfl k1_ k2_) (fun h_ => ?_) (fun h_ => ?_)
      · have k := zif h_ k
        refine Zm.l (fun _ _ k_ => z_iload_n dX8_skip_77 rfl rfl k_) ?_
        refine Zm.l (fun _ _ k_ => z_bipush (v := 47) dX8_skip_78 rfl k_) ?_
        refine Zm.brn (fun _ _ k1_ k2_ => z_icmp_ne (tgt := 135) dX8_skip_80 rfl k1_ k2_) (fun h_ => ?_) (fun h_ => ?_)
        · have k := zif h_ k
          exact k
        · have k := zit h_ k
          refine Zm.l (fun _ _ k_ => z_aload_n dX8_skip_83 rfl rfl k_) ?_
          refine Zm.l (fun _ _ k_ => z_aload_n dX8_skip_84 rfl rfl k_) ?_
          refine zm_geti dX8_skip_85 fsX8_344_1 (by decide) (by decide) ?_
          refine Zm.l (fun _ _ k_ => z_iconst (v := 1) dX8_skip_88 rfl k_) ?_
          refine Zm.l (fun _ _ k_ => z_iadd dX8_skip_89 k_) ?_
          exact zm_callV (as := [vi ((gi M 97 18) + (1 : Int32))]) (st := []) dX8_skip_90 vsX8_334_1 (Nat.le_refl _) (Nat.le_of_ble_eq_true rfl) (Nat.le_of_ble_eq_true rfl) rfl k
      · have k := zit h_ k
        exact k
theorem sX8_skip_44 {E : zE} {d : Nat} {Q : zO → zM → Prop} (M : zM) (l1 : Int32) (l2 : Int32) (k : if l2 = (10 : Int32) then (Zm E YX8_skip (d + 1) M [(0, vr (some (97, 1, 0))), (1, vi l1)] 60 [vi (1 : Int32), vi (gi M 97 19), vr (some (97, 1, 0))] Q) else (Zm E YX8_skip (d + 1) M [(0, vr (some (97, 1, 0))), (1, vi l1)] 60 [vi (0 : Int32), vi (gi M 97 19), vr (some (97, 1, 0))] Q)) : Zm E YX8_skip (d + 1) M [(0, vr (some (97, 1, 0))), (1, vi l1), (2, vi l2)] 44 [] Q := by
  refine Zm.l (fun _ _ k_ => z_aload_n dX8_skip_44 rfl rfl k_) ?_
  refine Zm.l (fun _ _ k_ => z_dup dX8_skip_45 rfl k_) ?_
  refine zm_geti dX8_skip_46 fsX8_347_1 (by decide) (by decide) ?_
  refine Zm.l (fun _ _ k_ => z_iload_n dX8_skip_49 rfl rfl k_) ?_
  refine Zm.l (fun _ _ k_ => z_bipush (v := 10) dX8_skip_50 rfl k_) ?_
  refine Zm.brn (fun _ _ k1_ k2_ => z_icmp_ne (tgt := 59) dX8_skip_52 rfl k1_ k2_) (fun h_ => ?_) (fun h_ => ?_)
  · have k := zif h_ k
    refine Zm.l (fun _ _ k_ => z_iconst (v := 0) dX8_skip_59 rfl k_) ?_
    refine Zm.pick [0, 1] rfl ?_
    exact k
  · have k := zit h_ k
    refine Zm.l (fun _ _ k_ => z_iconst (v := 1) dX8_skip_55 rfl k_) ?_
    refine Zm.l (fun _ _ k_ => z_goto (tgt := 60) dX8_skip_56 rfl k_) ?_
    refine Zm.pick [0, 1] rfl ?_
    exact k
theorem sX8_skip_60 {E : zE} {d : Nat} {Q : zO → zM → Prop} (M : zM) (l1 : Int32) (s0 : Int32) (s1 : Int32) (k : Zm E YX8_skip (d + 1) (si (si M 97 19 (s1 + s0)) 97 18 ((gi M 97 18) + (1 : Int32))) [(0, vr (some (97, 1, 0))), (1, vi l1)] 2 [] Q) : Zm E YX8_skip (d + 1) M [(0, vr (some (97, 1, 0))), (1, vi l1)] 60 [vi s0, vi s1, vr (some (97, 1, 0))] Q := by
  refine Zm.l (fun _ _ k_ => z_iadd dX8_skip_60 k_) ?_
  refine zm_puti (by decide) (by decide) dX8_skip_61 (zfwN.w fwX8_347_1) rfl ⟨rfl, rfl⟩ ?_
  refine Zm.l (fun _ _ k_ => z_aload_n dX8_skip_64 rfl rfl k_) ?_
  refine Zm.l (fun _ _ k_ => z_dup dX8_skip_65 rfl k_) ?_
  refine zm_geti dX8_skip_66 fsX8_344_1 (by decide) (by decide) ?_
  refine Zm.l (fun _ _ k_ => z_iconst (v := 1) dX8_skip_69 rfl k_) ?_
  refine Zm.l (fun _ _ k_ => z_iadd dX8_skip_70 k_) ?_
  refine zm_puti (by decide) (by decide) dX8_skip_71 (zfwN.w fwX8_344_1) rfl ⟨rfl, rfl⟩ ?_
  refine Zm.l (fun _ _ k_ => z_goto (tgt := 264) dX8_skip_74 rfl k_) ?_
  refine Zm.l (fun _ _ k_ => z_goto (tgt := 2) dX8_skip_264 rfl k_) ?_
  exact k
theorem sX8_skip_93 {E : zE} {d : Nat} {Q : zO → zM → Prop} (M : zM) (l1 : Int32) (l2 : Int32) (s0 : Int32) (k : if s0 = (47 : Int32) then (Zm E YX8_skip (d + 1) M [(0, vr (some (97, 1, 0))), (1, vi l1)] 98 [] Q) else (Zm E YX8_skip (d + 1) M [(0, vr (some (97, 1, 0))), (1, vi l1), (2, vi l2)] 135 [] Q)) : Zm E YX8_skip (d + 1) M [(0, vr (some (97, 1, 0))), (1, vi l1), (2, vi l2)] 93 [vi s0] Q := by
  refine Zm.l (fun _ _ k_ => z_bipush (v := 47) dX8_skip_93 rfl k_) ?_
  refine Zm.brn (fun _ _ k1_ k2_ => z_icmp_ne (tgt := 135) dX8_skip_95 rfl k1_ k2_) (fun h_ => ?_) (fun h_ => ?_)
  · have k := zif h_ k
    exact k
  · have k := zit h_ k
    refine Zm.pick [0, 1] rfl ?_
    exact k
theorem sX8_skip_98 {E : zE} {d : Nat} {Q : zO → zM → Prop} (M : zM) (l1 : Int32) (k : Zm E YX8_isThere d M (zargs 0 [vr (some (97, 1, 0)), vi (gi M 97 18)]) 0 [] (zma E YX8_skip (d + 1) [(0, vr (some (97, 1, 0))), (1, vi l1)] 103 3 [] Q)) : Zm E YX8_skip (d + 1) M [(0, vr (some (97, 1, 0))), (1, vi l1)] 98 [] Q := by
  refine Zm.l (fun _ _ k_ => z_aload_n dX8_skip_98 rfl rfl k_) ?_
  refine Zm.l (fun _ _ k_ => z_aload_n dX8_skip_99 rfl rfl k_) ?_
  refine zm_geti dX8_skip_100 fsX8_344_1 (by decide) (by decide) ?_
  exact zm_callV (as := [vi (gi M 97 18)]) (st := []) dX8_skip_103 vsX8_331_1 (Nat.le_refl _) (Nat.le_of_ble_eq_true rfl) (Nat.le_of_ble_eq_true rfl) rfl k
theorem sX8_skip_106 {E : zE} {d : Nat} {Q : zO → zM → Prop} (M : zM) (l1 : Int32) (s0 : Int32) (k : if s0 = 0 then (Zm E YX8_skip (d + 1) M [(0, vr (some (97, 1, 0))), (1, vi l1)] 2 [] Q) else (Zm E YX8_look d M (zargs 0 [vr (some (97, 1, 0)), vi (gi M 97 18)]) 0 [] (zma E YX8_skip (d + 1) [(0, vr (some (97, 1, 0))), (1, vi l1)] 114 3 [] Q))) : Zm E YX8_skip (d + 1) M [(0, vr (some (97, 1, 0))), (1, vi l1)] 106 [vi s0] Q := by
  refine Zm.br (fun _ _ k1_ k2_ => z_if_eq (tgt := 264) dX8_skip_106 rfl k1_ k2_) (fun h_ => ?_) (fun h_ => ?_)
  · have k := zit h_ k
    refine Zm.l (fun _ _ k_ => z_goto (tgt := 2) dX8_skip_264 rfl k_) ?_
    exact k
  · have k := zif h_ k
    refine Zm.l (fun _ _ k_ => z_aload_n dX8_skip_109 rfl rfl k_) ?_
    refine Zm.l (fun _ _ k_ => z_aload_n dX8_skip_110 rfl rfl k_) ?_
    refine zm_geti dX8_skip_111 fsX8_344_1 (by decide) (by decide) ?_
    exact zm_callV (as := [vi (gi M 97 18)]) (st := []) dX8_skip_114 vsX8_334_1 (Nat.le_refl _) (Nat.le_of_ble_eq_true rfl) (Nat.le_of_ble_eq_true rfl) rfl k
theorem sX8_skip_117 {E : zE} {d : Nat} {Q : zO → zM → Prop} (M : zM) (l1 : Int32) (s0 : Int32) (k : if s0 = (10 : Int32) then (Zm E YX8_skip (d + 1) M [(0, vr (some (97, 1, 0))), (1, vi l1)] 2 [] Q) else (Zm E YX8_skip (d + 1) (si M 97 18 ((gi M 97 18) + (1 : Int32))) [(0, vr (some (97, 1, 0))), (1, vi l1)] 98 [] Q)) : Zm E YX8_skip (d + 1) M [(0, vr (some (97, 1, 0))), (1, vi l1)] 117 [vi s0] Q := by
  refine Zm.l (fun _ _ k_ => z_bipush (v := 10) dX8_skip_117 rfl k_) ?_
  refine Zm.br (fun _ _ k1_ k2_ => z_icmp_eq (tgt := 264) dX8_skip_119 rfl k1_ k2_) (fun h_ => ?_) (fun h_ => ?_)
  · have k := zit h_ k
    refine Zm.l (fun _ _ k_ => z_goto (tgt := 2) dX8_skip_264 rfl k_) ?_
    exact k
  · have k := zif h_ k
    refine Zm.l (fun _ _ k_ => z_aload_n dX8_skip_122 rfl rfl k_) ?_
    refine Zm.l (fun _ _ k_ => z_dup dX8_skip_123 rfl k_) ?_
    refine zm_geti dX8_skip_124 fsX8_344_1 (by decide) (by decide) ?_
    refine Zm.l (fun _ _ k_ => z_iconst (v := 1) dX8_skip_127 rfl k_) ?_
    refine Zm.l (fun _ _ k_ => z_iadd dX8_skip_128 k_) ?_
    refine zm_puti (by decide) (by decide) dX8_skip_129 (zfwN.w fwX8_344_1) rfl ⟨rfl, rfl⟩ ?_
    refine Zm.l (fun _ _ k_ => z_goto (tgt := 98) dX8_skip_132 rfl k_) ?_
    exact k
theorem sX8_skip_135 {E : zE} {d : Nat} {Q : zO → zM → Prop} (M : zM) (l1 : Int32) (l2 : Int32) (k : if l2 = (47 : Int32) then (Zm E YX8_look d M (zargs 0 [vr (some (97, 1, 0)), vi ((gi M 97 18) + (1 : Int32))]) 0 [] (zma E YX8_skip (d + 1) [(0, vr (some (97, 1, 0))), (1, vi l1)] 148 3 [] Q)) else (Zm E YX8_skip (d + 1) M [(0, vr (some (97, 1, 0))), (1, vi (0 : Int32))] 2 [] Q)) : Zm E YX8_skip (d + 1) M [(0, vr (some (97, 1, 0))), (1, vi l1), (2, vi l2)] 135 [] Q := by
  refine Zm.l (fun _ _ k_ => z_iload_n dX8_skip_135 rfl rfl k_) ?_
  refine Zm.l (fun _ _ k_ => z_bipush (v := 47) dX8_skip_136 rfl k_) ?_
  refine Zm.brn (fun _ _ k1_ k2_ => z_icmp_ne (tgt := 262) dX8_skip_138 rfl k1_ k2_) (fun h_ => ?_) (fun h_ => ?_)
  · have k := zif h_ k
    refine Zm.l (fun _ _ k_ => z_iconst (v := 0) dX8_skip_262 rfl k_) ?_
    refine Zm.l (fun _ _ k_ => z_ist_n dX8_skip_263 rfl (by decide) (lv' := [(0, vr (some (97, 1, 0))), (1, vi (0 : Int32)), (2, vi l2)]) rfl k_) ?_
    refine Zm.l (fun _ _ k_ => z_goto (tgt := 2) dX8_skip_264 rfl k_) ?_
    refine Zm.pick [0, 1] rfl ?_
    exact k
  · have k := zit h_ k
    refine Zm.l (fun _ _ k_ => z_aload_n dX8_skip_141 rfl rfl k_) ?_
    refine Zm.l (fun _ _ k_ => z_aload_n dX8_skip_142 rfl rfl k_) ?_
    refine zm_geti dX8_skip_143 fsX8_344_1 (by decide) (by decide) ?_
    refine Zm.l (fun _ _ k_ => z_iconst (v := 1) dX8_skip_146 rfl k_) ?_
    refine Zm.l (fun _ _ k_ => z_iadd dX8_skip_147 k_) ?_
    refine Zm.pick [0, 1] rfl ?_
    exact zm_callV (as := [vi ((gi M 97 18) + (1 : Int32))]) (st := []) dX8_skip_148 vsX8_334_1 (Nat.le_refl _) (Nat.le_of_ble_eq_true rfl) (Nat.le_of_ble_eq_true rfl) rfl k
theorem sX8_skip_151 {E : zE} {d : Nat} {Q : zO → zM → Prop} (M : zM) (l1 : Int32) (s0 : Int32) (k : if s0 = (42 : Int32) then (Zm E YX8_skip (d + 1) M [(0, vr (some (97, 1, 0))), (1, vi l1), (3, vi ((gi M 97 18) + (2 : Int32)))] 163 [] Q) else (Zm E YX8_skip (d + 1) M [(0, vr (some (97, 1, 0))), (1, vi (0 : Int32))] 2 [] Q)) : Zm E YX8_skip (d + 1) M [(0, vr (some (97, 1, 0))), (1, vi l1)] 151 [vi s0] Q := by
  refine Zm.l (fun _ _ k_ => z_bipush (v := 42) dX8_skip_151 rfl k_) ?_
  refine Zm.brn (fun _ _ k1_ k2_ => z_icmp_ne (tgt := 262) dX8_skip_153 rfl k1_ k2_) (fun h_ => ?_) (fun h_ => ?_)
  · have k := zif h_ k
    refine Zm.l (fun _ _ k_ => z_iconst (v := 0) dX8_skip_262 rfl k_) ?_
    refine Zm.l (fun _ _ k_ => z_ist_n dX8_skip_263 rfl (by decide) (lv' := [(0, vr (some (97, 1, 0))), (1, vi (0 : Int32))]) rfl k_) ?_
    refine Zm.l (fun _ _ k_ => z_goto (tgt := 2) dX8_skip_264 rfl k_) ?_
    exact k
  · have k := zit h_ k
    refine Zm.l (fun _ _ k_ => z_aload_n dX8_skip_156 rfl rfl k_) ?_
    refine zm_geti dX8_skip_157 fsX8_344_1 (by decide) (by decide) ?_
    refine Zm.l (fun _ _ k_ => z_iconst (v := 2) dX8_skip_160 rfl k_) ?_
    refine Zm.l (fun _ _ k_ => z_iadd dX8_skip_161 k_) ?_
    refine Zm.l (fun _ _ k_ => z_ist_n dX8_skip_162 rfl (by decide) (lv' := [(0, vr (some (97, 1, 0))), (1, vi l1), (3, vi ((gi M 97 18) + (2 : Int32)))]) rfl k_) ?_
    exact k
theorem sX8_skip_163 {E : zE} {d : Nat} {Q : zO → zM → Prop} (M : zM) (l1 : Int32) (l3 : Int32) (k : Zm E YX8_isThere d M (zargs 0 [vr (some (97, 1, 0)), vi l3]) 0 [] (zma E YX8_skip (d + 1) [(0, vr (some (97, 1, 0))), (1, vi l1), (3, vi l3)] 165 3 [] Q)) : Zm E YX8_skip (d + 1) M [(0, vr (some (97, 1, 0))), (1, vi l1), (3, vi l3)] 163 [] Q := by
  refine Zm.l (fun _ _ k_ => z_aload_n dX8_skip_163 rfl rfl k_) ?_
  refine Zm.l (fun _ _ k_ => z_iload_n dX8_skip_164 rfl rfl k_) ?_
  exact zm_callV (as := [vi l3]) (st := []) dX8_skip_165 vsX8_331_1 (Nat.le_refl _) (Nat.le_of_ble_eq_true rfl) (Nat.le_of_ble_eq_true rfl) rfl k
theorem sX8_skip_168 {E : zE} {d : Nat} {Q : zO → zM → Prop} (M : zM) (l1 : Int32) (l3 : Int32) (s0 : Int32) (k : if s0 = 0 then (Zm E YX8_isThere d M (zargs 0 [vr (some (97, 1, 0)), vi l3]) 0 [] (zma E YX8_skip (d + 1) [(0, vr (some (97, 1, 0))), (1, vi l1), (3, vi l3)] 201 3 [] Q)) else (Zm E YX8_look d M (zargs 0 [vr (some (97, 1, 0)), vi l3]) 0 [] (zma E YX8_skip (d + 1) [(0, vr (some (97, 1, 0))), (1, vi l1), (3, vi l3)] 173 3 [] Q))) : Zm E YX8_skip (d + 1) M [(0, vr (some (97, 1, 0))), (1, vi l1), (3, vi l3)] 168 [vi s0] Q := by
  refine Zm.br (fun _ _ k1_ k2_ => z_if_eq (tgt := 199) dX8_skip_168 rfl k1_ k2_) (fun h_ => ?_) (fun h_ => ?_)
  · have k := zit h_ k
    refine Zm.l (fun _ _ k_ => z_aload_n dX8_skip_199 rfl rfl k_) ?_
    refine Zm.l (fun _ _ k_ => z_iload_n dX8_skip_200 rfl rfl k_) ?_
    exact zm_callV (as := [vi l3]) (st := []) dX8_skip_201 vsX8_331_1 (Nat.le_refl _) (Nat.le_of_ble_eq_true rfl) (Nat.le_of_ble_eq_true rfl) rfl k
  · have k := zif h_ k
    refine Zm.l (fun _ _ k_ => z_aload_n dX8_skip_171 rfl rfl k_) ?_
    refine Zm.l (fun _ _ k_ => z_iload_n dX8_skip_172 rfl rfl k_) ?_
    exact zm_callV (as := [vi l3]) (st := []) dX8_skip_173 vsX8_334_1 (Nat.le_refl _) (Nat.le_of_ble_eq_true rfl) (Nat.le_of_ble_eq_true rfl) rfl k
theorem sX8_skip_176 {E : zE} {d : Nat} {Q : zO → zM → Prop} (M : zM) (l1 : Int32) (l3 : Int32) (s0 : Int32) (k : if s0 = (42 : Int32) then (Zm E YX8_look d M (zargs 0 [vr (some (97, 1, 0)), vi (l3 + (1 : Int32))]) 0 [] (zma E YX8_skip (d + 1) [(0, vr (some (97, 1, 0))), (1, vi l1), (3, vi l3)] 185 3 [] Q)) else (Zm E YX8_skip (d + 1) M [(0, vr (some (97, 1, 0))), (1, vi l1), (3, vi (l3 + (1 : Int32)))] 163 [] Q)) : Zm E YX8_skip (d + 1) M [(0, vr (some (97, 1, 0))), (1, vi l1), (3, vi l3)] 176 [vi s0] Q := by
  refine Zm.l (fun _ _ k_ => z_bipush (v := 42) dX8_skip_176 rfl k_) ?_
  refine Zm.brn (fun _ _ k1_ k2_ => z_icmp_ne (tgt := 193) dX8_skip_178 rfl k1_ k2_) (fun h_ => ?_) (fun h_ => ?_)
  · have k := zif h_ k
    refine Zm.l (fun _ _ k_ => z_inc (v := (l3 + (1 : Int32))) dX8_skip_193 rfl rfl (by decide) (lv' := [(0, vr (some (97, 1, 0))), (1, vi l1), (3, vi (l3 + (1 : Int32)))]) rfl k_) ?_
    refine Zm.l (fun _ _ k_ => z_goto (tgt := 163) dX8_skip_196 rfl k_) ?_
    exact k
  · have k := zit h_ k
    refine Zm.l (fun _ _ k_ => z_aload_n dX8_skip_181 rfl rfl k_) ?_
    refine Zm.l (fun _ _ k_ => z_iload_n dX8_skip_182 rfl rfl k_) ?_
    refine Zm.l (fun _ _ k_ => z_iconst (v := 1) dX8_skip_183 rfl k_) ?_
    refine Zm.l (fun _ _ k_ => z_iadd dX8_skip_184 k_) ?_
    exact zm_callV (as := [vi (l3 + (1 : Int32))]) (st := []) dX8_skip_185 vsX8_334_1 (Nat.le_refl _) (Nat.le_of_ble_eq_true rfl) (Nat.le_of_ble_eq_true rfl) rfl k
theorem sX8_skip_188 {E : zE} {d : Nat} {Q : zO → zM → Prop} (M : zM) (l1 : Int32) (l3 : Int32) (s0 : Int32) (k : if s0 = (47 : Int32) then (Zm E YX8_isThere d M (zargs 0 [vr (some (97, 1, 0)), vi l3]) 0 [] (zma E YX8_skip (d + 1) [(0, vr (some (97, 1, 0))), (1, vi l1), (3, vi l3)] 201 3 [] Q)) else (Zm E YX8_skip (d + 1) M [(0, vr (some (97, 1, 0))), (1, vi l1), (3, vi (l3 + (1 : Int32)))] 163 [] Q)) : Zm E YX8_skip (d + 1) M [(0, vr (some (97, 1, 0))), (1, vi l1), (3, vi l3)] 188 [vi s0] Q := by
  refine Zm.l (fun _ _ k_ => z_bipush (v := 47) dX8_skip_188 rfl k_) ?_
  refine Zm.br (fun _ _ k1_ k2_ => z_icmp_eq (tgt := 199) dX8_skip_190 rfl k1_ k2_) (fun h_ => ?_) (fun h_ => ?_)
  · have k := zit h_ k
    refine Zm.l (fun _ _ k_ => z_aload_n dX8_skip_199 rfl rfl k_) ?_
    refine Zm.l (fun _ _ k_ => z_iload_n dX8_skip_200 rfl rfl k_) ?_
    exact zm_callV (as := [vi l3]) (st := []) dX8_skip_201 vsX8_331_1 (Nat.le_refl _) (Nat.le_of_ble_eq_true rfl) (Nat.le_of_ble_eq_true rfl) rfl k
  · have k := zif h_ k
    refine Zm.l (fun _ _ k_ => z_inc (v := (l3 + (1 : Int32))) dX8_skip_193 rfl rfl (by decide) (lv' := [(0, vr (some (97, 1, 0))), (1, vi l1), (3, vi (l3 + (1 : Int32)))]) rfl k_) ?_
    refine Zm.l (fun _ _ k_ => z_goto (tgt := 163) dX8_skip_196 rfl k_) ?_
    exact k
theorem sX8_skip_204 {E : zE} {d : Nat} {Q : zO → zM → Prop} (M : zM) (l1 : Int32) (l3 : Int32) (s0 : Int32) (k : if s0 = 0 then (Q (.inl (some (vi (0 : Int32)))) M) else (Zm E YX8_skip (d + 1) M [(0, vr (some (97, 1, 0))), (1, vi l1), (3, vi l3)] 209 [] Q)) : Zm E YX8_skip (d + 1) M [(0, vr (some (97, 1, 0))), (1, vi l1), (3, vi l3)] 204 [vi s0] Q := by
  refine Zm.brn (fun _ _ k1_ k2_ => z_if_ne (tgt := 209) dX8_skip_204 rfl k1_ k2_) (fun h_ => ?_) (fun h_ => ?_)
  · have k := zif h_ k
    exact k
  · have k := zit h_ k
    refine Zm.l (fun _ _ k_ => z_iconst (v := 0) dX8_skip_207 rfl k_) ?_
    exact zm_iret dX8_skip_208 rfl (by decide) k
theorem sX8_skip_209 {E : zE} {d : Nat} {Q : zO → zM → Prop} (M : zM) (l1 : Int32) (l3 : Int32) (k : if (l3 + (2 : Int32)) ≤ (gi M 97 18) then (Zm E YX8_skip (d + 1) M [(0, vr (some (97, 1, 0))), (1, vi l1)] 2 [] Q) else (Zm E YX8_look d M (zargs 0 [vr (some (97, 1, 0)), vi (gi M 97 18)]) 0 [] (zma E YX8_skip (d + 1) [(0, vr (some (97, 1, 0))), (1, vi l1), (3, vi l3)] 229 3 [vi (gi M 97 19), vr (some (97, 1, 0))] Q))) : Zm E YX8_skip (d + 1) M [(0, vr (some (97, 1, 0))), (1, vi l1), (3, vi l3)] 209 [] Q := by
  refine Zm.l (fun _ _ k_ => z_aload_n dX8_skip_209 rfl rfl k_) ?_
  refine zm_geti dX8_skip_210 fsX8_344_1 (by decide) (by decide) ?_
  refine Zm.l (fun _ _ k_ => z_iload_n dX8_skip_213 rfl rfl k_) ?_
  refine Zm.l (fun _ _ k_ => z_iconst (v := 2) dX8_skip_214 rfl k_) ?_
  refine Zm.l (fun _ _ k_ => z_iadd dX8_skip_215 k_) ?_
  refine Zm.br (fun _ _ k1_ k2_ => z_icmp_ge (tgt := 259) dX8_skip_216 rfl k1_ k2_) (fun h_ => ?_) (fun h_ => ?_)
  · have k := zit h_ k
    refine Zm.l (fun _ _ k_ => z_goto (tgt := 264) dX8_skip_259 rfl k_) ?_
    refine Zm.l (fun _ _ k_ => z_goto (tgt := 2) dX8_skip_264 rfl k_) ?_
    refine Zm.pick [0, 1] rfl ?_
    exact k
  · have k := zif h_ k
    refine Zm.l (fun _ _ k_ => z_aload_n dX8_skip_219 rfl rfl k_) ?_
    refine Zm.l (fun _ _ k_ => z_dup dX8_skip_220 rfl k_) ?_
    refine zm_geti dX8_skip_221 fsX8_347_1 (by decide) (by decide) ?_
    refine Zm.l (fun _ _ k_ => z_aload_n dX8_skip_224 rfl rfl k_) ?_
    refine Zm.l (fun _ _ k_ => z_aload_n dX8_skip_225 rfl rfl k_) ?_
    refine zm_geti dX8_skip_226 fsX8_344_1 (by decide) (by decide) ?_
    exact zm_callV (as := [vi (gi M 97 18)]) (st := [vi (gi M 97 19), vr (some (97, 1, 0))]) dX8_skip_229 vsX8_334_1 (Nat.le_refl _) (Nat.le_of_ble_eq_true rfl) (Nat.le_of_ble_eq_true rfl) rfl k
theorem sX8_skip_232 {E : zE} {d : Nat} {Q : zO → zM → Prop} (M : zM) (l1 : Int32) (l3 : Int32) (s0 : Int32) (s1 : Int32) (k : if s0 = (10 : Int32) then (Zm E YX8_skip (d + 1) M [(0, vr (some (97, 1, 0))), (1, vi l1), (3, vi l3)] 242 [vi (1 : Int32), vi s1, vr (some (97, 1, 0))] Q) else (Zm E YX8_skip (d + 1) M [(0, vr (some (97, 1, 0))), (1, vi l1), (3, vi l3)] 242 [vi (0 : Int32), vi s1, vr (some (97, 1, 0))] Q)) : Zm E YX8_skip (d + 1) M [(0, vr (some (97, 1, 0))), (1, vi l1), (3, vi l3)] 232 [vi s0, vi s1, vr (some (97, 1, 0))] Q := by
  refine Zm.l (fun _ _ k_ => z_bipush (v := 10) dX8_skip_232 rfl k_) ?_
  refine Zm.brn (fun _ _ k1_ k2_ => z_icmp_ne (tgt := 241) dX8_skip_234 rfl k1_ k2_) (fun h_ => ?_) (fun h_ => ?_)
  · have k := zif h_ k
    refine Zm.l (fun _ _ k_ => z_iconst (v := 0) dX8_skip_241 rfl k_) ?_
    exact k
  · have k := zit h_ k
    refine Zm.l (fun _ _ k_ => z_iconst (v := 1) dX8_skip_237 rfl k_) ?_
    refine Zm.l (fun _ _ k_ => z_goto (tgt := 242) dX8_skip_238 rfl k_) ?_
    exact k
theorem sX8_skip_242 {E : zE} {d : Nat} {Q : zO → zM → Prop} (M : zM) (l1 : Int32) (l3 : Int32) (s0 : Int32) (s1 : Int32) (k : Zm E YX8_skip (d + 1) (si (si M 97 19 (s1 + s0)) 97 18 ((gi M 97 18) + (1 : Int32))) [(0, vr (some (97, 1, 0))), (1, vi l1), (3, vi l3)] 209 [] Q) : Zm E YX8_skip (d + 1) M [(0, vr (some (97, 1, 0))), (1, vi l1), (3, vi l3)] 242 [vi s0, vi s1, vr (some (97, 1, 0))] Q := by
  refine Zm.l (fun _ _ k_ => z_iadd dX8_skip_242 k_) ?_
  refine zm_puti (by decide) (by decide) dX8_skip_243 (zfwN.w fwX8_347_1) rfl ⟨rfl, rfl⟩ ?_
  refine Zm.l (fun _ _ k_ => z_aload_n dX8_skip_246 rfl rfl k_) ?_
  refine Zm.l (fun _ _ k_ => z_dup dX8_skip_247 rfl k_) ?_
  refine zm_geti dX8_skip_248 fsX8_344_1 (by decide) (by decide) ?_
  refine Zm.l (fun _ _ k_ => z_iconst (v := 1) dX8_skip_251 rfl k_) ?_
  refine Zm.l (fun _ _ k_ => z_iadd dX8_skip_252 k_) ?_
  refine zm_puti (by decide) (by decide) dX8_skip_253 (zfwN.w fwX8_344_1) rfl ⟨rfl, rfl⟩ ?_
  refine Zm.l (fun _ _ k_ => z_goto (tgt := 209) dX8_skip_256 rfl k_) ?_
  exact k
/-! ScriptTypesModel.isThere(I)Z -/
theorem bX8_isThere_0 : zdec cX8_isThere 0 [(0, .iload_n 1, 1), (1, .aload_n 0, 1), (2, .getfield 328, 3), (5, .if_icmp .ge 7, 3), (8, .iconst 1, 1), (9, .goto 4, 3), (12, .iconst 0, 1), (13, .ireturn, 1)] = true := by decide +kernel
theorem dX8_isThere_0 : decode cX8_isThere 0 = .ok (.iload_n 1, 1) := zdec_at bX8_isThere_0 0 rfl
theorem dX8_isThere_1 : decode cX8_isThere 1 = .ok (.aload_n 0, 1) := zdec_at bX8_isThere_0 1 rfl
theorem dX8_isThere_2 : decode cX8_isThere 2 = .ok (.getfield 328, 3) := zdec_at bX8_isThere_0 2 rfl
theorem dX8_isThere_5 : decode cX8_isThere 5 = .ok (.if_icmp .ge 7, 3) := zdec_at bX8_isThere_0 3 rfl
theorem dX8_isThere_8 : decode cX8_isThere 8 = .ok (.iconst 1, 1) := zdec_at bX8_isThere_0 4 rfl
theorem dX8_isThere_9 : decode cX8_isThere 9 = .ok (.goto 4, 3) := zdec_at bX8_isThere_0 5 rfl
theorem dX8_isThere_12 : decode cX8_isThere 12 = .ok (.iconst 0, 1) := zdec_at bX8_isThere_0 6 rfl
theorem dX8_isThere_13 : decode cX8_isThere 13 = .ok (.ireturn, 1) := zdec_at bX8_isThere_0 7 rfl
theorem sX8_isThere_0 {E : zE} {d : Nat} {Q : zO → zM → Prop} (M : zM) (l1 : Int32) (k : if (gi M 97 4) ≤ l1 then (Q (.inl (some (vi (0 : Int32)))) M) else (Q (.inl (some (vi (1 : Int32)))) M)) : Zm E YX8_isThere d M [(0, vr (some (97, 1, 0))), (1, vi l1)] 0 [] Q := by
  refine Zm.l (fun _ _ k_ => z_iload_n dX8_isThere_0 rfl rfl k_) ?_
  refine Zm.l (fun _ _ k_ => z_aload_n dX8_isThere_1 rfl rfl k_) ?_
  refine zm_geti dX8_isThere_2 fsX8_328_1 (by decide) (by decide) ?_
  refine Zm.br (fun _ _ k1_ k2_ => z_icmp_ge (tgt := 12) dX8_isThere_5 rfl k1_ k2_) (fun h_ => ?_) (fun h_ => ?_)
  · have k := zit h_ k
    refine Zm.l (fun _ _ k_ => z_iconst (v := 0) dX8_isThere_12 rfl k_) ?_
    exact zm_iret dX8_isThere_13 rfl (by decide) k
  · have k := zif h_ k
    refine Zm.l (fun _ _ k_ => z_iconst (v := 1) dX8_isThere_8 rfl k_) ?_
    refine Zm.l (fun _ _ k_ => z_goto (tgt := 13) dX8_isThere_9 rfl k_) ?_
    exact zm_iret dX8_isThere_13 rfl (by decide) k
/-! ScriptTypesModel.look(I)I -/
theorem bX8_look_0 : zdec cX8_look 0 [(0, .iload_n 1, 1), (1, .aload_n 0, 1), (2, .getfield 328, 3), (5, .if_icmp .ge 16, 3), (8, .aload_n 0, 1), (9, .getfield 13, 3), (12, .iload_n 1, 1), (13, .baload, 1), (14, .sipush 255, 3), (17, .iand, 1), (18, .goto 4, 3), (21, .iconst 0, 1), (22, .ireturn, 1)] = true := by decide +kernel
theorem dX8_look_0 : decode cX8_look 0 = .ok (.iload_n 1, 1) := zdec_at bX8_look_0 0 rfl
theorem dX8_look_1 : decode cX8_look 1 = .ok (.aload_n 0, 1) := zdec_at bX8_look_0 1 rfl
theorem dX8_look_2 : decode cX8_look 2 = .ok (.getfield 328, 3) := zdec_at bX8_look_0 2 rfl
theorem dX8_look_5 : decode cX8_look 5 = .ok (.if_icmp .ge 16, 3) := zdec_at bX8_look_0 3 rfl
theorem dX8_look_8 : decode cX8_look 8 = .ok (.aload_n 0, 1) := zdec_at bX8_look_0 4 rfl
theorem dX8_look_9 : decode cX8_look 9 = .ok (.getfield 13, 3) := zdec_at bX8_look_0 5 rfl
theorem dX8_look_12 : decode cX8_look 12 = .ok (.iload_n 1, 1) := zdec_at bX8_look_0 6 rfl
theorem dX8_look_13 : decode cX8_look 13 = .ok (.baload, 1) := zdec_at bX8_look_0 7 rfl
theorem dX8_look_14 : decode cX8_look 14 = .ok (.sipush 255, 3) := zdec_at bX8_look_0 8 rfl
theorem dX8_look_17 : decode cX8_look 17 = .ok (.iand, 1) := zdec_at bX8_look_0 9 rfl
theorem dX8_look_18 : decode cX8_look 18 = .ok (.goto 4, 3) := zdec_at bX8_look_0 10 rfl
theorem dX8_look_21 : decode cX8_look 21 = .ok (.iconst 0, 1) := zdec_at bX8_look_0 11 rfl
theorem dX8_look_22 : decode cX8_look 22 = .ok (.ireturn, 1) := zdec_at bX8_look_0 12 rfl
theorem sX8_look_0 {E : zE} {d : Nat} {Q : zO → zM → Prop} (M : zM) (l1 : Int32) (k : if (gi M 97 4) ≤ l1 then (Q (.inl (some (vi (0 : Int32)))) M) else (vp_in l1 4000 ∧ (Q (.inl (some (vi ((gi M 99 (l1).toNatClampNeg) &&& (255 : Int32))))) M))) : Zm E YX8_look d M [(0, vr (some (97, 1, 0))), (1, vi l1)] 0 [] Q := by
  refine Zm.l (fun _ _ k_ => z_iload_n dX8_look_0 rfl rfl k_) ?_
  refine Zm.l (fun _ _ k_ => z_aload_n dX8_look_1 rfl rfl k_) ?_
  refine zm_geti dX8_look_2 fsX8_328_1 (by decide) (by decide) ?_
  refine Zm.br (fun _ _ k1_ k2_ => z_icmp_ge (tgt := 21) dX8_look_5 rfl k1_ k2_) (fun h_ => ?_) (fun h_ => ?_)
  · have k := zit h_ k
    refine Zm.l (fun _ _ k_ => z_iconst (v := 0) dX8_look_21 rfl k_) ?_
    exact zm_iret dX8_look_22 rfl rfl k
  · have k := zif h_ k
    refine Zm.l (fun _ _ k_ => z_aload_n dX8_look_8 rfl rfl k_) ?_
    refine zm_getr 1 dX8_look_9 fsX8_13_1 rfl ?_
    refine Zm.l (fun _ _ k_ => z_iload_n dX8_look_12 rfl rfl k_) ?_
    obtain ⟨b_, k⟩ := k
    refine zm_bald dX8_look_13 b_ (by decide) (by decide) ?_
    refine Zm.l (fun _ _ k_ => z_sipush (v := 255) dX8_look_14 rfl k_) ?_
    refine Zm.l (fun _ _ k_ => z_iand dX8_look_17 k_) ?_
    refine Zm.l (fun _ _ k_ => z_goto (tgt := 22) dX8_look_18 rfl k_) ?_
    exact zm_iret dX8_look_22 rfl rfl k
/-! ScriptTypesModel.cutOne()V -/
theorem bX8_cutOne_0 : zdec cX8_cutOne 0 [(0, .aload_n 0, 1), (1, .aload_n 0, 1), (2, .getfield 344, 3), (5, .invokevirtual 334, 3), (8, .istore_n 1, 1), (9, .iload_n 1, 1), (10, .invokestatic 338, 3), (13, .ifCond .eq 10, 3), (16, .aload_n 0, 1), (17, .invokevirtual 360, 3), (20, .goto 41, 3), (23, .iload_n 1, 1), (24, .invokestatic 341, 3), (27, .ifCond .eq 10, 3), (30, .aload_n 0, 1), (31, .invokevirtual 363, 3)] = true := by decide +kernel
theorem dX8_cutOne_0 : decode cX8_cutOne 0 = .ok (.aload_n 0, 1) := zdec_at bX8_cutOne_0 0 rfl
theorem dX8_cutOne_1 : decode cX8_cutOne 1 = .ok (.aload_n 0, 1) := zdec_at bX8_cutOne_0 1 rfl
theorem dX8_cutOne_2 : decode cX8_cutOne 2 = .ok (.getfield 344, 3) := zdec_at bX8_cutOne_0 2 rfl
theorem dX8_cutOne_5 : decode cX8_cutOne 5 = .ok (.invokevirtual 334, 3) := zdec_at bX8_cutOne_0 3 rfl
theorem dX8_cutOne_8 : decode cX8_cutOne 8 = .ok (.istore_n 1, 1) := zdec_at bX8_cutOne_0 4 rfl
theorem dX8_cutOne_9 : decode cX8_cutOne 9 = .ok (.iload_n 1, 1) := zdec_at bX8_cutOne_0 5 rfl
theorem dX8_cutOne_10 : decode cX8_cutOne 10 = .ok (.invokestatic 338, 3) := zdec_at bX8_cutOne_0 6 rfl
theorem dX8_cutOne_13 : decode cX8_cutOne 13 = .ok (.ifCond .eq 10, 3) := zdec_at bX8_cutOne_0 7 rfl
theorem dX8_cutOne_16 : decode cX8_cutOne 16 = .ok (.aload_n 0, 1) := zdec_at bX8_cutOne_0 8 rfl
theorem dX8_cutOne_17 : decode cX8_cutOne 17 = .ok (.invokevirtual 360, 3) := zdec_at bX8_cutOne_0 9 rfl
theorem dX8_cutOne_20 : decode cX8_cutOne 20 = .ok (.goto 41, 3) := zdec_at bX8_cutOne_0 10 rfl
theorem dX8_cutOne_23 : decode cX8_cutOne 23 = .ok (.iload_n 1, 1) := zdec_at bX8_cutOne_0 11 rfl
theorem dX8_cutOne_24 : decode cX8_cutOne 24 = .ok (.invokestatic 341, 3) := zdec_at bX8_cutOne_0 12 rfl
theorem dX8_cutOne_27 : decode cX8_cutOne 27 = .ok (.ifCond .eq 10, 3) := zdec_at bX8_cutOne_0 13 rfl
theorem dX8_cutOne_30 : decode cX8_cutOne 30 = .ok (.aload_n 0, 1) := zdec_at bX8_cutOne_0 14 rfl
theorem dX8_cutOne_31 : decode cX8_cutOne 31 = .ok (.invokevirtual 363, 3) := zdec_at bX8_cutOne_0 15 rfl
theorem bX8_cutOne_34 : zdec cX8_cutOne 34 [(34, .goto 27, 3), (37, .iload_n 1, 1), (38, .bipush 34, 2), (40, .if_icmp .eq 9, 3), (43, .iload_n 1, 1), (44, .bipush 39, 2), (46, .if_icmp .ne 11, 3), (49, .aload_n 0, 1), (50, .iload_n 1, 1), (51, .invokevirtual 366, 3), (54, .goto 7, 3), (57, .aload_n 0, 1), (58, .invokevirtual 369, 3), (61, .return_, 1)] = true := by decide +kernel
theorem dX8_cutOne_34 : decode cX8_cutOne 34 = .ok (.goto 27, 3) := zdec_at bX8_cutOne_34 0 rfl
theorem dX8_cutOne_37 : decode cX8_cutOne 37 = .ok (.iload_n 1, 1) := zdec_at bX8_cutOne_34 1 rfl
theorem dX8_cutOne_38 : decode cX8_cutOne 38 = .ok (.bipush 34, 2) := zdec_at bX8_cutOne_34 2 rfl
theorem dX8_cutOne_40 : decode cX8_cutOne 40 = .ok (.if_icmp .eq 9, 3) := zdec_at bX8_cutOne_34 3 rfl
theorem dX8_cutOne_43 : decode cX8_cutOne 43 = .ok (.iload_n 1, 1) := zdec_at bX8_cutOne_34 4 rfl
theorem dX8_cutOne_44 : decode cX8_cutOne 44 = .ok (.bipush 39, 2) := zdec_at bX8_cutOne_34 5 rfl
theorem dX8_cutOne_46 : decode cX8_cutOne 46 = .ok (.if_icmp .ne 11, 3) := zdec_at bX8_cutOne_34 6 rfl
theorem dX8_cutOne_49 : decode cX8_cutOne 49 = .ok (.aload_n 0, 1) := zdec_at bX8_cutOne_34 7 rfl
theorem dX8_cutOne_50 : decode cX8_cutOne 50 = .ok (.iload_n 1, 1) := zdec_at bX8_cutOne_34 8 rfl
theorem dX8_cutOne_51 : decode cX8_cutOne 51 = .ok (.invokevirtual 366, 3) := zdec_at bX8_cutOne_34 9 rfl
theorem dX8_cutOne_54 : decode cX8_cutOne 54 = .ok (.goto 7, 3) := zdec_at bX8_cutOne_34 10 rfl
theorem dX8_cutOne_57 : decode cX8_cutOne 57 = .ok (.aload_n 0, 1) := zdec_at bX8_cutOne_34 11 rfl
theorem dX8_cutOne_58 : decode cX8_cutOne 58 = .ok (.invokevirtual 369, 3) := zdec_at bX8_cutOne_34 12 rfl
theorem dX8_cutOne_61 : decode cX8_cutOne 61 = .ok (.return_, 1) := zdec_at bX8_cutOne_34 13 rfl
theorem sX8_cutOne_0 {E : zE} {d : Nat} {Q : zO → zM → Prop} (M : zM)  (k : Zm E YX8_look d M (zargs 0 [vr (some (97, 1, 0)), vi (gi M 97 18)]) 0 [] (zma E YX8_cutOne (d + 1) [(0, vr (some (97, 1, 0)))] 5 3 [] Q)) : Zm E YX8_cutOne (d + 1) M [(0, vr (some (97, 1, 0)))] 0 [] Q := by
  refine Zm.l (fun _ _ k_ => z_aload_n dX8_cutOne_0 rfl rfl k_) ?_
  refine Zm.l (fun _ _ k_ => z_aload_n dX8_cutOne_1 rfl rfl k_) ?_
  refine zm_geti dX8_cutOne_2 fsX8_344_1 (by decide) (by decide) ?_
  exact zm_callV (as := [vi (gi M 97 18)]) (st := []) dX8_cutOne_5 vsX8_334_1 (Nat.le_refl _) (Nat.le_of_ble_eq_true rfl) (Nat.le_of_ble_eq_true rfl) rfl k
theorem sX8_cutOne_8 {E : zE} {d : Nat} {Q : zO → zM → Prop} (M : zM) (s0 : Int32) (k : Zm E YX8_isLetter d M (zargs 0 [vi s0]) 0 [] (zma E YX8_cutOne (d + 1) [(0, vr (some (97, 1, 0))), (1, vi s0)] 10 3 [] Q)) : Zm E YX8_cutOne (d + 1) M [(0, vr (some (97, 1, 0)))] 8 [vi s0] Q := by
  refine Zm.l (fun _ _ k_ => z_ist_n dX8_cutOne_8 rfl (by decide) (lv' := [(0, vr (some (97, 1, 0))), (1, vi s0)]) rfl k_) ?_
  refine Zm.l (fun _ _ k_ => z_iload_n dX8_cutOne_9 rfl rfl k_) ?_
  exact zm_callS (as := [vi s0]) (st := []) dX8_cutOne_10 ssX8_338 (Nat.le_refl _) (Nat.le_of_ble_eq_true rfl) (Nat.le_of_ble_eq_true rfl) rfl k
theorem sX8_cutOne_13 {E : zE} {d : Nat} {Q : zO → zM → Prop} (M : zM) (l1 : Int32) (s0 : Int32) (k : if s0 = 0 then (Zm E YX8_isDigit d M (zargs 0 [vi l1]) 0 [] (zma E YX8_cutOne (d + 1) [(0, vr (some (97, 1, 0))), (1, vi l1)] 24 3 [] Q)) else (Zm E YX8_cutName d M (zargs 0 [vr (some (97, 1, 0))]) 0 [] (zma E YX8_cutOne (d + 1) [] 17 3 [] Q))) : Zm E YX8_cutOne (d + 1) M [(0, vr (some (97, 1, 0))), (1, vi l1)] 13 [vi s0] Q := by
  refine Zm.br (fun _ _ k1_ k2_ => z_if_eq (tgt := 23) dX8_cutOne_13 rfl k1_ k2_) (fun h_ => ?_) (fun h_ => ?_)
  · have k := zit h_ k
    refine Zm.l (fun _ _ k_ => z_iload_n dX8_cutOne_23 rfl rfl k_) ?_
    exact zm_callS (as := [vi l1]) (st := []) dX8_cutOne_24 ssX8_341 (Nat.le_refl _) (Nat.le_of_ble_eq_true rfl) (Nat.le_of_ble_eq_true rfl) rfl k
  · have k := zif h_ k
    refine Zm.l (fun _ _ k_ => z_aload_n dX8_cutOne_16 rfl rfl k_) ?_
    refine Zm.pick [] rfl ?_
    exact zm_callV (as := []) (st := []) dX8_cutOne_17 vsX8_360_1 (Nat.le_refl _) (Nat.le_of_ble_eq_true rfl) (Nat.le_of_ble_eq_true rfl) rfl k
theorem sX8_cutOne_20 {E : zE} {d : Nat} {Q : zO → zM → Prop} (M : zM)  (k : Zm E YX8_cutOne (d + 1) M [] 61 [] Q) : Zm E YX8_cutOne (d + 1) M [] 20 [] Q := by
  refine Zm.l (fun _ _ k_ => z_goto (tgt := 61) dX8_cutOne_20 rfl k_) ?_
  exact k
theorem sX8_cutOne_27 {E : zE} {d : Nat} {Q : zO → zM → Prop} (M : zM) (l1 : Int32) (s0 : Int32) (k : if s0 = 0 then (if l1 = (34 : Int32) then (Zm E YX8_cutString d M (zargs 0 [vr (some (97, 1, 0)), vi l1]) 0 [] (zma E YX8_cutOne (d + 1) [] 51 3 [] Q)) else (if l1 = (39 : Int32) then (Zm E YX8_cutString d M (zargs 0 [vr (some (97, 1, 0)), vi l1]) 0 [] (zma E YX8_cutOne (d + 1) [] 51 3 [] Q)) else (Zm E YX8_cutSign d M (zargs 0 [vr (some (97, 1, 0))]) 0 [] (zma E YX8_cutOne (d + 1) [] 58 3 [] Q)))) else (Zm E YX8_cutNumber d M (zargs 0 [vr (some (97, 1, 0))]) 0 [] (zma E YX8_cutOne (d + 1) [] 31 3 [] Q))) : Zm E YX8_cutOne (d + 1) M [(0, vr (some (97, 1, 0))), (1, vi l1)] 27 [vi s0] Q := by
  refine Zm.br (fun _ _ k1_ k2_ => z_if_eq (tgt := 37) dX8_cutOne_27 rfl k1_ k2_) (fun h_ => ?_) (fun h_ => ?_)
  · have k := zit h_ k
    refine Zm.l (fun _ _ k_ => z_iload_n dX8_cutOne_37 rfl rfl k_) ?_
    refine Zm.l (fun _ _ k_ => z_bipush (v := 34) dX8_cutOne_38 rfl k_) ?_
    refine Zm.br (fun _ _ k1_ k2_ => z_icmp_eq (tgt := 49) dX8_cutOne_40 rfl k1_ k2_) (fun h_ => ?_) (fun h_ => ?_)
    · have k := zit h_ k
      refine Zm.l (fun _ _ k_ => z_aload_n dX8_cutOne_49 rfl rfl k_) ?_
      refine Zm.l (fun _ _ k_ => z_iload_n dX8_cutOne_50 rfl rfl k_) ?_
      refine Zm.pick [] rfl ?_
      exact zm_callV (as := [vi l1]) (st := []) dX8_cutOne_51 vsX8_366_1 (Nat.le_refl _) (Nat.le_of_ble_eq_true rfl) (Nat.le_of_ble_eq_true rfl) rfl k
    · have k := zif h_ k
      refine Zm.l (fun _ _ k_ => z_iload_n dX8_cutOne_43 rfl rfl k_) ?_
      refine Zm.l (fun _ _ k_ => z_bipush (v := 39) dX8_cutOne_44 rfl k_) ?_
      refine Zm.brn (fun _ _ k1_ k2_ => z_icmp_ne (tgt := 57) dX8_cutOne_46 rfl k1_ k2_) (fun h_ => ?_) (fun h_ => ?_)
      · have k := zif h_ k
        refine Zm.l (fun _ _ k_ => z_aload_n dX8_cutOne_57 rfl rfl k_) ?_
        refine Zm.pick [] rfl ?_
        exact zm_callV (as := []) (st := []) dX8_cutOne_58 vsX8_369_1 (Nat.le_refl _) (Nat.le_of_ble_eq_true rfl) (Nat.le_of_ble_eq_true rfl) rfl k
      · have k := zit h_ k
        refine Zm.l (fun _ _ k_ => z_aload_n dX8_cutOne_49 rfl rfl k_) ?_
        refine Zm.l (fun _ _ k_ => z_iload_n dX8_cutOne_50 rfl rfl k_) ?_
        refine Zm.pick [] rfl ?_
        exact zm_callV (as := [vi l1]) (st := []) dX8_cutOne_51 vsX8_366_1 (Nat.le_refl _) (Nat.le_of_ble_eq_true rfl) (Nat.le_of_ble_eq_true rfl) rfl k
  · have k := zif h_ k
    refine Zm.l (fun _ _ k_ => z_aload_n dX8_cutOne_30 rfl rfl k_) ?_
    refine Zm.pick [] rfl ?_
    exact zm_callV (as := []) (st := []) dX8_cutOne_31 vsX8_363_1 (Nat.le_refl _) (Nat.le_of_ble_eq_true rfl) (Nat.le_of_ble_eq_true rfl) rfl k
theorem sX8_cutOne_34 {E : zE} {d : Nat} {Q : zO → zM → Prop} (M : zM)  (k : Zm E YX8_cutOne (d + 1) M [] 61 [] Q) : Zm E YX8_cutOne (d + 1) M [] 34 [] Q := by
  refine Zm.l (fun _ _ k_ => z_goto (tgt := 61) dX8_cutOne_34 rfl k_) ?_
  exact k
theorem sX8_cutOne_54 {E : zE} {d : Nat} {Q : zO → zM → Prop} (M : zM)  (k : Zm E YX8_cutOne (d + 1) M [] 61 [] Q) : Zm E YX8_cutOne (d + 1) M [] 54 [] Q := by
  refine Zm.l (fun _ _ k_ => z_goto (tgt := 61) dX8_cutOne_54 rfl k_) ?_
  exact k
theorem sX8_cutOne_61 {E : zE} {d : Nat} {Q : zO → zM → Prop} (M : zM)  (k : Q (.inl none) M) : Zm E YX8_cutOne (d + 1) M [] 61 [] Q := by
  exact zm_vret dX8_cutOne_61 rfl k
/-! ScriptTypesModel.isLetter(I)Z -/
theorem bX8_isLetter_0 : zdec cX8_isLetter 0 [(0, .iload_n 0, 1), (1, .bipush 97, 2), (3, .if_icmp .lt 9, 3), (6, .iload_n 0, 1), (7, .bipush 122, 2), (9, .if_icmp .le 27, 3), (12, .iload_n 0, 1), (13, .bipush 65, 2), (15, .if_icmp .lt 9, 3), (18, .iload_n 0, 1), (19, .bipush 90, 2), (21, .if_icmp .le 15, 3), (24, .iload_n 0, 1), (25, .bipush 95, 2), (27, .if_icmp .eq 9, 3), (30, .iload_n 0, 1)] = true := by decide +kernel
theorem dX8_isLetter_0 : decode cX8_isLetter 0 = .ok (.iload_n 0, 1) := zdec_at bX8_isLetter_0 0 rfl
theorem dX8_isLetter_1 : decode cX8_isLetter 1 = .ok (.bipush 97, 2) := zdec_at bX8_isLetter_0 1 rfl
theorem dX8_isLetter_3 : decode cX8_isLetter 3 = .ok (.if_icmp .lt 9, 3) := zdec_at bX8_isLetter_0 2 rfl
theorem dX8_isLetter_6 : decode cX8_isLetter 6 = .ok (.iload_n 0, 1) := zdec_at bX8_isLetter_0 3 rfl
theorem dX8_isLetter_7 : decode cX8_isLetter 7 = .ok (.bipush 122, 2) := zdec_at bX8_isLetter_0 4 rfl
theorem dX8_isLetter_9 : decode cX8_isLetter 9 = .ok (.if_icmp .le 27, 3) := zdec_at bX8_isLetter_0 5 rfl
theorem dX8_isLetter_12 : decode cX8_isLetter 12 = .ok (.iload_n 0, 1) := zdec_at bX8_isLetter_0 6 rfl
theorem dX8_isLetter_13 : decode cX8_isLetter 13 = .ok (.bipush 65, 2) := zdec_at bX8_isLetter_0 7 rfl
theorem dX8_isLetter_15 : decode cX8_isLetter 15 = .ok (.if_icmp .lt 9, 3) := zdec_at bX8_isLetter_0 8 rfl
theorem dX8_isLetter_18 : decode cX8_isLetter 18 = .ok (.iload_n 0, 1) := zdec_at bX8_isLetter_0 9 rfl
theorem dX8_isLetter_19 : decode cX8_isLetter 19 = .ok (.bipush 90, 2) := zdec_at bX8_isLetter_0 10 rfl
theorem dX8_isLetter_21 : decode cX8_isLetter 21 = .ok (.if_icmp .le 15, 3) := zdec_at bX8_isLetter_0 11 rfl
theorem dX8_isLetter_24 : decode cX8_isLetter 24 = .ok (.iload_n 0, 1) := zdec_at bX8_isLetter_0 12 rfl
theorem dX8_isLetter_25 : decode cX8_isLetter 25 = .ok (.bipush 95, 2) := zdec_at bX8_isLetter_0 13 rfl
theorem dX8_isLetter_27 : decode cX8_isLetter 27 = .ok (.if_icmp .eq 9, 3) := zdec_at bX8_isLetter_0 14 rfl
theorem dX8_isLetter_30 : decode cX8_isLetter 30 = .ok (.iload_n 0, 1) := zdec_at bX8_isLetter_0 15 rfl
theorem bX8_isLetter_31 : zdec cX8_isLetter 31 [(31, .bipush 36, 2), (33, .if_icmp .ne 7, 3), (36, .iconst 1, 1), (37, .goto 4, 3), (40, .iconst 0, 1), (41, .ireturn, 1)] = true := by decide +kernel
theorem dX8_isLetter_31 : decode cX8_isLetter 31 = .ok (.bipush 36, 2) := zdec_at bX8_isLetter_31 0 rfl
theorem dX8_isLetter_33 : decode cX8_isLetter 33 = .ok (.if_icmp .ne 7, 3) := zdec_at bX8_isLetter_31 1 rfl
theorem dX8_isLetter_36 : decode cX8_isLetter 36 = .ok (.iconst 1, 1) := zdec_at bX8_isLetter_31 2 rfl
theorem dX8_isLetter_37 : decode cX8_isLetter 37 = .ok (.goto 4, 3) := zdec_at bX8_isLetter_31 3 rfl
theorem dX8_isLetter_40 : decode cX8_isLetter 40 = .ok (.iconst 0, 1) := zdec_at bX8_isLetter_31 4 rfl
theorem dX8_isLetter_41 : decode cX8_isLetter 41 = .ok (.ireturn, 1) := zdec_at bX8_isLetter_31 5 rfl
theorem sX8_isLetter_0 {E : zE} {d : Nat} {Q : zO → zM → Prop} (M : zM) (l0 : Int32) (k : if l0 < (97 : Int32) then (Zm E YX8_isLetter d M [(0, vi l0)] 12 [] Q) else (if l0 ≤ (122 : Int32) then (Q (.inl (some (vi (1 : Int32)))) M) else (Zm E YX8_isLetter d M [(0, vi l0)] 12 [] Q))) : Zm E YX8_isLetter d M [(0, vi l0)] 0 [] Q := by
  refine Zm.l (fun _ _ k_ => z_iload_n dX8_isLetter_0 rfl rfl k_) ?_
  refine Zm.l (fun _ _ k_ => z_bipush (v := 97) dX8_isLetter_1 rfl k_) ?_
  refine Zm.br (fun _ _ k1_ k2_ => z_icmp_lt (tgt := 12) dX8_isLetter_3 rfl k1_ k2_) (fun h_ => ?_) (fun h_ => ?_)
  · have k := zit h_ k
    exact k
  · have k := zif h_ k
    refine Zm.l (fun _ _ k_ => z_iload_n dX8_isLetter_6 rfl rfl k_) ?_
    refine Zm.l (fun _ _ k_ => z_bipush (v := 122) dX8_isLetter_7 rfl k_) ?_
    refine Zm.br (fun _ _ k1_ k2_ => z_icmp_le (tgt := 36) dX8_isLetter_9 rfl k1_ k2_) (fun h_ => ?_) (fun h_ => ?_)
    · have k := zit h_ k
      refine Zm.l (fun _ _ k_ => z_iconst (v := 1) dX8_isLetter_36 rfl k_) ?_
      refine Zm.l (fun _ _ k_ => z_goto (tgt := 41) dX8_isLetter_37 rfl k_) ?_
      exact zm_iret dX8_isLetter_41 rfl (by decide) k
    · have k := zif h_ k
      exact k
theorem sX8_isLetter_12 {E : zE} {d : Nat} {Q : zO → zM → Prop} (M : zM) (l0 : Int32) (k : if l0 < (65 : Int32) then (Zm E YX8_isLetter d M [(0, vi l0)] 24 [] Q) else (if l0 ≤ (90 : Int32) then (Q (.inl (some (vi (1 : Int32)))) M) else (Zm E YX8_isLetter d M [(0, vi l0)] 24 [] Q))) : Zm E YX8_isLetter d M [(0, vi l0)] 12 [] Q := by
  refine Zm.l (fun _ _ k_ => z_iload_n dX8_isLetter_12 rfl rfl k_) ?_
  refine Zm.l (fun _ _ k_ => z_bipush (v := 65) dX8_isLetter_13 rfl k_) ?_
  refine Zm.br (fun _ _ k1_ k2_ => z_icmp_lt (tgt := 24) dX8_isLetter_15 rfl k1_ k2_) (fun h_ => ?_) (fun h_ => ?_)
  · have k := zit h_ k
    exact k
  · have k := zif h_ k
    refine Zm.l (fun _ _ k_ => z_iload_n dX8_isLetter_18 rfl rfl k_) ?_
    refine Zm.l (fun _ _ k_ => z_bipush (v := 90) dX8_isLetter_19 rfl k_) ?_
    refine Zm.br (fun _ _ k1_ k2_ => z_icmp_le (tgt := 36) dX8_isLetter_21 rfl k1_ k2_) (fun h_ => ?_) (fun h_ => ?_)
    · have k := zit h_ k
      refine Zm.l (fun _ _ k_ => z_iconst (v := 1) dX8_isLetter_36 rfl k_) ?_
      refine Zm.l (fun _ _ k_ => z_goto (tgt := 41) dX8_isLetter_37 rfl k_) ?_
      exact zm_iret dX8_isLetter_41 rfl (by decide) k
    · have k := zif h_ k
      exact k
theorem sX8_isLetter_24 {E : zE} {d : Nat} {Q : zO → zM → Prop} (M : zM) (l0 : Int32) (k : if l0 = (95 : Int32) then (Q (.inl (some (vi (1 : Int32)))) M) else (if l0 = (36 : Int32) then (Q (.inl (some (vi (1 : Int32)))) M) else (Q (.inl (some (vi (0 : Int32)))) M))) : Zm E YX8_isLetter d M [(0, vi l0)] 24 [] Q := by
  refine Zm.l (fun _ _ k_ => z_iload_n dX8_isLetter_24 rfl rfl k_) ?_
  refine Zm.l (fun _ _ k_ => z_bipush (v := 95) dX8_isLetter_25 rfl k_) ?_
  refine Zm.br (fun _ _ k1_ k2_ => z_icmp_eq (tgt := 36) dX8_isLetter_27 rfl k1_ k2_) (fun h_ => ?_) (fun h_ => ?_)
  · have k := zit h_ k
    refine Zm.l (fun _ _ k_ => z_iconst (v := 1) dX8_isLetter_36 rfl k_) ?_
    refine Zm.l (fun _ _ k_ => z_goto (tgt := 41) dX8_isLetter_37 rfl k_) ?_
    exact zm_iret dX8_isLetter_41 rfl (by decide) k
  · have k := zif h_ k
    refine Zm.l (fun _ _ k_ => z_iload_n dX8_isLetter_30 rfl rfl k_) ?_
    refine Zm.l (fun _ _ k_ => z_bipush (v := 36) dX8_isLetter_31 rfl k_) ?_
    refine Zm.brn (fun _ _ k1_ k2_ => z_icmp_ne (tgt := 40) dX8_isLetter_33 rfl k1_ k2_) (fun h_ => ?_) (fun h_ => ?_)
    · have k := zif h_ k
      refine Zm.l (fun _ _ k_ => z_iconst (v := 0) dX8_isLetter_40 rfl k_) ?_
      exact zm_iret dX8_isLetter_41 rfl (by decide) k
    · have k := zit h_ k
      refine Zm.l (fun _ _ k_ => z_iconst (v := 1) dX8_isLetter_36 rfl k_) ?_
      refine Zm.l (fun _ _ k_ => z_goto (tgt := 41) dX8_isLetter_37 rfl k_) ?_
      exact zm_iret dX8_isLetter_41 rfl (by decide) k
/-! ScriptTypesModel.cutName()V -/
theorem bX8_cutName_0 : zdec cX8_cutName 0 [(0, .aload_n 0, 1), (1, .getfield 344, 3), (4, .istore_n 1, 1), (5, .aload_n 0, 1), (6, .aload_n 0, 1), (7, .getfield 344, 3), (10, .invokevirtual 372, 3), (13, .ifCond .eq 16, 3), (16, .aload_n 0, 1), (17, .dup, 1), (18, .getfield 344, 3), (21, .iconst 1, 1), (22, .iadd, 1), (23, .putfield 344, 3), (26, .goto (-21), 3), (29, .aload_n 0, 1)] = true := by decide +kernel
theorem dX8_cutName_0 : decode cX8_cutName 0 = .ok (.aload_n 0, 1) := zdec_at bX8_cutName_0 0 rfl
theorem dX8_cutName_1 : decode cX8_cutName 1 = .ok (.getfield 344, 3) := zdec_at bX8_cutName_0 1 rfl
theorem dX8_cutName_4 : decode cX8_cutName 4 = .ok (.istore_n 1, 1) := zdec_at bX8_cutName_0 2 rfl
theorem dX8_cutName_5 : decode cX8_cutName 5 = .ok (.aload_n 0, 1) := zdec_at bX8_cutName_0 3 rfl
theorem dX8_cutName_6 : decode cX8_cutName 6 = .ok (.aload_n 0, 1) := zdec_at bX8_cutName_0 4 rfl
theorem dX8_cutName_7 : decode cX8_cutName 7 = .ok (.getfield 344, 3) := zdec_at bX8_cutName_0 5 rfl
theorem dX8_cutName_10 : decode cX8_cutName 10 = .ok (.invokevirtual 372, 3) := zdec_at bX8_cutName_0 6 rfl
theorem dX8_cutName_13 : decode cX8_cutName 13 = .ok (.ifCond .eq 16, 3) := zdec_at bX8_cutName_0 7 rfl
theorem dX8_cutName_16 : decode cX8_cutName 16 = .ok (.aload_n 0, 1) := zdec_at bX8_cutName_0 8 rfl
theorem dX8_cutName_17 : decode cX8_cutName 17 = .ok (.dup, 1) := zdec_at bX8_cutName_0 9 rfl
theorem dX8_cutName_18 : decode cX8_cutName 18 = .ok (.getfield 344, 3) := zdec_at bX8_cutName_0 10 rfl
theorem dX8_cutName_21 : decode cX8_cutName 21 = .ok (.iconst 1, 1) := zdec_at bX8_cutName_0 11 rfl
theorem dX8_cutName_22 : decode cX8_cutName 22 = .ok (.iadd, 1) := zdec_at bX8_cutName_0 12 rfl
theorem dX8_cutName_23 : decode cX8_cutName 23 = .ok (.putfield 344, 3) := zdec_at bX8_cutName_0 13 rfl
theorem dX8_cutName_26 : decode cX8_cutName 26 = .ok (.goto (-21), 3) := zdec_at bX8_cutName_0 14 rfl
theorem dX8_cutName_29 : decode cX8_cutName 29 = .ok (.aload_n 0, 1) := zdec_at bX8_cutName_0 15 rfl
theorem bX8_cutName_30 : zdec cX8_cutName 30 [(30, .getfield 30, 3), (33, .aload_n 0, 1), (34, .getfield 350, 3), (37, .aload_n 0, 1), (38, .iload_n 1, 1), (39, .aload_n 0, 1), (40, .getfield 344, 3), (43, .iload_n 1, 1), (44, .isub, 1), (45, .invokevirtual 375, 3), (48, .iastore, 1), (49, .aload_n 0, 1), (50, .getfield 27, 3), (53, .aload_n 0, 1), (54, .getfield 350, 3), (57, .aload_n 0, 1)] = true := by decide +kernel
theorem dX8_cutName_30 : decode cX8_cutName 30 = .ok (.getfield 30, 3) := zdec_at bX8_cutName_30 0 rfl
theorem dX8_cutName_33 : decode cX8_cutName 33 = .ok (.aload_n 0, 1) := zdec_at bX8_cutName_30 1 rfl
theorem dX8_cutName_34 : decode cX8_cutName 34 = .ok (.getfield 350, 3) := zdec_at bX8_cutName_30 2 rfl
theorem dX8_cutName_37 : decode cX8_cutName 37 = .ok (.aload_n 0, 1) := zdec_at bX8_cutName_30 3 rfl
theorem dX8_cutName_38 : decode cX8_cutName 38 = .ok (.iload_n 1, 1) := zdec_at bX8_cutName_30 4 rfl
theorem dX8_cutName_39 : decode cX8_cutName 39 = .ok (.aload_n 0, 1) := zdec_at bX8_cutName_30 5 rfl
theorem dX8_cutName_40 : decode cX8_cutName 40 = .ok (.getfield 344, 3) := zdec_at bX8_cutName_30 6 rfl
theorem dX8_cutName_43 : decode cX8_cutName 43 = .ok (.iload_n 1, 1) := zdec_at bX8_cutName_30 7 rfl
theorem dX8_cutName_44 : decode cX8_cutName 44 = .ok (.isub, 1) := zdec_at bX8_cutName_30 8 rfl
theorem dX8_cutName_45 : decode cX8_cutName 45 = .ok (.invokevirtual 375, 3) := zdec_at bX8_cutName_30 9 rfl
theorem dX8_cutName_48 : decode cX8_cutName 48 = .ok (.iastore, 1) := zdec_at bX8_cutName_30 10 rfl
theorem dX8_cutName_49 : decode cX8_cutName 49 = .ok (.aload_n 0, 1) := zdec_at bX8_cutName_30 11 rfl
theorem dX8_cutName_50 : decode cX8_cutName 50 = .ok (.getfield 27, 3) := zdec_at bX8_cutName_30 12 rfl
theorem dX8_cutName_53 : decode cX8_cutName 53 = .ok (.aload_n 0, 1) := zdec_at bX8_cutName_30 13 rfl
theorem dX8_cutName_54 : decode cX8_cutName 54 = .ok (.getfield 350, 3) := zdec_at bX8_cutName_30 14 rfl
theorem dX8_cutName_57 : decode cX8_cutName 57 = .ok (.aload_n 0, 1) := zdec_at bX8_cutName_30 15 rfl
theorem bX8_cutName_58 : zdec cX8_cutName 58 [(58, .getfield 344, 3), (61, .iload_n 1, 1), (62, .isub, 1), (63, .bipush 16, 2), (65, .if_icmp .le 8, 3), (68, .bipush 6, 2), (70, .goto 21, 3), (73, .aload_n 0, 1), (74, .getfield 30, 3), (77, .aload_n 0, 1), (78, .getfield 350, 3), (81, .iaload, 1), (82, .iconst (-1), 1), (83, .if_icmp .ne 7, 3), (86, .iconst 1, 1), (87, .goto 4, 3)] = true := by decide +kernel
theorem dX8_cutName_58 : decode cX8_cutName 58 = .ok (.getfield 344, 3) := zdec_at bX8_cutName_58 0 rfl
theorem dX8_cutName_61 : decode cX8_cutName 61 = .ok (.iload_n 1, 1) := zdec_at bX8_cutName_58 1 rfl
theorem dX8_cutName_62 : decode cX8_cutName 62 = .ok (.isub, 1) := zdec_at bX8_cutName_58 2 rfl
theorem dX8_cutName_63 : decode cX8_cutName 63 = .ok (.bipush 16, 2) := zdec_at bX8_cutName_58 3 rfl
theorem dX8_cutName_65 : decode cX8_cutName 65 = .ok (.if_icmp .le 8, 3) := zdec_at bX8_cutName_58 4 rfl
theorem dX8_cutName_68 : decode cX8_cutName 68 = .ok (.bipush 6, 2) := zdec_at bX8_cutName_58 5 rfl
theorem dX8_cutName_70 : decode cX8_cutName 70 = .ok (.goto 21, 3) := zdec_at bX8_cutName_58 6 rfl
theorem dX8_cutName_73 : decode cX8_cutName 73 = .ok (.aload_n 0, 1) := zdec_at bX8_cutName_58 7 rfl
theorem dX8_cutName_74 : decode cX8_cutName 74 = .ok (.getfield 30, 3) := zdec_at bX8_cutName_58 8 rfl
theorem dX8_cutName_77 : decode cX8_cutName 77 = .ok (.aload_n 0, 1) := zdec_at bX8_cutName_58 9 rfl
theorem dX8_cutName_78 : decode cX8_cutName 78 = .ok (.getfield 350, 3) := zdec_at bX8_cutName_58 10 rfl
theorem dX8_cutName_81 : decode cX8_cutName 81 = .ok (.iaload, 1) := zdec_at bX8_cutName_58 11 rfl
theorem dX8_cutName_82 : decode cX8_cutName 82 = .ok (.iconst (-1), 1) := zdec_at bX8_cutName_58 12 rfl
theorem dX8_cutName_83 : decode cX8_cutName 83 = .ok (.if_icmp .ne 7, 3) := zdec_at bX8_cutName_58 13 rfl
theorem dX8_cutName_86 : decode cX8_cutName 86 = .ok (.iconst 1, 1) := zdec_at bX8_cutName_58 14 rfl
theorem dX8_cutName_87 : decode cX8_cutName 87 = .ok (.goto 4, 3) := zdec_at bX8_cutName_58 15 rfl
theorem bX8_cutName_90 : zdec cX8_cutName 90 [(90, .iconst 2, 1), (91, .iastore, 1), (92, .return_, 1)] = true := by decide +kernel
theorem dX8_cutName_90 : decode cX8_cutName 90 = .ok (.iconst 2, 1) := zdec_at bX8_cutName_90 0 rfl
theorem dX8_cutName_91 : decode cX8_cutName 91 = .ok (.iastore, 1) := zdec_at bX8_cutName_90 1 rfl
theorem dX8_cutName_92 : decode cX8_cutName 92 = .ok (.return_, 1) := zdec_at bX8_cutName_90 2 rfl
theorem sX8_cutName_0 {E : zE} {d : Nat} {Q : zO → zM → Prop} (M : zM)  (k : Zm E YX8_cutName (d + 1) M [(0, vr (some (97, 1, 0))), (1, vi (gi M 97 18))] 5 [] Q) : Zm E YX8_cutName (d + 1) M [(0, vr (some (97, 1, 0)))] 0 [] Q := by
  refine Zm.l (fun _ _ k_ => z_aload_n dX8_cutName_0 rfl rfl k_) ?_
  refine zm_geti dX8_cutName_1 fsX8_344_1 (by decide) (by decide) ?_
  refine Zm.l (fun _ _ k_ => z_ist_n dX8_cutName_4 rfl (by decide) (lv' := [(0, vr (some (97, 1, 0))), (1, vi (gi M 97 18))]) rfl k_) ?_
  exact k
theorem sX8_cutName_5 {E : zE} {d : Nat} {Q : zO → zM → Prop} (M : zM) (l1 : Int32) (k : Zm E YX8_isWordly d M (zargs 0 [vr (some (97, 1, 0)), vi (gi M 97 18)]) 0 [] (zma E YX8_cutName (d + 1) [(0, vr (some (97, 1, 0))), (1, vi l1)] 10 3 [] Q)) : Zm E YX8_cutName (d + 1) M [(0, vr (some (97, 1, 0))), (1, vi l1)] 5 [] Q := by
  refine Zm.l (fun _ _ k_ => z_aload_n dX8_cutName_5 rfl rfl k_) ?_
  refine Zm.l (fun _ _ k_ => z_aload_n dX8_cutName_6 rfl rfl k_) ?_
  refine zm_geti dX8_cutName_7 fsX8_344_1 (by decide) (by decide) ?_
  exact zm_callV (as := [vi (gi M 97 18)]) (st := []) dX8_cutName_10 vsX8_372_1 (Nat.le_refl _) (Nat.le_of_ble_eq_true rfl) (Nat.le_of_ble_eq_true rfl) rfl k
theorem sX8_cutName_13 {E : zE} {d : Nat} {Q : zO → zM → Prop} (M : zM) (l1 : Int32) (s0 : Int32) (k : if s0 = 0 then (Zm E YX8_keywordAt d M (zargs 0 [vr (some (97, 1, 0)), vi l1, vi ((gi M 97 18) - l1)]) 0 [] (zma E YX8_cutName (d + 1) [(0, vr (some (97, 1, 0))), (1, vi l1)] 45 3 [vi (gi M 97 12), vr (some (104, 100, 4002))] Q)) else (Zm E YX8_cutName (d + 1) (si M 97 18 ((gi M 97 18) + (1 : Int32))) [(0, vr (some (97, 1, 0))), (1, vi l1)] 5 [] Q)) : Zm E YX8_cutName (d + 1) M [(0, vr (some (97, 1, 0))), (1, vi l1)] 13 [vi s0] Q := by
  refine Zm.br (fun _ _ k1_ k2_ => z_if_eq (tgt := 29) dX8_cutName_13 rfl k1_ k2_) (fun h_ => ?_) (fun h_ => ?_)
  · have k := zit h_ k
    refine Zm.l (fun _ _ k_ => z_aload_n dX8_cutName_29 rfl rfl k_) ?_
    refine zm_getr 6 dX8_cutName_30 fsX8_30_1 rfl ?_
    refine Zm.l (fun _ _ k_ => z_aload_n dX8_cutName_33 rfl rfl k_) ?_
    refine zm_geti dX8_cutName_34 fsX8_350_1 (by decide) (by decide) ?_
    refine Zm.l (fun _ _ k_ => z_aload_n dX8_cutName_37 rfl rfl k_) ?_
    refine Zm.l (fun _ _ k_ => z_iload_n dX8_cutName_38 rfl rfl k_) ?_
    refine Zm.l (fun _ _ k_ => z_aload_n dX8_cutName_39 rfl rfl k_) ?_
    refine zm_geti dX8_cutName_40 fsX8_344_1 (by decide) (by decide) ?_
    refine Zm.l (fun _ _ k_ => z_iload_n dX8_cutName_43 rfl rfl k_) ?_
    refine Zm.l (fun _ _ k_ => z_isub dX8_cutName_44 k_) ?_
    exact zm_callV (as := [vi l1, vi ((gi M 97 18) - l1)]) (st := [vi (gi M 97 12), vr (some (104, 100, 4002))]) dX8_cutName_45 vsX8_375_1 (Nat.le_refl _) (Nat.le_of_ble_eq_true rfl) (Nat.le_of_ble_eq_true rfl) rfl k
  · have k := zif h_ k
    refine Zm.l (fun _ _ k_ => z_aload_n dX8_cutName_16 rfl rfl k_) ?_
    refine Zm.l (fun _ _ k_ => z_dup dX8_cutName_17 rfl k_) ?_
    refine zm_geti dX8_cutName_18 fsX8_344_1 (by decide) (by decide) ?_
    refine Zm.l (fun _ _ k_ => z_iconst (v := 1) dX8_cutName_21 rfl k_) ?_
    refine Zm.l (fun _ _ k_ => z_iadd dX8_cutName_22 k_) ?_
    refine zm_puti (by decide) (by decide) dX8_cutName_23 (zfwN.w fwX8_344_1) rfl ⟨rfl, rfl⟩ ?_
    refine Zm.l (fun _ _ k_ => z_goto (tgt := 5) dX8_cutName_26 rfl k_) ?_
    exact k
theorem sX8_cutName_48 {E : zE} {d : Nat} {Q : zO → zM → Prop} (M : zM) (l1 : Int32) (s0 : Int32) (s1 : Int32) (k : vp_in s1 4002 ∧ (if ((gi M 97 18) - l1) ≤ (16 : Int32) then (vp_in (gi M 97 12) 4002 ∧ (if (gi (si M 104 (s1).toNatClampNeg s0) 104 ((gi M 97 12)).toNatClampNeg) = (-1 : Int32) then (vp_in (gi M 97 12) 4002 ∧ (Q (.inl none) (si (si M 104 (s1).toNatClampNeg s0) 103 ((gi M 97 12)).toNatClampNeg (1 : Int32)))) else (vp_in (gi M 97 12) 4002 ∧ (Q (.inl none) (si (si M 104 (s1).toNatClampNeg s0) 103 ((gi M 97 12)).toNatClampNeg (2 : Int32)))))) else (vp_in (gi M 97 12) 4002 ∧ (Q (.inl none) (si (si M 104 (s1).toNatClampNeg s0) 103 ((gi M 97 12)).toNatClampNeg (6 : Int32)))))) : Zm E YX8_cutName (d + 1) M [(0, vr (some (97, 1, 0))), (1, vi l1)] 48 [vi s0, vi s1, vr (some (104, 100, 4002))] Q := by
  obtain ⟨b_, k⟩ := k
  refine zm_iast dX8_cutName_48 b_ (by decide) (by decide) ?_
  refine Zm.l (fun _ _ k_ => z_aload_n dX8_cutName_49 rfl rfl k_) ?_
  refine zm_getr 5 dX8_cutName_50 fsX8_27_1 rfl ?_
  refine Zm.l (fun _ _ k_ => z_aload_n dX8_cutName_53 rfl rfl k_) ?_
  refine zm_geti dX8_cutName_54 fsX8_350_1 (by decide) (by decide) ?_
  refine Zm.l (fun _ _ k_ => z_aload_n dX8_cutName_57 rfl rfl k_) ?_
  refine zm_geti dX8_cutName_58 fsX8_344_1 (by decide) (by decide) ?_
  refine Zm.l (fun _ _ k_ => z_iload_n dX8_cutName_61 rfl rfl k_) ?_
  refine Zm.l (fun _ _ k_ => z_isub dX8_cutName_62 k_) ?_
  refine Zm.l (fun _ _ k_ => z_bipush (v := 16) dX8_cutName_63 rfl k_) ?_
  refine Zm.br (fun _ _ k1_ k2_ => z_icmp_le (tgt := 73) dX8_cutName_65 rfl k1_ k2_) (fun h_ => ?_) (fun h_ => ?_)
  · have k := zit h_ k
    refine Zm.l (fun _ _ k_ => z_aload_n dX8_cutName_73 rfl rfl k_) ?_
    refine zm_getr 6 dX8_cutName_74 fsX8_30_1 rfl ?_
    refine Zm.l (fun _ _ k_ => z_aload_n dX8_cutName_77 rfl rfl k_) ?_
    refine zm_geti dX8_cutName_78 fsX8_350_1 (by decide) (by decide) ?_
    obtain ⟨b_, k⟩ := k
    refine zm_iald dX8_cutName_81 b_ (by decide) (by decide) ?_
    refine Zm.l (fun _ _ k_ => z_iconst (v := -1) dX8_cutName_82 rfl k_) ?_
    refine Zm.brn (fun _ _ k1_ k2_ => z_icmp_ne (tgt := 90) dX8_cutName_83 rfl k1_ k2_) (fun h_ => ?_) (fun h_ => ?_)
    · have k := zif h_ k
      refine Zm.l (fun _ _ k_ => z_iconst (v := 2) dX8_cutName_90 rfl k_) ?_
      obtain ⟨b_, k⟩ := k
      refine zm_iast dX8_cutName_91 b_ (by decide) (by decide) ?_
      exact zm_vret dX8_cutName_92 rfl k
    · have k := zit h_ k
      refine Zm.l (fun _ _ k_ => z_iconst (v := 1) dX8_cutName_86 rfl k_) ?_
      refine Zm.l (fun _ _ k_ => z_goto (tgt := 91) dX8_cutName_87 rfl k_) ?_
      obtain ⟨b_, k⟩ := k
      refine zm_iast dX8_cutName_91 b_ (by decide) (by decide) ?_
      exact zm_vret dX8_cutName_92 rfl k
  · have k := zif h_ k
    refine Zm.l (fun _ _ k_ => z_bipush (v := 6) dX8_cutName_68 rfl k_) ?_
    refine Zm.l (fun _ _ k_ => z_goto (tgt := 91) dX8_cutName_70 rfl k_) ?_
    obtain ⟨b_, k⟩ := k
    refine zm_iast dX8_cutName_91 b_ (by decide) (by decide) ?_
    exact zm_vret dX8_cutName_92 rfl k
/-! ScriptTypesModel.isWordly(I)Z -/
theorem bX8_isWordly_0 : zdec cX8_isWordly 0 [(0, .aload_n 0, 1), (1, .iload_n 1, 1), (2, .invokevirtual 331, 3), (5, .ifCond .eq 29, 3), (8, .aload_n 0, 1), (9, .iload_n 1, 1), (10, .invokevirtual 334, 3), (13, .invokestatic 338, 3), (16, .ifCond .ne 14, 3), (19, .aload_n 0, 1), (20, .iload_n 1, 1), (21, .invokevirtual 334, 3), (24, .invokestatic 341, 3), (27, .ifCond .eq 7, 3), (30, .iconst 1, 1), (31, .goto 4, 3)] = true := by decide +kernel
theorem dX8_isWordly_0 : decode cX8_isWordly 0 = .ok (.aload_n 0, 1) := zdec_at bX8_isWordly_0 0 rfl
theorem dX8_isWordly_1 : decode cX8_isWordly 1 = .ok (.iload_n 1, 1) := zdec_at bX8_isWordly_0 1 rfl
theorem dX8_isWordly_2 : decode cX8_isWordly 2 = .ok (.invokevirtual 331, 3) := zdec_at bX8_isWordly_0 2 rfl
theorem dX8_isWordly_5 : decode cX8_isWordly 5 = .ok (.ifCond .eq 29, 3) := zdec_at bX8_isWordly_0 3 rfl
theorem dX8_isWordly_8 : decode cX8_isWordly 8 = .ok (.aload_n 0, 1) := zdec_at bX8_isWordly_0 4 rfl
theorem dX8_isWordly_9 : decode cX8_isWordly 9 = .ok (.iload_n 1, 1) := zdec_at bX8_isWordly_0 5 rfl
theorem dX8_isWordly_10 : decode cX8_isWordly 10 = .ok (.invokevirtual 334, 3) := zdec_at bX8_isWordly_0 6 rfl
theorem dX8_isWordly_13 : decode cX8_isWordly 13 = .ok (.invokestatic 338, 3) := zdec_at bX8_isWordly_0 7 rfl
theorem dX8_isWordly_16 : decode cX8_isWordly 16 = .ok (.ifCond .ne 14, 3) := zdec_at bX8_isWordly_0 8 rfl
theorem dX8_isWordly_19 : decode cX8_isWordly 19 = .ok (.aload_n 0, 1) := zdec_at bX8_isWordly_0 9 rfl
theorem dX8_isWordly_20 : decode cX8_isWordly 20 = .ok (.iload_n 1, 1) := zdec_at bX8_isWordly_0 10 rfl
theorem dX8_isWordly_21 : decode cX8_isWordly 21 = .ok (.invokevirtual 334, 3) := zdec_at bX8_isWordly_0 11 rfl
theorem dX8_isWordly_24 : decode cX8_isWordly 24 = .ok (.invokestatic 341, 3) := zdec_at bX8_isWordly_0 12 rfl
theorem dX8_isWordly_27 : decode cX8_isWordly 27 = .ok (.ifCond .eq 7, 3) := zdec_at bX8_isWordly_0 13 rfl
theorem dX8_isWordly_30 : decode cX8_isWordly 30 = .ok (.iconst 1, 1) := zdec_at bX8_isWordly_0 14 rfl
theorem dX8_isWordly_31 : decode cX8_isWordly 31 = .ok (.goto 4, 3) := zdec_at bX8_isWordly_0 15 rfl
theorem bX8_isWordly_34 : zdec cX8_isWordly 34 [(34, .iconst 0, 1), (35, .ireturn, 1)] = true := by decide +kernel
theorem dX8_isWordly_34 : decode cX8_isWordly 34 = .ok (.iconst 0, 1) := zdec_at bX8_isWordly_34 0 rfl
theorem dX8_isWordly_35 : decode cX8_isWordly 35 = .ok (.ireturn, 1) := zdec_at bX8_isWordly_34 1 rfl
theorem sX8_isWordly_0 {E : zE} {d : Nat} {Q : zO → zM → Prop} (M : zM) (l1 : Int32) (k : Zm E YX8_isThere d M (zargs 0 [vr (some (97, 1, 0)), vi l1]) 0 [] (zma E YX8_isWordly (d + 1) [(0, vr (some (97, 1, 0))), (1, vi l1)] 2 3 [] Q)) : Zm E YX8_isWordly (d + 1) M [(0, vr (some (97, 1, 0))), (1, vi l1)] 0 [] Q := by
  refine Zm.l (fun _ _ k_ => z_aload_n dX8_isWordly_0 rfl rfl k_) ?_
  refine Zm.l (fun _ _ k_ => z_iload_n dX8_isWordly_1 rfl rfl k_) ?_
  exact zm_callV (as := [vi l1]) (st := []) dX8_isWordly_2 vsX8_331_1 (Nat.le_refl _) (Nat.le_of_ble_eq_true rfl) (Nat.le_of_ble_eq_true rfl) rfl k
theorem sX8_isWordly_5 {E : zE} {d : Nat} {Q : zO → zM → Prop} (M : zM) (l1 : Int32) (s0 : Int32) (k : if s0 = 0 then (Q (.inl (some (vi (0 : Int32)))) M) else (Zm E YX8_look d M (zargs 0 [vr (some (97, 1, 0)), vi l1]) 0 [] (zma E YX8_isWordly (d + 1) [(0, vr (some (97, 1, 0))), (1, vi l1)] 10 3 [] Q))) : Zm E YX8_isWordly (d + 1) M [(0, vr (some (97, 1, 0))), (1, vi l1)] 5 [vi s0] Q := by
  refine Zm.br (fun _ _ k1_ k2_ => z_if_eq (tgt := 34) dX8_isWordly_5 rfl k1_ k2_) (fun h_ => ?_) (fun h_ => ?_)
  · have k := zit h_ k
    refine Zm.l (fun _ _ k_ => z_iconst (v := 0) dX8_isWordly_34 rfl k_) ?_
    exact zm_iret dX8_isWordly_35 rfl (by decide) k
  · have k := zif h_ k
    refine Zm.l (fun _ _ k_ => z_aload_n dX8_isWordly_8 rfl rfl k_) ?_
    refine Zm.l (fun _ _ k_ => z_iload_n dX8_isWordly_9 rfl rfl k_) ?_
    exact zm_callV (as := [vi l1]) (st := []) dX8_isWordly_10 vsX8_334_1 (Nat.le_refl _) (Nat.le_of_ble_eq_true rfl) (Nat.le_of_ble_eq_true rfl) rfl k
theorem sX8_isWordly_13 {E : zE} {d : Nat} {Q : zO → zM → Prop} (M : zM) (l1 : Int32) (s0 : Int32) (k : Zm E YX8_isLetter d M (zargs 0 [vi s0]) 0 [] (zma E YX8_isWordly (d + 1) [(0, vr (some (97, 1, 0))), (1, vi l1)] 13 3 [] Q)) : Zm E YX8_isWordly (d + 1) M [(0, vr (some (97, 1, 0))), (1, vi l1)] 13 [vi s0] Q := by
  exact zm_callS (as := [vi s0]) (st := []) dX8_isWordly_13 ssX8_338 (Nat.le_refl _) (Nat.le_of_ble_eq_true rfl) (Nat.le_of_ble_eq_true rfl) rfl k
theorem sX8_isWordly_16 {E : zE} {d : Nat} {Q : zO → zM → Prop} (M : zM) (l1 : Int32) (s0 : Int32) (k : if s0 = 0 then (Zm E YX8_look d M (zargs 0 [vr (some (97, 1, 0)), vi l1]) 0 [] (zma E YX8_isWordly (d + 1) [] 21 3 [] Q)) else (Q (.inl (some (vi (1 : Int32)))) M)) : Zm E YX8_isWordly (d + 1) M [(0, vr (some (97, 1, 0))), (1, vi l1)] 16 [vi s0] Q := by
  refine Zm.brn (fun _ _ k1_ k2_ => z_if_ne (tgt := 30) dX8_isWordly_16 rfl k1_ k2_) (fun h_ => ?_) (fun h_ => ?_)
  · have k := zif h_ k
    refine Zm.l (fun _ _ k_ => z_iconst (v := 1) dX8_isWordly_30 rfl k_) ?_
    refine Zm.l (fun _ _ k_ => z_goto (tgt := 35) dX8_isWordly_31 rfl k_) ?_
    exact zm_iret dX8_isWordly_35 rfl (by decide) k
  · have k := zit h_ k
    refine Zm.l (fun _ _ k_ => z_aload_n dX8_isWordly_19 rfl rfl k_) ?_
    refine Zm.l (fun _ _ k_ => z_iload_n dX8_isWordly_20 rfl rfl k_) ?_
    refine Zm.pick [] rfl ?_
    exact zm_callV (as := [vi l1]) (st := []) dX8_isWordly_21 vsX8_334_1 (Nat.le_refl _) (Nat.le_of_ble_eq_true rfl) (Nat.le_of_ble_eq_true rfl) rfl k
theorem sX8_isWordly_24 {E : zE} {d : Nat} {Q : zO → zM → Prop} (M : zM) (s0 : Int32) (k : Zm E YX8_isDigit d M (zargs 0 [vi s0]) 0 [] (zma E YX8_isWordly (d + 1) [] 24 3 [] Q)) : Zm E YX8_isWordly (d + 1) M [] 24 [vi s0] Q := by
  exact zm_callS (as := [vi s0]) (st := []) dX8_isWordly_24 ssX8_341 (Nat.le_refl _) (Nat.le_of_ble_eq_true rfl) (Nat.le_of_ble_eq_true rfl) rfl k
theorem sX8_isWordly_27 {E : zE} {d : Nat} {Q : zO → zM → Prop} (M : zM) (s0 : Int32) (k : if s0 = 0 then (Q (.inl (some (vi (0 : Int32)))) M) else (Q (.inl (some (vi (1 : Int32)))) M)) : Zm E YX8_isWordly (d + 1) M [] 27 [vi s0] Q := by
  refine Zm.br (fun _ _ k1_ k2_ => z_if_eq (tgt := 34) dX8_isWordly_27 rfl k1_ k2_) (fun h_ => ?_) (fun h_ => ?_)
  · have k := zit h_ k
    refine Zm.l (fun _ _ k_ => z_iconst (v := 0) dX8_isWordly_34 rfl k_) ?_
    exact zm_iret dX8_isWordly_35 rfl (by decide) k
  · have k := zif h_ k
    refine Zm.l (fun _ _ k_ => z_iconst (v := 1) dX8_isWordly_30 rfl k_) ?_
    refine Zm.l (fun _ _ k_ => z_goto (tgt := 35) dX8_isWordly_31 rfl k_) ?_
    exact zm_iret dX8_isWordly_35 rfl (by decide) k
/-! ScriptTypesModel.isDigit(I)Z -/
theorem bX8_isDigit_0 : zdec cX8_isDigit 0 [(0, .iload_n 0, 1), (1, .bipush 48, 2), (3, .if_icmp .lt 13, 3), (6, .iload_n 0, 1), (7, .bipush 57, 2), (9, .if_icmp .gt 7, 3), (12, .iconst 1, 1), (13, .goto 4, 3), (16, .iconst 0, 1), (17, .ireturn, 1)] = true := by decide +kernel
theorem dX8_isDigit_0 : decode cX8_isDigit 0 = .ok (.iload_n 0, 1) := zdec_at bX8_isDigit_0 0 rfl
theorem dX8_isDigit_1 : decode cX8_isDigit 1 = .ok (.bipush 48, 2) := zdec_at bX8_isDigit_0 1 rfl
theorem dX8_isDigit_3 : decode cX8_isDigit 3 = .ok (.if_icmp .lt 13, 3) := zdec_at bX8_isDigit_0 2 rfl
theorem dX8_isDigit_6 : decode cX8_isDigit 6 = .ok (.iload_n 0, 1) := zdec_at bX8_isDigit_0 3 rfl
theorem dX8_isDigit_7 : decode cX8_isDigit 7 = .ok (.bipush 57, 2) := zdec_at bX8_isDigit_0 4 rfl
theorem dX8_isDigit_9 : decode cX8_isDigit 9 = .ok (.if_icmp .gt 7, 3) := zdec_at bX8_isDigit_0 5 rfl
theorem dX8_isDigit_12 : decode cX8_isDigit 12 = .ok (.iconst 1, 1) := zdec_at bX8_isDigit_0 6 rfl
theorem dX8_isDigit_13 : decode cX8_isDigit 13 = .ok (.goto 4, 3) := zdec_at bX8_isDigit_0 7 rfl
theorem dX8_isDigit_16 : decode cX8_isDigit 16 = .ok (.iconst 0, 1) := zdec_at bX8_isDigit_0 8 rfl
theorem dX8_isDigit_17 : decode cX8_isDigit 17 = .ok (.ireturn, 1) := zdec_at bX8_isDigit_0 9 rfl
theorem sX8_isDigit_0 {E : zE} {d : Nat} {Q : zO → zM → Prop} (M : zM) (l0 : Int32) (k : if l0 < (48 : Int32) then (Q (.inl (some (vi (0 : Int32)))) M) else (if (57 : Int32) < l0 then (Q (.inl (some (vi (0 : Int32)))) M) else (Q (.inl (some (vi (1 : Int32)))) M))) : Zm E YX8_isDigit d M [(0, vi l0)] 0 [] Q := by
  refine Zm.l (fun _ _ k_ => z_iload_n dX8_isDigit_0 rfl rfl k_) ?_
  refine Zm.l (fun _ _ k_ => z_bipush (v := 48) dX8_isDigit_1 rfl k_) ?_
  refine Zm.br (fun _ _ k1_ k2_ => z_icmp_lt (tgt := 16) dX8_isDigit_3 rfl k1_ k2_) (fun h_ => ?_) (fun h_ => ?_)
  · have k := zit h_ k
    refine Zm.l (fun _ _ k_ => z_iconst (v := 0) dX8_isDigit_16 rfl k_) ?_
    exact zm_iret dX8_isDigit_17 rfl (by decide) k
  · have k := zif h_ k
    refine Zm.l (fun _ _ k_ => z_iload_n dX8_isDigit_6 rfl rfl k_) ?_
    refine Zm.l (fun _ _ k_ => z_bipush (v := 57) dX8_isDigit_7 rfl k_) ?_
    refine Zm.br (fun _ _ k1_ k2_ => z_icmp_gt (tgt := 16) dX8_isDigit_9 rfl k1_ k2_) (fun h_ => ?_) (fun h_ => ?_)
    · have k := zit h_ k
      refine Zm.l (fun _ _ k_ => z_iconst (v := 0) dX8_isDigit_16 rfl k_) ?_
      exact zm_iret dX8_isDigit_17 rfl (by decide) k
    · have k := zif h_ k
      refine Zm.l (fun _ _ k_ => z_iconst (v := 1) dX8_isDigit_12 rfl k_) ?_
      refine Zm.l (fun _ _ k_ => z_goto (tgt := 17) dX8_isDigit_13 rfl k_) ?_
      exact zm_iret dX8_isDigit_17 rfl (by decide) k
/-! ScriptTypesModel.cutNumber()V -/
theorem bX8_cutNumber_0 : zdec cX8_cutNumber 0 [(0, .aload_n 0, 1), (1, .getfield 344, 3), (4, .istore_n 1, 1), (5, .lconst 0, 1), (6, .lstore_n 2, 1), (7, .aload_n 0, 1), (8, .aload_n 0, 1), (9, .getfield 344, 3), (12, .invokevirtual 331, 3), (15, .ifCond .eq 65, 3), (18, .aload_n 0, 1), (19, .aload_n 0, 1), (20, .getfield 344, 3), (23, .invokevirtual 334, 3), (26, .invokestatic 341, 3), (29, .ifCond .eq 51, 3)] = true := by decide +kernel
theorem dX8_cutNumber_0 : decode cX8_cutNumber 0 = .ok (.aload_n 0, 1) := zdec_at bX8_cutNumber_0 0 rfl
theorem dX8_cutNumber_1 : decode cX8_cutNumber 1 = .ok (.getfield 344, 3) := zdec_at bX8_cutNumber_0 1 rfl
theorem dX8_cutNumber_4 : decode cX8_cutNumber 4 = .ok (.istore_n 1, 1) := zdec_at bX8_cutNumber_0 2 rfl
theorem dX8_cutNumber_5 : decode cX8_cutNumber 5 = .ok (.lconst 0, 1) := zdec_at bX8_cutNumber_0 3 rfl
theorem dX8_cutNumber_6 : decode cX8_cutNumber 6 = .ok (.lstore_n 2, 1) := zdec_at bX8_cutNumber_0 4 rfl
theorem dX8_cutNumber_7 : decode cX8_cutNumber 7 = .ok (.aload_n 0, 1) := zdec_at bX8_cutNumber_0 5 rfl
theorem dX8_cutNumber_8 : decode cX8_cutNumber 8 = .ok (.aload_n 0, 1) := zdec_at bX8_cutNumber_0 6 rfl
theorem dX8_cutNumber_9 : decode cX8_cutNumber 9 = .ok (.getfield 344, 3) := zdec_at bX8_cutNumber_0 7 rfl
theorem dX8_cutNumber_12 : decode cX8_cutNumber 12 = .ok (.invokevirtual 331, 3) := zdec_at bX8_cutNumber_0 8 rfl
theorem dX8_cutNumber_15 : decode cX8_cutNumber 15 = .ok (.ifCond .eq 65, 3) := zdec_at bX8_cutNumber_0 9 rfl
theorem dX8_cutNumber_18 : decode cX8_cutNumber 18 = .ok (.aload_n 0, 1) := zdec_at bX8_cutNumber_0 10 rfl
theorem dX8_cutNumber_19 : decode cX8_cutNumber 19 = .ok (.aload_n 0, 1) := zdec_at bX8_cutNumber_0 11 rfl
theorem dX8_cutNumber_20 : decode cX8_cutNumber 20 = .ok (.getfield 344, 3) := zdec_at bX8_cutNumber_0 12 rfl
theorem dX8_cutNumber_23 : decode cX8_cutNumber 23 = .ok (.invokevirtual 334, 3) := zdec_at bX8_cutNumber_0 13 rfl
theorem dX8_cutNumber_26 : decode cX8_cutNumber 26 = .ok (.invokestatic 341, 3) := zdec_at bX8_cutNumber_0 14 rfl
theorem dX8_cutNumber_29 : decode cX8_cutNumber 29 = .ok (.ifCond .eq 51, 3) := zdec_at bX8_cutNumber_0 15 rfl
theorem bX8_cutNumber_32 : zdec cX8_cutNumber 32 [(32, .aload_n 0, 1), (33, .getfield 344, 3), (36, .iload_n 1, 1), (37, .isub, 1), (38, .bipush 10, 2), (40, .if_icmp .ge 25, 3), (43, .ldc2_w 381, 3), (46, .lload_n 2, 1), (47, .lmul, 1), (48, .aload_n 0, 1), (49, .aload_n 0, 1), (50, .getfield 344, 3), (53, .invokevirtual 334, 3), (56, .i2l, 1), (57, .ladd, 1), (58, .ldc2_w 383, 3)] = true := by decide +kernel
theorem dX8_cutNumber_32 : decode cX8_cutNumber 32 = .ok (.aload_n 0, 1) := zdec_at bX8_cutNumber_32 0 rfl
theorem dX8_cutNumber_33 : decode cX8_cutNumber 33 = .ok (.getfield 344, 3) := zdec_at bX8_cutNumber_32 1 rfl
theorem dX8_cutNumber_36 : decode cX8_cutNumber 36 = .ok (.iload_n 1, 1) := zdec_at bX8_cutNumber_32 2 rfl
theorem dX8_cutNumber_37 : decode cX8_cutNumber 37 = .ok (.isub, 1) := zdec_at bX8_cutNumber_32 3 rfl
theorem dX8_cutNumber_38 : decode cX8_cutNumber 38 = .ok (.bipush 10, 2) := zdec_at bX8_cutNumber_32 4 rfl
theorem dX8_cutNumber_40 : decode cX8_cutNumber 40 = .ok (.if_icmp .ge 25, 3) := zdec_at bX8_cutNumber_32 5 rfl
theorem dX8_cutNumber_43 : decode cX8_cutNumber 43 = .ok (.ldc2_w 381, 3) := zdec_at bX8_cutNumber_32 6 rfl
theorem dX8_cutNumber_46 : decode cX8_cutNumber 46 = .ok (.lload_n 2, 1) := zdec_at bX8_cutNumber_32 7 rfl
theorem dX8_cutNumber_47 : decode cX8_cutNumber 47 = .ok (.lmul, 1) := zdec_at bX8_cutNumber_32 8 rfl
theorem dX8_cutNumber_48 : decode cX8_cutNumber 48 = .ok (.aload_n 0, 1) := zdec_at bX8_cutNumber_32 9 rfl
theorem dX8_cutNumber_49 : decode cX8_cutNumber 49 = .ok (.aload_n 0, 1) := zdec_at bX8_cutNumber_32 10 rfl
theorem dX8_cutNumber_50 : decode cX8_cutNumber 50 = .ok (.getfield 344, 3) := zdec_at bX8_cutNumber_32 11 rfl
theorem dX8_cutNumber_53 : decode cX8_cutNumber 53 = .ok (.invokevirtual 334, 3) := zdec_at bX8_cutNumber_32 12 rfl
theorem dX8_cutNumber_56 : decode cX8_cutNumber 56 = .ok (.i2l, 1) := zdec_at bX8_cutNumber_32 13 rfl
theorem dX8_cutNumber_57 : decode cX8_cutNumber 57 = .ok (.ladd, 1) := zdec_at bX8_cutNumber_32 14 rfl
theorem dX8_cutNumber_58 : decode cX8_cutNumber 58 = .ok (.ldc2_w 383, 3) := zdec_at bX8_cutNumber_32 15 rfl
theorem bX8_cutNumber_61 : zdec cX8_cutNumber 61 [(61, .lsub, 1), (62, .goto 4, 3), (65, .lload_n 2, 1), (66, .lstore_n 2, 1), (67, .aload_n 0, 1), (68, .dup, 1), (69, .getfield 344, 3), (72, .iconst 1, 1), (73, .iadd, 1), (74, .putfield 344, 3), (77, .goto (-70), 3), (80, .aload_n 0, 1), (81, .getfield 344, 3), (84, .iload_n 1, 1), (85, .isub, 1), (86, .bipush 10, 2)] = true := by decide +kernel
theorem dX8_cutNumber_61 : decode cX8_cutNumber 61 = .ok (.lsub, 1) := zdec_at bX8_cutNumber_61 0 rfl
theorem dX8_cutNumber_62 : decode cX8_cutNumber 62 = .ok (.goto 4, 3) := zdec_at bX8_cutNumber_61 1 rfl
theorem dX8_cutNumber_65 : decode cX8_cutNumber 65 = .ok (.lload_n 2, 1) := zdec_at bX8_cutNumber_61 2 rfl
theorem dX8_cutNumber_66 : decode cX8_cutNumber 66 = .ok (.lstore_n 2, 1) := zdec_at bX8_cutNumber_61 3 rfl
theorem dX8_cutNumber_67 : decode cX8_cutNumber 67 = .ok (.aload_n 0, 1) := zdec_at bX8_cutNumber_61 4 rfl
theorem dX8_cutNumber_68 : decode cX8_cutNumber 68 = .ok (.dup, 1) := zdec_at bX8_cutNumber_61 5 rfl
theorem dX8_cutNumber_69 : decode cX8_cutNumber 69 = .ok (.getfield 344, 3) := zdec_at bX8_cutNumber_61 6 rfl
theorem dX8_cutNumber_72 : decode cX8_cutNumber 72 = .ok (.iconst 1, 1) := zdec_at bX8_cutNumber_61 7 rfl
theorem dX8_cutNumber_73 : decode cX8_cutNumber 73 = .ok (.iadd, 1) := zdec_at bX8_cutNumber_61 8 rfl
theorem dX8_cutNumber_74 : decode cX8_cutNumber 74 = .ok (.putfield 344, 3) := zdec_at bX8_cutNumber_61 9 rfl
theorem dX8_cutNumber_77 : decode cX8_cutNumber 77 = .ok (.goto (-70), 3) := zdec_at bX8_cutNumber_61 10 rfl
theorem dX8_cutNumber_80 : decode cX8_cutNumber 80 = .ok (.aload_n 0, 1) := zdec_at bX8_cutNumber_61 11 rfl
theorem dX8_cutNumber_81 : decode cX8_cutNumber 81 = .ok (.getfield 344, 3) := zdec_at bX8_cutNumber_61 12 rfl
theorem dX8_cutNumber_84 : decode cX8_cutNumber 84 = .ok (.iload_n 1, 1) := zdec_at bX8_cutNumber_61 13 rfl
theorem dX8_cutNumber_85 : decode cX8_cutNumber 85 = .ok (.isub, 1) := zdec_at bX8_cutNumber_61 14 rfl
theorem dX8_cutNumber_86 : decode cX8_cutNumber 86 = .ok (.bipush 10, 2) := zdec_at bX8_cutNumber_61 15 rfl
theorem bX8_cutNumber_88 : zdec cX8_cutNumber 88 [(88, .if_icmp .gt 26, 3), (91, .lload_n 2, 1), (92, .ldc2_w 385, 3), (95, .lcmp, 1), (96, .ifCond .gt 18, 3), (99, .aload_n 0, 1), (100, .aload_n 0, 1), (101, .getfield 344, 3), (104, .invokevirtual 372, 3), (107, .ifCond .ne 7, 3), (110, .iconst 1, 1), (111, .goto 4, 3), (114, .iconst 0, 1), (115, .istore 4, 2), (117, .aload_n 0, 1), (118, .getfield 27, 3)] = true := by decide +kernel
theorem dX8_cutNumber_88 : decode cX8_cutNumber 88 = .ok (.if_icmp .gt 26, 3) := zdec_at bX8_cutNumber_88 0 rfl
theorem dX8_cutNumber_91 : decode cX8_cutNumber 91 = .ok (.lload_n 2, 1) := zdec_at bX8_cutNumber_88 1 rfl
theorem dX8_cutNumber_92 : decode cX8_cutNumber 92 = .ok (.ldc2_w 385, 3) := zdec_at bX8_cutNumber_88 2 rfl
theorem dX8_cutNumber_95 : decode cX8_cutNumber 95 = .ok (.lcmp, 1) := zdec_at bX8_cutNumber_88 3 rfl
theorem dX8_cutNumber_96 : decode cX8_cutNumber 96 = .ok (.ifCond .gt 18, 3) := zdec_at bX8_cutNumber_88 4 rfl
theorem dX8_cutNumber_99 : decode cX8_cutNumber 99 = .ok (.aload_n 0, 1) := zdec_at bX8_cutNumber_88 5 rfl
theorem dX8_cutNumber_100 : decode cX8_cutNumber 100 = .ok (.aload_n 0, 1) := zdec_at bX8_cutNumber_88 6 rfl
theorem dX8_cutNumber_101 : decode cX8_cutNumber 101 = .ok (.getfield 344, 3) := zdec_at bX8_cutNumber_88 7 rfl
theorem dX8_cutNumber_104 : decode cX8_cutNumber 104 = .ok (.invokevirtual 372, 3) := zdec_at bX8_cutNumber_88 8 rfl
theorem dX8_cutNumber_107 : decode cX8_cutNumber 107 = .ok (.ifCond .ne 7, 3) := zdec_at bX8_cutNumber_88 9 rfl
theorem dX8_cutNumber_110 : decode cX8_cutNumber 110 = .ok (.iconst 1, 1) := zdec_at bX8_cutNumber_88 10 rfl
theorem dX8_cutNumber_111 : decode cX8_cutNumber 111 = .ok (.goto 4, 3) := zdec_at bX8_cutNumber_88 11 rfl
theorem dX8_cutNumber_114 : decode cX8_cutNumber 114 = .ok (.iconst 0, 1) := zdec_at bX8_cutNumber_88 12 rfl
theorem dX8_cutNumber_115 : decode cX8_cutNumber 115 = .ok (.istore 4, 2) := zdec_at bX8_cutNumber_88 13 rfl
theorem dX8_cutNumber_117 : decode cX8_cutNumber 117 = .ok (.aload_n 0, 1) := zdec_at bX8_cutNumber_88 14 rfl
theorem dX8_cutNumber_118 : decode cX8_cutNumber 118 = .ok (.getfield 27, 3) := zdec_at bX8_cutNumber_88 15 rfl
theorem bX8_cutNumber_121 : zdec cX8_cutNumber 121 [(121, .aload_n 0, 1), (122, .getfield 350, 3), (125, .iload 4, 2), (127, .ifCond .eq 7, 3), (130, .iconst 3, 1), (131, .goto 5, 3), (134, .bipush 6, 2), (136, .iastore, 1), (137, .aload_n 0, 1), (138, .getfield 30, 3), (141, .aload_n 0, 1), (142, .getfield 350, 3), (145, .lload_n 2, 1), (146, .l2i, 1), (147, .iastore, 1), (148, .return_, 1)] = true := by decide +kernel
theorem dX8_cutNumber_121 : decode cX8_cutNumber 121 = .ok (.aload_n 0, 1) := zdec_at bX8_cutNumber_121 0 rfl
theorem dX8_cutNumber_122 : decode cX8_cutNumber 122 = .ok (.getfield 350, 3) := zdec_at bX8_cutNumber_121 1 rfl
theorem dX8_cutNumber_125 : decode cX8_cutNumber 125 = .ok (.iload 4, 2) := zdec_at bX8_cutNumber_121 2 rfl
theorem dX8_cutNumber_127 : decode cX8_cutNumber 127 = .ok (.ifCond .eq 7, 3) := zdec_at bX8_cutNumber_121 3 rfl
theorem dX8_cutNumber_130 : decode cX8_cutNumber 130 = .ok (.iconst 3, 1) := zdec_at bX8_cutNumber_121 4 rfl
theorem dX8_cutNumber_131 : decode cX8_cutNumber 131 = .ok (.goto 5, 3) := zdec_at bX8_cutNumber_121 5 rfl
theorem dX8_cutNumber_134 : decode cX8_cutNumber 134 = .ok (.bipush 6, 2) := zdec_at bX8_cutNumber_121 6 rfl
theorem dX8_cutNumber_136 : decode cX8_cutNumber 136 = .ok (.iastore, 1) := zdec_at bX8_cutNumber_121 7 rfl
theorem dX8_cutNumber_137 : decode cX8_cutNumber 137 = .ok (.aload_n 0, 1) := zdec_at bX8_cutNumber_121 8 rfl
theorem dX8_cutNumber_138 : decode cX8_cutNumber 138 = .ok (.getfield 30, 3) := zdec_at bX8_cutNumber_121 9 rfl
theorem dX8_cutNumber_141 : decode cX8_cutNumber 141 = .ok (.aload_n 0, 1) := zdec_at bX8_cutNumber_121 10 rfl
theorem dX8_cutNumber_142 : decode cX8_cutNumber 142 = .ok (.getfield 350, 3) := zdec_at bX8_cutNumber_121 11 rfl
theorem dX8_cutNumber_145 : decode cX8_cutNumber 145 = .ok (.lload_n 2, 1) := zdec_at bX8_cutNumber_121 12 rfl
theorem dX8_cutNumber_146 : decode cX8_cutNumber 146 = .ok (.l2i, 1) := zdec_at bX8_cutNumber_121 13 rfl
theorem dX8_cutNumber_147 : decode cX8_cutNumber 147 = .ok (.iastore, 1) := zdec_at bX8_cutNumber_121 14 rfl
theorem dX8_cutNumber_148 : decode cX8_cutNumber 148 = .ok (.return_, 1) := zdec_at bX8_cutNumber_121 15 rfl
theorem sX8_cutNumber_0 {E : zE} {d : Nat} {Q : zO → zM → Prop} (M : zM)  (k : Zm E YX8_cutNumber (d + 1) M [(0, vr (some (97, 1, 0))), (1, vi (gi M 97 18)), (2, vl (0 : Int64))] 7 [] Q) : Zm E YX8_cutNumber (d + 1) M [(0, vr (some (97, 1, 0)))] 0 [] Q := by
  refine Zm.l (fun _ _ k_ => z_aload_n dX8_cutNumber_0 rfl rfl k_) ?_
  refine zm_geti dX8_cutNumber_1 fsX8_344_1 (by decide) (by decide) ?_
  refine Zm.l (fun _ _ k_ => z_ist_n dX8_cutNumber_4 rfl (by decide) (lv' := [(0, vr (some (97, 1, 0))), (1, vi (gi M 97 18))]) rfl k_) ?_
  refine Zm.l (fun _ _ k_ => z_lconst (v := 0) dX8_cutNumber_5 rfl k_) ?_
  refine Zm.l (fun _ _ k_ => z_lst_n dX8_cutNumber_6 rfl (by decide) (lv' := [(0, vr (some (97, 1, 0))), (1, vi (gi M 97 18)), (2, vl (0 : Int64))]) rfl k_) ?_
  exact k
theorem sX8_cutNumber_7 {E : zE} {d : Nat} {Q : zO → zM → Prop} (M : zM) (l1 : Int32) (l2 : Int64) (k : Zm E YX8_isThere d M (zargs 0 [vr (some (97, 1, 0)), vi (gi M 97 18)]) 0 [] (zma E YX8_cutNumber (d + 1) [(0, vr (some (97, 1, 0))), (1, vi l1), (2, vl l2)] 12 3 [] Q)) : Zm E YX8_cutNumber (d + 1) M [(0, vr (some (97, 1, 0))), (1, vi l1), (2, vl l2)] 7 [] Q := by
  refine Zm.l (fun _ _ k_ => z_aload_n dX8_cutNumber_7 rfl rfl k_) ?_
  refine Zm.l (fun _ _ k_ => z_aload_n dX8_cutNumber_8 rfl rfl k_) ?_
  refine zm_geti dX8_cutNumber_9 fsX8_344_1 (by decide) (by decide) ?_
  exact zm_callV (as := [vi (gi M 97 18)]) (st := []) dX8_cutNumber_12 vsX8_331_1 (Nat.le_refl _) (Nat.le_of_ble_eq_true rfl) (Nat.le_of_ble_eq_true rfl) rfl k
theorem sX8_cutNumber_15 {E : zE} {d : Nat} {Q : zO → zM → Prop} (M : zM) (l1 : Int32) (l2 : Int64) (s0 : Int32) (k : if s0 = 0 then (Zm E YX8_cutNumber (d + 1) M [(0, vr (some (97, 1, 0))), (1, vi l1), (2, vl l2)] 80 [] Q) else (Zm E YX8_look d M (zargs 0 [vr (some (97, 1, 0)), vi (gi M 97 18)]) 0 [] (zma E YX8_cutNumber (d + 1) [(0, vr (some (97, 1, 0))), (1, vi l1), (2, vl l2)] 23 3 [] Q))) : Zm E YX8_cutNumber (d + 1) M [(0, vr (some (97, 1, 0))), (1, vi l1), (2, vl l2)] 15 [vi s0] Q := by
  refine Zm.br (fun _ _ k1_ k2_ => z_if_eq (tgt := 80) dX8_cutNumber_15 rfl k1_ k2_) (fun h_ => ?_) (fun h_ => ?_)
  · have k := zit h_ k
    exact k
  · have k := zif h_ k
    refine Zm.l (fun _ _ k_ => z_aload_n dX8_cutNumber_18 rfl rfl k_) ?_
    refine Zm.l (fun _ _ k_ => z_aload_n dX8_cutNumber_19 rfl rfl k_) ?_
    refine zm_geti dX8_cutNumber_20 fsX8_344_1 (by decide) (by decide) ?_
    exact zm_callV (as := [vi (gi M 97 18)]) (st := []) dX8_cutNumber_23 vsX8_334_1 (Nat.le_refl _) (Nat.le_of_ble_eq_true rfl) (Nat.le_of_ble_eq_true rfl) rfl k
theorem sX8_cutNumber_26 {E : zE} {d : Nat} {Q : zO → zM → Prop} (M : zM) (l1 : Int32) (l2 : Int64) (s0 : Int32) (k : Zm E YX8_isDigit d M (zargs 0 [vi s0]) 0 [] (zma E YX8_cutNumber (d + 1) [(0, vr (some (97, 1, 0))), (1, vi l1), (2, vl l2)] 26 3 [] Q)) : Zm E YX8_cutNumber (d + 1) M [(0, vr (some (97, 1, 0))), (1, vi l1), (2, vl l2)] 26 [vi s0] Q := by
  exact zm_callS (as := [vi s0]) (st := []) dX8_cutNumber_26 ssX8_341 (Nat.le_refl _) (Nat.le_of_ble_eq_true rfl) (Nat.le_of_ble_eq_true rfl) rfl k
theorem sX8_cutNumber_29 {E : zE} {d : Nat} {Q : zO → zM → Prop} (M : zM) (l1 : Int32) (l2 : Int64) (s0 : Int32) (k : if s0 = 0 then (Zm E YX8_cutNumber (d + 1) M [(0, vr (some (97, 1, 0))), (1, vi l1), (2, vl l2)] 80 [] Q) else (if (10 : Int32) ≤ ((gi M 97 18) - l1) then (Zm E YX8_cutNumber (d + 1) M [(0, vr (some (97, 1, 0))), (1, vi l1)] 66 [vl l2] Q) else (Zm E YX8_look d M (zargs 0 [vr (some (97, 1, 0)), vi (gi M 97 18)]) 0 [] (zma E YX8_cutNumber (d + 1) [(0, vr (some (97, 1, 0))), (1, vi l1)] 53 3 [vl ((10 : Int64) * l2)] Q)))) : Zm E YX8_cutNumber (d + 1) M [(0, vr (some (97, 1, 0))), (1, vi l1), (2, vl l2)] 29 [vi s0] Q := by
  refine Zm.br (fun _ _ k1_ k2_ => z_if_eq (tgt := 80) dX8_cutNumber_29 rfl k1_ k2_) (fun h_ => ?_) (fun h_ => ?_)
  · have k := zit h_ k
    exact k
  · have k := zif h_ k
    refine Zm.l (fun _ _ k_ => z_aload_n dX8_cutNumber_32 rfl rfl k_) ?_
    refine zm_geti dX8_cutNumber_33 fsX8_344_1 (by decide) (by decide) ?_
    refine Zm.l (fun _ _ k_ => z_iload_n dX8_cutNumber_36 rfl rfl k_) ?_
    refine Zm.l (fun _ _ k_ => z_isub dX8_cutNumber_37 k_) ?_
    refine Zm.l (fun _ _ k_ => z_bipush (v := 10) dX8_cutNumber_38 rfl k_) ?_
    refine Zm.br (fun _ _ k1_ k2_ => z_icmp_ge (tgt := 65) dX8_cutNumber_40 rfl k1_ k2_) (fun h_ => ?_) (fun h_ => ?_)
    · have k := zit h_ k
      refine Zm.l (fun _ _ k_ => z_lload_n dX8_cutNumber_65 rfl rfl k_) ?_
      refine Zm.pick [0, 1] rfl ?_
      exact k
    · have k := zif h_ k
      refine Zm.l (fun _ _ k_ => z_ldc2 (v := 10) dX8_cutNumber_43 q4030 k_) ?_
      refine Zm.l (fun _ _ k_ => z_lload_n dX8_cutNumber_46 rfl rfl k_) ?_
      refine Zm.l (fun _ _ k_ => z_lmul dX8_cutNumber_47 k_) ?_
      refine Zm.l (fun _ _ k_ => z_aload_n dX8_cutNumber_48 rfl rfl k_) ?_
      refine Zm.l (fun _ _ k_ => z_aload_n dX8_cutNumber_49 rfl rfl k_) ?_
      refine zm_geti dX8_cutNumber_50 fsX8_344_1 (by decide) (by decide) ?_
      refine Zm.pick [0, 1] rfl ?_
      exact zm_callV (as := [vi (gi M 97 18)]) (st := [vl ((10 : Int64) * l2)]) dX8_cutNumber_53 vsX8_334_1 (Nat.le_refl _) (Nat.le_of_ble_eq_true rfl) (Nat.le_of_ble_eq_true rfl) rfl k
theorem sX8_cutNumber_56 {E : zE} {d : Nat} {Q : zO → zM → Prop} (M : zM) (l1 : Int32) (s0 : Int32) (s1 : Int64) (k : Zm E YX8_cutNumber (d + 1) M [(0, vr (some (97, 1, 0))), (1, vi l1)] 66 [vl ((s1 + (s0).toInt64) - (48 : Int64))] Q) : Zm E YX8_cutNumber (d + 1) M [(0, vr (some (97, 1, 0))), (1, vi l1)] 56 [vi s0, vl s1] Q := by
  refine Zm.l (fun _ _ k_ => z_i2l dX8_cutNumber_56 k_) ?_
  refine Zm.l (fun _ _ k_ => z_ladd dX8_cutNumber_57 k_) ?_
  refine Zm.l (fun _ _ k_ => z_ldc2 (v := 48) dX8_cutNumber_58 q4031 k_) ?_
  refine Zm.l (fun _ _ k_ => z_lsub dX8_cutNumber_61 k_) ?_
  refine Zm.l (fun _ _ k_ => z_goto (tgt := 66) dX8_cutNumber_62 rfl k_) ?_
  exact k
theorem sX8_cutNumber_66 {E : zE} {d : Nat} {Q : zO → zM → Prop} (M : zM) (l1 : Int32) (s0 : Int64) (k : Zm E YX8_cutNumber (d + 1) (si M 97 18 ((gi M 97 18) + (1 : Int32))) [(0, vr (some (97, 1, 0))), (1, vi l1), (2, vl s0)] 7 [] Q) : Zm E YX8_cutNumber (d + 1) M [(0, vr (some (97, 1, 0))), (1, vi l1)] 66 [vl s0] Q := by
  refine Zm.l (fun _ _ k_ => z_lst_n dX8_cutNumber_66 rfl (by decide) (lv' := [(0, vr (some (97, 1, 0))), (1, vi l1), (2, vl s0)]) rfl k_) ?_
  refine Zm.l (fun _ _ k_ => z_aload_n dX8_cutNumber_67 rfl rfl k_) ?_
  refine Zm.l (fun _ _ k_ => z_dup dX8_cutNumber_68 rfl k_) ?_
  refine zm_geti dX8_cutNumber_69 fsX8_344_1 (by decide) (by decide) ?_
  refine Zm.l (fun _ _ k_ => z_iconst (v := 1) dX8_cutNumber_72 rfl k_) ?_
  refine Zm.l (fun _ _ k_ => z_iadd dX8_cutNumber_73 k_) ?_
  refine zm_puti (by decide) (by decide) dX8_cutNumber_74 (zfwN.w fwX8_344_1) rfl ⟨rfl, rfl⟩ ?_
  refine Zm.l (fun _ _ k_ => z_goto (tgt := 7) dX8_cutNumber_77 rfl k_) ?_
  exact k
theorem sX8_cutNumber_80 {E : zE} {d : Nat} {Q : zO → zM → Prop} (M : zM) (l1 : Int32) (l2 : Int64) (k : if (10 : Int32) < ((gi M 97 18) - l1) then (Zm E YX8_cutNumber (d + 1) M [(0, vr (some (97, 1, 0))), (2, vl l2)] 115 [vi (0 : Int32)] Q) else (if 0 < (lg_cmp l2 (2147483647 : Int64)) then (Zm E YX8_cutNumber (d + 1) M [(0, vr (some (97, 1, 0))), (2, vl l2)] 115 [vi (0 : Int32)] Q) else (Zm E YX8_isWordly d M (zargs 0 [vr (some (97, 1, 0)), vi (gi M 97 18)]) 0 [] (zma E YX8_cutNumber (d + 1) [(0, vr (some (97, 1, 0))), (2, vl l2)] 104 3 [] Q)))) : Zm E YX8_cutNumber (d + 1) M [(0, vr (some (97, 1, 0))), (1, vi l1), (2, vl l2)] 80 [] Q := by
  refine Zm.l (fun _ _ k_ => z_aload_n dX8_cutNumber_80 rfl rfl k_) ?_
  refine zm_geti dX8_cutNumber_81 fsX8_344_1 (by decide) (by decide) ?_
  refine Zm.l (fun _ _ k_ => z_iload_n dX8_cutNumber_84 rfl rfl k_) ?_
  refine Zm.l (fun _ _ k_ => z_isub dX8_cutNumber_85 k_) ?_
  refine Zm.l (fun _ _ k_ => z_bipush (v := 10) dX8_cutNumber_86 rfl k_) ?_
  refine Zm.br (fun _ _ k1_ k2_ => z_icmp_gt (tgt := 114) dX8_cutNumber_88 rfl k1_ k2_) (fun h_ => ?_) (fun h_ => ?_)
  · have k := zit h_ k
    refine Zm.l (fun _ _ k_ => z_iconst (v := 0) dX8_cutNumber_114 rfl k_) ?_
    refine Zm.pick [0, 2] rfl ?_
    exact k
  · have k := zif h_ k
    refine Zm.l (fun _ _ k_ => z_lload_n dX8_cutNumber_91 rfl rfl k_) ?_
    refine Zm.l (fun _ _ k_ => z_ldc2 (v := 2147483647) dX8_cutNumber_92 q4032 k_) ?_
    refine Zm.l (fun _ _ k_ => z_lcmp dX8_cutNumber_95 k_) ?_
    refine Zm.br (fun _ _ k1_ k2_ => z_if_gt (tgt := 114) dX8_cutNumber_96 rfl k1_ k2_) (fun h_ => ?_) (fun h_ => ?_)
    · have k := zit h_ k
      refine Zm.l (fun _ _ k_ => z_iconst (v := 0) dX8_cutNumber_114 rfl k_) ?_
      refine Zm.pick [0, 2] rfl ?_
      exact k
    · have k := zif h_ k
      refine Zm.l (fun _ _ k_ => z_aload_n dX8_cutNumber_99 rfl rfl k_) ?_
      refine Zm.l (fun _ _ k_ => z_aload_n dX8_cutNumber_100 rfl rfl k_) ?_
      refine zm_geti dX8_cutNumber_101 fsX8_344_1 (by decide) (by decide) ?_
      refine Zm.pick [0, 2] rfl ?_
      exact zm_callV (as := [vi (gi M 97 18)]) (st := []) dX8_cutNumber_104 vsX8_372_1 (Nat.le_refl _) (Nat.le_of_ble_eq_true rfl) (Nat.le_of_ble_eq_true rfl) rfl k
theorem sX8_cutNumber_107 {E : zE} {d : Nat} {Q : zO → zM → Prop} (M : zM) (l2 : Int64) (s0 : Int32) (k : if s0 = 0 then (Zm E YX8_cutNumber (d + 1) M [(0, vr (some (97, 1, 0))), (2, vl l2)] 115 [vi (1 : Int32)] Q) else (Zm E YX8_cutNumber (d + 1) M [(0, vr (some (97, 1, 0))), (2, vl l2)] 115 [vi (0 : Int32)] Q)) : Zm E YX8_cutNumber (d + 1) M [(0, vr (some (97, 1, 0))), (2, vl l2)] 107 [vi s0] Q := by
  refine Zm.brn (fun _ _ k1_ k2_ => z_if_ne (tgt := 114) dX8_cutNumber_107 rfl k1_ k2_) (fun h_ => ?_) (fun h_ => ?_)
  · have k := zif h_ k
    refine Zm.l (fun _ _ k_ => z_iconst (v := 0) dX8_cutNumber_114 rfl k_) ?_
    exact k
  · have k := zit h_ k
    refine Zm.l (fun _ _ k_ => z_iconst (v := 1) dX8_cutNumber_110 rfl k_) ?_
    refine Zm.l (fun _ _ k_ => z_goto (tgt := 115) dX8_cutNumber_111 rfl k_) ?_
    exact k
theorem sX8_cutNumber_115 {E : zE} {d : Nat} {Q : zO → zM → Prop} (M : zM) (l2 : Int64) (s0 : Int32) (k : if s0 = 0 then (Zm E YX8_cutNumber (d + 1) M [(0, vr (some (97, 1, 0))), (2, vl l2)] 136 [vi (6 : Int32), vi (gi M 97 12), vr (some (103, 100, 4002))] Q) else (Zm E YX8_cutNumber (d + 1) M [(0, vr (some (97, 1, 0))), (2, vl l2)] 136 [vi (3 : Int32), vi (gi M 97 12), vr (some (103, 100, 4002))] Q)) : Zm E YX8_cutNumber (d + 1) M [(0, vr (some (97, 1, 0))), (2, vl l2)] 115 [vi s0] Q := by
  refine Zm.l (fun _ _ k_ => z_ist dX8_cutNumber_115 (by decide) (lv' := [(0, vr (some (97, 1, 0))), (2, vl l2), (4, vi s0)]) rfl k_) ?_
  refine Zm.l (fun _ _ k_ => z_aload_n dX8_cutNumber_117 rfl rfl k_) ?_
  refine zm_getr 5 dX8_cutNumber_118 fsX8_27_1 rfl ?_
  refine Zm.l (fun _ _ k_ => z_aload_n dX8_cutNumber_121 rfl rfl k_) ?_
  refine zm_geti dX8_cutNumber_122 fsX8_350_1 (by decide) (by decide) ?_
  refine Zm.l (fun _ _ k_ => z_iload dX8_cutNumber_125 rfl k_) ?_
  refine Zm.br (fun _ _ k1_ k2_ => z_if_eq (tgt := 134) dX8_cutNumber_127 rfl k1_ k2_) (fun h_ => ?_) (fun h_ => ?_)
  · have k := zit h_ k
    refine Zm.l (fun _ _ k_ => z_bipush (v := 6) dX8_cutNumber_134 rfl k_) ?_
    refine Zm.pick [0, 1] rfl ?_
    exact k
  · have k := zif h_ k
    refine Zm.l (fun _ _ k_ => z_iconst (v := 3) dX8_cutNumber_130 rfl k_) ?_
    refine Zm.l (fun _ _ k_ => z_goto (tgt := 136) dX8_cutNumber_131 rfl k_) ?_
    refine Zm.pick [0, 1] rfl ?_
    exact k
theorem sX8_cutNumber_136 {E : zE} {d : Nat} {Q : zO → zM → Prop} (M : zM) (l2 : Int64) (s0 : Int32) (s1 : Int32) (k : vp_in s1 4002 ∧ (vp_in (gi M 97 12) 4002 ∧ (Q (.inl none) (si (si M 103 (s1).toNatClampNeg s0) 104 ((gi M 97 12)).toNatClampNeg (l2).toInt32)))) : Zm E YX8_cutNumber (d + 1) M [(0, vr (some (97, 1, 0))), (2, vl l2)] 136 [vi s0, vi s1, vr (some (103, 100, 4002))] Q := by
  obtain ⟨b_, k⟩ := k
  refine zm_iast dX8_cutNumber_136 b_ (by decide) (by decide) ?_
  refine Zm.l (fun _ _ k_ => z_aload_n dX8_cutNumber_137 rfl rfl k_) ?_
  refine zm_getr 6 dX8_cutNumber_138 fsX8_30_1 rfl ?_
  refine Zm.l (fun _ _ k_ => z_aload_n dX8_cutNumber_141 rfl rfl k_) ?_
  refine zm_geti dX8_cutNumber_142 fsX8_350_1 (by decide) (by decide) ?_
  refine Zm.l (fun _ _ k_ => z_lload_n dX8_cutNumber_145 rfl rfl k_) ?_
  refine Zm.l (fun _ _ k_ => z_l2i dX8_cutNumber_146 k_) ?_
  obtain ⟨b_, k⟩ := k
  refine zm_iast dX8_cutNumber_147 b_ (by decide) (by decide) ?_
  exact zm_vret dX8_cutNumber_148 rfl k
/-! ScriptTypesModel.cutString(I)V -/
theorem bX8_cutString_0 : zdec cX8_cutString 0 [(0, .iconst 0, 1), (1, .istore_n 2, 1), (2, .aload_n 0, 1), (3, .dup, 1), (4, .getfield 344, 3), (7, .iconst 1, 1), (8, .iadd, 1), (9, .putfield 344, 3), (12, .iconst 1, 1), (13, .istore_n 3, 1), (14, .iload_n 3, 1), (15, .ifCond .eq 181, 3), (18, .aload_n 0, 1), (19, .aload_n 0, 1), (20, .getfield 344, 3), (23, .invokevirtual 331, 3)] = true := by decide +kernel
theorem dX8_cutString_0 : decode cX8_cutString 0 = .ok (.iconst 0, 1) := zdec_at bX8_cutString_0 0 rfl
theorem dX8_cutString_1 : decode cX8_cutString 1 = .ok (.istore_n 2, 1) := zdec_at bX8_cutString_0 1 rfl
theorem dX8_cutString_2 : decode cX8_cutString 2 = .ok (.aload_n 0, 1) := zdec_at bX8_cutString_0 2 rfl
theorem dX8_cutString_3 : decode cX8_cutString 3 = .ok (.dup, 1) := zdec_at bX8_cutString_0 3 rfl
theorem dX8_cutString_4 : decode cX8_cutString 4 = .ok (.getfield 344, 3) := zdec_at bX8_cutString_0 4 rfl
theorem dX8_cutString_7 : decode cX8_cutString 7 = .ok (.iconst 1, 1) := zdec_at bX8_cutString_0 5 rfl
theorem dX8_cutString_8 : decode cX8_cutString 8 = .ok (.iadd, 1) := zdec_at bX8_cutString_0 6 rfl
theorem dX8_cutString_9 : decode cX8_cutString 9 = .ok (.putfield 344, 3) := zdec_at bX8_cutString_0 7 rfl
theorem dX8_cutString_12 : decode cX8_cutString 12 = .ok (.iconst 1, 1) := zdec_at bX8_cutString_0 8 rfl
theorem dX8_cutString_13 : decode cX8_cutString 13 = .ok (.istore_n 3, 1) := zdec_at bX8_cutString_0 9 rfl
theorem dX8_cutString_14 : decode cX8_cutString 14 = .ok (.iload_n 3, 1) := zdec_at bX8_cutString_0 10 rfl
theorem dX8_cutString_15 : decode cX8_cutString 15 = .ok (.ifCond .eq 181, 3) := zdec_at bX8_cutString_0 11 rfl
theorem dX8_cutString_18 : decode cX8_cutString 18 = .ok (.aload_n 0, 1) := zdec_at bX8_cutString_0 12 rfl
theorem dX8_cutString_19 : decode cX8_cutString 19 = .ok (.aload_n 0, 1) := zdec_at bX8_cutString_0 13 rfl
theorem dX8_cutString_20 : decode cX8_cutString 20 = .ok (.getfield 344, 3) := zdec_at bX8_cutString_0 14 rfl
theorem dX8_cutString_23 : decode cX8_cutString 23 = .ok (.invokevirtual 331, 3) := zdec_at bX8_cutString_0 15 rfl
theorem bX8_cutString_26 : zdec cX8_cutString 26 [(26, .ifCond .eq 170, 3), (29, .aload_n 0, 1), (30, .aload_n 0, 1), (31, .getfield 344, 3), (34, .invokevirtual 334, 3), (37, .iload_n 1, 1), (38, .if_icmp .eq 158, 3), (41, .aload_n 0, 1), (42, .aload_n 0, 1), (43, .getfield 344, 3), (46, .invokevirtual 334, 3), (49, .bipush 92, 2), (51, .if_icmp .ne 7, 3), (54, .iconst 1, 1), (55, .goto 4, 3), (58, .iconst 0, 1)] = true := by decide +kernel
theorem dX8_cutString_26 : decode cX8_cutString 26 = .ok (.ifCond .eq 170, 3) := zdec_at bX8_cutString_26 0 rfl
theorem dX8_cutString_29 : decode cX8_cutString 29 = .ok (.aload_n 0, 1) := zdec_at bX8_cutString_26 1 rfl
theorem dX8_cutString_30 : decode cX8_cutString 30 = .ok (.aload_n 0, 1) := zdec_at bX8_cutString_26 2 rfl
theorem dX8_cutString_31 : decode cX8_cutString 31 = .ok (.getfield 344, 3) := zdec_at bX8_cutString_26 3 rfl
theorem dX8_cutString_34 : decode cX8_cutString 34 = .ok (.invokevirtual 334, 3) := zdec_at bX8_cutString_26 4 rfl
theorem dX8_cutString_37 : decode cX8_cutString 37 = .ok (.iload_n 1, 1) := zdec_at bX8_cutString_26 5 rfl
theorem dX8_cutString_38 : decode cX8_cutString 38 = .ok (.if_icmp .eq 158, 3) := zdec_at bX8_cutString_26 6 rfl
theorem dX8_cutString_41 : decode cX8_cutString 41 = .ok (.aload_n 0, 1) := zdec_at bX8_cutString_26 7 rfl
theorem dX8_cutString_42 : decode cX8_cutString 42 = .ok (.aload_n 0, 1) := zdec_at bX8_cutString_26 8 rfl
theorem dX8_cutString_43 : decode cX8_cutString 43 = .ok (.getfield 344, 3) := zdec_at bX8_cutString_26 9 rfl
theorem dX8_cutString_46 : decode cX8_cutString 46 = .ok (.invokevirtual 334, 3) := zdec_at bX8_cutString_26 10 rfl
theorem dX8_cutString_49 : decode cX8_cutString 49 = .ok (.bipush 92, 2) := zdec_at bX8_cutString_26 11 rfl
theorem dX8_cutString_51 : decode cX8_cutString 51 = .ok (.if_icmp .ne 7, 3) := zdec_at bX8_cutString_26 12 rfl
theorem dX8_cutString_54 : decode cX8_cutString 54 = .ok (.iconst 1, 1) := zdec_at bX8_cutString_26 13 rfl
theorem dX8_cutString_55 : decode cX8_cutString 55 = .ok (.goto 4, 3) := zdec_at bX8_cutString_26 14 rfl
theorem dX8_cutString_58 : decode cX8_cutString 58 = .ok (.iconst 0, 1) := zdec_at bX8_cutString_26 15 rfl
theorem bX8_cutString_59 : zdec cX8_cutString 59 [(59, .istore 4, 2), (61, .iload 4, 2), (63, .ifCond .eq 16, 3), (66, .aload_n 0, 1), (67, .aload_n 0, 1), (68, .getfield 344, 3), (71, .iconst 1, 1), (72, .iadd, 1), (73, .invokevirtual 334, 3), (76, .goto 11, 3), (79, .aload_n 0, 1), (80, .aload_n 0, 1), (81, .getfield 344, 3), (84, .invokevirtual 334, 3), (87, .istore 5, 2), (89, .iload 4, 2)] = true := by decide +kernel
theorem dX8_cutString_59 : decode cX8_cutString 59 = .ok (.istore 4, 2) := zdec_at bX8_cutString_59 0 rfl
theorem dX8_cutString_61 : decode cX8_cutString 61 = .ok (.iload 4, 2) := zdec_at bX8_cutString_59 1 rfl
theorem dX8_cutString_63 : decode cX8_cutString 63 = .ok (.ifCond .eq 16, 3) := zdec_at bX8_cutString_59 2 rfl
theorem dX8_cutString_66 : decode cX8_cutString 66 = .ok (.aload_n 0, 1) := zdec_at bX8_cutString_59 3 rfl
theorem dX8_cutString_67 : decode cX8_cutString 67 = .ok (.aload_n 0, 1) := zdec_at bX8_cutString_59 4 rfl
theorem dX8_cutString_68 : decode cX8_cutString 68 = .ok (.getfield 344, 3) := zdec_at bX8_cutString_59 5 rfl
theorem dX8_cutString_71 : decode cX8_cutString 71 = .ok (.iconst 1, 1) := zdec_at bX8_cutString_59 6 rfl
theorem dX8_cutString_72 : decode cX8_cutString 72 = .ok (.iadd, 1) := zdec_at bX8_cutString_59 7 rfl
theorem dX8_cutString_73 : decode cX8_cutString 73 = .ok (.invokevirtual 334, 3) := zdec_at bX8_cutString_59 8 rfl
theorem dX8_cutString_76 : decode cX8_cutString 76 = .ok (.goto 11, 3) := zdec_at bX8_cutString_59 9 rfl
theorem dX8_cutString_79 : decode cX8_cutString 79 = .ok (.aload_n 0, 1) := zdec_at bX8_cutString_59 10 rfl
theorem dX8_cutString_80 : decode cX8_cutString 80 = .ok (.aload_n 0, 1) := zdec_at bX8_cutString_59 11 rfl
theorem dX8_cutString_81 : decode cX8_cutString 81 = .ok (.getfield 344, 3) := zdec_at bX8_cutString_59 12 rfl
theorem dX8_cutString_84 : decode cX8_cutString 84 = .ok (.invokevirtual 334, 3) := zdec_at bX8_cutString_59 13 rfl
theorem dX8_cutString_87 : decode cX8_cutString 87 = .ok (.istore 5, 2) := zdec_at bX8_cutString_59 14 rfl
theorem dX8_cutString_89 : decode cX8_cutString 89 = .ok (.iload 4, 2) := zdec_at bX8_cutString_59 15 rfl
theorem bX8_cutString_91 : zdec cX8_cutString 91 [(91, .ifCond .eq 60, 3), (94, .aload_n 0, 1), (95, .aload_n 0, 1), (96, .getfield 344, 3), (99, .iconst 1, 1), (100, .iadd, 1), (101, .invokevirtual 331, 3), (104, .ifCond .eq 42, 3), (107, .iload 5, 2), (109, .bipush 110, 2), (111, .if_icmp .eq 31, 3), (114, .iload 5, 2), (116, .bipush 116, 2), (118, .if_icmp .eq 24, 3), (121, .iload 5, 2), (123, .bipush 92, 2)] = true := by decide +kernel
theorem dX8_cutString_91 : decode cX8_cutString 91 = .ok (.ifCond .eq 60, 3) := zdec_at bX8_cutString_91 0 rfl
theorem dX8_cutString_94 : decode cX8_cutString 94 = .ok (.aload_n 0, 1) := zdec_at bX8_cutString_91 1 rfl
theorem dX8_cutString_95 : decode cX8_cutString 95 = .ok (.aload_n 0, 1) := zdec_at bX8_cutString_91 2 rfl
theorem dX8_cutString_96 : decode cX8_cutString 96 = .ok (.getfield 344, 3) := zdec_at bX8_cutString_91 3 rfl
theorem dX8_cutString_99 : decode cX8_cutString 99 = .ok (.iconst 1, 1) := zdec_at bX8_cutString_91 4 rfl
theorem dX8_cutString_100 : decode cX8_cutString 100 = .ok (.iadd, 1) := zdec_at bX8_cutString_91 5 rfl
theorem dX8_cutString_101 : decode cX8_cutString 101 = .ok (.invokevirtual 331, 3) := zdec_at bX8_cutString_91 6 rfl
theorem dX8_cutString_104 : decode cX8_cutString 104 = .ok (.ifCond .eq 42, 3) := zdec_at bX8_cutString_91 7 rfl
theorem dX8_cutString_107 : decode cX8_cutString 107 = .ok (.iload 5, 2) := zdec_at bX8_cutString_91 8 rfl
theorem dX8_cutString_109 : decode cX8_cutString 109 = .ok (.bipush 110, 2) := zdec_at bX8_cutString_91 9 rfl
theorem dX8_cutString_111 : decode cX8_cutString 111 = .ok (.if_icmp .eq 31, 3) := zdec_at bX8_cutString_91 10 rfl
theorem dX8_cutString_114 : decode cX8_cutString 114 = .ok (.iload 5, 2) := zdec_at bX8_cutString_91 11 rfl
theorem dX8_cutString_116 : decode cX8_cutString 116 = .ok (.bipush 116, 2) := zdec_at bX8_cutString_91 12 rfl
theorem dX8_cutString_118 : decode cX8_cutString 118 = .ok (.if_icmp .eq 24, 3) := zdec_at bX8_cutString_91 13 rfl
theorem dX8_cutString_121 : decode cX8_cutString 121 = .ok (.iload 5, 2) := zdec_at bX8_cutString_91 14 rfl
theorem dX8_cutString_123 : decode cX8_cutString 123 = .ok (.bipush 92, 2) := zdec_at bX8_cutString_91 15 rfl
theorem bX8_cutString_125 : zdec cX8_cutString 125 [(125, .if_icmp .eq 17, 3), (128, .iload 5, 2), (130, .bipush 39, 2), (132, .if_icmp .eq 10, 3), (135, .iload 5, 2), (137, .bipush 34, 2), (139, .if_icmp .ne 7, 3), (142, .iconst 1, 1), (143, .goto 4, 3), (146, .iconst 0, 1), (147, .istore_n 3, 1), (148, .goto 23, 3), (151, .iload 5, 2), (153, .bipush 32, 2), (155, .if_icmp .lt 14, 3), (158, .iload 5, 2)] = true := by decide +kernel
theorem dX8_cutString_125 : decode cX8_cutString 125 = .ok (.if_icmp .eq 17, 3) := zdec_at bX8_cutString_125 0 rfl
theorem dX8_cutString_128 : decode cX8_cutString 128 = .ok (.iload 5, 2) := zdec_at bX8_cutString_125 1 rfl
theorem dX8_cutString_130 : decode cX8_cutString 130 = .ok (.bipush 39, 2) := zdec_at bX8_cutString_125 2 rfl
theorem dX8_cutString_132 : decode cX8_cutString 132 = .ok (.if_icmp .eq 10, 3) := zdec_at bX8_cutString_125 3 rfl
theorem dX8_cutString_135 : decode cX8_cutString 135 = .ok (.iload 5, 2) := zdec_at bX8_cutString_125 4 rfl
theorem dX8_cutString_137 : decode cX8_cutString 137 = .ok (.bipush 34, 2) := zdec_at bX8_cutString_125 5 rfl
theorem dX8_cutString_139 : decode cX8_cutString 139 = .ok (.if_icmp .ne 7, 3) := zdec_at bX8_cutString_125 6 rfl
theorem dX8_cutString_142 : decode cX8_cutString 142 = .ok (.iconst 1, 1) := zdec_at bX8_cutString_125 7 rfl
theorem dX8_cutString_143 : decode cX8_cutString 143 = .ok (.goto 4, 3) := zdec_at bX8_cutString_125 8 rfl
theorem dX8_cutString_146 : decode cX8_cutString 146 = .ok (.iconst 0, 1) := zdec_at bX8_cutString_125 9 rfl
theorem dX8_cutString_147 : decode cX8_cutString 147 = .ok (.istore_n 3, 1) := zdec_at bX8_cutString_125 10 rfl
theorem dX8_cutString_148 : decode cX8_cutString 148 = .ok (.goto 23, 3) := zdec_at bX8_cutString_125 11 rfl
theorem dX8_cutString_151 : decode cX8_cutString 151 = .ok (.iload 5, 2) := zdec_at bX8_cutString_125 12 rfl
theorem dX8_cutString_153 : decode cX8_cutString 153 = .ok (.bipush 32, 2) := zdec_at bX8_cutString_125 13 rfl
theorem dX8_cutString_155 : decode cX8_cutString 155 = .ok (.if_icmp .lt 14, 3) := zdec_at bX8_cutString_125 14 rfl
theorem dX8_cutString_158 : decode cX8_cutString 158 = .ok (.iload 5, 2) := zdec_at bX8_cutString_125 15 rfl
theorem bX8_cutString_160 : zdec cX8_cutString 160 [(160, .bipush 126, 2), (162, .if_icmp .gt 7, 3), (165, .iconst 1, 1), (166, .goto 4, 3), (169, .iconst 0, 1), (170, .istore_n 3, 1), (171, .aload_n 0, 1), (172, .dup, 1), (173, .getfield 344, 3), (176, .iload 4, 2), (178, .ifCond .eq 7, 3), (181, .iconst 2, 1), (182, .goto 4, 3), (185, .iconst 1, 1), (186, .iadd, 1), (187, .putfield 344, 3)] = true := by decide +kernel
theorem dX8_cutString_160 : decode cX8_cutString 160 = .ok (.bipush 126, 2) := zdec_at bX8_cutString_160 0 rfl
theorem dX8_cutString_162 : decode cX8_cutString 162 = .ok (.if_icmp .gt 7, 3) := zdec_at bX8_cutString_160 1 rfl
theorem dX8_cutString_165 : decode cX8_cutString 165 = .ok (.iconst 1, 1) := zdec_at bX8_cutString_160 2 rfl
theorem dX8_cutString_166 : decode cX8_cutString 166 = .ok (.goto 4, 3) := zdec_at bX8_cutString_160 3 rfl
theorem dX8_cutString_169 : decode cX8_cutString 169 = .ok (.iconst 0, 1) := zdec_at bX8_cutString_160 4 rfl
theorem dX8_cutString_170 : decode cX8_cutString 170 = .ok (.istore_n 3, 1) := zdec_at bX8_cutString_160 5 rfl
theorem dX8_cutString_171 : decode cX8_cutString 171 = .ok (.aload_n 0, 1) := zdec_at bX8_cutString_160 6 rfl
theorem dX8_cutString_172 : decode cX8_cutString 172 = .ok (.dup, 1) := zdec_at bX8_cutString_160 7 rfl
theorem dX8_cutString_173 : decode cX8_cutString 173 = .ok (.getfield 344, 3) := zdec_at bX8_cutString_160 8 rfl
theorem dX8_cutString_176 : decode cX8_cutString 176 = .ok (.iload 4, 2) := zdec_at bX8_cutString_160 9 rfl
theorem dX8_cutString_178 : decode cX8_cutString 178 = .ok (.ifCond .eq 7, 3) := zdec_at bX8_cutString_160 10 rfl
theorem dX8_cutString_181 : decode cX8_cutString 181 = .ok (.iconst 2, 1) := zdec_at bX8_cutString_160 11 rfl
theorem dX8_cutString_182 : decode cX8_cutString 182 = .ok (.goto 4, 3) := zdec_at bX8_cutString_160 12 rfl
theorem dX8_cutString_185 : decode cX8_cutString 185 = .ok (.iconst 1, 1) := zdec_at bX8_cutString_160 13 rfl
theorem dX8_cutString_186 : decode cX8_cutString 186 = .ok (.iadd, 1) := zdec_at bX8_cutString_160 14 rfl
theorem dX8_cutString_187 : decode cX8_cutString 187 = .ok (.putfield 344, 3) := zdec_at bX8_cutString_160 15 rfl
theorem bX8_cutString_190 : zdec cX8_cutString 190 [(190, .iinc 2 1, 3), (193, .goto (-179), 3), (196, .aload_n 0, 1), (197, .getfield 27, 3), (200, .aload_n 0, 1), (201, .getfield 350, 3), (204, .iload_n 3, 1), (205, .ifCond .eq 24, 3), (208, .aload_n 0, 1), (209, .aload_n 0, 1), (210, .getfield 344, 3), (213, .invokevirtual 331, 3), (216, .ifCond .eq 13, 3), (219, .iload_n 2, 1), (220, .bipush 40, 2), (222, .if_icmp .gt 7, 3)] = true := by decide +kernel
theorem dX8_cutString_190 : decode cX8_cutString 190 = .ok (.iinc 2 1, 3) := zdec_at bX8_cutString_190 0 rfl
theorem dX8_cutString_193 : decode cX8_cutString 193 = .ok (.goto (-179), 3) := zdec_at bX8_cutString_190 1 rfl
theorem dX8_cutString_196 : decode cX8_cutString 196 = .ok (.aload_n 0, 1) := zdec_at bX8_cutString_190 2 rfl
theorem dX8_cutString_197 : decode cX8_cutString 197 = .ok (.getfield 27, 3) := zdec_at bX8_cutString_190 3 rfl
theorem dX8_cutString_200 : decode cX8_cutString 200 = .ok (.aload_n 0, 1) := zdec_at bX8_cutString_190 4 rfl
theorem dX8_cutString_201 : decode cX8_cutString 201 = .ok (.getfield 350, 3) := zdec_at bX8_cutString_190 5 rfl
theorem dX8_cutString_204 : decode cX8_cutString 204 = .ok (.iload_n 3, 1) := zdec_at bX8_cutString_190 6 rfl
theorem dX8_cutString_205 : decode cX8_cutString 205 = .ok (.ifCond .eq 24, 3) := zdec_at bX8_cutString_190 7 rfl
theorem dX8_cutString_208 : decode cX8_cutString 208 = .ok (.aload_n 0, 1) := zdec_at bX8_cutString_190 8 rfl
theorem dX8_cutString_209 : decode cX8_cutString 209 = .ok (.aload_n 0, 1) := zdec_at bX8_cutString_190 9 rfl
theorem dX8_cutString_210 : decode cX8_cutString 210 = .ok (.getfield 344, 3) := zdec_at bX8_cutString_190 10 rfl
theorem dX8_cutString_213 : decode cX8_cutString 213 = .ok (.invokevirtual 331, 3) := zdec_at bX8_cutString_190 11 rfl
theorem dX8_cutString_216 : decode cX8_cutString 216 = .ok (.ifCond .eq 13, 3) := zdec_at bX8_cutString_190 12 rfl
theorem dX8_cutString_219 : decode cX8_cutString 219 = .ok (.iload_n 2, 1) := zdec_at bX8_cutString_190 13 rfl
theorem dX8_cutString_220 : decode cX8_cutString 220 = .ok (.bipush 40, 2) := zdec_at bX8_cutString_190 14 rfl
theorem dX8_cutString_222 : decode cX8_cutString 222 = .ok (.if_icmp .gt 7, 3) := zdec_at bX8_cutString_190 15 rfl
theorem bX8_cutString_225 : zdec cX8_cutString 225 [(225, .iconst 4, 1), (226, .goto 5, 3), (229, .bipush 6, 2), (231, .iastore, 1), (232, .aload_n 0, 1), (233, .dup, 1), (234, .getfield 344, 3), (237, .iconst 1, 1), (238, .iadd, 1), (239, .putfield 344, 3), (242, .return_, 1)] = true := by decide +kernel
theorem dX8_cutString_225 : decode cX8_cutString 225 = .ok (.iconst 4, 1) := zdec_at bX8_cutString_225 0 rfl
theorem dX8_cutString_226 : decode cX8_cutString 226 = .ok (.goto 5, 3) := zdec_at bX8_cutString_225 1 rfl
theorem dX8_cutString_229 : decode cX8_cutString 229 = .ok (.bipush 6, 2) := zdec_at bX8_cutString_225 2 rfl
theorem dX8_cutString_231 : decode cX8_cutString 231 = .ok (.iastore, 1) := zdec_at bX8_cutString_225 3 rfl
theorem dX8_cutString_232 : decode cX8_cutString 232 = .ok (.aload_n 0, 1) := zdec_at bX8_cutString_225 4 rfl
theorem dX8_cutString_233 : decode cX8_cutString 233 = .ok (.dup, 1) := zdec_at bX8_cutString_225 5 rfl
theorem dX8_cutString_234 : decode cX8_cutString 234 = .ok (.getfield 344, 3) := zdec_at bX8_cutString_225 6 rfl
theorem dX8_cutString_237 : decode cX8_cutString 237 = .ok (.iconst 1, 1) := zdec_at bX8_cutString_225 7 rfl
theorem dX8_cutString_238 : decode cX8_cutString 238 = .ok (.iadd, 1) := zdec_at bX8_cutString_225 8 rfl
theorem dX8_cutString_239 : decode cX8_cutString 239 = .ok (.putfield 344, 3) := zdec_at bX8_cutString_225 9 rfl
theorem dX8_cutString_242 : decode cX8_cutString 242 = .ok (.return_, 1) := zdec_at bX8_cutString_225 10 rfl
theorem sX8_cutString_0 {E : zE} {d : Nat} {Q : zO → zM → Prop} (M : zM) (l1 : Int32) (k : Zm E YX8_cutString (d + 1) (si M 97 18 ((gi M 97 18) + (1 : Int32))) [(0, vr (some (97, 1, 0))), (1, vi l1), (2, vi (0 : Int32)), (3, vi (1 : Int32))] 14 [] Q) : Zm E YX8_cutString (d + 1) M [(0, vr (some (97, 1, 0))), (1, vi l1)] 0 [] Q := by
  refine Zm.l (fun _ _ k_ => z_iconst (v := 0) dX8_cutString_0 rfl k_) ?_
  refine Zm.l (fun _ _ k_ => z_ist_n dX8_cutString_1 rfl (by decide) (lv' := [(0, vr (some (97, 1, 0))), (1, vi l1), (2, vi (0 : Int32))]) rfl k_) ?_
  refine Zm.l (fun _ _ k_ => z_aload_n dX8_cutString_2 rfl rfl k_) ?_
  refine Zm.l (fun _ _ k_ => z_dup dX8_cutString_3 rfl k_) ?_
  refine zm_geti dX8_cutString_4 fsX8_344_1 (by decide) (by decide) ?_
  refine Zm.l (fun _ _ k_ => z_iconst (v := 1) dX8_cutString_7 rfl k_) ?_
  refine Zm.l (fun _ _ k_ => z_iadd dX8_cutString_8 k_) ?_
  refine zm_puti (by decide) (by decide) dX8_cutString_9 (zfwN.w fwX8_344_1) rfl ⟨rfl, rfl⟩ ?_
  refine Zm.l (fun _ _ k_ => z_iconst (v := 1) dX8_cutString_12 rfl k_) ?_
  refine Zm.l (fun _ _ k_ => z_ist_n dX8_cutString_13 rfl (by decide) (lv' := [(0, vr (some (97, 1, 0))), (1, vi l1), (2, vi (0 : Int32)), (3, vi (1 : Int32))]) rfl k_) ?_
  exact k
theorem sX8_cutString_14 {E : zE} {d : Nat} {Q : zO → zM → Prop} (M : zM) (l1 : Int32) (l2 : Int32) (l3 : Int32) (k : if l3 = 0 then (Zm E YX8_cutString (d + 1) M [(0, vr (some (97, 1, 0))), (2, vi l2), (3, vi l3)] 196 [] Q) else (Zm E YX8_isThere d M (zargs 0 [vr (some (97, 1, 0)), vi (gi M 97 18)]) 0 [] (zma E YX8_cutString (d + 1) [(0, vr (some (97, 1, 0))), (1, vi l1), (2, vi l2), (3, vi l3)] 23 3 [] Q))) : Zm E YX8_cutString (d + 1) M [(0, vr (some (97, 1, 0))), (1, vi l1), (2, vi l2), (3, vi l3)] 14 [] Q := by
  refine Zm.l (fun _ _ k_ => z_iload_n dX8_cutString_14 rfl rfl k_) ?_
  refine Zm.br (fun _ _ k1_ k2_ => z_if_eq (tgt := 196) dX8_cutString_15 rfl k1_ k2_) (fun h_ => ?_) (fun h_ => ?_)
  · have k := zit h_ k
    refine Zm.pick [0, 2, 3] rfl ?_
    exact k
  · have k := zif h_ k
    refine Zm.l (fun _ _ k_ => z_aload_n dX8_cutString_18 rfl rfl k_) ?_
    refine Zm.l (fun _ _ k_ => z_aload_n dX8_cutString_19 rfl rfl k_) ?_
    refine zm_geti dX8_cutString_20 fsX8_344_1 (by decide) (by decide) ?_
    exact zm_callV (as := [vi (gi M 97 18)]) (st := []) dX8_cutString_23 vsX8_331_1 (Nat.le_refl _) (Nat.le_of_ble_eq_true rfl) (Nat.le_of_ble_eq_true rfl) rfl k
theorem sX8_cutString_26 {E : zE} {d : Nat} {Q : zO → zM → Prop} (M : zM) (l1 : Int32) (l2 : Int32) (l3 : Int32) (s0 : Int32) (k : if s0 = 0 then (Zm E YX8_cutString (d + 1) M [(0, vr (some (97, 1, 0))), (2, vi l2), (3, vi l3)] 196 [] Q) else (Zm E YX8_look d M (zargs 0 [vr (some (97, 1, 0)), vi (gi M 97 18)]) 0 [] (zma E YX8_cutString (d + 1) [(0, vr (some (97, 1, 0))), (1, vi l1), (2, vi l2), (3, vi l3)] 34 3 [] Q))) : Zm E YX8_cutString (d + 1) M [(0, vr (some (97, 1, 0))), (1, vi l1), (2, vi l2), (3, vi l3)] 26 [vi s0] Q := by
  refine Zm.br (fun _ _ k1_ k2_ => z_if_eq (tgt := 196) dX8_cutString_26 rfl k1_ k2_) (fun h_ => ?_) (fun h_ => ?_)
  · have k := zit h_ k
    refine Zm.pick [0, 2, 3] rfl ?_
    exact k
  · have k := zif h_ k
    refine Zm.l (fun _ _ k_ => z_aload_n dX8_cutString_29 rfl rfl k_) ?_
    refine Zm.l (fun _ _ k_ => z_aload_n dX8_cutString_30 rfl rfl k_) ?_
    refine zm_geti dX8_cutString_31 fsX8_344_1 (by decide) (by decide) ?_
    exact zm_callV (as := [vi (gi M 97 18)]) (st := []) dX8_cutString_34 vsX8_334_1 (Nat.le_refl _) (Nat.le_of_ble_eq_true rfl) (Nat.le_of_ble_eq_true rfl) rfl k
theorem sX8_cutString_37 {E : zE} {d : Nat} {Q : zO → zM → Prop} (M : zM) (l1 : Int32) (l2 : Int32) (l3 : Int32) (s0 : Int32) (k : if s0 = l1 then (Zm E YX8_cutString (d + 1) M [(0, vr (some (97, 1, 0))), (2, vi l2), (3, vi l3)] 196 [] Q) else (Zm E YX8_look d M (zargs 0 [vr (some (97, 1, 0)), vi (gi M 97 18)]) 0 [] (zma E YX8_cutString (d + 1) [(0, vr (some (97, 1, 0))), (1, vi l1), (2, vi l2)] 46 3 [] Q))) : Zm E YX8_cutString (d + 1) M [(0, vr (some (97, 1, 0))), (1, vi l1), (2, vi l2), (3, vi l3)] 37 [vi s0] Q := by
  refine Zm.l (fun _ _ k_ => z_iload_n dX8_cutString_37 rfl rfl k_) ?_
  refine Zm.br (fun _ _ k1_ k2_ => z_icmp_eq (tgt := 196) dX8_cutString_38 rfl k1_ k2_) (fun h_ => ?_) (fun h_ => ?_)
  · have k := zit h_ k
    refine Zm.pick [0, 2, 3] rfl ?_
    exact k
  · have k := zif h_ k
    refine Zm.l (fun _ _ k_ => z_aload_n dX8_cutString_41 rfl rfl k_) ?_
    refine Zm.l (fun _ _ k_ => z_aload_n dX8_cutString_42 rfl rfl k_) ?_
    refine zm_geti dX8_cutString_43 fsX8_344_1 (by decide) (by decide) ?_
    refine Zm.pick [0, 1, 2] rfl ?_
    exact zm_callV (as := [vi (gi M 97 18)]) (st := []) dX8_cutString_46 vsX8_334_1 (Nat.le_refl _) (Nat.le_of_ble_eq_true rfl) (Nat.le_of_ble_eq_true rfl) rfl k
theorem sX8_cutString_49 {E : zE} {d : Nat} {Q : zO → zM → Prop} (M : zM) (l1 : Int32) (l2 : Int32) (s0 : Int32) (k : if s0 = (92 : Int32) then (Zm E YX8_cutString (d + 1) M [(0, vr (some (97, 1, 0))), (1, vi l1), (2, vi l2)] 59 [vi (1 : Int32)] Q) else (Zm E YX8_cutString (d + 1) M [(0, vr (some (97, 1, 0))), (1, vi l1), (2, vi l2)] 59 [vi (0 : Int32)] Q)) : Zm E YX8_cutString (d + 1) M [(0, vr (some (97, 1, 0))), (1, vi l1), (2, vi l2)] 49 [vi s0] Q := by
  refine Zm.l (fun _ _ k_ => z_bipush (v := 92) dX8_cutString_49 rfl k_) ?_
  refine Zm.brn (fun _ _ k1_ k2_ => z_icmp_ne (tgt := 58) dX8_cutString_51 rfl k1_ k2_) (fun h_ => ?_) (fun h_ => ?_)
  · have k := zif h_ k
    refine Zm.l (fun _ _ k_ => z_iconst (v := 0) dX8_cutString_58 rfl k_) ?_
    exact k
  · have k := zit h_ k
    refine Zm.l (fun _ _ k_ => z_iconst (v := 1) dX8_cutString_54 rfl k_) ?_
    refine Zm.l (fun _ _ k_ => z_goto (tgt := 59) dX8_cutString_55 rfl k_) ?_
    exact k
theorem sX8_cutString_59 {E : zE} {d : Nat} {Q : zO → zM → Prop} (M : zM) (l1 : Int32) (l2 : Int32) (s0 : Int32) (k : if s0 = 0 then (Zm E YX8_look d M (zargs 0 [vr (some (97, 1, 0)), vi (gi M 97 18)]) 0 [] (zma E YX8_cutString (d + 1) [(0, vr (some (97, 1, 0))), (1, vi l1), (2, vi l2), (4, vi s0)] 84 3 [] Q)) else (Zm E YX8_look d M (zargs 0 [vr (some (97, 1, 0)), vi ((gi M 97 18) + (1 : Int32))]) 0 [] (zma E YX8_cutString (d + 1) [(0, vr (some (97, 1, 0))), (1, vi l1), (2, vi l2), (4, vi s0)] 73 3 [] Q))) : Zm E YX8_cutString (d + 1) M [(0, vr (some (97, 1, 0))), (1, vi l1), (2, vi l2)] 59 [vi s0] Q := by
  refine Zm.l (fun _ _ k_ => z_ist dX8_cutString_59 (by decide) (lv' := [(0, vr (some (97, 1, 0))), (1, vi l1), (2, vi l2), (4, vi s0)]) rfl k_) ?_
  refine Zm.l (fun _ _ k_ => z_iload dX8_cutString_61 rfl k_) ?_
  refine Zm.br (fun _ _ k1_ k2_ => z_if_eq (tgt := 79) dX8_cutString_63 rfl k1_ k2_) (fun h_ => ?_) (fun h_ => ?_)
  · have k := zit h_ k
    refine Zm.l (fun _ _ k_ => z_aload_n dX8_cutString_79 rfl rfl k_) ?_
    refine Zm.l (fun _ _ k_ => z_aload_n dX8_cutString_80 rfl rfl k_) ?_
    refine zm_geti dX8_cutString_81 fsX8_344_1 (by decide) (by decide) ?_
    exact zm_callV (as := [vi (gi M 97 18)]) (st := []) dX8_cutString_84 vsX8_334_1 (Nat.le_refl _) (Nat.le_of_ble_eq_true rfl) (Nat.le_of_ble_eq_true rfl) rfl k
  · have k := zif h_ k
    refine Zm.l (fun _ _ k_ => z_aload_n dX8_cutString_66 rfl rfl k_) ?_
    refine Zm.l (fun _ _ k_ => z_aload_n dX8_cutString_67 rfl rfl k_) ?_
    refine zm_geti dX8_cutString_68 fsX8_344_1 (by decide) (by decide) ?_
    refine Zm.l (fun _ _ k_ => z_iconst (v := 1) dX8_cutString_71 rfl k_) ?_
    refine Zm.l (fun _ _ k_ => z_iadd dX8_cutString_72 k_) ?_
    exact zm_callV (as := [vi ((gi M 97 18) + (1 : Int32))]) (st := []) dX8_cutString_73 vsX8_334_1 (Nat.le_refl _) (Nat.le_of_ble_eq_true rfl) (Nat.le_of_ble_eq_true rfl) rfl k
theorem sX8_cutString_76 {E : zE} {d : Nat} {Q : zO → zM → Prop} (M : zM) (l1 : Int32) (l2 : Int32) (l4 : Int32) (s0 : Int32) (k : Zm E YX8_cutString (d + 1) M [(0, vr (some (97, 1, 0))), (1, vi l1), (2, vi l2), (4, vi l4)] 87 [vi s0] Q) : Zm E YX8_cutString (d + 1) M [(0, vr (some (97, 1, 0))), (1, vi l1), (2, vi l2), (4, vi l4)] 76 [vi s0] Q := by
  refine Zm.l (fun _ _ k_ => z_goto (tgt := 87) dX8_cutString_76 rfl k_) ?_
  exact k
theorem sX8_cutString_87 {E : zE} {d : Nat} {Q : zO → zM → Prop} (M : zM) (l1 : Int32) (l2 : Int32) (l4 : Int32) (s0 : Int32) (k : if l4 = 0 then (if s0 < (32 : Int32) then (Zm E YX8_cutString (d + 1) M [(0, vr (some (97, 1, 0))), (1, vi l1), (2, vi l2), (3, vi (0 : Int32)), (4, vi l4)] 171 [] Q) else (if (126 : Int32) < s0 then (Zm E YX8_cutString (d + 1) M [(0, vr (some (97, 1, 0))), (1, vi l1), (2, vi l2), (3, vi (0 : Int32)), (4, vi l4)] 171 [] Q) else (Zm E YX8_cutString (d + 1) M [(0, vr (some (97, 1, 0))), (1, vi l1), (2, vi l2), (3, vi (1 : Int32)), (4, vi l4)] 171 [] Q))) else (Zm E YX8_isThere d M (zargs 0 [vr (some (97, 1, 0)), vi ((gi M 97 18) + (1 : Int32))]) 0 [] (zma E YX8_cutString (d + 1) [(0, vr (some (97, 1, 0))), (1, vi l1), (2, vi l2), (4, vi l4), (5, vi s0)] 101 3 [] Q))) : Zm E YX8_cutString (d + 1) M [(0, vr (some (97, 1, 0))), (1, vi l1), (2, vi l2), (4, vi l4)] 87 [vi s0] Q := by
  refine Zm.l (fun _ _ k_ => z_ist dX8_cutString_87 (by decide) (lv' := [(0, vr (some (97, 1, 0))), (1, vi l1), (2, vi l2), (4, vi l4), (5, vi s0)]) rfl k_) ?_
  refine Zm.l (fun _ _ k_ => z_iload dX8_cutString_89 rfl k_) ?_
  refine Zm.br (fun _ _ k1_ k2_ => z_if_eq (tgt := 151) dX8_cutString_91 rfl k1_ k2_) (fun h_ => ?_) (fun h_ => ?_)
  · have k := zit h_ k
    refine Zm.l (fun _ _ k_ => z_iload dX8_cutString_151 rfl k_) ?_
    refine Zm.l (fun _ _ k_ => z_bipush (v := 32) dX8_cutString_153 rfl k_) ?_
    refine Zm.br (fun _ _ k1_ k2_ => z_icmp_lt (tgt := 169) dX8_cutString_155 rfl k1_ k2_) (fun h_ => ?_) (fun h_ => ?_)
    · have k := zit h_ k
      refine Zm.l (fun _ _ k_ => z_iconst (v := 0) dX8_cutString_169 rfl k_) ?_
      refine Zm.l (fun _ _ k_ => z_ist_n dX8_cutString_170 rfl (by decide) (lv' := [(0, vr (some (97, 1, 0))), (1, vi l1), (2, vi l2), (3, vi (0 : Int32)), (4, vi l4), (5, vi s0)]) rfl k_) ?_
      refine Zm.pick [0, 1, 2, 3, 4] rfl ?_
      exact k
    · have k := zif h_ k
      refine Zm.l (fun _ _ k_ => z_iload dX8_cutString_158 rfl k_) ?_
      refine Zm.l (fun _ _ k_ => z_bipush (v := 126) dX8_cutString_160 rfl k_) ?_
      refine Zm.br (fun _ _ k1_ k2_ => z_icmp_gt (tgt := 169) dX8_cutString_162 rfl k1_ k2_) (fun h_ => ?_) (fun h_ => ?_)
      · have k := zit h_ k
        refine Zm.l (fun _ _ k_ => z_iconst (v := 0) dX8_cutString_169 rfl k_) ?_
        refine Zm.l (fun _ _ k_ => z_ist_n dX8_cutString_170 rfl (by decide) (lv' := [(0, vr (some (97, 1, 0))), (1, vi l1), (2, vi l2), (3, vi (0 : Int32)), (4, vi l4), (5, vi s0)]) rfl k_) ?_
        refine Zm.pick [0, 1, 2, 3, 4] rfl ?_
        exact k
      · have k := zif h_ k
        refine Zm.l (fun _ _ k_ => z_iconst (v := 1) dX8_cutString_165 rfl k_) ?_
        refine Zm.l (fun _ _ k_ => z_goto (tgt := 170) dX8_cutString_166 rfl k_) ?_
        refine Zm.l (fun _ _ k_ => z_ist_n dX8_cutString_170 rfl (by decide) (lv' := [(0, vr (some (97, 1, 0))), (1, vi l1), (2, vi l2), (3, vi (1 : Int32)), (4, vi l4), (5, vi s0)]) rfl k_) ?_
        refine Zm.pick [0, 1, 2, 3, 4] rfl ?_
        exact k
  · have k := zif h_ k
    refine Zm.l (fun _ _ k_ => z_aload_n dX8_cutString_94 rfl rfl k_) ?_
    refine Zm.l (fun _ _ k_ => z_aload_n dX8_cutString_95 rfl rfl k_) ?_
    refine zm_geti dX8_cutString_96 fsX8_344_1 (by decide) (by decide) ?_
    refine Zm.l (fun _ _ k_ => z_iconst (v := 1) dX8_cutString_99 rfl k_) ?_
    refine Zm.l (fun _ _ k_ => z_iadd dX8_cutString_100 k_) ?_
    exact zm_callV (as := [vi ((gi M 97 18) + (1 : Int32))]) (st := []) dX8_cutString_101 vsX8_331_1 (Nat.le_refl _) (Nat.le_of_ble_eq_true rfl) (Nat.le_of_ble_eq_true rfl) rfl k
theorem sX8_cutString_104 {E : zE} {d : Nat} {Q : zO → zM → Prop} (M : zM) (l1 : Int32) (l2 : Int32) (l4 : Int32) (l5 : Int32) (s0 : Int32) (k : if s0 = 0 then (Zm E YX8_cutString (d + 1) M [(0, vr (some (97, 1, 0))), (1, vi l1), (2, vi l2), (3, vi (0 : Int32)), (4, vi l4)] 171 [] Q) else (if l5 = (110 : Int32) then (Zm E YX8_cutString (d + 1) M [(0, vr (some (97, 1, 0))), (1, vi l1), (2, vi l2), (3, vi (1 : Int32)), (4, vi l4)] 171 [] Q) else (if l5 = (116 : Int32) then (Zm E YX8_cutString (d + 1) M [(0, vr (some (97, 1, 0))), (1, vi l1), (2, vi l2), (3, vi (1 : Int32)), (4, vi l4)] 171 [] Q) else (if l5 = (92 : Int32) then (Zm E YX8_cutString (d + 1) M [(0, vr (some (97, 1, 0))), (1, vi l1), (2, vi l2), (3, vi (1 : Int32)), (4, vi l4)] 171 [] Q) else (if l5 = (39 : Int32) then (Zm E YX8_cutString (d + 1) M [(0, vr (some (97, 1, 0))), (1, vi l1), (2, vi l2), (3, vi (1 : Int32)), (4, vi l4)] 171 [] Q) else (if l5 = (34 : Int32) then (Zm E YX8_cutString (d + 1) M [(0, vr (some (97, 1, 0))), (1, vi l1), (2, vi l2), (3, vi (1 : Int32)), (4, vi l4)] 171 [] Q) else (Zm E YX8_cutString (d + 1) M [(0, vr (some (97, 1, 0))), (1, vi l1), (2, vi l2), (3, vi (0 : Int32)), (4, vi l4)] 171 [] Q))))))) : Zm E YX8_cutString (d + 1) M [(0, vr (some (97, 1, 0))), (1, vi l1), (2, vi l2), (4, vi l4), (5, vi l5)] 104 [vi s0] Q := by
  refine Zm.br (fun _ _ k1_ k2_ => z_if_eq (tgt := 146) dX8_cutString_104 rfl k1_ k2_) (fun h_ => ?_) (fun h_ => ?_)
  · have k := zit h_ k
    refine Zm.l (fun _ _ k_ => z_iconst (v := 0) dX8_cutString_146 rfl k_) ?_
    refine Zm.l (fun _ _ k_ => z_ist_n dX8_cutString_147 rfl (by decide) (lv' := [(0, vr (some (97, 1, 0))), (1, vi l1), (2, vi l2), (3, vi (0 : Int32)), (4, vi l4), (5, vi l5)]) rfl k_) ?_
    refine Zm.l (fun _ _ k_ => z_goto (tgt := 171) dX8_cutString_148 rfl k_) ?_
    refine Zm.pick [0, 1, 2, 3, 4] rfl ?_
    exact k
  · have k := zif h_ k
    refine Zm.l (fun _ _ k_ => z_iload dX8_cutString_107 rfl k_) ?_
    refine Zm.l (fun _ _ k_ => z_bipush (v := 110) dX8_cutString_109 rfl k_) ?_
    refine Zm.br (fun _ _ k1_ k2_ => z_icmp_eq (tgt := 142) dX8_cutString_111 rfl k1_ k2_) (fun h_ => ?_) (fun h_ => ?_)
    · have k := zit h_ k
      refine Zm.l (fun _ _ k_ => z_iconst (v := 1) dX8_cutString_142 rfl k_) ?_
      refine Zm.l (fun _ _ k_ => z_goto (tgt := 147) dX8_cutString_143 rfl k_) ?_
      refine Zm.l (fun _ _ k_ => z_ist_n dX8_cutString_147 rfl (by decide) (lv' := [(0, vr (some (97, 1, 0))), (1, vi l1), (2, vi l2), (3, vi (1 : Int32)), (4, vi l4), (5, vi l5)]) rfl k_) ?_
      refine Zm.l (fun _ _ k_ => z_goto (tgt := 171) dX8_cutString_148 rfl k_) ?_
      refine Zm.pick [0, 1, 2, 3, 4] rfl ?_
      exact k
    · have k := zif h_ k
      refine Zm.l (fun _ _ k_ => z_iload dX8_cutString_114 rfl k_) ?_
      refine Zm.l (fun _ _ k_ => z_bipush (v := 116) dX8_cutString_116 rfl k_) ?_
      refine Zm.br (fun _ _ k1_ k2_ => z_icmp_eq (tgt := 142) dX8_cutString_118 rfl k1_ k2_) (fun h_ => ?_) (fun h_ => ?_)
      · have k := zit h_ k
        refine Zm.l (fun _ _ k_ => z_iconst (v := 1) dX8_cutString_142 rfl k_) ?_
        refine Zm.l (fun _ _ k_ => z_goto (tgt := 147) dX8_cutString_143 rfl k_) ?_
        refine Zm.l (fun _ _ k_ => z_ist_n dX8_cutString_147 rfl (by decide) (lv' := [(0, vr (some (97, 1, 0))), (1, vi l1), (2, vi l2), (3, vi (1 : Int32)), (4, vi l4), (5, vi l5)]) rfl k_) ?_
        refine Zm.l (fun _ _ k_ => z_goto (tgt := 171) dX8_cutString_148 rfl k_) ?_
        refine Zm.pick [0, 1, 2, 3, 4] rfl ?_
        exact k
      · have k := zif h_ k
        refine Zm.l (fun _ _ k_ => z_iload dX8_cutString_121 rfl k_) ?_
        refine Zm.l (fun _ _ k_ => z_bipush (v := 92) dX8_cutString_123 rfl k_) ?_
        refine Zm.br (fun _ _ k1_ k2_ => z_icmp_eq (tgt := 142) dX8_cutString_125 rfl k1_ k2_) (fun h_ => ?_) (fun h_ => ?_)
        · have k := zit h_ k
          refine Zm.l (fun _ _ k_ => z_iconst (v := 1) dX8_cutString_142 rfl k_) ?_
          refine Zm.l (fun _ _ k_ => z_goto (tgt := 147) dX8_cutString_143 rfl k_) ?_
          refine Zm.l (fun _ _ k_ => z_ist_n dX8_cutString_147 rfl (by decide) (lv' := [(0, vr (some (97, 1, 0))), (1, vi l1), (2, vi l2), (3, vi (1 : Int32)), (4, vi l4), (5, vi l5)]) rfl k_) ?_
          refine Zm.l (fun _ _ k_ => z_goto (tgt := 171) dX8_cutString_148 rfl k_) ?_
          refine Zm.pick [0, 1, 2, 3, 4] rfl ?_
          exact k
        · have k := zif h_ k
          refine Zm.l (fun _ _ k_ => z_iload dX8_cutString_128 rfl k_) ?_
          refine Zm.l (fun _ _ k_ => z_bipush (v := 39) dX8_cutString_130 rfl k_) ?_
          refine Zm.br (fun _ _ k1_ k2_ => z_icmp_eq (tgt := 142) dX8_cutString_132 rfl k1_ k2_) (fun h_ => ?_) (fun h_ => ?_)
          · have k := zit h_ k
            refine Zm.l (fun _ _ k_ => z_iconst (v := 1) dX8_cutString_142 rfl k_) ?_
            refine Zm.l (fun _ _ k_ => z_goto (tgt := 147) dX8_cutString_143 rfl k_) ?_
            refine Zm.l (fun _ _ k_ => z_ist_n dX8_cutString_147 rfl (by decide) (lv' := [(0, vr (some (97, 1, 0))), (1, vi l1), (2, vi l2), (3, vi (1 : Int32)), (4, vi l4), (5, vi l5)]) rfl k_) ?_
            refine Zm.l (fun _ _ k_ => z_goto (tgt := 171) dX8_cutString_148 rfl k_) ?_
            refine Zm.pick [0, 1, 2, 3, 4] rfl ?_
            exact k
          · have k := zif h_ k
            refine Zm.l (fun _ _ k_ => z_iload dX8_cutString_135 rfl k_) ?_
            refine Zm.l (fun _ _ k_ => z_bipush (v := 34) dX8_cutString_137 rfl k_) ?_
            refine Zm.brn (fun _ _ k1_ k2_ => z_icmp_ne (tgt := 146) dX8_cutString_139 rfl k1_ k2_) (fun h_ => ?_) (fun h_ => ?_)
            · have k := zif h_ k
              refine Zm.l (fun _ _ k_ => z_iconst (v := 0) dX8_cutString_146 rfl k_) ?_
              refine Zm.l (fun _ _ k_ => z_ist_n dX8_cutString_147 rfl (by decide) (lv' := [(0, vr (some (97, 1, 0))), (1, vi l1), (2, vi l2), (3, vi (0 : Int32)), (4, vi l4), (5, vi l5)]) rfl k_) ?_
              refine Zm.l (fun _ _ k_ => z_goto (tgt := 171) dX8_cutString_148 rfl k_) ?_
              refine Zm.pick [0, 1, 2, 3, 4] rfl ?_
              exact k
            · have k := zit h_ k
              refine Zm.l (fun _ _ k_ => z_iconst (v := 1) dX8_cutString_142 rfl k_) ?_
              refine Zm.l (fun _ _ k_ => z_goto (tgt := 147) dX8_cutString_143 rfl k_) ?_
              refine Zm.l (fun _ _ k_ => z_ist_n dX8_cutString_147 rfl (by decide) (lv' := [(0, vr (some (97, 1, 0))), (1, vi l1), (2, vi l2), (3, vi (1 : Int32)), (4, vi l4), (5, vi l5)]) rfl k_) ?_
              refine Zm.l (fun _ _ k_ => z_goto (tgt := 171) dX8_cutString_148 rfl k_) ?_
              refine Zm.pick [0, 1, 2, 3, 4] rfl ?_
              exact k
theorem sX8_cutString_171 {E : zE} {d : Nat} {Q : zO → zM → Prop} (M : zM) (l1 : Int32) (l2 : Int32) (l3 : Int32) (l4 : Int32) (k : if l4 = 0 then (Zm E YX8_cutString (d + 1) (si M 97 18 ((gi M 97 18) + (1 : Int32))) [(0, vr (some (97, 1, 0))), (1, vi l1), (2, vi (l2 + (1 : Int32))), (3, vi l3)] 14 [] Q) else (Zm E YX8_cutString (d + 1) (si M 97 18 ((gi M 97 18) + (2 : Int32))) [(0, vr (some (97, 1, 0))), (1, vi l1), (2, vi (l2 + (1 : Int32))), (3, vi l3)] 14 [] Q)) : Zm E YX8_cutString (d + 1) M [(0, vr (some (97, 1, 0))), (1, vi l1), (2, vi l2), (3, vi l3), (4, vi l4)] 171 [] Q := by
  refine Zm.l (fun _ _ k_ => z_aload_n dX8_cutString_171 rfl rfl k_) ?_
  refine Zm.l (fun _ _ k_ => z_dup dX8_cutString_172 rfl k_) ?_
  refine zm_geti dX8_cutString_173 fsX8_344_1 (by decide) (by decide) ?_
  refine Zm.l (fun _ _ k_ => z_iload dX8_cutString_176 rfl k_) ?_
  refine Zm.br (fun _ _ k1_ k2_ => z_if_eq (tgt := 185) dX8_cutString_178 rfl k1_ k2_) (fun h_ => ?_) (fun h_ => ?_)
  · have k := zit h_ k
    refine Zm.l (fun _ _ k_ => z_iconst (v := 1) dX8_cutString_185 rfl k_) ?_
    refine Zm.l (fun _ _ k_ => z_iadd dX8_cutString_186 k_) ?_
    refine zm_puti (by decide) (by decide) dX8_cutString_187 (zfwN.w fwX8_344_1) rfl ⟨rfl, rfl⟩ ?_
    refine Zm.l (fun _ _ k_ => z_inc (v := (l2 + (1 : Int32))) dX8_cutString_190 rfl rfl (by decide) (lv' := [(0, vr (some (97, 1, 0))), (1, vi l1), (2, vi (l2 + (1 : Int32))), (3, vi l3), (4, vi l4)]) rfl k_) ?_
    refine Zm.l (fun _ _ k_ => z_goto (tgt := 14) dX8_cutString_193 rfl k_) ?_
    refine Zm.pick [0, 1, 2, 3] rfl ?_
    exact k
  · have k := zif h_ k
    refine Zm.l (fun _ _ k_ => z_iconst (v := 2) dX8_cutString_181 rfl k_) ?_
    refine Zm.l (fun _ _ k_ => z_goto (tgt := 186) dX8_cutString_182 rfl k_) ?_
    refine Zm.l (fun _ _ k_ => z_iadd dX8_cutString_186 k_) ?_
    refine zm_puti (by decide) (by decide) dX8_cutString_187 (zfwN.w fwX8_344_1) rfl ⟨rfl, rfl⟩ ?_
    refine Zm.l (fun _ _ k_ => z_inc (v := (l2 + (1 : Int32))) dX8_cutString_190 rfl rfl (by decide) (lv' := [(0, vr (some (97, 1, 0))), (1, vi l1), (2, vi (l2 + (1 : Int32))), (3, vi l3), (4, vi l4)]) rfl k_) ?_
    refine Zm.l (fun _ _ k_ => z_goto (tgt := 14) dX8_cutString_193 rfl k_) ?_
    refine Zm.pick [0, 1, 2, 3] rfl ?_
    exact k
theorem sX8_cutString_196 {E : zE} {d : Nat} {Q : zO → zM → Prop} (M : zM) (l2 : Int32) (l3 : Int32) (k : if l3 = 0 then (Zm E YX8_cutString (d + 1) M [(0, vr (some (97, 1, 0)))] 231 [vi (6 : Int32), vi (gi M 97 12), vr (some (103, 100, 4002))] Q) else (Zm E YX8_isThere d M (zargs 0 [vr (some (97, 1, 0)), vi (gi M 97 18)]) 0 [] (zma E YX8_cutString (d + 1) [(0, vr (some (97, 1, 0))), (2, vi l2)] 213 3 [vi (gi M 97 12), vr (some (103, 100, 4002))] Q))) : Zm E YX8_cutString (d + 1) M [(0, vr (some (97, 1, 0))), (2, vi l2), (3, vi l3)] 196 [] Q := by
  refine Zm.l (fun _ _ k_ => z_aload_n dX8_cutString_196 rfl rfl k_) ?_
  refine zm_getr 5 dX8_cutString_197 fsX8_27_1 rfl ?_
  refine Zm.l (fun _ _ k_ => z_aload_n dX8_cutString_200 rfl rfl k_) ?_
  refine zm_geti dX8_cutString_201 fsX8_350_1 (by decide) (by decide) ?_
  refine Zm.l (fun _ _ k_ => z_iload_n dX8_cutString_204 rfl rfl k_) ?_
  refine Zm.br (fun _ _ k1_ k2_ => z_if_eq (tgt := 229) dX8_cutString_205 rfl k1_ k2_) (fun h_ => ?_) (fun h_ => ?_)
  · have k := zit h_ k
    refine Zm.l (fun _ _ k_ => z_bipush (v := 6) dX8_cutString_229 rfl k_) ?_
    refine Zm.pick [0] rfl ?_
    exact k
  · have k := zif h_ k
    refine Zm.l (fun _ _ k_ => z_aload_n dX8_cutString_208 rfl rfl k_) ?_
    refine Zm.l (fun _ _ k_ => z_aload_n dX8_cutString_209 rfl rfl k_) ?_
    refine zm_geti dX8_cutString_210 fsX8_344_1 (by decide) (by decide) ?_
    refine Zm.pick [0, 1] rfl ?_
    exact zm_callV (as := [vi (gi M 97 18)]) (st := [vi (gi M 97 12), vr (some (103, 100, 4002))]) dX8_cutString_213 vsX8_331_1 (Nat.le_refl _) (Nat.le_of_ble_eq_true rfl) (Nat.le_of_ble_eq_true rfl) rfl k
theorem sX8_cutString_216 {E : zE} {d : Nat} {Q : zO → zM → Prop} (M : zM) (l2 : Int32) (s0 : Int32) (s1 : Int32) (k : if s0 = 0 then (Zm E YX8_cutString (d + 1) M [(0, vr (some (97, 1, 0)))] 231 [vi (6 : Int32), vi s1, vr (some (103, 100, 4002))] Q) else (if (40 : Int32) < l2 then (Zm E YX8_cutString (d + 1) M [(0, vr (some (97, 1, 0)))] 231 [vi (6 : Int32), vi s1, vr (some (103, 100, 4002))] Q) else (Zm E YX8_cutString (d + 1) M [(0, vr (some (97, 1, 0)))] 231 [vi (4 : Int32), vi s1, vr (some (103, 100, 4002))] Q))) : Zm E YX8_cutString (d + 1) M [(0, vr (some (97, 1, 0))), (2, vi l2)] 216 [vi s0, vi s1, vr (some (103, 100, 4002))] Q := by
  refine Zm.br (fun _ _ k1_ k2_ => z_if_eq (tgt := 229) dX8_cutString_216 rfl k1_ k2_) (fun h_ => ?_) (fun h_ => ?_)
  · have k := zit h_ k
    refine Zm.l (fun _ _ k_ => z_bipush (v := 6) dX8_cutString_229 rfl k_) ?_
    refine Zm.pick [0] rfl ?_
    exact k
  · have k := zif h_ k
    refine Zm.l (fun _ _ k_ => z_iload_n dX8_cutString_219 rfl rfl k_) ?_
    refine Zm.l (fun _ _ k_ => z_bipush (v := 40) dX8_cutString_220 rfl k_) ?_
    refine Zm.br (fun _ _ k1_ k2_ => z_icmp_gt (tgt := 229) dX8_cutString_222 rfl k1_ k2_) (fun h_ => ?_) (fun h_ => ?_)
    · have k := zit h_ k
      refine Zm.l (fun _ _ k_ => z_bipush (v := 6) dX8_cutString_229 rfl k_) ?_
      refine Zm.pick [0] rfl ?_
      exact k
    · have k := zif h_ k
      refine Zm.l (fun _ _ k_ => z_iconst (v := 4) dX8_cutString_225 rfl k_) ?_
      refine Zm.l (fun _ _ k_ => z_goto (tgt := 231) dX8_cutString_226 rfl k_) ?_
      refine Zm.pick [0] rfl ?_
      exact k
theorem sX8_cutString_231 {E : zE} {d : Nat} {Q : zO → zM → Prop} (M : zM) (s0 : Int32) (s1 : Int32) (k : vp_in s1 4002 ∧ (Q (.inl none) (si (si M 103 (s1).toNatClampNeg s0) 97 18 ((gi M 97 18) + (1 : Int32))))) : Zm E YX8_cutString (d + 1) M [(0, vr (some (97, 1, 0)))] 231 [vi s0, vi s1, vr (some (103, 100, 4002))] Q := by
  obtain ⟨b_, k⟩ := k
  refine zm_iast dX8_cutString_231 b_ (by decide) (by decide) ?_
  refine Zm.l (fun _ _ k_ => z_aload_n dX8_cutString_232 rfl rfl k_) ?_
  refine Zm.l (fun _ _ k_ => z_dup dX8_cutString_233 rfl k_) ?_
  refine zm_geti dX8_cutString_234 fsX8_344_1 (by decide) (by decide) ?_
  refine Zm.l (fun _ _ k_ => z_iconst (v := 1) dX8_cutString_237 rfl k_) ?_
  refine Zm.l (fun _ _ k_ => z_iadd dX8_cutString_238 k_) ?_
  refine zm_puti (by decide) (by decide) dX8_cutString_239 (zfwN.w fwX8_344_1) rfl ⟨rfl, rfl⟩ ?_
  exact zm_vret dX8_cutString_242 rfl k
/-! ScriptTypesModel.parts(Z)I -/
theorem bX8_parts_0 : zdec cX8_parts 0 [(0, .aload_n 0, 1), (1, .invokevirtual 509, 3), (4, .aload_n 0, 1), (5, .getfield 389, 3), (8, .ifCond .ne 67, 3), (11, .iload_n 1, 1), (12, .ifCond .eq 15, 3), (15, .aload_n 0, 1), (16, .bipush 25, 2), (18, .invokevirtual 398, 3), (21, .ifCond .eq 18, 3), (24, .goto 51, 3), (27, .aload_n 0, 1), (28, .getfield 27, 3), (31, .aload_n 0, 1), (32, .getfield 392, 3)] = true := by decide +kernel
theorem dX8_parts_0 : decode cX8_parts 0 = .ok (.aload_n 0, 1) := zdec_at bX8_parts_0 0 rfl
theorem dX8_parts_1 : decode cX8_parts 1 = .ok (.invokevirtual 509, 3) := zdec_at bX8_parts_0 1 rfl
theorem dX8_parts_4 : decode cX8_parts 4 = .ok (.aload_n 0, 1) := zdec_at bX8_parts_0 2 rfl
theorem dX8_parts_5 : decode cX8_parts 5 = .ok (.getfield 389, 3) := zdec_at bX8_parts_0 3 rfl
theorem dX8_parts_8 : decode cX8_parts 8 = .ok (.ifCond .ne 67, 3) := zdec_at bX8_parts_0 4 rfl
theorem dX8_parts_11 : decode cX8_parts 11 = .ok (.iload_n 1, 1) := zdec_at bX8_parts_0 5 rfl
theorem dX8_parts_12 : decode cX8_parts 12 = .ok (.ifCond .eq 15, 3) := zdec_at bX8_parts_0 6 rfl
theorem dX8_parts_15 : decode cX8_parts 15 = .ok (.aload_n 0, 1) := zdec_at bX8_parts_0 7 rfl
theorem dX8_parts_16 : decode cX8_parts 16 = .ok (.bipush 25, 2) := zdec_at bX8_parts_0 8 rfl
theorem dX8_parts_18 : decode cX8_parts 18 = .ok (.invokevirtual 398, 3) := zdec_at bX8_parts_0 9 rfl
theorem dX8_parts_21 : decode cX8_parts 21 = .ok (.ifCond .eq 18, 3) := zdec_at bX8_parts_0 10 rfl
theorem dX8_parts_24 : decode cX8_parts 24 = .ok (.goto 51, 3) := zdec_at bX8_parts_0 11 rfl
theorem dX8_parts_27 : decode cX8_parts 27 = .ok (.aload_n 0, 1) := zdec_at bX8_parts_0 12 rfl
theorem dX8_parts_28 : decode cX8_parts 28 = .ok (.getfield 27, 3) := zdec_at bX8_parts_0 13 rfl
theorem dX8_parts_31 : decode cX8_parts 31 = .ok (.aload_n 0, 1) := zdec_at bX8_parts_0 14 rfl
theorem dX8_parts_32 : decode cX8_parts 32 = .ok (.getfield 392, 3) := zdec_at bX8_parts_0 15 rfl
theorem bX8_parts_35 : zdec cX8_parts 35 [(35, .iaload, 1), (36, .ifCond .eq 39, 3), (39, .aload_n 0, 1), (40, .aload_n 0, 1), (41, .bipush 11, 2), (43, .invokevirtual 404, 3), (46, .ifCond .eq 19, 3), (49, .aload_n 0, 1), (50, .bipush 36, 2), (52, .aload_n 0, 1), (53, .iconst 1, 1), (54, .invokevirtual 524, 3), (57, .iconst 0, 1), (58, .iconst 0, 1), (59, .invokevirtual 446, 3), (62, .goto 7, 3)] = true := by decide +kernel
theorem dX8_parts_35 : decode cX8_parts 35 = .ok (.iaload, 1) := zdec_at bX8_parts_35 0 rfl
theorem dX8_parts_36 : decode cX8_parts 36 = .ok (.ifCond .eq 39, 3) := zdec_at bX8_parts_35 1 rfl
theorem dX8_parts_39 : decode cX8_parts 39 = .ok (.aload_n 0, 1) := zdec_at bX8_parts_35 2 rfl
theorem dX8_parts_40 : decode cX8_parts 40 = .ok (.aload_n 0, 1) := zdec_at bX8_parts_35 3 rfl
theorem dX8_parts_41 : decode cX8_parts 41 = .ok (.bipush 11, 2) := zdec_at bX8_parts_35 4 rfl
theorem dX8_parts_43 : decode cX8_parts 43 = .ok (.invokevirtual 404, 3) := zdec_at bX8_parts_35 5 rfl
theorem dX8_parts_46 : decode cX8_parts 46 = .ok (.ifCond .eq 19, 3) := zdec_at bX8_parts_35 6 rfl
theorem dX8_parts_49 : decode cX8_parts 49 = .ok (.aload_n 0, 1) := zdec_at bX8_parts_35 7 rfl
theorem dX8_parts_50 : decode cX8_parts 50 = .ok (.bipush 36, 2) := zdec_at bX8_parts_35 8 rfl
theorem dX8_parts_52 : decode cX8_parts 52 = .ok (.aload_n 0, 1) := zdec_at bX8_parts_35 9 rfl
theorem dX8_parts_53 : decode cX8_parts 53 = .ok (.iconst 1, 1) := zdec_at bX8_parts_35 10 rfl
theorem dX8_parts_54 : decode cX8_parts 54 = .ok (.invokevirtual 524, 3) := zdec_at bX8_parts_35 11 rfl
theorem dX8_parts_57 : decode cX8_parts 57 = .ok (.iconst 0, 1) := zdec_at bX8_parts_35 12 rfl
theorem dX8_parts_58 : decode cX8_parts 58 = .ok (.iconst 0, 1) := zdec_at bX8_parts_35 13 rfl
theorem dX8_parts_59 : decode cX8_parts 59 = .ok (.invokevirtual 446, 3) := zdec_at bX8_parts_35 14 rfl
theorem dX8_parts_62 : decode cX8_parts 62 = .ok (.goto 7, 3) := zdec_at bX8_parts_35 15 rfl
theorem bX8_parts_65 : zdec cX8_parts 65 [(65, .aload_n 0, 1), (66, .invokevirtual 553, 3), (69, .invokevirtual 512, 3), (72, .goto (-68), 3), (75, .aload_n 0, 1), (76, .invokevirtual 515, 3), (79, .ireturn, 1)] = true := by decide +kernel
theorem dX8_parts_65 : decode cX8_parts 65 = .ok (.aload_n 0, 1) := zdec_at bX8_parts_65 0 rfl
theorem dX8_parts_66 : decode cX8_parts 66 = .ok (.invokevirtual 553, 3) := zdec_at bX8_parts_65 1 rfl
theorem dX8_parts_69 : decode cX8_parts 69 = .ok (.invokevirtual 512, 3) := zdec_at bX8_parts_65 2 rfl
theorem dX8_parts_72 : decode cX8_parts 72 = .ok (.goto (-68), 3) := zdec_at bX8_parts_65 3 rfl
theorem dX8_parts_75 : decode cX8_parts 75 = .ok (.aload_n 0, 1) := zdec_at bX8_parts_65 4 rfl
theorem dX8_parts_76 : decode cX8_parts 76 = .ok (.invokevirtual 515, 3) := zdec_at bX8_parts_65 5 rfl
theorem dX8_parts_79 : decode cX8_parts 79 = .ok (.ireturn, 1) := zdec_at bX8_parts_65 6 rfl
theorem sX8_parts_0 {E : zE} {d : Nat} {Q : zO → zM → Prop} (M : zM) (l1 : Int32) (k : Zm E YX8_beginList d M (zargs 0 [vr (some (97, 1, 0))]) 0 [] (zma E YX8_parts (d + 1) [(0, vr (some (97, 1, 0))), (1, vi l1)] 1 3 [] Q)) : Zm E YX8_parts (d + 1) M [(0, vr (some (97, 1, 0))), (1, vi l1)] 0 [] Q := by
  refine Zm.l (fun _ _ k_ => z_aload_n dX8_parts_0 rfl rfl k_) ?_
  exact zm_callV (as := []) (st := []) dX8_parts_1 vsX8_509_1 (Nat.le_refl _) (Nat.le_of_ble_eq_true rfl) (Nat.le_of_ble_eq_true rfl) rfl k
theorem sX8_parts_4 {E : zE} {d : Nat} {Q : zO → zM → Prop} (M : zM) (l1 : Int32) (k : if (gi M 97 21) = 0 then (if l1 = 0 then (vp_in (gi M 97 20) 4002 ∧ (if (gi M 103 ((gi M 97 20)).toNatClampNeg) = 0 then (Zm E YX8_ended d M (zargs 0 [vr (some (97, 1, 0))]) 0 [] (zma E YX8_parts (d + 1) [] 76 3 [] Q)) else (Zm E YX8_isKeyword d M (zargs 0 [vr (some (97, 1, 0)), vi (11 : Int32)]) 0 [] (zma E YX8_parts (d + 1) [(0, vr (some (97, 1, 0))), (1, vi l1)] 43 3 [vr (some (97, 1, 0))] Q)))) else (Zm E YX8_isSign d M (zargs 0 [vr (some (97, 1, 0)), vi (25 : Int32)]) 0 [] (zma E YX8_parts (d + 1) [(0, vr (some (97, 1, 0))), (1, vi l1)] 18 3 [] Q))) else (Zm E YX8_ended d M (zargs 0 [vr (some (97, 1, 0))]) 0 [] (zma E YX8_parts (d + 1) [] 76 3 [] Q))) : Zm E YX8_parts (d + 1) M [(0, vr (some (97, 1, 0))), (1, vi l1)] 4 [] Q := by
  refine Zm.l (fun _ _ k_ => z_aload_n dX8_parts_4 rfl rfl k_) ?_
  refine zm_geti dX8_parts_5 fsX8_389_1 (by decide) (by decide) ?_
  refine Zm.brn (fun _ _ k1_ k2_ => z_if_ne (tgt := 75) dX8_parts_8 rfl k1_ k2_) (fun h_ => ?_) (fun h_ => ?_)
  · have k := zif h_ k
    refine Zm.l (fun _ _ k_ => z_aload_n dX8_parts_75 rfl rfl k_) ?_
    refine Zm.pick [] rfl ?_
    exact zm_callV (as := []) (st := []) dX8_parts_76 vsX8_515_1 (Nat.le_refl _) (Nat.le_of_ble_eq_true rfl) (Nat.le_of_ble_eq_true rfl) rfl k
  · have k := zit h_ k
    refine Zm.l (fun _ _ k_ => z_iload_n dX8_parts_11 rfl rfl k_) ?_
    refine Zm.br (fun _ _ k1_ k2_ => z_if_eq (tgt := 27) dX8_parts_12 rfl k1_ k2_) (fun h_ => ?_) (fun h_ => ?_)
    · have k := zit h_ k
      refine Zm.l (fun _ _ k_ => z_aload_n dX8_parts_27 rfl rfl k_) ?_
      refine zm_getr 5 dX8_parts_28 fsX8_27_1 rfl ?_
      refine Zm.l (fun _ _ k_ => z_aload_n dX8_parts_31 rfl rfl k_) ?_
      refine zm_geti dX8_parts_32 fsX8_392_1 (by decide) (by decide) ?_
      obtain ⟨b_, k⟩ := k
      refine zm_iald dX8_parts_35 b_ (by decide) (by decide) ?_
      refine Zm.br (fun _ _ k1_ k2_ => z_if_eq (tgt := 75) dX8_parts_36 rfl k1_ k2_) (fun h_ => ?_) (fun h_ => ?_)
      · have k := zit h_ k
        refine Zm.l (fun _ _ k_ => z_aload_n dX8_parts_75 rfl rfl k_) ?_
        refine Zm.pick [] rfl ?_
        exact zm_callV (as := []) (st := []) dX8_parts_76 vsX8_515_1 (Nat.le_refl _) (Nat.le_of_ble_eq_true rfl) (Nat.le_of_ble_eq_true rfl) rfl k
      · have k := zif h_ k
        refine Zm.l (fun _ _ k_ => z_aload_n dX8_parts_39 rfl rfl k_) ?_
        refine Zm.l (fun _ _ k_ => z_aload_n dX8_parts_40 rfl rfl k_) ?_
        refine Zm.l (fun _ _ k_ => z_bipush (v := 11) dX8_parts_41 rfl k_) ?_
        exact zm_callV (as := [vi (11 : Int32)]) (st := [vr (some (97, 1, 0))]) dX8_parts_43 vsX8_404_1 (Nat.le_refl _) (Nat.le_of_ble_eq_true rfl) (Nat.le_of_ble_eq_true rfl) rfl k
    · have k := zif h_ k
      refine Zm.l (fun _ _ k_ => z_aload_n dX8_parts_15 rfl rfl k_) ?_
      refine Zm.l (fun _ _ k_ => z_bipush (v := 25) dX8_parts_16 rfl k_) ?_
      exact zm_callV (as := [vi (25 : Int32)]) (st := []) dX8_parts_18 vsX8_398_1 (Nat.le_refl _) (Nat.le_of_ble_eq_true rfl) (Nat.le_of_ble_eq_true rfl) rfl k
theorem sX8_parts_21 {E : zE} {d : Nat} {Q : zO → zM → Prop} (M : zM) (l1 : Int32) (s0 : Int32) (k : if s0 = 0 then (Zm E YX8_isKeyword d M (zargs 0 [vr (some (97, 1, 0)), vi (11 : Int32)]) 0 [] (zma E YX8_parts (d + 1) [(0, vr (some (97, 1, 0))), (1, vi l1)] 43 3 [vr (some (97, 1, 0))] Q)) else (Zm E YX8_ended d M (zargs 0 [vr (some (97, 1, 0))]) 0 [] (zma E YX8_parts (d + 1) [] 76 3 [] Q))) : Zm E YX8_parts (d + 1) M [(0, vr (some (97, 1, 0))), (1, vi l1)] 21 [vi s0] Q := by
  refine Zm.br (fun _ _ k1_ k2_ => z_if_eq (tgt := 39) dX8_parts_21 rfl k1_ k2_) (fun h_ => ?_) (fun h_ => ?_)
  · have k := zit h_ k
    refine Zm.l (fun _ _ k_ => z_aload_n dX8_parts_39 rfl rfl k_) ?_
    refine Zm.l (fun _ _ k_ => z_aload_n dX8_parts_40 rfl rfl k_) ?_
    refine Zm.l (fun _ _ k_ => z_bipush (v := 11) dX8_parts_41 rfl k_) ?_
    exact zm_callV (as := [vi (11 : Int32)]) (st := [vr (some (97, 1, 0))]) dX8_parts_43 vsX8_404_1 (Nat.le_refl _) (Nat.le_of_ble_eq_true rfl) (Nat.le_of_ble_eq_true rfl) rfl k
  · have k := zif h_ k
    refine Zm.l (fun _ _ k_ => z_goto (tgt := 75) dX8_parts_24 rfl k_) ?_
    refine Zm.l (fun _ _ k_ => z_aload_n dX8_parts_75 rfl rfl k_) ?_
    refine Zm.pick [] rfl ?_
    exact zm_callV (as := []) (st := []) dX8_parts_76 vsX8_515_1 (Nat.le_refl _) (Nat.le_of_ble_eq_true rfl) (Nat.le_of_ble_eq_true rfl) rfl k
theorem sX8_parts_46 {E : zE} {d : Nat} {Q : zO → zM → Prop} (M : zM) (l1 : Int32) (s0 : Int32) (k : if s0 = 0 then (Zm E YX8_statement d M (zargs 0 [vr (some (97, 1, 0))]) 0 [] (zma E YX8_parts (d + 1) [(0, vr (some (97, 1, 0))), (1, vi l1)] 66 3 [vr (some (97, 1, 0))] Q)) else (Zm E YX8_function d M (zargs 0 [vr (some (97, 1, 0)), vi (1 : Int32)]) 0 [] (zma E YX8_parts (d + 1) [(0, vr (some (97, 1, 0))), (1, vi l1)] 54 3 [vi (36 : Int32), vr (some (97, 1, 0)), vr (some (97, 1, 0))] Q))) : Zm E YX8_parts (d + 1) M [(0, vr (some (97, 1, 0))), (1, vi l1)] 46 [vi s0, vr (some (97, 1, 0))] Q := by
  refine Zm.br (fun _ _ k1_ k2_ => z_if_eq (tgt := 65) dX8_parts_46 rfl k1_ k2_) (fun h_ => ?_) (fun h_ => ?_)
  · have k := zit h_ k
    refine Zm.l (fun _ _ k_ => z_aload_n dX8_parts_65 rfl rfl k_) ?_
    exact zm_callV (as := []) (st := [vr (some (97, 1, 0))]) dX8_parts_66 vsX8_553_1 (Nat.le_refl _) (Nat.le_of_ble_eq_true rfl) (Nat.le_of_ble_eq_true rfl) rfl k
  · have k := zif h_ k
    refine Zm.l (fun _ _ k_ => z_aload_n dX8_parts_49 rfl rfl k_) ?_
    refine Zm.l (fun _ _ k_ => z_bipush (v := 36) dX8_parts_50 rfl k_) ?_
    refine Zm.l (fun _ _ k_ => z_aload_n dX8_parts_52 rfl rfl k_) ?_
    refine Zm.l (fun _ _ k_ => z_iconst (v := 1) dX8_parts_53 rfl k_) ?_
    exact zm_callV (as := [vi (1 : Int32)]) (st := [vi (36 : Int32), vr (some (97, 1, 0)), vr (some (97, 1, 0))]) dX8_parts_54 vsX8_524_1 (Nat.le_refl _) (Nat.le_of_ble_eq_true rfl) (Nat.le_of_ble_eq_true rfl) rfl k
theorem sX8_parts_57 {E : zE} {d : Nat} {Q : zO → zM → Prop} (M : zM) (l1 : Int32) (s0 : Int32) (s1 : Int32) (k : Zm E YX8_node d M (zargs 0 [vr (some (97, 1, 0)), vi s1, vi s0, vi (0 : Int32), vi (0 : Int32)]) 0 [] (zma E YX8_parts (d + 1) [(0, vr (some (97, 1, 0))), (1, vi l1)] 59 3 [vr (some (97, 1, 0))] Q)) : Zm E YX8_parts (d + 1) M [(0, vr (some (97, 1, 0))), (1, vi l1)] 57 [vi s0, vi s1, vr (some (97, 1, 0)), vr (some (97, 1, 0))] Q := by
  refine Zm.l (fun _ _ k_ => z_iconst (v := 0) dX8_parts_57 rfl k_) ?_
  refine Zm.l (fun _ _ k_ => z_iconst (v := 0) dX8_parts_58 rfl k_) ?_
  exact zm_callV (as := [vi s1, vi s0, vi (0 : Int32), vi (0 : Int32)]) (st := [vr (some (97, 1, 0))]) dX8_parts_59 vsX8_446_1 (Nat.le_refl _) (Nat.le_of_ble_eq_true rfl) (Nat.le_of_ble_eq_true rfl) rfl k
theorem sX8_parts_62 {E : zE} {d : Nat} {Q : zO → zM → Prop} (M : zM) (l1 : Int32) (s0 : Int32) (k : Zm E YX8_parts (d + 1) M [(0, vr (some (97, 1, 0))), (1, vi l1)] 69 [vi s0, vr (some (97, 1, 0))] Q) : Zm E YX8_parts (d + 1) M [(0, vr (some (97, 1, 0))), (1, vi l1)] 62 [vi s0, vr (some (97, 1, 0))] Q := by
  refine Zm.l (fun _ _ k_ => z_goto (tgt := 69) dX8_parts_62 rfl k_) ?_
  exact k
theorem sX8_parts_69 {E : zE} {d : Nat} {Q : zO → zM → Prop} (M : zM) (l1 : Int32) (s0 : Int32) (k : Zm E YX8_add d M (zargs 0 [vr (some (97, 1, 0)), vi s0]) 0 [] (zma E YX8_parts (d + 1) [(0, vr (some (97, 1, 0))), (1, vi l1)] 69 3 [] Q)) : Zm E YX8_parts (d + 1) M [(0, vr (some (97, 1, 0))), (1, vi l1)] 69 [vi s0, vr (some (97, 1, 0))] Q := by
  exact zm_callV (as := [vi s0]) (st := []) dX8_parts_69 vsX8_512_1 (Nat.le_refl _) (Nat.le_of_ble_eq_true rfl) (Nat.le_of_ble_eq_true rfl) rfl k
theorem sX8_parts_72 {E : zE} {d : Nat} {Q : zO → zM → Prop} (M : zM) (l1 : Int32) (k : Zm E YX8_parts (d + 1) M [(0, vr (some (97, 1, 0))), (1, vi l1)] 4 [] Q) : Zm E YX8_parts (d + 1) M [(0, vr (some (97, 1, 0))), (1, vi l1)] 72 [] Q := by
  refine Zm.l (fun _ _ k_ => z_goto (tgt := 4) dX8_parts_72 rfl k_) ?_
  exact k
theorem sX8_parts_79 {E : zE} {d : Nat} {Q : zO → zM → Prop} (M : zM) (s0 : Int32) (k : Q (.inl (some (vi s0))) M) : Zm E YX8_parts (d + 1) M [] 79 [vi s0] Q := by
  exact zm_iret dX8_parts_79 rfl rfl k
/-! ScriptTypesModel.beginList()V -/
theorem bX8_beginList_0 : zdec cX8_beginList 0 [(0, .aload_n 0, 1), (1, .getfield 56, 3), (4, .aload_n 0, 1), (5, .getfield 424, 3), (8, .iconst (-1), 1), (9, .iastore, 1), (10, .aload_n 0, 1), (11, .dup, 1), (12, .getfield 424, 3), (15, .iconst 1, 1), (16, .iadd, 1), (17, .putfield 424, 3), (20, .return_, 1)] = true := by decide +kernel
theorem dX8_beginList_0 : decode cX8_beginList 0 = .ok (.aload_n 0, 1) := zdec_at bX8_beginList_0 0 rfl
theorem dX8_beginList_1 : decode cX8_beginList 1 = .ok (.getfield 56, 3) := zdec_at bX8_beginList_0 1 rfl
theorem dX8_beginList_4 : decode cX8_beginList 4 = .ok (.aload_n 0, 1) := zdec_at bX8_beginList_0 2 rfl
theorem dX8_beginList_5 : decode cX8_beginList 5 = .ok (.getfield 424, 3) := zdec_at bX8_beginList_0 3 rfl
theorem dX8_beginList_8 : decode cX8_beginList 8 = .ok (.iconst (-1), 1) := zdec_at bX8_beginList_0 4 rfl
theorem dX8_beginList_9 : decode cX8_beginList 9 = .ok (.iastore, 1) := zdec_at bX8_beginList_0 5 rfl
theorem dX8_beginList_10 : decode cX8_beginList 10 = .ok (.aload_n 0, 1) := zdec_at bX8_beginList_0 6 rfl
theorem dX8_beginList_11 : decode cX8_beginList 11 = .ok (.dup, 1) := zdec_at bX8_beginList_0 7 rfl
theorem dX8_beginList_12 : decode cX8_beginList 12 = .ok (.getfield 424, 3) := zdec_at bX8_beginList_0 8 rfl
theorem dX8_beginList_15 : decode cX8_beginList 15 = .ok (.iconst 1, 1) := zdec_at bX8_beginList_0 9 rfl
theorem dX8_beginList_16 : decode cX8_beginList 16 = .ok (.iadd, 1) := zdec_at bX8_beginList_0 10 rfl
theorem dX8_beginList_17 : decode cX8_beginList 17 = .ok (.putfield 424, 3) := zdec_at bX8_beginList_0 11 rfl
theorem dX8_beginList_20 : decode cX8_beginList 20 = .ok (.return_, 1) := zdec_at bX8_beginList_0 12 rfl
theorem sX8_beginList_0 {E : zE} {d : Nat} {Q : zO → zM → Prop} (M : zM)  (k : vp_in (gi M 97 31) 200 ∧ (Q (.inl none) (si (si M 112 ((gi M 97 31)).toNatClampNeg (-1 : Int32)) 97 31 ((gi M 97 31) + (1 : Int32))))) : Zm E YX8_beginList d M [(0, vr (some (97, 1, 0)))] 0 [] Q := by
  refine Zm.l (fun _ _ k_ => z_aload_n dX8_beginList_0 rfl rfl k_) ?_
  refine zm_getr 14 dX8_beginList_1 fsX8_56_1 rfl ?_
  refine Zm.l (fun _ _ k_ => z_aload_n dX8_beginList_4 rfl rfl k_) ?_
  refine zm_geti dX8_beginList_5 fsX8_424_1 (by decide) (by decide) ?_
  refine Zm.l (fun _ _ k_ => z_iconst (v := -1) dX8_beginList_8 rfl k_) ?_
  obtain ⟨b_, k⟩ := k
  refine zm_iast dX8_beginList_9 b_ (by decide) (by decide) ?_
  refine Zm.l (fun _ _ k_ => z_aload_n dX8_beginList_10 rfl rfl k_) ?_
  refine Zm.l (fun _ _ k_ => z_dup dX8_beginList_11 rfl k_) ?_
  refine zm_geti dX8_beginList_12 fsX8_424_1 (by decide) (by decide) ?_
  refine Zm.l (fun _ _ k_ => z_iconst (v := 1) dX8_beginList_15 rfl k_) ?_
  refine Zm.l (fun _ _ k_ => z_iadd dX8_beginList_16 k_) ?_
  refine zm_puti (by decide) (by decide) dX8_beginList_17 (zfwN.w fwX8_424_1) rfl ⟨rfl, rfl⟩ ?_
  exact zm_vret dX8_beginList_20 rfl k
/-! ScriptTypesModel.isSign(I)Z -/
theorem bX8_isSign_0 : zdec cX8_isSign 0 [(0, .aload_n 0, 1), (1, .getfield 27, 3), (4, .aload_n 0, 1), (5, .getfield 392, 3), (8, .iaload, 1), (9, .iconst 5, 1), (10, .if_icmp .ne 20, 3), (13, .aload_n 0, 1), (14, .getfield 30, 3), (17, .aload_n 0, 1), (18, .getfield 392, 3), (21, .iaload, 1), (22, .iload_n 1, 1), (23, .if_icmp .ne 7, 3), (26, .iconst 1, 1), (27, .goto 4, 3)] = true := by decide +kernel
theorem dX8_isSign_0 : decode cX8_isSign 0 = .ok (.aload_n 0, 1) := zdec_at bX8_isSign_0 0 rfl
theorem dX8_isSign_1 : decode cX8_isSign 1 = .ok (.getfield 27, 3) := zdec_at bX8_isSign_0 1 rfl
theorem dX8_isSign_4 : decode cX8_isSign 4 = .ok (.aload_n 0, 1) := zdec_at bX8_isSign_0 2 rfl
theorem dX8_isSign_5 : decode cX8_isSign 5 = .ok (.getfield 392, 3) := zdec_at bX8_isSign_0 3 rfl
theorem dX8_isSign_8 : decode cX8_isSign 8 = .ok (.iaload, 1) := zdec_at bX8_isSign_0 4 rfl
theorem dX8_isSign_9 : decode cX8_isSign 9 = .ok (.iconst 5, 1) := zdec_at bX8_isSign_0 5 rfl
theorem dX8_isSign_10 : decode cX8_isSign 10 = .ok (.if_icmp .ne 20, 3) := zdec_at bX8_isSign_0 6 rfl
theorem dX8_isSign_13 : decode cX8_isSign 13 = .ok (.aload_n 0, 1) := zdec_at bX8_isSign_0 7 rfl
theorem dX8_isSign_14 : decode cX8_isSign 14 = .ok (.getfield 30, 3) := zdec_at bX8_isSign_0 8 rfl
theorem dX8_isSign_17 : decode cX8_isSign 17 = .ok (.aload_n 0, 1) := zdec_at bX8_isSign_0 9 rfl
theorem dX8_isSign_18 : decode cX8_isSign 18 = .ok (.getfield 392, 3) := zdec_at bX8_isSign_0 10 rfl
theorem dX8_isSign_21 : decode cX8_isSign 21 = .ok (.iaload, 1) := zdec_at bX8_isSign_0 11 rfl
theorem dX8_isSign_22 : decode cX8_isSign 22 = .ok (.iload_n 1, 1) := zdec_at bX8_isSign_0 12 rfl
theorem dX8_isSign_23 : decode cX8_isSign 23 = .ok (.if_icmp .ne 7, 3) := zdec_at bX8_isSign_0 13 rfl
theorem dX8_isSign_26 : decode cX8_isSign 26 = .ok (.iconst 1, 1) := zdec_at bX8_isSign_0 14 rfl
theorem dX8_isSign_27 : decode cX8_isSign 27 = .ok (.goto 4, 3) := zdec_at bX8_isSign_0 15 rfl
theorem bX8_isSign_30 : zdec cX8_isSign 30 [(30, .iconst 0, 1), (31, .ireturn, 1)] = true := by decide +kernel
theorem dX8_isSign_30 : decode cX8_isSign 30 = .ok (.iconst 0, 1) := zdec_at bX8_isSign_30 0 rfl
theorem dX8_isSign_31 : decode cX8_isSign 31 = .ok (.ireturn, 1) := zdec_at bX8_isSign_30 1 rfl
theorem sX8_isSign_0 {E : zE} {d : Nat} {Q : zO → zM → Prop} (M : zM) (l1 : Int32) (k : vp_in (gi M 97 20) 4002 ∧ (if (gi M 103 ((gi M 97 20)).toNatClampNeg) = (5 : Int32) then (vp_in (gi M 97 20) 4002 ∧ (if (gi M 104 ((gi M 97 20)).toNatClampNeg) = l1 then (Q (.inl (some (vi (1 : Int32)))) M) else (Q (.inl (some (vi (0 : Int32)))) M))) else (Q (.inl (some (vi (0 : Int32)))) M))) : Zm E YX8_isSign d M [(0, vr (some (97, 1, 0))), (1, vi l1)] 0 [] Q := by
  refine Zm.l (fun _ _ k_ => z_aload_n dX8_isSign_0 rfl rfl k_) ?_
  refine zm_getr 5 dX8_isSign_1 fsX8_27_1 rfl ?_
  refine Zm.l (fun _ _ k_ => z_aload_n dX8_isSign_4 rfl rfl k_) ?_
  refine zm_geti dX8_isSign_5 fsX8_392_1 (by decide) (by decide) ?_
  obtain ⟨b_, k⟩ := k
  refine zm_iald dX8_isSign_8 b_ (by decide) (by decide) ?_
  refine Zm.l (fun _ _ k_ => z_iconst (v := 5) dX8_isSign_9 rfl k_) ?_
  refine Zm.brn (fun _ _ k1_ k2_ => z_icmp_ne (tgt := 30) dX8_isSign_10 rfl k1_ k2_) (fun h_ => ?_) (fun h_ => ?_)
  · have k := zif h_ k
    refine Zm.l (fun _ _ k_ => z_iconst (v := 0) dX8_isSign_30 rfl k_) ?_
    exact zm_iret dX8_isSign_31 rfl (by decide) k
  · have k := zit h_ k
    refine Zm.l (fun _ _ k_ => z_aload_n dX8_isSign_13 rfl rfl k_) ?_
    refine zm_getr 6 dX8_isSign_14 fsX8_30_1 rfl ?_
    refine Zm.l (fun _ _ k_ => z_aload_n dX8_isSign_17 rfl rfl k_) ?_
    refine zm_geti dX8_isSign_18 fsX8_392_1 (by decide) (by decide) ?_
    obtain ⟨b_, k⟩ := k
    refine zm_iald dX8_isSign_21 b_ (by decide) (by decide) ?_
    refine Zm.l (fun _ _ k_ => z_iload_n dX8_isSign_22 rfl rfl k_) ?_
    refine Zm.brn (fun _ _ k1_ k2_ => z_icmp_ne (tgt := 30) dX8_isSign_23 rfl k1_ k2_) (fun h_ => ?_) (fun h_ => ?_)
    · have k := zif h_ k
      refine Zm.l (fun _ _ k_ => z_iconst (v := 0) dX8_isSign_30 rfl k_) ?_
      exact zm_iret dX8_isSign_31 rfl (by decide) k
    · have k := zit h_ k
      refine Zm.l (fun _ _ k_ => z_iconst (v := 1) dX8_isSign_26 rfl k_) ?_
      refine Zm.l (fun _ _ k_ => z_goto (tgt := 31) dX8_isSign_27 rfl k_) ?_
      exact zm_iret dX8_isSign_31 rfl (by decide) k
/-! ScriptTypesModel.isKeyword(I)Z -/
theorem bX8_isKeyword_0 : zdec cX8_isKeyword 0 [(0, .aload_n 0, 1), (1, .getfield 27, 3), (4, .aload_n 0, 1), (5, .getfield 392, 3), (8, .iaload, 1), (9, .iconst 2, 1), (10, .if_icmp .ne 20, 3), (13, .aload_n 0, 1), (14, .getfield 30, 3), (17, .aload_n 0, 1), (18, .getfield 392, 3), (21, .iaload, 1), (22, .iload_n 1, 1), (23, .if_icmp .ne 7, 3), (26, .iconst 1, 1), (27, .goto 4, 3)] = true := by decide +kernel
theorem dX8_isKeyword_0 : decode cX8_isKeyword 0 = .ok (.aload_n 0, 1) := zdec_at bX8_isKeyword_0 0 rfl
theorem dX8_isKeyword_1 : decode cX8_isKeyword 1 = .ok (.getfield 27, 3) := zdec_at bX8_isKeyword_0 1 rfl
theorem dX8_isKeyword_4 : decode cX8_isKeyword 4 = .ok (.aload_n 0, 1) := zdec_at bX8_isKeyword_0 2 rfl
theorem dX8_isKeyword_5 : decode cX8_isKeyword 5 = .ok (.getfield 392, 3) := zdec_at bX8_isKeyword_0 3 rfl
theorem dX8_isKeyword_8 : decode cX8_isKeyword 8 = .ok (.iaload, 1) := zdec_at bX8_isKeyword_0 4 rfl
theorem dX8_isKeyword_9 : decode cX8_isKeyword 9 = .ok (.iconst 2, 1) := zdec_at bX8_isKeyword_0 5 rfl
theorem dX8_isKeyword_10 : decode cX8_isKeyword 10 = .ok (.if_icmp .ne 20, 3) := zdec_at bX8_isKeyword_0 6 rfl
theorem dX8_isKeyword_13 : decode cX8_isKeyword 13 = .ok (.aload_n 0, 1) := zdec_at bX8_isKeyword_0 7 rfl
theorem dX8_isKeyword_14 : decode cX8_isKeyword 14 = .ok (.getfield 30, 3) := zdec_at bX8_isKeyword_0 8 rfl
theorem dX8_isKeyword_17 : decode cX8_isKeyword 17 = .ok (.aload_n 0, 1) := zdec_at bX8_isKeyword_0 9 rfl
theorem dX8_isKeyword_18 : decode cX8_isKeyword 18 = .ok (.getfield 392, 3) := zdec_at bX8_isKeyword_0 10 rfl
theorem dX8_isKeyword_21 : decode cX8_isKeyword 21 = .ok (.iaload, 1) := zdec_at bX8_isKeyword_0 11 rfl
theorem dX8_isKeyword_22 : decode cX8_isKeyword 22 = .ok (.iload_n 1, 1) := zdec_at bX8_isKeyword_0 12 rfl
theorem dX8_isKeyword_23 : decode cX8_isKeyword 23 = .ok (.if_icmp .ne 7, 3) := zdec_at bX8_isKeyword_0 13 rfl
theorem dX8_isKeyword_26 : decode cX8_isKeyword 26 = .ok (.iconst 1, 1) := zdec_at bX8_isKeyword_0 14 rfl
theorem dX8_isKeyword_27 : decode cX8_isKeyword 27 = .ok (.goto 4, 3) := zdec_at bX8_isKeyword_0 15 rfl
theorem bX8_isKeyword_30 : zdec cX8_isKeyword 30 [(30, .iconst 0, 1), (31, .ireturn, 1)] = true := by decide +kernel
theorem dX8_isKeyword_30 : decode cX8_isKeyword 30 = .ok (.iconst 0, 1) := zdec_at bX8_isKeyword_30 0 rfl
theorem dX8_isKeyword_31 : decode cX8_isKeyword 31 = .ok (.ireturn, 1) := zdec_at bX8_isKeyword_30 1 rfl
theorem sX8_isKeyword_0 {E : zE} {d : Nat} {Q : zO → zM → Prop} (M : zM) (l1 : Int32) (k : vp_in (gi M 97 20) 4002 ∧ (if (gi M 103 ((gi M 97 20)).toNatClampNeg) = (2 : Int32) then (vp_in (gi M 97 20) 4002 ∧ (if (gi M 104 ((gi M 97 20)).toNatClampNeg) = l1 then (Q (.inl (some (vi (1 : Int32)))) M) else (Q (.inl (some (vi (0 : Int32)))) M))) else (Q (.inl (some (vi (0 : Int32)))) M))) : Zm E YX8_isKeyword d M [(0, vr (some (97, 1, 0))), (1, vi l1)] 0 [] Q := by
  refine Zm.l (fun _ _ k_ => z_aload_n dX8_isKeyword_0 rfl rfl k_) ?_
  refine zm_getr 5 dX8_isKeyword_1 fsX8_27_1 rfl ?_
  refine Zm.l (fun _ _ k_ => z_aload_n dX8_isKeyword_4 rfl rfl k_) ?_
  refine zm_geti dX8_isKeyword_5 fsX8_392_1 (by decide) (by decide) ?_
  obtain ⟨b_, k⟩ := k
  refine zm_iald dX8_isKeyword_8 b_ (by decide) (by decide) ?_
  refine Zm.l (fun _ _ k_ => z_iconst (v := 2) dX8_isKeyword_9 rfl k_) ?_
  refine Zm.brn (fun _ _ k1_ k2_ => z_icmp_ne (tgt := 30) dX8_isKeyword_10 rfl k1_ k2_) (fun h_ => ?_) (fun h_ => ?_)
  · have k := zif h_ k
    refine Zm.l (fun _ _ k_ => z_iconst (v := 0) dX8_isKeyword_30 rfl k_) ?_
    exact zm_iret dX8_isKeyword_31 rfl (by decide) k
  · have k := zit h_ k
    refine Zm.l (fun _ _ k_ => z_aload_n dX8_isKeyword_13 rfl rfl k_) ?_
    refine zm_getr 6 dX8_isKeyword_14 fsX8_30_1 rfl ?_
    refine Zm.l (fun _ _ k_ => z_aload_n dX8_isKeyword_17 rfl rfl k_) ?_
    refine zm_geti dX8_isKeyword_18 fsX8_392_1 (by decide) (by decide) ?_
    obtain ⟨b_, k⟩ := k
    refine zm_iald dX8_isKeyword_21 b_ (by decide) (by decide) ?_
    refine Zm.l (fun _ _ k_ => z_iload_n dX8_isKeyword_22 rfl rfl k_) ?_
    refine Zm.brn (fun _ _ k1_ k2_ => z_icmp_ne (tgt := 30) dX8_isKeyword_23 rfl k1_ k2_) (fun h_ => ?_) (fun h_ => ?_)
    · have k := zif h_ k
      refine Zm.l (fun _ _ k_ => z_iconst (v := 0) dX8_isKeyword_30 rfl k_) ?_
      exact zm_iret dX8_isKeyword_31 rfl (by decide) k
    · have k := zit h_ k
      refine Zm.l (fun _ _ k_ => z_iconst (v := 1) dX8_isKeyword_26 rfl k_) ?_
      refine Zm.l (fun _ _ k_ => z_goto (tgt := 31) dX8_isKeyword_27 rfl k_) ?_
      exact zm_iret dX8_isKeyword_31 rfl (by decide) k
/-! ScriptTypesModel.function(Z)I -/
theorem bX8_function_0 : zdec cX8_function 0 [(0, .aload_n 0, 1), (1, .iconst 1, 1), (2, .invokevirtual 450, 3), (5, .aload_n 0, 1), (6, .dup, 1), (7, .getfield 392, 3), (10, .iconst 1, 1), (11, .iadd, 1), (12, .putfield 392, 3), (15, .aload_n 0, 1), (16, .dup, 1), (17, .getfield 527, 3), (20, .iconst 1, 1), (21, .iadd, 1), (22, .putfield 527, 3), (25, .aload_n 0, 1)] = true := by decide +kernel
theorem dX8_function_0 : decode cX8_function 0 = .ok (.aload_n 0, 1) := zdec_at bX8_function_0 0 rfl
theorem dX8_function_1 : decode cX8_function 1 = .ok (.iconst 1, 1) := zdec_at bX8_function_0 1 rfl
theorem dX8_function_2 : decode cX8_function 2 = .ok (.invokevirtual 450, 3) := zdec_at bX8_function_0 2 rfl
theorem dX8_function_5 : decode cX8_function 5 = .ok (.aload_n 0, 1) := zdec_at bX8_function_0 3 rfl
theorem dX8_function_6 : decode cX8_function 6 = .ok (.dup, 1) := zdec_at bX8_function_0 4 rfl
theorem dX8_function_7 : decode cX8_function 7 = .ok (.getfield 392, 3) := zdec_at bX8_function_0 5 rfl
theorem dX8_function_10 : decode cX8_function 10 = .ok (.iconst 1, 1) := zdec_at bX8_function_0 6 rfl
theorem dX8_function_11 : decode cX8_function 11 = .ok (.iadd, 1) := zdec_at bX8_function_0 7 rfl
theorem dX8_function_12 : decode cX8_function 12 = .ok (.putfield 392, 3) := zdec_at bX8_function_0 8 rfl
theorem dX8_function_15 : decode cX8_function 15 = .ok (.aload_n 0, 1) := zdec_at bX8_function_0 9 rfl
theorem dX8_function_16 : decode cX8_function 16 = .ok (.dup, 1) := zdec_at bX8_function_0 10 rfl
theorem dX8_function_17 : decode cX8_function 17 = .ok (.getfield 527, 3) := zdec_at bX8_function_0 11 rfl
theorem dX8_function_20 : decode cX8_function 20 = .ok (.iconst 1, 1) := zdec_at bX8_function_0 12 rfl
theorem dX8_function_21 : decode cX8_function 21 = .ok (.iadd, 1) := zdec_at bX8_function_0 13 rfl
theorem dX8_function_22 : decode cX8_function 22 = .ok (.putfield 527, 3) := zdec_at bX8_function_0 14 rfl
theorem dX8_function_25 : decode cX8_function 25 = .ok (.aload_n 0, 1) := zdec_at bX8_function_0 15 rfl
theorem bX8_function_26 : zdec cX8_function 26 [(26, .getfield 527, 3), (29, .iconst 1, 1), (30, .isub, 1), (31, .istore_n 2, 1), (32, .aload_n 0, 1), (33, .getfield 427, 3), (36, .istore_n 3, 1), (37, .aload_n 0, 1), (38, .getfield 530, 3), (41, .istore 4, 2), (43, .aload_n 0, 1), (44, .getfield 533, 3), (47, .istore 5, 2), (49, .iload_n 2, 1), (50, .bipush 12, 2), (52, .if_icmp .ge 7, 3)] = true := by decide +kernel
theorem dX8_function_26 : decode cX8_function 26 = .ok (.getfield 527, 3) := zdec_at bX8_function_26 0 rfl
theorem dX8_function_29 : decode cX8_function 29 = .ok (.iconst 1, 1) := zdec_at bX8_function_26 1 rfl
theorem dX8_function_30 : decode cX8_function 30 = .ok (.isub, 1) := zdec_at bX8_function_26 2 rfl
theorem dX8_function_31 : decode cX8_function 31 = .ok (.istore_n 2, 1) := zdec_at bX8_function_26 3 rfl
theorem dX8_function_32 : decode cX8_function 32 = .ok (.aload_n 0, 1) := zdec_at bX8_function_26 4 rfl
theorem dX8_function_33 : decode cX8_function 33 = .ok (.getfield 427, 3) := zdec_at bX8_function_26 5 rfl
theorem dX8_function_36 : decode cX8_function 36 = .ok (.istore_n 3, 1) := zdec_at bX8_function_26 6 rfl
theorem dX8_function_37 : decode cX8_function 37 = .ok (.aload_n 0, 1) := zdec_at bX8_function_26 7 rfl
theorem dX8_function_38 : decode cX8_function 38 = .ok (.getfield 530, 3) := zdec_at bX8_function_26 8 rfl
theorem dX8_function_41 : decode cX8_function 41 = .ok (.istore 4, 2) := zdec_at bX8_function_26 9 rfl
theorem dX8_function_43 : decode cX8_function 43 = .ok (.aload_n 0, 1) := zdec_at bX8_function_26 10 rfl
theorem dX8_function_44 : decode cX8_function 44 = .ok (.getfield 533, 3) := zdec_at bX8_function_26 11 rfl
theorem dX8_function_47 : decode cX8_function 47 = .ok (.istore 5, 2) := zdec_at bX8_function_26 12 rfl
theorem dX8_function_49 : decode cX8_function 49 = .ok (.iload_n 2, 1) := zdec_at bX8_function_26 13 rfl
theorem dX8_function_50 : decode cX8_function 50 = .ok (.bipush 12, 2) := zdec_at bX8_function_26 14 rfl
theorem dX8_function_52 : decode cX8_function 52 = .ok (.if_icmp .ge 7, 3) := zdec_at bX8_function_26 15 rfl
theorem bX8_function_55 : zdec cX8_function 55 [(55, .iconst 1, 1), (56, .goto 4, 3), (59, .iconst 0, 1), (60, .istore 6, 2), (62, .iload_n 1, 1), (63, .ifCond .ne 16, 3), (66, .aload_n 0, 1), (67, .getfield 27, 3), (70, .aload_n 0, 1), (71, .getfield 392, 3), (74, .iaload, 1), (75, .iconst 1, 1), (76, .if_icmp .ne 10, 3), (79, .aload_n 0, 1), (80, .invokevirtual 536, 3), (83, .goto 4, 3)] = true := by decide +kernel
theorem dX8_function_55 : decode cX8_function 55 = .ok (.iconst 1, 1) := zdec_at bX8_function_55 0 rfl
theorem dX8_function_56 : decode cX8_function 56 = .ok (.goto 4, 3) := zdec_at bX8_function_55 1 rfl
theorem dX8_function_59 : decode cX8_function 59 = .ok (.iconst 0, 1) := zdec_at bX8_function_55 2 rfl
theorem dX8_function_60 : decode cX8_function 60 = .ok (.istore 6, 2) := zdec_at bX8_function_55 3 rfl
theorem dX8_function_62 : decode cX8_function 62 = .ok (.iload_n 1, 1) := zdec_at bX8_function_55 4 rfl
theorem dX8_function_63 : decode cX8_function 63 = .ok (.ifCond .ne 16, 3) := zdec_at bX8_function_55 5 rfl
theorem dX8_function_66 : decode cX8_function 66 = .ok (.aload_n 0, 1) := zdec_at bX8_function_55 6 rfl
theorem dX8_function_67 : decode cX8_function 67 = .ok (.getfield 27, 3) := zdec_at bX8_function_55 7 rfl
theorem dX8_function_70 : decode cX8_function 70 = .ok (.aload_n 0, 1) := zdec_at bX8_function_55 8 rfl
theorem dX8_function_71 : decode cX8_function 71 = .ok (.getfield 392, 3) := zdec_at bX8_function_55 9 rfl
theorem dX8_function_74 : decode cX8_function 74 = .ok (.iaload, 1) := zdec_at bX8_function_55 10 rfl
theorem dX8_function_75 : decode cX8_function 75 = .ok (.iconst 1, 1) := zdec_at bX8_function_55 11 rfl
theorem dX8_function_76 : decode cX8_function 76 = .ok (.if_icmp .ne 10, 3) := zdec_at bX8_function_55 12 rfl
theorem dX8_function_79 : decode cX8_function 79 = .ok (.aload_n 0, 1) := zdec_at bX8_function_55 13 rfl
theorem dX8_function_80 : decode cX8_function 80 = .ok (.invokevirtual 536, 3) := zdec_at bX8_function_55 14 rfl
theorem dX8_function_83 : decode cX8_function 83 = .ok (.goto 4, 3) := zdec_at bX8_function_55 15 rfl
theorem bX8_function_86 : zdec cX8_function 86 [(86, .iconst (-1), 1), (87, .istore 7, 2), (89, .iload_n 1, 1), (90, .ifCond .eq 10, 3), (93, .aload_n 0, 1), (94, .iload 7, 2), (96, .iconst 1, 1), (97, .invokevirtual 539, 3), (100, .aload_n 0, 1), (101, .iload_n 2, 1), (102, .putfield 427, 3), (105, .aload_n 0, 1), (106, .iconst 0, 1), (107, .putfield 530, 3), (110, .aload_n 0, 1), (111, .iconst 0, 1)] = true := by decide +kernel
theorem dX8_function_86 : decode cX8_function 86 = .ok (.iconst (-1), 1) := zdec_at bX8_function_86 0 rfl
theorem dX8_function_87 : decode cX8_function 87 = .ok (.istore 7, 2) := zdec_at bX8_function_86 1 rfl
theorem dX8_function_89 : decode cX8_function 89 = .ok (.iload_n 1, 1) := zdec_at bX8_function_86 2 rfl
theorem dX8_function_90 : decode cX8_function 90 = .ok (.ifCond .eq 10, 3) := zdec_at bX8_function_86 3 rfl
theorem dX8_function_93 : decode cX8_function 93 = .ok (.aload_n 0, 1) := zdec_at bX8_function_86 4 rfl
theorem dX8_function_94 : decode cX8_function 94 = .ok (.iload 7, 2) := zdec_at bX8_function_86 5 rfl
theorem dX8_function_96 : decode cX8_function 96 = .ok (.iconst 1, 1) := zdec_at bX8_function_86 6 rfl
theorem dX8_function_97 : decode cX8_function 97 = .ok (.invokevirtual 539, 3) := zdec_at bX8_function_86 7 rfl
theorem dX8_function_100 : decode cX8_function 100 = .ok (.aload_n 0, 1) := zdec_at bX8_function_86 8 rfl
theorem dX8_function_101 : decode cX8_function 101 = .ok (.iload_n 2, 1) := zdec_at bX8_function_86 9 rfl
theorem dX8_function_102 : decode cX8_function 102 = .ok (.putfield 427, 3) := zdec_at bX8_function_86 10 rfl
theorem dX8_function_105 : decode cX8_function 105 = .ok (.aload_n 0, 1) := zdec_at bX8_function_86 11 rfl
theorem dX8_function_106 : decode cX8_function 106 = .ok (.iconst 0, 1) := zdec_at bX8_function_86 12 rfl
theorem dX8_function_107 : decode cX8_function 107 = .ok (.putfield 530, 3) := zdec_at bX8_function_86 13 rfl
theorem dX8_function_110 : decode cX8_function 110 = .ok (.aload_n 0, 1) := zdec_at bX8_function_86 14 rfl
theorem dX8_function_111 : decode cX8_function 111 = .ok (.iconst 0, 1) := zdec_at bX8_function_86 15 rfl
theorem bX8_function_112 : zdec cX8_function 112 [(112, .putfield 533, 3), (115, .iload 6, 2), (117, .ifCond .eq 39, 3), (120, .aload_n 0, 1), (121, .getfield 62, 3), (124, .iload_n 2, 1), (125, .iload 7, 2), (127, .iastore, 1), (128, .aload_n 0, 1), (129, .getfield 65, 3), (132, .iload_n 2, 1), (133, .iload_n 1, 1), (134, .bastore, 1), (135, .aload_n 0, 1), (136, .getfield 74, 3), (139, .iload_n 2, 1)] = true := by decide +kernel
theorem dX8_function_112 : decode cX8_function 112 = .ok (.putfield 533, 3) := zdec_at bX8_function_112 0 rfl
theorem dX8_function_115 : decode cX8_function 115 = .ok (.iload 6, 2) := zdec_at bX8_function_112 1 rfl
theorem dX8_function_117 : decode cX8_function 117 = .ok (.ifCond .eq 39, 3) := zdec_at bX8_function_112 2 rfl
theorem dX8_function_120 : decode cX8_function 120 = .ok (.aload_n 0, 1) := zdec_at bX8_function_112 3 rfl
theorem dX8_function_121 : decode cX8_function 121 = .ok (.getfield 62, 3) := zdec_at bX8_function_112 4 rfl
theorem dX8_function_124 : decode cX8_function 124 = .ok (.iload_n 2, 1) := zdec_at bX8_function_112 5 rfl
theorem dX8_function_125 : decode cX8_function 125 = .ok (.iload 7, 2) := zdec_at bX8_function_112 6 rfl
theorem dX8_function_127 : decode cX8_function 127 = .ok (.iastore, 1) := zdec_at bX8_function_112 7 rfl
theorem dX8_function_128 : decode cX8_function 128 = .ok (.aload_n 0, 1) := zdec_at bX8_function_112 8 rfl
theorem dX8_function_129 : decode cX8_function 129 = .ok (.getfield 65, 3) := zdec_at bX8_function_112 9 rfl
theorem dX8_function_132 : decode cX8_function 132 = .ok (.iload_n 2, 1) := zdec_at bX8_function_112 10 rfl
theorem dX8_function_133 : decode cX8_function 133 = .ok (.iload_n 1, 1) := zdec_at bX8_function_112 11 rfl
theorem dX8_function_134 : decode cX8_function 134 = .ok (.bastore, 1) := zdec_at bX8_function_112 12 rfl
theorem dX8_function_135 : decode cX8_function 135 = .ok (.aload_n 0, 1) := zdec_at bX8_function_112 13 rfl
theorem dX8_function_136 : decode cX8_function 136 = .ok (.getfield 74, 3) := zdec_at bX8_function_112 14 rfl
theorem dX8_function_139 : decode cX8_function 139 = .ok (.iload_n 2, 1) := zdec_at bX8_function_112 15 rfl
theorem bX8_function_140 : zdec cX8_function 140 [(140, .iload_n 3, 1), (141, .iastore, 1), (142, .aload_n 0, 1), (143, .getfield 83, 3), (146, .iload_n 2, 1), (147, .iconst 0, 1), (148, .iastore, 1), (149, .aload_n 0, 1), (150, .getfield 71, 3), (153, .iload_n 2, 1), (154, .iconst 0, 1), (155, .iastore, 1), (156, .aload_n 0, 1), (157, .iload_n 2, 1), (158, .invokevirtual 543, 3), (161, .aload_n 0, 1)] = true := by decide +kernel
theorem dX8_function_140 : decode cX8_function 140 = .ok (.iload_n 3, 1) := zdec_at bX8_function_140 0 rfl
theorem dX8_function_141 : decode cX8_function 141 = .ok (.iastore, 1) := zdec_at bX8_function_140 1 rfl
theorem dX8_function_142 : decode cX8_function 142 = .ok (.aload_n 0, 1) := zdec_at bX8_function_140 2 rfl
theorem dX8_function_143 : decode cX8_function 143 = .ok (.getfield 83, 3) := zdec_at bX8_function_140 3 rfl
theorem dX8_function_146 : decode cX8_function 146 = .ok (.iload_n 2, 1) := zdec_at bX8_function_140 4 rfl
theorem dX8_function_147 : decode cX8_function 147 = .ok (.iconst 0, 1) := zdec_at bX8_function_140 5 rfl
theorem dX8_function_148 : decode cX8_function 148 = .ok (.iastore, 1) := zdec_at bX8_function_140 6 rfl
theorem dX8_function_149 : decode cX8_function 149 = .ok (.aload_n 0, 1) := zdec_at bX8_function_140 7 rfl
theorem dX8_function_150 : decode cX8_function 150 = .ok (.getfield 71, 3) := zdec_at bX8_function_140 8 rfl
theorem dX8_function_153 : decode cX8_function 153 = .ok (.iload_n 2, 1) := zdec_at bX8_function_140 9 rfl
theorem dX8_function_154 : decode cX8_function 154 = .ok (.iconst 0, 1) := zdec_at bX8_function_140 10 rfl
theorem dX8_function_155 : decode cX8_function 155 = .ok (.iastore, 1) := zdec_at bX8_function_140 11 rfl
theorem dX8_function_156 : decode cX8_function 156 = .ok (.aload_n 0, 1) := zdec_at bX8_function_140 12 rfl
theorem dX8_function_157 : decode cX8_function 157 = .ok (.iload_n 2, 1) := zdec_at bX8_function_140 13 rfl
theorem dX8_function_158 : decode cX8_function 158 = .ok (.invokevirtual 543, 3) := zdec_at bX8_function_140 14 rfl
theorem dX8_function_161 : decode cX8_function 161 = .ok (.aload_n 0, 1) := zdec_at bX8_function_140 15 rfl
theorem bX8_function_162 : zdec cX8_function 162 [(162, .bipush 24, 2), (164, .invokevirtual 473, 3), (167, .ifCond .eq 11, 3), (170, .aload_n 0, 1), (171, .iconst 1, 1), (172, .invokevirtual 546, 3), (175, .goto 4, 3), (178, .iconst (-1), 1), (179, .istore 8, 2), (181, .iload 6, 2), (183, .ifCond .eq 11, 3), (186, .aload_n 0, 1), (187, .getfield 77, 3), (190, .iload_n 2, 1), (191, .iload 8, 2), (193, .iastore, 1)] = true := by decide +kernel
theorem dX8_function_162 : decode cX8_function 162 = .ok (.bipush 24, 2) := zdec_at bX8_function_162 0 rfl
theorem dX8_function_164 : decode cX8_function 164 = .ok (.invokevirtual 473, 3) := zdec_at bX8_function_162 1 rfl
theorem dX8_function_167 : decode cX8_function 167 = .ok (.ifCond .eq 11, 3) := zdec_at bX8_function_162 2 rfl
theorem dX8_function_170 : decode cX8_function 170 = .ok (.aload_n 0, 1) := zdec_at bX8_function_162 3 rfl
theorem dX8_function_171 : decode cX8_function 171 = .ok (.iconst 1, 1) := zdec_at bX8_function_162 4 rfl
theorem dX8_function_172 : decode cX8_function 172 = .ok (.invokevirtual 546, 3) := zdec_at bX8_function_162 5 rfl
theorem dX8_function_175 : decode cX8_function 175 = .ok (.goto 4, 3) := zdec_at bX8_function_162 6 rfl
theorem dX8_function_178 : decode cX8_function 178 = .ok (.iconst (-1), 1) := zdec_at bX8_function_162 7 rfl
theorem dX8_function_179 : decode cX8_function 179 = .ok (.istore 8, 2) := zdec_at bX8_function_162 8 rfl
theorem dX8_function_181 : decode cX8_function 181 = .ok (.iload 6, 2) := zdec_at bX8_function_162 9 rfl
theorem dX8_function_183 : decode cX8_function 183 = .ok (.ifCond .eq 11, 3) := zdec_at bX8_function_162 10 rfl
theorem dX8_function_186 : decode cX8_function 186 = .ok (.aload_n 0, 1) := zdec_at bX8_function_162 11 rfl
theorem dX8_function_187 : decode cX8_function 187 = .ok (.getfield 77, 3) := zdec_at bX8_function_162 12 rfl
theorem dX8_function_190 : decode cX8_function 190 = .ok (.iload_n 2, 1) := zdec_at bX8_function_162 13 rfl
theorem dX8_function_191 : decode cX8_function 191 = .ok (.iload 8, 2) := zdec_at bX8_function_162 14 rfl
theorem dX8_function_193 : decode cX8_function 193 = .ok (.iastore, 1) := zdec_at bX8_function_162 15 rfl
theorem bX8_function_194 : zdec cX8_function 194 [(194, .aload_n 0, 1), (195, .iload_n 3, 1), (196, .putfield 427, 3), (199, .aload_n 0, 1), (200, .iload 4, 2), (202, .putfield 530, 3), (205, .aload_n 0, 1), (206, .iload 5, 2), (208, .putfield 533, 3), (211, .aload_n 0, 1), (212, .invokevirtual 454, 3), (215, .aload_n 0, 1), (216, .bipush 25, 2), (218, .invokevirtual 473, 3), (221, .istore 9, 2), (223, .iload_n 2, 1)] = true := by decide +kernel
theorem dX8_function_194 : decode cX8_function 194 = .ok (.aload_n 0, 1) := zdec_at bX8_function_194 0 rfl
theorem dX8_function_195 : decode cX8_function 195 = .ok (.iload_n 3, 1) := zdec_at bX8_function_194 1 rfl
theorem dX8_function_196 : decode cX8_function 196 = .ok (.putfield 427, 3) := zdec_at bX8_function_194 2 rfl
theorem dX8_function_199 : decode cX8_function 199 = .ok (.aload_n 0, 1) := zdec_at bX8_function_194 3 rfl
theorem dX8_function_200 : decode cX8_function 200 = .ok (.iload 4, 2) := zdec_at bX8_function_194 4 rfl
theorem dX8_function_202 : decode cX8_function 202 = .ok (.putfield 530, 3) := zdec_at bX8_function_194 5 rfl
theorem dX8_function_205 : decode cX8_function 205 = .ok (.aload_n 0, 1) := zdec_at bX8_function_194 6 rfl
theorem dX8_function_206 : decode cX8_function 206 = .ok (.iload 5, 2) := zdec_at bX8_function_194 7 rfl
theorem dX8_function_208 : decode cX8_function 208 = .ok (.putfield 533, 3) := zdec_at bX8_function_194 8 rfl
theorem dX8_function_211 : decode cX8_function 211 = .ok (.aload_n 0, 1) := zdec_at bX8_function_194 9 rfl
theorem dX8_function_212 : decode cX8_function 212 = .ok (.invokevirtual 454, 3) := zdec_at bX8_function_194 10 rfl
theorem dX8_function_215 : decode cX8_function 215 = .ok (.aload_n 0, 1) := zdec_at bX8_function_194 11 rfl
theorem dX8_function_216 : decode cX8_function 216 = .ok (.bipush 25, 2) := zdec_at bX8_function_194 12 rfl
theorem dX8_function_218 : decode cX8_function 218 = .ok (.invokevirtual 473, 3) := zdec_at bX8_function_194 13 rfl
theorem dX8_function_221 : decode cX8_function 221 = .ok (.istore 9, 2) := zdec_at bX8_function_194 14 rfl
theorem dX8_function_223 : decode cX8_function 223 = .ok (.iload_n 2, 1) := zdec_at bX8_function_194 15 rfl
theorem bX8_function_224 : zdec cX8_function 224 [(224, .ireturn, 1)] = true := by decide +kernel
theorem dX8_function_224 : decode cX8_function 224 = .ok (.ireturn, 1) := zdec_at bX8_function_224 0 rfl
theorem sX8_function_0 {E : zE} {d : Nat} {Q : zO → zM → Prop} (M : zM) (l1 : Int32) (k : Zm E YX8_open d M (zargs 0 [vr (some (97, 1, 0)), vi (1 : Int32)]) 0 [] (zma E YX8_function (d + 1) [(0, vr (some (97, 1, 0))), (1, vi l1)] 2 3 [] Q)) : Zm E YX8_function (d + 1) M [(0, vr (some (97, 1, 0))), (1, vi l1)] 0 [] Q := by
  refine Zm.l (fun _ _ k_ => z_aload_n dX8_function_0 rfl rfl k_) ?_
  refine Zm.l (fun _ _ k_ => z_iconst (v := 1) dX8_function_1 rfl k_) ?_
  exact zm_callV (as := [vi (1 : Int32)]) (st := []) dX8_function_2 vsX8_450_1 (Nat.le_refl _) (Nat.le_of_ble_eq_true rfl) (Nat.le_of_ble_eq_true rfl) rfl k
theorem sX8_function_5 {E : zE} {d : Nat} {Q : zO → zM → Prop} (M : zM) (l1 : Int32) (k : if (12 : Int32) ≤ (((gi M 97 32) + (1 : Int32)) - (1 : Int32)) then (Zm E YX8_function (d + 1) (si (si M 97 20 ((gi M 97 20) + (1 : Int32))) 97 32 ((gi M 97 32) + (1 : Int32))) [(0, vr (some (97, 1, 0))), (1, vi l1), (2, vi (((gi M 97 32) + (1 : Int32)) - (1 : Int32))), (3, vi (gi M 97 43)), (4, vi (gi M 97 44)), (5, vi (gi M 97 45))] 60 [vi (0 : Int32)] Q) else (Zm E YX8_function (d + 1) (si (si M 97 20 ((gi M 97 20) + (1 : Int32))) 97 32 ((gi M 97 32) + (1 : Int32))) [(0, vr (some (97, 1, 0))), (1, vi l1), (2, vi (((gi M 97 32) + (1 : Int32)) - (1 : Int32))), (3, vi (gi M 97 43)), (4, vi (gi M 97 44)), (5, vi (gi M 97 45))] 60 [vi (1 : Int32)] Q)) : Zm E YX8_function (d + 1) M [(0, vr (some (97, 1, 0))), (1, vi l1)] 5 [] Q := by
  refine Zm.l (fun _ _ k_ => z_aload_n dX8_function_5 rfl rfl k_) ?_
  refine Zm.l (fun _ _ k_ => z_dup dX8_function_6 rfl k_) ?_
  refine zm_geti dX8_function_7 fsX8_392_1 (by decide) (by decide) ?_
  refine Zm.l (fun _ _ k_ => z_iconst (v := 1) dX8_function_10 rfl k_) ?_
  refine Zm.l (fun _ _ k_ => z_iadd dX8_function_11 k_) ?_
  refine zm_puti (by decide) (by decide) dX8_function_12 (zfwN.w fwX8_392_1) rfl ⟨rfl, rfl⟩ ?_
  refine Zm.l (fun _ _ k_ => z_aload_n dX8_function_15 rfl rfl k_) ?_
  refine Zm.l (fun _ _ k_ => z_dup dX8_function_16 rfl k_) ?_
  refine zm_geti dX8_function_17 fsX8_527_1 (by decide) (by decide) ?_
  refine Zm.l (fun _ _ k_ => z_iconst (v := 1) dX8_function_20 rfl k_) ?_
  refine Zm.l (fun _ _ k_ => z_iadd dX8_function_21 k_) ?_
  refine zm_puti (by decide) (by decide) dX8_function_22 (zfwN.w fwX8_527_1) rfl ⟨rfl, rfl⟩ ?_
  refine Zm.l (fun _ _ k_ => z_aload_n dX8_function_25 rfl rfl k_) ?_
  refine zm_geti dX8_function_26 fsX8_527_1 (by decide) (by decide) ?_
  refine Zm.l (fun _ _ k_ => z_iconst (v := 1) dX8_function_29 rfl k_) ?_
  refine Zm.l (fun _ _ k_ => z_isub dX8_function_30 k_) ?_
  refine Zm.l (fun _ _ k_ => z_ist_n dX8_function_31 rfl (by decide) (lv' := [(0, vr (some (97, 1, 0))), (1, vi l1), (2, vi (((gi M 97 32) + (1 : Int32)) - (1 : Int32)))]) rfl k_) ?_
  refine Zm.l (fun _ _ k_ => z_aload_n dX8_function_32 rfl rfl k_) ?_
  refine zm_geti dX8_function_33 fsX8_427_1 (by decide) (by decide) ?_
  refine Zm.l (fun _ _ k_ => z_ist_n dX8_function_36 rfl (by decide) (lv' := [(0, vr (some (97, 1, 0))), (1, vi l1), (2, vi (((gi M 97 32) + (1 : Int32)) - (1 : Int32))), (3, vi (gi M 97 43))]) rfl k_) ?_
  refine Zm.l (fun _ _ k_ => z_aload_n dX8_function_37 rfl rfl k_) ?_
  refine zm_geti dX8_function_38 fsX8_530_1 (by decide) (by decide) ?_
  refine Zm.l (fun _ _ k_ => z_ist dX8_function_41 (by decide) (lv' := [(0, vr (some (97, 1, 0))), (1, vi l1), (2, vi (((gi M 97 32) + (1 : Int32)) - (1 : Int32))), (3, vi (gi M 97 43)), (4, vi (gi M 97 44))]) rfl k_) ?_
  refine Zm.l (fun _ _ k_ => z_aload_n dX8_function_43 rfl rfl k_) ?_
  refine zm_geti dX8_function_44 fsX8_533_1 (by decide) (by decide) ?_
  refine Zm.l (fun _ _ k_ => z_ist dX8_function_47 (by decide) (lv' := [(0, vr (some (97, 1, 0))), (1, vi l1), (2, vi (((gi M 97 32) + (1 : Int32)) - (1 : Int32))), (3, vi (gi M 97 43)), (4, vi (gi M 97 44)), (5, vi (gi M 97 45))]) rfl k_) ?_
  refine Zm.l (fun _ _ k_ => z_iload_n dX8_function_49 rfl rfl k_) ?_
  refine Zm.l (fun _ _ k_ => z_bipush (v := 12) dX8_function_50 rfl k_) ?_
  refine Zm.br (fun _ _ k1_ k2_ => z_icmp_ge (tgt := 59) dX8_function_52 rfl k1_ k2_) (fun h_ => ?_) (fun h_ => ?_)
  · have k := zit h_ k
    refine Zm.l (fun _ _ k_ => z_iconst (v := 0) dX8_function_59 rfl k_) ?_
    exact k
  · have k := zif h_ k
    refine Zm.l (fun _ _ k_ => z_iconst (v := 1) dX8_function_55 rfl k_) ?_
    refine Zm.l (fun _ _ k_ => z_goto (tgt := 60) dX8_function_56 rfl k_) ?_
    exact k
theorem sX8_function_60 {E : zE} {d : Nat} {Q : zO → zM → Prop} (M : zM) (l1 : Int32) (l2 : Int32) (l3 : Int32) (l4 : Int32) (l5 : Int32) (s0 : Int32) (k : if l1 = 0 then (vp_in (gi M 97 20) 4002 ∧ (if (gi M 103 ((gi M 97 20)).toNatClampNeg) = (1 : Int32) then (Zm E YX8_takeName d M (zargs 0 [vr (some (97, 1, 0))]) 0 [] (zma E YX8_function (d + 1) [(0, vr (some (97, 1, 0))), (1, vi l1), (2, vi l2), (3, vi l3), (4, vi l4), (5, vi l5), (6, vi s0)] 80 3 [] Q)) else (if l1 = 0 then (Zm E YX8_function (d + 1) M [(0, vr (some (97, 1, 0))), (1, vi l1), (2, vi l2), (3, vi l3), (4, vi l4), (5, vi l5), (6, vi s0), (7, vi (-1 : Int32))] 100 [] Q) else (Zm E YX8_hold d M (zargs 0 [vr (some (97, 1, 0)), vi (-1 : Int32), vi (1 : Int32)]) 0 [] (zma E YX8_function (d + 1) [(0, vr (some (97, 1, 0))), (1, vi l1), (2, vi l2), (3, vi l3), (4, vi l4), (5, vi l5), (6, vi s0), (7, vi (-1 : Int32))] 97 3 [] Q))))) else (Zm E YX8_takeName d M (zargs 0 [vr (some (97, 1, 0))]) 0 [] (zma E YX8_function (d + 1) [(0, vr (some (97, 1, 0))), (1, vi l1), (2, vi l2), (3, vi l3), (4, vi l4), (5, vi l5), (6, vi s0)] 80 3 [] Q))) : Zm E YX8_function (d + 1) M [(0, vr (some (97, 1, 0))), (1, vi l1), (2, vi l2), (3, vi l3), (4, vi l4), (5, vi l5)] 60 [vi s0] Q := by
  refine Zm.l (fun _ _ k_ => z_ist dX8_function_60 (by decide) (lv' := [(0, vr (some (97, 1, 0))), (1, vi l1), (2, vi l2), (3, vi l3), (4, vi l4), (5, vi l5), (6, vi s0)]) rfl k_) ?_
  refine Zm.l (fun _ _ k_ => z_iload_n dX8_function_62 rfl rfl k_) ?_
  refine Zm.brn (fun _ _ k1_ k2_ => z_if_ne (tgt := 79) dX8_function_63 rfl k1_ k2_) (fun h_ => ?_) (fun h_ => ?_)
  · have k := zif h_ k
    refine Zm.l (fun _ _ k_ => z_aload_n dX8_function_79 rfl rfl k_) ?_
    exact zm_callV (as := []) (st := []) dX8_function_80 vsX8_536_1 (Nat.le_refl _) (Nat.le_of_ble_eq_true rfl) (Nat.le_of_ble_eq_true rfl) rfl k
  · have k := zit h_ k
    refine Zm.l (fun _ _ k_ => z_aload_n dX8_function_66 rfl rfl k_) ?_
    refine zm_getr 5 dX8_function_67 fsX8_27_1 rfl ?_
    refine Zm.l (fun _ _ k_ => z_aload_n dX8_function_70 rfl rfl k_) ?_
    refine zm_geti dX8_function_71 fsX8_392_1 (by decide) (by decide) ?_
    obtain ⟨b_, k⟩ := k
    refine zm_iald dX8_function_74 b_ (by decide) (by decide) ?_
    refine Zm.l (fun _ _ k_ => z_iconst (v := 1) dX8_function_75 rfl k_) ?_
    refine Zm.brn (fun _ _ k1_ k2_ => z_icmp_ne (tgt := 86) dX8_function_76 rfl k1_ k2_) (fun h_ => ?_) (fun h_ => ?_)
    · have k := zif h_ k
      refine Zm.l (fun _ _ k_ => z_iconst (v := -1) dX8_function_86 rfl k_) ?_
      refine Zm.l (fun _ _ k_ => z_ist dX8_function_87 (by decide) (lv' := [(0, vr (some (97, 1, 0))), (1, vi l1), (2, vi l2), (3, vi l3), (4, vi l4), (5, vi l5), (6, vi s0), (7, vi (-1 : Int32))]) rfl k_) ?_
      refine Zm.l (fun _ _ k_ => z_iload_n dX8_function_89 rfl rfl k_) ?_
      refine Zm.br (fun _ _ k1_ k2_ => z_if_eq (tgt := 100) dX8_function_90 rfl k1_ k2_) (fun h_ => ?_) (fun h_ => ?_)
      · have k := zit h_ k
        exact k
      · have k := zif h_ k
        refine Zm.l (fun _ _ k_ => z_aload_n dX8_function_93 rfl rfl k_) ?_
        refine Zm.l (fun _ _ k_ => z_iload dX8_function_94 rfl k_) ?_
        refine Zm.l (fun _ _ k_ => z_iconst (v := 1) dX8_function_96 rfl k_) ?_
        exact zm_callV (as := [vi (-1 : Int32), vi (1 : Int32)]) (st := []) dX8_function_97 vsX8_539_1 (Nat.le_refl _) (Nat.le_of_ble_eq_true rfl) (Nat.le_of_ble_eq_true rfl) rfl k
    · have k := zit h_ k
      refine Zm.l (fun _ _ k_ => z_aload_n dX8_function_79 rfl rfl k_) ?_
      exact zm_callV (as := []) (st := []) dX8_function_80 vsX8_536_1 (Nat.le_refl _) (Nat.le_of_ble_eq_true rfl) (Nat.le_of_ble_eq_true rfl) rfl k
theorem sX8_function_83 {E : zE} {d : Nat} {Q : zO → zM → Prop} (M : zM) (l1 : Int32) (l2 : Int32) (l3 : Int32) (l4 : Int32) (l5 : Int32) (l6 : Int32) (s0 : Int32) (k : if l1 = 0 then (Zm E YX8_function (d + 1) M [(0, vr (some (97, 1, 0))), (1, vi l1), (2, vi l2), (3, vi l3), (4, vi l4), (5, vi l5), (6, vi l6), (7, vi s0)] 100 [] Q) else (Zm E YX8_hold d M (zargs 0 [vr (some (97, 1, 0)), vi s0, vi (1 : Int32)]) 0 [] (zma E YX8_function (d + 1) [(0, vr (some (97, 1, 0))), (1, vi l1), (2, vi l2), (3, vi l3), (4, vi l4), (5, vi l5), (6, vi l6), (7, vi s0)] 97 3 [] Q))) : Zm E YX8_function (d + 1) M [(0, vr (some (97, 1, 0))), (1, vi l1), (2, vi l2), (3, vi l3), (4, vi l4), (5, vi l5), (6, vi l6)] 83 [vi s0] Q := by
  refine Zm.l (fun _ _ k_ => z_goto (tgt := 87) dX8_function_83 rfl k_) ?_
  refine Zm.l (fun _ _ k_ => z_ist dX8_function_87 (by decide) (lv' := [(0, vr (some (97, 1, 0))), (1, vi l1), (2, vi l2), (3, vi l3), (4, vi l4), (5, vi l5), (6, vi l6), (7, vi s0)]) rfl k_) ?_
  refine Zm.l (fun _ _ k_ => z_iload_n dX8_function_89 rfl rfl k_) ?_
  refine Zm.br (fun _ _ k1_ k2_ => z_if_eq (tgt := 100) dX8_function_90 rfl k1_ k2_) (fun h_ => ?_) (fun h_ => ?_)
  · have k := zit h_ k
    exact k
  · have k := zif h_ k
    refine Zm.l (fun _ _ k_ => z_aload_n dX8_function_93 rfl rfl k_) ?_
    refine Zm.l (fun _ _ k_ => z_iload dX8_function_94 rfl k_) ?_
    refine Zm.l (fun _ _ k_ => z_iconst (v := 1) dX8_function_96 rfl k_) ?_
    exact zm_callV (as := [vi s0, vi (1 : Int32)]) (st := []) dX8_function_97 vsX8_539_1 (Nat.le_refl _) (Nat.le_of_ble_eq_true rfl) (Nat.le_of_ble_eq_true rfl) rfl k
theorem sX8_function_100 {E : zE} {d : Nat} {Q : zO → zM → Prop} (M : zM) (l1 : Int32) (l2 : Int32) (l3 : Int32) (l4 : Int32) (l5 : Int32) (l6 : Int32) (l7 : Int32) (k : if l6 = 0 then (Zm E YX8_readParameters d (si (si (si M 97 43 l2) 97 44 (0 : Int32)) 97 45 (0 : Int32)) (zargs 0 [vr (some (97, 1, 0)), vi l2]) 0 [] (zma E YX8_function (d + 1) [(0, vr (some (97, 1, 0))), (2, vi l2), (3, vi l3), (4, vi l4), (5, vi l5), (6, vi l6)] 158 3 [] Q)) else (vp_in l2 12 ∧ (vp_in l2 12 ∧ (vp_in l2 12 ∧ (vp_in l2 12 ∧ (vp_in l2 12 ∧ (Zm E YX8_readParameters d (si (si (si (si (si (si (si (si M 97 43 l2) 97 44 (0 : Int32)) 97 45 (0 : Int32)) 114 (l2).toNatClampNeg l7) 115 (l2).toNatClampNeg (vp_nar .boolean l1)) 118 (l2).toNatClampNeg l3) 121 (l2).toNatClampNeg (0 : Int32)) 117 (l2).toNatClampNeg (0 : Int32)) (zargs 0 [vr (some (97, 1, 0)), vi l2]) 0 [] (zma E YX8_function (d + 1) [(0, vr (some (97, 1, 0))), (2, vi l2), (3, vi l3), (4, vi l4), (5, vi l5), (6, vi l6)] 158 3 [] Q)))))))) : Zm E YX8_function (d + 1) M [(0, vr (some (97, 1, 0))), (1, vi l1), (2, vi l2), (3, vi l3), (4, vi l4), (5, vi l5), (6, vi l6), (7, vi l7)] 100 [] Q := by
  refine Zm.l (fun _ _ k_ => z_aload_n dX8_function_100 rfl rfl k_) ?_
  refine Zm.l (fun _ _ k_ => z_iload_n dX8_function_101 rfl rfl k_) ?_
  refine zm_puti (by decide) (by decide) dX8_function_102 (zfwN.w fwX8_427_1) rfl ⟨rfl, rfl⟩ ?_
  refine Zm.l (fun _ _ k_ => z_aload_n dX8_function_105 rfl rfl k_) ?_
  refine Zm.l (fun _ _ k_ => z_iconst (v := 0) dX8_function_106 rfl k_) ?_
  refine zm_puti (by decide) (by decide) dX8_function_107 (zfwN.w fwX8_530_1) rfl ⟨rfl, rfl⟩ ?_
  refine Zm.l (fun _ _ k_ => z_aload_n dX8_function_110 rfl rfl k_) ?_
  refine Zm.l (fun _ _ k_ => z_iconst (v := 0) dX8_function_111 rfl k_) ?_
  refine zm_puti (by decide) (by decide) dX8_function_112 (zfwN.w fwX8_533_1) rfl ⟨rfl, rfl⟩ ?_
  refine Zm.l (fun _ _ k_ => z_iload dX8_function_115 rfl k_) ?_
  refine Zm.br (fun _ _ k1_ k2_ => z_if_eq (tgt := 156) dX8_function_117 rfl k1_ k2_) (fun h_ => ?_) (fun h_ => ?_)
  · have k := zit h_ k
    refine Zm.l (fun _ _ k_ => z_aload_n dX8_function_156 rfl rfl k_) ?_
    refine Zm.l (fun _ _ k_ => z_iload_n dX8_function_157 rfl rfl k_) ?_
    refine Zm.pick [0, 2, 3, 4, 5, 6] rfl ?_
    exact zm_callV (as := [vi l2]) (st := []) dX8_function_158 vsX8_543_1 (Nat.le_refl _) (Nat.le_of_ble_eq_true rfl) (Nat.le_of_ble_eq_true rfl) rfl k
  · have k := zif h_ k
    refine Zm.l (fun _ _ k_ => z_aload_n dX8_function_120 rfl rfl k_) ?_
    refine zm_getr 16 dX8_function_121 fsX8_62_1 rfl ?_
    refine Zm.l (fun _ _ k_ => z_iload_n dX8_function_124 rfl rfl k_) ?_
    refine Zm.l (fun _ _ k_ => z_iload dX8_function_125 rfl k_) ?_
    obtain ⟨b_, k⟩ := k
    refine zm_iast dX8_function_127 b_ (by decide) (by decide) ?_
    refine Zm.l (fun _ _ k_ => z_aload_n dX8_function_128 rfl rfl k_) ?_
    refine zm_getr 17 dX8_function_129 fsX8_65_1 rfl ?_
    refine Zm.l (fun _ _ k_ => z_iload_n dX8_function_132 rfl rfl k_) ?_
    refine Zm.l (fun _ _ k_ => z_iload_n dX8_function_133 rfl rfl k_) ?_
    obtain ⟨b_, k⟩ := k
    refine zm_zast dX8_function_134 b_ (by decide) (by decide) ?_
    refine Zm.l (fun _ _ k_ => z_aload_n dX8_function_135 rfl rfl k_) ?_
    refine zm_getr 20 dX8_function_136 fsX8_74_1 rfl ?_
    refine Zm.l (fun _ _ k_ => z_iload_n dX8_function_139 rfl rfl k_) ?_
    refine Zm.l (fun _ _ k_ => z_iload_n dX8_function_140 rfl rfl k_) ?_
    obtain ⟨b_, k⟩ := k
    refine zm_iast dX8_function_141 b_ (by decide) (by decide) ?_
    refine Zm.l (fun _ _ k_ => z_aload_n dX8_function_142 rfl rfl k_) ?_
    refine zm_getr 23 dX8_function_143 fsX8_83_1 rfl ?_
    refine Zm.l (fun _ _ k_ => z_iload_n dX8_function_146 rfl rfl k_) ?_
    refine Zm.l (fun _ _ k_ => z_iconst (v := 0) dX8_function_147 rfl k_) ?_
    obtain ⟨b_, k⟩ := k
    refine zm_iast dX8_function_148 b_ (by decide) (by decide) ?_
    refine Zm.l (fun _ _ k_ => z_aload_n dX8_function_149 rfl rfl k_) ?_
    refine zm_getr 19 dX8_function_150 fsX8_71_1 rfl ?_
    refine Zm.l (fun _ _ k_ => z_iload_n dX8_function_153 rfl rfl k_) ?_
    refine Zm.l (fun _ _ k_ => z_iconst (v := 0) dX8_function_154 rfl k_) ?_
    obtain ⟨b_, k⟩ := k
    refine zm_iast dX8_function_155 b_ (by decide) (by decide) ?_
    refine Zm.l (fun _ _ k_ => z_aload_n dX8_function_156 rfl rfl k_) ?_
    refine Zm.l (fun _ _ k_ => z_iload_n dX8_function_157 rfl rfl k_) ?_
    refine Zm.pick [0, 2, 3, 4, 5, 6] rfl ?_
    exact zm_callV (as := [vi l2]) (st := []) dX8_function_158 vsX8_543_1 (Nat.le_refl _) (Nat.le_of_ble_eq_true rfl) (Nat.le_of_ble_eq_true rfl) rfl k
theorem sX8_function_161 {E : zE} {d : Nat} {Q : zO → zM → Prop} (M : zM) (l2 : Int32) (l3 : Int32) (l4 : Int32) (l5 : Int32) (l6 : Int32) (k : Zm E YX8_must d M (zargs 0 [vr (some (97, 1, 0)), vi (24 : Int32)]) 0 [] (zma E YX8_function (d + 1) [(0, vr (some (97, 1, 0))), (2, vi l2), (3, vi l3), (4, vi l4), (5, vi l5), (6, vi l6)] 164 3 [] Q)) : Zm E YX8_function (d + 1) M [(0, vr (some (97, 1, 0))), (2, vi l2), (3, vi l3), (4, vi l4), (5, vi l5), (6, vi l6)] 161 [] Q := by
  refine Zm.l (fun _ _ k_ => z_aload_n dX8_function_161 rfl rfl k_) ?_
  refine Zm.l (fun _ _ k_ => z_bipush (v := 24) dX8_function_162 rfl k_) ?_
  exact zm_callV (as := [vi (24 : Int32)]) (st := []) dX8_function_164 vsX8_473_1 (Nat.le_refl _) (Nat.le_of_ble_eq_true rfl) (Nat.le_of_ble_eq_true rfl) rfl k
theorem sX8_function_167 {E : zE} {d : Nat} {Q : zO → zM → Prop} (M : zM) (l2 : Int32) (l3 : Int32) (l4 : Int32) (l5 : Int32) (l6 : Int32) (s0 : Int32) (k : if s0 = 0 then (Zm E YX8_function (d + 1) M [(0, vr (some (97, 1, 0))), (2, vi l2), (3, vi l3), (4, vi l4), (5, vi l5), (6, vi l6)] 179 [vi (-1 : Int32)] Q) else (Zm E YX8_parts d M (zargs 0 [vr (some (97, 1, 0)), vi (1 : Int32)]) 0 [] (zma E YX8_function (d + 1) [(0, vr (some (97, 1, 0))), (2, vi l2), (3, vi l3), (4, vi l4), (5, vi l5), (6, vi l6)] 172 3 [] Q))) : Zm E YX8_function (d + 1) M [(0, vr (some (97, 1, 0))), (2, vi l2), (3, vi l3), (4, vi l4), (5, vi l5), (6, vi l6)] 167 [vi s0] Q := by
  refine Zm.br (fun _ _ k1_ k2_ => z_if_eq (tgt := 178) dX8_function_167 rfl k1_ k2_) (fun h_ => ?_) (fun h_ => ?_)
  · have k := zit h_ k
    refine Zm.l (fun _ _ k_ => z_iconst (v := -1) dX8_function_178 rfl k_) ?_
    exact k
  · have k := zif h_ k
    refine Zm.l (fun _ _ k_ => z_aload_n dX8_function_170 rfl rfl k_) ?_
    refine Zm.l (fun _ _ k_ => z_iconst (v := 1) dX8_function_171 rfl k_) ?_
    exact zm_callV (as := [vi (1 : Int32)]) (st := []) dX8_function_172 vsX8_546_1 (Nat.le_refl _) (Nat.le_of_ble_eq_true rfl) (Nat.le_of_ble_eq_true rfl) rfl k
theorem sX8_function_175 {E : zE} {d : Nat} {Q : zO → zM → Prop} (M : zM) (l2 : Int32) (l3 : Int32) (l4 : Int32) (l5 : Int32) (l6 : Int32) (s0 : Int32) (k : Zm E YX8_function (d + 1) M [(0, vr (some (97, 1, 0))), (2, vi l2), (3, vi l3), (4, vi l4), (5, vi l5), (6, vi l6)] 179 [vi s0] Q) : Zm E YX8_function (d + 1) M [(0, vr (some (97, 1, 0))), (2, vi l2), (3, vi l3), (4, vi l4), (5, vi l5), (6, vi l6)] 175 [vi s0] Q := by
  refine Zm.l (fun _ _ k_ => z_goto (tgt := 179) dX8_function_175 rfl k_) ?_
  exact k
theorem sX8_function_179 {E : zE} {d : Nat} {Q : zO → zM → Prop} (M : zM) (l2 : Int32) (l3 : Int32) (l4 : Int32) (l5 : Int32) (l6 : Int32) (s0 : Int32) (k : if l6 = 0 then (Zm E YX8_function (d + 1) M [(0, vr (some (97, 1, 0))), (2, vi l2), (3, vi l3), (4, vi l4), (5, vi l5)] 194 [] Q) else (vp_in l2 12 ∧ (Zm E YX8_function (d + 1) (si M 119 (l2).toNatClampNeg s0) [(0, vr (some (97, 1, 0))), (2, vi l2), (3, vi l3), (4, vi l4), (5, vi l5)] 194 [] Q))) : Zm E YX8_function (d + 1) M [(0, vr (some (97, 1, 0))), (2, vi l2), (3, vi l3), (4, vi l4), (5, vi l5), (6, vi l6)] 179 [vi s0] Q := by
  refine Zm.l (fun _ _ k_ => z_ist dX8_function_179 (by decide) (lv' := [(0, vr (some (97, 1, 0))), (2, vi l2), (3, vi l3), (4, vi l4), (5, vi l5), (6, vi l6), (8, vi s0)]) rfl k_) ?_
  refine Zm.l (fun _ _ k_ => z_iload dX8_function_181 rfl k_) ?_
  refine Zm.br (fun _ _ k1_ k2_ => z_if_eq (tgt := 194) dX8_function_183 rfl k1_ k2_) (fun h_ => ?_) (fun h_ => ?_)
  · have k := zit h_ k
    refine Zm.pick [0, 1, 2, 3, 4] rfl ?_
    exact k
  · have k := zif h_ k
    refine Zm.l (fun _ _ k_ => z_aload_n dX8_function_186 rfl rfl k_) ?_
    refine zm_getr 21 dX8_function_187 fsX8_77_1 rfl ?_
    refine Zm.l (fun _ _ k_ => z_iload_n dX8_function_190 rfl rfl k_) ?_
    refine Zm.l (fun _ _ k_ => z_iload dX8_function_191 rfl k_) ?_
    obtain ⟨b_, k⟩ := k
    refine zm_iast dX8_function_193 b_ (by decide) (by decide) ?_
    refine Zm.pick [0, 1, 2, 3, 4] rfl ?_
    exact k
theorem sX8_function_194 {E : zE} {d : Nat} {Q : zO → zM → Prop} (M : zM) (l2 : Int32) (l3 : Int32) (l4 : Int32) (l5 : Int32) (k : Zm E YX8_close d (si (si (si M 97 43 l3) 97 44 l4) 97 45 l5) (zargs 0 [vr (some (97, 1, 0))]) 0 [] (zma E YX8_function (d + 1) [(0, vr (some (97, 1, 0))), (2, vi l2)] 212 3 [] Q)) : Zm E YX8_function (d + 1) M [(0, vr (some (97, 1, 0))), (2, vi l2), (3, vi l3), (4, vi l4), (5, vi l5)] 194 [] Q := by
  refine Zm.l (fun _ _ k_ => z_aload_n dX8_function_194 rfl rfl k_) ?_
  refine Zm.l (fun _ _ k_ => z_iload_n dX8_function_195 rfl rfl k_) ?_
  refine zm_puti (by decide) (by decide) dX8_function_196 (zfwN.w fwX8_427_1) rfl ⟨rfl, rfl⟩ ?_
  refine Zm.l (fun _ _ k_ => z_aload_n dX8_function_199 rfl rfl k_) ?_
  refine Zm.l (fun _ _ k_ => z_iload dX8_function_200 rfl k_) ?_
  refine zm_puti (by decide) (by decide) dX8_function_202 (zfwN.w fwX8_530_1) rfl ⟨rfl, rfl⟩ ?_
  refine Zm.l (fun _ _ k_ => z_aload_n dX8_function_205 rfl rfl k_) ?_
  refine Zm.l (fun _ _ k_ => z_iload dX8_function_206 rfl k_) ?_
  refine zm_puti (by decide) (by decide) dX8_function_208 (zfwN.w fwX8_533_1) rfl ⟨rfl, rfl⟩ ?_
  refine Zm.l (fun _ _ k_ => z_aload_n dX8_function_211 rfl rfl k_) ?_
  refine Zm.pick [0, 1] rfl ?_
  exact zm_callV (as := []) (st := []) dX8_function_212 vsX8_454_1 (Nat.le_refl _) (Nat.le_of_ble_eq_true rfl) (Nat.le_of_ble_eq_true rfl) rfl k
theorem sX8_function_215 {E : zE} {d : Nat} {Q : zO → zM → Prop} (M : zM) (l2 : Int32) (k : Zm E YX8_must d M (zargs 0 [vr (some (97, 1, 0)), vi (25 : Int32)]) 0 [] (zma E YX8_function (d + 1) [(2, vi l2)] 218 3 [] Q)) : Zm E YX8_function (d + 1) M [(0, vr (some (97, 1, 0))), (2, vi l2)] 215 [] Q := by
  refine Zm.l (fun _ _ k_ => z_aload_n dX8_function_215 rfl rfl k_) ?_
  refine Zm.l (fun _ _ k_ => z_bipush (v := 25) dX8_function_216 rfl k_) ?_
  refine Zm.pick [1] rfl ?_
  exact zm_callV (as := [vi (25 : Int32)]) (st := []) dX8_function_218 vsX8_473_1 (Nat.le_refl _) (Nat.le_of_ble_eq_true rfl) (Nat.le_of_ble_eq_true rfl) rfl k
theorem sX8_function_221 {E : zE} {d : Nat} {Q : zO → zM → Prop} (M : zM) (l2 : Int32) (s0 : Int32) (k : Q (.inl (some (vi l2))) M) : Zm E YX8_function (d + 1) M [(2, vi l2)] 221 [vi s0] Q := by
  refine Zm.l (fun _ _ k_ => z_ist dX8_function_221 (by decide) (lv' := [(2, vi l2), (9, vi s0)]) rfl k_) ?_
  refine Zm.l (fun _ _ k_ => z_iload_n dX8_function_223 rfl rfl k_) ?_
  exact zm_iret dX8_function_224 rfl rfl k
/-! ScriptTypesModel.open(Z)V -/
theorem bX8_open_0 : zdec cX8_open 0 [(0, .aload_n 0, 1), (1, .getfield 389, 3), (4, .ifCond .le 4, 3), (7, .return_, 1), (8, .iload_n 1, 1), (9, .ifCond .ne 12, 3), (12, .aload_n 0, 1), (13, .iconst 2, 1), (14, .invokevirtual 401, 3), (17, .pop, 1), (18, .goto 18, 3), (21, .aload_n 0, 1), (22, .getfield 407, 3), (25, .bipush 20, 2), (27, .if_icmp .ne 9, 3), (30, .aload_n 0, 1)] = true := by decide +kernel
theorem dX8_open_0 : decode cX8_open 0 = .ok (.aload_n 0, 1) := zdec_at bX8_open_0 0 rfl
theorem dX8_open_1 : decode cX8_open 1 = .ok (.getfield 389, 3) := zdec_at bX8_open_0 1 rfl
theorem dX8_open_4 : decode cX8_open 4 = .ok (.ifCond .le 4, 3) := zdec_at bX8_open_0 2 rfl
theorem dX8_open_7 : decode cX8_open 7 = .ok (.return_, 1) := zdec_at bX8_open_0 3 rfl
theorem dX8_open_8 : decode cX8_open 8 = .ok (.iload_n 1, 1) := zdec_at bX8_open_0 4 rfl
theorem dX8_open_9 : decode cX8_open 9 = .ok (.ifCond .ne 12, 3) := zdec_at bX8_open_0 5 rfl
theorem dX8_open_12 : decode cX8_open 12 = .ok (.aload_n 0, 1) := zdec_at bX8_open_0 6 rfl
theorem dX8_open_13 : decode cX8_open 13 = .ok (.iconst 2, 1) := zdec_at bX8_open_0 7 rfl
theorem dX8_open_14 : decode cX8_open 14 = .ok (.invokevirtual 401, 3) := zdec_at bX8_open_0 8 rfl
theorem dX8_open_17 : decode cX8_open 17 = .ok (.pop, 1) := zdec_at bX8_open_0 9 rfl
theorem dX8_open_18 : decode cX8_open 18 = .ok (.goto 18, 3) := zdec_at bX8_open_0 10 rfl
theorem dX8_open_21 : decode cX8_open 21 = .ok (.aload_n 0, 1) := zdec_at bX8_open_0 11 rfl
theorem dX8_open_22 : decode cX8_open 22 = .ok (.getfield 407, 3) := zdec_at bX8_open_0 12 rfl
theorem dX8_open_25 : decode cX8_open 25 = .ok (.bipush 20, 2) := zdec_at bX8_open_0 13 rfl
theorem dX8_open_27 : decode cX8_open 27 = .ok (.if_icmp .ne 9, 3) := zdec_at bX8_open_0 14 rfl
theorem dX8_open_30 : decode cX8_open 30 = .ok (.aload_n 0, 1) := zdec_at bX8_open_0 15 rfl
theorem bX8_open_31 : zdec cX8_open 31 [(31, .iconst 5, 1), (32, .invokevirtual 401, 3), (35, .pop, 1), (36, .aload_n 0, 1), (37, .dup, 1), (38, .getfield 407, 3), (41, .iconst 1, 1), (42, .iadd, 1), (43, .putfield 407, 3), (46, .return_, 1)] = true := by decide +kernel
theorem dX8_open_31 : decode cX8_open 31 = .ok (.iconst 5, 1) := zdec_at bX8_open_31 0 rfl
theorem dX8_open_32 : decode cX8_open 32 = .ok (.invokevirtual 401, 3) := zdec_at bX8_open_31 1 rfl
theorem dX8_open_35 : decode cX8_open 35 = .ok (.pop, 1) := zdec_at bX8_open_31 2 rfl
theorem dX8_open_36 : decode cX8_open 36 = .ok (.aload_n 0, 1) := zdec_at bX8_open_31 3 rfl
theorem dX8_open_37 : decode cX8_open 37 = .ok (.dup, 1) := zdec_at bX8_open_31 4 rfl
theorem dX8_open_38 : decode cX8_open 38 = .ok (.getfield 407, 3) := zdec_at bX8_open_31 5 rfl
theorem dX8_open_41 : decode cX8_open 41 = .ok (.iconst 1, 1) := zdec_at bX8_open_31 6 rfl
theorem dX8_open_42 : decode cX8_open 42 = .ok (.iadd, 1) := zdec_at bX8_open_31 7 rfl
theorem dX8_open_43 : decode cX8_open 43 = .ok (.putfield 407, 3) := zdec_at bX8_open_31 8 rfl
theorem dX8_open_46 : decode cX8_open 46 = .ok (.return_, 1) := zdec_at bX8_open_31 9 rfl
theorem sX8_open_0 {E : zE} {d : Nat} {Q : zO → zM → Prop} (M : zM) (l1 : Int32) (k : if (gi M 97 21) ≤ 0 then (if l1 = 0 then (Zm E YX8_fail d M (zargs 0 [vr (some (97, 1, 0)), vi (2 : Int32)]) 0 [] (zma E YX8_open (d + 1) [(0, vr (some (97, 1, 0)))] 14 3 [] Q)) else (if (gi M 97 23) = (20 : Int32) then (Zm E YX8_fail d M (zargs 0 [vr (some (97, 1, 0)), vi (5 : Int32)]) 0 [] (zma E YX8_open (d + 1) [(0, vr (some (97, 1, 0)))] 32 3 [] Q)) else (Q (.inl none) (si M 97 23 ((gi M 97 23) + (1 : Int32)))))) else (Q (.inl none) M)) : Zm E YX8_open (d + 1) M [(0, vr (some (97, 1, 0))), (1, vi l1)] 0 [] Q := by
  refine Zm.l (fun _ _ k_ => z_aload_n dX8_open_0 rfl rfl k_) ?_
  refine zm_geti dX8_open_1 fsX8_389_1 (by decide) (by decide) ?_
  refine Zm.br (fun _ _ k1_ k2_ => z_if_le (tgt := 8) dX8_open_4 rfl k1_ k2_) (fun h_ => ?_) (fun h_ => ?_)
  · have k := zit h_ k
    refine Zm.l (fun _ _ k_ => z_iload_n dX8_open_8 rfl rfl k_) ?_
    refine Zm.brn (fun _ _ k1_ k2_ => z_if_ne (tgt := 21) dX8_open_9 rfl k1_ k2_) (fun h_ => ?_) (fun h_ => ?_)
    · have k := zif h_ k
      refine Zm.l (fun _ _ k_ => z_aload_n dX8_open_21 rfl rfl k_) ?_
      refine zm_geti dX8_open_22 fsX8_407_1 (by decide) (by decide) ?_
      refine Zm.l (fun _ _ k_ => z_bipush (v := 20) dX8_open_25 rfl k_) ?_
      refine Zm.brn (fun _ _ k1_ k2_ => z_icmp_ne (tgt := 36) dX8_open_27 rfl k1_ k2_) (fun h_ => ?_) (fun h_ => ?_)
      · have k := zif h_ k
        refine Zm.l (fun _ _ k_ => z_aload_n dX8_open_36 rfl rfl k_) ?_
        refine Zm.l (fun _ _ k_ => z_dup dX8_open_37 rfl k_) ?_
        refine zm_geti dX8_open_38 fsX8_407_1 (by decide) (by decide) ?_
        refine Zm.l (fun _ _ k_ => z_iconst (v := 1) dX8_open_41 rfl k_) ?_
        refine Zm.l (fun _ _ k_ => z_iadd dX8_open_42 k_) ?_
        refine zm_puti (by decide) (by decide) dX8_open_43 (zfwN.w fwX8_407_1) rfl ⟨rfl, rfl⟩ ?_
        exact zm_vret dX8_open_46 rfl k
      · have k := zit h_ k
        refine Zm.l (fun _ _ k_ => z_aload_n dX8_open_30 rfl rfl k_) ?_
        refine Zm.l (fun _ _ k_ => z_iconst (v := 5) dX8_open_31 rfl k_) ?_
        refine Zm.pick [0] rfl ?_
        exact zm_callV (as := [vi (5 : Int32)]) (st := []) dX8_open_32 vsX8_401_1 (Nat.le_refl _) (Nat.le_of_ble_eq_true rfl) (Nat.le_of_ble_eq_true rfl) rfl k
    · have k := zit h_ k
      refine Zm.l (fun _ _ k_ => z_aload_n dX8_open_12 rfl rfl k_) ?_
      refine Zm.l (fun _ _ k_ => z_iconst (v := 2) dX8_open_13 rfl k_) ?_
      refine Zm.pick [0] rfl ?_
      exact zm_callV (as := [vi (2 : Int32)]) (st := []) dX8_open_14 vsX8_401_1 (Nat.le_refl _) (Nat.le_of_ble_eq_true rfl) (Nat.le_of_ble_eq_true rfl) rfl k
  · have k := zif h_ k
    exact zm_vret dX8_open_7 rfl k
theorem sX8_open_17 {E : zE} {d : Nat} {Q : zO → zM → Prop} (M : zM) (s0 : Int32) (k : Q (.inl none) (si M 97 23 ((gi M 97 23) + (1 : Int32)))) : Zm E YX8_open (d + 1) M [(0, vr (some (97, 1, 0)))] 17 [vi s0] Q := by
  refine Zm.l (fun _ _ k_ => z_pop dX8_open_17 rfl k_) ?_
  refine Zm.l (fun _ _ k_ => z_goto (tgt := 36) dX8_open_18 rfl k_) ?_
  refine Zm.l (fun _ _ k_ => z_aload_n dX8_open_36 rfl rfl k_) ?_
  refine Zm.l (fun _ _ k_ => z_dup dX8_open_37 rfl k_) ?_
  refine zm_geti dX8_open_38 fsX8_407_1 (by decide) (by decide) ?_
  refine Zm.l (fun _ _ k_ => z_iconst (v := 1) dX8_open_41 rfl k_) ?_
  refine Zm.l (fun _ _ k_ => z_iadd dX8_open_42 k_) ?_
  refine zm_puti (by decide) (by decide) dX8_open_43 (zfwN.w fwX8_407_1) rfl ⟨rfl, rfl⟩ ?_
  exact zm_vret dX8_open_46 rfl k
theorem sX8_open_35 {E : zE} {d : Nat} {Q : zO → zM → Prop} (M : zM) (s0 : Int32) (k : Q (.inl none) (si M 97 23 ((gi M 97 23) + (1 : Int32)))) : Zm E YX8_open (d + 1) M [(0, vr (some (97, 1, 0)))] 35 [vi s0] Q := by
  refine Zm.l (fun _ _ k_ => z_pop dX8_open_35 rfl k_) ?_
  refine Zm.l (fun _ _ k_ => z_aload_n dX8_open_36 rfl rfl k_) ?_
  refine Zm.l (fun _ _ k_ => z_dup dX8_open_37 rfl k_) ?_
  refine zm_geti dX8_open_38 fsX8_407_1 (by decide) (by decide) ?_
  refine Zm.l (fun _ _ k_ => z_iconst (v := 1) dX8_open_41 rfl k_) ?_
  refine Zm.l (fun _ _ k_ => z_iadd dX8_open_42 k_) ?_
  refine zm_puti (by decide) (by decide) dX8_open_43 (zfwN.w fwX8_407_1) rfl ⟨rfl, rfl⟩ ?_
  exact zm_vret dX8_open_46 rfl k
/-! ScriptTypesModel.fail(I)Z -/
theorem bX8_fail_0 : zdec cX8_fail 0 [(0, .aload_n 0, 1), (1, .getfield 389, 3), (4, .ifCond .ne 39, 3), (7, .aload_n 0, 1), (8, .aload_n 0, 1), (9, .getfield 27, 3), (12, .aload_n 0, 1), (13, .getfield 392, 3), (16, .iaload, 1), (17, .bipush 6, 2), (19, .if_icmp .ne 7, 3), (22, .iconst 1, 1), (23, .goto 4, 3), (26, .iload_n 1, 1), (27, .putfield 389, 3), (30, .aload_n 0, 1)] = true := by decide +kernel
theorem dX8_fail_0 : decode cX8_fail 0 = .ok (.aload_n 0, 1) := zdec_at bX8_fail_0 0 rfl
theorem dX8_fail_1 : decode cX8_fail 1 = .ok (.getfield 389, 3) := zdec_at bX8_fail_0 1 rfl
theorem dX8_fail_4 : decode cX8_fail 4 = .ok (.ifCond .ne 39, 3) := zdec_at bX8_fail_0 2 rfl
theorem dX8_fail_7 : decode cX8_fail 7 = .ok (.aload_n 0, 1) := zdec_at bX8_fail_0 3 rfl
theorem dX8_fail_8 : decode cX8_fail 8 = .ok (.aload_n 0, 1) := zdec_at bX8_fail_0 4 rfl
theorem dX8_fail_9 : decode cX8_fail 9 = .ok (.getfield 27, 3) := zdec_at bX8_fail_0 5 rfl
theorem dX8_fail_12 : decode cX8_fail 12 = .ok (.aload_n 0, 1) := zdec_at bX8_fail_0 6 rfl
theorem dX8_fail_13 : decode cX8_fail 13 = .ok (.getfield 392, 3) := zdec_at bX8_fail_0 7 rfl
theorem dX8_fail_16 : decode cX8_fail 16 = .ok (.iaload, 1) := zdec_at bX8_fail_0 8 rfl
theorem dX8_fail_17 : decode cX8_fail 17 = .ok (.bipush 6, 2) := zdec_at bX8_fail_0 9 rfl
theorem dX8_fail_19 : decode cX8_fail 19 = .ok (.if_icmp .ne 7, 3) := zdec_at bX8_fail_0 10 rfl
theorem dX8_fail_22 : decode cX8_fail 22 = .ok (.iconst 1, 1) := zdec_at bX8_fail_0 11 rfl
theorem dX8_fail_23 : decode cX8_fail 23 = .ok (.goto 4, 3) := zdec_at bX8_fail_0 12 rfl
theorem dX8_fail_26 : decode cX8_fail 26 = .ok (.iload_n 1, 1) := zdec_at bX8_fail_0 13 rfl
theorem dX8_fail_27 : decode cX8_fail 27 = .ok (.putfield 389, 3) := zdec_at bX8_fail_0 14 rfl
theorem dX8_fail_30 : decode cX8_fail 30 = .ok (.aload_n 0, 1) := zdec_at bX8_fail_0 15 rfl
theorem bX8_fail_31 : zdec cX8_fail 31 [(31, .aload_n 0, 1), (32, .getfield 39, 3), (35, .aload_n 0, 1), (36, .getfield 392, 3), (39, .iaload, 1), (40, .putfield 395, 3), (43, .iconst 0, 1), (44, .ireturn, 1)] = true := by decide +kernel
theorem dX8_fail_31 : decode cX8_fail 31 = .ok (.aload_n 0, 1) := zdec_at bX8_fail_31 0 rfl
theorem dX8_fail_32 : decode cX8_fail 32 = .ok (.getfield 39, 3) := zdec_at bX8_fail_31 1 rfl
theorem dX8_fail_35 : decode cX8_fail 35 = .ok (.aload_n 0, 1) := zdec_at bX8_fail_31 2 rfl
theorem dX8_fail_36 : decode cX8_fail 36 = .ok (.getfield 392, 3) := zdec_at bX8_fail_31 3 rfl
theorem dX8_fail_39 : decode cX8_fail 39 = .ok (.iaload, 1) := zdec_at bX8_fail_31 4 rfl
theorem dX8_fail_40 : decode cX8_fail 40 = .ok (.putfield 395, 3) := zdec_at bX8_fail_31 5 rfl
theorem dX8_fail_43 : decode cX8_fail 43 = .ok (.iconst 0, 1) := zdec_at bX8_fail_31 6 rfl
theorem dX8_fail_44 : decode cX8_fail 44 = .ok (.ireturn, 1) := zdec_at bX8_fail_31 7 rfl
theorem sX8_fail_0 {E : zE} {d : Nat} {Q : zO → zM → Prop} (M : zM) (l1 : Int32) (k : if (gi M 97 21) = 0 then (vp_in (gi M 97 20) 4002 ∧ (if (gi M 103 ((gi M 97 20)).toNatClampNeg) = (6 : Int32) then (Zm E YX8_fail d M [(0, vr (some (97, 1, 0)))] 27 [vi (1 : Int32), vr (some (97, 1, 0))] Q) else (Zm E YX8_fail d M [(0, vr (some (97, 1, 0)))] 27 [vi l1, vr (some (97, 1, 0))] Q))) else (Q (.inl (some (vi (0 : Int32)))) M)) : Zm E YX8_fail d M [(0, vr (some (97, 1, 0))), (1, vi l1)] 0 [] Q := by
  refine Zm.l (fun _ _ k_ => z_aload_n dX8_fail_0 rfl rfl k_) ?_
  refine zm_geti dX8_fail_1 fsX8_389_1 (by decide) (by decide) ?_
  refine Zm.brn (fun _ _ k1_ k2_ => z_if_ne (tgt := 43) dX8_fail_4 rfl k1_ k2_) (fun h_ => ?_) (fun h_ => ?_)
  · have k := zif h_ k
    refine Zm.l (fun _ _ k_ => z_iconst (v := 0) dX8_fail_43 rfl k_) ?_
    exact zm_iret dX8_fail_44 rfl (by decide) k
  · have k := zit h_ k
    refine Zm.l (fun _ _ k_ => z_aload_n dX8_fail_7 rfl rfl k_) ?_
    refine Zm.l (fun _ _ k_ => z_aload_n dX8_fail_8 rfl rfl k_) ?_
    refine zm_getr 5 dX8_fail_9 fsX8_27_1 rfl ?_
    refine Zm.l (fun _ _ k_ => z_aload_n dX8_fail_12 rfl rfl k_) ?_
    refine zm_geti dX8_fail_13 fsX8_392_1 (by decide) (by decide) ?_
    obtain ⟨b_, k⟩ := k
    refine zm_iald dX8_fail_16 b_ (by decide) (by decide) ?_
    refine Zm.l (fun _ _ k_ => z_bipush (v := 6) dX8_fail_17 rfl k_) ?_
    refine Zm.brn (fun _ _ k1_ k2_ => z_icmp_ne (tgt := 26) dX8_fail_19 rfl k1_ k2_) (fun h_ => ?_) (fun h_ => ?_)
    · have k := zif h_ k
      refine Zm.l (fun _ _ k_ => z_iload_n dX8_fail_26 rfl rfl k_) ?_
      refine Zm.pick [0] rfl ?_
      exact k
    · have k := zit h_ k
      refine Zm.l (fun _ _ k_ => z_iconst (v := 1) dX8_fail_22 rfl k_) ?_
      refine Zm.l (fun _ _ k_ => z_goto (tgt := 27) dX8_fail_23 rfl k_) ?_
      refine Zm.pick [0] rfl ?_
      exact k
theorem sX8_fail_27 {E : zE} {d : Nat} {Q : zO → zM → Prop} (M : zM) (s0 : Int32) (k : vp_in (gi M 97 20) 4002 ∧ (Q (.inl (some (vi (0 : Int32)))) (si (si M 97 21 s0) 97 22 (gi M 107 ((gi M 97 20)).toNatClampNeg)))) : Zm E YX8_fail d M [(0, vr (some (97, 1, 0)))] 27 [vi s0, vr (some (97, 1, 0))] Q := by
  refine zm_puti (by decide) (by decide) dX8_fail_27 (zfwN.w fwX8_389_1) rfl ⟨rfl, rfl⟩ ?_
  refine Zm.l (fun _ _ k_ => z_aload_n dX8_fail_30 rfl rfl k_) ?_
  refine Zm.l (fun _ _ k_ => z_aload_n dX8_fail_31 rfl rfl k_) ?_
  refine zm_getr 9 dX8_fail_32 fsX8_39_1 rfl ?_
  refine Zm.l (fun _ _ k_ => z_aload_n dX8_fail_35 rfl rfl k_) ?_
  refine zm_geti dX8_fail_36 fsX8_392_1 (by decide) (by decide) ?_
  obtain ⟨b_, k⟩ := k
  refine zm_iald dX8_fail_39 b_ (by decide) (by decide) ?_
  refine zm_puti (by decide) (by decide) dX8_fail_40 (zfwN.w fwX8_395_1) rfl ⟨rfl, rfl⟩ ?_
  refine Zm.l (fun _ _ k_ => z_iconst (v := 0) dX8_fail_43 rfl k_) ?_
  exact zm_iret dX8_fail_44 rfl (by decide) k
/-! ScriptTypesModel.takeName()I -/
theorem bX8_takeName_0 : zdec cX8_takeName 0 [(0, .aload_n 0, 1), (1, .getfield 389, 3), (4, .ifCond .gt 16, 3), (7, .aload_n 0, 1), (8, .getfield 27, 3), (11, .aload_n 0, 1), (12, .getfield 392, 3), (15, .iaload, 1), (16, .iconst 1, 1), (17, .if_icmp .eq 11, 3), (20, .aload_n 0, 1), (21, .iconst 2, 1), (22, .invokevirtual 401, 3), (25, .pop, 1), (26, .iconst (-1), 1), (27, .ireturn, 1)] = true := by decide +kernel
theorem dX8_takeName_0 : decode cX8_takeName 0 = .ok (.aload_n 0, 1) := zdec_at bX8_takeName_0 0 rfl
theorem dX8_takeName_1 : decode cX8_takeName 1 = .ok (.getfield 389, 3) := zdec_at bX8_takeName_0 1 rfl
theorem dX8_takeName_4 : decode cX8_takeName 4 = .ok (.ifCond .gt 16, 3) := zdec_at bX8_takeName_0 2 rfl
theorem dX8_takeName_7 : decode cX8_takeName 7 = .ok (.aload_n 0, 1) := zdec_at bX8_takeName_0 3 rfl
theorem dX8_takeName_8 : decode cX8_takeName 8 = .ok (.getfield 27, 3) := zdec_at bX8_takeName_0 4 rfl
theorem dX8_takeName_11 : decode cX8_takeName 11 = .ok (.aload_n 0, 1) := zdec_at bX8_takeName_0 5 rfl
theorem dX8_takeName_12 : decode cX8_takeName 12 = .ok (.getfield 392, 3) := zdec_at bX8_takeName_0 6 rfl
theorem dX8_takeName_15 : decode cX8_takeName 15 = .ok (.iaload, 1) := zdec_at bX8_takeName_0 7 rfl
theorem dX8_takeName_16 : decode cX8_takeName 16 = .ok (.iconst 1, 1) := zdec_at bX8_takeName_0 8 rfl
theorem dX8_takeName_17 : decode cX8_takeName 17 = .ok (.if_icmp .eq 11, 3) := zdec_at bX8_takeName_0 9 rfl
theorem dX8_takeName_20 : decode cX8_takeName 20 = .ok (.aload_n 0, 1) := zdec_at bX8_takeName_0 10 rfl
theorem dX8_takeName_21 : decode cX8_takeName 21 = .ok (.iconst 2, 1) := zdec_at bX8_takeName_0 11 rfl
theorem dX8_takeName_22 : decode cX8_takeName 22 = .ok (.invokevirtual 401, 3) := zdec_at bX8_takeName_0 12 rfl
theorem dX8_takeName_25 : decode cX8_takeName 25 = .ok (.pop, 1) := zdec_at bX8_takeName_0 13 rfl
theorem dX8_takeName_26 : decode cX8_takeName 26 = .ok (.iconst (-1), 1) := zdec_at bX8_takeName_0 14 rfl
theorem dX8_takeName_27 : decode cX8_takeName 27 = .ok (.ireturn, 1) := zdec_at bX8_takeName_0 15 rfl
theorem bX8_takeName_28 : zdec cX8_takeName 28 [(28, .aload_n 0, 1), (29, .dup, 1), (30, .getfield 392, 3), (33, .iconst 1, 1), (34, .iadd, 1), (35, .putfield 392, 3), (38, .aload_n 0, 1), (39, .aload_n 0, 1), (40, .getfield 392, 3), (43, .iconst 1, 1), (44, .isub, 1), (45, .invokevirtual 418, 3), (48, .ireturn, 1)] = true := by decide +kernel
theorem dX8_takeName_28 : decode cX8_takeName 28 = .ok (.aload_n 0, 1) := zdec_at bX8_takeName_28 0 rfl
theorem dX8_takeName_29 : decode cX8_takeName 29 = .ok (.dup, 1) := zdec_at bX8_takeName_28 1 rfl
theorem dX8_takeName_30 : decode cX8_takeName 30 = .ok (.getfield 392, 3) := zdec_at bX8_takeName_28 2 rfl
theorem dX8_takeName_33 : decode cX8_takeName 33 = .ok (.iconst 1, 1) := zdec_at bX8_takeName_28 3 rfl
theorem dX8_takeName_34 : decode cX8_takeName 34 = .ok (.iadd, 1) := zdec_at bX8_takeName_28 4 rfl
theorem dX8_takeName_35 : decode cX8_takeName 35 = .ok (.putfield 392, 3) := zdec_at bX8_takeName_28 5 rfl
theorem dX8_takeName_38 : decode cX8_takeName 38 = .ok (.aload_n 0, 1) := zdec_at bX8_takeName_28 6 rfl
theorem dX8_takeName_39 : decode cX8_takeName 39 = .ok (.aload_n 0, 1) := zdec_at bX8_takeName_28 7 rfl
theorem dX8_takeName_40 : decode cX8_takeName 40 = .ok (.getfield 392, 3) := zdec_at bX8_takeName_28 8 rfl
theorem dX8_takeName_43 : decode cX8_takeName 43 = .ok (.iconst 1, 1) := zdec_at bX8_takeName_28 9 rfl
theorem dX8_takeName_44 : decode cX8_takeName 44 = .ok (.isub, 1) := zdec_at bX8_takeName_28 10 rfl
theorem dX8_takeName_45 : decode cX8_takeName 45 = .ok (.invokevirtual 418, 3) := zdec_at bX8_takeName_28 11 rfl
theorem dX8_takeName_48 : decode cX8_takeName 48 = .ok (.ireturn, 1) := zdec_at bX8_takeName_28 12 rfl
theorem sX8_takeName_0 {E : zE} {d : Nat} {Q : zO → zM → Prop} (M : zM)  (k : if 0 < (gi M 97 21) then (Zm E YX8_fail d M (zargs 0 [vr (some (97, 1, 0)), vi (2 : Int32)]) 0 [] (zma E YX8_takeName (d + 1) [] 22 3 [] Q)) else (vp_in (gi M 97 20) 4002 ∧ (if (gi M 103 ((gi M 97 20)).toNatClampNeg) = (1 : Int32) then (Zm E YX8_nameAt d (si M 97 20 ((gi M 97 20) + (1 : Int32))) (zargs 0 [vr (some (97, 1, 0)), vi (((gi M 97 20) + (1 : Int32)) - (1 : Int32))]) 0 [] (zma E YX8_takeName (d + 1) [] 45 3 [] Q)) else (Zm E YX8_fail d M (zargs 0 [vr (some (97, 1, 0)), vi (2 : Int32)]) 0 [] (zma E YX8_takeName (d + 1) [] 22 3 [] Q))))) : Zm E YX8_takeName (d + 1) M [(0, vr (some (97, 1, 0)))] 0 [] Q := by
  refine Zm.l (fun _ _ k_ => z_aload_n dX8_takeName_0 rfl rfl k_) ?_
  refine zm_geti dX8_takeName_1 fsX8_389_1 (by decide) (by decide) ?_
  refine Zm.br (fun _ _ k1_ k2_ => z_if_gt (tgt := 20) dX8_takeName_4 rfl k1_ k2_) (fun h_ => ?_) (fun h_ => ?_)
  · have k := zit h_ k
    refine Zm.l (fun _ _ k_ => z_aload_n dX8_takeName_20 rfl rfl k_) ?_
    refine Zm.l (fun _ _ k_ => z_iconst (v := 2) dX8_takeName_21 rfl k_) ?_
    refine Zm.pick [] rfl ?_
    exact zm_callV (as := [vi (2 : Int32)]) (st := []) dX8_takeName_22 vsX8_401_1 (Nat.le_refl _) (Nat.le_of_ble_eq_true rfl) (Nat.le_of_ble_eq_true rfl) rfl k
  · have k := zif h_ k
    refine Zm.l (fun _ _ k_ => z_aload_n dX8_takeName_7 rfl rfl k_) ?_
    refine zm_getr 5 dX8_takeName_8 fsX8_27_1 rfl ?_
    refine Zm.l (fun _ _ k_ => z_aload_n dX8_takeName_11 rfl rfl k_) ?_
    refine zm_geti dX8_takeName_12 fsX8_392_1 (by decide) (by decide) ?_
    obtain ⟨b_, k⟩ := k
    refine zm_iald dX8_takeName_15 b_ (by decide) (by decide) ?_
    refine Zm.l (fun _ _ k_ => z_iconst (v := 1) dX8_takeName_16 rfl k_) ?_
    refine Zm.br (fun _ _ k1_ k2_ => z_icmp_eq (tgt := 28) dX8_takeName_17 rfl k1_ k2_) (fun h_ => ?_) (fun h_ => ?_)
    · have k := zit h_ k
      refine Zm.l (fun _ _ k_ => z_aload_n dX8_takeName_28 rfl rfl k_) ?_
      refine Zm.l (fun _ _ k_ => z_dup dX8_takeName_29 rfl k_) ?_
      refine zm_geti dX8_takeName_30 fsX8_392_1 (by decide) (by decide) ?_
      refine Zm.l (fun _ _ k_ => z_iconst (v := 1) dX8_takeName_33 rfl k_) ?_
      refine Zm.l (fun _ _ k_ => z_iadd dX8_takeName_34 k_) ?_
      refine zm_puti (by decide) (by decide) dX8_takeName_35 (zfwN.w fwX8_392_1) rfl ⟨rfl, rfl⟩ ?_
      refine Zm.l (fun _ _ k_ => z_aload_n dX8_takeName_38 rfl rfl k_) ?_
      refine Zm.l (fun _ _ k_ => z_aload_n dX8_takeName_39 rfl rfl k_) ?_
      refine zm_geti dX8_takeName_40 fsX8_392_1 (by decide) (by decide) ?_
      refine Zm.l (fun _ _ k_ => z_iconst (v := 1) dX8_takeName_43 rfl k_) ?_
      refine Zm.l (fun _ _ k_ => z_isub dX8_takeName_44 k_) ?_
      refine Zm.pick [] rfl ?_
      exact zm_callV (as := [vi (((gi M 97 20) + (1 : Int32)) - (1 : Int32))]) (st := []) dX8_takeName_45 vsX8_418_1 (Nat.le_refl _) (Nat.le_of_ble_eq_true rfl) (Nat.le_of_ble_eq_true rfl) rfl k
    · have k := zif h_ k
      refine Zm.l (fun _ _ k_ => z_aload_n dX8_takeName_20 rfl rfl k_) ?_
      refine Zm.l (fun _ _ k_ => z_iconst (v := 2) dX8_takeName_21 rfl k_) ?_
      refine Zm.pick [] rfl ?_
      exact zm_callV (as := [vi (2 : Int32)]) (st := []) dX8_takeName_22 vsX8_401_1 (Nat.le_refl _) (Nat.le_of_ble_eq_true rfl) (Nat.le_of_ble_eq_true rfl) rfl k
theorem sX8_takeName_25 {E : zE} {d : Nat} {Q : zO → zM → Prop} (M : zM) (s0 : Int32) (k : Q (.inl (some (vi (-1 : Int32)))) M) : Zm E YX8_takeName (d + 1) M [] 25 [vi s0] Q := by
  refine Zm.l (fun _ _ k_ => z_pop dX8_takeName_25 rfl k_) ?_
  refine Zm.l (fun _ _ k_ => z_iconst (v := -1) dX8_takeName_26 rfl k_) ?_
  exact zm_iret dX8_takeName_27 rfl rfl k
theorem sX8_takeName_48 {E : zE} {d : Nat} {Q : zO → zM → Prop} (M : zM) (s0 : Int32) (k : Q (.inl (some (vi s0))) M) : Zm E YX8_takeName (d + 1) M [] 48 [vi s0] Q := by
  exact zm_iret dX8_takeName_48 rfl rfl k
/-! ScriptTypesModel.nameAt(I)I -/
theorem bX8_nameAt_0 : zdec cX8_nameAt 0 [(0, .aload_n 0, 1), (1, .iconst 0, 1), (2, .putfield 299, 3), (5, .aload_n 0, 1), (6, .getfield 27, 3), (9, .iload_n 1, 1), (10, .iaload, 1), (11, .iconst 3, 1), (12, .if_icmp .ne 16, 3), (15, .aload_n 0, 1), (16, .aload_n 0, 1), (17, .getfield 30, 3), (20, .iload_n 1, 1), (21, .iaload, 1), (22, .invokevirtual 410, 3), (25, .goto 154, 3)] = true := by decide +kernel
theorem dX8_nameAt_0 : decode cX8_nameAt 0 = .ok (.aload_n 0, 1) := zdec_at bX8_nameAt_0 0 rfl
theorem dX8_nameAt_1 : decode cX8_nameAt 1 = .ok (.iconst 0, 1) := zdec_at bX8_nameAt_0 1 rfl
theorem dX8_nameAt_2 : decode cX8_nameAt 2 = .ok (.putfield 299, 3) := zdec_at bX8_nameAt_0 2 rfl
theorem dX8_nameAt_5 : decode cX8_nameAt 5 = .ok (.aload_n 0, 1) := zdec_at bX8_nameAt_0 3 rfl
theorem dX8_nameAt_6 : decode cX8_nameAt 6 = .ok (.getfield 27, 3) := zdec_at bX8_nameAt_0 4 rfl
theorem dX8_nameAt_9 : decode cX8_nameAt 9 = .ok (.iload_n 1, 1) := zdec_at bX8_nameAt_0 5 rfl
theorem dX8_nameAt_10 : decode cX8_nameAt 10 = .ok (.iaload, 1) := zdec_at bX8_nameAt_0 6 rfl
theorem dX8_nameAt_11 : decode cX8_nameAt 11 = .ok (.iconst 3, 1) := zdec_at bX8_nameAt_0 7 rfl
theorem dX8_nameAt_12 : decode cX8_nameAt 12 = .ok (.if_icmp .ne 16, 3) := zdec_at bX8_nameAt_0 8 rfl
theorem dX8_nameAt_15 : decode cX8_nameAt 15 = .ok (.aload_n 0, 1) := zdec_at bX8_nameAt_0 9 rfl
theorem dX8_nameAt_16 : decode cX8_nameAt 16 = .ok (.aload_n 0, 1) := zdec_at bX8_nameAt_0 10 rfl
theorem dX8_nameAt_17 : decode cX8_nameAt 17 = .ok (.getfield 30, 3) := zdec_at bX8_nameAt_0 11 rfl
theorem dX8_nameAt_20 : decode cX8_nameAt 20 = .ok (.iload_n 1, 1) := zdec_at bX8_nameAt_0 12 rfl
theorem dX8_nameAt_21 : decode cX8_nameAt 21 = .ok (.iaload, 1) := zdec_at bX8_nameAt_0 13 rfl
theorem dX8_nameAt_22 : decode cX8_nameAt 22 = .ok (.invokevirtual 410, 3) := zdec_at bX8_nameAt_0 14 rfl
theorem dX8_nameAt_25 : decode cX8_nameAt 25 = .ok (.goto 154, 3) := zdec_at bX8_nameAt_0 15 rfl
theorem bX8_nameAt_28 : zdec cX8_nameAt 28 [(28, .aload_n 0, 1), (29, .getfield 27, 3), (32, .iload_n 1, 1), (33, .iaload, 1), (34, .iconst 4, 1), (35, .if_icmp .ne 112, 3), (38, .aload_n 0, 1), (39, .getfield 33, 3), (42, .iload_n 1, 1), (43, .iaload, 1), (44, .iconst 1, 1), (45, .iadd, 1), (46, .istore_n 2, 1), (47, .iload_n 2, 1), (48, .aload_n 0, 1), (49, .getfield 36, 3)] = true := by decide +kernel
theorem dX8_nameAt_28 : decode cX8_nameAt 28 = .ok (.aload_n 0, 1) := zdec_at bX8_nameAt_28 0 rfl
theorem dX8_nameAt_29 : decode cX8_nameAt 29 = .ok (.getfield 27, 3) := zdec_at bX8_nameAt_28 1 rfl
theorem dX8_nameAt_32 : decode cX8_nameAt 32 = .ok (.iload_n 1, 1) := zdec_at bX8_nameAt_28 2 rfl
theorem dX8_nameAt_33 : decode cX8_nameAt 33 = .ok (.iaload, 1) := zdec_at bX8_nameAt_28 3 rfl
theorem dX8_nameAt_34 : decode cX8_nameAt 34 = .ok (.iconst 4, 1) := zdec_at bX8_nameAt_28 4 rfl
theorem dX8_nameAt_35 : decode cX8_nameAt 35 = .ok (.if_icmp .ne 112, 3) := zdec_at bX8_nameAt_28 5 rfl
theorem dX8_nameAt_38 : decode cX8_nameAt 38 = .ok (.aload_n 0, 1) := zdec_at bX8_nameAt_28 6 rfl
theorem dX8_nameAt_39 : decode cX8_nameAt 39 = .ok (.getfield 33, 3) := zdec_at bX8_nameAt_28 7 rfl
theorem dX8_nameAt_42 : decode cX8_nameAt 42 = .ok (.iload_n 1, 1) := zdec_at bX8_nameAt_28 8 rfl
theorem dX8_nameAt_43 : decode cX8_nameAt 43 = .ok (.iaload, 1) := zdec_at bX8_nameAt_28 9 rfl
theorem dX8_nameAt_44 : decode cX8_nameAt 44 = .ok (.iconst 1, 1) := zdec_at bX8_nameAt_28 10 rfl
theorem dX8_nameAt_45 : decode cX8_nameAt 45 = .ok (.iadd, 1) := zdec_at bX8_nameAt_28 11 rfl
theorem dX8_nameAt_46 : decode cX8_nameAt 46 = .ok (.istore_n 2, 1) := zdec_at bX8_nameAt_28 12 rfl
theorem dX8_nameAt_47 : decode cX8_nameAt 47 = .ok (.iload_n 2, 1) := zdec_at bX8_nameAt_28 13 rfl
theorem dX8_nameAt_48 : decode cX8_nameAt 48 = .ok (.aload_n 0, 1) := zdec_at bX8_nameAt_28 14 rfl
theorem dX8_nameAt_49 : decode cX8_nameAt 49 = .ok (.getfield 36, 3) := zdec_at bX8_nameAt_28 15 rfl
theorem bX8_nameAt_52 : zdec cX8_nameAt 52 [(52, .iload_n 1, 1), (53, .iaload, 1), (54, .iconst 1, 1), (55, .isub, 1), (56, .if_icmp .ge 88, 3), (59, .aload_n 0, 1), (60, .iload_n 2, 1), (61, .invokevirtual 334, 3), (64, .bipush 92, 2), (66, .if_icmp .ne 7, 3), (69, .iconst 1, 1), (70, .goto 4, 3), (73, .iconst 0, 1), (74, .istore_n 3, 1), (75, .iload_n 2, 1), (76, .iload_n 3, 1)] = true := by decide +kernel
theorem dX8_nameAt_52 : decode cX8_nameAt 52 = .ok (.iload_n 1, 1) := zdec_at bX8_nameAt_52 0 rfl
theorem dX8_nameAt_53 : decode cX8_nameAt 53 = .ok (.iaload, 1) := zdec_at bX8_nameAt_52 1 rfl
theorem dX8_nameAt_54 : decode cX8_nameAt 54 = .ok (.iconst 1, 1) := zdec_at bX8_nameAt_52 2 rfl
theorem dX8_nameAt_55 : decode cX8_nameAt 55 = .ok (.isub, 1) := zdec_at bX8_nameAt_52 3 rfl
theorem dX8_nameAt_56 : decode cX8_nameAt 56 = .ok (.if_icmp .ge 88, 3) := zdec_at bX8_nameAt_52 4 rfl
theorem dX8_nameAt_59 : decode cX8_nameAt 59 = .ok (.aload_n 0, 1) := zdec_at bX8_nameAt_52 5 rfl
theorem dX8_nameAt_60 : decode cX8_nameAt 60 = .ok (.iload_n 2, 1) := zdec_at bX8_nameAt_52 6 rfl
theorem dX8_nameAt_61 : decode cX8_nameAt 61 = .ok (.invokevirtual 334, 3) := zdec_at bX8_nameAt_52 7 rfl
theorem dX8_nameAt_64 : decode cX8_nameAt 64 = .ok (.bipush 92, 2) := zdec_at bX8_nameAt_52 8 rfl
theorem dX8_nameAt_66 : decode cX8_nameAt 66 = .ok (.if_icmp .ne 7, 3) := zdec_at bX8_nameAt_52 9 rfl
theorem dX8_nameAt_69 : decode cX8_nameAt 69 = .ok (.iconst 1, 1) := zdec_at bX8_nameAt_52 10 rfl
theorem dX8_nameAt_70 : decode cX8_nameAt 70 = .ok (.goto 4, 3) := zdec_at bX8_nameAt_52 11 rfl
theorem dX8_nameAt_73 : decode cX8_nameAt 73 = .ok (.iconst 0, 1) := zdec_at bX8_nameAt_52 12 rfl
theorem dX8_nameAt_74 : decode cX8_nameAt 74 = .ok (.istore_n 3, 1) := zdec_at bX8_nameAt_52 13 rfl
theorem dX8_nameAt_75 : decode cX8_nameAt 75 = .ok (.iload_n 2, 1) := zdec_at bX8_nameAt_52 14 rfl
theorem dX8_nameAt_76 : decode cX8_nameAt 76 = .ok (.iload_n 3, 1) := zdec_at bX8_nameAt_52 15 rfl
theorem bX8_nameAt_77 : zdec cX8_nameAt 77 [(77, .ifCond .eq 7, 3), (80, .iconst 1, 1), (81, .goto 4, 3), (84, .iconst 0, 1), (85, .iadd, 1), (86, .istore_n 2, 1), (87, .aload_n 0, 1), (88, .iload_n 3, 1), (89, .ifCond .ne 11, 3), (92, .aload_n 0, 1), (93, .iload_n 2, 1), (94, .invokevirtual 334, 3), (97, .goto 38, 3), (100, .aload_n 0, 1), (101, .iload_n 2, 1), (102, .invokevirtual 334, 3)] = true := by decide +kernel
theorem dX8_nameAt_77 : decode cX8_nameAt 77 = .ok (.ifCond .eq 7, 3) := zdec_at bX8_nameAt_77 0 rfl
theorem dX8_nameAt_80 : decode cX8_nameAt 80 = .ok (.iconst 1, 1) := zdec_at bX8_nameAt_77 1 rfl
theorem dX8_nameAt_81 : decode cX8_nameAt 81 = .ok (.goto 4, 3) := zdec_at bX8_nameAt_77 2 rfl
theorem dX8_nameAt_84 : decode cX8_nameAt 84 = .ok (.iconst 0, 1) := zdec_at bX8_nameAt_77 3 rfl
theorem dX8_nameAt_85 : decode cX8_nameAt 85 = .ok (.iadd, 1) := zdec_at bX8_nameAt_77 4 rfl
theorem dX8_nameAt_86 : decode cX8_nameAt 86 = .ok (.istore_n 2, 1) := zdec_at bX8_nameAt_77 5 rfl
theorem dX8_nameAt_87 : decode cX8_nameAt 87 = .ok (.aload_n 0, 1) := zdec_at bX8_nameAt_77 6 rfl
theorem dX8_nameAt_88 : decode cX8_nameAt 88 = .ok (.iload_n 3, 1) := zdec_at bX8_nameAt_77 7 rfl
theorem dX8_nameAt_89 : decode cX8_nameAt 89 = .ok (.ifCond .ne 11, 3) := zdec_at bX8_nameAt_77 8 rfl
theorem dX8_nameAt_92 : decode cX8_nameAt 92 = .ok (.aload_n 0, 1) := zdec_at bX8_nameAt_77 9 rfl
theorem dX8_nameAt_93 : decode cX8_nameAt 93 = .ok (.iload_n 2, 1) := zdec_at bX8_nameAt_77 10 rfl
theorem dX8_nameAt_94 : decode cX8_nameAt 94 = .ok (.invokevirtual 334, 3) := zdec_at bX8_nameAt_77 11 rfl
theorem dX8_nameAt_97 : decode cX8_nameAt 97 = .ok (.goto 38, 3) := zdec_at bX8_nameAt_77 12 rfl
theorem dX8_nameAt_100 : decode cX8_nameAt 100 = .ok (.aload_n 0, 1) := zdec_at bX8_nameAt_77 13 rfl
theorem dX8_nameAt_101 : decode cX8_nameAt 101 = .ok (.iload_n 2, 1) := zdec_at bX8_nameAt_77 14 rfl
theorem dX8_nameAt_102 : decode cX8_nameAt 102 = .ok (.invokevirtual 334, 3) := zdec_at bX8_nameAt_77 15 rfl
theorem bX8_nameAt_105 : zdec cX8_nameAt 105 [(105, .bipush 110, 2), (107, .if_icmp .ne 8, 3), (110, .bipush 10, 2), (112, .goto 23, 3), (115, .aload_n 0, 1), (116, .iload_n 2, 1), (117, .invokevirtual 334, 3), (120, .bipush 116, 2), (122, .if_icmp .ne 8, 3), (125, .bipush 9, 2), (127, .goto 8, 3), (130, .aload_n 0, 1), (131, .iload_n 2, 1), (132, .invokevirtual 334, 3), (135, .invokevirtual 324, 3), (138, .iinc 2 1, 3)] = true := by decide +kernel
theorem dX8_nameAt_105 : decode cX8_nameAt 105 = .ok (.bipush 110, 2) := zdec_at bX8_nameAt_105 0 rfl
theorem dX8_nameAt_107 : decode cX8_nameAt 107 = .ok (.if_icmp .ne 8, 3) := zdec_at bX8_nameAt_105 1 rfl
theorem dX8_nameAt_110 : decode cX8_nameAt 110 = .ok (.bipush 10, 2) := zdec_at bX8_nameAt_105 2 rfl
theorem dX8_nameAt_112 : decode cX8_nameAt 112 = .ok (.goto 23, 3) := zdec_at bX8_nameAt_105 3 rfl
theorem dX8_nameAt_115 : decode cX8_nameAt 115 = .ok (.aload_n 0, 1) := zdec_at bX8_nameAt_105 4 rfl
theorem dX8_nameAt_116 : decode cX8_nameAt 116 = .ok (.iload_n 2, 1) := zdec_at bX8_nameAt_105 5 rfl
theorem dX8_nameAt_117 : decode cX8_nameAt 117 = .ok (.invokevirtual 334, 3) := zdec_at bX8_nameAt_105 6 rfl
theorem dX8_nameAt_120 : decode cX8_nameAt 120 = .ok (.bipush 116, 2) := zdec_at bX8_nameAt_105 7 rfl
theorem dX8_nameAt_122 : decode cX8_nameAt 122 = .ok (.if_icmp .ne 8, 3) := zdec_at bX8_nameAt_105 8 rfl
theorem dX8_nameAt_125 : decode cX8_nameAt 125 = .ok (.bipush 9, 2) := zdec_at bX8_nameAt_105 9 rfl
theorem dX8_nameAt_127 : decode cX8_nameAt 127 = .ok (.goto 8, 3) := zdec_at bX8_nameAt_105 10 rfl
theorem dX8_nameAt_130 : decode cX8_nameAt 130 = .ok (.aload_n 0, 1) := zdec_at bX8_nameAt_105 11 rfl
theorem dX8_nameAt_131 : decode cX8_nameAt 131 = .ok (.iload_n 2, 1) := zdec_at bX8_nameAt_105 12 rfl
theorem dX8_nameAt_132 : decode cX8_nameAt 132 = .ok (.invokevirtual 334, 3) := zdec_at bX8_nameAt_105 13 rfl
theorem dX8_nameAt_135 : decode cX8_nameAt 135 = .ok (.invokevirtual 324, 3) := zdec_at bX8_nameAt_105 14 rfl
theorem dX8_nameAt_138 : decode cX8_nameAt 138 = .ok (.iinc 2 1, 3) := zdec_at bX8_nameAt_105 15 rfl
theorem bX8_nameAt_141 : zdec cX8_nameAt 141 [(141, .goto (-94), 3), (144, .goto 35, 3), (147, .aload_n 0, 1), (148, .getfield 33, 3), (151, .iload_n 1, 1), (152, .iaload, 1), (153, .istore_n 2, 1), (154, .iload_n 2, 1), (155, .aload_n 0, 1), (156, .getfield 36, 3), (159, .iload_n 1, 1), (160, .iaload, 1), (161, .if_icmp .ge 18, 3), (164, .aload_n 0, 1), (165, .aload_n 0, 1), (166, .iload_n 2, 1)] = true := by decide +kernel
theorem dX8_nameAt_141 : decode cX8_nameAt 141 = .ok (.goto (-94), 3) := zdec_at bX8_nameAt_141 0 rfl
theorem dX8_nameAt_144 : decode cX8_nameAt 144 = .ok (.goto 35, 3) := zdec_at bX8_nameAt_141 1 rfl
theorem dX8_nameAt_147 : decode cX8_nameAt 147 = .ok (.aload_n 0, 1) := zdec_at bX8_nameAt_141 2 rfl
theorem dX8_nameAt_148 : decode cX8_nameAt 148 = .ok (.getfield 33, 3) := zdec_at bX8_nameAt_141 3 rfl
theorem dX8_nameAt_151 : decode cX8_nameAt 151 = .ok (.iload_n 1, 1) := zdec_at bX8_nameAt_141 4 rfl
theorem dX8_nameAt_152 : decode cX8_nameAt 152 = .ok (.iaload, 1) := zdec_at bX8_nameAt_141 5 rfl
theorem dX8_nameAt_153 : decode cX8_nameAt 153 = .ok (.istore_n 2, 1) := zdec_at bX8_nameAt_141 6 rfl
theorem dX8_nameAt_154 : decode cX8_nameAt 154 = .ok (.iload_n 2, 1) := zdec_at bX8_nameAt_141 7 rfl
theorem dX8_nameAt_155 : decode cX8_nameAt 155 = .ok (.aload_n 0, 1) := zdec_at bX8_nameAt_141 8 rfl
theorem dX8_nameAt_156 : decode cX8_nameAt 156 = .ok (.getfield 36, 3) := zdec_at bX8_nameAt_141 9 rfl
theorem dX8_nameAt_159 : decode cX8_nameAt 159 = .ok (.iload_n 1, 1) := zdec_at bX8_nameAt_141 10 rfl
theorem dX8_nameAt_160 : decode cX8_nameAt 160 = .ok (.iaload, 1) := zdec_at bX8_nameAt_141 11 rfl
theorem dX8_nameAt_161 : decode cX8_nameAt 161 = .ok (.if_icmp .ge 18, 3) := zdec_at bX8_nameAt_141 12 rfl
theorem dX8_nameAt_164 : decode cX8_nameAt 164 = .ok (.aload_n 0, 1) := zdec_at bX8_nameAt_141 13 rfl
theorem dX8_nameAt_165 : decode cX8_nameAt 165 = .ok (.aload_n 0, 1) := zdec_at bX8_nameAt_141 14 rfl
theorem dX8_nameAt_166 : decode cX8_nameAt 166 = .ok (.iload_n 2, 1) := zdec_at bX8_nameAt_141 15 rfl
theorem bX8_nameAt_167 : zdec cX8_nameAt 167 [(167, .invokevirtual 334, 3), (170, .invokevirtual 324, 3), (173, .iinc 2 1, 3), (176, .goto (-22), 3), (179, .aload_n 0, 1), (180, .invokevirtual 413, 3), (183, .ireturn, 1)] = true := by decide +kernel
theorem dX8_nameAt_167 : decode cX8_nameAt 167 = .ok (.invokevirtual 334, 3) := zdec_at bX8_nameAt_167 0 rfl
theorem dX8_nameAt_170 : decode cX8_nameAt 170 = .ok (.invokevirtual 324, 3) := zdec_at bX8_nameAt_167 1 rfl
theorem dX8_nameAt_173 : decode cX8_nameAt 173 = .ok (.iinc 2 1, 3) := zdec_at bX8_nameAt_167 2 rfl
theorem dX8_nameAt_176 : decode cX8_nameAt 176 = .ok (.goto (-22), 3) := zdec_at bX8_nameAt_167 3 rfl
theorem dX8_nameAt_179 : decode cX8_nameAt 179 = .ok (.aload_n 0, 1) := zdec_at bX8_nameAt_167 4 rfl
theorem dX8_nameAt_180 : decode cX8_nameAt 180 = .ok (.invokevirtual 413, 3) := zdec_at bX8_nameAt_167 5 rfl
theorem dX8_nameAt_183 : decode cX8_nameAt 183 = .ok (.ireturn, 1) := zdec_at bX8_nameAt_167 6 rfl
theorem sX8_nameAt_0 {E : zE} {d : Nat} {Q : zO → zM → Prop} (M : zM) (l1 : Int32) (k : vp_in l1 4002 ∧ (if (gi M 103 (l1).toNatClampNeg) = (3 : Int32) then (vp_in l1 4002 ∧ (Zm E YX8_putNumber d (si M 97 11 (0 : Int32)) (zargs 0 [vr (some (97, 1, 0)), vi (gi M 104 (l1).toNatClampNeg)]) 0 [] (zma E YX8_nameAt (d + 1) [(0, vr (some (97, 1, 0)))] 22 3 [] Q))) else (vp_in l1 4002 ∧ (if (gi M 103 (l1).toNatClampNeg) = (4 : Int32) then (vp_in l1 4002 ∧ (Zm E YX8_nameAt (d + 1) (si M 97 11 (0 : Int32)) [(0, vr (some (97, 1, 0))), (1, vi l1), (2, vi ((gi M 105 (l1).toNatClampNeg) + (1 : Int32)))] 47 [] Q)) else (vp_in l1 4002 ∧ (Zm E YX8_nameAt (d + 1) (si M 97 11 (0 : Int32)) [(0, vr (some (97, 1, 0))), (1, vi l1), (2, vi (gi M 105 (l1).toNatClampNeg))] 154 [] Q)))))) : Zm E YX8_nameAt (d + 1) M [(0, vr (some (97, 1, 0))), (1, vi l1)] 0 [] Q := by
  refine Zm.l (fun _ _ k_ => z_aload_n dX8_nameAt_0 rfl rfl k_) ?_
  refine Zm.l (fun _ _ k_ => z_iconst (v := 0) dX8_nameAt_1 rfl k_) ?_
  refine zm_puti (by decide) (by decide) dX8_nameAt_2 (zfwN.w fwX8_299_1) rfl ⟨rfl, rfl⟩ ?_
  refine Zm.l (fun _ _ k_ => z_aload_n dX8_nameAt_5 rfl rfl k_) ?_
  refine zm_getr 5 dX8_nameAt_6 fsX8_27_1 rfl ?_
  refine Zm.l (fun _ _ k_ => z_iload_n dX8_nameAt_9 rfl rfl k_) ?_
  obtain ⟨b_, k⟩ := k
  refine zm_iald dX8_nameAt_10 b_ (by decide) (by decide) ?_
  refine Zm.l (fun _ _ k_ => z_iconst (v := 3) dX8_nameAt_11 rfl k_) ?_
  refine Zm.brn (fun _ _ k1_ k2_ => z_icmp_ne (tgt := 28) dX8_nameAt_12 rfl k1_ k2_) (fun h_ => ?_) (fun h_ => ?_)
  · have k := zif h_ k
    refine Zm.l (fun _ _ k_ => z_aload_n dX8_nameAt_28 rfl rfl k_) ?_
    refine zm_getr 5 dX8_nameAt_29 fsX8_27_1 rfl ?_
    refine Zm.l (fun _ _ k_ => z_iload_n dX8_nameAt_32 rfl rfl k_) ?_
    obtain ⟨b_, k⟩ := k
    refine zm_iald dX8_nameAt_33 b_ (by decide) (by decide) ?_
    refine Zm.l (fun _ _ k_ => z_iconst (v := 4) dX8_nameAt_34 rfl k_) ?_
    refine Zm.brn (fun _ _ k1_ k2_ => z_icmp_ne (tgt := 147) dX8_nameAt_35 rfl k1_ k2_) (fun h_ => ?_) (fun h_ => ?_)
    · have k := zif h_ k
      refine Zm.l (fun _ _ k_ => z_aload_n dX8_nameAt_147 rfl rfl k_) ?_
      refine zm_getr 7 dX8_nameAt_148 fsX8_33_1 rfl ?_
      refine Zm.l (fun _ _ k_ => z_iload_n dX8_nameAt_151 rfl rfl k_) ?_
      obtain ⟨b_, k⟩ := k
      refine zm_iald dX8_nameAt_152 b_ (by decide) (by decide) ?_
      refine Zm.l (fun _ _ k_ => z_ist_n dX8_nameAt_153 rfl (by decide) (lv' := [(0, vr (some (97, 1, 0))), (1, vi l1), (2, vi (gi M 105 (l1).toNatClampNeg))]) rfl k_) ?_
      exact k
    · have k := zit h_ k
      refine Zm.l (fun _ _ k_ => z_aload_n dX8_nameAt_38 rfl rfl k_) ?_
      refine zm_getr 7 dX8_nameAt_39 fsX8_33_1 rfl ?_
      refine Zm.l (fun _ _ k_ => z_iload_n dX8_nameAt_42 rfl rfl k_) ?_
      obtain ⟨b_, k⟩ := k
      refine zm_iald dX8_nameAt_43 b_ (by decide) (by decide) ?_
      refine Zm.l (fun _ _ k_ => z_iconst (v := 1) dX8_nameAt_44 rfl k_) ?_
      refine Zm.l (fun _ _ k_ => z_iadd dX8_nameAt_45 k_) ?_
      refine Zm.l (fun _ _ k_ => z_ist_n dX8_nameAt_46 rfl (by decide) (lv' := [(0, vr (some (97, 1, 0))), (1, vi l1), (2, vi ((gi M 105 (l1).toNatClampNeg) + (1 : Int32)))]) rfl k_) ?_
      exact k
  · have k := zit h_ k
    refine Zm.l (fun _ _ k_ => z_aload_n dX8_nameAt_15 rfl rfl k_) ?_
    refine Zm.l (fun _ _ k_ => z_aload_n dX8_nameAt_16 rfl rfl k_) ?_
    refine zm_getr 6 dX8_nameAt_17 fsX8_30_1 rfl ?_
    refine Zm.l (fun _ _ k_ => z_iload_n dX8_nameAt_20 rfl rfl k_) ?_
    obtain ⟨b_, k⟩ := k
    refine zm_iald dX8_nameAt_21 b_ (by decide) (by decide) ?_
    refine Zm.pick [0] rfl ?_
    exact zm_callV (as := [vi (gi M 104 (l1).toNatClampNeg)]) (st := []) dX8_nameAt_22 vsX8_410_1 (Nat.le_refl _) (Nat.le_of_ble_eq_true rfl) (Nat.le_of_ble_eq_true rfl) rfl k
theorem sX8_nameAt_25 {E : zE} {d : Nat} {Q : zO → zM → Prop} (M : zM)  (k : Zm E YX8_nameOfText d M (zargs 0 [vr (some (97, 1, 0))]) 0 [] (zma E YX8_nameAt (d + 1) [] 180 3 [] Q)) : Zm E YX8_nameAt (d + 1) M [(0, vr (some (97, 1, 0)))] 25 [] Q := by
  refine Zm.l (fun _ _ k_ => z_goto (tgt := 179) dX8_nameAt_25 rfl k_) ?_
  refine Zm.l (fun _ _ k_ => z_aload_n dX8_nameAt_179 rfl rfl k_) ?_
  refine Zm.pick [] rfl ?_
  exact zm_callV (as := []) (st := []) dX8_nameAt_180 vsX8_413_1 (Nat.le_refl _) (Nat.le_of_ble_eq_true rfl) (Nat.le_of_ble_eq_true rfl) rfl k
theorem sX8_nameAt_47 {E : zE} {d : Nat} {Q : zO → zM → Prop} (M : zM) (l1 : Int32) (l2 : Int32) (k : vp_in l1 4002 ∧ (if ((gi M 106 (l1).toNatClampNeg) - (1 : Int32)) ≤ l2 then (Zm E YX8_nameOfText d M (zargs 0 [vr (some (97, 1, 0))]) 0 [] (zma E YX8_nameAt (d + 1) [] 180 3 [] Q)) else (Zm E YX8_look d M (zargs 0 [vr (some (97, 1, 0)), vi l2]) 0 [] (zma E YX8_nameAt (d + 1) [(0, vr (some (97, 1, 0))), (1, vi l1), (2, vi l2)] 61 3 [] Q)))) : Zm E YX8_nameAt (d + 1) M [(0, vr (some (97, 1, 0))), (1, vi l1), (2, vi l2)] 47 [] Q := by
  refine Zm.l (fun _ _ k_ => z_iload_n dX8_nameAt_47 rfl rfl k_) ?_
  refine Zm.l (fun _ _ k_ => z_aload_n dX8_nameAt_48 rfl rfl k_) ?_
  refine zm_getr 8 dX8_nameAt_49 fsX8_36_1 rfl ?_
  refine Zm.l (fun _ _ k_ => z_iload_n dX8_nameAt_52 rfl rfl k_) ?_
  obtain ⟨b_, k⟩ := k
  refine zm_iald dX8_nameAt_53 b_ (by decide) (by decide) ?_
  refine Zm.l (fun _ _ k_ => z_iconst (v := 1) dX8_nameAt_54 rfl k_) ?_
  refine Zm.l (fun _ _ k_ => z_isub dX8_nameAt_55 k_) ?_
  refine Zm.br (fun _ _ k1_ k2_ => z_icmp_ge (tgt := 144) dX8_nameAt_56 rfl k1_ k2_) (fun h_ => ?_) (fun h_ => ?_)
  · have k := zit h_ k
    refine Zm.l (fun _ _ k_ => z_goto (tgt := 179) dX8_nameAt_144 rfl k_) ?_
    refine Zm.l (fun _ _ k_ => z_aload_n dX8_nameAt_179 rfl rfl k_) ?_
    refine Zm.pick [] rfl ?_
    exact zm_callV (as := []) (st := []) dX8_nameAt_180 vsX8_413_1 (Nat.le_refl _) (Nat.le_of_ble_eq_true rfl) (Nat.le_of_ble_eq_true rfl) rfl k
  · have k := zif h_ k
    refine Zm.l (fun _ _ k_ => z_aload_n dX8_nameAt_59 rfl rfl k_) ?_
    refine Zm.l (fun _ _ k_ => z_iload_n dX8_nameAt_60 rfl rfl k_) ?_
    exact zm_callV (as := [vi l2]) (st := []) dX8_nameAt_61 vsX8_334_1 (Nat.le_refl _) (Nat.le_of_ble_eq_true rfl) (Nat.le_of_ble_eq_true rfl) rfl k
theorem sX8_nameAt_64 {E : zE} {d : Nat} {Q : zO → zM → Prop} (M : zM) (l1 : Int32) (l2 : Int32) (s0 : Int32) (k : if s0 = (92 : Int32) then (if (1 : Int32) = 0 then (Zm E YX8_nameAt (d + 1) M [(0, vr (some (97, 1, 0))), (1, vi l1), (3, vi (1 : Int32))] 85 [vi (0 : Int32), vi l2] Q) else (Zm E YX8_nameAt (d + 1) M [(0, vr (some (97, 1, 0))), (1, vi l1), (3, vi (1 : Int32))] 85 [vi (1 : Int32), vi l2] Q)) else (if (0 : Int32) = 0 then (Zm E YX8_nameAt (d + 1) M [(0, vr (some (97, 1, 0))), (1, vi l1), (3, vi (0 : Int32))] 85 [vi (0 : Int32), vi l2] Q) else (Zm E YX8_nameAt (d + 1) M [(0, vr (some (97, 1, 0))), (1, vi l1), (3, vi (0 : Int32))] 85 [vi (1 : Int32), vi l2] Q))) : Zm E YX8_nameAt (d + 1) M [(0, vr (some (97, 1, 0))), (1, vi l1), (2, vi l2)] 64 [vi s0] Q := by
  refine Zm.l (fun _ _ k_ => z_bipush (v := 92) dX8_nameAt_64 rfl k_) ?_
  refine Zm.brn (fun _ _ k1_ k2_ => z_icmp_ne (tgt := 73) dX8_nameAt_66 rfl k1_ k2_) (fun h_ => ?_) (fun h_ => ?_)
  · have k := zif h_ k
    refine Zm.l (fun _ _ k_ => z_iconst (v := 0) dX8_nameAt_73 rfl k_) ?_
    refine Zm.l (fun _ _ k_ => z_ist_n dX8_nameAt_74 rfl (by decide) (lv' := [(0, vr (some (97, 1, 0))), (1, vi l1), (2, vi l2), (3, vi (0 : Int32))]) rfl k_) ?_
    refine Zm.l (fun _ _ k_ => z_iload_n dX8_nameAt_75 rfl rfl k_) ?_
    refine Zm.l (fun _ _ k_ => z_iload_n dX8_nameAt_76 rfl rfl k_) ?_
    refine Zm.br (fun _ _ k1_ k2_ => z_if_eq (tgt := 84) dX8_nameAt_77 rfl k1_ k2_) (fun h_ => ?_) (fun h_ => ?_)
    · have k := zit h_ k
      refine Zm.l (fun _ _ k_ => z_iconst (v := 0) dX8_nameAt_84 rfl k_) ?_
      refine Zm.pick [0, 1, 3] rfl ?_
      exact k
    · have k := zif h_ k
      refine Zm.l (fun _ _ k_ => z_iconst (v := 1) dX8_nameAt_80 rfl k_) ?_
      refine Zm.l (fun _ _ k_ => z_goto (tgt := 85) dX8_nameAt_81 rfl k_) ?_
      refine Zm.pick [0, 1, 3] rfl ?_
      exact k
  · have k := zit h_ k
    refine Zm.l (fun _ _ k_ => z_iconst (v := 1) dX8_nameAt_69 rfl k_) ?_
    refine Zm.l (fun _ _ k_ => z_goto (tgt := 74) dX8_nameAt_70 rfl k_) ?_
    refine Zm.l (fun _ _ k_ => z_ist_n dX8_nameAt_74 rfl (by decide) (lv' := [(0, vr (some (97, 1, 0))), (1, vi l1), (2, vi l2), (3, vi (1 : Int32))]) rfl k_) ?_
    refine Zm.l (fun _ _ k_ => z_iload_n dX8_nameAt_75 rfl rfl k_) ?_
    refine Zm.l (fun _ _ k_ => z_iload_n dX8_nameAt_76 rfl rfl k_) ?_
    refine Zm.br (fun _ _ k1_ k2_ => z_if_eq (tgt := 84) dX8_nameAt_77 rfl k1_ k2_) (fun h_ => ?_) (fun h_ => ?_)
    · have k := zit h_ k
      refine Zm.l (fun _ _ k_ => z_iconst (v := 0) dX8_nameAt_84 rfl k_) ?_
      refine Zm.pick [0, 1, 3] rfl ?_
      exact k
    · have k := zif h_ k
      refine Zm.l (fun _ _ k_ => z_iconst (v := 1) dX8_nameAt_80 rfl k_) ?_
      refine Zm.l (fun _ _ k_ => z_goto (tgt := 85) dX8_nameAt_81 rfl k_) ?_
      refine Zm.pick [0, 1, 3] rfl ?_
      exact k
theorem sX8_nameAt_85 {E : zE} {d : Nat} {Q : zO → zM → Prop} (M : zM) (l1 : Int32) (l3 : Int32) (s0 : Int32) (s1 : Int32) (k : if l3 = 0 then (Zm E YX8_look d M (zargs 0 [vr (some (97, 1, 0)), vi (s1 + s0)]) 0 [] (zma E YX8_nameAt (d + 1) [(0, vr (some (97, 1, 0))), (1, vi l1), (2, vi (s1 + s0))] 94 3 [vr (some (97, 1, 0))] Q)) else (Zm E YX8_look d M (zargs 0 [vr (some (97, 1, 0)), vi (s1 + s0)]) 0 [] (zma E YX8_nameAt (d + 1) [(0, vr (some (97, 1, 0))), (1, vi l1), (2, vi (s1 + s0))] 102 3 [vr (some (97, 1, 0))] Q))) : Zm E YX8_nameAt (d + 1) M [(0, vr (some (97, 1, 0))), (1, vi l1), (3, vi l3)] 85 [vi s0, vi s1] Q := by
  refine Zm.l (fun _ _ k_ => z_iadd dX8_nameAt_85 k_) ?_
  refine Zm.l (fun _ _ k_ => z_ist_n dX8_nameAt_86 rfl (by decide) (lv' := [(0, vr (some (97, 1, 0))), (1, vi l1), (2, vi (s1 + s0)), (3, vi l3)]) rfl k_) ?_
  refine Zm.l (fun _ _ k_ => z_aload_n dX8_nameAt_87 rfl rfl k_) ?_
  refine Zm.l (fun _ _ k_ => z_iload_n dX8_nameAt_88 rfl rfl k_) ?_
  refine Zm.brn (fun _ _ k1_ k2_ => z_if_ne (tgt := 100) dX8_nameAt_89 rfl k1_ k2_) (fun h_ => ?_) (fun h_ => ?_)
  · have k := zif h_ k
    refine Zm.l (fun _ _ k_ => z_aload_n dX8_nameAt_100 rfl rfl k_) ?_
    refine Zm.l (fun _ _ k_ => z_iload_n dX8_nameAt_101 rfl rfl k_) ?_
    refine Zm.pick [0, 1, 2] rfl ?_
    exact zm_callV (as := [vi (s1 + s0)]) (st := [vr (some (97, 1, 0))]) dX8_nameAt_102 vsX8_334_1 (Nat.le_refl _) (Nat.le_of_ble_eq_true rfl) (Nat.le_of_ble_eq_true rfl) rfl k
  · have k := zit h_ k
    refine Zm.l (fun _ _ k_ => z_aload_n dX8_nameAt_92 rfl rfl k_) ?_
    refine Zm.l (fun _ _ k_ => z_iload_n dX8_nameAt_93 rfl rfl k_) ?_
    refine Zm.pick [0, 1, 2] rfl ?_
    exact zm_callV (as := [vi (s1 + s0)]) (st := [vr (some (97, 1, 0))]) dX8_nameAt_94 vsX8_334_1 (Nat.le_refl _) (Nat.le_of_ble_eq_true rfl) (Nat.le_of_ble_eq_true rfl) rfl k
theorem sX8_nameAt_97 {E : zE} {d : Nat} {Q : zO → zM → Prop} (M : zM) (l1 : Int32) (l2 : Int32) (s0 : Int32) (k : Zm E YX8_nameAt (d + 1) M [(0, vr (some (97, 1, 0))), (1, vi l1), (2, vi l2)] 135 [vi s0, vr (some (97, 1, 0))] Q) : Zm E YX8_nameAt (d + 1) M [(0, vr (some (97, 1, 0))), (1, vi l1), (2, vi l2)] 97 [vi s0, vr (some (97, 1, 0))] Q := by
  refine Zm.l (fun _ _ k_ => z_goto (tgt := 135) dX8_nameAt_97 rfl k_) ?_
  exact k
theorem sX8_nameAt_105 {E : zE} {d : Nat} {Q : zO → zM → Prop} (M : zM) (l1 : Int32) (l2 : Int32) (s0 : Int32) (k : if s0 = (110 : Int32) then (Zm E YX8_nameAt (d + 1) M [(0, vr (some (97, 1, 0))), (1, vi l1), (2, vi l2)] 135 [vi (10 : Int32), vr (some (97, 1, 0))] Q) else (Zm E YX8_look d M (zargs 0 [vr (some (97, 1, 0)), vi l2]) 0 [] (zma E YX8_nameAt (d + 1) [(0, vr (some (97, 1, 0))), (1, vi l1), (2, vi l2)] 117 3 [vr (some (97, 1, 0))] Q))) : Zm E YX8_nameAt (d + 1) M [(0, vr (some (97, 1, 0))), (1, vi l1), (2, vi l2)] 105 [vi s0, vr (some (97, 1, 0))] Q := by
  refine Zm.l (fun _ _ k_ => z_bipush (v := 110) dX8_nameAt_105 rfl k_) ?_
  refine Zm.brn (fun _ _ k1_ k2_ => z_icmp_ne (tgt := 115) dX8_nameAt_107 rfl k1_ k2_) (fun h_ => ?_) (fun h_ => ?_)
  · have k := zif h_ k
    refine Zm.l (fun _ _ k_ => z_aload_n dX8_nameAt_115 rfl rfl k_) ?_
    refine Zm.l (fun _ _ k_ => z_iload_n dX8_nameAt_116 rfl rfl k_) ?_
    exact zm_callV (as := [vi l2]) (st := [vr (some (97, 1, 0))]) dX8_nameAt_117 vsX8_334_1 (Nat.le_refl _) (Nat.le_of_ble_eq_true rfl) (Nat.le_of_ble_eq_true rfl) rfl k
  · have k := zit h_ k
    refine Zm.l (fun _ _ k_ => z_bipush (v := 10) dX8_nameAt_110 rfl k_) ?_
    refine Zm.l (fun _ _ k_ => z_goto (tgt := 135) dX8_nameAt_112 rfl k_) ?_
    exact k
theorem sX8_nameAt_120 {E : zE} {d : Nat} {Q : zO → zM → Prop} (M : zM) (l1 : Int32) (l2 : Int32) (s0 : Int32) (k : if s0 = (116 : Int32) then (Zm E YX8_nameAt (d + 1) M [(0, vr (some (97, 1, 0))), (1, vi l1), (2, vi l2)] 135 [vi (9 : Int32), vr (some (97, 1, 0))] Q) else (Zm E YX8_look d M (zargs 0 [vr (some (97, 1, 0)), vi l2]) 0 [] (zma E YX8_nameAt (d + 1) [(0, vr (some (97, 1, 0))), (1, vi l1), (2, vi l2)] 132 3 [vr (some (97, 1, 0))] Q))) : Zm E YX8_nameAt (d + 1) M [(0, vr (some (97, 1, 0))), (1, vi l1), (2, vi l2)] 120 [vi s0, vr (some (97, 1, 0))] Q := by
  refine Zm.l (fun _ _ k_ => z_bipush (v := 116) dX8_nameAt_120 rfl k_) ?_
  refine Zm.brn (fun _ _ k1_ k2_ => z_icmp_ne (tgt := 130) dX8_nameAt_122 rfl k1_ k2_) (fun h_ => ?_) (fun h_ => ?_)
  · have k := zif h_ k
    refine Zm.l (fun _ _ k_ => z_aload_n dX8_nameAt_130 rfl rfl k_) ?_
    refine Zm.l (fun _ _ k_ => z_iload_n dX8_nameAt_131 rfl rfl k_) ?_
    exact zm_callV (as := [vi l2]) (st := [vr (some (97, 1, 0))]) dX8_nameAt_132 vsX8_334_1 (Nat.le_refl _) (Nat.le_of_ble_eq_true rfl) (Nat.le_of_ble_eq_true rfl) rfl k
  · have k := zit h_ k
    refine Zm.l (fun _ _ k_ => z_bipush (v := 9) dX8_nameAt_125 rfl k_) ?_
    refine Zm.l (fun _ _ k_ => z_goto (tgt := 135) dX8_nameAt_127 rfl k_) ?_
    exact k
theorem sX8_nameAt_135 {E : zE} {d : Nat} {Q : zO → zM → Prop} (M : zM) (l1 : Int32) (l2 : Int32) (s0 : Int32) (k : Zm E YX8_put d M (zargs 0 [vr (some (97, 1, 0)), vi s0]) 0 [] (zma E YX8_nameAt (d + 1) [(0, vr (some (97, 1, 0))), (1, vi l1), (2, vi l2)] 135 3 [] Q)) : Zm E YX8_nameAt (d + 1) M [(0, vr (some (97, 1, 0))), (1, vi l1), (2, vi l2)] 135 [vi s0, vr (some (97, 1, 0))] Q := by
  exact zm_callV (as := [vi s0]) (st := []) dX8_nameAt_135 vsX8_324_1 (Nat.le_refl _) (Nat.le_of_ble_eq_true rfl) (Nat.le_of_ble_eq_true rfl) rfl k
theorem sX8_nameAt_138 {E : zE} {d : Nat} {Q : zO → zM → Prop} (M : zM) (l1 : Int32) (l2 : Int32) (k : Zm E YX8_nameAt (d + 1) M [(0, vr (some (97, 1, 0))), (1, vi l1), (2, vi (l2 + (1 : Int32)))] 47 [] Q) : Zm E YX8_nameAt (d + 1) M [(0, vr (some (97, 1, 0))), (1, vi l1), (2, vi l2)] 138 [] Q := by
  refine Zm.l (fun _ _ k_ => z_inc (v := (l2 + (1 : Int32))) dX8_nameAt_138 rfl rfl (by decide) (lv' := [(0, vr (some (97, 1, 0))), (1, vi l1), (2, vi (l2 + (1 : Int32)))]) rfl k_) ?_
  refine Zm.l (fun _ _ k_ => z_goto (tgt := 47) dX8_nameAt_141 rfl k_) ?_
  exact k
theorem sX8_nameAt_154 {E : zE} {d : Nat} {Q : zO → zM → Prop} (M : zM) (l1 : Int32) (l2 : Int32) (k : vp_in l1 4002 ∧ (if (gi M 106 (l1).toNatClampNeg) ≤ l2 then (Zm E YX8_nameOfText d M (zargs 0 [vr (some (97, 1, 0))]) 0 [] (zma E YX8_nameAt (d + 1) [] 180 3 [] Q)) else (Zm E YX8_look d M (zargs 0 [vr (some (97, 1, 0)), vi l2]) 0 [] (zma E YX8_nameAt (d + 1) [(0, vr (some (97, 1, 0))), (1, vi l1), (2, vi l2)] 167 3 [vr (some (97, 1, 0))] Q)))) : Zm E YX8_nameAt (d + 1) M [(0, vr (some (97, 1, 0))), (1, vi l1), (2, vi l2)] 154 [] Q := by
  refine Zm.l (fun _ _ k_ => z_iload_n dX8_nameAt_154 rfl rfl k_) ?_
  refine Zm.l (fun _ _ k_ => z_aload_n dX8_nameAt_155 rfl rfl k_) ?_
  refine zm_getr 8 dX8_nameAt_156 fsX8_36_1 rfl ?_
  refine Zm.l (fun _ _ k_ => z_iload_n dX8_nameAt_159 rfl rfl k_) ?_
  obtain ⟨b_, k⟩ := k
  refine zm_iald dX8_nameAt_160 b_ (by decide) (by decide) ?_
  refine Zm.br (fun _ _ k1_ k2_ => z_icmp_ge (tgt := 179) dX8_nameAt_161 rfl k1_ k2_) (fun h_ => ?_) (fun h_ => ?_)
  · have k := zit h_ k
    refine Zm.l (fun _ _ k_ => z_aload_n dX8_nameAt_179 rfl rfl k_) ?_
    refine Zm.pick [] rfl ?_
    exact zm_callV (as := []) (st := []) dX8_nameAt_180 vsX8_413_1 (Nat.le_refl _) (Nat.le_of_ble_eq_true rfl) (Nat.le_of_ble_eq_true rfl) rfl k
  · have k := zif h_ k
    refine Zm.l (fun _ _ k_ => z_aload_n dX8_nameAt_164 rfl rfl k_) ?_
    refine Zm.l (fun _ _ k_ => z_aload_n dX8_nameAt_165 rfl rfl k_) ?_
    refine Zm.l (fun _ _ k_ => z_iload_n dX8_nameAt_166 rfl rfl k_) ?_
    exact zm_callV (as := [vi l2]) (st := [vr (some (97, 1, 0))]) dX8_nameAt_167 vsX8_334_1 (Nat.le_refl _) (Nat.le_of_ble_eq_true rfl) (Nat.le_of_ble_eq_true rfl) rfl k
theorem sX8_nameAt_170 {E : zE} {d : Nat} {Q : zO → zM → Prop} (M : zM) (l1 : Int32) (l2 : Int32) (s0 : Int32) (k : Zm E YX8_put d M (zargs 0 [vr (some (97, 1, 0)), vi s0]) 0 [] (zma E YX8_nameAt (d + 1) [(0, vr (some (97, 1, 0))), (1, vi l1), (2, vi l2)] 170 3 [] Q)) : Zm E YX8_nameAt (d + 1) M [(0, vr (some (97, 1, 0))), (1, vi l1), (2, vi l2)] 170 [vi s0, vr (some (97, 1, 0))] Q := by
  exact zm_callV (as := [vi s0]) (st := []) dX8_nameAt_170 vsX8_324_1 (Nat.le_refl _) (Nat.le_of_ble_eq_true rfl) (Nat.le_of_ble_eq_true rfl) rfl k
theorem sX8_nameAt_173 {E : zE} {d : Nat} {Q : zO → zM → Prop} (M : zM) (l1 : Int32) (l2 : Int32) (k : Zm E YX8_nameAt (d + 1) M [(0, vr (some (97, 1, 0))), (1, vi l1), (2, vi (l2 + (1 : Int32)))] 154 [] Q) : Zm E YX8_nameAt (d + 1) M [(0, vr (some (97, 1, 0))), (1, vi l1), (2, vi l2)] 173 [] Q := by
  refine Zm.l (fun _ _ k_ => z_inc (v := (l2 + (1 : Int32))) dX8_nameAt_173 rfl rfl (by decide) (lv' := [(0, vr (some (97, 1, 0))), (1, vi l1), (2, vi (l2 + (1 : Int32)))]) rfl k_) ?_
  refine Zm.l (fun _ _ k_ => z_goto (tgt := 154) dX8_nameAt_176 rfl k_) ?_
  exact k
theorem sX8_nameAt_183 {E : zE} {d : Nat} {Q : zO → zM → Prop} (M : zM) (s0 : Int32) (k : Q (.inl (some (vi s0))) M) : Zm E YX8_nameAt (d + 1) M [] 183 [vi s0] Q := by
  exact zm_iret dX8_nameAt_183 rfl rfl k
/-! ScriptTypesModel.putNumber(I)V -/
theorem bX8_putNumber_0 : zdec cX8_putNumber 0 [(0, .iload_n 1, 1), (1, .ifCond .ge 9, 3), (4, .iload_n 1, 1), (5, .i2l, 1), (6, .lneg, 1), (7, .goto 5, 3), (10, .iload_n 1, 1), (11, .i2l, 1), (12, .lstore_n 2, 1), (13, .iload_n 1, 1), (14, .ifCond .ge 9, 3), (17, .aload_n 0, 1), (18, .bipush 45, 2), (20, .invokevirtual 324, 3), (23, .lconst 1, 1), (24, .lstore 4, 2)] = true := by decide +kernel
theorem dX8_putNumber_0 : decode cX8_putNumber 0 = .ok (.iload_n 1, 1) := zdec_at bX8_putNumber_0 0 rfl
theorem dX8_putNumber_1 : decode cX8_putNumber 1 = .ok (.ifCond .ge 9, 3) := zdec_at bX8_putNumber_0 1 rfl
theorem dX8_putNumber_4 : decode cX8_putNumber 4 = .ok (.iload_n 1, 1) := zdec_at bX8_putNumber_0 2 rfl
theorem dX8_putNumber_5 : decode cX8_putNumber 5 = .ok (.i2l, 1) := zdec_at bX8_putNumber_0 3 rfl
theorem dX8_putNumber_6 : decode cX8_putNumber 6 = .ok (.lneg, 1) := zdec_at bX8_putNumber_0 4 rfl
theorem dX8_putNumber_7 : decode cX8_putNumber 7 = .ok (.goto 5, 3) := zdec_at bX8_putNumber_0 5 rfl
theorem dX8_putNumber_10 : decode cX8_putNumber 10 = .ok (.iload_n 1, 1) := zdec_at bX8_putNumber_0 6 rfl
theorem dX8_putNumber_11 : decode cX8_putNumber 11 = .ok (.i2l, 1) := zdec_at bX8_putNumber_0 7 rfl
theorem dX8_putNumber_12 : decode cX8_putNumber 12 = .ok (.lstore_n 2, 1) := zdec_at bX8_putNumber_0 8 rfl
theorem dX8_putNumber_13 : decode cX8_putNumber 13 = .ok (.iload_n 1, 1) := zdec_at bX8_putNumber_0 9 rfl
theorem dX8_putNumber_14 : decode cX8_putNumber 14 = .ok (.ifCond .ge 9, 3) := zdec_at bX8_putNumber_0 10 rfl
theorem dX8_putNumber_17 : decode cX8_putNumber 17 = .ok (.aload_n 0, 1) := zdec_at bX8_putNumber_0 11 rfl
theorem dX8_putNumber_18 : decode cX8_putNumber 18 = .ok (.bipush 45, 2) := zdec_at bX8_putNumber_0 12 rfl
theorem dX8_putNumber_20 : decode cX8_putNumber 20 = .ok (.invokevirtual 324, 3) := zdec_at bX8_putNumber_0 13 rfl
theorem dX8_putNumber_23 : decode cX8_putNumber 23 = .ok (.lconst 1, 1) := zdec_at bX8_putNumber_0 14 rfl
theorem dX8_putNumber_24 : decode cX8_putNumber 24 = .ok (.lstore 4, 2) := zdec_at bX8_putNumber_0 15 rfl
theorem bX8_putNumber_26 : zdec cX8_putNumber 26 [(26, .lload_n 2, 1), (27, .lload 4, 2), (29, .ldiv, 1), (30, .ldc2_w 416, 3), (33, .lcmp, 1), (34, .ifCond .le 14, 3), (37, .ldc2_w 381, 3), (40, .lload 4, 2), (42, .lmul, 1), (43, .lstore 4, 2), (45, .goto (-19), 3), (48, .lload 4, 2), (50, .lconst 0, 1), (51, .lcmp, 1), (52, .ifCond .le 30, 3), (55, .aload_n 0, 1)] = true := by decide +kernel
theorem dX8_putNumber_26 : decode cX8_putNumber 26 = .ok (.lload_n 2, 1) := zdec_at bX8_putNumber_26 0 rfl
theorem dX8_putNumber_27 : decode cX8_putNumber 27 = .ok (.lload 4, 2) := zdec_at bX8_putNumber_26 1 rfl
theorem dX8_putNumber_29 : decode cX8_putNumber 29 = .ok (.ldiv, 1) := zdec_at bX8_putNumber_26 2 rfl
theorem dX8_putNumber_30 : decode cX8_putNumber 30 = .ok (.ldc2_w 416, 3) := zdec_at bX8_putNumber_26 3 rfl
theorem dX8_putNumber_33 : decode cX8_putNumber 33 = .ok (.lcmp, 1) := zdec_at bX8_putNumber_26 4 rfl
theorem dX8_putNumber_34 : decode cX8_putNumber 34 = .ok (.ifCond .le 14, 3) := zdec_at bX8_putNumber_26 5 rfl
theorem dX8_putNumber_37 : decode cX8_putNumber 37 = .ok (.ldc2_w 381, 3) := zdec_at bX8_putNumber_26 6 rfl
theorem dX8_putNumber_40 : decode cX8_putNumber 40 = .ok (.lload 4, 2) := zdec_at bX8_putNumber_26 7 rfl
theorem dX8_putNumber_42 : decode cX8_putNumber 42 = .ok (.lmul, 1) := zdec_at bX8_putNumber_26 8 rfl
theorem dX8_putNumber_43 : decode cX8_putNumber 43 = .ok (.lstore 4, 2) := zdec_at bX8_putNumber_26 9 rfl
theorem dX8_putNumber_45 : decode cX8_putNumber 45 = .ok (.goto (-19), 3) := zdec_at bX8_putNumber_26 10 rfl
theorem dX8_putNumber_48 : decode cX8_putNumber 48 = .ok (.lload 4, 2) := zdec_at bX8_putNumber_26 11 rfl
theorem dX8_putNumber_50 : decode cX8_putNumber 50 = .ok (.lconst 0, 1) := zdec_at bX8_putNumber_26 12 rfl
theorem dX8_putNumber_51 : decode cX8_putNumber 51 = .ok (.lcmp, 1) := zdec_at bX8_putNumber_26 13 rfl
theorem dX8_putNumber_52 : decode cX8_putNumber 52 = .ok (.ifCond .le 30, 3) := zdec_at bX8_putNumber_26 14 rfl
theorem dX8_putNumber_55 : decode cX8_putNumber 55 = .ok (.aload_n 0, 1) := zdec_at bX8_putNumber_26 15 rfl
theorem bX8_putNumber_56 : zdec cX8_putNumber 56 [(56, .bipush 48, 2), (58, .lload_n 2, 1), (59, .lload 4, 2), (61, .ldiv, 1), (62, .ldc2_w 381, 3), (65, .lrem, 1), (66, .l2i, 1), (67, .iadd, 1), (68, .invokevirtual 324, 3), (71, .lload 4, 2), (73, .ldc2_w 381, 3), (76, .ldiv, 1), (77, .lstore 4, 2), (79, .goto (-31), 3), (82, .return_, 1)] = true := by decide +kernel
theorem dX8_putNumber_56 : decode cX8_putNumber 56 = .ok (.bipush 48, 2) := zdec_at bX8_putNumber_56 0 rfl
theorem dX8_putNumber_58 : decode cX8_putNumber 58 = .ok (.lload_n 2, 1) := zdec_at bX8_putNumber_56 1 rfl
theorem dX8_putNumber_59 : decode cX8_putNumber 59 = .ok (.lload 4, 2) := zdec_at bX8_putNumber_56 2 rfl
theorem dX8_putNumber_61 : decode cX8_putNumber 61 = .ok (.ldiv, 1) := zdec_at bX8_putNumber_56 3 rfl
theorem dX8_putNumber_62 : decode cX8_putNumber 62 = .ok (.ldc2_w 381, 3) := zdec_at bX8_putNumber_56 4 rfl
theorem dX8_putNumber_65 : decode cX8_putNumber 65 = .ok (.lrem, 1) := zdec_at bX8_putNumber_56 5 rfl
theorem dX8_putNumber_66 : decode cX8_putNumber 66 = .ok (.l2i, 1) := zdec_at bX8_putNumber_56 6 rfl
theorem dX8_putNumber_67 : decode cX8_putNumber 67 = .ok (.iadd, 1) := zdec_at bX8_putNumber_56 7 rfl
theorem dX8_putNumber_68 : decode cX8_putNumber 68 = .ok (.invokevirtual 324, 3) := zdec_at bX8_putNumber_56 8 rfl
theorem dX8_putNumber_71 : decode cX8_putNumber 71 = .ok (.lload 4, 2) := zdec_at bX8_putNumber_56 9 rfl
theorem dX8_putNumber_73 : decode cX8_putNumber 73 = .ok (.ldc2_w 381, 3) := zdec_at bX8_putNumber_56 10 rfl
theorem dX8_putNumber_76 : decode cX8_putNumber 76 = .ok (.ldiv, 1) := zdec_at bX8_putNumber_56 11 rfl
theorem dX8_putNumber_77 : decode cX8_putNumber 77 = .ok (.lstore 4, 2) := zdec_at bX8_putNumber_56 12 rfl
theorem dX8_putNumber_79 : decode cX8_putNumber 79 = .ok (.goto (-31), 3) := zdec_at bX8_putNumber_56 13 rfl
theorem dX8_putNumber_82 : decode cX8_putNumber 82 = .ok (.return_, 1) := zdec_at bX8_putNumber_56 14 rfl
theorem sX8_putNumber_0 {E : zE} {d : Nat} {Q : zO → zM → Prop} (M : zM) (l1 : Int32) (k : if 0 ≤ l1 then (if 0 ≤ l1 then (Zm E YX8_putNumber (d + 1) M [(0, vr (some (97, 1, 0))), (2, vl (l1).toInt64)] 23 [] Q) else (Zm E YX8_put d M (zargs 0 [vr (some (97, 1, 0)), vi (45 : Int32)]) 0 [] (zma E YX8_putNumber (d + 1) [(0, vr (some (97, 1, 0))), (2, vl (l1).toInt64)] 20 3 [] Q))) else (if 0 ≤ l1 then (Zm E YX8_putNumber (d + 1) M [(0, vr (some (97, 1, 0))), (2, vl (-(l1).toInt64))] 23 [] Q) else (Zm E YX8_put d M (zargs 0 [vr (some (97, 1, 0)), vi (45 : Int32)]) 0 [] (zma E YX8_putNumber (d + 1) [(0, vr (some (97, 1, 0))), (2, vl (-(l1).toInt64))] 20 3 [] Q)))) : Zm E YX8_putNumber (d + 1) M [(0, vr (some (97, 1, 0))), (1, vi l1)] 0 [] Q := by
  refine Zm.l (fun _ _ k_ => z_iload_n dX8_putNumber_0 rfl rfl k_) ?_
  refine Zm.br (fun _ _ k1_ k2_ => z_if_ge (tgt := 10) dX8_putNumber_1 rfl k1_ k2_) (fun h_ => ?_) (fun h_ => ?_)
  · have k := zit h_ k
    refine Zm.l (fun _ _ k_ => z_iload_n dX8_putNumber_10 rfl rfl k_) ?_
    refine Zm.l (fun _ _ k_ => z_i2l dX8_putNumber_11 k_) ?_
    refine Zm.l (fun _ _ k_ => z_lst_n dX8_putNumber_12 rfl (by decide) (lv' := [(0, vr (some (97, 1, 0))), (1, vi l1), (2, vl (l1).toInt64)]) rfl k_) ?_
    refine Zm.l (fun _ _ k_ => z_iload_n dX8_putNumber_13 rfl rfl k_) ?_
    refine Zm.br (fun _ _ k1_ k2_ => z_if_ge (tgt := 23) dX8_putNumber_14 rfl k1_ k2_) (fun h_ => ?_) (fun h_ => ?_)
    · have k := zit h_ k
      refine Zm.pick [0, 2] rfl ?_
      exact k
    · have k := zif h_ k
      refine Zm.l (fun _ _ k_ => z_aload_n dX8_putNumber_17 rfl rfl k_) ?_
      refine Zm.l (fun _ _ k_ => z_bipush (v := 45) dX8_putNumber_18 rfl k_) ?_
      refine Zm.pick [0, 2] rfl ?_
      exact zm_callV (as := [vi (45 : Int32)]) (st := []) dX8_putNumber_20 vsX8_324_1 (Nat.le_refl _) (Nat.le_of_ble_eq_true rfl) (Nat.le_of_ble_eq_true rfl) rfl k
  · have k := zif h_ k
    refine Zm.l (fun _ _ k_ => z_iload_n dX8_putNumber_4 rfl rfl k_) ?_
    refine Zm.l (fun _ _ k_ => z_i2l dX8_putNumber_5 k_) ?_
    refine Zm.l (fun _ _ k_ => z_lneg dX8_putNumber_6 k_) ?_
    refine Zm.l (fun _ _ k_ => z_goto (tgt := 12) dX8_putNumber_7 rfl k_) ?_
    refine Zm.l (fun _ _ k_ => z_lst_n dX8_putNumber_12 rfl (by decide) (lv' := [(0, vr (some (97, 1, 0))), (1, vi l1), (2, vl (-(l1).toInt64))]) rfl k_) ?_
    refine Zm.l (fun _ _ k_ => z_iload_n dX8_putNumber_13 rfl rfl k_) ?_
    refine Zm.br (fun _ _ k1_ k2_ => z_if_ge (tgt := 23) dX8_putNumber_14 rfl k1_ k2_) (fun h_ => ?_) (fun h_ => ?_)
    · have k := zit h_ k
      refine Zm.pick [0, 2] rfl ?_
      exact k
    · have k := zif h_ k
      refine Zm.l (fun _ _ k_ => z_aload_n dX8_putNumber_17 rfl rfl k_) ?_
      refine Zm.l (fun _ _ k_ => z_bipush (v := 45) dX8_putNumber_18 rfl k_) ?_
      refine Zm.pick [0, 2] rfl ?_
      exact zm_callV (as := [vi (45 : Int32)]) (st := []) dX8_putNumber_20 vsX8_324_1 (Nat.le_refl _) (Nat.le_of_ble_eq_true rfl) (Nat.le_of_ble_eq_true rfl) rfl k
theorem sX8_putNumber_23 {E : zE} {d : Nat} {Q : zO → zM → Prop} (M : zM) (l2 : Int64) (k : Zm E YX8_putNumber (d + 1) M [(0, vr (some (97, 1, 0))), (2, vl l2), (4, vl (1 : Int64))] 26 [] Q) : Zm E YX8_putNumber (d + 1) M [(0, vr (some (97, 1, 0))), (2, vl l2)] 23 [] Q := by
  refine Zm.l (fun _ _ k_ => z_lconst (v := 1) dX8_putNumber_23 rfl k_) ?_
  refine Zm.l (fun _ _ k_ => z_lst dX8_putNumber_24 (by decide) (lv' := [(0, vr (some (97, 1, 0))), (2, vl l2), (4, vl (1 : Int64))]) rfl k_) ?_
  exact k
theorem sX8_putNumber_26 {E : zE} {d : Nat} {Q : zO → zM → Prop} (M : zM) (l2 : Int64) (l4 : Int64) (k : (¬ l4 = 0) ∧ (if (lg_cmp (l2 / l4) (9 : Int64)) ≤ 0 then (Zm E YX8_putNumber (d + 1) M [(0, vr (some (97, 1, 0))), (2, vl l2), (4, vl l4)] 48 [] Q) else (Zm E YX8_putNumber (d + 1) M [(0, vr (some (97, 1, 0))), (2, vl l2), (4, vl ((10 : Int64) * l4))] 26 [] Q))) : Zm E YX8_putNumber (d + 1) M [(0, vr (some (97, 1, 0))), (2, vl l2), (4, vl l4)] 26 [] Q := by
  refine Zm.l (fun _ _ k_ => z_lload_n dX8_putNumber_26 rfl rfl k_) ?_
  refine Zm.l (fun _ _ k_ => z_lload dX8_putNumber_27 rfl k_) ?_
  obtain ⟨b_, k⟩ := k
  refine Zm.l (fun _ _ k_ => z_ldiv dX8_putNumber_29 b_ k_) ?_
  refine Zm.l (fun _ _ k_ => z_ldc2 (v := 9) dX8_putNumber_30 q4082 k_) ?_
  refine Zm.l (fun _ _ k_ => z_lcmp dX8_putNumber_33 k_) ?_
  refine Zm.br (fun _ _ k1_ k2_ => z_if_le (tgt := 48) dX8_putNumber_34 rfl k1_ k2_) (fun h_ => ?_) (fun h_ => ?_)
  · have k := zit h_ k
    exact k
  · have k := zif h_ k
    refine Zm.l (fun _ _ k_ => z_ldc2 (v := 10) dX8_putNumber_37 q4030 k_) ?_
    refine Zm.l (fun _ _ k_ => z_lload dX8_putNumber_40 rfl k_) ?_
    refine Zm.l (fun _ _ k_ => z_lmul dX8_putNumber_42 k_) ?_
    refine Zm.l (fun _ _ k_ => z_lst dX8_putNumber_43 (by decide) (lv' := [(0, vr (some (97, 1, 0))), (2, vl l2), (4, vl ((10 : Int64) * l4))]) rfl k_) ?_
    refine Zm.l (fun _ _ k_ => z_goto (tgt := 26) dX8_putNumber_45 rfl k_) ?_
    exact k
theorem sX8_putNumber_48 {E : zE} {d : Nat} {Q : zO → zM → Prop} (M : zM) (l2 : Int64) (l4 : Int64) (k : if (lg_cmp l4 (0 : Int64)) ≤ 0 then (Q (.inl none) M) else ((¬ l4 = 0) ∧ (Zm E YX8_put d M (zargs 0 [vr (some (97, 1, 0)), vi ((48 : Int32) + (((l2 / l4) - (l2 / l4) / (10 : Int64) * (10 : Int64))).toInt32)]) 0 [] (zma E YX8_putNumber (d + 1) [(0, vr (some (97, 1, 0))), (2, vl l2), (4, vl l4)] 68 3 [] Q)))) : Zm E YX8_putNumber (d + 1) M [(0, vr (some (97, 1, 0))), (2, vl l2), (4, vl l4)] 48 [] Q := by
  refine Zm.l (fun _ _ k_ => z_lload dX8_putNumber_48 rfl k_) ?_
  refine Zm.l (fun _ _ k_ => z_lconst (v := 0) dX8_putNumber_50 rfl k_) ?_
  refine Zm.l (fun _ _ k_ => z_lcmp dX8_putNumber_51 k_) ?_
  refine Zm.br (fun _ _ k1_ k2_ => z_if_le (tgt := 82) dX8_putNumber_52 rfl k1_ k2_) (fun h_ => ?_) (fun h_ => ?_)
  · have k := zit h_ k
    exact zm_vret dX8_putNumber_82 rfl k
  · have k := zif h_ k
    refine Zm.l (fun _ _ k_ => z_aload_n dX8_putNumber_55 rfl rfl k_) ?_
    refine Zm.l (fun _ _ k_ => z_bipush (v := 48) dX8_putNumber_56 rfl k_) ?_
    refine Zm.l (fun _ _ k_ => z_lload_n dX8_putNumber_58 rfl rfl k_) ?_
    refine Zm.l (fun _ _ k_ => z_lload dX8_putNumber_59 rfl k_) ?_
    obtain ⟨b_, k⟩ := k
    refine Zm.l (fun _ _ k_ => z_ldiv dX8_putNumber_61 b_ k_) ?_
    refine Zm.l (fun _ _ k_ => z_ldc2 (v := 10) dX8_putNumber_62 q4030 k_) ?_
    refine Zm.l (fun _ _ k_ => z_lrem dX8_putNumber_65 (by decide) k_) ?_
    refine Zm.l (fun _ _ k_ => z_l2i dX8_putNumber_66 k_) ?_
    refine Zm.l (fun _ _ k_ => z_iadd dX8_putNumber_67 k_) ?_
    exact zm_callV (as := [vi ((48 : Int32) + (((l2 / l4) - (l2 / l4) / (10 : Int64) * (10 : Int64))).toInt32)]) (st := []) dX8_putNumber_68 vsX8_324_1 (Nat.le_refl _) (Nat.le_of_ble_eq_true rfl) (Nat.le_of_ble_eq_true rfl) rfl k
theorem sX8_putNumber_71 {E : zE} {d : Nat} {Q : zO → zM → Prop} (M : zM) (l2 : Int64) (l4 : Int64) (k : Zm E YX8_putNumber (d + 1) M [(0, vr (some (97, 1, 0))), (2, vl l2), (4, vl (l4 / (10 : Int64)))] 48 [] Q) : Zm E YX8_putNumber (d + 1) M [(0, vr (some (97, 1, 0))), (2, vl l2), (4, vl l4)] 71 [] Q := by
  refine Zm.l (fun _ _ k_ => z_lload dX8_putNumber_71 rfl k_) ?_
  refine Zm.l (fun _ _ k_ => z_ldc2 (v := 10) dX8_putNumber_73 q4030 k_) ?_
  refine Zm.l (fun _ _ k_ => z_ldiv dX8_putNumber_76 (by decide) k_) ?_
  refine Zm.l (fun _ _ k_ => z_lst dX8_putNumber_77 (by decide) (lv' := [(0, vr (some (97, 1, 0))), (2, vl l2), (4, vl (l4 / (10 : Int64)))]) rfl k_) ?_
  refine Zm.l (fun _ _ k_ => z_goto (tgt := 48) dX8_putNumber_79 rfl k_) ?_
  exact k
/-! ScriptTypesModel.nameOfText()I -/
theorem bX8_nameOfText_0 : zdec cX8_nameOfText 0 [(0, .aload_n 0, 1), (1, .invokevirtual 302, 3), (4, .istore_n 1, 1), (5, .iload_n 1, 1), (6, .iconst (-1), 1), (7, .if_icmp .ne 10, 3), (10, .aload_n 0, 1), (11, .getfield 306, 3), (14, .ifCond .eq 5, 3), (17, .iload_n 1, 1), (18, .ireturn, 1), (19, .aload_n 0, 1), (20, .aload_n 0, 1), (21, .getfield 296, 3), (24, .bipush 90, 2), (26, .if_icmp .ne 7, 3)] = true := by decide +kernel
theorem dX8_nameOfText_0 : decode cX8_nameOfText 0 = .ok (.aload_n 0, 1) := zdec_at bX8_nameOfText_0 0 rfl
theorem dX8_nameOfText_1 : decode cX8_nameOfText 1 = .ok (.invokevirtual 302, 3) := zdec_at bX8_nameOfText_0 1 rfl
theorem dX8_nameOfText_4 : decode cX8_nameOfText 4 = .ok (.istore_n 1, 1) := zdec_at bX8_nameOfText_0 2 rfl
theorem dX8_nameOfText_5 : decode cX8_nameOfText 5 = .ok (.iload_n 1, 1) := zdec_at bX8_nameOfText_0 3 rfl
theorem dX8_nameOfText_6 : decode cX8_nameOfText 6 = .ok (.iconst (-1), 1) := zdec_at bX8_nameOfText_0 4 rfl
theorem dX8_nameOfText_7 : decode cX8_nameOfText 7 = .ok (.if_icmp .ne 10, 3) := zdec_at bX8_nameOfText_0 5 rfl
theorem dX8_nameOfText_10 : decode cX8_nameOfText 10 = .ok (.aload_n 0, 1) := zdec_at bX8_nameOfText_0 6 rfl
theorem dX8_nameOfText_11 : decode cX8_nameOfText 11 = .ok (.getfield 306, 3) := zdec_at bX8_nameOfText_0 7 rfl
theorem dX8_nameOfText_14 : decode cX8_nameOfText 14 = .ok (.ifCond .eq 5, 3) := zdec_at bX8_nameOfText_0 8 rfl
theorem dX8_nameOfText_17 : decode cX8_nameOfText 17 = .ok (.iload_n 1, 1) := zdec_at bX8_nameOfText_0 9 rfl
theorem dX8_nameOfText_18 : decode cX8_nameOfText 18 = .ok (.ireturn, 1) := zdec_at bX8_nameOfText_0 10 rfl
theorem dX8_nameOfText_19 : decode cX8_nameOfText 19 = .ok (.aload_n 0, 1) := zdec_at bX8_nameOfText_0 11 rfl
theorem dX8_nameOfText_20 : decode cX8_nameOfText 20 = .ok (.aload_n 0, 1) := zdec_at bX8_nameOfText_0 12 rfl
theorem dX8_nameOfText_21 : decode cX8_nameOfText 21 = .ok (.getfield 296, 3) := zdec_at bX8_nameOfText_0 13 rfl
theorem dX8_nameOfText_24 : decode cX8_nameOfText 24 = .ok (.bipush 90, 2) := zdec_at bX8_nameOfText_0 14 rfl
theorem dX8_nameOfText_26 : decode cX8_nameOfText 26 = .ok (.if_icmp .ne 7, 3) := zdec_at bX8_nameOfText_0 15 rfl
theorem bX8_nameOfText_29 : zdec cX8_nameOfText 29 [(29, .iconst 1, 1), (30, .goto 4, 3), (33, .iconst 0, 1), (34, .putfield 306, 3), (37, .aload_n 0, 1), (38, .getfield 306, 3), (41, .ifCond .eq 7, 3), (44, .iconst (-1), 1), (45, .goto 7, 3), (48, .aload_n 0, 1), (49, .invokevirtual 310, 3), (52, .ireturn, 1)] = true := by decide +kernel
theorem dX8_nameOfText_29 : decode cX8_nameOfText 29 = .ok (.iconst 1, 1) := zdec_at bX8_nameOfText_29 0 rfl
theorem dX8_nameOfText_30 : decode cX8_nameOfText 30 = .ok (.goto 4, 3) := zdec_at bX8_nameOfText_29 1 rfl
theorem dX8_nameOfText_33 : decode cX8_nameOfText 33 = .ok (.iconst 0, 1) := zdec_at bX8_nameOfText_29 2 rfl
theorem dX8_nameOfText_34 : decode cX8_nameOfText 34 = .ok (.putfield 306, 3) := zdec_at bX8_nameOfText_29 3 rfl
theorem dX8_nameOfText_37 : decode cX8_nameOfText 37 = .ok (.aload_n 0, 1) := zdec_at bX8_nameOfText_29 4 rfl
theorem dX8_nameOfText_38 : decode cX8_nameOfText 38 = .ok (.getfield 306, 3) := zdec_at bX8_nameOfText_29 5 rfl
theorem dX8_nameOfText_41 : decode cX8_nameOfText 41 = .ok (.ifCond .eq 7, 3) := zdec_at bX8_nameOfText_29 6 rfl
theorem dX8_nameOfText_44 : decode cX8_nameOfText 44 = .ok (.iconst (-1), 1) := zdec_at bX8_nameOfText_29 7 rfl
theorem dX8_nameOfText_45 : decode cX8_nameOfText 45 = .ok (.goto 7, 3) := zdec_at bX8_nameOfText_29 8 rfl
theorem dX8_nameOfText_48 : decode cX8_nameOfText 48 = .ok (.aload_n 0, 1) := zdec_at bX8_nameOfText_29 9 rfl
theorem dX8_nameOfText_49 : decode cX8_nameOfText 49 = .ok (.invokevirtual 310, 3) := zdec_at bX8_nameOfText_29 10 rfl
theorem dX8_nameOfText_52 : decode cX8_nameOfText 52 = .ok (.ireturn, 1) := zdec_at bX8_nameOfText_29 11 rfl
theorem sX8_nameOfText_0 {E : zE} {d : Nat} {Q : zO → zM → Prop} (M : zM)  (k : Zm E YX8_findText d M (zargs 0 [vr (some (97, 1, 0))]) 0 [] (zma E YX8_nameOfText (d + 1) [(0, vr (some (97, 1, 0)))] 1 3 [] Q)) : Zm E YX8_nameOfText (d + 1) M [(0, vr (some (97, 1, 0)))] 0 [] Q := by
  refine Zm.l (fun _ _ k_ => z_aload_n dX8_nameOfText_0 rfl rfl k_) ?_
  exact zm_callV (as := []) (st := []) dX8_nameOfText_1 vsX8_302_1 (Nat.le_refl _) (Nat.le_of_ble_eq_true rfl) (Nat.le_of_ble_eq_true rfl) rfl k
theorem sX8_nameOfText_4 {E : zE} {d : Nat} {Q : zO → zM → Prop} (M : zM) (s0 : Int32) (k : if s0 = (-1 : Int32) then (if (gi M 97 9) = 0 then (if (gi M 97 7) = (90 : Int32) then (Zm E YX8_nameOfText (d + 1) M [(0, vr (some (97, 1, 0)))] 34 [vi (1 : Int32), vr (some (97, 1, 0))] Q) else (Zm E YX8_nameOfText (d + 1) M [(0, vr (some (97, 1, 0)))] 34 [vi (0 : Int32), vr (some (97, 1, 0))] Q)) else (Q (.inl (some (vi s0))) M)) else (Q (.inl (some (vi s0))) M)) : Zm E YX8_nameOfText (d + 1) M [(0, vr (some (97, 1, 0)))] 4 [vi s0] Q := by
  refine Zm.l (fun _ _ k_ => z_ist_n dX8_nameOfText_4 rfl (by decide) (lv' := [(0, vr (some (97, 1, 0))), (1, vi s0)]) rfl k_) ?_
  refine Zm.l (fun _ _ k_ => z_iload_n dX8_nameOfText_5 rfl rfl k_) ?_
  refine Zm.l (fun _ _ k_ => z_iconst (v := -1) dX8_nameOfText_6 rfl k_) ?_
  refine Zm.brn (fun _ _ k1_ k2_ => z_icmp_ne (tgt := 17) dX8_nameOfText_7 rfl k1_ k2_) (fun h_ => ?_) (fun h_ => ?_)
  · have k := zif h_ k
    refine Zm.l (fun _ _ k_ => z_iload_n dX8_nameOfText_17 rfl rfl k_) ?_
    exact zm_iret dX8_nameOfText_18 rfl rfl k
  · have k := zit h_ k
    refine Zm.l (fun _ _ k_ => z_aload_n dX8_nameOfText_10 rfl rfl k_) ?_
    refine zm_geti dX8_nameOfText_11 fsX8_306_1 (by decide) (by decide) ?_
    refine Zm.br (fun _ _ k1_ k2_ => z_if_eq (tgt := 19) dX8_nameOfText_14 rfl k1_ k2_) (fun h_ => ?_) (fun h_ => ?_)
    · have k := zit h_ k
      refine Zm.l (fun _ _ k_ => z_aload_n dX8_nameOfText_19 rfl rfl k_) ?_
      refine Zm.l (fun _ _ k_ => z_aload_n dX8_nameOfText_20 rfl rfl k_) ?_
      refine zm_geti dX8_nameOfText_21 fsX8_296_1 (by decide) (by decide) ?_
      refine Zm.l (fun _ _ k_ => z_bipush (v := 90) dX8_nameOfText_24 rfl k_) ?_
      refine Zm.brn (fun _ _ k1_ k2_ => z_icmp_ne (tgt := 33) dX8_nameOfText_26 rfl k1_ k2_) (fun h_ => ?_) (fun h_ => ?_)
      · have k := zif h_ k
        refine Zm.l (fun _ _ k_ => z_iconst (v := 0) dX8_nameOfText_33 rfl k_) ?_
        refine Zm.pick [0] rfl ?_
        exact k
      · have k := zit h_ k
        refine Zm.l (fun _ _ k_ => z_iconst (v := 1) dX8_nameOfText_29 rfl k_) ?_
        refine Zm.l (fun _ _ k_ => z_goto (tgt := 34) dX8_nameOfText_30 rfl k_) ?_
        refine Zm.pick [0] rfl ?_
        exact k
    · have k := zif h_ k
      refine Zm.l (fun _ _ k_ => z_iload_n dX8_nameOfText_17 rfl rfl k_) ?_
      exact zm_iret dX8_nameOfText_18 rfl rfl k
theorem sX8_nameOfText_34 {E : zE} {d : Nat} {Q : zO → zM → Prop} (M : zM) (s0 : Int32) (k : zfit .boolean s0 ∧ (if s0 = 0 then (Zm E YX8_addText d (si M 97 9 s0) (zargs 0 [vr (some (97, 1, 0))]) 0 [] (zma E YX8_nameOfText (d + 1) [] 49 3 [] Q)) else (Zm E YX8_nameOfText (d + 1) (si M 97 9 s0) [] 52 [vi (-1 : Int32)] Q))) : Zm E YX8_nameOfText (d + 1) M [(0, vr (some (97, 1, 0)))] 34 [vi s0, vr (some (97, 1, 0))] Q := by
  obtain ⟨b_, k⟩ := k
  refine zm_puti (by decide) (by decide) dX8_nameOfText_34 (zfwN.w fwX8_306_1) rfl b_ ?_
  refine Zm.l (fun _ _ k_ => z_aload_n dX8_nameOfText_37 rfl rfl k_) ?_
  refine zm_geti dX8_nameOfText_38 fsX8_306_1 (by decide) (by decide) ?_
  refine Zm.br (fun _ _ k1_ k2_ => z_if_eq (tgt := 48) dX8_nameOfText_41 rfl k1_ k2_) (fun h_ => ?_) (fun h_ => ?_)
  · have k := zit h_ k
    refine Zm.l (fun _ _ k_ => z_aload_n dX8_nameOfText_48 rfl rfl k_) ?_
    refine Zm.pick [] rfl ?_
    exact zm_callV (as := []) (st := []) dX8_nameOfText_49 vsX8_310_1 (Nat.le_refl _) (Nat.le_of_ble_eq_true rfl) (Nat.le_of_ble_eq_true rfl) rfl k
  · have k := zif h_ k
    refine Zm.l (fun _ _ k_ => z_iconst (v := -1) dX8_nameOfText_44 rfl k_) ?_
    refine Zm.l (fun _ _ k_ => z_goto (tgt := 52) dX8_nameOfText_45 rfl k_) ?_
    refine Zm.pick [] rfl ?_
    exact k
theorem sX8_nameOfText_52 {E : zE} {d : Nat} {Q : zO → zM → Prop} (M : zM) (s0 : Int32) (k : Q (.inl (some (vi s0))) M) : Zm E YX8_nameOfText (d + 1) M [] 52 [vi s0] Q := by
  exact zm_iret dX8_nameOfText_52 rfl rfl k
/-! ScriptTypesModel.findText()I -/
theorem bX8_findText_0 : zdec cX8_findText 0 [(0, .iconst 0, 1), (1, .istore_n 1, 1), (2, .iload_n 1, 1), (3, .aload_n 0, 1), (4, .getfield 296, 3), (7, .if_icmp .ge 80, 3), (10, .aload_n 0, 1), (11, .getfield 20, 3), (14, .iload_n 1, 1), (15, .iaload, 1), (16, .aload_n 0, 1), (17, .getfield 299, 3), (20, .if_icmp .ne 7, 3), (23, .iconst 1, 1), (24, .goto 4, 3), (27, .iconst 0, 1)] = true := by decide +kernel
theorem dX8_findText_0 : decode cX8_findText 0 = .ok (.iconst 0, 1) := zdec_at bX8_findText_0 0 rfl
theorem dX8_findText_1 : decode cX8_findText 1 = .ok (.istore_n 1, 1) := zdec_at bX8_findText_0 1 rfl
theorem dX8_findText_2 : decode cX8_findText 2 = .ok (.iload_n 1, 1) := zdec_at bX8_findText_0 2 rfl
theorem dX8_findText_3 : decode cX8_findText 3 = .ok (.aload_n 0, 1) := zdec_at bX8_findText_0 3 rfl
theorem dX8_findText_4 : decode cX8_findText 4 = .ok (.getfield 296, 3) := zdec_at bX8_findText_0 4 rfl
theorem dX8_findText_7 : decode cX8_findText 7 = .ok (.if_icmp .ge 80, 3) := zdec_at bX8_findText_0 5 rfl
theorem dX8_findText_10 : decode cX8_findText 10 = .ok (.aload_n 0, 1) := zdec_at bX8_findText_0 6 rfl
theorem dX8_findText_11 : decode cX8_findText 11 = .ok (.getfield 20, 3) := zdec_at bX8_findText_0 7 rfl
theorem dX8_findText_14 : decode cX8_findText 14 = .ok (.iload_n 1, 1) := zdec_at bX8_findText_0 8 rfl
theorem dX8_findText_15 : decode cX8_findText 15 = .ok (.iaload, 1) := zdec_at bX8_findText_0 9 rfl
theorem dX8_findText_16 : decode cX8_findText 16 = .ok (.aload_n 0, 1) := zdec_at bX8_findText_0 10 rfl
theorem dX8_findText_17 : decode cX8_findText 17 = .ok (.getfield 299, 3) := zdec_at bX8_findText_0 11 rfl
theorem dX8_findText_20 : decode cX8_findText 20 = .ok (.if_icmp .ne 7, 3) := zdec_at bX8_findText_0 12 rfl
theorem dX8_findText_23 : decode cX8_findText 23 = .ok (.iconst 1, 1) := zdec_at bX8_findText_0 13 rfl
theorem dX8_findText_24 : decode cX8_findText 24 = .ok (.goto 4, 3) := zdec_at bX8_findText_0 14 rfl
theorem dX8_findText_27 : decode cX8_findText 27 = .ok (.iconst 0, 1) := zdec_at bX8_findText_0 15 rfl
theorem bX8_findText_28 : zdec cX8_findText 28 [(28, .istore_n 2, 1), (29, .iconst 0, 1), (30, .istore_n 3, 1), (31, .iload_n 3, 1), (32, .aload_n 0, 1), (33, .getfield 299, 3), (36, .if_icmp .ge 39, 3), (39, .iload_n 2, 1), (40, .ifCond .eq 35, 3), (43, .aload_n 0, 1), (44, .getfield 16, 3), (47, .bipush 60, 2), (49, .iload_n 1, 1), (50, .imul, 1), (51, .iload_n 3, 1), (52, .iadd, 1)] = true := by decide +kernel
theorem dX8_findText_28 : decode cX8_findText 28 = .ok (.istore_n 2, 1) := zdec_at bX8_findText_28 0 rfl
theorem dX8_findText_29 : decode cX8_findText 29 = .ok (.iconst 0, 1) := zdec_at bX8_findText_28 1 rfl
theorem dX8_findText_30 : decode cX8_findText 30 = .ok (.istore_n 3, 1) := zdec_at bX8_findText_28 2 rfl
theorem dX8_findText_31 : decode cX8_findText 31 = .ok (.iload_n 3, 1) := zdec_at bX8_findText_28 3 rfl
theorem dX8_findText_32 : decode cX8_findText 32 = .ok (.aload_n 0, 1) := zdec_at bX8_findText_28 4 rfl
theorem dX8_findText_33 : decode cX8_findText 33 = .ok (.getfield 299, 3) := zdec_at bX8_findText_28 5 rfl
theorem dX8_findText_36 : decode cX8_findText 36 = .ok (.if_icmp .ge 39, 3) := zdec_at bX8_findText_28 6 rfl
theorem dX8_findText_39 : decode cX8_findText 39 = .ok (.iload_n 2, 1) := zdec_at bX8_findText_28 7 rfl
theorem dX8_findText_40 : decode cX8_findText 40 = .ok (.ifCond .eq 35, 3) := zdec_at bX8_findText_28 8 rfl
theorem dX8_findText_43 : decode cX8_findText 43 = .ok (.aload_n 0, 1) := zdec_at bX8_findText_28 9 rfl
theorem dX8_findText_44 : decode cX8_findText 44 = .ok (.getfield 16, 3) := zdec_at bX8_findText_28 10 rfl
theorem dX8_findText_47 : decode cX8_findText 47 = .ok (.bipush 60, 2) := zdec_at bX8_findText_28 11 rfl
theorem dX8_findText_49 : decode cX8_findText 49 = .ok (.iload_n 1, 1) := zdec_at bX8_findText_28 12 rfl
theorem dX8_findText_50 : decode cX8_findText 50 = .ok (.imul, 1) := zdec_at bX8_findText_28 13 rfl
theorem dX8_findText_51 : decode cX8_findText 51 = .ok (.iload_n 3, 1) := zdec_at bX8_findText_28 14 rfl
theorem dX8_findText_52 : decode cX8_findText 52 = .ok (.iadd, 1) := zdec_at bX8_findText_28 15 rfl
theorem bX8_findText_53 : zdec cX8_findText 53 [(53, .caload, 1), (54, .aload_n 0, 1), (55, .getfield 24, 3), (58, .iload_n 3, 1), (59, .caload, 1), (60, .if_icmp .ne 7, 3), (63, .iconst 1, 1), (64, .goto 4, 3), (67, .iconst 0, 1), (68, .istore_n 2, 1), (69, .iinc 3 1, 3), (72, .goto (-41), 3), (75, .iload_n 2, 1), (76, .ifCond .eq 5, 3), (79, .iload_n 1, 1), (80, .ireturn, 1)] = true := by decide +kernel
theorem dX8_findText_53 : decode cX8_findText 53 = .ok (.caload, 1) := zdec_at bX8_findText_53 0 rfl
theorem dX8_findText_54 : decode cX8_findText 54 = .ok (.aload_n 0, 1) := zdec_at bX8_findText_53 1 rfl
theorem dX8_findText_55 : decode cX8_findText 55 = .ok (.getfield 24, 3) := zdec_at bX8_findText_53 2 rfl
theorem dX8_findText_58 : decode cX8_findText 58 = .ok (.iload_n 3, 1) := zdec_at bX8_findText_53 3 rfl
theorem dX8_findText_59 : decode cX8_findText 59 = .ok (.caload, 1) := zdec_at bX8_findText_53 4 rfl
theorem dX8_findText_60 : decode cX8_findText 60 = .ok (.if_icmp .ne 7, 3) := zdec_at bX8_findText_53 5 rfl
theorem dX8_findText_63 : decode cX8_findText 63 = .ok (.iconst 1, 1) := zdec_at bX8_findText_53 6 rfl
theorem dX8_findText_64 : decode cX8_findText 64 = .ok (.goto 4, 3) := zdec_at bX8_findText_53 7 rfl
theorem dX8_findText_67 : decode cX8_findText 67 = .ok (.iconst 0, 1) := zdec_at bX8_findText_53 8 rfl
theorem dX8_findText_68 : decode cX8_findText 68 = .ok (.istore_n 2, 1) := zdec_at bX8_findText_53 9 rfl
theorem dX8_findText_69 : decode cX8_findText 69 = .ok (.iinc 3 1, 3) := zdec_at bX8_findText_53 10 rfl
theorem dX8_findText_72 : decode cX8_findText 72 = .ok (.goto (-41), 3) := zdec_at bX8_findText_53 11 rfl
theorem dX8_findText_75 : decode cX8_findText 75 = .ok (.iload_n 2, 1) := zdec_at bX8_findText_53 12 rfl
theorem dX8_findText_76 : decode cX8_findText 76 = .ok (.ifCond .eq 5, 3) := zdec_at bX8_findText_53 13 rfl
theorem dX8_findText_79 : decode cX8_findText 79 = .ok (.iload_n 1, 1) := zdec_at bX8_findText_53 14 rfl
theorem dX8_findText_80 : decode cX8_findText 80 = .ok (.ireturn, 1) := zdec_at bX8_findText_53 15 rfl
theorem bX8_findText_81 : zdec cX8_findText 81 [(81, .iinc 1 1, 3), (84, .goto (-82), 3), (87, .iconst (-1), 1), (88, .ireturn, 1)] = true := by decide +kernel
theorem dX8_findText_81 : decode cX8_findText 81 = .ok (.iinc 1 1, 3) := zdec_at bX8_findText_81 0 rfl
theorem dX8_findText_84 : decode cX8_findText 84 = .ok (.goto (-82), 3) := zdec_at bX8_findText_81 1 rfl
theorem dX8_findText_87 : decode cX8_findText 87 = .ok (.iconst (-1), 1) := zdec_at bX8_findText_81 2 rfl
theorem dX8_findText_88 : decode cX8_findText 88 = .ok (.ireturn, 1) := zdec_at bX8_findText_81 3 rfl
theorem sX8_findText_0 {E : zE} {d : Nat} {Q : zO → zM → Prop} (M : zM)  (k : Zm E YX8_findText d M [(0, vr (some (97, 1, 0))), (1, vi (0 : Int32))] 2 [] Q) : Zm E YX8_findText d M [(0, vr (some (97, 1, 0)))] 0 [] Q := by
  refine Zm.l (fun _ _ k_ => z_iconst (v := 0) dX8_findText_0 rfl k_) ?_
  refine Zm.l (fun _ _ k_ => z_ist_n dX8_findText_1 rfl (by decide) (lv' := [(0, vr (some (97, 1, 0))), (1, vi (0 : Int32))]) rfl k_) ?_
  exact k
theorem sX8_findText_2 {E : zE} {d : Nat} {Q : zO → zM → Prop} (M : zM) (l1 : Int32) (k : if (gi M 97 7) ≤ l1 then (Q (.inl (some (vi (-1 : Int32)))) M) else (vp_in l1 400 ∧ (if (gi M 101 (l1).toNatClampNeg) = (gi M 97 11) then (Zm E YX8_findText d M [(0, vr (some (97, 1, 0))), (1, vi l1), (2, vi (1 : Int32)), (3, vi (0 : Int32))] 31 [] Q) else (Zm E YX8_findText d M [(0, vr (some (97, 1, 0))), (1, vi l1), (2, vi (0 : Int32)), (3, vi (0 : Int32))] 31 [] Q)))) : Zm E YX8_findText d M [(0, vr (some (97, 1, 0))), (1, vi l1)] 2 [] Q := by
  refine Zm.l (fun _ _ k_ => z_iload_n dX8_findText_2 rfl rfl k_) ?_
  refine Zm.l (fun _ _ k_ => z_aload_n dX8_findText_3 rfl rfl k_) ?_
  refine zm_geti dX8_findText_4 fsX8_296_1 (by decide) (by decide) ?_
  refine Zm.br (fun _ _ k1_ k2_ => z_icmp_ge (tgt := 87) dX8_findText_7 rfl k1_ k2_) (fun h_ => ?_) (fun h_ => ?_)
  · have k := zit h_ k
    refine Zm.l (fun _ _ k_ => z_iconst (v := -1) dX8_findText_87 rfl k_) ?_
    exact zm_iret dX8_findText_88 rfl rfl k
  · have k := zif h_ k
    refine Zm.l (fun _ _ k_ => z_aload_n dX8_findText_10 rfl rfl k_) ?_
    refine zm_getr 3 dX8_findText_11 fsX8_20_1 rfl ?_
    refine Zm.l (fun _ _ k_ => z_iload_n dX8_findText_14 rfl rfl k_) ?_
    obtain ⟨b_, k⟩ := k
    refine zm_iald dX8_findText_15 b_ (by decide) (by decide) ?_
    refine Zm.l (fun _ _ k_ => z_aload_n dX8_findText_16 rfl rfl k_) ?_
    refine zm_geti dX8_findText_17 fsX8_299_1 (by decide) (by decide) ?_
    refine Zm.brn (fun _ _ k1_ k2_ => z_icmp_ne (tgt := 27) dX8_findText_20 rfl k1_ k2_) (fun h_ => ?_) (fun h_ => ?_)
    · have k := zif h_ k
      refine Zm.l (fun _ _ k_ => z_iconst (v := 0) dX8_findText_27 rfl k_) ?_
      refine Zm.l (fun _ _ k_ => z_ist_n dX8_findText_28 rfl (by decide) (lv' := [(0, vr (some (97, 1, 0))), (1, vi l1), (2, vi (0 : Int32))]) rfl k_) ?_
      refine Zm.l (fun _ _ k_ => z_iconst (v := 0) dX8_findText_29 rfl k_) ?_
      refine Zm.l (fun _ _ k_ => z_ist_n dX8_findText_30 rfl (by decide) (lv' := [(0, vr (some (97, 1, 0))), (1, vi l1), (2, vi (0 : Int32)), (3, vi (0 : Int32))]) rfl k_) ?_
      exact k
    · have k := zit h_ k
      refine Zm.l (fun _ _ k_ => z_iconst (v := 1) dX8_findText_23 rfl k_) ?_
      refine Zm.l (fun _ _ k_ => z_goto (tgt := 28) dX8_findText_24 rfl k_) ?_
      refine Zm.l (fun _ _ k_ => z_ist_n dX8_findText_28 rfl (by decide) (lv' := [(0, vr (some (97, 1, 0))), (1, vi l1), (2, vi (1 : Int32))]) rfl k_) ?_
      refine Zm.l (fun _ _ k_ => z_iconst (v := 0) dX8_findText_29 rfl k_) ?_
      refine Zm.l (fun _ _ k_ => z_ist_n dX8_findText_30 rfl (by decide) (lv' := [(0, vr (some (97, 1, 0))), (1, vi l1), (2, vi (1 : Int32)), (3, vi (0 : Int32))]) rfl k_) ?_
      exact k
theorem sX8_findText_31 {E : zE} {d : Nat} {Q : zO → zM → Prop} (M : zM) (l1 : Int32) (l2 : Int32) (l3 : Int32) (k : if (gi M 97 11) ≤ l3 then (if l2 = 0 then (Zm E YX8_findText d M [(0, vr (some (97, 1, 0))), (1, vi (l1 + (1 : Int32)))] 2 [] Q) else (Q (.inl (some (vi l1))) M)) else (if l2 = 0 then (if l2 = 0 then (Zm E YX8_findText d M [(0, vr (some (97, 1, 0))), (1, vi (l1 + (1 : Int32)))] 2 [] Q) else (Q (.inl (some (vi l1))) M)) else (vp_in (((60 : Int32) * l1) + l3) 24000 ∧ (vp_in l3 200 ∧ (if (gi M 100 ((((60 : Int32) * l1) + l3)).toNatClampNeg) = (gi M 102 (l3).toNatClampNeg) then (Zm E YX8_findText d M [(0, vr (some (97, 1, 0))), (1, vi l1), (2, vi (1 : Int32)), (3, vi (l3 + (1 : Int32)))] 31 [] Q) else (Zm E YX8_findText d M [(0, vr (some (97, 1, 0))), (1, vi l1), (2, vi (0 : Int32)), (3, vi (l3 + (1 : Int32)))] 31 [] Q)))))) : Zm E YX8_findText d M [(0, vr (some (97, 1, 0))), (1, vi l1), (2, vi l2), (3, vi l3)] 31 [] Q := by
  refine Zm.l (fun _ _ k_ => z_iload_n dX8_findText_31 rfl rfl k_) ?_
  refine Zm.l (fun _ _ k_ => z_aload_n dX8_findText_32 rfl rfl k_) ?_
  refine zm_geti dX8_findText_33 fsX8_299_1 (by decide) (by decide) ?_
  refine Zm.br (fun _ _ k1_ k2_ => z_icmp_ge (tgt := 75) dX8_findText_36 rfl k1_ k2_) (fun h_ => ?_) (fun h_ => ?_)
  · have k := zit h_ k
    refine Zm.l (fun _ _ k_ => z_iload_n dX8_findText_75 rfl rfl k_) ?_
    refine Zm.br (fun _ _ k1_ k2_ => z_if_eq (tgt := 81) dX8_findText_76 rfl k1_ k2_) (fun h_ => ?_) (fun h_ => ?_)
    · have k := zit h_ k
      refine Zm.l (fun _ _ k_ => z_inc (v := (l1 + (1 : Int32))) dX8_findText_81 rfl rfl (by decide) (lv' := [(0, vr (some (97, 1, 0))), (1, vi (l1 + (1 : Int32))), (2, vi l2), (3, vi l3)]) rfl k_) ?_
      refine Zm.l (fun _ _ k_ => z_goto (tgt := 2) dX8_findText_84 rfl k_) ?_
      refine Zm.pick [0, 1] rfl ?_
      exact k
    · have k := zif h_ k
      refine Zm.l (fun _ _ k_ => z_iload_n dX8_findText_79 rfl rfl k_) ?_
      exact zm_iret dX8_findText_80 rfl rfl k
  · have k := zif h_ k
    refine Zm.l (fun _ _ k_ => z_iload_n dX8_findText_39 rfl rfl k_) ?_
    refine Zm.br (fun _ _ k1_ k2_ => z_if_eq (tgt := 75) dX8_findText_40 rfl k1_ k2_) (fun h_ => ?_) (fun h_ => ?_)
    · have k := zit h_ k
      refine Zm.l (fun _ _ k_ => z_iload_n dX8_findText_75 rfl rfl k_) ?_
      refine Zm.br (fun _ _ k1_ k2_ => z_if_eq (tgt := 81) dX8_findText_76 rfl k1_ k2_) (fun h_ => ?_) (fun h_ => ?_)
      · have k := zit h_ k
        refine Zm.l (fun _ _ k_ => z_inc (v := (l1 + (1 : Int32))) dX8_findText_81 rfl rfl (by decide) (lv' := [(0, vr (some (97, 1, 0))), (1, vi (l1 + (1 : Int32))), (2, vi l2), (3, vi l3)]) rfl k_) ?_
        refine Zm.l (fun _ _ k_ => z_goto (tgt := 2) dX8_findText_84 rfl k_) ?_
        refine Zm.pick [0, 1] rfl ?_
        exact k
      · have k := zif h_ k
        refine Zm.l (fun _ _ k_ => z_iload_n dX8_findText_79 rfl rfl k_) ?_
        exact zm_iret dX8_findText_80 rfl rfl k
    · have k := zif h_ k
      refine Zm.l (fun _ _ k_ => z_aload_n dX8_findText_43 rfl rfl k_) ?_
      refine zm_getr 2 dX8_findText_44 fsX8_16_1 rfl ?_
      refine Zm.l (fun _ _ k_ => z_bipush (v := 60) dX8_findText_47 rfl k_) ?_
      refine Zm.l (fun _ _ k_ => z_iload_n dX8_findText_49 rfl rfl k_) ?_
      refine Zm.l (fun _ _ k_ => z_imul dX8_findText_50 k_) ?_
      refine Zm.l (fun _ _ k_ => z_iload_n dX8_findText_51 rfl rfl k_) ?_
      refine Zm.l (fun _ _ k_ => z_iadd dX8_findText_52 k_) ?_
      obtain ⟨b_, k⟩ := k
      refine zm_cald dX8_findText_53 b_ (by decide) (by decide) ?_
      refine Zm.l (fun _ _ k_ => z_aload_n dX8_findText_54 rfl rfl k_) ?_
      refine zm_getr 4 dX8_findText_55 fsX8_24_1 rfl ?_
      refine Zm.l (fun _ _ k_ => z_iload_n dX8_findText_58 rfl rfl k_) ?_
      obtain ⟨b_, k⟩ := k
      refine zm_cald dX8_findText_59 b_ (by decide) (by decide) ?_
      refine Zm.brn (fun _ _ k1_ k2_ => z_icmp_ne (tgt := 67) dX8_findText_60 rfl k1_ k2_) (fun h_ => ?_) (fun h_ => ?_)
      · have k := zif h_ k
        refine Zm.l (fun _ _ k_ => z_iconst (v := 0) dX8_findText_67 rfl k_) ?_
        refine Zm.l (fun _ _ k_ => z_ist_n dX8_findText_68 rfl (by decide) (lv' := [(0, vr (some (97, 1, 0))), (1, vi l1), (2, vi (0 : Int32)), (3, vi l3)]) rfl k_) ?_
        refine Zm.l (fun _ _ k_ => z_inc (v := (l3 + (1 : Int32))) dX8_findText_69 rfl rfl (by decide) (lv' := [(0, vr (some (97, 1, 0))), (1, vi l1), (2, vi (0 : Int32)), (3, vi (l3 + (1 : Int32)))]) rfl k_) ?_
        refine Zm.l (fun _ _ k_ => z_goto (tgt := 31) dX8_findText_72 rfl k_) ?_
        exact k
      · have k := zit h_ k
        refine Zm.l (fun _ _ k_ => z_iconst (v := 1) dX8_findText_63 rfl k_) ?_
        refine Zm.l (fun _ _ k_ => z_goto (tgt := 68) dX8_findText_64 rfl k_) ?_
        refine Zm.l (fun _ _ k_ => z_ist_n dX8_findText_68 rfl (by decide) (lv' := [(0, vr (some (97, 1, 0))), (1, vi l1), (2, vi (1 : Int32)), (3, vi l3)]) rfl k_) ?_
        refine Zm.l (fun _ _ k_ => z_inc (v := (l3 + (1 : Int32))) dX8_findText_69 rfl rfl (by decide) (lv' := [(0, vr (some (97, 1, 0))), (1, vi l1), (2, vi (1 : Int32)), (3, vi (l3 + (1 : Int32)))]) rfl k_) ?_
        refine Zm.l (fun _ _ k_ => z_goto (tgt := 31) dX8_findText_72 rfl k_) ?_
        exact k
/-! ScriptTypesModel.hold(IZ)V -/
theorem bX8_hold_0 : zdec cX8_hold 0 [(0, .aload_n 0, 1), (1, .getfield 427, 3), (4, .bipush 12, 2), (6, .if_icmp .ge 8, 3), (9, .iload_n 1, 1), (10, .iconst (-1), 1), (11, .if_icmp .ne 4, 3), (14, .return_, 1), (15, .aload_n 0, 1), (16, .getfield 427, 3), (19, .ifCond .ne 72, 3), (22, .iload_n 2, 1), (23, .ifCond .ne 68, 3), (26, .iconst 0, 1), (27, .istore_n 3, 1), (28, .iconst 0, 1)] = true := by decide +kernel
theorem dX8_hold_0 : decode cX8_hold 0 = .ok (.aload_n 0, 1) := zdec_at bX8_hold_0 0 rfl
theorem dX8_hold_1 : decode cX8_hold 1 = .ok (.getfield 427, 3) := zdec_at bX8_hold_0 1 rfl
theorem dX8_hold_4 : decode cX8_hold 4 = .ok (.bipush 12, 2) := zdec_at bX8_hold_0 2 rfl
theorem dX8_hold_6 : decode cX8_hold 6 = .ok (.if_icmp .ge 8, 3) := zdec_at bX8_hold_0 3 rfl
theorem dX8_hold_9 : decode cX8_hold 9 = .ok (.iload_n 1, 1) := zdec_at bX8_hold_0 4 rfl
theorem dX8_hold_10 : decode cX8_hold 10 = .ok (.iconst (-1), 1) := zdec_at bX8_hold_0 5 rfl
theorem dX8_hold_11 : decode cX8_hold 11 = .ok (.if_icmp .ne 4, 3) := zdec_at bX8_hold_0 6 rfl
theorem dX8_hold_14 : decode cX8_hold 14 = .ok (.return_, 1) := zdec_at bX8_hold_0 7 rfl
theorem dX8_hold_15 : decode cX8_hold 15 = .ok (.aload_n 0, 1) := zdec_at bX8_hold_0 8 rfl
theorem dX8_hold_16 : decode cX8_hold 16 = .ok (.getfield 427, 3) := zdec_at bX8_hold_0 9 rfl
theorem dX8_hold_19 : decode cX8_hold 19 = .ok (.ifCond .ne 72, 3) := zdec_at bX8_hold_0 10 rfl
theorem dX8_hold_22 : decode cX8_hold 22 = .ok (.iload_n 2, 1) := zdec_at bX8_hold_0 11 rfl
theorem dX8_hold_23 : decode cX8_hold 23 = .ok (.ifCond .ne 68, 3) := zdec_at bX8_hold_0 12 rfl
theorem dX8_hold_26 : decode cX8_hold 26 = .ok (.iconst 0, 1) := zdec_at bX8_hold_0 13 rfl
theorem dX8_hold_27 : decode cX8_hold 27 = .ok (.istore_n 3, 1) := zdec_at bX8_hold_0 14 rfl
theorem dX8_hold_28 : decode cX8_hold 28 = .ok (.iconst 0, 1) := zdec_at bX8_hold_0 15 rfl
theorem bX8_hold_29 : zdec cX8_hold 29 [(29, .istore 4, 2), (31, .iload 4, 2), (33, .aload_n 0, 1), (34, .getfield 430, 3), (37, .if_icmp .ge 30, 3), (40, .iload_n 3, 1), (41, .ifCond .ne 14, 3), (44, .aload_n 0, 1), (45, .getfield 86, 3), (48, .iload 4, 2), (50, .iaload, 1), (51, .iload_n 1, 1), (52, .if_icmp .ne 7, 3), (55, .iconst 1, 1), (56, .goto 4, 3), (59, .iconst 0, 1)] = true := by decide +kernel
theorem dX8_hold_29 : decode cX8_hold 29 = .ok (.istore 4, 2) := zdec_at bX8_hold_29 0 rfl
theorem dX8_hold_31 : decode cX8_hold 31 = .ok (.iload 4, 2) := zdec_at bX8_hold_29 1 rfl
theorem dX8_hold_33 : decode cX8_hold 33 = .ok (.aload_n 0, 1) := zdec_at bX8_hold_29 2 rfl
theorem dX8_hold_34 : decode cX8_hold 34 = .ok (.getfield 430, 3) := zdec_at bX8_hold_29 3 rfl
theorem dX8_hold_37 : decode cX8_hold 37 = .ok (.if_icmp .ge 30, 3) := zdec_at bX8_hold_29 4 rfl
theorem dX8_hold_40 : decode cX8_hold 40 = .ok (.iload_n 3, 1) := zdec_at bX8_hold_29 5 rfl
theorem dX8_hold_41 : decode cX8_hold 41 = .ok (.ifCond .ne 14, 3) := zdec_at bX8_hold_29 6 rfl
theorem dX8_hold_44 : decode cX8_hold 44 = .ok (.aload_n 0, 1) := zdec_at bX8_hold_29 7 rfl
theorem dX8_hold_45 : decode cX8_hold 45 = .ok (.getfield 86, 3) := zdec_at bX8_hold_29 8 rfl
theorem dX8_hold_48 : decode cX8_hold 48 = .ok (.iload 4, 2) := zdec_at bX8_hold_29 9 rfl
theorem dX8_hold_50 : decode cX8_hold 50 = .ok (.iaload, 1) := zdec_at bX8_hold_29 10 rfl
theorem dX8_hold_51 : decode cX8_hold 51 = .ok (.iload_n 1, 1) := zdec_at bX8_hold_29 11 rfl
theorem dX8_hold_52 : decode cX8_hold 52 = .ok (.if_icmp .ne 7, 3) := zdec_at bX8_hold_29 12 rfl
theorem dX8_hold_55 : decode cX8_hold 55 = .ok (.iconst 1, 1) := zdec_at bX8_hold_29 13 rfl
theorem dX8_hold_56 : decode cX8_hold 56 = .ok (.goto 4, 3) := zdec_at bX8_hold_29 14 rfl
theorem dX8_hold_59 : decode cX8_hold 59 = .ok (.iconst 0, 1) := zdec_at bX8_hold_29 15 rfl
theorem bX8_hold_60 : zdec cX8_hold 60 [(60, .istore_n 3, 1), (61, .iinc 4 1, 3), (64, .goto (-33), 3), (67, .iload_n 3, 1), (68, .ifCond .ne 23, 3), (71, .aload_n 0, 1), (72, .getfield 86, 3), (75, .aload_n 0, 1), (76, .getfield 430, 3), (79, .iload_n 1, 1), (80, .iastore, 1), (81, .aload_n 0, 1), (82, .dup, 1), (83, .getfield 430, 3), (86, .iconst 1, 1), (87, .iadd, 1)] = true := by decide +kernel
theorem dX8_hold_60 : decode cX8_hold 60 = .ok (.istore_n 3, 1) := zdec_at bX8_hold_60 0 rfl
theorem dX8_hold_61 : decode cX8_hold 61 = .ok (.iinc 4 1, 3) := zdec_at bX8_hold_60 1 rfl
theorem dX8_hold_64 : decode cX8_hold 64 = .ok (.goto (-33), 3) := zdec_at bX8_hold_60 2 rfl
theorem dX8_hold_67 : decode cX8_hold 67 = .ok (.iload_n 3, 1) := zdec_at bX8_hold_60 3 rfl
theorem dX8_hold_68 : decode cX8_hold 68 = .ok (.ifCond .ne 23, 3) := zdec_at bX8_hold_60 4 rfl
theorem dX8_hold_71 : decode cX8_hold 71 = .ok (.aload_n 0, 1) := zdec_at bX8_hold_60 5 rfl
theorem dX8_hold_72 : decode cX8_hold 72 = .ok (.getfield 86, 3) := zdec_at bX8_hold_60 6 rfl
theorem dX8_hold_75 : decode cX8_hold 75 = .ok (.aload_n 0, 1) := zdec_at bX8_hold_60 7 rfl
theorem dX8_hold_76 : decode cX8_hold 76 = .ok (.getfield 430, 3) := zdec_at bX8_hold_60 8 rfl
theorem dX8_hold_79 : decode cX8_hold 79 = .ok (.iload_n 1, 1) := zdec_at bX8_hold_60 9 rfl
theorem dX8_hold_80 : decode cX8_hold 80 = .ok (.iastore, 1) := zdec_at bX8_hold_60 10 rfl
theorem dX8_hold_81 : decode cX8_hold 81 = .ok (.aload_n 0, 1) := zdec_at bX8_hold_60 11 rfl
theorem dX8_hold_82 : decode cX8_hold 82 = .ok (.dup, 1) := zdec_at bX8_hold_60 12 rfl
theorem dX8_hold_83 : decode cX8_hold 83 = .ok (.getfield 430, 3) := zdec_at bX8_hold_60 13 rfl
theorem dX8_hold_86 : decode cX8_hold 86 = .ok (.iconst 1, 1) := zdec_at bX8_hold_60 14 rfl
theorem dX8_hold_87 : decode cX8_hold 87 = .ok (.iadd, 1) := zdec_at bX8_hold_60 15 rfl
theorem bX8_hold_88 : zdec cX8_hold 88 [(88, .putfield 430, 3), (91, .aload_n 0, 1), (92, .getfield 83, 3), (95, .aload_n 0, 1), (96, .getfield 427, 3), (99, .iaload, 1), (100, .istore_n 3, 1), (101, .iconst 0, 1), (102, .istore 4, 2), (104, .iload 4, 2), (106, .iload_n 3, 1), (107, .if_icmp .ge 29, 3), (110, .aload_n 0, 1), (111, .getfield 80, 3), (114, .bipush 100, 2), (116, .aload_n 0, 1)] = true := by decide +kernel
theorem dX8_hold_88 : decode cX8_hold 88 = .ok (.putfield 430, 3) := zdec_at bX8_hold_88 0 rfl
theorem dX8_hold_91 : decode cX8_hold 91 = .ok (.aload_n 0, 1) := zdec_at bX8_hold_88 1 rfl
theorem dX8_hold_92 : decode cX8_hold 92 = .ok (.getfield 83, 3) := zdec_at bX8_hold_88 2 rfl
theorem dX8_hold_95 : decode cX8_hold 95 = .ok (.aload_n 0, 1) := zdec_at bX8_hold_88 3 rfl
theorem dX8_hold_96 : decode cX8_hold 96 = .ok (.getfield 427, 3) := zdec_at bX8_hold_88 4 rfl
theorem dX8_hold_99 : decode cX8_hold 99 = .ok (.iaload, 1) := zdec_at bX8_hold_88 5 rfl
theorem dX8_hold_100 : decode cX8_hold 100 = .ok (.istore_n 3, 1) := zdec_at bX8_hold_88 6 rfl
theorem dX8_hold_101 : decode cX8_hold 101 = .ok (.iconst 0, 1) := zdec_at bX8_hold_88 7 rfl
theorem dX8_hold_102 : decode cX8_hold 102 = .ok (.istore 4, 2) := zdec_at bX8_hold_88 8 rfl
theorem dX8_hold_104 : decode cX8_hold 104 = .ok (.iload 4, 2) := zdec_at bX8_hold_88 9 rfl
theorem dX8_hold_106 : decode cX8_hold 106 = .ok (.iload_n 3, 1) := zdec_at bX8_hold_88 10 rfl
theorem dX8_hold_107 : decode cX8_hold 107 = .ok (.if_icmp .ge 29, 3) := zdec_at bX8_hold_88 11 rfl
theorem dX8_hold_110 : decode cX8_hold 110 = .ok (.aload_n 0, 1) := zdec_at bX8_hold_88 12 rfl
theorem dX8_hold_111 : decode cX8_hold 111 = .ok (.getfield 80, 3) := zdec_at bX8_hold_88 13 rfl
theorem dX8_hold_114 : decode cX8_hold 114 = .ok (.bipush 100, 2) := zdec_at bX8_hold_88 14 rfl
theorem dX8_hold_116 : decode cX8_hold 116 = .ok (.aload_n 0, 1) := zdec_at bX8_hold_88 15 rfl
theorem bX8_hold_117 : zdec cX8_hold 117 [(117, .getfield 427, 3), (120, .imul, 1), (121, .iload 4, 2), (123, .iadd, 1), (124, .iaload, 1), (125, .iload_n 1, 1), (126, .if_icmp .ne 4, 3), (129, .return_, 1), (130, .iinc 4 1, 3), (133, .goto (-29), 3), (136, .aload_n 0, 1), (137, .getfield 80, 3), (140, .bipush 100, 2), (142, .aload_n 0, 1), (143, .getfield 427, 3), (146, .imul, 1)] = true := by decide +kernel
theorem dX8_hold_117 : decode cX8_hold 117 = .ok (.getfield 427, 3) := zdec_at bX8_hold_117 0 rfl
theorem dX8_hold_120 : decode cX8_hold 120 = .ok (.imul, 1) := zdec_at bX8_hold_117 1 rfl
theorem dX8_hold_121 : decode cX8_hold 121 = .ok (.iload 4, 2) := zdec_at bX8_hold_117 2 rfl
theorem dX8_hold_123 : decode cX8_hold 123 = .ok (.iadd, 1) := zdec_at bX8_hold_117 3 rfl
theorem dX8_hold_124 : decode cX8_hold 124 = .ok (.iaload, 1) := zdec_at bX8_hold_117 4 rfl
theorem dX8_hold_125 : decode cX8_hold 125 = .ok (.iload_n 1, 1) := zdec_at bX8_hold_117 5 rfl
theorem dX8_hold_126 : decode cX8_hold 126 = .ok (.if_icmp .ne 4, 3) := zdec_at bX8_hold_117 6 rfl
theorem dX8_hold_129 : decode cX8_hold 129 = .ok (.return_, 1) := zdec_at bX8_hold_117 7 rfl
theorem dX8_hold_130 : decode cX8_hold 130 = .ok (.iinc 4 1, 3) := zdec_at bX8_hold_117 8 rfl
theorem dX8_hold_133 : decode cX8_hold 133 = .ok (.goto (-29), 3) := zdec_at bX8_hold_117 9 rfl
theorem dX8_hold_136 : decode cX8_hold 136 = .ok (.aload_n 0, 1) := zdec_at bX8_hold_117 10 rfl
theorem dX8_hold_137 : decode cX8_hold 137 = .ok (.getfield 80, 3) := zdec_at bX8_hold_117 11 rfl
theorem dX8_hold_140 : decode cX8_hold 140 = .ok (.bipush 100, 2) := zdec_at bX8_hold_117 12 rfl
theorem dX8_hold_142 : decode cX8_hold 142 = .ok (.aload_n 0, 1) := zdec_at bX8_hold_117 13 rfl
theorem dX8_hold_143 : decode cX8_hold 143 = .ok (.getfield 427, 3) := zdec_at bX8_hold_117 14 rfl
theorem dX8_hold_146 : decode cX8_hold 146 = .ok (.imul, 1) := zdec_at bX8_hold_117 15 rfl
theorem bX8_hold_147 : zdec cX8_hold 147 [(147, .iload_n 3, 1), (148, .iadd, 1), (149, .iload_n 1, 1), (150, .iastore, 1), (151, .aload_n 0, 1), (152, .getfield 83, 3), (155, .aload_n 0, 1), (156, .getfield 427, 3), (159, .dup2, 1), (160, .iaload, 1), (161, .iconst 1, 1), (162, .iadd, 1), (163, .iastore, 1), (164, .return_, 1)] = true := by decide +kernel
theorem dX8_hold_147 : decode cX8_hold 147 = .ok (.iload_n 3, 1) := zdec_at bX8_hold_147 0 rfl
theorem dX8_hold_148 : decode cX8_hold 148 = .ok (.iadd, 1) := zdec_at bX8_hold_147 1 rfl
theorem dX8_hold_149 : decode cX8_hold 149 = .ok (.iload_n 1, 1) := zdec_at bX8_hold_147 2 rfl
theorem dX8_hold_150 : decode cX8_hold 150 = .ok (.iastore, 1) := zdec_at bX8_hold_147 3 rfl
theorem dX8_hold_151 : decode cX8_hold 151 = .ok (.aload_n 0, 1) := zdec_at bX8_hold_147 4 rfl
theorem dX8_hold_152 : decode cX8_hold 152 = .ok (.getfield 83, 3) := zdec_at bX8_hold_147 5 rfl
theorem dX8_hold_155 : decode cX8_hold 155 = .ok (.aload_n 0, 1) := zdec_at bX8_hold_147 6 rfl
theorem dX8_hold_156 : decode cX8_hold 156 = .ok (.getfield 427, 3) := zdec_at bX8_hold_147 7 rfl
theorem dX8_hold_159 : decode cX8_hold 159 = .ok (.dup2, 1) := zdec_at bX8_hold_147 8 rfl
theorem dX8_hold_160 : decode cX8_hold 160 = .ok (.iaload, 1) := zdec_at bX8_hold_147 9 rfl
theorem dX8_hold_161 : decode cX8_hold 161 = .ok (.iconst 1, 1) := zdec_at bX8_hold_147 10 rfl
theorem dX8_hold_162 : decode cX8_hold 162 = .ok (.iadd, 1) := zdec_at bX8_hold_147 11 rfl
theorem dX8_hold_163 : decode cX8_hold 163 = .ok (.iastore, 1) := zdec_at bX8_hold_147 12 rfl
theorem dX8_hold_164 : decode cX8_hold 164 = .ok (.return_, 1) := zdec_at bX8_hold_147 13 rfl
theorem sX8_hold_0 {E : zE} {d : Nat} {Q : zO → zM → Prop} (M : zM) (l1 : Int32) (l2 : Int32) (k : if (12 : Int32) ≤ (gi M 97 43) then (Q (.inl none) M) else (if l1 = (-1 : Int32) then (Q (.inl none) M) else (if (gi M 97 43) = 0 then (if l2 = 0 then (Zm E YX8_hold d M [(0, vr (some (97, 1, 0))), (1, vi l1), (3, vi (0 : Int32)), (4, vi (0 : Int32))] 31 [] Q) else (Zm E YX8_hold d M [(0, vr (some (97, 1, 0))), (1, vi l1)] 91 [] Q)) else (Zm E YX8_hold d M [(0, vr (some (97, 1, 0))), (1, vi l1)] 91 [] Q)))) : Zm E YX8_hold d M [(0, vr (some (97, 1, 0))), (1, vi l1), (2, vi l2)] 0 [] Q := by
  refine Zm.l (fun _ _ k_ => z_aload_n dX8_hold_0 rfl rfl k_) ?_
  refine zm_geti dX8_hold_1 fsX8_427_1 (by decide) (by decide) ?_
  refine Zm.l (fun _ _ k_ => z_bipush (v := 12) dX8_hold_4 rfl k_) ?_
  refine Zm.br (fun _ _ k1_ k2_ => z_icmp_ge (tgt := 14) dX8_hold_6 rfl k1_ k2_) (fun h_ => ?_) (fun h_ => ?_)
  · have k := zit h_ k
    exact zm_vret dX8_hold_14 rfl k
  · have k := zif h_ k
    refine Zm.l (fun _ _ k_ => z_iload_n dX8_hold_9 rfl rfl k_) ?_
    refine Zm.l (fun _ _ k_ => z_iconst (v := -1) dX8_hold_10 rfl k_) ?_
    refine Zm.brn (fun _ _ k1_ k2_ => z_icmp_ne (tgt := 15) dX8_hold_11 rfl k1_ k2_) (fun h_ => ?_) (fun h_ => ?_)
    · have k := zif h_ k
      refine Zm.l (fun _ _ k_ => z_aload_n dX8_hold_15 rfl rfl k_) ?_
      refine zm_geti dX8_hold_16 fsX8_427_1 (by decide) (by decide) ?_
      refine Zm.brn (fun _ _ k1_ k2_ => z_if_ne (tgt := 91) dX8_hold_19 rfl k1_ k2_) (fun h_ => ?_) (fun h_ => ?_)
      · have k := zif h_ k
        refine Zm.pick [0, 1] rfl ?_
        exact k
      · have k := zit h_ k
        refine Zm.l (fun _ _ k_ => z_iload_n dX8_hold_22 rfl rfl k_) ?_
        refine Zm.brn (fun _ _ k1_ k2_ => z_if_ne (tgt := 91) dX8_hold_23 rfl k1_ k2_) (fun h_ => ?_) (fun h_ => ?_)
        · have k := zif h_ k
          refine Zm.pick [0, 1] rfl ?_
          exact k
        · have k := zit h_ k
          refine Zm.l (fun _ _ k_ => z_iconst (v := 0) dX8_hold_26 rfl k_) ?_
          refine Zm.l (fun _ _ k_ => z_ist_n dX8_hold_27 rfl (by decide) (lv' := [(0, vr (some (97, 1, 0))), (1, vi l1), (2, vi l2), (3, vi (0 : Int32))]) rfl k_) ?_
          refine Zm.l (fun _ _ k_ => z_iconst (v := 0) dX8_hold_28 rfl k_) ?_
          refine Zm.l (fun _ _ k_ => z_ist dX8_hold_29 (by decide) (lv' := [(0, vr (some (97, 1, 0))), (1, vi l1), (2, vi l2), (3, vi (0 : Int32)), (4, vi (0 : Int32))]) rfl k_) ?_
          refine Zm.pick [0, 1, 3, 4] rfl ?_
          exact k
    · have k := zit h_ k
      exact zm_vret dX8_hold_14 rfl k
theorem sX8_hold_31 {E : zE} {d : Nat} {Q : zO → zM → Prop} (M : zM) (l1 : Int32) (l3 : Int32) (l4 : Int32) (k : if (gi M 97 42) ≤ l4 then (if l3 = 0 then (vp_in (gi M 97 42) 100 ∧ (Zm E YX8_hold d (si (si M 122 ((gi M 97 42)).toNatClampNeg l1) 97 42 ((gi M 97 42) + (1 : Int32))) [(0, vr (some (97, 1, 0))), (1, vi l1)] 91 [] Q)) else (Zm E YX8_hold d M [(0, vr (some (97, 1, 0))), (1, vi l1)] 91 [] Q)) else (if l3 = 0 then (vp_in l4 100 ∧ (if (gi M 122 (l4).toNatClampNeg) = l1 then (Zm E YX8_hold d M [(0, vr (some (97, 1, 0))), (1, vi l1), (3, vi (1 : Int32)), (4, vi (l4 + (1 : Int32)))] 31 [] Q) else (Zm E YX8_hold d M [(0, vr (some (97, 1, 0))), (1, vi l1), (3, vi (0 : Int32)), (4, vi (l4 + (1 : Int32)))] 31 [] Q))) else (Zm E YX8_hold d M [(0, vr (some (97, 1, 0))), (1, vi l1), (3, vi (1 : Int32)), (4, vi (l4 + (1 : Int32)))] 31 [] Q))) : Zm E YX8_hold d M [(0, vr (some (97, 1, 0))), (1, vi l1), (3, vi l3), (4, vi l4)] 31 [] Q := by
  refine Zm.l (fun _ _ k_ => z_iload dX8_hold_31 rfl k_) ?_
  refine Zm.l (fun _ _ k_ => z_aload_n dX8_hold_33 rfl rfl k_) ?_
  refine zm_geti dX8_hold_34 fsX8_430_1 (by decide) (by decide) ?_
  refine Zm.br (fun _ _ k1_ k2_ => z_icmp_ge (tgt := 67) dX8_hold_37 rfl k1_ k2_) (fun h_ => ?_) (fun h_ => ?_)
  · have k := zit h_ k
    refine Zm.l (fun _ _ k_ => z_iload_n dX8_hold_67 rfl rfl k_) ?_
    refine Zm.brn (fun _ _ k1_ k2_ => z_if_ne (tgt := 91) dX8_hold_68 rfl k1_ k2_) (fun h_ => ?_) (fun h_ => ?_)
    · have k := zif h_ k
      refine Zm.pick [0, 1] rfl ?_
      exact k
    · have k := zit h_ k
      refine Zm.l (fun _ _ k_ => z_aload_n dX8_hold_71 rfl rfl k_) ?_
      refine zm_getr 24 dX8_hold_72 fsX8_86_1 rfl ?_
      refine Zm.l (fun _ _ k_ => z_aload_n dX8_hold_75 rfl rfl k_) ?_
      refine zm_geti dX8_hold_76 fsX8_430_1 (by decide) (by decide) ?_
      refine Zm.l (fun _ _ k_ => z_iload_n dX8_hold_79 rfl rfl k_) ?_
      obtain ⟨b_, k⟩ := k
      refine zm_iast dX8_hold_80 b_ (by decide) (by decide) ?_
      refine Zm.l (fun _ _ k_ => z_aload_n dX8_hold_81 rfl rfl k_) ?_
      refine Zm.l (fun _ _ k_ => z_dup dX8_hold_82 rfl k_) ?_
      refine zm_geti dX8_hold_83 fsX8_430_1 (by decide) (by decide) ?_
      refine Zm.l (fun _ _ k_ => z_iconst (v := 1) dX8_hold_86 rfl k_) ?_
      refine Zm.l (fun _ _ k_ => z_iadd dX8_hold_87 k_) ?_
      refine zm_puti (by decide) (by decide) dX8_hold_88 (zfwN.w fwX8_430_1) rfl ⟨rfl, rfl⟩ ?_
      refine Zm.pick [0, 1] rfl ?_
      exact k
  · have k := zif h_ k
    refine Zm.l (fun _ _ k_ => z_iload_n dX8_hold_40 rfl rfl k_) ?_
    refine Zm.brn (fun _ _ k1_ k2_ => z_if_ne (tgt := 55) dX8_hold_41 rfl k1_ k2_) (fun h_ => ?_) (fun h_ => ?_)
    · have k := zif h_ k
      refine Zm.l (fun _ _ k_ => z_iconst (v := 1) dX8_hold_55 rfl k_) ?_
      refine Zm.l (fun _ _ k_ => z_goto (tgt := 60) dX8_hold_56 rfl k_) ?_
      refine Zm.l (fun _ _ k_ => z_ist_n dX8_hold_60 rfl (by decide) (lv' := [(0, vr (some (97, 1, 0))), (1, vi l1), (3, vi (1 : Int32)), (4, vi l4)]) rfl k_) ?_
      refine Zm.l (fun _ _ k_ => z_inc (v := (l4 + (1 : Int32))) dX8_hold_61 rfl rfl (by decide) (lv' := [(0, vr (some (97, 1, 0))), (1, vi l1), (3, vi (1 : Int32)), (4, vi (l4 + (1 : Int32)))]) rfl k_) ?_
      refine Zm.l (fun _ _ k_ => z_goto (tgt := 31) dX8_hold_64 rfl k_) ?_
      exact k
    · have k := zit h_ k
      refine Zm.l (fun _ _ k_ => z_aload_n dX8_hold_44 rfl rfl k_) ?_
      refine zm_getr 24 dX8_hold_45 fsX8_86_1 rfl ?_
      refine Zm.l (fun _ _ k_ => z_iload dX8_hold_48 rfl k_) ?_
      obtain ⟨b_, k⟩ := k
      refine zm_iald dX8_hold_50 b_ (by decide) (by decide) ?_
      refine Zm.l (fun _ _ k_ => z_iload_n dX8_hold_51 rfl rfl k_) ?_
      refine Zm.brn (fun _ _ k1_ k2_ => z_icmp_ne (tgt := 59) dX8_hold_52 rfl k1_ k2_) (fun h_ => ?_) (fun h_ => ?_)
      · have k := zif h_ k
        refine Zm.l (fun _ _ k_ => z_iconst (v := 0) dX8_hold_59 rfl k_) ?_
        refine Zm.l (fun _ _ k_ => z_ist_n dX8_hold_60 rfl (by decide) (lv' := [(0, vr (some (97, 1, 0))), (1, vi l1), (3, vi (0 : Int32)), (4, vi l4)]) rfl k_) ?_
        refine Zm.l (fun _ _ k_ => z_inc (v := (l4 + (1 : Int32))) dX8_hold_61 rfl rfl (by decide) (lv' := [(0, vr (some (97, 1, 0))), (1, vi l1), (3, vi (0 : Int32)), (4, vi (l4 + (1 : Int32)))]) rfl k_) ?_
        refine Zm.l (fun _ _ k_ => z_goto (tgt := 31) dX8_hold_64 rfl k_) ?_
        exact k
      · have k := zit h_ k
        refine Zm.l (fun _ _ k_ => z_iconst (v := 1) dX8_hold_55 rfl k_) ?_
        refine Zm.l (fun _ _ k_ => z_goto (tgt := 60) dX8_hold_56 rfl k_) ?_
        refine Zm.l (fun _ _ k_ => z_ist_n dX8_hold_60 rfl (by decide) (lv' := [(0, vr (some (97, 1, 0))), (1, vi l1), (3, vi (1 : Int32)), (4, vi l4)]) rfl k_) ?_
        refine Zm.l (fun _ _ k_ => z_inc (v := (l4 + (1 : Int32))) dX8_hold_61 rfl rfl (by decide) (lv' := [(0, vr (some (97, 1, 0))), (1, vi l1), (3, vi (1 : Int32)), (4, vi (l4 + (1 : Int32)))]) rfl k_) ?_
        refine Zm.l (fun _ _ k_ => z_goto (tgt := 31) dX8_hold_64 rfl k_) ?_
        exact k
theorem sX8_hold_91 {E : zE} {d : Nat} {Q : zO → zM → Prop} (M : zM) (l1 : Int32) (k : vp_in (gi M 97 43) 12 ∧ (Zm E YX8_hold d M [(0, vr (some (97, 1, 0))), (1, vi l1), (3, vi (gi M 121 ((gi M 97 43)).toNatClampNeg)), (4, vi (0 : Int32))] 104 [] Q)) : Zm E YX8_hold d M [(0, vr (some (97, 1, 0))), (1, vi l1)] 91 [] Q := by
  refine Zm.l (fun _ _ k_ => z_aload_n dX8_hold_91 rfl rfl k_) ?_
  refine zm_getr 23 dX8_hold_92 fsX8_83_1 rfl ?_
  refine Zm.l (fun _ _ k_ => z_aload_n dX8_hold_95 rfl rfl k_) ?_
  refine zm_geti dX8_hold_96 fsX8_427_1 (by decide) (by decide) ?_
  obtain ⟨b_, k⟩ := k
  refine zm_iald dX8_hold_99 b_ (by decide) (by decide) ?_
  refine Zm.l (fun _ _ k_ => z_ist_n dX8_hold_100 rfl (by decide) (lv' := [(0, vr (some (97, 1, 0))), (1, vi l1), (3, vi (gi M 121 ((gi M 97 43)).toNatClampNeg))]) rfl k_) ?_
  refine Zm.l (fun _ _ k_ => z_iconst (v := 0) dX8_hold_101 rfl k_) ?_
  refine Zm.l (fun _ _ k_ => z_ist dX8_hold_102 (by decide) (lv' := [(0, vr (some (97, 1, 0))), (1, vi l1), (3, vi (gi M 121 ((gi M 97 43)).toNatClampNeg)), (4, vi (0 : Int32))]) rfl k_) ?_
  exact k
theorem sX8_hold_104 {E : zE} {d : Nat} {Q : zO → zM → Prop} (M : zM) (l1 : Int32) (l3 : Int32) (l4 : Int32) (k : if l3 ≤ l4 then (vp_in (((100 : Int32) * (gi M 97 43)) + l3) 1200 ∧ (vp_in (gi M 97 43) 12 ∧ (vp_in (gi M 97 43) 12 ∧ (Q (.inl none) (si (si M 120 ((((100 : Int32) * (gi M 97 43)) + l3)).toNatClampNeg l1) 121 ((gi M 97 43)).toNatClampNeg ((gi M 121 ((gi M 97 43)).toNatClampNeg) + (1 : Int32))))))) else (vp_in (((100 : Int32) * (gi M 97 43)) + l4) 1200 ∧ (if (gi M 120 ((((100 : Int32) * (gi M 97 43)) + l4)).toNatClampNeg) = l1 then (Q (.inl none) M) else (Zm E YX8_hold d M [(0, vr (some (97, 1, 0))), (1, vi l1), (3, vi l3), (4, vi (l4 + (1 : Int32)))] 104 [] Q)))) : Zm E YX8_hold d M [(0, vr (some (97, 1, 0))), (1, vi l1), (3, vi l3), (4, vi l4)] 104 [] Q := by
  refine Zm.l (fun _ _ k_ => z_iload dX8_hold_104 rfl k_) ?_
  refine Zm.l (fun _ _ k_ => z_iload_n dX8_hold_106 rfl rfl k_) ?_
  refine Zm.br (fun _ _ k1_ k2_ => z_icmp_ge (tgt := 136) dX8_hold_107 rfl k1_ k2_) (fun h_ => ?_) (fun h_ => ?_)
  · have k := zit h_ k
    refine Zm.l (fun _ _ k_ => z_aload_n dX8_hold_136 rfl rfl k_) ?_
    refine zm_getr 22 dX8_hold_137 fsX8_80_1 rfl ?_
    refine Zm.l (fun _ _ k_ => z_bipush (v := 100) dX8_hold_140 rfl k_) ?_
    refine Zm.l (fun _ _ k_ => z_aload_n dX8_hold_142 rfl rfl k_) ?_
    refine zm_geti dX8_hold_143 fsX8_427_1 (by decide) (by decide) ?_
    refine Zm.l (fun _ _ k_ => z_imul dX8_hold_146 k_) ?_
    refine Zm.l (fun _ _ k_ => z_iload_n dX8_hold_147 rfl rfl k_) ?_
    refine Zm.l (fun _ _ k_ => z_iadd dX8_hold_148 k_) ?_
    refine Zm.l (fun _ _ k_ => z_iload_n dX8_hold_149 rfl rfl k_) ?_
    obtain ⟨b_, k⟩ := k
    refine zm_iast dX8_hold_150 b_ (by decide) (by decide) ?_
    refine Zm.l (fun _ _ k_ => z_aload_n dX8_hold_151 rfl rfl k_) ?_
    refine zm_getr 23 dX8_hold_152 fsX8_83_1 rfl ?_
    refine Zm.l (fun _ _ k_ => z_aload_n dX8_hold_155 rfl rfl k_) ?_
    refine zm_geti dX8_hold_156 fsX8_427_1 (by decide) (by decide) ?_
    refine Zm.l (fun _ _ k_ => z_dup2 dX8_hold_159 rfl rfl k_) ?_
    obtain ⟨b_, k⟩ := k
    refine zm_iald dX8_hold_160 b_ (by decide) (by decide) ?_
    refine Zm.l (fun _ _ k_ => z_iconst (v := 1) dX8_hold_161 rfl k_) ?_
    refine Zm.l (fun _ _ k_ => z_iadd dX8_hold_162 k_) ?_
    obtain ⟨b_, k⟩ := k
    refine zm_iast dX8_hold_163 b_ (by decide) (by decide) ?_
    exact zm_vret dX8_hold_164 rfl k
  · have k := zif h_ k
    refine Zm.l (fun _ _ k_ => z_aload_n dX8_hold_110 rfl rfl k_) ?_
    refine zm_getr 22 dX8_hold_111 fsX8_80_1 rfl ?_
    refine Zm.l (fun _ _ k_ => z_bipush (v := 100) dX8_hold_114 rfl k_) ?_
    refine Zm.l (fun _ _ k_ => z_aload_n dX8_hold_116 rfl rfl k_) ?_
    refine zm_geti dX8_hold_117 fsX8_427_1 (by decide) (by decide) ?_
    refine Zm.l (fun _ _ k_ => z_imul dX8_hold_120 k_) ?_
    refine Zm.l (fun _ _ k_ => z_iload dX8_hold_121 rfl k_) ?_
    refine Zm.l (fun _ _ k_ => z_iadd dX8_hold_123 k_) ?_
    obtain ⟨b_, k⟩ := k
    refine zm_iald dX8_hold_124 b_ (by decide) (by decide) ?_
    refine Zm.l (fun _ _ k_ => z_iload_n dX8_hold_125 rfl rfl k_) ?_
    refine Zm.brn (fun _ _ k1_ k2_ => z_icmp_ne (tgt := 130) dX8_hold_126 rfl k1_ k2_) (fun h_ => ?_) (fun h_ => ?_)
    · have k := zif h_ k
      refine Zm.l (fun _ _ k_ => z_inc (v := (l4 + (1 : Int32))) dX8_hold_130 rfl rfl (by decide) (lv' := [(0, vr (some (97, 1, 0))), (1, vi l1), (3, vi l3), (4, vi (l4 + (1 : Int32)))]) rfl k_) ?_
      refine Zm.l (fun _ _ k_ => z_goto (tgt := 104) dX8_hold_133 rfl k_) ?_
      exact k
    · have k := zit h_ k
      exact zm_vret dX8_hold_129 rfl k
/-! ScriptTypesModel.readParameters(I)V -/
theorem bX8_readParameters_0 : zdec cX8_readParameters 0 [(0, .aload_n 0, 1), (1, .getfield 392, 3), (4, .iconst 1, 1), (5, .iadd, 1), (6, .istore_n 2, 1), (7, .iconst 0, 1), (8, .istore_n 3, 1), (9, .aload_n 0, 1), (10, .bipush 26, 2), (12, .invokevirtual 473, 3), (15, .ifCond .eq 16, 3), (18, .aload_n 0, 1), (19, .bipush 27, 2), (21, .invokevirtual 398, 3), (24, .ifCond .ne 7, 3), (27, .iconst 1, 1)] = true := by decide +kernel
theorem dX8_readParameters_0 : decode cX8_readParameters 0 = .ok (.aload_n 0, 1) := zdec_at bX8_readParameters_0 0 rfl
theorem dX8_readParameters_1 : decode cX8_readParameters 1 = .ok (.getfield 392, 3) := zdec_at bX8_readParameters_0 1 rfl
theorem dX8_readParameters_4 : decode cX8_readParameters 4 = .ok (.iconst 1, 1) := zdec_at bX8_readParameters_0 2 rfl
theorem dX8_readParameters_5 : decode cX8_readParameters 5 = .ok (.iadd, 1) := zdec_at bX8_readParameters_0 3 rfl
theorem dX8_readParameters_6 : decode cX8_readParameters 6 = .ok (.istore_n 2, 1) := zdec_at bX8_readParameters_0 4 rfl
theorem dX8_readParameters_7 : decode cX8_readParameters 7 = .ok (.iconst 0, 1) := zdec_at bX8_readParameters_0 5 rfl
theorem dX8_readParameters_8 : decode cX8_readParameters 8 = .ok (.istore_n 3, 1) := zdec_at bX8_readParameters_0 6 rfl
theorem dX8_readParameters_9 : decode cX8_readParameters 9 = .ok (.aload_n 0, 1) := zdec_at bX8_readParameters_0 7 rfl
theorem dX8_readParameters_10 : decode cX8_readParameters 10 = .ok (.bipush 26, 2) := zdec_at bX8_readParameters_0 8 rfl
theorem dX8_readParameters_12 : decode cX8_readParameters 12 = .ok (.invokevirtual 473, 3) := zdec_at bX8_readParameters_0 9 rfl
theorem dX8_readParameters_15 : decode cX8_readParameters 15 = .ok (.ifCond .eq 16, 3) := zdec_at bX8_readParameters_0 10 rfl
theorem dX8_readParameters_18 : decode cX8_readParameters 18 = .ok (.aload_n 0, 1) := zdec_at bX8_readParameters_0 11 rfl
theorem dX8_readParameters_19 : decode cX8_readParameters 19 = .ok (.bipush 27, 2) := zdec_at bX8_readParameters_0 12 rfl
theorem dX8_readParameters_21 : decode cX8_readParameters 21 = .ok (.invokevirtual 398, 3) := zdec_at bX8_readParameters_0 13 rfl
theorem dX8_readParameters_24 : decode cX8_readParameters 24 = .ok (.ifCond .ne 7, 3) := zdec_at bX8_readParameters_0 14 rfl
theorem dX8_readParameters_27 : decode cX8_readParameters 27 = .ok (.iconst 1, 1) := zdec_at bX8_readParameters_0 15 rfl
theorem bX8_readParameters_28 : zdec cX8_readParameters 28 [(28, .goto 4, 3), (31, .iconst 0, 1), (32, .istore 4, 2), (34, .iload 4, 2), (36, .ifCond .eq 150, 3), (39, .aload_n 0, 1), (40, .getfield 389, 3), (43, .ifCond .ne 143, 3), (46, .iload_n 2, 1), (47, .istore 5, 2), (49, .iload 5, 2), (51, .aload_n 0, 1), (52, .getfield 392, 3), (55, .if_icmp .ge 41, 3), (58, .aload_n 0, 1), (59, .getfield 27, 3)] = true := by decide +kernel
theorem dX8_readParameters_28 : decode cX8_readParameters 28 = .ok (.goto 4, 3) := zdec_at bX8_readParameters_28 0 rfl
theorem dX8_readParameters_31 : decode cX8_readParameters 31 = .ok (.iconst 0, 1) := zdec_at bX8_readParameters_28 1 rfl
theorem dX8_readParameters_32 : decode cX8_readParameters 32 = .ok (.istore 4, 2) := zdec_at bX8_readParameters_28 2 rfl
theorem dX8_readParameters_34 : decode cX8_readParameters 34 = .ok (.iload 4, 2) := zdec_at bX8_readParameters_28 3 rfl
theorem dX8_readParameters_36 : decode cX8_readParameters 36 = .ok (.ifCond .eq 150, 3) := zdec_at bX8_readParameters_28 4 rfl
theorem dX8_readParameters_39 : decode cX8_readParameters 39 = .ok (.aload_n 0, 1) := zdec_at bX8_readParameters_28 5 rfl
theorem dX8_readParameters_40 : decode cX8_readParameters 40 = .ok (.getfield 389, 3) := zdec_at bX8_readParameters_28 6 rfl
theorem dX8_readParameters_43 : decode cX8_readParameters 43 = .ok (.ifCond .ne 143, 3) := zdec_at bX8_readParameters_28 7 rfl
theorem dX8_readParameters_46 : decode cX8_readParameters 46 = .ok (.iload_n 2, 1) := zdec_at bX8_readParameters_28 8 rfl
theorem dX8_readParameters_47 : decode cX8_readParameters 47 = .ok (.istore 5, 2) := zdec_at bX8_readParameters_28 9 rfl
theorem dX8_readParameters_49 : decode cX8_readParameters 49 = .ok (.iload 5, 2) := zdec_at bX8_readParameters_28 10 rfl
theorem dX8_readParameters_51 : decode cX8_readParameters 51 = .ok (.aload_n 0, 1) := zdec_at bX8_readParameters_28 11 rfl
theorem dX8_readParameters_52 : decode cX8_readParameters 52 = .ok (.getfield 392, 3) := zdec_at bX8_readParameters_28 12 rfl
theorem dX8_readParameters_55 : decode cX8_readParameters 55 = .ok (.if_icmp .ge 41, 3) := zdec_at bX8_readParameters_28 13 rfl
theorem dX8_readParameters_58 : decode cX8_readParameters 58 = .ok (.aload_n 0, 1) := zdec_at bX8_readParameters_28 14 rfl
theorem dX8_readParameters_59 : decode cX8_readParameters 59 = .ok (.getfield 27, 3) := zdec_at bX8_readParameters_28 15 rfl
theorem bX8_readParameters_62 : zdec cX8_readParameters 62 [(62, .aload_n 0, 1), (63, .getfield 392, 3), (66, .iaload, 1), (67, .iconst 1, 1), (68, .if_icmp .ne 22, 3), (71, .aload_n 0, 1), (72, .iload 5, 2), (74, .aload_n 0, 1), (75, .getfield 392, 3), (78, .invokevirtual 549, 3), (81, .ifCond .eq 9, 3), (84, .aload_n 0, 1), (85, .iconst 3, 1), (86, .invokevirtual 401, 3), (89, .pop, 1), (90, .iinc 5 2, 3)] = true := by decide +kernel
theorem dX8_readParameters_62 : decode cX8_readParameters 62 = .ok (.aload_n 0, 1) := zdec_at bX8_readParameters_62 0 rfl
theorem dX8_readParameters_63 : decode cX8_readParameters 63 = .ok (.getfield 392, 3) := zdec_at bX8_readParameters_62 1 rfl
theorem dX8_readParameters_66 : decode cX8_readParameters 66 = .ok (.iaload, 1) := zdec_at bX8_readParameters_62 2 rfl
theorem dX8_readParameters_67 : decode cX8_readParameters 67 = .ok (.iconst 1, 1) := zdec_at bX8_readParameters_62 3 rfl
theorem dX8_readParameters_68 : decode cX8_readParameters 68 = .ok (.if_icmp .ne 22, 3) := zdec_at bX8_readParameters_62 4 rfl
theorem dX8_readParameters_71 : decode cX8_readParameters 71 = .ok (.aload_n 0, 1) := zdec_at bX8_readParameters_62 5 rfl
theorem dX8_readParameters_72 : decode cX8_readParameters 72 = .ok (.iload 5, 2) := zdec_at bX8_readParameters_62 6 rfl
theorem dX8_readParameters_74 : decode cX8_readParameters 74 = .ok (.aload_n 0, 1) := zdec_at bX8_readParameters_62 7 rfl
theorem dX8_readParameters_75 : decode cX8_readParameters 75 = .ok (.getfield 392, 3) := zdec_at bX8_readParameters_62 8 rfl
theorem dX8_readParameters_78 : decode cX8_readParameters 78 = .ok (.invokevirtual 549, 3) := zdec_at bX8_readParameters_62 9 rfl
theorem dX8_readParameters_81 : decode cX8_readParameters 81 = .ok (.ifCond .eq 9, 3) := zdec_at bX8_readParameters_62 10 rfl
theorem dX8_readParameters_84 : decode cX8_readParameters 84 = .ok (.aload_n 0, 1) := zdec_at bX8_readParameters_62 11 rfl
theorem dX8_readParameters_85 : decode cX8_readParameters 85 = .ok (.iconst 3, 1) := zdec_at bX8_readParameters_62 12 rfl
theorem dX8_readParameters_86 : decode cX8_readParameters 86 = .ok (.invokevirtual 401, 3) := zdec_at bX8_readParameters_62 13 rfl
theorem dX8_readParameters_89 : decode cX8_readParameters 89 = .ok (.pop, 1) := zdec_at bX8_readParameters_62 14 rfl
theorem dX8_readParameters_90 : decode cX8_readParameters 90 = .ok (.iinc 5 2, 3) := zdec_at bX8_readParameters_62 15 rfl
theorem bX8_readParameters_93 : zdec cX8_readParameters 93 [(93, .goto (-44), 3), (96, .aload_n 0, 1), (97, .invokevirtual 536, 3), (100, .istore 5, 2), (102, .iload_n 1, 1), (103, .bipush 12, 2), (105, .if_icmp .ge 31, 3), (108, .iload_n 3, 1), (109, .bipush 8, 2), (111, .if_icmp .ge 25, 3), (114, .aload_n 0, 1), (115, .getfield 68, 3), (118, .bipush 8, 2), (120, .iload_n 1, 1), (121, .imul, 1), (122, .iload_n 3, 1)] = true := by decide +kernel
theorem dX8_readParameters_93 : decode cX8_readParameters 93 = .ok (.goto (-44), 3) := zdec_at bX8_readParameters_93 0 rfl
theorem dX8_readParameters_96 : decode cX8_readParameters 96 = .ok (.aload_n 0, 1) := zdec_at bX8_readParameters_93 1 rfl
theorem dX8_readParameters_97 : decode cX8_readParameters 97 = .ok (.invokevirtual 536, 3) := zdec_at bX8_readParameters_93 2 rfl
theorem dX8_readParameters_100 : decode cX8_readParameters 100 = .ok (.istore 5, 2) := zdec_at bX8_readParameters_93 3 rfl
theorem dX8_readParameters_102 : decode cX8_readParameters 102 = .ok (.iload_n 1, 1) := zdec_at bX8_readParameters_93 4 rfl
theorem dX8_readParameters_103 : decode cX8_readParameters 103 = .ok (.bipush 12, 2) := zdec_at bX8_readParameters_93 5 rfl
theorem dX8_readParameters_105 : decode cX8_readParameters 105 = .ok (.if_icmp .ge 31, 3) := zdec_at bX8_readParameters_93 6 rfl
theorem dX8_readParameters_108 : decode cX8_readParameters 108 = .ok (.iload_n 3, 1) := zdec_at bX8_readParameters_93 7 rfl
theorem dX8_readParameters_109 : decode cX8_readParameters 109 = .ok (.bipush 8, 2) := zdec_at bX8_readParameters_93 8 rfl
theorem dX8_readParameters_111 : decode cX8_readParameters 111 = .ok (.if_icmp .ge 25, 3) := zdec_at bX8_readParameters_93 9 rfl
theorem dX8_readParameters_114 : decode cX8_readParameters 114 = .ok (.aload_n 0, 1) := zdec_at bX8_readParameters_93 10 rfl
theorem dX8_readParameters_115 : decode cX8_readParameters 115 = .ok (.getfield 68, 3) := zdec_at bX8_readParameters_93 11 rfl
theorem dX8_readParameters_118 : decode cX8_readParameters 118 = .ok (.bipush 8, 2) := zdec_at bX8_readParameters_93 12 rfl
theorem dX8_readParameters_120 : decode cX8_readParameters 120 = .ok (.iload_n 1, 1) := zdec_at bX8_readParameters_93 13 rfl
theorem dX8_readParameters_121 : decode cX8_readParameters 121 = .ok (.imul, 1) := zdec_at bX8_readParameters_93 14 rfl
theorem dX8_readParameters_122 : decode cX8_readParameters 122 = .ok (.iload_n 3, 1) := zdec_at bX8_readParameters_93 15 rfl
theorem bX8_readParameters_123 : zdec cX8_readParameters 123 [(123, .iadd, 1), (124, .iload 5, 2), (126, .iastore, 1), (127, .aload_n 0, 1), (128, .getfield 71, 3), (131, .iload_n 1, 1), (132, .iload_n 3, 1), (133, .iconst 1, 1), (134, .iadd, 1), (135, .iastore, 1), (136, .iinc 3 1, 3), (139, .aload_n 0, 1), (140, .getfield 389, 3), (143, .ifCond .ne 22, 3), (146, .aload_n 0, 1), (147, .bipush 32, 2)] = true := by decide +kernel
theorem dX8_readParameters_123 : decode cX8_readParameters 123 = .ok (.iadd, 1) := zdec_at bX8_readParameters_123 0 rfl
theorem dX8_readParameters_124 : decode cX8_readParameters 124 = .ok (.iload 5, 2) := zdec_at bX8_readParameters_123 1 rfl
theorem dX8_readParameters_126 : decode cX8_readParameters 126 = .ok (.iastore, 1) := zdec_at bX8_readParameters_123 2 rfl
theorem dX8_readParameters_127 : decode cX8_readParameters 127 = .ok (.aload_n 0, 1) := zdec_at bX8_readParameters_123 3 rfl
theorem dX8_readParameters_128 : decode cX8_readParameters 128 = .ok (.getfield 71, 3) := zdec_at bX8_readParameters_123 4 rfl
theorem dX8_readParameters_131 : decode cX8_readParameters 131 = .ok (.iload_n 1, 1) := zdec_at bX8_readParameters_123 5 rfl
theorem dX8_readParameters_132 : decode cX8_readParameters 132 = .ok (.iload_n 3, 1) := zdec_at bX8_readParameters_123 6 rfl
theorem dX8_readParameters_133 : decode cX8_readParameters 133 = .ok (.iconst 1, 1) := zdec_at bX8_readParameters_123 7 rfl
theorem dX8_readParameters_134 : decode cX8_readParameters 134 = .ok (.iadd, 1) := zdec_at bX8_readParameters_123 8 rfl
theorem dX8_readParameters_135 : decode cX8_readParameters 135 = .ok (.iastore, 1) := zdec_at bX8_readParameters_123 9 rfl
theorem dX8_readParameters_136 : decode cX8_readParameters 136 = .ok (.iinc 3 1, 3) := zdec_at bX8_readParameters_123 10 rfl
theorem dX8_readParameters_139 : decode cX8_readParameters 139 = .ok (.aload_n 0, 1) := zdec_at bX8_readParameters_123 11 rfl
theorem dX8_readParameters_140 : decode cX8_readParameters 140 = .ok (.getfield 389, 3) := zdec_at bX8_readParameters_123 12 rfl
theorem dX8_readParameters_143 : decode cX8_readParameters 143 = .ok (.ifCond .ne 22, 3) := zdec_at bX8_readParameters_123 13 rfl
theorem dX8_readParameters_146 : decode cX8_readParameters 146 = .ok (.aload_n 0, 1) := zdec_at bX8_readParameters_123 14 rfl
theorem dX8_readParameters_147 : decode cX8_readParameters 147 = .ok (.bipush 32, 2) := zdec_at bX8_readParameters_123 15 rfl
theorem bX8_readParameters_149 : zdec cX8_readParameters 149 [(149, .invokevirtual 398, 3), (152, .ifCond .eq 13, 3), (155, .iload_n 3, 1), (156, .bipush 8, 2), (158, .if_icmp .ge 7, 3), (161, .iconst 1, 1), (162, .goto 4, 3), (165, .iconst 0, 1), (166, .istore 4, 2), (168, .iload 4, 2), (170, .ifCond .eq 13, 3), (173, .aload_n 0, 1), (174, .dup, 1), (175, .getfield 392, 3), (178, .iconst 1, 1), (179, .iadd, 1)] = true := by decide +kernel
theorem dX8_readParameters_149 : decode cX8_readParameters 149 = .ok (.invokevirtual 398, 3) := zdec_at bX8_readParameters_149 0 rfl
theorem dX8_readParameters_152 : decode cX8_readParameters 152 = .ok (.ifCond .eq 13, 3) := zdec_at bX8_readParameters_149 1 rfl
theorem dX8_readParameters_155 : decode cX8_readParameters 155 = .ok (.iload_n 3, 1) := zdec_at bX8_readParameters_149 2 rfl
theorem dX8_readParameters_156 : decode cX8_readParameters 156 = .ok (.bipush 8, 2) := zdec_at bX8_readParameters_149 3 rfl
theorem dX8_readParameters_158 : decode cX8_readParameters 158 = .ok (.if_icmp .ge 7, 3) := zdec_at bX8_readParameters_149 4 rfl
theorem dX8_readParameters_161 : decode cX8_readParameters 161 = .ok (.iconst 1, 1) := zdec_at bX8_readParameters_149 5 rfl
theorem dX8_readParameters_162 : decode cX8_readParameters 162 = .ok (.goto 4, 3) := zdec_at bX8_readParameters_149 6 rfl
theorem dX8_readParameters_165 : decode cX8_readParameters 165 = .ok (.iconst 0, 1) := zdec_at bX8_readParameters_149 7 rfl
theorem dX8_readParameters_166 : decode cX8_readParameters 166 = .ok (.istore 4, 2) := zdec_at bX8_readParameters_149 8 rfl
theorem dX8_readParameters_168 : decode cX8_readParameters 168 = .ok (.iload 4, 2) := zdec_at bX8_readParameters_149 9 rfl
theorem dX8_readParameters_170 : decode cX8_readParameters 170 = .ok (.ifCond .eq 13, 3) := zdec_at bX8_readParameters_149 10 rfl
theorem dX8_readParameters_173 : decode cX8_readParameters 173 = .ok (.aload_n 0, 1) := zdec_at bX8_readParameters_149 11 rfl
theorem dX8_readParameters_174 : decode cX8_readParameters 174 = .ok (.dup, 1) := zdec_at bX8_readParameters_149 12 rfl
theorem dX8_readParameters_175 : decode cX8_readParameters 175 = .ok (.getfield 392, 3) := zdec_at bX8_readParameters_149 13 rfl
theorem dX8_readParameters_178 : decode cX8_readParameters 178 = .ok (.iconst 1, 1) := zdec_at bX8_readParameters_149 14 rfl
theorem dX8_readParameters_179 : decode cX8_readParameters 179 = .ok (.iadd, 1) := zdec_at bX8_readParameters_149 15 rfl
theorem bX8_readParameters_180 : zdec cX8_readParameters 180 [(180, .putfield 392, 3), (183, .goto (-149), 3), (186, .aload_n 0, 1), (187, .bipush 27, 2), (189, .invokevirtual 473, 3), (192, .istore 5, 2), (194, .return_, 1)] = true := by decide +kernel
theorem dX8_readParameters_180 : decode cX8_readParameters 180 = .ok (.putfield 392, 3) := zdec_at bX8_readParameters_180 0 rfl
theorem dX8_readParameters_183 : decode cX8_readParameters 183 = .ok (.goto (-149), 3) := zdec_at bX8_readParameters_180 1 rfl
theorem dX8_readParameters_186 : decode cX8_readParameters 186 = .ok (.aload_n 0, 1) := zdec_at bX8_readParameters_180 2 rfl
theorem dX8_readParameters_187 : decode cX8_readParameters 187 = .ok (.bipush 27, 2) := zdec_at bX8_readParameters_180 3 rfl
theorem dX8_readParameters_189 : decode cX8_readParameters 189 = .ok (.invokevirtual 473, 3) := zdec_at bX8_readParameters_180 4 rfl
theorem dX8_readParameters_192 : decode cX8_readParameters 192 = .ok (.istore 5, 2) := zdec_at bX8_readParameters_180 5 rfl
theorem dX8_readParameters_194 : decode cX8_readParameters 194 = .ok (.return_, 1) := zdec_at bX8_readParameters_180 6 rfl
theorem sX8_readParameters_0 {E : zE} {d : Nat} {Q : zO → zM → Prop} (M : zM) (l1 : Int32) (k : Zm E YX8_must d M (zargs 0 [vr (some (97, 1, 0)), vi (26 : Int32)]) 0 [] (zma E YX8_readParameters (d + 1) [(0, vr (some (97, 1, 0))), (1, vi l1), (2, vi ((gi M 97 20) + (1 : Int32))), (3, vi (0 : Int32))] 12 3 [] Q)) : Zm E YX8_readParameters (d + 1) M [(0, vr (some (97, 1, 0))), (1, vi l1)] 0 [] Q := by
  refine Zm.l (fun _ _ k_ => z_aload_n dX8_readParameters_0 rfl rfl k_) ?_
  refine zm_geti dX8_readParameters_1 fsX8_392_1 (by decide) (by decide) ?_
  refine Zm.l (fun _ _ k_ => z_iconst (v := 1) dX8_readParameters_4 rfl k_) ?_
  refine Zm.l (fun _ _ k_ => z_iadd dX8_readParameters_5 k_) ?_
  refine Zm.l (fun _ _ k_ => z_ist_n dX8_readParameters_6 rfl (by decide) (lv' := [(0, vr (some (97, 1, 0))), (1, vi l1), (2, vi ((gi M 97 20) + (1 : Int32)))]) rfl k_) ?_
  refine Zm.l (fun _ _ k_ => z_iconst (v := 0) dX8_readParameters_7 rfl k_) ?_
  refine Zm.l (fun _ _ k_ => z_ist_n dX8_readParameters_8 rfl (by decide) (lv' := [(0, vr (some (97, 1, 0))), (1, vi l1), (2, vi ((gi M 97 20) + (1 : Int32))), (3, vi (0 : Int32))]) rfl k_) ?_
  refine Zm.l (fun _ _ k_ => z_aload_n dX8_readParameters_9 rfl rfl k_) ?_
  refine Zm.l (fun _ _ k_ => z_bipush (v := 26) dX8_readParameters_10 rfl k_) ?_
  exact zm_callV (as := [vi (26 : Int32)]) (st := []) dX8_readParameters_12 vsX8_473_1 (Nat.le_refl _) (Nat.le_of_ble_eq_true rfl) (Nat.le_of_ble_eq_true rfl) rfl k
theorem sX8_readParameters_15 {E : zE} {d : Nat} {Q : zO → zM → Prop} (M : zM) (l1 : Int32) (l2 : Int32) (l3 : Int32) (s0 : Int32) (k : if s0 = 0 then (Zm E YX8_readParameters (d + 1) M [(0, vr (some (97, 1, 0))), (1, vi l1), (2, vi l2), (3, vi l3), (4, vi (0 : Int32))] 34 [] Q) else (Zm E YX8_isSign d M (zargs 0 [vr (some (97, 1, 0)), vi (27 : Int32)]) 0 [] (zma E YX8_readParameters (d + 1) [(0, vr (some (97, 1, 0))), (1, vi l1), (2, vi l2), (3, vi l3)] 21 3 [] Q))) : Zm E YX8_readParameters (d + 1) M [(0, vr (some (97, 1, 0))), (1, vi l1), (2, vi l2), (3, vi l3)] 15 [vi s0] Q := by
  refine Zm.br (fun _ _ k1_ k2_ => z_if_eq (tgt := 31) dX8_readParameters_15 rfl k1_ k2_) (fun h_ => ?_) (fun h_ => ?_)
  · have k := zit h_ k
    refine Zm.l (fun _ _ k_ => z_iconst (v := 0) dX8_readParameters_31 rfl k_) ?_
    refine Zm.l (fun _ _ k_ => z_ist dX8_readParameters_32 (by decide) (lv' := [(0, vr (some (97, 1, 0))), (1, vi l1), (2, vi l2), (3, vi l3), (4, vi (0 : Int32))]) rfl k_) ?_
    exact k
  · have k := zif h_ k
    refine Zm.l (fun _ _ k_ => z_aload_n dX8_readParameters_18 rfl rfl k_) ?_
    refine Zm.l (fun _ _ k_ => z_bipush (v := 27) dX8_readParameters_19 rfl k_) ?_
    exact zm_callV (as := [vi (27 : Int32)]) (st := []) dX8_readParameters_21 vsX8_398_1 (Nat.le_refl _) (Nat.le_of_ble_eq_true rfl) (Nat.le_of_ble_eq_true rfl) rfl k
theorem sX8_readParameters_24 {E : zE} {d : Nat} {Q : zO → zM → Prop} (M : zM) (l1 : Int32) (l2 : Int32) (l3 : Int32) (s0 : Int32) (k : if s0 = 0 then (Zm E YX8_readParameters (d + 1) M [(0, vr (some (97, 1, 0))), (1, vi l1), (2, vi l2), (3, vi l3), (4, vi (1 : Int32))] 34 [] Q) else (Zm E YX8_readParameters (d + 1) M [(0, vr (some (97, 1, 0))), (1, vi l1), (2, vi l2), (3, vi l3), (4, vi (0 : Int32))] 34 [] Q)) : Zm E YX8_readParameters (d + 1) M [(0, vr (some (97, 1, 0))), (1, vi l1), (2, vi l2), (3, vi l3)] 24 [vi s0] Q := by
  refine Zm.brn (fun _ _ k1_ k2_ => z_if_ne (tgt := 31) dX8_readParameters_24 rfl k1_ k2_) (fun h_ => ?_) (fun h_ => ?_)
  · have k := zif h_ k
    refine Zm.l (fun _ _ k_ => z_iconst (v := 0) dX8_readParameters_31 rfl k_) ?_
    refine Zm.l (fun _ _ k_ => z_ist dX8_readParameters_32 (by decide) (lv' := [(0, vr (some (97, 1, 0))), (1, vi l1), (2, vi l2), (3, vi l3), (4, vi (0 : Int32))]) rfl k_) ?_
    exact k
  · have k := zit h_ k
    refine Zm.l (fun _ _ k_ => z_iconst (v := 1) dX8_readParameters_27 rfl k_) ?_
    refine Zm.l (fun _ _ k_ => z_goto (tgt := 32) dX8_readParameters_28 rfl k_) ?_
    refine Zm.l (fun _ _ k_ => z_ist dX8_readParameters_32 (by decide) (lv' := [(0, vr (some (97, 1, 0))), (1, vi l1), (2, vi l2), (3, vi l3), (4, vi (1 : Int32))]) rfl k_) ?_
    exact k
theorem sX8_readParameters_34 {E : zE} {d : Nat} {Q : zO → zM → Prop} (M : zM) (l1 : Int32) (l2 : Int32) (l3 : Int32) (l4 : Int32) (k : if l4 = 0 then (Zm E YX8_must d M (zargs 0 [vr (some (97, 1, 0)), vi (27 : Int32)]) 0 [] (zma E YX8_readParameters (d + 1) [] 189 3 [] Q)) else (if (gi M 97 21) = 0 then (Zm E YX8_readParameters (d + 1) M [(0, vr (some (97, 1, 0))), (1, vi l1), (2, vi l2), (3, vi l3), (5, vi l2)] 49 [] Q) else (Zm E YX8_must d M (zargs 0 [vr (some (97, 1, 0)), vi (27 : Int32)]) 0 [] (zma E YX8_readParameters (d + 1) [] 189 3 [] Q)))) : Zm E YX8_readParameters (d + 1) M [(0, vr (some (97, 1, 0))), (1, vi l1), (2, vi l2), (3, vi l3), (4, vi l4)] 34 [] Q := by
  refine Zm.l (fun _ _ k_ => z_iload dX8_readParameters_34 rfl k_) ?_
  refine Zm.br (fun _ _ k1_ k2_ => z_if_eq (tgt := 186) dX8_readParameters_36 rfl k1_ k2_) (fun h_ => ?_) (fun h_ => ?_)
  · have k := zit h_ k
    refine Zm.l (fun _ _ k_ => z_aload_n dX8_readParameters_186 rfl rfl k_) ?_
    refine Zm.l (fun _ _ k_ => z_bipush (v := 27) dX8_readParameters_187 rfl k_) ?_
    refine Zm.pick [] rfl ?_
    exact zm_callV (as := [vi (27 : Int32)]) (st := []) dX8_readParameters_189 vsX8_473_1 (Nat.le_refl _) (Nat.le_of_ble_eq_true rfl) (Nat.le_of_ble_eq_true rfl) rfl k
  · have k := zif h_ k
    refine Zm.l (fun _ _ k_ => z_aload_n dX8_readParameters_39 rfl rfl k_) ?_
    refine zm_geti dX8_readParameters_40 fsX8_389_1 (by decide) (by decide) ?_
    refine Zm.brn (fun _ _ k1_ k2_ => z_if_ne (tgt := 186) dX8_readParameters_43 rfl k1_ k2_) (fun h_ => ?_) (fun h_ => ?_)
    · have k := zif h_ k
      refine Zm.l (fun _ _ k_ => z_aload_n dX8_readParameters_186 rfl rfl k_) ?_
      refine Zm.l (fun _ _ k_ => z_bipush (v := 27) dX8_readParameters_187 rfl k_) ?_
      refine Zm.pick [] rfl ?_
      exact zm_callV (as := [vi (27 : Int32)]) (st := []) dX8_readParameters_189 vsX8_473_1 (Nat.le_refl _) (Nat.le_of_ble_eq_true rfl) (Nat.le_of_ble_eq_true rfl) rfl k
    · have k := zit h_ k
      refine Zm.l (fun _ _ k_ => z_iload_n dX8_readParameters_46 rfl rfl k_) ?_
      refine Zm.l (fun _ _ k_ => z_ist dX8_readParameters_47 (by decide) (lv' := [(0, vr (some (97, 1, 0))), (1, vi l1), (2, vi l2), (3, vi l3), (4, vi l4), (5, vi l2)]) rfl k_) ?_
      refine Zm.pick [0, 1, 2, 3, 5] rfl ?_
      exact k
theorem sX8_readParameters_49 {E : zE} {d : Nat} {Q : zO → zM → Prop} (M : zM) (l1 : Int32) (l2 : Int32) (l3 : Int32) (l5 : Int32) (k : if (gi M 97 20) ≤ l5 then (Zm E YX8_takeName d M (zargs 0 [vr (some (97, 1, 0))]) 0 [] (zma E YX8_readParameters (d + 1) [(0, vr (some (97, 1, 0))), (1, vi l1), (2, vi l2), (3, vi l3)] 97 3 [] Q)) else (vp_in (gi M 97 20) 4002 ∧ (if (gi M 103 ((gi M 97 20)).toNatClampNeg) = (1 : Int32) then (Zm E YX8_sameTokens d M (zargs 0 [vr (some (97, 1, 0)), vi l5, vi (gi M 97 20)]) 0 [] (zma E YX8_readParameters (d + 1) [(0, vr (some (97, 1, 0))), (1, vi l1), (2, vi l2), (3, vi l3), (5, vi l5)] 78 3 [] Q)) else (Zm E YX8_readParameters (d + 1) M [(0, vr (some (97, 1, 0))), (1, vi l1), (2, vi l2), (3, vi l3), (5, vi (l5 + (2 : Int32)))] 49 [] Q)))) : Zm E YX8_readParameters (d + 1) M [(0, vr (some (97, 1, 0))), (1, vi l1), (2, vi l2), (3, vi l3), (5, vi l5)] 49 [] Q := by
  refine Zm.l (fun _ _ k_ => z_iload dX8_readParameters_49 rfl k_) ?_
  refine Zm.l (fun _ _ k_ => z_aload_n dX8_readParameters_51 rfl rfl k_) ?_
  refine zm_geti dX8_readParameters_52 fsX8_392_1 (by decide) (by decide) ?_
  refine Zm.br (fun _ _ k1_ k2_ => z_icmp_ge (tgt := 96) dX8_readParameters_55 rfl k1_ k2_) (fun h_ => ?_) (fun h_ => ?_)
  · have k := zit h_ k
    refine Zm.l (fun _ _ k_ => z_aload_n dX8_readParameters_96 rfl rfl k_) ?_
    refine Zm.pick [0, 1, 2, 3] rfl ?_
    exact zm_callV (as := []) (st := []) dX8_readParameters_97 vsX8_536_1 (Nat.le_refl _) (Nat.le_of_ble_eq_true rfl) (Nat.le_of_ble_eq_true rfl) rfl k
  · have k := zif h_ k
    refine Zm.l (fun _ _ k_ => z_aload_n dX8_readParameters_58 rfl rfl k_) ?_
    refine zm_getr 5 dX8_readParameters_59 fsX8_27_1 rfl ?_
    refine Zm.l (fun _ _ k_ => z_aload_n dX8_readParameters_62 rfl rfl k_) ?_
    refine zm_geti dX8_readParameters_63 fsX8_392_1 (by decide) (by decide) ?_
    obtain ⟨b_, k⟩ := k
    refine zm_iald dX8_readParameters_66 b_ (by decide) (by decide) ?_
    refine Zm.l (fun _ _ k_ => z_iconst (v := 1) dX8_readParameters_67 rfl k_) ?_
    refine Zm.brn (fun _ _ k1_ k2_ => z_icmp_ne (tgt := 90) dX8_readParameters_68 rfl k1_ k2_) (fun h_ => ?_) (fun h_ => ?_)
    · have k := zif h_ k
      refine Zm.l (fun _ _ k_ => z_inc (v := (l5 + (2 : Int32))) dX8_readParameters_90 rfl rfl (by decide) (lv' := [(0, vr (some (97, 1, 0))), (1, vi l1), (2, vi l2), (3, vi l3), (5, vi (l5 + (2 : Int32)))]) rfl k_) ?_
      refine Zm.l (fun _ _ k_ => z_goto (tgt := 49) dX8_readParameters_93 rfl k_) ?_
      exact k
    · have k := zit h_ k
      refine Zm.l (fun _ _ k_ => z_aload_n dX8_readParameters_71 rfl rfl k_) ?_
      refine Zm.l (fun _ _ k_ => z_iload dX8_readParameters_72 rfl k_) ?_
      refine Zm.l (fun _ _ k_ => z_aload_n dX8_readParameters_74 rfl rfl k_) ?_
      refine zm_geti dX8_readParameters_75 fsX8_392_1 (by decide) (by decide) ?_
      exact zm_callV (as := [vi l5, vi (gi M 97 20)]) (st := []) dX8_readParameters_78 vsX8_549_1 (Nat.le_refl _) (Nat.le_of_ble_eq_true rfl) (Nat.le_of_ble_eq_true rfl) rfl k
theorem sX8_readParameters_81 {E : zE} {d : Nat} {Q : zO → zM → Prop} (M : zM) (l1 : Int32) (l2 : Int32) (l3 : Int32) (l5 : Int32) (s0 : Int32) (k : if s0 = 0 then (Zm E YX8_readParameters (d + 1) M [(0, vr (some (97, 1, 0))), (1, vi l1), (2, vi l2), (3, vi l3), (5, vi (l5 + (2 : Int32)))] 49 [] Q) else (Zm E YX8_fail d M (zargs 0 [vr (some (97, 1, 0)), vi (3 : Int32)]) 0 [] (zma E YX8_readParameters (d + 1) [(0, vr (some (97, 1, 0))), (1, vi l1), (2, vi l2), (3, vi l3), (5, vi l5)] 86 3 [] Q))) : Zm E YX8_readParameters (d + 1) M [(0, vr (some (97, 1, 0))), (1, vi l1), (2, vi l2), (3, vi l3), (5, vi l5)] 81 [vi s0] Q := by
  refine Zm.br (fun _ _ k1_ k2_ => z_if_eq (tgt := 90) dX8_readParameters_81 rfl k1_ k2_) (fun h_ => ?_) (fun h_ => ?_)
  · have k := zit h_ k
    refine Zm.l (fun _ _ k_ => z_inc (v := (l5 + (2 : Int32))) dX8_readParameters_90 rfl rfl (by decide) (lv' := [(0, vr (some (97, 1, 0))), (1, vi l1), (2, vi l2), (3, vi l3), (5, vi (l5 + (2 : Int32)))]) rfl k_) ?_
    refine Zm.l (fun _ _ k_ => z_goto (tgt := 49) dX8_readParameters_93 rfl k_) ?_
    exact k
  · have k := zif h_ k
    refine Zm.l (fun _ _ k_ => z_aload_n dX8_readParameters_84 rfl rfl k_) ?_
    refine Zm.l (fun _ _ k_ => z_iconst (v := 3) dX8_readParameters_85 rfl k_) ?_
    exact zm_callV (as := [vi (3 : Int32)]) (st := []) dX8_readParameters_86 vsX8_401_1 (Nat.le_refl _) (Nat.le_of_ble_eq_true rfl) (Nat.le_of_ble_eq_true rfl) rfl k
theorem sX8_readParameters_89 {E : zE} {d : Nat} {Q : zO → zM → Prop} (M : zM) (l1 : Int32) (l2 : Int32) (l3 : Int32) (l5 : Int32) (s0 : Int32) (k : Zm E YX8_readParameters (d + 1) M [(0, vr (some (97, 1, 0))), (1, vi l1), (2, vi l2), (3, vi l3), (5, vi (l5 + (2 : Int32)))] 49 [] Q) : Zm E YX8_readParameters (d + 1) M [(0, vr (some (97, 1, 0))), (1, vi l1), (2, vi l2), (3, vi l3), (5, vi l5)] 89 [vi s0] Q := by
  refine Zm.l (fun _ _ k_ => z_pop dX8_readParameters_89 rfl k_) ?_
  refine Zm.l (fun _ _ k_ => z_inc (v := (l5 + (2 : Int32))) dX8_readParameters_90 rfl rfl (by decide) (lv' := [(0, vr (some (97, 1, 0))), (1, vi l1), (2, vi l2), (3, vi l3), (5, vi (l5 + (2 : Int32)))]) rfl k_) ?_
  refine Zm.l (fun _ _ k_ => z_goto (tgt := 49) dX8_readParameters_93 rfl k_) ?_
  exact k
theorem sX8_readParameters_100 {E : zE} {d : Nat} {Q : zO → zM → Prop} (M : zM) (l1 : Int32) (l2 : Int32) (l3 : Int32) (s0 : Int32) (k : if (12 : Int32) ≤ l1 then (Zm E YX8_readParameters (d + 1) M [(0, vr (some (97, 1, 0))), (1, vi l1), (2, vi l2), (3, vi l3)] 136 [] Q) else (if (8 : Int32) ≤ l3 then (Zm E YX8_readParameters (d + 1) M [(0, vr (some (97, 1, 0))), (1, vi l1), (2, vi l2), (3, vi l3)] 136 [] Q) else (vp_in (((8 : Int32) * l1) + l3) 96 ∧ (vp_in l1 12 ∧ (Zm E YX8_readParameters (d + 1) (si (si M 116 ((((8 : Int32) * l1) + l3)).toNatClampNeg s0) 117 (l1).toNatClampNeg (l3 + (1 : Int32))) [(0, vr (some (97, 1, 0))), (1, vi l1), (2, vi l2), (3, vi l3)] 136 [] Q))))) : Zm E YX8_readParameters (d + 1) M [(0, vr (some (97, 1, 0))), (1, vi l1), (2, vi l2), (3, vi l3)] 100 [vi s0] Q := by
  refine Zm.l (fun _ _ k_ => z_ist dX8_readParameters_100 (by decide) (lv' := [(0, vr (some (97, 1, 0))), (1, vi l1), (2, vi l2), (3, vi l3), (5, vi s0)]) rfl k_) ?_
  refine Zm.l (fun _ _ k_ => z_iload_n dX8_readParameters_102 rfl rfl k_) ?_
  refine Zm.l (fun _ _ k_ => z_bipush (v := 12) dX8_readParameters_103 rfl k_) ?_
  refine Zm.br (fun _ _ k1_ k2_ => z_icmp_ge (tgt := 136) dX8_readParameters_105 rfl k1_ k2_) (fun h_ => ?_) (fun h_ => ?_)
  · have k := zit h_ k
    refine Zm.pick [0, 1, 2, 3] rfl ?_
    exact k
  · have k := zif h_ k
    refine Zm.l (fun _ _ k_ => z_iload_n dX8_readParameters_108 rfl rfl k_) ?_
    refine Zm.l (fun _ _ k_ => z_bipush (v := 8) dX8_readParameters_109 rfl k_) ?_
    refine Zm.br (fun _ _ k1_ k2_ => z_icmp_ge (tgt := 136) dX8_readParameters_111 rfl k1_ k2_) (fun h_ => ?_) (fun h_ => ?_)
    · have k := zit h_ k
      refine Zm.pick [0, 1, 2, 3] rfl ?_
      exact k
    · have k := zif h_ k
      refine Zm.l (fun _ _ k_ => z_aload_n dX8_readParameters_114 rfl rfl k_) ?_
      refine zm_getr 18 dX8_readParameters_115 fsX8_68_1 rfl ?_
      refine Zm.l (fun _ _ k_ => z_bipush (v := 8) dX8_readParameters_118 rfl k_) ?_
      refine Zm.l (fun _ _ k_ => z_iload_n dX8_readParameters_120 rfl rfl k_) ?_
      refine Zm.l (fun _ _ k_ => z_imul dX8_readParameters_121 k_) ?_
      refine Zm.l (fun _ _ k_ => z_iload_n dX8_readParameters_122 rfl rfl k_) ?_
      refine Zm.l (fun _ _ k_ => z_iadd dX8_readParameters_123 k_) ?_
      refine Zm.l (fun _ _ k_ => z_iload dX8_readParameters_124 rfl k_) ?_
      obtain ⟨b_, k⟩ := k
      refine zm_iast dX8_readParameters_126 b_ (by decide) (by decide) ?_
      refine Zm.l (fun _ _ k_ => z_aload_n dX8_readParameters_127 rfl rfl k_) ?_
      refine zm_getr 19 dX8_readParameters_128 fsX8_71_1 rfl ?_
      refine Zm.l (fun _ _ k_ => z_iload_n dX8_readParameters_131 rfl rfl k_) ?_
      refine Zm.l (fun _ _ k_ => z_iload_n dX8_readParameters_132 rfl rfl k_) ?_
      refine Zm.l (fun _ _ k_ => z_iconst (v := 1) dX8_readParameters_133 rfl k_) ?_
      refine Zm.l (fun _ _ k_ => z_iadd dX8_readParameters_134 k_) ?_
      obtain ⟨b_, k⟩ := k
      refine zm_iast dX8_readParameters_135 b_ (by decide) (by decide) ?_
      refine Zm.pick [0, 1, 2, 3] rfl ?_
      exact k
theorem sX8_readParameters_136 {E : zE} {d : Nat} {Q : zO → zM → Prop} (M : zM) (l1 : Int32) (l2 : Int32) (l3 : Int32) (k : if (gi M 97 21) = 0 then (Zm E YX8_isSign d M (zargs 0 [vr (some (97, 1, 0)), vi (32 : Int32)]) 0 [] (zma E YX8_readParameters (d + 1) [(0, vr (some (97, 1, 0))), (1, vi l1), (2, vi l2), (3, vi (l3 + (1 : Int32)))] 149 3 [] Q)) else (Zm E YX8_readParameters (d + 1) M [(0, vr (some (97, 1, 0))), (1, vi l1), (2, vi l2), (3, vi (l3 + (1 : Int32)))] 166 [vi (0 : Int32)] Q)) : Zm E YX8_readParameters (d + 1) M [(0, vr (some (97, 1, 0))), (1, vi l1), (2, vi l2), (3, vi l3)] 136 [] Q := by
  refine Zm.l (fun _ _ k_ => z_inc (v := (l3 + (1 : Int32))) dX8_readParameters_136 rfl rfl (by decide) (lv' := [(0, vr (some (97, 1, 0))), (1, vi l1), (2, vi l2), (3, vi (l3 + (1 : Int32)))]) rfl k_) ?_
  refine Zm.l (fun _ _ k_ => z_aload_n dX8_readParameters_139 rfl rfl k_) ?_
  refine zm_geti dX8_readParameters_140 fsX8_389_1 (by decide) (by decide) ?_
  refine Zm.brn (fun _ _ k1_ k2_ => z_if_ne (tgt := 165) dX8_readParameters_143 rfl k1_ k2_) (fun h_ => ?_) (fun h_ => ?_)
  · have k := zif h_ k
    refine Zm.l (fun _ _ k_ => z_iconst (v := 0) dX8_readParameters_165 rfl k_) ?_
    exact k
  · have k := zit h_ k
    refine Zm.l (fun _ _ k_ => z_aload_n dX8_readParameters_146 rfl rfl k_) ?_
    refine Zm.l (fun _ _ k_ => z_bipush (v := 32) dX8_readParameters_147 rfl k_) ?_
    exact zm_callV (as := [vi (32 : Int32)]) (st := []) dX8_readParameters_149 vsX8_398_1 (Nat.le_refl _) (Nat.le_of_ble_eq_true rfl) (Nat.le_of_ble_eq_true rfl) rfl k
theorem sX8_readParameters_152 {E : zE} {d : Nat} {Q : zO → zM → Prop} (M : zM) (l1 : Int32) (l2 : Int32) (l3 : Int32) (s0 : Int32) (k : if s0 = 0 then (Zm E YX8_readParameters (d + 1) M [(0, vr (some (97, 1, 0))), (1, vi l1), (2, vi l2), (3, vi l3)] 166 [vi (0 : Int32)] Q) else (if (8 : Int32) ≤ l3 then (Zm E YX8_readParameters (d + 1) M [(0, vr (some (97, 1, 0))), (1, vi l1), (2, vi l2), (3, vi l3)] 166 [vi (0 : Int32)] Q) else (Zm E YX8_readParameters (d + 1) M [(0, vr (some (97, 1, 0))), (1, vi l1), (2, vi l2), (3, vi l3)] 166 [vi (1 : Int32)] Q))) : Zm E YX8_readParameters (d + 1) M [(0, vr (some (97, 1, 0))), (1, vi l1), (2, vi l2), (3, vi l3)] 152 [vi s0] Q := by
  refine Zm.br (fun _ _ k1_ k2_ => z_if_eq (tgt := 165) dX8_readParameters_152 rfl k1_ k2_) (fun h_ => ?_) (fun h_ => ?_)
  · have k := zit h_ k
    refine Zm.l (fun _ _ k_ => z_iconst (v := 0) dX8_readParameters_165 rfl k_) ?_
    exact k
  · have k := zif h_ k
    refine Zm.l (fun _ _ k_ => z_iload_n dX8_readParameters_155 rfl rfl k_) ?_
    refine Zm.l (fun _ _ k_ => z_bipush (v := 8) dX8_readParameters_156 rfl k_) ?_
    refine Zm.br (fun _ _ k1_ k2_ => z_icmp_ge (tgt := 165) dX8_readParameters_158 rfl k1_ k2_) (fun h_ => ?_) (fun h_ => ?_)
    · have k := zit h_ k
      refine Zm.l (fun _ _ k_ => z_iconst (v := 0) dX8_readParameters_165 rfl k_) ?_
      exact k
    · have k := zif h_ k
      refine Zm.l (fun _ _ k_ => z_iconst (v := 1) dX8_readParameters_161 rfl k_) ?_
      refine Zm.l (fun _ _ k_ => z_goto (tgt := 166) dX8_readParameters_162 rfl k_) ?_
      exact k
theorem sX8_readParameters_166 {E : zE} {d : Nat} {Q : zO → zM → Prop} (M : zM) (l1 : Int32) (l2 : Int32) (l3 : Int32) (s0 : Int32) (k : if s0 = 0 then (Zm E YX8_readParameters (d + 1) M [(0, vr (some (97, 1, 0))), (1, vi l1), (2, vi l2), (3, vi l3), (4, vi s0)] 34 [] Q) else (Zm E YX8_readParameters (d + 1) (si M 97 20 ((gi M 97 20) + (1 : Int32))) [(0, vr (some (97, 1, 0))), (1, vi l1), (2, vi l2), (3, vi l3), (4, vi s0)] 34 [] Q)) : Zm E YX8_readParameters (d + 1) M [(0, vr (some (97, 1, 0))), (1, vi l1), (2, vi l2), (3, vi l3)] 166 [vi s0] Q := by
  refine Zm.l (fun _ _ k_ => z_ist dX8_readParameters_166 (by decide) (lv' := [(0, vr (some (97, 1, 0))), (1, vi l1), (2, vi l2), (3, vi l3), (4, vi s0)]) rfl k_) ?_
  refine Zm.l (fun _ _ k_ => z_iload dX8_readParameters_168 rfl k_) ?_
  refine Zm.br (fun _ _ k1_ k2_ => z_if_eq (tgt := 183) dX8_readParameters_170 rfl k1_ k2_) (fun h_ => ?_) (fun h_ => ?_)
  · have k := zit h_ k
    refine Zm.l (fun _ _ k_ => z_goto (tgt := 34) dX8_readParameters_183 rfl k_) ?_
    exact k
  · have k := zif h_ k
    refine Zm.l (fun _ _ k_ => z_aload_n dX8_readParameters_173 rfl rfl k_) ?_
    refine Zm.l (fun _ _ k_ => z_dup dX8_readParameters_174 rfl k_) ?_
    refine zm_geti dX8_readParameters_175 fsX8_392_1 (by decide) (by decide) ?_
    refine Zm.l (fun _ _ k_ => z_iconst (v := 1) dX8_readParameters_178 rfl k_) ?_
    refine Zm.l (fun _ _ k_ => z_iadd dX8_readParameters_179 k_) ?_
    refine zm_puti (by decide) (by decide) dX8_readParameters_180 (zfwN.w fwX8_392_1) rfl ⟨rfl, rfl⟩ ?_
    refine Zm.l (fun _ _ k_ => z_goto (tgt := 34) dX8_readParameters_183 rfl k_) ?_
    exact k
theorem sX8_readParameters_192 {E : zE} {d : Nat} {Q : zO → zM → Prop} (M : zM) (s0 : Int32) (k : Q (.inl none) M) : Zm E YX8_readParameters (d + 1) M [] 192 [vi s0] Q := by
  refine Zm.l (fun _ _ k_ => z_ist dX8_readParameters_192 (by decide) (lv' := [(5, vi s0)]) rfl k_) ?_
  exact zm_vret dX8_readParameters_194 rfl k
/-! ScriptTypesModel.must(I)Z -/
theorem bX8_must_0 : zdec cX8_must 0 [(0, .aload_n 0, 1), (1, .getfield 389, 3), (4, .ifCond .gt 11, 3), (7, .aload_n 0, 1), (8, .iload_n 1, 1), (9, .invokevirtual 398, 3), (12, .ifCond .ne 9, 3), (15, .aload_n 0, 1), (16, .iconst 2, 1), (17, .invokevirtual 401, 3), (20, .ireturn, 1), (21, .aload_n 0, 1), (22, .dup, 1), (23, .getfield 392, 3), (26, .iconst 1, 1), (27, .iadd, 1)] = true := by decide +kernel
theorem dX8_must_0 : decode cX8_must 0 = .ok (.aload_n 0, 1) := zdec_at bX8_must_0 0 rfl
theorem dX8_must_1 : decode cX8_must 1 = .ok (.getfield 389, 3) := zdec_at bX8_must_0 1 rfl
theorem dX8_must_4 : decode cX8_must 4 = .ok (.ifCond .gt 11, 3) := zdec_at bX8_must_0 2 rfl
theorem dX8_must_7 : decode cX8_must 7 = .ok (.aload_n 0, 1) := zdec_at bX8_must_0 3 rfl
theorem dX8_must_8 : decode cX8_must 8 = .ok (.iload_n 1, 1) := zdec_at bX8_must_0 4 rfl
theorem dX8_must_9 : decode cX8_must 9 = .ok (.invokevirtual 398, 3) := zdec_at bX8_must_0 5 rfl
theorem dX8_must_12 : decode cX8_must 12 = .ok (.ifCond .ne 9, 3) := zdec_at bX8_must_0 6 rfl
theorem dX8_must_15 : decode cX8_must 15 = .ok (.aload_n 0, 1) := zdec_at bX8_must_0 7 rfl
theorem dX8_must_16 : decode cX8_must 16 = .ok (.iconst 2, 1) := zdec_at bX8_must_0 8 rfl
theorem dX8_must_17 : decode cX8_must 17 = .ok (.invokevirtual 401, 3) := zdec_at bX8_must_0 9 rfl
theorem dX8_must_20 : decode cX8_must 20 = .ok (.ireturn, 1) := zdec_at bX8_must_0 10 rfl
theorem dX8_must_21 : decode cX8_must 21 = .ok (.aload_n 0, 1) := zdec_at bX8_must_0 11 rfl
theorem dX8_must_22 : decode cX8_must 22 = .ok (.dup, 1) := zdec_at bX8_must_0 12 rfl
theorem dX8_must_23 : decode cX8_must 23 = .ok (.getfield 392, 3) := zdec_at bX8_must_0 13 rfl
theorem dX8_must_26 : decode cX8_must 26 = .ok (.iconst 1, 1) := zdec_at bX8_must_0 14 rfl
theorem dX8_must_27 : decode cX8_must 27 = .ok (.iadd, 1) := zdec_at bX8_must_0 15 rfl
theorem bX8_must_28 : zdec cX8_must 28 [(28, .putfield 392, 3), (31, .iconst 1, 1), (32, .ireturn, 1)] = true := by decide +kernel
theorem dX8_must_28 : decode cX8_must 28 = .ok (.putfield 392, 3) := zdec_at bX8_must_28 0 rfl
theorem dX8_must_31 : decode cX8_must 31 = .ok (.iconst 1, 1) := zdec_at bX8_must_28 1 rfl
theorem dX8_must_32 : decode cX8_must 32 = .ok (.ireturn, 1) := zdec_at bX8_must_28 2 rfl
theorem sX8_must_0 {E : zE} {d : Nat} {Q : zO → zM → Prop} (M : zM) (l1 : Int32) (k : if 0 < (gi M 97 21) then (Zm E YX8_fail d M (zargs 0 [vr (some (97, 1, 0)), vi (2 : Int32)]) 0 [] (zma E YX8_must (d + 1) [] 17 3 [] Q)) else (Zm E YX8_isSign d M (zargs 0 [vr (some (97, 1, 0)), vi l1]) 0 [] (zma E YX8_must (d + 1) [(0, vr (some (97, 1, 0)))] 9 3 [] Q))) : Zm E YX8_must (d + 1) M [(0, vr (some (97, 1, 0))), (1, vi l1)] 0 [] Q := by
  refine Zm.l (fun _ _ k_ => z_aload_n dX8_must_0 rfl rfl k_) ?_
  refine zm_geti dX8_must_1 fsX8_389_1 (by decide) (by decide) ?_
  refine Zm.br (fun _ _ k1_ k2_ => z_if_gt (tgt := 15) dX8_must_4 rfl k1_ k2_) (fun h_ => ?_) (fun h_ => ?_)
  · have k := zit h_ k
    refine Zm.l (fun _ _ k_ => z_aload_n dX8_must_15 rfl rfl k_) ?_
    refine Zm.l (fun _ _ k_ => z_iconst (v := 2) dX8_must_16 rfl k_) ?_
    refine Zm.pick [] rfl ?_
    exact zm_callV (as := [vi (2 : Int32)]) (st := []) dX8_must_17 vsX8_401_1 (Nat.le_refl _) (Nat.le_of_ble_eq_true rfl) (Nat.le_of_ble_eq_true rfl) rfl k
  · have k := zif h_ k
    refine Zm.l (fun _ _ k_ => z_aload_n dX8_must_7 rfl rfl k_) ?_
    refine Zm.l (fun _ _ k_ => z_iload_n dX8_must_8 rfl rfl k_) ?_
    refine Zm.pick [0] rfl ?_
    exact zm_callV (as := [vi l1]) (st := []) dX8_must_9 vsX8_398_1 (Nat.le_refl _) (Nat.le_of_ble_eq_true rfl) (Nat.le_of_ble_eq_true rfl) rfl k
theorem sX8_must_12 {E : zE} {d : Nat} {Q : zO → zM → Prop} (M : zM) (s0 : Int32) (k : if s0 = 0 then (Zm E YX8_fail d M (zargs 0 [vr (some (97, 1, 0)), vi (2 : Int32)]) 0 [] (zma E YX8_must (d + 1) [] 17 3 [] Q)) else (Q (.inl (some (vi (1 : Int32)))) (si M 97 20 ((gi M 97 20) + (1 : Int32))))) : Zm E YX8_must (d + 1) M [(0, vr (some (97, 1, 0)))] 12 [vi s0] Q := by
  refine Zm.brn (fun _ _ k1_ k2_ => z_if_ne (tgt := 21) dX8_must_12 rfl k1_ k2_) (fun h_ => ?_) (fun h_ => ?_)
  · have k := zif h_ k
    refine Zm.l (fun _ _ k_ => z_aload_n dX8_must_21 rfl rfl k_) ?_
    refine Zm.l (fun _ _ k_ => z_dup dX8_must_22 rfl k_) ?_
    refine zm_geti dX8_must_23 fsX8_392_1 (by decide) (by decide) ?_
    refine Zm.l (fun _ _ k_ => z_iconst (v := 1) dX8_must_26 rfl k_) ?_
    refine Zm.l (fun _ _ k_ => z_iadd dX8_must_27 k_) ?_
    refine zm_puti (by decide) (by decide) dX8_must_28 (zfwN.w fwX8_392_1) rfl ⟨rfl, rfl⟩ ?_
    refine Zm.l (fun _ _ k_ => z_iconst (v := 1) dX8_must_31 rfl k_) ?_
    exact zm_iret dX8_must_32 rfl (by decide) k
  · have k := zit h_ k
    refine Zm.l (fun _ _ k_ => z_aload_n dX8_must_15 rfl rfl k_) ?_
    refine Zm.l (fun _ _ k_ => z_iconst (v := 2) dX8_must_16 rfl k_) ?_
    refine Zm.pick [] rfl ?_
    exact zm_callV (as := [vi (2 : Int32)]) (st := []) dX8_must_17 vsX8_401_1 (Nat.le_refl _) (Nat.le_of_ble_eq_true rfl) (Nat.le_of_ble_eq_true rfl) rfl k
theorem sX8_must_20 {E : zE} {d : Nat} {Q : zO → zM → Prop} (M : zM) (s0 : Int32) (k : (narrow .boolean (.int s0) = .int s0) ∧ Q (.inl (some (vi s0))) M) : Zm E YX8_must (d + 1) M [] 20 [vi s0] Q := by
  exact zm_iret dX8_must_20 rfl k.1 k.2
/-! ScriptTypesModel.sameTokens(II)Z -/
theorem bX8_sameTokens_0 : zdec cX8_sameTokens 0 [(0, .aload_n 0, 1), (1, .getfield 36, 3), (4, .iload_n 1, 1), (5, .iaload, 1), (6, .aload_n 0, 1), (7, .getfield 33, 3), (10, .iload_n 1, 1), (11, .iaload, 1), (12, .isub, 1), (13, .aload_n 0, 1), (14, .getfield 36, 3), (17, .iload_n 2, 1), (18, .iaload, 1), (19, .aload_n 0, 1), (20, .getfield 33, 3), (23, .iload_n 2, 1)] = true := by decide +kernel
theorem dX8_sameTokens_0 : decode cX8_sameTokens 0 = .ok (.aload_n 0, 1) := zdec_at bX8_sameTokens_0 0 rfl
theorem dX8_sameTokens_1 : decode cX8_sameTokens 1 = .ok (.getfield 36, 3) := zdec_at bX8_sameTokens_0 1 rfl
theorem dX8_sameTokens_4 : decode cX8_sameTokens 4 = .ok (.iload_n 1, 1) := zdec_at bX8_sameTokens_0 2 rfl
theorem dX8_sameTokens_5 : decode cX8_sameTokens 5 = .ok (.iaload, 1) := zdec_at bX8_sameTokens_0 3 rfl
theorem dX8_sameTokens_6 : decode cX8_sameTokens 6 = .ok (.aload_n 0, 1) := zdec_at bX8_sameTokens_0 4 rfl
theorem dX8_sameTokens_7 : decode cX8_sameTokens 7 = .ok (.getfield 33, 3) := zdec_at bX8_sameTokens_0 5 rfl
theorem dX8_sameTokens_10 : decode cX8_sameTokens 10 = .ok (.iload_n 1, 1) := zdec_at bX8_sameTokens_0 6 rfl
theorem dX8_sameTokens_11 : decode cX8_sameTokens 11 = .ok (.iaload, 1) := zdec_at bX8_sameTokens_0 7 rfl
theorem dX8_sameTokens_12 : decode cX8_sameTokens 12 = .ok (.isub, 1) := zdec_at bX8_sameTokens_0 8 rfl
theorem dX8_sameTokens_13 : decode cX8_sameTokens 13 = .ok (.aload_n 0, 1) := zdec_at bX8_sameTokens_0 9 rfl
theorem dX8_sameTokens_14 : decode cX8_sameTokens 14 = .ok (.getfield 36, 3) := zdec_at bX8_sameTokens_0 10 rfl
theorem dX8_sameTokens_17 : decode cX8_sameTokens 17 = .ok (.iload_n 2, 1) := zdec_at bX8_sameTokens_0 11 rfl
theorem dX8_sameTokens_18 : decode cX8_sameTokens 18 = .ok (.iaload, 1) := zdec_at bX8_sameTokens_0 12 rfl
theorem dX8_sameTokens_19 : decode cX8_sameTokens 19 = .ok (.aload_n 0, 1) := zdec_at bX8_sameTokens_0 13 rfl
theorem dX8_sameTokens_20 : decode cX8_sameTokens 20 = .ok (.getfield 33, 3) := zdec_at bX8_sameTokens_0 14 rfl
theorem dX8_sameTokens_23 : decode cX8_sameTokens 23 = .ok (.iload_n 2, 1) := zdec_at bX8_sameTokens_0 15 rfl
theorem bX8_sameTokens_24 : zdec cX8_sameTokens 24 [(24, .iaload, 1), (25, .isub, 1), (26, .if_icmp .ne 7, 3), (29, .iconst 1, 1), (30, .goto 4, 3), (33, .iconst 0, 1), (34, .istore_n 3, 1), (35, .iconst 0, 1), (36, .istore 4, 2), (38, .iload 4, 2), (40, .aload_n 0, 1), (41, .getfield 36, 3), (44, .iload_n 1, 1), (45, .iaload, 1), (46, .aload_n 0, 1), (47, .getfield 33, 3)] = true := by decide +kernel
theorem dX8_sameTokens_24 : decode cX8_sameTokens 24 = .ok (.iaload, 1) := zdec_at bX8_sameTokens_24 0 rfl
theorem dX8_sameTokens_25 : decode cX8_sameTokens 25 = .ok (.isub, 1) := zdec_at bX8_sameTokens_24 1 rfl
theorem dX8_sameTokens_26 : decode cX8_sameTokens 26 = .ok (.if_icmp .ne 7, 3) := zdec_at bX8_sameTokens_24 2 rfl
theorem dX8_sameTokens_29 : decode cX8_sameTokens 29 = .ok (.iconst 1, 1) := zdec_at bX8_sameTokens_24 3 rfl
theorem dX8_sameTokens_30 : decode cX8_sameTokens 30 = .ok (.goto 4, 3) := zdec_at bX8_sameTokens_24 4 rfl
theorem dX8_sameTokens_33 : decode cX8_sameTokens 33 = .ok (.iconst 0, 1) := zdec_at bX8_sameTokens_24 5 rfl
theorem dX8_sameTokens_34 : decode cX8_sameTokens 34 = .ok (.istore_n 3, 1) := zdec_at bX8_sameTokens_24 6 rfl
theorem dX8_sameTokens_35 : decode cX8_sameTokens 35 = .ok (.iconst 0, 1) := zdec_at bX8_sameTokens_24 7 rfl
theorem dX8_sameTokens_36 : decode cX8_sameTokens 36 = .ok (.istore 4, 2) := zdec_at bX8_sameTokens_24 8 rfl
theorem dX8_sameTokens_38 : decode cX8_sameTokens 38 = .ok (.iload 4, 2) := zdec_at bX8_sameTokens_24 9 rfl
theorem dX8_sameTokens_40 : decode cX8_sameTokens 40 = .ok (.aload_n 0, 1) := zdec_at bX8_sameTokens_24 10 rfl
theorem dX8_sameTokens_41 : decode cX8_sameTokens 41 = .ok (.getfield 36, 3) := zdec_at bX8_sameTokens_24 11 rfl
theorem dX8_sameTokens_44 : decode cX8_sameTokens 44 = .ok (.iload_n 1, 1) := zdec_at bX8_sameTokens_24 12 rfl
theorem dX8_sameTokens_45 : decode cX8_sameTokens 45 = .ok (.iaload, 1) := zdec_at bX8_sameTokens_24 13 rfl
theorem dX8_sameTokens_46 : decode cX8_sameTokens 46 = .ok (.aload_n 0, 1) := zdec_at bX8_sameTokens_24 14 rfl
theorem dX8_sameTokens_47 : decode cX8_sameTokens 47 = .ok (.getfield 33, 3) := zdec_at bX8_sameTokens_24 15 rfl
theorem bX8_sameTokens_50 : zdec cX8_sameTokens 50 [(50, .iload_n 1, 1), (51, .iaload, 1), (52, .isub, 1), (53, .if_icmp .ge 48, 3), (56, .iload_n 3, 1), (57, .ifCond .eq 44, 3), (60, .aload_n 0, 1), (61, .aload_n 0, 1), (62, .getfield 33, 3), (65, .iload_n 1, 1), (66, .iaload, 1), (67, .iload 4, 2), (69, .iadd, 1), (70, .invokevirtual 334, 3), (73, .aload_n 0, 1), (74, .aload_n 0, 1)] = true := by decide +kernel
theorem dX8_sameTokens_50 : decode cX8_sameTokens 50 = .ok (.iload_n 1, 1) := zdec_at bX8_sameTokens_50 0 rfl
theorem dX8_sameTokens_51 : decode cX8_sameTokens 51 = .ok (.iaload, 1) := zdec_at bX8_sameTokens_50 1 rfl
theorem dX8_sameTokens_52 : decode cX8_sameTokens 52 = .ok (.isub, 1) := zdec_at bX8_sameTokens_50 2 rfl
theorem dX8_sameTokens_53 : decode cX8_sameTokens 53 = .ok (.if_icmp .ge 48, 3) := zdec_at bX8_sameTokens_50 3 rfl
theorem dX8_sameTokens_56 : decode cX8_sameTokens 56 = .ok (.iload_n 3, 1) := zdec_at bX8_sameTokens_50 4 rfl
theorem dX8_sameTokens_57 : decode cX8_sameTokens 57 = .ok (.ifCond .eq 44, 3) := zdec_at bX8_sameTokens_50 5 rfl
theorem dX8_sameTokens_60 : decode cX8_sameTokens 60 = .ok (.aload_n 0, 1) := zdec_at bX8_sameTokens_50 6 rfl
theorem dX8_sameTokens_61 : decode cX8_sameTokens 61 = .ok (.aload_n 0, 1) := zdec_at bX8_sameTokens_50 7 rfl
theorem dX8_sameTokens_62 : decode cX8_sameTokens 62 = .ok (.getfield 33, 3) := zdec_at bX8_sameTokens_50 8 rfl
theorem dX8_sameTokens_65 : decode cX8_sameTokens 65 = .ok (.iload_n 1, 1) := zdec_at bX8_sameTokens_50 9 rfl
theorem dX8_sameTokens_66 : decode cX8_sameTokens 66 = .ok (.iaload, 1) := zdec_at bX8_sameTokens_50 10 rfl
theorem dX8_sameTokens_67 : decode cX8_sameTokens 67 = .ok (.iload 4, 2) := zdec_at bX8_sameTokens_50 11 rfl
theorem dX8_sameTokens_69 : decode cX8_sameTokens 69 = .ok (.iadd, 1) := zdec_at bX8_sameTokens_50 12 rfl
theorem dX8_sameTokens_70 : decode cX8_sameTokens 70 = .ok (.invokevirtual 334, 3) := zdec_at bX8_sameTokens_50 13 rfl
theorem dX8_sameTokens_73 : decode cX8_sameTokens 73 = .ok (.aload_n 0, 1) := zdec_at bX8_sameTokens_50 14 rfl
theorem dX8_sameTokens_74 : decode cX8_sameTokens 74 = .ok (.aload_n 0, 1) := zdec_at bX8_sameTokens_50 15 rfl
theorem bX8_sameTokens_75 : zdec cX8_sameTokens 75 [(75, .getfield 33, 3), (78, .iload_n 2, 1), (79, .iaload, 1), (80, .iload 4, 2), (82, .iadd, 1), (83, .invokevirtual 334, 3), (86, .if_icmp .ne 7, 3), (89, .iconst 1, 1), (90, .goto 4, 3), (93, .iconst 0, 1), (94, .istore_n 3, 1), (95, .iinc 4 1, 3), (98, .goto (-60), 3), (101, .iload_n 3, 1), (102, .ireturn, 1)] = true := by decide +kernel
theorem dX8_sameTokens_75 : decode cX8_sameTokens 75 = .ok (.getfield 33, 3) := zdec_at bX8_sameTokens_75 0 rfl
theorem dX8_sameTokens_78 : decode cX8_sameTokens 78 = .ok (.iload_n 2, 1) := zdec_at bX8_sameTokens_75 1 rfl
theorem dX8_sameTokens_79 : decode cX8_sameTokens 79 = .ok (.iaload, 1) := zdec_at bX8_sameTokens_75 2 rfl
theorem dX8_sameTokens_80 : decode cX8_sameTokens 80 = .ok (.iload 4, 2) := zdec_at bX8_sameTokens_75 3 rfl
theorem dX8_sameTokens_82 : decode cX8_sameTokens 82 = .ok (.iadd, 1) := zdec_at bX8_sameTokens_75 4 rfl
theorem dX8_sameTokens_83 : decode cX8_sameTokens 83 = .ok (.invokevirtual 334, 3) := zdec_at bX8_sameTokens_75 5 rfl
theorem dX8_sameTokens_86 : decode cX8_sameTokens 86 = .ok (.if_icmp .ne 7, 3) := zdec_at bX8_sameTokens_75 6 rfl
theorem dX8_sameTokens_89 : decode cX8_sameTokens 89 = .ok (.iconst 1, 1) := zdec_at bX8_sameTokens_75 7 rfl
theorem dX8_sameTokens_90 : decode cX8_sameTokens 90 = .ok (.goto 4, 3) := zdec_at bX8_sameTokens_75 8 rfl
theorem dX8_sameTokens_93 : decode cX8_sameTokens 93 = .ok (.iconst 0, 1) := zdec_at bX8_sameTokens_75 9 rfl
theorem dX8_sameTokens_94 : decode cX8_sameTokens 94 = .ok (.istore_n 3, 1) := zdec_at bX8_sameTokens_75 10 rfl
theorem dX8_sameTokens_95 : decode cX8_sameTokens 95 = .ok (.iinc 4 1, 3) := zdec_at bX8_sameTokens_75 11 rfl
theorem dX8_sameTokens_98 : decode cX8_sameTokens 98 = .ok (.goto (-60), 3) := zdec_at bX8_sameTokens_75 12 rfl
theorem dX8_sameTokens_101 : decode cX8_sameTokens 101 = .ok (.iload_n 3, 1) := zdec_at bX8_sameTokens_75 13 rfl
theorem dX8_sameTokens_102 : decode cX8_sameTokens 102 = .ok (.ireturn, 1) := zdec_at bX8_sameTokens_75 14 rfl
theorem sX8_sameTokens_0 {E : zE} {d : Nat} {Q : zO → zM → Prop} (M : zM) (l1 : Int32) (l2 : Int32) (k : vp_in l1 4002 ∧ (vp_in l1 4002 ∧ (vp_in l2 4002 ∧ (vp_in l2 4002 ∧ (if ((gi M 106 (l1).toNatClampNeg) - (gi M 105 (l1).toNatClampNeg)) = ((gi M 106 (l2).toNatClampNeg) - (gi M 105 (l2).toNatClampNeg)) then (Zm E YX8_sameTokens (d + 1) M [(0, vr (some (97, 1, 0))), (1, vi l1), (2, vi l2), (3, vi (1 : Int32)), (4, vi (0 : Int32))] 38 [] Q) else (Zm E YX8_sameTokens (d + 1) M [(0, vr (some (97, 1, 0))), (1, vi l1), (2, vi l2), (3, vi (0 : Int32)), (4, vi (0 : Int32))] 38 [] Q)))))) : Zm E YX8_sameTokens (d + 1) M [(0, vr (some (97, 1, 0))), (1, vi l1), (2, vi l2)] 0 [] Q := by
  refine Zm.l (fun _ _ k_ => z_aload_n dX8_sameTokens_0 rfl rfl k_) ?_
  refine zm_getr 8 dX8_sameTokens_1 fsX8_36_1 rfl ?_
  refine Zm.l (fun _ _ k_ => z_iload_n dX8_sameTokens_4 rfl rfl k_) ?_
  obtain ⟨b_, k⟩ := k
  refine zm_iald dX8_sameTokens_5 b_ (by decide) (by decide) ?_
  refine Zm.l (fun _ _ k_ => z_aload_n dX8_sameTokens_6 rfl rfl k_) ?_
  refine zm_getr 7 dX8_sameTokens_7 fsX8_33_1 rfl ?_
  refine Zm.l (fun _ _ k_ => z_iload_n dX8_sameTokens_10 rfl rfl k_) ?_
  obtain ⟨b_, k⟩ := k
  refine zm_iald dX8_sameTokens_11 b_ (by decide) (by decide) ?_
  refine Zm.l (fun _ _ k_ => z_isub dX8_sameTokens_12 k_) ?_
  refine Zm.l (fun _ _ k_ => z_aload_n dX8_sameTokens_13 rfl rfl k_) ?_
  refine zm_getr 8 dX8_sameTokens_14 fsX8_36_1 rfl ?_
  refine Zm.l (fun _ _ k_ => z_iload_n dX8_sameTokens_17 rfl rfl k_) ?_
  obtain ⟨b_, k⟩ := k
  refine zm_iald dX8_sameTokens_18 b_ (by decide) (by decide) ?_
  refine Zm.l (fun _ _ k_ => z_aload_n dX8_sameTokens_19 rfl rfl k_) ?_
  refine zm_getr 7 dX8_sameTokens_20 fsX8_33_1 rfl ?_
  refine Zm.l (fun _ _ k_ => z_iload_n dX8_sameTokens_23 rfl rfl k_) ?_
  obtain ⟨b_, k⟩ := k
  refine zm_iald dX8_sameTokens_24 b_ (by decide) (by decide) ?_
  refine Zm.l (fun _ _ k_ => z_isub dX8_sameTokens_25 k_) ?_
  refine Zm.brn (fun _ _ k1_ k2_ => z_icmp_ne (tgt := 33) dX8_sameTokens_26 rfl k1_ k2_) (fun h_ => ?_) (fun h_ => ?_)
  · have k := zif h_ k
    refine Zm.l (fun _ _ k_ => z_iconst (v := 0) dX8_sameTokens_33 rfl k_) ?_
    refine Zm.l (fun _ _ k_ => z_ist_n dX8_sameTokens_34 rfl (by decide) (lv' := [(0, vr (some (97, 1, 0))), (1, vi l1), (2, vi l2), (3, vi (0 : Int32))]) rfl k_) ?_
    refine Zm.l (fun _ _ k_ => z_iconst (v := 0) dX8_sameTokens_35 rfl k_) ?_
    refine Zm.l (fun _ _ k_ => z_ist dX8_sameTokens_36 (by decide) (lv' := [(0, vr (some (97, 1, 0))), (1, vi l1), (2, vi l2), (3, vi (0 : Int32)), (4, vi (0 : Int32))]) rfl k_) ?_
    exact k
  · have k := zit h_ k
    refine Zm.l (fun _ _ k_ => z_iconst (v := 1) dX8_sameTokens_29 rfl k_) ?_
    refine Zm.l (fun _ _ k_ => z_goto (tgt := 34) dX8_sameTokens_30 rfl k_) ?_
    refine Zm.l (fun _ _ k_ => z_ist_n dX8_sameTokens_34 rfl (by decide) (lv' := [(0, vr (some (97, 1, 0))), (1, vi l1), (2, vi l2), (3, vi (1 : Int32))]) rfl k_) ?_
    refine Zm.l (fun _ _ k_ => z_iconst (v := 0) dX8_sameTokens_35 rfl k_) ?_
    refine Zm.l (fun _ _ k_ => z_ist dX8_sameTokens_36 (by decide) (lv' := [(0, vr (some (97, 1, 0))), (1, vi l1), (2, vi l2), (3, vi (1 : Int32)), (4, vi (0 : Int32))]) rfl k_) ?_
    exact k
theorem sX8_sameTokens_38 {E : zE} {d : Nat} {Q : zO → zM → Prop} (M : zM) (l1 : Int32) (l2 : Int32) (l3 : Int32) (l4 : Int32) (k : vp_in l1 4002 ∧ (vp_in l1 4002 ∧ (if ((gi M 106 (l1).toNatClampNeg) - (gi M 105 (l1).toNatClampNeg)) ≤ l4 then ((narrow .boolean (.int l3) = .int l3) ∧ Q (.inl (some (vi l3))) M) else (if l3 = 0 then ((narrow .boolean (.int l3) = .int l3) ∧ Q (.inl (some (vi l3))) M) else (vp_in l1 4002 ∧ (Zm E YX8_look d M (zargs 0 [vr (some (97, 1, 0)), vi ((gi M 105 (l1).toNatClampNeg) + l4)]) 0 [] (zma E YX8_sameTokens (d + 1) [(0, vr (some (97, 1, 0))), (1, vi l1), (2, vi l2), (4, vi l4)] 70 3 [] Q))))))) : Zm E YX8_sameTokens (d + 1) M [(0, vr (some (97, 1, 0))), (1, vi l1), (2, vi l2), (3, vi l3), (4, vi l4)] 38 [] Q := by
  refine Zm.l (fun _ _ k_ => z_iload dX8_sameTokens_38 rfl k_) ?_
  refine Zm.l (fun _ _ k_ => z_aload_n dX8_sameTokens_40 rfl rfl k_) ?_
  refine zm_getr 8 dX8_sameTokens_41 fsX8_36_1 rfl ?_
  refine Zm.l (fun _ _ k_ => z_iload_n dX8_sameTokens_44 rfl rfl k_) ?_
  obtain ⟨b_, k⟩ := k
  refine zm_iald dX8_sameTokens_45 b_ (by decide) (by decide) ?_
  refine Zm.l (fun _ _ k_ => z_aload_n dX8_sameTokens_46 rfl rfl k_) ?_
  refine zm_getr 7 dX8_sameTokens_47 fsX8_33_1 rfl ?_
  refine Zm.l (fun _ _ k_ => z_iload_n dX8_sameTokens_50 rfl rfl k_) ?_
  obtain ⟨b_, k⟩ := k
  refine zm_iald dX8_sameTokens_51 b_ (by decide) (by decide) ?_
  refine Zm.l (fun _ _ k_ => z_isub dX8_sameTokens_52 k_) ?_
  refine Zm.br (fun _ _ k1_ k2_ => z_icmp_ge (tgt := 101) dX8_sameTokens_53 rfl k1_ k2_) (fun h_ => ?_) (fun h_ => ?_)
  · have k := zit h_ k
    refine Zm.l (fun _ _ k_ => z_iload_n dX8_sameTokens_101 rfl rfl k_) ?_
    exact zm_iret dX8_sameTokens_102 rfl k.1 k.2
  · have k := zif h_ k
    refine Zm.l (fun _ _ k_ => z_iload_n dX8_sameTokens_56 rfl rfl k_) ?_
    refine Zm.br (fun _ _ k1_ k2_ => z_if_eq (tgt := 101) dX8_sameTokens_57 rfl k1_ k2_) (fun h_ => ?_) (fun h_ => ?_)
    · have k := zit h_ k
      refine Zm.l (fun _ _ k_ => z_iload_n dX8_sameTokens_101 rfl rfl k_) ?_
      exact zm_iret dX8_sameTokens_102 rfl k.1 k.2
    · have k := zif h_ k
      refine Zm.l (fun _ _ k_ => z_aload_n dX8_sameTokens_60 rfl rfl k_) ?_
      refine Zm.l (fun _ _ k_ => z_aload_n dX8_sameTokens_61 rfl rfl k_) ?_
      refine zm_getr 7 dX8_sameTokens_62 fsX8_33_1 rfl ?_
      refine Zm.l (fun _ _ k_ => z_iload_n dX8_sameTokens_65 rfl rfl k_) ?_
      obtain ⟨b_, k⟩ := k
      refine zm_iald dX8_sameTokens_66 b_ (by decide) (by decide) ?_
      refine Zm.l (fun _ _ k_ => z_iload dX8_sameTokens_67 rfl k_) ?_
      refine Zm.l (fun _ _ k_ => z_iadd dX8_sameTokens_69 k_) ?_
      refine Zm.pick [0, 1, 2, 4] rfl ?_
      exact zm_callV (as := [vi ((gi M 105 (l1).toNatClampNeg) + l4)]) (st := []) dX8_sameTokens_70 vsX8_334_1 (Nat.le_refl _) (Nat.le_of_ble_eq_true rfl) (Nat.le_of_ble_eq_true rfl) rfl k
theorem sX8_sameTokens_73 {E : zE} {d : Nat} {Q : zO → zM → Prop} (M : zM) (l1 : Int32) (l2 : Int32) (l4 : Int32) (s0 : Int32) (k : vp_in l2 4002 ∧ (Zm E YX8_look d M (zargs 0 [vr (some (97, 1, 0)), vi ((gi M 105 (l2).toNatClampNeg) + l4)]) 0 [] (zma E YX8_sameTokens (d + 1) [(0, vr (some (97, 1, 0))), (1, vi l1), (2, vi l2), (4, vi l4)] 83 3 [vi s0] Q))) : Zm E YX8_sameTokens (d + 1) M [(0, vr (some (97, 1, 0))), (1, vi l1), (2, vi l2), (4, vi l4)] 73 [vi s0] Q := by
  refine Zm.l (fun _ _ k_ => z_aload_n dX8_sameTokens_73 rfl rfl k_) ?_
  refine Zm.l (fun _ _ k_ => z_aload_n dX8_sameTokens_74 rfl rfl k_) ?_
  refine zm_getr 7 dX8_sameTokens_75 fsX8_33_1 rfl ?_
  refine Zm.l (fun _ _ k_ => z_iload_n dX8_sameTokens_78 rfl rfl k_) ?_
  obtain ⟨b_, k⟩ := k
  refine zm_iald dX8_sameTokens_79 b_ (by decide) (by decide) ?_
  refine Zm.l (fun _ _ k_ => z_iload dX8_sameTokens_80 rfl k_) ?_
  refine Zm.l (fun _ _ k_ => z_iadd dX8_sameTokens_82 k_) ?_
  exact zm_callV (as := [vi ((gi M 105 (l2).toNatClampNeg) + l4)]) (st := [vi s0]) dX8_sameTokens_83 vsX8_334_1 (Nat.le_refl _) (Nat.le_of_ble_eq_true rfl) (Nat.le_of_ble_eq_true rfl) rfl k
theorem sX8_sameTokens_86 {E : zE} {d : Nat} {Q : zO → zM → Prop} (M : zM) (l1 : Int32) (l2 : Int32) (l4 : Int32) (s0 : Int32) (s1 : Int32) (k : if s1 = s0 then (Zm E YX8_sameTokens (d + 1) M [(0, vr (some (97, 1, 0))), (1, vi l1), (2, vi l2), (3, vi (1 : Int32)), (4, vi (l4 + (1 : Int32)))] 38 [] Q) else (Zm E YX8_sameTokens (d + 1) M [(0, vr (some (97, 1, 0))), (1, vi l1), (2, vi l2), (3, vi (0 : Int32)), (4, vi (l4 + (1 : Int32)))] 38 [] Q)) : Zm E YX8_sameTokens (d + 1) M [(0, vr (some (97, 1, 0))), (1, vi l1), (2, vi l2), (4, vi l4)] 86 [vi s0, vi s1] Q := by
  refine Zm.brn (fun _ _ k1_ k2_ => z_icmp_ne (tgt := 93) dX8_sameTokens_86 rfl k1_ k2_) (fun h_ => ?_) (fun h_ => ?_)
  · have k := zif h_ k
    refine Zm.l (fun _ _ k_ => z_iconst (v := 0) dX8_sameTokens_93 rfl k_) ?_
    refine Zm.l (fun _ _ k_ => z_ist_n dX8_sameTokens_94 rfl (by decide) (lv' := [(0, vr (some (97, 1, 0))), (1, vi l1), (2, vi l2), (3, vi (0 : Int32)), (4, vi l4)]) rfl k_) ?_
    refine Zm.l (fun _ _ k_ => z_inc (v := (l4 + (1 : Int32))) dX8_sameTokens_95 rfl rfl (by decide) (lv' := [(0, vr (some (97, 1, 0))), (1, vi l1), (2, vi l2), (3, vi (0 : Int32)), (4, vi (l4 + (1 : Int32)))]) rfl k_) ?_
    refine Zm.l (fun _ _ k_ => z_goto (tgt := 38) dX8_sameTokens_98 rfl k_) ?_
    exact k
  · have k := zit h_ k
    refine Zm.l (fun _ _ k_ => z_iconst (v := 1) dX8_sameTokens_89 rfl k_) ?_
    refine Zm.l (fun _ _ k_ => z_goto (tgt := 94) dX8_sameTokens_90 rfl k_) ?_
    refine Zm.l (fun _ _ k_ => z_ist_n dX8_sameTokens_94 rfl (by decide) (lv' := [(0, vr (some (97, 1, 0))), (1, vi l1), (2, vi l2), (3, vi (1 : Int32)), (4, vi l4)]) rfl k_) ?_
    refine Zm.l (fun _ _ k_ => z_inc (v := (l4 + (1 : Int32))) dX8_sameTokens_95 rfl rfl (by decide) (lv' := [(0, vr (some (97, 1, 0))), (1, vi l1), (2, vi l2), (3, vi (1 : Int32)), (4, vi (l4 + (1 : Int32)))]) rfl k_) ?_
    refine Zm.l (fun _ _ k_ => z_goto (tgt := 38) dX8_sameTokens_98 rfl k_) ?_
    exact k
/-! ScriptTypesModel.close()V -/
theorem bX8_close_0 : zdec cX8_close 0 [(0, .aload_n 0, 1), (1, .dup, 1), (2, .getfield 407, 3), (5, .iconst 1, 1), (6, .isub, 1), (7, .putfield 407, 3), (10, .return_, 1)] = true := by decide +kernel
theorem dX8_close_0 : decode cX8_close 0 = .ok (.aload_n 0, 1) := zdec_at bX8_close_0 0 rfl
theorem dX8_close_1 : decode cX8_close 1 = .ok (.dup, 1) := zdec_at bX8_close_0 1 rfl
theorem dX8_close_2 : decode cX8_close 2 = .ok (.getfield 407, 3) := zdec_at bX8_close_0 2 rfl
theorem dX8_close_5 : decode cX8_close 5 = .ok (.iconst 1, 1) := zdec_at bX8_close_0 3 rfl
theorem dX8_close_6 : decode cX8_close 6 = .ok (.isub, 1) := zdec_at bX8_close_0 4 rfl
theorem dX8_close_7 : decode cX8_close 7 = .ok (.putfield 407, 3) := zdec_at bX8_close_0 5 rfl
theorem dX8_close_10 : decode cX8_close 10 = .ok (.return_, 1) := zdec_at bX8_close_0 6 rfl
theorem sX8_close_0 {E : zE} {d : Nat} {Q : zO → zM → Prop} (M : zM)  (k : Q (.inl none) (si M 97 23 ((gi M 97 23) - (1 : Int32)))) : Zm E YX8_close d M [(0, vr (some (97, 1, 0)))] 0 [] Q := by
  refine Zm.l (fun _ _ k_ => z_aload_n dX8_close_0 rfl rfl k_) ?_
  refine Zm.l (fun _ _ k_ => z_dup dX8_close_1 rfl k_) ?_
  refine zm_geti dX8_close_2 fsX8_407_1 (by decide) (by decide) ?_
  refine Zm.l (fun _ _ k_ => z_iconst (v := 1) dX8_close_5 rfl k_) ?_
  refine Zm.l (fun _ _ k_ => z_isub dX8_close_6 k_) ?_
  refine zm_puti (by decide) (by decide) dX8_close_7 (zfwN.w fwX8_407_1) rfl ⟨rfl, rfl⟩ ?_
  exact zm_vret dX8_close_10 rfl k
/-! ScriptTypesModel.node(IIII)I -/
theorem bX8_node_0 : zdec cX8_node 0 [(0, .aload_n 0, 1), (1, .getfield 421, 3), (4, .istore 5, 2), (6, .aload_n 0, 1), (7, .dup, 1), (8, .getfield 421, 3), (11, .iconst 1, 1), (12, .iadd, 1), (13, .putfield 421, 3), (16, .aload_n 0, 1), (17, .getfield 42, 3), (20, .iload 5, 2), (22, .iload_n 1, 1), (23, .iastore, 1), (24, .aload_n 0, 1), (25, .getfield 46, 3)] = true := by decide +kernel
theorem dX8_node_0 : decode cX8_node 0 = .ok (.aload_n 0, 1) := zdec_at bX8_node_0 0 rfl
theorem dX8_node_1 : decode cX8_node 1 = .ok (.getfield 421, 3) := zdec_at bX8_node_0 1 rfl
theorem dX8_node_4 : decode cX8_node 4 = .ok (.istore 5, 2) := zdec_at bX8_node_0 2 rfl
theorem dX8_node_6 : decode cX8_node 6 = .ok (.aload_n 0, 1) := zdec_at bX8_node_0 3 rfl
theorem dX8_node_7 : decode cX8_node 7 = .ok (.dup, 1) := zdec_at bX8_node_0 4 rfl
theorem dX8_node_8 : decode cX8_node 8 = .ok (.getfield 421, 3) := zdec_at bX8_node_0 5 rfl
theorem dX8_node_11 : decode cX8_node 11 = .ok (.iconst 1, 1) := zdec_at bX8_node_0 6 rfl
theorem dX8_node_12 : decode cX8_node 12 = .ok (.iadd, 1) := zdec_at bX8_node_0 7 rfl
theorem dX8_node_13 : decode cX8_node 13 = .ok (.putfield 421, 3) := zdec_at bX8_node_0 8 rfl
theorem dX8_node_16 : decode cX8_node 16 = .ok (.aload_n 0, 1) := zdec_at bX8_node_0 9 rfl
theorem dX8_node_17 : decode cX8_node 17 = .ok (.getfield 42, 3) := zdec_at bX8_node_0 10 rfl
theorem dX8_node_20 : decode cX8_node 20 = .ok (.iload 5, 2) := zdec_at bX8_node_0 11 rfl
theorem dX8_node_22 : decode cX8_node 22 = .ok (.iload_n 1, 1) := zdec_at bX8_node_0 12 rfl
theorem dX8_node_23 : decode cX8_node 23 = .ok (.iastore, 1) := zdec_at bX8_node_0 13 rfl
theorem dX8_node_24 : decode cX8_node 24 = .ok (.aload_n 0, 1) := zdec_at bX8_node_0 14 rfl
theorem dX8_node_25 : decode cX8_node 25 = .ok (.getfield 46, 3) := zdec_at bX8_node_0 15 rfl
theorem bX8_node_28 : zdec cX8_node 28 [(28, .iconst 5, 1), (29, .iload 5, 2), (31, .imul, 1), (32, .iload_n 2, 1), (33, .iastore, 1), (34, .aload_n 0, 1), (35, .getfield 46, 3), (38, .iconst 5, 1), (39, .iload 5, 2), (41, .imul, 1), (42, .iconst 1, 1), (43, .iadd, 1), (44, .iload_n 3, 1), (45, .iastore, 1), (46, .aload_n 0, 1), (47, .getfield 46, 3)] = true := by decide +kernel
theorem dX8_node_28 : decode cX8_node 28 = .ok (.iconst 5, 1) := zdec_at bX8_node_28 0 rfl
theorem dX8_node_29 : decode cX8_node 29 = .ok (.iload 5, 2) := zdec_at bX8_node_28 1 rfl
theorem dX8_node_31 : decode cX8_node 31 = .ok (.imul, 1) := zdec_at bX8_node_28 2 rfl
theorem dX8_node_32 : decode cX8_node 32 = .ok (.iload_n 2, 1) := zdec_at bX8_node_28 3 rfl
theorem dX8_node_33 : decode cX8_node 33 = .ok (.iastore, 1) := zdec_at bX8_node_28 4 rfl
theorem dX8_node_34 : decode cX8_node 34 = .ok (.aload_n 0, 1) := zdec_at bX8_node_28 5 rfl
theorem dX8_node_35 : decode cX8_node 35 = .ok (.getfield 46, 3) := zdec_at bX8_node_28 6 rfl
theorem dX8_node_38 : decode cX8_node 38 = .ok (.iconst 5, 1) := zdec_at bX8_node_28 7 rfl
theorem dX8_node_39 : decode cX8_node 39 = .ok (.iload 5, 2) := zdec_at bX8_node_28 8 rfl
theorem dX8_node_41 : decode cX8_node 41 = .ok (.imul, 1) := zdec_at bX8_node_28 9 rfl
theorem dX8_node_42 : decode cX8_node 42 = .ok (.iconst 1, 1) := zdec_at bX8_node_28 10 rfl
theorem dX8_node_43 : decode cX8_node 43 = .ok (.iadd, 1) := zdec_at bX8_node_28 11 rfl
theorem dX8_node_44 : decode cX8_node 44 = .ok (.iload_n 3, 1) := zdec_at bX8_node_28 12 rfl
theorem dX8_node_45 : decode cX8_node 45 = .ok (.iastore, 1) := zdec_at bX8_node_28 13 rfl
theorem dX8_node_46 : decode cX8_node 46 = .ok (.aload_n 0, 1) := zdec_at bX8_node_28 14 rfl
theorem dX8_node_47 : decode cX8_node 47 = .ok (.getfield 46, 3) := zdec_at bX8_node_28 15 rfl
theorem bX8_node_50 : zdec cX8_node 50 [(50, .iconst 5, 1), (51, .iload 5, 2), (53, .imul, 1), (54, .iconst 2, 1), (55, .iadd, 1), (56, .iload 4, 2), (58, .iastore, 1), (59, .aload_n 0, 1), (60, .getfield 46, 3), (63, .iconst 5, 1), (64, .iload 5, 2), (66, .imul, 1), (67, .iconst 3, 1), (68, .iadd, 1), (69, .iconst (-1), 1), (70, .iastore, 1)] = true := by decide +kernel
theorem dX8_node_50 : decode cX8_node 50 = .ok (.iconst 5, 1) := zdec_at bX8_node_50 0 rfl
theorem dX8_node_51 : decode cX8_node 51 = .ok (.iload 5, 2) := zdec_at bX8_node_50 1 rfl
theorem dX8_node_53 : decode cX8_node 53 = .ok (.imul, 1) := zdec_at bX8_node_50 2 rfl
theorem dX8_node_54 : decode cX8_node 54 = .ok (.iconst 2, 1) := zdec_at bX8_node_50 3 rfl
theorem dX8_node_55 : decode cX8_node 55 = .ok (.iadd, 1) := zdec_at bX8_node_50 4 rfl
theorem dX8_node_56 : decode cX8_node 56 = .ok (.iload 4, 2) := zdec_at bX8_node_50 5 rfl
theorem dX8_node_58 : decode cX8_node 58 = .ok (.iastore, 1) := zdec_at bX8_node_50 6 rfl
theorem dX8_node_59 : decode cX8_node 59 = .ok (.aload_n 0, 1) := zdec_at bX8_node_50 7 rfl
theorem dX8_node_60 : decode cX8_node 60 = .ok (.getfield 46, 3) := zdec_at bX8_node_50 8 rfl
theorem dX8_node_63 : decode cX8_node 63 = .ok (.iconst 5, 1) := zdec_at bX8_node_50 9 rfl
theorem dX8_node_64 : decode cX8_node 64 = .ok (.iload 5, 2) := zdec_at bX8_node_50 10 rfl
theorem dX8_node_66 : decode cX8_node 66 = .ok (.imul, 1) := zdec_at bX8_node_50 11 rfl
theorem dX8_node_67 : decode cX8_node 67 = .ok (.iconst 3, 1) := zdec_at bX8_node_50 12 rfl
theorem dX8_node_68 : decode cX8_node 68 = .ok (.iadd, 1) := zdec_at bX8_node_50 13 rfl
theorem dX8_node_69 : decode cX8_node 69 = .ok (.iconst (-1), 1) := zdec_at bX8_node_50 14 rfl
theorem dX8_node_70 : decode cX8_node 70 = .ok (.iastore, 1) := zdec_at bX8_node_50 15 rfl
theorem bX8_node_71 : zdec cX8_node 71 [(71, .aload_n 0, 1), (72, .getfield 46, 3), (75, .iconst 5, 1), (76, .iload 5, 2), (78, .imul, 1), (79, .iconst 4, 1), (80, .iadd, 1), (81, .iconst (-1), 1), (82, .iastore, 1), (83, .aload_n 0, 1), (84, .getfield 49, 3), (87, .iload 5, 2), (89, .iconst (-1), 1), (90, .iastore, 1), (91, .aload_n 0, 1), (92, .getfield 52, 3)] = true := by decide +kernel
theorem dX8_node_71 : decode cX8_node 71 = .ok (.aload_n 0, 1) := zdec_at bX8_node_71 0 rfl
theorem dX8_node_72 : decode cX8_node 72 = .ok (.getfield 46, 3) := zdec_at bX8_node_71 1 rfl
theorem dX8_node_75 : decode cX8_node 75 = .ok (.iconst 5, 1) := zdec_at bX8_node_71 2 rfl
theorem dX8_node_76 : decode cX8_node 76 = .ok (.iload 5, 2) := zdec_at bX8_node_71 3 rfl
theorem dX8_node_78 : decode cX8_node 78 = .ok (.imul, 1) := zdec_at bX8_node_71 4 rfl
theorem dX8_node_79 : decode cX8_node 79 = .ok (.iconst 4, 1) := zdec_at bX8_node_71 5 rfl
theorem dX8_node_80 : decode cX8_node 80 = .ok (.iadd, 1) := zdec_at bX8_node_71 6 rfl
theorem dX8_node_81 : decode cX8_node 81 = .ok (.iconst (-1), 1) := zdec_at bX8_node_71 7 rfl
theorem dX8_node_82 : decode cX8_node 82 = .ok (.iastore, 1) := zdec_at bX8_node_71 8 rfl
theorem dX8_node_83 : decode cX8_node 83 = .ok (.aload_n 0, 1) := zdec_at bX8_node_71 9 rfl
theorem dX8_node_84 : decode cX8_node 84 = .ok (.getfield 49, 3) := zdec_at bX8_node_71 10 rfl
theorem dX8_node_87 : decode cX8_node 87 = .ok (.iload 5, 2) := zdec_at bX8_node_71 11 rfl
theorem dX8_node_89 : decode cX8_node 89 = .ok (.iconst (-1), 1) := zdec_at bX8_node_71 12 rfl
theorem dX8_node_90 : decode cX8_node 90 = .ok (.iastore, 1) := zdec_at bX8_node_71 13 rfl
theorem dX8_node_91 : decode cX8_node 91 = .ok (.aload_n 0, 1) := zdec_at bX8_node_71 14 rfl
theorem dX8_node_92 : decode cX8_node 92 = .ok (.getfield 52, 3) := zdec_at bX8_node_71 15 rfl
theorem bX8_node_95 : zdec cX8_node 95 [(95, .iload 5, 2), (97, .iconst 0, 1), (98, .bastore, 1), (99, .iload 5, 2), (101, .ireturn, 1)] = true := by decide +kernel
theorem dX8_node_95 : decode cX8_node 95 = .ok (.iload 5, 2) := zdec_at bX8_node_95 0 rfl
theorem dX8_node_97 : decode cX8_node 97 = .ok (.iconst 0, 1) := zdec_at bX8_node_95 1 rfl
theorem dX8_node_98 : decode cX8_node 98 = .ok (.bastore, 1) := zdec_at bX8_node_95 2 rfl
theorem dX8_node_99 : decode cX8_node 99 = .ok (.iload 5, 2) := zdec_at bX8_node_95 3 rfl
theorem dX8_node_101 : decode cX8_node 101 = .ok (.ireturn, 1) := zdec_at bX8_node_95 4 rfl
theorem sX8_node_0 {E : zE} {d : Nat} {Q : zO → zM → Prop} (M : zM) (l1 : Int32) (l2 : Int32) (l3 : Int32) (l4 : Int32) (k : vp_in (gi M 97 24) 12000 ∧ (vp_in ((5 : Int32) * (gi M 97 24)) 60000 ∧ (vp_in (((5 : Int32) * (gi M 97 24)) + (1 : Int32)) 60000 ∧ (vp_in (((5 : Int32) * (gi M 97 24)) + (2 : Int32)) 60000 ∧ (vp_in (((5 : Int32) * (gi M 97 24)) + (3 : Int32)) 60000 ∧ (vp_in (((5 : Int32) * (gi M 97 24)) + (4 : Int32)) 60000 ∧ (vp_in (gi M 97 24) 12000 ∧ (vp_in (gi M 97 24) 12000 ∧ (Q (.inl (some (vi (gi M 97 24)))) (si (si (si (si (si (si (si (si (si M 97 24 ((gi M 97 24) + (1 : Int32))) 108 ((gi M 97 24)).toNatClampNeg l1) 109 (((5 : Int32) * (gi M 97 24))).toNatClampNeg l2) 109 ((((5 : Int32) * (gi M 97 24)) + (1 : Int32))).toNatClampNeg l3) 109 ((((5 : Int32) * (gi M 97 24)) + (2 : Int32))).toNatClampNeg l4) 109 ((((5 : Int32) * (gi M 97 24)) + (3 : Int32))).toNatClampNeg (-1 : Int32)) 109 ((((5 : Int32) * (gi M 97 24)) + (4 : Int32))).toNatClampNeg (-1 : Int32)) 110 ((gi M 97 24)).toNatClampNeg (-1 : Int32)) 111 ((gi M 97 24)).toNatClampNeg (vp_nar .boolean (0 : Int32)))))))))))) : Zm E YX8_node d M [(0, vr (some (97, 1, 0))), (1, vi l1), (2, vi l2), (3, vi l3), (4, vi l4)] 0 [] Q := by
  refine Zm.l (fun _ _ k_ => z_aload_n dX8_node_0 rfl rfl k_) ?_
  refine zm_geti dX8_node_1 fsX8_421_1 (by decide) (by decide) ?_
  refine Zm.l (fun _ _ k_ => z_ist dX8_node_4 (by decide) (lv' := [(0, vr (some (97, 1, 0))), (1, vi l1), (2, vi l2), (3, vi l3), (4, vi l4), (5, vi (gi M 97 24))]) rfl k_) ?_
  refine Zm.l (fun _ _ k_ => z_aload_n dX8_node_6 rfl rfl k_) ?_
  refine Zm.l (fun _ _ k_ => z_dup dX8_node_7 rfl k_) ?_
  refine zm_geti dX8_node_8 fsX8_421_1 (by decide) (by decide) ?_
  refine Zm.l (fun _ _ k_ => z_iconst (v := 1) dX8_node_11 rfl k_) ?_
  refine Zm.l (fun _ _ k_ => z_iadd dX8_node_12 k_) ?_
  refine zm_puti (by decide) (by decide) dX8_node_13 (zfwN.w fwX8_421_1) rfl ⟨rfl, rfl⟩ ?_
  refine Zm.l (fun _ _ k_ => z_aload_n dX8_node_16 rfl rfl k_) ?_
  refine zm_getr 10 dX8_node_17 fsX8_42_1 rfl ?_
  refine Zm.l (fun _ _ k_ => z_iload dX8_node_20 rfl k_) ?_
  refine Zm.l (fun _ _ k_ => z_iload_n dX8_node_22 rfl rfl k_) ?_
  obtain ⟨b_, k⟩ := k
  refine zm_iast dX8_node_23 b_ (by decide) (by decide) ?_
  refine Zm.l (fun _ _ k_ => z_aload_n dX8_node_24 rfl rfl k_) ?_
  refine zm_getr 11 dX8_node_25 fsX8_46_1 rfl ?_
  refine Zm.l (fun _ _ k_ => z_iconst (v := 5) dX8_node_28 rfl k_) ?_
  refine Zm.l (fun _ _ k_ => z_iload dX8_node_29 rfl k_) ?_
  refine Zm.l (fun _ _ k_ => z_imul dX8_node_31 k_) ?_
  refine Zm.l (fun _ _ k_ => z_iload_n dX8_node_32 rfl rfl k_) ?_
  obtain ⟨b_, k⟩ := k
  refine zm_iast dX8_node_33 b_ (by decide) (by decide) ?_
  refine Zm.l (fun _ _ k_ => z_aload_n dX8_node_34 rfl rfl k_) ?_
  refine zm_getr 11 dX8_node_35 fsX8_46_1 rfl ?_
  refine Zm.l (fun _ _ k_ => z_iconst (v := 5) dX8_node_38 rfl k_) ?_
  refine Zm.l (fun _ _ k_ => z_iload dX8_node_39 rfl k_) ?_
  refine Zm.l (fun _ _ k_ => z_imul dX8_node_41 k_) ?_
  refine Zm.l (fun _ _ k_ => z_iconst (v := 1) dX8_node_42 rfl k_) ?_
  refine Zm.l (fun _ _ k_ => z_iadd dX8_node_43 k_) ?_
  refine Zm.l (fun _ _ k_ => z_iload_n dX8_node_44 rfl rfl k_) ?_
  obtain ⟨b_, k⟩ := k
  refine zm_iast dX8_node_45 b_ (by decide) (by decide) ?_
  refine Zm.l (fun _ _ k_ => z_aload_n dX8_node_46 rfl rfl k_) ?_
  refine zm_getr 11 dX8_node_47 fsX8_46_1 rfl ?_
  refine Zm.l (fun _ _ k_ => z_iconst (v := 5) dX8_node_50 rfl k_) ?_
  refine Zm.l (fun _ _ k_ => z_iload dX8_node_51 rfl k_) ?_
  refine Zm.l (fun _ _ k_ => z_imul dX8_node_53 k_) ?_
  refine Zm.l (fun _ _ k_ => z_iconst (v := 2) dX8_node_54 rfl k_) ?_
  refine Zm.l (fun _ _ k_ => z_iadd dX8_node_55 k_) ?_
  refine Zm.l (fun _ _ k_ => z_iload dX8_node_56 rfl k_) ?_
  obtain ⟨b_, k⟩ := k
  refine zm_iast dX8_node_58 b_ (by decide) (by decide) ?_
  refine Zm.l (fun _ _ k_ => z_aload_n dX8_node_59 rfl rfl k_) ?_
  refine zm_getr 11 dX8_node_60 fsX8_46_1 rfl ?_
  refine Zm.l (fun _ _ k_ => z_iconst (v := 5) dX8_node_63 rfl k_) ?_
  refine Zm.l (fun _ _ k_ => z_iload dX8_node_64 rfl k_) ?_
  refine Zm.l (fun _ _ k_ => z_imul dX8_node_66 k_) ?_
  refine Zm.l (fun _ _ k_ => z_iconst (v := 3) dX8_node_67 rfl k_) ?_
  refine Zm.l (fun _ _ k_ => z_iadd dX8_node_68 k_) ?_
  refine Zm.l (fun _ _ k_ => z_iconst (v := -1) dX8_node_69 rfl k_) ?_
  obtain ⟨b_, k⟩ := k
  refine zm_iast dX8_node_70 b_ (by decide) (by decide) ?_
  refine Zm.l (fun _ _ k_ => z_aload_n dX8_node_71 rfl rfl k_) ?_
  refine zm_getr 11 dX8_node_72 fsX8_46_1 rfl ?_
  refine Zm.l (fun _ _ k_ => z_iconst (v := 5) dX8_node_75 rfl k_) ?_
  refine Zm.l (fun _ _ k_ => z_iload dX8_node_76 rfl k_) ?_
  refine Zm.l (fun _ _ k_ => z_imul dX8_node_78 k_) ?_
  refine Zm.l (fun _ _ k_ => z_iconst (v := 4) dX8_node_79 rfl k_) ?_
  refine Zm.l (fun _ _ k_ => z_iadd dX8_node_80 k_) ?_
  refine Zm.l (fun _ _ k_ => z_iconst (v := -1) dX8_node_81 rfl k_) ?_
  obtain ⟨b_, k⟩ := k
  refine zm_iast dX8_node_82 b_ (by decide) (by decide) ?_
  refine Zm.l (fun _ _ k_ => z_aload_n dX8_node_83 rfl rfl k_) ?_
  refine zm_getr 12 dX8_node_84 fsX8_49_1 rfl ?_
  refine Zm.l (fun _ _ k_ => z_iload dX8_node_87 rfl k_) ?_
  refine Zm.l (fun _ _ k_ => z_iconst (v := -1) dX8_node_89 rfl k_) ?_
  obtain ⟨b_, k⟩ := k
  refine zm_iast dX8_node_90 b_ (by decide) (by decide) ?_
  refine Zm.l (fun _ _ k_ => z_aload_n dX8_node_91 rfl rfl k_) ?_
  refine zm_getr 13 dX8_node_92 fsX8_52_1 rfl ?_
  refine Zm.l (fun _ _ k_ => z_iload dX8_node_95 rfl k_) ?_
  refine Zm.l (fun _ _ k_ => z_iconst (v := 0) dX8_node_97 rfl k_) ?_
  obtain ⟨b_, k⟩ := k
  refine zm_zast dX8_node_98 b_ (by decide) (by decide) ?_
  refine Zm.l (fun _ _ k_ => z_iload dX8_node_99 rfl k_) ?_
  exact zm_iret dX8_node_101 rfl rfl k
/-! ScriptTypesModel.statement()I -/
theorem bX8_statement_0 : zdec cX8_statement 0 [(0, .aload_n 0, 1), (1, .getfield 389, 3), (4, .ifCond .le 5, 3), (7, .iconst (-1), 1), (8, .ireturn, 1), (9, .aload_n 0, 1), (10, .iconst 0, 1), (11, .invokevirtual 404, 3), (14, .ifCond .eq 15, 3), (17, .aload_n 0, 1), (18, .getfield 530, 3), (21, .aload_n 0, 1), (22, .getfield 533, 3), (25, .iadd, 1), (26, .ifCond .eq 34, 3), (29, .aload_n 0, 1)] = true := by decide +kernel
theorem dX8_statement_0 : decode cX8_statement 0 = .ok (.aload_n 0, 1) := zdec_at bX8_statement_0 0 rfl
theorem dX8_statement_1 : decode cX8_statement 1 = .ok (.getfield 389, 3) := zdec_at bX8_statement_0 1 rfl
theorem dX8_statement_4 : decode cX8_statement 4 = .ok (.ifCond .le 5, 3) := zdec_at bX8_statement_0 2 rfl
theorem dX8_statement_7 : decode cX8_statement 7 = .ok (.iconst (-1), 1) := zdec_at bX8_statement_0 3 rfl
theorem dX8_statement_8 : decode cX8_statement 8 = .ok (.ireturn, 1) := zdec_at bX8_statement_0 4 rfl
theorem dX8_statement_9 : decode cX8_statement 9 = .ok (.aload_n 0, 1) := zdec_at bX8_statement_0 5 rfl
theorem dX8_statement_10 : decode cX8_statement 10 = .ok (.iconst 0, 1) := zdec_at bX8_statement_0 6 rfl
theorem dX8_statement_11 : decode cX8_statement 11 = .ok (.invokevirtual 404, 3) := zdec_at bX8_statement_0 7 rfl
theorem dX8_statement_14 : decode cX8_statement 14 = .ok (.ifCond .eq 15, 3) := zdec_at bX8_statement_0 8 rfl
theorem dX8_statement_17 : decode cX8_statement 17 = .ok (.aload_n 0, 1) := zdec_at bX8_statement_0 9 rfl
theorem dX8_statement_18 : decode cX8_statement 18 = .ok (.getfield 530, 3) := zdec_at bX8_statement_0 10 rfl
theorem dX8_statement_21 : decode cX8_statement 21 = .ok (.aload_n 0, 1) := zdec_at bX8_statement_0 11 rfl
theorem dX8_statement_22 : decode cX8_statement 22 = .ok (.getfield 533, 3) := zdec_at bX8_statement_0 12 rfl
theorem dX8_statement_25 : decode cX8_statement 25 = .ok (.iadd, 1) := zdec_at bX8_statement_0 13 rfl
theorem dX8_statement_26 : decode cX8_statement 26 = .ok (.ifCond .eq 34, 3) := zdec_at bX8_statement_0 14 rfl
theorem dX8_statement_29 : decode cX8_statement 29 = .ok (.aload_n 0, 1) := zdec_at bX8_statement_0 15 rfl
theorem bX8_statement_30 : zdec cX8_statement 30 [(30, .iconst 3, 1), (31, .invokevirtual 404, 3), (34, .ifCond .eq 10, 3), (37, .aload_n 0, 1), (38, .getfield 530, 3), (41, .ifCond .eq 19, 3), (44, .aload_n 0, 1), (45, .bipush 18, 2), (47, .invokevirtual 404, 3), (50, .ifCond .eq 16, 3), (53, .aload_n 0, 1), (54, .getfield 427, 3), (57, .ifCond .ne 9, 3), (60, .aload_n 0, 1), (61, .iconst 3, 1), (62, .invokevirtual 401, 3)] = true := by decide +kernel
theorem dX8_statement_30 : decode cX8_statement 30 = .ok (.iconst 3, 1) := zdec_at bX8_statement_30 0 rfl
theorem dX8_statement_31 : decode cX8_statement 31 = .ok (.invokevirtual 404, 3) := zdec_at bX8_statement_30 1 rfl
theorem dX8_statement_34 : decode cX8_statement 34 = .ok (.ifCond .eq 10, 3) := zdec_at bX8_statement_30 2 rfl
theorem dX8_statement_37 : decode cX8_statement 37 = .ok (.aload_n 0, 1) := zdec_at bX8_statement_30 3 rfl
theorem dX8_statement_38 : decode cX8_statement 38 = .ok (.getfield 530, 3) := zdec_at bX8_statement_30 4 rfl
theorem dX8_statement_41 : decode cX8_statement 41 = .ok (.ifCond .eq 19, 3) := zdec_at bX8_statement_30 5 rfl
theorem dX8_statement_44 : decode cX8_statement 44 = .ok (.aload_n 0, 1) := zdec_at bX8_statement_30 6 rfl
theorem dX8_statement_45 : decode cX8_statement 45 = .ok (.bipush 18, 2) := zdec_at bX8_statement_30 7 rfl
theorem dX8_statement_47 : decode cX8_statement 47 = .ok (.invokevirtual 404, 3) := zdec_at bX8_statement_30 8 rfl
theorem dX8_statement_50 : decode cX8_statement 50 = .ok (.ifCond .eq 16, 3) := zdec_at bX8_statement_30 9 rfl
theorem dX8_statement_53 : decode cX8_statement 53 = .ok (.aload_n 0, 1) := zdec_at bX8_statement_30 10 rfl
theorem dX8_statement_54 : decode cX8_statement 54 = .ok (.getfield 427, 3) := zdec_at bX8_statement_30 11 rfl
theorem dX8_statement_57 : decode cX8_statement 57 = .ok (.ifCond .ne 9, 3) := zdec_at bX8_statement_30 12 rfl
theorem dX8_statement_60 : decode cX8_statement 60 = .ok (.aload_n 0, 1) := zdec_at bX8_statement_30 13 rfl
theorem dX8_statement_61 : decode cX8_statement 61 = .ok (.iconst 3, 1) := zdec_at bX8_statement_30 14 rfl
theorem dX8_statement_62 : decode cX8_statement 62 = .ok (.invokevirtual 401, 3) := zdec_at bX8_statement_30 15 rfl
theorem bX8_statement_65 : zdec cX8_statement 65 [(65, .pop, 1), (66, .aload_n 0, 1), (67, .aload_n 0, 1), (68, .invokevirtual 556, 3), (71, .invokevirtual 450, 3), (74, .aload_n 0, 1), (75, .getfield 389, 3), (78, .ifCond .le 7, 3), (81, .iconst (-1), 1), (82, .goto 7, 3), (85, .aload_n 0, 1), (86, .invokevirtual 559, 3), (89, .istore_n 1, 1), (90, .aload_n 0, 1), (91, .invokevirtual 454, 3), (94, .iload_n 1, 1)] = true := by decide +kernel
theorem dX8_statement_65 : decode cX8_statement 65 = .ok (.pop, 1) := zdec_at bX8_statement_65 0 rfl
theorem dX8_statement_66 : decode cX8_statement 66 = .ok (.aload_n 0, 1) := zdec_at bX8_statement_65 1 rfl
theorem dX8_statement_67 : decode cX8_statement 67 = .ok (.aload_n 0, 1) := zdec_at bX8_statement_65 2 rfl
theorem dX8_statement_68 : decode cX8_statement 68 = .ok (.invokevirtual 556, 3) := zdec_at bX8_statement_65 3 rfl
theorem dX8_statement_71 : decode cX8_statement 71 = .ok (.invokevirtual 450, 3) := zdec_at bX8_statement_65 4 rfl
theorem dX8_statement_74 : decode cX8_statement 74 = .ok (.aload_n 0, 1) := zdec_at bX8_statement_65 5 rfl
theorem dX8_statement_75 : decode cX8_statement 75 = .ok (.getfield 389, 3) := zdec_at bX8_statement_65 6 rfl
theorem dX8_statement_78 : decode cX8_statement 78 = .ok (.ifCond .le 7, 3) := zdec_at bX8_statement_65 7 rfl
theorem dX8_statement_81 : decode cX8_statement 81 = .ok (.iconst (-1), 1) := zdec_at bX8_statement_65 8 rfl
theorem dX8_statement_82 : decode cX8_statement 82 = .ok (.goto 7, 3) := zdec_at bX8_statement_65 9 rfl
theorem dX8_statement_85 : decode cX8_statement 85 = .ok (.aload_n 0, 1) := zdec_at bX8_statement_65 10 rfl
theorem dX8_statement_86 : decode cX8_statement 86 = .ok (.invokevirtual 559, 3) := zdec_at bX8_statement_65 11 rfl
theorem dX8_statement_89 : decode cX8_statement 89 = .ok (.istore_n 1, 1) := zdec_at bX8_statement_65 12 rfl
theorem dX8_statement_90 : decode cX8_statement 90 = .ok (.aload_n 0, 1) := zdec_at bX8_statement_65 13 rfl
theorem dX8_statement_91 : decode cX8_statement 91 = .ok (.invokevirtual 454, 3) := zdec_at bX8_statement_65 14 rfl
theorem dX8_statement_94 : decode cX8_statement 94 = .ok (.iload_n 1, 1) := zdec_at bX8_statement_65 15 rfl
theorem bX8_statement_95 : zdec cX8_statement 95 [(95, .ireturn, 1)] = true := by decide +kernel
theorem dX8_statement_95 : decode cX8_statement 95 = .ok (.ireturn, 1) := zdec_at bX8_statement_95 0 rfl
theorem sX8_statement_0 {E : zE} {d : Nat} {Q : zO → zM → Prop} (M : zM)  (k : if (gi M 97 21) ≤ 0 then (Zm E YX8_isKeyword d M (zargs 0 [vr (some (97, 1, 0)), vi (0 : Int32)]) 0 [] (zma E YX8_statement (d + 1) [(0, vr (some (97, 1, 0)))] 11 3 [] Q)) else (Q (.inl (some (vi (-1 : Int32)))) M)) : Zm E YX8_statement (d + 1) M [(0, vr (some (97, 1, 0)))] 0 [] Q := by
  refine Zm.l (fun _ _ k_ => z_aload_n dX8_statement_0 rfl rfl k_) ?_
  refine zm_geti dX8_statement_1 fsX8_389_1 (by decide) (by decide) ?_
  refine Zm.br (fun _ _ k1_ k2_ => z_if_le (tgt := 9) dX8_statement_4 rfl k1_ k2_) (fun h_ => ?_) (fun h_ => ?_)
  · have k := zit h_ k
    refine Zm.l (fun _ _ k_ => z_aload_n dX8_statement_9 rfl rfl k_) ?_
    refine Zm.l (fun _ _ k_ => z_iconst (v := 0) dX8_statement_10 rfl k_) ?_
    exact zm_callV (as := [vi (0 : Int32)]) (st := []) dX8_statement_11 vsX8_404_1 (Nat.le_refl _) (Nat.le_of_ble_eq_true rfl) (Nat.le_of_ble_eq_true rfl) rfl k
  · have k := zif h_ k
    refine Zm.l (fun _ _ k_ => z_iconst (v := -1) dX8_statement_7 rfl k_) ?_
    exact zm_iret dX8_statement_8 rfl rfl k
theorem sX8_statement_14 {E : zE} {d : Nat} {Q : zO → zM → Prop} (M : zM) (s0 : Int32) (k : if s0 = 0 then (Zm E YX8_isKeyword d M (zargs 0 [vr (some (97, 1, 0)), vi (3 : Int32)]) 0 [] (zma E YX8_statement (d + 1) [(0, vr (some (97, 1, 0)))] 31 3 [] Q)) else (if ((gi M 97 44) + (gi M 97 45)) = 0 then (Zm E YX8_fail d M (zargs 0 [vr (some (97, 1, 0)), vi (3 : Int32)]) 0 [] (zma E YX8_statement (d + 1) [(0, vr (some (97, 1, 0)))] 62 3 [] Q)) else (Zm E YX8_isKeyword d M (zargs 0 [vr (some (97, 1, 0)), vi (3 : Int32)]) 0 [] (zma E YX8_statement (d + 1) [(0, vr (some (97, 1, 0)))] 31 3 [] Q)))) : Zm E YX8_statement (d + 1) M [(0, vr (some (97, 1, 0)))] 14 [vi s0] Q := by
  refine Zm.br (fun _ _ k1_ k2_ => z_if_eq (tgt := 29) dX8_statement_14 rfl k1_ k2_) (fun h_ => ?_) (fun h_ => ?_)
  · have k := zit h_ k
    refine Zm.l (fun _ _ k_ => z_aload_n dX8_statement_29 rfl rfl k_) ?_
    refine Zm.l (fun _ _ k_ => z_iconst (v := 3) dX8_statement_30 rfl k_) ?_
    exact zm_callV (as := [vi (3 : Int32)]) (st := []) dX8_statement_31 vsX8_404_1 (Nat.le_refl _) (Nat.le_of_ble_eq_true rfl) (Nat.le_of_ble_eq_true rfl) rfl k
  · have k := zif h_ k
    refine Zm.l (fun _ _ k_ => z_aload_n dX8_statement_17 rfl rfl k_) ?_
    refine zm_geti dX8_statement_18 fsX8_530_1 (by decide) (by decide) ?_
    refine Zm.l (fun _ _ k_ => z_aload_n dX8_statement_21 rfl rfl k_) ?_
    refine zm_geti dX8_statement_22 fsX8_533_1 (by decide) (by decide) ?_
    refine Zm.l (fun _ _ k_ => z_iadd dX8_statement_25 k_) ?_
    refine Zm.br (fun _ _ k1_ k2_ => z_if_eq (tgt := 60) dX8_statement_26 rfl k1_ k2_) (fun h_ => ?_) (fun h_ => ?_)
    · have k := zit h_ k
      refine Zm.l (fun _ _ k_ => z_aload_n dX8_statement_60 rfl rfl k_) ?_
      refine Zm.l (fun _ _ k_ => z_iconst (v := 3) dX8_statement_61 rfl k_) ?_
      exact zm_callV (as := [vi (3 : Int32)]) (st := []) dX8_statement_62 vsX8_401_1 (Nat.le_refl _) (Nat.le_of_ble_eq_true rfl) (Nat.le_of_ble_eq_true rfl) rfl k
    · have k := zif h_ k
      refine Zm.l (fun _ _ k_ => z_aload_n dX8_statement_29 rfl rfl k_) ?_
      refine Zm.l (fun _ _ k_ => z_iconst (v := 3) dX8_statement_30 rfl k_) ?_
      exact zm_callV (as := [vi (3 : Int32)]) (st := []) dX8_statement_31 vsX8_404_1 (Nat.le_refl _) (Nat.le_of_ble_eq_true rfl) (Nat.le_of_ble_eq_true rfl) rfl k
theorem sX8_statement_34 {E : zE} {d : Nat} {Q : zO → zM → Prop} (M : zM) (s0 : Int32) (k : if s0 = 0 then (Zm E YX8_isKeyword d M (zargs 0 [vr (some (97, 1, 0)), vi (18 : Int32)]) 0 [] (zma E YX8_statement (d + 1) [(0, vr (some (97, 1, 0)))] 47 3 [] Q)) else (if (gi M 97 44) = 0 then (Zm E YX8_fail d M (zargs 0 [vr (some (97, 1, 0)), vi (3 : Int32)]) 0 [] (zma E YX8_statement (d + 1) [(0, vr (some (97, 1, 0)))] 62 3 [] Q)) else (Zm E YX8_isKeyword d M (zargs 0 [vr (some (97, 1, 0)), vi (18 : Int32)]) 0 [] (zma E YX8_statement (d + 1) [(0, vr (some (97, 1, 0)))] 47 3 [] Q)))) : Zm E YX8_statement (d + 1) M [(0, vr (some (97, 1, 0)))] 34 [vi s0] Q := by
  refine Zm.br (fun _ _ k1_ k2_ => z_if_eq (tgt := 44) dX8_statement_34 rfl k1_ k2_) (fun h_ => ?_) (fun h_ => ?_)
  · have k := zit h_ k
    refine Zm.l (fun _ _ k_ => z_aload_n dX8_statement_44 rfl rfl k_) ?_
    refine Zm.l (fun _ _ k_ => z_bipush (v := 18) dX8_statement_45 rfl k_) ?_
    exact zm_callV (as := [vi (18 : Int32)]) (st := []) dX8_statement_47 vsX8_404_1 (Nat.le_refl _) (Nat.le_of_ble_eq_true rfl) (Nat.le_of_ble_eq_true rfl) rfl k
  · have k := zif h_ k
    refine Zm.l (fun _ _ k_ => z_aload_n dX8_statement_37 rfl rfl k_) ?_
    refine zm_geti dX8_statement_38 fsX8_530_1 (by decide) (by decide) ?_
    refine Zm.br (fun _ _ k1_ k2_ => z_if_eq (tgt := 60) dX8_statement_41 rfl k1_ k2_) (fun h_ => ?_) (fun h_ => ?_)
    · have k := zit h_ k
      refine Zm.l (fun _ _ k_ => z_aload_n dX8_statement_60 rfl rfl k_) ?_
      refine Zm.l (fun _ _ k_ => z_iconst (v := 3) dX8_statement_61 rfl k_) ?_
      exact zm_callV (as := [vi (3 : Int32)]) (st := []) dX8_statement_62 vsX8_401_1 (Nat.le_refl _) (Nat.le_of_ble_eq_true rfl) (Nat.le_of_ble_eq_true rfl) rfl k
    · have k := zif h_ k
      refine Zm.l (fun _ _ k_ => z_aload_n dX8_statement_44 rfl rfl k_) ?_
      refine Zm.l (fun _ _ k_ => z_bipush (v := 18) dX8_statement_45 rfl k_) ?_
      exact zm_callV (as := [vi (18 : Int32)]) (st := []) dX8_statement_47 vsX8_404_1 (Nat.le_refl _) (Nat.le_of_ble_eq_true rfl) (Nat.le_of_ble_eq_true rfl) rfl k
theorem sX8_statement_50 {E : zE} {d : Nat} {Q : zO → zM → Prop} (M : zM) (s0 : Int32) (k : if s0 = 0 then (Zm E YX8_beginsStatement d M (zargs 0 [vr (some (97, 1, 0))]) 0 [] (zma E YX8_statement (d + 1) [(0, vr (some (97, 1, 0)))] 68 3 [vr (some (97, 1, 0))] Q)) else (if (gi M 97 43) = 0 then (Zm E YX8_fail d M (zargs 0 [vr (some (97, 1, 0)), vi (3 : Int32)]) 0 [] (zma E YX8_statement (d + 1) [(0, vr (some (97, 1, 0)))] 62 3 [] Q)) else (Zm E YX8_beginsStatement d M (zargs 0 [vr (some (97, 1, 0))]) 0 [] (zma E YX8_statement (d + 1) [(0, vr (some (97, 1, 0)))] 68 3 [vr (some (97, 1, 0))] Q)))) : Zm E YX8_statement (d + 1) M [(0, vr (some (97, 1, 0)))] 50 [vi s0] Q := by
  refine Zm.br (fun _ _ k1_ k2_ => z_if_eq (tgt := 66) dX8_statement_50 rfl k1_ k2_) (fun h_ => ?_) (fun h_ => ?_)
  · have k := zit h_ k
    refine Zm.l (fun _ _ k_ => z_aload_n dX8_statement_66 rfl rfl k_) ?_
    refine Zm.l (fun _ _ k_ => z_aload_n dX8_statement_67 rfl rfl k_) ?_
    exact zm_callV (as := []) (st := [vr (some (97, 1, 0))]) dX8_statement_68 vsX8_556_1 (Nat.le_refl _) (Nat.le_of_ble_eq_true rfl) (Nat.le_of_ble_eq_true rfl) rfl k
  · have k := zif h_ k
    refine Zm.l (fun _ _ k_ => z_aload_n dX8_statement_53 rfl rfl k_) ?_
    refine zm_geti dX8_statement_54 fsX8_427_1 (by decide) (by decide) ?_
    refine Zm.brn (fun _ _ k1_ k2_ => z_if_ne (tgt := 66) dX8_statement_57 rfl k1_ k2_) (fun h_ => ?_) (fun h_ => ?_)
    · have k := zif h_ k
      refine Zm.l (fun _ _ k_ => z_aload_n dX8_statement_66 rfl rfl k_) ?_
      refine Zm.l (fun _ _ k_ => z_aload_n dX8_statement_67 rfl rfl k_) ?_
      exact zm_callV (as := []) (st := [vr (some (97, 1, 0))]) dX8_statement_68 vsX8_556_1 (Nat.le_refl _) (Nat.le_of_ble_eq_true rfl) (Nat.le_of_ble_eq_true rfl) rfl k
    · have k := zit h_ k
      refine Zm.l (fun _ _ k_ => z_aload_n dX8_statement_60 rfl rfl k_) ?_
      refine Zm.l (fun _ _ k_ => z_iconst (v := 3) dX8_statement_61 rfl k_) ?_
      exact zm_callV (as := [vi (3 : Int32)]) (st := []) dX8_statement_62 vsX8_401_1 (Nat.le_refl _) (Nat.le_of_ble_eq_true rfl) (Nat.le_of_ble_eq_true rfl) rfl k
theorem sX8_statement_65 {E : zE} {d : Nat} {Q : zO → zM → Prop} (M : zM) (s0 : Int32) (k : Zm E YX8_beginsStatement d M (zargs 0 [vr (some (97, 1, 0))]) 0 [] (zma E YX8_statement (d + 1) [(0, vr (some (97, 1, 0)))] 68 3 [vr (some (97, 1, 0))] Q)) : Zm E YX8_statement (d + 1) M [(0, vr (some (97, 1, 0)))] 65 [vi s0] Q := by
  refine Zm.l (fun _ _ k_ => z_pop dX8_statement_65 rfl k_) ?_
  refine Zm.l (fun _ _ k_ => z_aload_n dX8_statement_66 rfl rfl k_) ?_
  refine Zm.l (fun _ _ k_ => z_aload_n dX8_statement_67 rfl rfl k_) ?_
  exact zm_callV (as := []) (st := [vr (some (97, 1, 0))]) dX8_statement_68 vsX8_556_1 (Nat.le_refl _) (Nat.le_of_ble_eq_true rfl) (Nat.le_of_ble_eq_true rfl) rfl k
theorem sX8_statement_71 {E : zE} {d : Nat} {Q : zO → zM → Prop} (M : zM) (s0 : Int32) (k : Zm E YX8_open d M (zargs 0 [vr (some (97, 1, 0)), vi s0]) 0 [] (zma E YX8_statement (d + 1) [(0, vr (some (97, 1, 0)))] 71 3 [] Q)) : Zm E YX8_statement (d + 1) M [(0, vr (some (97, 1, 0)))] 71 [vi s0, vr (some (97, 1, 0))] Q := by
  exact zm_callV (as := [vi s0]) (st := []) dX8_statement_71 vsX8_450_1 (Nat.le_refl _) (Nat.le_of_ble_eq_true rfl) (Nat.le_of_ble_eq_true rfl) rfl k
theorem sX8_statement_74 {E : zE} {d : Nat} {Q : zO → zM → Prop} (M : zM)  (k : if (gi M 97 21) ≤ 0 then (Zm E YX8_statementBody d M (zargs 0 [vr (some (97, 1, 0))]) 0 [] (zma E YX8_statement (d + 1) [(0, vr (some (97, 1, 0)))] 86 3 [] Q)) else (Zm E YX8_statement (d + 1) M [(0, vr (some (97, 1, 0)))] 89 [vi (-1 : Int32)] Q)) : Zm E YX8_statement (d + 1) M [(0, vr (some (97, 1, 0)))] 74 [] Q := by
  refine Zm.l (fun _ _ k_ => z_aload_n dX8_statement_74 rfl rfl k_) ?_
  refine zm_geti dX8_statement_75 fsX8_389_1 (by decide) (by decide) ?_
  refine Zm.br (fun _ _ k1_ k2_ => z_if_le (tgt := 85) dX8_statement_78 rfl k1_ k2_) (fun h_ => ?_) (fun h_ => ?_)
  · have k := zit h_ k
    refine Zm.l (fun _ _ k_ => z_aload_n dX8_statement_85 rfl rfl k_) ?_
    exact zm_callV (as := []) (st := []) dX8_statement_86 vsX8_559_1 (Nat.le_refl _) (Nat.le_of_ble_eq_true rfl) (Nat.le_of_ble_eq_true rfl) rfl k
  · have k := zif h_ k
    refine Zm.l (fun _ _ k_ => z_iconst (v := -1) dX8_statement_81 rfl k_) ?_
    refine Zm.l (fun _ _ k_ => z_goto (tgt := 89) dX8_statement_82 rfl k_) ?_
    exact k
theorem sX8_statement_89 {E : zE} {d : Nat} {Q : zO → zM → Prop} (M : zM) (s0 : Int32) (k : Zm E YX8_close d M (zargs 0 [vr (some (97, 1, 0))]) 0 [] (zma E YX8_statement (d + 1) [(1, vi s0)] 91 3 [] Q)) : Zm E YX8_statement (d + 1) M [(0, vr (some (97, 1, 0)))] 89 [vi s0] Q := by
  refine Zm.l (fun _ _ k_ => z_ist_n dX8_statement_89 rfl (by decide) (lv' := [(0, vr (some (97, 1, 0))), (1, vi s0)]) rfl k_) ?_
  refine Zm.l (fun _ _ k_ => z_aload_n dX8_statement_90 rfl rfl k_) ?_
  refine Zm.pick [1] rfl ?_
  exact zm_callV (as := []) (st := []) dX8_statement_91 vsX8_454_1 (Nat.le_refl _) (Nat.le_of_ble_eq_true rfl) (Nat.le_of_ble_eq_true rfl) rfl k
theorem sX8_statement_94 {E : zE} {d : Nat} {Q : zO → zM → Prop} (M : zM) (l1 : Int32) (k : Q (.inl (some (vi l1))) M) : Zm E YX8_statement (d + 1) M [(1, vi l1)] 94 [] Q := by
  refine Zm.l (fun _ _ k_ => z_iload_n dX8_statement_94 rfl rfl k_) ?_
  exact zm_iret dX8_statement_95 rfl rfl k
/-! ScriptTypesModel.beginsStatement()Z -/
theorem bX8_beginsStatement_0 : zdec cX8_beginsStatement 0 [(0, .aload_n 0, 1), (1, .bipush 24, 2), (3, .invokevirtual 398, 3), (6, .ifCond .ne 12, 3), (9, .aload_n 0, 1), (10, .bipush 31, 2), (12, .invokevirtual 398, 3), (15, .ifCond .eq 5, 3), (18, .iconst 1, 1), (19, .ireturn, 1), (20, .aload_n 0, 1), (21, .getfield 27, 3), (24, .aload_n 0, 1), (25, .getfield 392, 3), (28, .iaload, 1), (29, .iconst 2, 1)] = true := by decide +kernel
theorem dX8_beginsStatement_0 : decode cX8_beginsStatement 0 = .ok (.aload_n 0, 1) := zdec_at bX8_beginsStatement_0 0 rfl
theorem dX8_beginsStatement_1 : decode cX8_beginsStatement 1 = .ok (.bipush 24, 2) := zdec_at bX8_beginsStatement_0 1 rfl
theorem dX8_beginsStatement_3 : decode cX8_beginsStatement 3 = .ok (.invokevirtual 398, 3) := zdec_at bX8_beginsStatement_0 2 rfl
theorem dX8_beginsStatement_6 : decode cX8_beginsStatement 6 = .ok (.ifCond .ne 12, 3) := zdec_at bX8_beginsStatement_0 3 rfl
theorem dX8_beginsStatement_9 : decode cX8_beginsStatement 9 = .ok (.aload_n 0, 1) := zdec_at bX8_beginsStatement_0 4 rfl
theorem dX8_beginsStatement_10 : decode cX8_beginsStatement 10 = .ok (.bipush 31, 2) := zdec_at bX8_beginsStatement_0 5 rfl
theorem dX8_beginsStatement_12 : decode cX8_beginsStatement 12 = .ok (.invokevirtual 398, 3) := zdec_at bX8_beginsStatement_0 6 rfl
theorem dX8_beginsStatement_15 : decode cX8_beginsStatement 15 = .ok (.ifCond .eq 5, 3) := zdec_at bX8_beginsStatement_0 7 rfl
theorem dX8_beginsStatement_18 : decode cX8_beginsStatement 18 = .ok (.iconst 1, 1) := zdec_at bX8_beginsStatement_0 8 rfl
theorem dX8_beginsStatement_19 : decode cX8_beginsStatement 19 = .ok (.ireturn, 1) := zdec_at bX8_beginsStatement_0 9 rfl
theorem dX8_beginsStatement_20 : decode cX8_beginsStatement 20 = .ok (.aload_n 0, 1) := zdec_at bX8_beginsStatement_0 10 rfl
theorem dX8_beginsStatement_21 : decode cX8_beginsStatement 21 = .ok (.getfield 27, 3) := zdec_at bX8_beginsStatement_0 11 rfl
theorem dX8_beginsStatement_24 : decode cX8_beginsStatement 24 = .ok (.aload_n 0, 1) := zdec_at bX8_beginsStatement_0 12 rfl
theorem dX8_beginsStatement_25 : decode cX8_beginsStatement 25 = .ok (.getfield 392, 3) := zdec_at bX8_beginsStatement_0 13 rfl
theorem dX8_beginsStatement_28 : decode cX8_beginsStatement 28 = .ok (.iaload, 1) := zdec_at bX8_beginsStatement_0 14 rfl
theorem dX8_beginsStatement_29 : decode cX8_beginsStatement 29 = .ok (.iconst 2, 1) := zdec_at bX8_beginsStatement_0 15 rfl
theorem bX8_beginsStatement_30 : zdec cX8_beginsStatement 30 [(30, .if_icmp .eq 8, 3), (33, .aload_n 0, 1), (34, .invokevirtual 439, 3), (37, .ireturn, 1), (38, .aload_n 0, 1), (39, .getfield 30, 3), (42, .aload_n 0, 1), (43, .getfield 392, 3), (46, .iaload, 1), (47, .istore_n 1, 1), (48, .iload_n 1, 1), (49, .bipush 26, 2), (51, .if_icmp .eq 73, 3), (54, .iload_n 1, 1), (55, .bipush 12, 2), (57, .if_icmp .eq 67, 3)] = true := by decide +kernel
theorem dX8_beginsStatement_30 : decode cX8_beginsStatement 30 = .ok (.if_icmp .eq 8, 3) := zdec_at bX8_beginsStatement_30 0 rfl
theorem dX8_beginsStatement_33 : decode cX8_beginsStatement 33 = .ok (.aload_n 0, 1) := zdec_at bX8_beginsStatement_30 1 rfl
theorem dX8_beginsStatement_34 : decode cX8_beginsStatement 34 = .ok (.invokevirtual 439, 3) := zdec_at bX8_beginsStatement_30 2 rfl
theorem dX8_beginsStatement_37 : decode cX8_beginsStatement 37 = .ok (.ireturn, 1) := zdec_at bX8_beginsStatement_30 3 rfl
theorem dX8_beginsStatement_38 : decode cX8_beginsStatement 38 = .ok (.aload_n 0, 1) := zdec_at bX8_beginsStatement_30 4 rfl
theorem dX8_beginsStatement_39 : decode cX8_beginsStatement 39 = .ok (.getfield 30, 3) := zdec_at bX8_beginsStatement_30 5 rfl
theorem dX8_beginsStatement_42 : decode cX8_beginsStatement 42 = .ok (.aload_n 0, 1) := zdec_at bX8_beginsStatement_30 6 rfl
theorem dX8_beginsStatement_43 : decode cX8_beginsStatement 43 = .ok (.getfield 392, 3) := zdec_at bX8_beginsStatement_30 7 rfl
theorem dX8_beginsStatement_46 : decode cX8_beginsStatement 46 = .ok (.iaload, 1) := zdec_at bX8_beginsStatement_30 8 rfl
theorem dX8_beginsStatement_47 : decode cX8_beginsStatement 47 = .ok (.istore_n 1, 1) := zdec_at bX8_beginsStatement_30 9 rfl
theorem dX8_beginsStatement_48 : decode cX8_beginsStatement 48 = .ok (.iload_n 1, 1) := zdec_at bX8_beginsStatement_30 10 rfl
theorem dX8_beginsStatement_49 : decode cX8_beginsStatement 49 = .ok (.bipush 26, 2) := zdec_at bX8_beginsStatement_30 11 rfl
theorem dX8_beginsStatement_51 : decode cX8_beginsStatement 51 = .ok (.if_icmp .eq 73, 3) := zdec_at bX8_beginsStatement_30 12 rfl
theorem dX8_beginsStatement_54 : decode cX8_beginsStatement 54 = .ok (.iload_n 1, 1) := zdec_at bX8_beginsStatement_30 13 rfl
theorem dX8_beginsStatement_55 : decode cX8_beginsStatement 55 = .ok (.bipush 12, 2) := zdec_at bX8_beginsStatement_30 14 rfl
theorem dX8_beginsStatement_57 : decode cX8_beginsStatement 57 = .ok (.if_icmp .eq 67, 3) := zdec_at bX8_beginsStatement_30 15 rfl
theorem bX8_beginsStatement_60 : zdec cX8_beginsStatement 60 [(60, .iload_n 1, 1), (61, .bipush 28, 2), (63, .if_icmp .eq 61, 3), (66, .iload_n 1, 1), (67, .bipush 6, 2), (69, .if_icmp .eq 55, 3), (72, .iload_n 1, 1), (73, .bipush 10, 2), (75, .if_icmp .eq 49, 3), (78, .iload_n 1, 1), (79, .iconst 3, 1), (80, .if_icmp .eq 44, 3), (83, .iload_n 1, 1), (84, .ifCond .eq 40, 3), (87, .iload_n 1, 1), (88, .bipush 18, 2)] = true := by decide +kernel
theorem dX8_beginsStatement_60 : decode cX8_beginsStatement 60 = .ok (.iload_n 1, 1) := zdec_at bX8_beginsStatement_60 0 rfl
theorem dX8_beginsStatement_61 : decode cX8_beginsStatement 61 = .ok (.bipush 28, 2) := zdec_at bX8_beginsStatement_60 1 rfl
theorem dX8_beginsStatement_63 : decode cX8_beginsStatement 63 = .ok (.if_icmp .eq 61, 3) := zdec_at bX8_beginsStatement_60 2 rfl
theorem dX8_beginsStatement_66 : decode cX8_beginsStatement 66 = .ok (.iload_n 1, 1) := zdec_at bX8_beginsStatement_60 3 rfl
theorem dX8_beginsStatement_67 : decode cX8_beginsStatement 67 = .ok (.bipush 6, 2) := zdec_at bX8_beginsStatement_60 4 rfl
theorem dX8_beginsStatement_69 : decode cX8_beginsStatement 69 = .ok (.if_icmp .eq 55, 3) := zdec_at bX8_beginsStatement_60 5 rfl
theorem dX8_beginsStatement_72 : decode cX8_beginsStatement 72 = .ok (.iload_n 1, 1) := zdec_at bX8_beginsStatement_60 6 rfl
theorem dX8_beginsStatement_73 : decode cX8_beginsStatement 73 = .ok (.bipush 10, 2) := zdec_at bX8_beginsStatement_60 7 rfl
theorem dX8_beginsStatement_75 : decode cX8_beginsStatement 75 = .ok (.if_icmp .eq 49, 3) := zdec_at bX8_beginsStatement_60 8 rfl
theorem dX8_beginsStatement_78 : decode cX8_beginsStatement 78 = .ok (.iload_n 1, 1) := zdec_at bX8_beginsStatement_60 9 rfl
theorem dX8_beginsStatement_79 : decode cX8_beginsStatement 79 = .ok (.iconst 3, 1) := zdec_at bX8_beginsStatement_60 10 rfl
theorem dX8_beginsStatement_80 : decode cX8_beginsStatement 80 = .ok (.if_icmp .eq 44, 3) := zdec_at bX8_beginsStatement_60 11 rfl
theorem dX8_beginsStatement_83 : decode cX8_beginsStatement 83 = .ok (.iload_n 1, 1) := zdec_at bX8_beginsStatement_60 12 rfl
theorem dX8_beginsStatement_84 : decode cX8_beginsStatement 84 = .ok (.ifCond .eq 40, 3) := zdec_at bX8_beginsStatement_60 13 rfl
theorem dX8_beginsStatement_87 : decode cX8_beginsStatement 87 = .ok (.iload_n 1, 1) := zdec_at bX8_beginsStatement_60 14 rfl
theorem dX8_beginsStatement_88 : decode cX8_beginsStatement 88 = .ok (.bipush 18, 2) := zdec_at bX8_beginsStatement_60 15 rfl
theorem bX8_beginsStatement_90 : zdec cX8_beginsStatement 90 [(90, .if_icmp .eq 34, 3), (93, .iload_n 1, 1), (94, .bipush 21, 2), (96, .if_icmp .eq 28, 3), (99, .iload_n 1, 1), (100, .bipush 23, 2), (102, .if_icmp .eq 22, 3), (105, .iload_n 1, 1), (106, .bipush 19, 2), (108, .if_icmp .eq 16, 3), (111, .iload_n 1, 1), (112, .bipush 11, 2), (114, .if_icmp .eq 14, 3), (117, .aload_n 0, 1), (118, .invokevirtual 439, 3), (121, .ifCond .eq 7, 3)] = true := by decide +kernel
theorem dX8_beginsStatement_90 : decode cX8_beginsStatement 90 = .ok (.if_icmp .eq 34, 3) := zdec_at bX8_beginsStatement_90 0 rfl
theorem dX8_beginsStatement_93 : decode cX8_beginsStatement 93 = .ok (.iload_n 1, 1) := zdec_at bX8_beginsStatement_90 1 rfl
theorem dX8_beginsStatement_94 : decode cX8_beginsStatement 94 = .ok (.bipush 21, 2) := zdec_at bX8_beginsStatement_90 2 rfl
theorem dX8_beginsStatement_96 : decode cX8_beginsStatement 96 = .ok (.if_icmp .eq 28, 3) := zdec_at bX8_beginsStatement_90 3 rfl
theorem dX8_beginsStatement_99 : decode cX8_beginsStatement 99 = .ok (.iload_n 1, 1) := zdec_at bX8_beginsStatement_90 4 rfl
theorem dX8_beginsStatement_100 : decode cX8_beginsStatement 100 = .ok (.bipush 23, 2) := zdec_at bX8_beginsStatement_90 5 rfl
theorem dX8_beginsStatement_102 : decode cX8_beginsStatement 102 = .ok (.if_icmp .eq 22, 3) := zdec_at bX8_beginsStatement_90 6 rfl
theorem dX8_beginsStatement_105 : decode cX8_beginsStatement 105 = .ok (.iload_n 1, 1) := zdec_at bX8_beginsStatement_90 7 rfl
theorem dX8_beginsStatement_106 : decode cX8_beginsStatement 106 = .ok (.bipush 19, 2) := zdec_at bX8_beginsStatement_90 8 rfl
theorem dX8_beginsStatement_108 : decode cX8_beginsStatement 108 = .ok (.if_icmp .eq 16, 3) := zdec_at bX8_beginsStatement_90 9 rfl
theorem dX8_beginsStatement_111 : decode cX8_beginsStatement 111 = .ok (.iload_n 1, 1) := zdec_at bX8_beginsStatement_90 10 rfl
theorem dX8_beginsStatement_112 : decode cX8_beginsStatement 112 = .ok (.bipush 11, 2) := zdec_at bX8_beginsStatement_90 11 rfl
theorem dX8_beginsStatement_114 : decode cX8_beginsStatement 114 = .ok (.if_icmp .eq 14, 3) := zdec_at bX8_beginsStatement_90 12 rfl
theorem dX8_beginsStatement_117 : decode cX8_beginsStatement 117 = .ok (.aload_n 0, 1) := zdec_at bX8_beginsStatement_90 13 rfl
theorem dX8_beginsStatement_118 : decode cX8_beginsStatement 118 = .ok (.invokevirtual 439, 3) := zdec_at bX8_beginsStatement_90 14 rfl
theorem dX8_beginsStatement_121 : decode cX8_beginsStatement 121 = .ok (.ifCond .eq 7, 3) := zdec_at bX8_beginsStatement_90 15 rfl
theorem bX8_beginsStatement_124 : zdec cX8_beginsStatement 124 [(124, .iconst 1, 1), (125, .goto 4, 3), (128, .iconst 0, 1), (129, .ireturn, 1)] = true := by decide +kernel
theorem dX8_beginsStatement_124 : decode cX8_beginsStatement 124 = .ok (.iconst 1, 1) := zdec_at bX8_beginsStatement_124 0 rfl
theorem dX8_beginsStatement_125 : decode cX8_beginsStatement 125 = .ok (.goto 4, 3) := zdec_at bX8_beginsStatement_124 1 rfl
theorem dX8_beginsStatement_128 : decode cX8_beginsStatement 128 = .ok (.iconst 0, 1) := zdec_at bX8_beginsStatement_124 2 rfl
theorem dX8_beginsStatement_129 : decode cX8_beginsStatement 129 = .ok (.ireturn, 1) := zdec_at bX8_beginsStatement_124 3 rfl
theorem sX8_beginsStatement_0 {E : zE} {d : Nat} {Q : zO → zM → Prop} (M : zM)  (k : Zm E YX8_isSign d M (zargs 0 [vr (some (97, 1, 0)), vi (24 : Int32)]) 0 [] (zma E YX8_beginsStatement (d + 1) [(0, vr (some (97, 1, 0)))] 3 3 [] Q)) : Zm E YX8_beginsStatement (d + 1) M [(0, vr (some (97, 1, 0)))] 0 [] Q := by
  refine Zm.l (fun _ _ k_ => z_aload_n dX8_beginsStatement_0 rfl rfl k_) ?_
  refine Zm.l (fun _ _ k_ => z_bipush (v := 24) dX8_beginsStatement_1 rfl k_) ?_
  exact zm_callV (as := [vi (24 : Int32)]) (st := []) dX8_beginsStatement_3 vsX8_398_1 (Nat.le_refl _) (Nat.le_of_ble_eq_true rfl) (Nat.le_of_ble_eq_true rfl) rfl k
theorem sX8_beginsStatement_6 {E : zE} {d : Nat} {Q : zO → zM → Prop} (M : zM) (s0 : Int32) (k : if s0 = 0 then (Zm E YX8_isSign d M (zargs 0 [vr (some (97, 1, 0)), vi (31 : Int32)]) 0 [] (zma E YX8_beginsStatement (d + 1) [(0, vr (some (97, 1, 0)))] 12 3 [] Q)) else (Q (.inl (some (vi (1 : Int32)))) M)) : Zm E YX8_beginsStatement (d + 1) M [(0, vr (some (97, 1, 0)))] 6 [vi s0] Q := by
  refine Zm.brn (fun _ _ k1_ k2_ => z_if_ne (tgt := 18) dX8_beginsStatement_6 rfl k1_ k2_) (fun h_ => ?_) (fun h_ => ?_)
  · have k := zif h_ k
    refine Zm.l (fun _ _ k_ => z_iconst (v := 1) dX8_beginsStatement_18 rfl k_) ?_
    exact zm_iret dX8_beginsStatement_19 rfl (by decide) k
  · have k := zit h_ k
    refine Zm.l (fun _ _ k_ => z_aload_n dX8_beginsStatement_9 rfl rfl k_) ?_
    refine Zm.l (fun _ _ k_ => z_bipush (v := 31) dX8_beginsStatement_10 rfl k_) ?_
    exact zm_callV (as := [vi (31 : Int32)]) (st := []) dX8_beginsStatement_12 vsX8_398_1 (Nat.le_refl _) (Nat.le_of_ble_eq_true rfl) (Nat.le_of_ble_eq_true rfl) rfl k
theorem sX8_beginsStatement_15 {E : zE} {d : Nat} {Q : zO → zM → Prop} (M : zM) (s0 : Int32) (k : if s0 = 0 then (vp_in (gi M 97 20) 4002 ∧ (if (gi M 103 ((gi M 97 20)).toNatClampNeg) = (2 : Int32) then (vp_in (gi M 97 20) 4002 ∧ (if (gi M 104 ((gi M 97 20)).toNatClampNeg) = (26 : Int32) then (Q (.inl (some (vi (1 : Int32)))) M) else (if (gi M 104 ((gi M 97 20)).toNatClampNeg) = (12 : Int32) then (Q (.inl (some (vi (1 : Int32)))) M) else (if (gi M 104 ((gi M 97 20)).toNatClampNeg) = (28 : Int32) then (Q (.inl (some (vi (1 : Int32)))) M) else (if (gi M 104 ((gi M 97 20)).toNatClampNeg) = (6 : Int32) then (Q (.inl (some (vi (1 : Int32)))) M) else (if (gi M 104 ((gi M 97 20)).toNatClampNeg) = (10 : Int32) then (Q (.inl (some (vi (1 : Int32)))) M) else (if (gi M 104 ((gi M 97 20)).toNatClampNeg) = (3 : Int32) then (Q (.inl (some (vi (1 : Int32)))) M) else (if (gi M 104 ((gi M 97 20)).toNatClampNeg) = 0 then (Q (.inl (some (vi (1 : Int32)))) M) else (if (gi M 104 ((gi M 97 20)).toNatClampNeg) = (18 : Int32) then (Q (.inl (some (vi (1 : Int32)))) M) else (if (gi M 104 ((gi M 97 20)).toNatClampNeg) = (21 : Int32) then (Q (.inl (some (vi (1 : Int32)))) M) else (if (gi M 104 ((gi M 97 20)).toNatClampNeg) = (23 : Int32) then (Q (.inl (some (vi (1 : Int32)))) M) else (if (gi M 104 ((gi M 97 20)).toNatClampNeg) = (19 : Int32) then (Q (.inl (some (vi (1 : Int32)))) M) else (if (gi M 104 ((gi M 97 20)).toNatClampNeg) = (11 : Int32) then (Q (.inl (some (vi (0 : Int32)))) M) else (Zm E YX8_beginsExpression d M (zargs 0 [vr (some (97, 1, 0))]) 0 [] (zma E YX8_beginsStatement (d + 1) [] 118 3 [] Q))))))))))))))) else (Zm E YX8_beginsExpression d M (zargs 0 [vr (some (97, 1, 0))]) 0 [] (zma E YX8_beginsStatement (d + 1) [] 34 3 [] Q)))) else (Q (.inl (some (vi (1 : Int32)))) M)) : Zm E YX8_beginsStatement (d + 1) M [(0, vr (some (97, 1, 0)))] 15 [vi s0] Q := by
  refine Zm.br (fun _ _ k1_ k2_ => z_if_eq (tgt := 20) dX8_beginsStatement_15 rfl k1_ k2_) (fun h_ => ?_) (fun h_ => ?_)
  · have k := zit h_ k
    refine Zm.l (fun _ _ k_ => z_aload_n dX8_beginsStatement_20 rfl rfl k_) ?_
    refine zm_getr 5 dX8_beginsStatement_21 fsX8_27_1 rfl ?_
    refine Zm.l (fun _ _ k_ => z_aload_n dX8_beginsStatement_24 rfl rfl k_) ?_
    refine zm_geti dX8_beginsStatement_25 fsX8_392_1 (by decide) (by decide) ?_
    obtain ⟨b_, k⟩ := k
    refine zm_iald dX8_beginsStatement_28 b_ (by decide) (by decide) ?_
    refine Zm.l (fun _ _ k_ => z_iconst (v := 2) dX8_beginsStatement_29 rfl k_) ?_
    refine Zm.br (fun _ _ k1_ k2_ => z_icmp_eq (tgt := 38) dX8_beginsStatement_30 rfl k1_ k2_) (fun h_ => ?_) (fun h_ => ?_)
    · have k := zit h_ k
      refine Zm.l (fun _ _ k_ => z_aload_n dX8_beginsStatement_38 rfl rfl k_) ?_
      refine zm_getr 6 dX8_beginsStatement_39 fsX8_30_1 rfl ?_
      refine Zm.l (fun _ _ k_ => z_aload_n dX8_beginsStatement_42 rfl rfl k_) ?_
      refine zm_geti dX8_beginsStatement_43 fsX8_392_1 (by decide) (by decide) ?_
      obtain ⟨b_, k⟩ := k
      refine zm_iald dX8_beginsStatement_46 b_ (by decide) (by decide) ?_
      refine Zm.l (fun _ _ k_ => z_ist_n dX8_beginsStatement_47 rfl (by decide) (lv' := [(0, vr (some (97, 1, 0))), (1, vi (gi M 104 ((gi M 97 20)).toNatClampNeg))]) rfl k_) ?_
      refine Zm.l (fun _ _ k_ => z_iload_n dX8_beginsStatement_48 rfl rfl k_) ?_
      refine Zm.l (fun _ _ k_ => z_bipush (v := 26) dX8_beginsStatement_49 rfl k_) ?_
      refine Zm.br (fun _ _ k1_ k2_ => z_icmp_eq (tgt := 124) dX8_beginsStatement_51 rfl k1_ k2_) (fun h_ => ?_) (fun h_ => ?_)
      · have k := zit h_ k
        refine Zm.l (fun _ _ k_ => z_iconst (v := 1) dX8_beginsStatement_124 rfl k_) ?_
        refine Zm.l (fun _ _ k_ => z_goto (tgt := 129) dX8_beginsStatement_125 rfl k_) ?_
        exact zm_iret dX8_beginsStatement_129 rfl (by decide) k
      · have k := zif h_ k
        refine Zm.l (fun _ _ k_ => z_iload_n dX8_beginsStatement_54 rfl rfl k_) ?_
        refine Zm.l (fun _ _ k_ => z_bipush (v := 12) dX8_beginsStatement_55 rfl k_) ?_
        refine Zm.br (fun _ _ k1_ k2_ => z_icmp_eq (tgt := 124) dX8_beginsStatement_57 rfl k1_ k2_) (fun h_ => ?_) (fun h_ => ?_)
        · have k := zit h_ k
          refine Zm.l (fun _ _ k_ => z_iconst (v := 1) dX8_beginsStatement_124 rfl k_) ?_
          refine Zm.l (fun _ _ k_ => z_goto (tgt := 129) dX8_beginsStatement_125 rfl k_) ?_
          exact zm_iret dX8_beginsStatement_129 rfl (by decide) k
        · have k := zif h_ k
          refine Zm.l (fun _ _ k_ => z_iload_n dX8_beginsStatement_60 rfl rfl k_) ?_
          refine Zm.l (fun _ _ k_ => z_bipush (v := 28) dX8_beginsStatement_61 rfl k_) ?_
          refine Zm.br (fun _ _ k1_ k2_ => z_icmp_eq (tgt := 124) dX8_beginsStatement_63 rfl k1_ k2_) (fun h_ => ?_) (fun h_ => ?_)
          · have k := zit h_ k
            refine Zm.l (fun _ _ k_ => z_iconst (v := 1) dX8_beginsStatement_124 rfl k_) ?_
            refine Zm.l (fun _ _ k_ => z_goto (tgt := 129) dX8_beginsStatement_125 rfl k_) ?_
            exact zm_iret dX8_beginsStatement_129 rfl (by decide) k
          · have k := zif h_ k
            refine Zm.l (fun _ _ k_ => z_iload_n dX8_beginsStatement_66 rfl rfl k_) ?_
            refine Zm.l (fun _ _ k_ => z_bipush (v := 6) dX8_beginsStatement_67 rfl k_) ?_
            refine Zm.br (fun _ _ k1_ k2_ => z_icmp_eq (tgt := 124) dX8_beginsStatement_69 rfl k1_ k2_) (fun h_ => ?_) (fun h_ => ?_)
            · have k := zit h_ k
              refine Zm.l (fun _ _ k_ => z_iconst (v := 1) dX8_beginsStatement_124 rfl k_) ?_
              refine Zm.l (fun _ _ k_ => z_goto (tgt := 129) dX8_beginsStatement_125 rfl k_) ?_
              exact zm_iret dX8_beginsStatement_129 rfl (by decide) k
            · have k := zif h_ k
              refine Zm.l (fun _ _ k_ => z_iload_n dX8_beginsStatement_72 rfl rfl k_) ?_
              refine Zm.l (fun _ _ k_ => z_bipush (v := 10) dX8_beginsStatement_73 rfl k_) ?_
              refine Zm.br (fun _ _ k1_ k2_ => z_icmp_eq (tgt := 124) dX8_beginsStatement_75 rfl k1_ k2_) (fun h_ => ?_) (fun h_ => ?_)
              · have k := zit h_ k
                refine Zm.l (fun _ _ k_ => z_iconst (v := 1) dX8_beginsStatement_124 rfl k_) ?_
                refine Zm.l (fun _ _ k_ => z_goto (tgt := 129) dX8_beginsStatement_125 rfl k_) ?_
                exact zm_iret dX8_beginsStatement_129 rfl (by decide) k
              · have k := zif h_ k
                refine Zm.l (fun _ _ k_ => z_iload_n dX8_beginsStatement_78 rfl rfl k_) ?_
                refine Zm.l (fun _ _ k_ => z_iconst (v := 3) dX8_beginsStatement_79 rfl k_) ?_
                refine Zm.br (fun _ _ k1_ k2_ => z_icmp_eq (tgt := 124) dX8_beginsStatement_80 rfl k1_ k2_) (fun h_ => ?_) (fun h_ => ?_)
                · have k := zit h_ k
                  refine Zm.l (fun _ _ k_ => z_iconst (v := 1) dX8_beginsStatement_124 rfl k_) ?_
                  refine Zm.l (fun _ _ k_ => z_goto (tgt := 129) dX8_beginsStatement_125 rfl k_) ?_
                  exact zm_iret dX8_beginsStatement_129 rfl (by decide) k
                · have k := zif h_ k
                  refine Zm.l (fun _ _ k_ => z_iload_n dX8_beginsStatement_83 rfl rfl k_) ?_
                  refine Zm.br (fun _ _ k1_ k2_ => z_if_eq (tgt := 124) dX8_beginsStatement_84 rfl k1_ k2_) (fun h_ => ?_) (fun h_ => ?_)
                  · have k := zit h_ k
                    refine Zm.l (fun _ _ k_ => z_iconst (v := 1) dX8_beginsStatement_124 rfl k_) ?_
                    refine Zm.l (fun _ _ k_ => z_goto (tgt := 129) dX8_beginsStatement_125 rfl k_) ?_
                    exact zm_iret dX8_beginsStatement_129 rfl (by decide) k
                  · have k := zif h_ k
                    refine Zm.l (fun _ _ k_ => z_iload_n dX8_beginsStatement_87 rfl rfl k_) ?_
                    refine Zm.l (fun _ _ k_ => z_bipush (v := 18) dX8_beginsStatement_88 rfl k_) ?_
                    refine Zm.br (fun _ _ k1_ k2_ => z_icmp_eq (tgt := 124) dX8_beginsStatement_90 rfl k1_ k2_) (fun h_ => ?_) (fun h_ => ?_)
                    · have k := zit h_ k
                      refine Zm.l (fun _ _ k_ => z_iconst (v := 1) dX8_beginsStatement_124 rfl k_) ?_
                      refine Zm.l (fun _ _ k_ => z_goto (tgt := 129) dX8_beginsStatement_125 rfl k_) ?_
                      exact zm_iret dX8_beginsStatement_129 rfl (by decide) k
                    · have k := zif h_ k
                      refine Zm.l (fun _ _ k_ => z_iload_n dX8_beginsStatement_93 rfl rfl k_) ?_
                      refine Zm.l (fun _ _ k_ => z_bipush (v := 21) dX8_beginsStatement_94 rfl k_) ?_
                      refine Zm.br (fun _ _ k1_ k2_ => z_icmp_eq (tgt := 124) dX8_beginsStatement_96 rfl k1_ k2_) (fun h_ => ?_) (fun h_ => ?_)
                      · have k := zit h_ k
                        refine Zm.l (fun _ _ k_ => z_iconst (v := 1) dX8_beginsStatement_124 rfl k_) ?_
                        refine Zm.l (fun _ _ k_ => z_goto (tgt := 129) dX8_beginsStatement_125 rfl k_) ?_
                        exact zm_iret dX8_beginsStatement_129 rfl (by decide) k
                      · have k := zif h_ k
                        refine Zm.l (fun _ _ k_ => z_iload_n dX8_beginsStatement_99 rfl rfl k_) ?_
                        refine Zm.l (fun _ _ k_ => z_bipush (v := 23) dX8_beginsStatement_100 rfl k_) ?_
                        refine Zm.br (fun _ _ k1_ k2_ => z_icmp_eq (tgt := 124) dX8_beginsStatement_102 rfl k1_ k2_) (fun h_ => ?_) (fun h_ => ?_)
                        · have k := zit h_ k
                          refine Zm.l (fun _ _ k_ => z_iconst (v := 1) dX8_beginsStatement_124 rfl k_) ?_
                          refine Zm.l (fun _ _ k_ => z_goto (tgt := 129) dX8_beginsStatement_125 rfl k_) ?_
                          exact zm_iret dX8_beginsStatement_129 rfl (by decide) k
                        · have k := zif h_ k
                          refine Zm.l (fun _ _ k_ => z_iload_n dX8_beginsStatement_105 rfl rfl k_) ?_
                          refine Zm.l (fun _ _ k_ => z_bipush (v := 19) dX8_beginsStatement_106 rfl k_) ?_
                          refine Zm.br (fun _ _ k1_ k2_ => z_icmp_eq (tgt := 124) dX8_beginsStatement_108 rfl k1_ k2_) (fun h_ => ?_) (fun h_ => ?_)
                          · have k := zit h_ k
                            refine Zm.l (fun _ _ k_ => z_iconst (v := 1) dX8_beginsStatement_124 rfl k_) ?_
                            refine Zm.l (fun _ _ k_ => z_goto (tgt := 129) dX8_beginsStatement_125 rfl k_) ?_
                            exact zm_iret dX8_beginsStatement_129 rfl (by decide) k
                          · have k := zif h_ k
                            refine Zm.l (fun _ _ k_ => z_iload_n dX8_beginsStatement_111 rfl rfl k_) ?_
                            refine Zm.l (fun _ _ k_ => z_bipush (v := 11) dX8_beginsStatement_112 rfl k_) ?_
                            refine Zm.br (fun _ _ k1_ k2_ => z_icmp_eq (tgt := 128) dX8_beginsStatement_114 rfl k1_ k2_) (fun h_ => ?_) (fun h_ => ?_)
                            · have k := zit h_ k
                              refine Zm.l (fun _ _ k_ => z_iconst (v := 0) dX8_beginsStatement_128 rfl k_) ?_
                              exact zm_iret dX8_beginsStatement_129 rfl (by decide) k
                            · have k := zif h_ k
                              refine Zm.l (fun _ _ k_ => z_aload_n dX8_beginsStatement_117 rfl rfl k_) ?_
                              refine Zm.pick [] rfl ?_
                              exact zm_callV (as := []) (st := []) dX8_beginsStatement_118 vsX8_439_1 (Nat.le_refl _) (Nat.le_of_ble_eq_true rfl) (Nat.le_of_ble_eq_true rfl) rfl k
    · have k := zif h_ k
      refine Zm.l (fun _ _ k_ => z_aload_n dX8_beginsStatement_33 rfl rfl k_) ?_
      refine Zm.pick [] rfl ?_
      exact zm_callV (as := []) (st := []) dX8_beginsStatement_34 vsX8_439_1 (Nat.le_refl _) (Nat.le_of_ble_eq_true rfl) (Nat.le_of_ble_eq_true rfl) rfl k
  · have k := zif h_ k
    refine Zm.l (fun _ _ k_ => z_iconst (v := 1) dX8_beginsStatement_18 rfl k_) ?_
    exact zm_iret dX8_beginsStatement_19 rfl (by decide) k
theorem sX8_beginsStatement_37 {E : zE} {d : Nat} {Q : zO → zM → Prop} (M : zM) (s0 : Int32) (k : (narrow .boolean (.int s0) = .int s0) ∧ Q (.inl (some (vi s0))) M) : Zm E YX8_beginsStatement (d + 1) M [] 37 [vi s0] Q := by
  exact zm_iret dX8_beginsStatement_37 rfl k.1 k.2
theorem sX8_beginsStatement_121 {E : zE} {d : Nat} {Q : zO → zM → Prop} (M : zM) (s0 : Int32) (k : if s0 = 0 then (Q (.inl (some (vi (0 : Int32)))) M) else (Q (.inl (some (vi (1 : Int32)))) M)) : Zm E YX8_beginsStatement (d + 1) M [] 121 [vi s0] Q := by
  refine Zm.br (fun _ _ k1_ k2_ => z_if_eq (tgt := 128) dX8_beginsStatement_121 rfl k1_ k2_) (fun h_ => ?_) (fun h_ => ?_)
  · have k := zit h_ k
    refine Zm.l (fun _ _ k_ => z_iconst (v := 0) dX8_beginsStatement_128 rfl k_) ?_
    exact zm_iret dX8_beginsStatement_129 rfl (by decide) k
  · have k := zif h_ k
    refine Zm.l (fun _ _ k_ => z_iconst (v := 1) dX8_beginsStatement_124 rfl k_) ?_
    refine Zm.l (fun _ _ k_ => z_goto (tgt := 129) dX8_beginsStatement_125 rfl k_) ?_
    exact zm_iret dX8_beginsStatement_129 rfl (by decide) k
/-! ScriptTypesModel.beginsExpression()Z -/
theorem bX8_beginsExpression_0 : zdec cX8_beginsExpression 0 [(0, .aload_n 0, 1), (1, .getfield 27, 3), (4, .aload_n 0, 1), (5, .getfield 392, 3), (8, .iaload, 1), (9, .iconst 1, 1), (10, .if_icmp .eq 29, 3), (13, .aload_n 0, 1), (14, .getfield 27, 3), (17, .aload_n 0, 1), (18, .getfield 392, 3), (21, .iaload, 1), (22, .iconst 3, 1), (23, .if_icmp .eq 16, 3), (26, .aload_n 0, 1), (27, .getfield 27, 3)] = true := by decide +kernel
theorem dX8_beginsExpression_0 : decode cX8_beginsExpression 0 = .ok (.aload_n 0, 1) := zdec_at bX8_beginsExpression_0 0 rfl
theorem dX8_beginsExpression_1 : decode cX8_beginsExpression 1 = .ok (.getfield 27, 3) := zdec_at bX8_beginsExpression_0 1 rfl
theorem dX8_beginsExpression_4 : decode cX8_beginsExpression 4 = .ok (.aload_n 0, 1) := zdec_at bX8_beginsExpression_0 2 rfl
theorem dX8_beginsExpression_5 : decode cX8_beginsExpression 5 = .ok (.getfield 392, 3) := zdec_at bX8_beginsExpression_0 3 rfl
theorem dX8_beginsExpression_8 : decode cX8_beginsExpression 8 = .ok (.iaload, 1) := zdec_at bX8_beginsExpression_0 4 rfl
theorem dX8_beginsExpression_9 : decode cX8_beginsExpression 9 = .ok (.iconst 1, 1) := zdec_at bX8_beginsExpression_0 5 rfl
theorem dX8_beginsExpression_10 : decode cX8_beginsExpression 10 = .ok (.if_icmp .eq 29, 3) := zdec_at bX8_beginsExpression_0 6 rfl
theorem dX8_beginsExpression_13 : decode cX8_beginsExpression 13 = .ok (.aload_n 0, 1) := zdec_at bX8_beginsExpression_0 7 rfl
theorem dX8_beginsExpression_14 : decode cX8_beginsExpression 14 = .ok (.getfield 27, 3) := zdec_at bX8_beginsExpression_0 8 rfl
theorem dX8_beginsExpression_17 : decode cX8_beginsExpression 17 = .ok (.aload_n 0, 1) := zdec_at bX8_beginsExpression_0 9 rfl
theorem dX8_beginsExpression_18 : decode cX8_beginsExpression 18 = .ok (.getfield 392, 3) := zdec_at bX8_beginsExpression_0 10 rfl
theorem dX8_beginsExpression_21 : decode cX8_beginsExpression 21 = .ok (.iaload, 1) := zdec_at bX8_beginsExpression_0 11 rfl
theorem dX8_beginsExpression_22 : decode cX8_beginsExpression 22 = .ok (.iconst 3, 1) := zdec_at bX8_beginsExpression_0 12 rfl
theorem dX8_beginsExpression_23 : decode cX8_beginsExpression 23 = .ok (.if_icmp .eq 16, 3) := zdec_at bX8_beginsExpression_0 13 rfl
theorem dX8_beginsExpression_26 : decode cX8_beginsExpression 26 = .ok (.aload_n 0, 1) := zdec_at bX8_beginsExpression_0 14 rfl
theorem dX8_beginsExpression_27 : decode cX8_beginsExpression 27 = .ok (.getfield 27, 3) := zdec_at bX8_beginsExpression_0 15 rfl
theorem bX8_beginsExpression_30 : zdec cX8_beginsExpression 30 [(30, .aload_n 0, 1), (31, .getfield 392, 3), (34, .iaload, 1), (35, .iconst 4, 1), (36, .if_icmp .ne 5, 3), (39, .iconst 1, 1), (40, .ireturn, 1), (41, .aload_n 0, 1), (42, .getfield 27, 3), (45, .aload_n 0, 1), (46, .getfield 392, 3), (49, .iaload, 1), (50, .iconst 5, 1), (51, .if_icmp .ne 43, 3), (54, .aload_n 0, 1), (55, .bipush 26, 2)] = true := by decide +kernel
theorem dX8_beginsExpression_30 : decode cX8_beginsExpression 30 = .ok (.aload_n 0, 1) := zdec_at bX8_beginsExpression_30 0 rfl
theorem dX8_beginsExpression_31 : decode cX8_beginsExpression 31 = .ok (.getfield 392, 3) := zdec_at bX8_beginsExpression_30 1 rfl
theorem dX8_beginsExpression_34 : decode cX8_beginsExpression 34 = .ok (.iaload, 1) := zdec_at bX8_beginsExpression_30 2 rfl
theorem dX8_beginsExpression_35 : decode cX8_beginsExpression 35 = .ok (.iconst 4, 1) := zdec_at bX8_beginsExpression_30 3 rfl
theorem dX8_beginsExpression_36 : decode cX8_beginsExpression 36 = .ok (.if_icmp .ne 5, 3) := zdec_at bX8_beginsExpression_30 4 rfl
theorem dX8_beginsExpression_39 : decode cX8_beginsExpression 39 = .ok (.iconst 1, 1) := zdec_at bX8_beginsExpression_30 5 rfl
theorem dX8_beginsExpression_40 : decode cX8_beginsExpression 40 = .ok (.ireturn, 1) := zdec_at bX8_beginsExpression_30 6 rfl
theorem dX8_beginsExpression_41 : decode cX8_beginsExpression 41 = .ok (.aload_n 0, 1) := zdec_at bX8_beginsExpression_30 7 rfl
theorem dX8_beginsExpression_42 : decode cX8_beginsExpression 42 = .ok (.getfield 27, 3) := zdec_at bX8_beginsExpression_30 8 rfl
theorem dX8_beginsExpression_45 : decode cX8_beginsExpression 45 = .ok (.aload_n 0, 1) := zdec_at bX8_beginsExpression_30 9 rfl
theorem dX8_beginsExpression_46 : decode cX8_beginsExpression 46 = .ok (.getfield 392, 3) := zdec_at bX8_beginsExpression_30 10 rfl
theorem dX8_beginsExpression_49 : decode cX8_beginsExpression 49 = .ok (.iaload, 1) := zdec_at bX8_beginsExpression_30 11 rfl
theorem dX8_beginsExpression_50 : decode cX8_beginsExpression 50 = .ok (.iconst 5, 1) := zdec_at bX8_beginsExpression_30 12 rfl
theorem dX8_beginsExpression_51 : decode cX8_beginsExpression 51 = .ok (.if_icmp .ne 43, 3) := zdec_at bX8_beginsExpression_30 13 rfl
theorem dX8_beginsExpression_54 : decode cX8_beginsExpression 54 = .ok (.aload_n 0, 1) := zdec_at bX8_beginsExpression_30 14 rfl
theorem dX8_beginsExpression_55 : decode cX8_beginsExpression 55 = .ok (.bipush 26, 2) := zdec_at bX8_beginsExpression_30 15 rfl
theorem bX8_beginsExpression_57 : zdec cX8_beginsExpression 57 [(57, .invokevirtual 398, 3), (60, .ifCond .ne 28, 3), (63, .aload_n 0, 1), (64, .bipush 28, 2), (66, .invokevirtual 398, 3), (69, .ifCond .ne 19, 3), (72, .aload_n 0, 1), (73, .bipush 24, 2), (75, .invokevirtual 398, 3), (78, .ifCond .ne 10, 3), (81, .aload_n 0, 1), (82, .invokevirtual 433, 3), (85, .ifCond .eq 7, 3), (88, .iconst 1, 1), (89, .goto 4, 3), (92, .iconst 0, 1)] = true := by decide +kernel
theorem dX8_beginsExpression_57 : decode cX8_beginsExpression 57 = .ok (.invokevirtual 398, 3) := zdec_at bX8_beginsExpression_57 0 rfl
theorem dX8_beginsExpression_60 : decode cX8_beginsExpression 60 = .ok (.ifCond .ne 28, 3) := zdec_at bX8_beginsExpression_57 1 rfl
theorem dX8_beginsExpression_63 : decode cX8_beginsExpression 63 = .ok (.aload_n 0, 1) := zdec_at bX8_beginsExpression_57 2 rfl
theorem dX8_beginsExpression_64 : decode cX8_beginsExpression 64 = .ok (.bipush 28, 2) := zdec_at bX8_beginsExpression_57 3 rfl
theorem dX8_beginsExpression_66 : decode cX8_beginsExpression 66 = .ok (.invokevirtual 398, 3) := zdec_at bX8_beginsExpression_57 4 rfl
theorem dX8_beginsExpression_69 : decode cX8_beginsExpression 69 = .ok (.ifCond .ne 19, 3) := zdec_at bX8_beginsExpression_57 5 rfl
theorem dX8_beginsExpression_72 : decode cX8_beginsExpression 72 = .ok (.aload_n 0, 1) := zdec_at bX8_beginsExpression_57 6 rfl
theorem dX8_beginsExpression_73 : decode cX8_beginsExpression 73 = .ok (.bipush 24, 2) := zdec_at bX8_beginsExpression_57 7 rfl
theorem dX8_beginsExpression_75 : decode cX8_beginsExpression 75 = .ok (.invokevirtual 398, 3) := zdec_at bX8_beginsExpression_57 8 rfl
theorem dX8_beginsExpression_78 : decode cX8_beginsExpression 78 = .ok (.ifCond .ne 10, 3) := zdec_at bX8_beginsExpression_57 9 rfl
theorem dX8_beginsExpression_81 : decode cX8_beginsExpression 81 = .ok (.aload_n 0, 1) := zdec_at bX8_beginsExpression_57 10 rfl
theorem dX8_beginsExpression_82 : decode cX8_beginsExpression 82 = .ok (.invokevirtual 433, 3) := zdec_at bX8_beginsExpression_57 11 rfl
theorem dX8_beginsExpression_85 : decode cX8_beginsExpression 85 = .ok (.ifCond .eq 7, 3) := zdec_at bX8_beginsExpression_57 12 rfl
theorem dX8_beginsExpression_88 : decode cX8_beginsExpression 88 = .ok (.iconst 1, 1) := zdec_at bX8_beginsExpression_57 13 rfl
theorem dX8_beginsExpression_89 : decode cX8_beginsExpression 89 = .ok (.goto 4, 3) := zdec_at bX8_beginsExpression_57 14 rfl
theorem dX8_beginsExpression_92 : decode cX8_beginsExpression 92 = .ok (.iconst 0, 1) := zdec_at bX8_beginsExpression_57 15 rfl
theorem bX8_beginsExpression_93 : zdec cX8_beginsExpression 93 [(93, .ireturn, 1), (94, .aload_n 0, 1), (95, .getfield 27, 3), (98, .aload_n 0, 1), (99, .getfield 392, 3), (102, .iaload, 1), (103, .iconst 2, 1), (104, .if_icmp .eq 5, 3), (107, .iconst 0, 1), (108, .ireturn, 1), (109, .aload_n 0, 1), (110, .invokevirtual 433, 3), (113, .ifCond .ne 37, 3), (116, .aload_n 0, 1), (117, .bipush 20, 2), (119, .invokevirtual 404, 3)] = true := by decide +kernel
theorem dX8_beginsExpression_93 : decode cX8_beginsExpression 93 = .ok (.ireturn, 1) := zdec_at bX8_beginsExpression_93 0 rfl
theorem dX8_beginsExpression_94 : decode cX8_beginsExpression 94 = .ok (.aload_n 0, 1) := zdec_at bX8_beginsExpression_93 1 rfl
theorem dX8_beginsExpression_95 : decode cX8_beginsExpression 95 = .ok (.getfield 27, 3) := zdec_at bX8_beginsExpression_93 2 rfl
theorem dX8_beginsExpression_98 : decode cX8_beginsExpression 98 = .ok (.aload_n 0, 1) := zdec_at bX8_beginsExpression_93 3 rfl
theorem dX8_beginsExpression_99 : decode cX8_beginsExpression 99 = .ok (.getfield 392, 3) := zdec_at bX8_beginsExpression_93 4 rfl
theorem dX8_beginsExpression_102 : decode cX8_beginsExpression 102 = .ok (.iaload, 1) := zdec_at bX8_beginsExpression_93 5 rfl
theorem dX8_beginsExpression_103 : decode cX8_beginsExpression 103 = .ok (.iconst 2, 1) := zdec_at bX8_beginsExpression_93 6 rfl
theorem dX8_beginsExpression_104 : decode cX8_beginsExpression 104 = .ok (.if_icmp .eq 5, 3) := zdec_at bX8_beginsExpression_93 7 rfl
theorem dX8_beginsExpression_107 : decode cX8_beginsExpression 107 = .ok (.iconst 0, 1) := zdec_at bX8_beginsExpression_93 8 rfl
theorem dX8_beginsExpression_108 : decode cX8_beginsExpression 108 = .ok (.ireturn, 1) := zdec_at bX8_beginsExpression_93 9 rfl
theorem dX8_beginsExpression_109 : decode cX8_beginsExpression 109 = .ok (.aload_n 0, 1) := zdec_at bX8_beginsExpression_93 10 rfl
theorem dX8_beginsExpression_110 : decode cX8_beginsExpression 110 = .ok (.invokevirtual 433, 3) := zdec_at bX8_beginsExpression_93 11 rfl
theorem dX8_beginsExpression_113 : decode cX8_beginsExpression 113 = .ok (.ifCond .ne 37, 3) := zdec_at bX8_beginsExpression_93 12 rfl
theorem dX8_beginsExpression_116 : decode cX8_beginsExpression 116 = .ok (.aload_n 0, 1) := zdec_at bX8_beginsExpression_93 13 rfl
theorem dX8_beginsExpression_117 : decode cX8_beginsExpression 117 = .ok (.bipush 20, 2) := zdec_at bX8_beginsExpression_93 14 rfl
theorem dX8_beginsExpression_119 : decode cX8_beginsExpression 119 = .ok (.invokevirtual 404, 3) := zdec_at bX8_beginsExpression_93 15 rfl
theorem bX8_beginsExpression_122 : zdec cX8_beginsExpression 122 [(122, .ifCond .ne 28, 3), (125, .aload_n 0, 1), (126, .bipush 16, 2), (128, .invokevirtual 404, 3), (131, .ifCond .ne 19, 3), (134, .aload_n 0, 1), (135, .bipush 11, 2), (137, .invokevirtual 404, 3), (140, .ifCond .ne 10, 3), (143, .aload_n 0, 1), (144, .invokevirtual 436, 3), (147, .ifCond .eq 7, 3), (150, .iconst 1, 1), (151, .goto 4, 3), (154, .iconst 0, 1), (155, .ireturn, 1)] = true := by decide +kernel
theorem dX8_beginsExpression_122 : decode cX8_beginsExpression 122 = .ok (.ifCond .ne 28, 3) := zdec_at bX8_beginsExpression_122 0 rfl
theorem dX8_beginsExpression_125 : decode cX8_beginsExpression 125 = .ok (.aload_n 0, 1) := zdec_at bX8_beginsExpression_122 1 rfl
theorem dX8_beginsExpression_126 : decode cX8_beginsExpression 126 = .ok (.bipush 16, 2) := zdec_at bX8_beginsExpression_122 2 rfl
theorem dX8_beginsExpression_128 : decode cX8_beginsExpression 128 = .ok (.invokevirtual 404, 3) := zdec_at bX8_beginsExpression_122 3 rfl
theorem dX8_beginsExpression_131 : decode cX8_beginsExpression 131 = .ok (.ifCond .ne 19, 3) := zdec_at bX8_beginsExpression_122 4 rfl
theorem dX8_beginsExpression_134 : decode cX8_beginsExpression 134 = .ok (.aload_n 0, 1) := zdec_at bX8_beginsExpression_122 5 rfl
theorem dX8_beginsExpression_135 : decode cX8_beginsExpression 135 = .ok (.bipush 11, 2) := zdec_at bX8_beginsExpression_122 6 rfl
theorem dX8_beginsExpression_137 : decode cX8_beginsExpression 137 = .ok (.invokevirtual 404, 3) := zdec_at bX8_beginsExpression_122 7 rfl
theorem dX8_beginsExpression_140 : decode cX8_beginsExpression 140 = .ok (.ifCond .ne 10, 3) := zdec_at bX8_beginsExpression_122 8 rfl
theorem dX8_beginsExpression_143 : decode cX8_beginsExpression 143 = .ok (.aload_n 0, 1) := zdec_at bX8_beginsExpression_122 9 rfl
theorem dX8_beginsExpression_144 : decode cX8_beginsExpression 144 = .ok (.invokevirtual 436, 3) := zdec_at bX8_beginsExpression_122 10 rfl
theorem dX8_beginsExpression_147 : decode cX8_beginsExpression 147 = .ok (.ifCond .eq 7, 3) := zdec_at bX8_beginsExpression_122 11 rfl
theorem dX8_beginsExpression_150 : decode cX8_beginsExpression 150 = .ok (.iconst 1, 1) := zdec_at bX8_beginsExpression_122 12 rfl
theorem dX8_beginsExpression_151 : decode cX8_beginsExpression 151 = .ok (.goto 4, 3) := zdec_at bX8_beginsExpression_122 13 rfl
theorem dX8_beginsExpression_154 : decode cX8_beginsExpression 154 = .ok (.iconst 0, 1) := zdec_at bX8_beginsExpression_122 14 rfl
theorem dX8_beginsExpression_155 : decode cX8_beginsExpression 155 = .ok (.ireturn, 1) := zdec_at bX8_beginsExpression_122 15 rfl
theorem sX8_beginsExpression_0 {E : zE} {d : Nat} {Q : zO → zM → Prop} (M : zM)  (k : vp_in (gi M 97 20) 4002 ∧ (if (gi M 103 ((gi M 97 20)).toNatClampNeg) = (1 : Int32) then (Q (.inl (some (vi (1 : Int32)))) M) else (vp_in (gi M 97 20) 4002 ∧ (if (gi M 103 ((gi M 97 20)).toNatClampNeg) = (3 : Int32) then (Q (.inl (some (vi (1 : Int32)))) M) else (vp_in (gi M 97 20) 4002 ∧ (if (gi M 103 ((gi M 97 20)).toNatClampNeg) = (4 : Int32) then (Q (.inl (some (vi (1 : Int32)))) M) else (vp_in (gi M 97 20) 4002 ∧ (if (gi M 103 ((gi M 97 20)).toNatClampNeg) = (5 : Int32) then (Zm E YX8_isSign d M (zargs 0 [vr (some (97, 1, 0)), vi (26 : Int32)]) 0 [] (zma E YX8_beginsExpression (d + 1) [(0, vr (some (97, 1, 0)))] 57 3 [] Q)) else (vp_in (gi M 97 20) 4002 ∧ (if (gi M 103 ((gi M 97 20)).toNatClampNeg) = (2 : Int32) then (Zm E YX8_isPrefix d M (zargs 0 [vr (some (97, 1, 0))]) 0 [] (zma E YX8_beginsExpression (d + 1) [(0, vr (some (97, 1, 0)))] 110 3 [] Q)) else (Q (.inl (some (vi (0 : Int32)))) M))))))))))) : Zm E YX8_beginsExpression (d + 1) M [(0, vr (some (97, 1, 0)))] 0 [] Q := by
  refine Zm.l (fun _ _ k_ => z_aload_n dX8_beginsExpression_0 rfl rfl k_) ?_
  refine zm_getr 5 dX8_beginsExpression_1 fsX8_27_1 rfl ?_
  refine Zm.l (fun _ _ k_ => z_aload_n dX8_beginsExpression_4 rfl rfl k_) ?_
  refine zm_geti dX8_beginsExpression_5 fsX8_392_1 (by decide) (by decide) ?_
  obtain ⟨b_, k⟩ := k
  refine zm_iald dX8_beginsExpression_8 b_ (by decide) (by decide) ?_
  refine Zm.l (fun _ _ k_ => z_iconst (v := 1) dX8_beginsExpression_9 rfl k_) ?_
  refine Zm.br (fun _ _ k1_ k2_ => z_icmp_eq (tgt := 39) dX8_beginsExpression_10 rfl k1_ k2_) (fun h_ => ?_) (fun h_ => ?_)
  · have k := zit h_ k
    refine Zm.l (fun _ _ k_ => z_iconst (v := 1) dX8_beginsExpression_39 rfl k_) ?_
    exact zm_iret dX8_beginsExpression_40 rfl (by decide) k
  · have k := zif h_ k
    refine Zm.l (fun _ _ k_ => z_aload_n dX8_beginsExpression_13 rfl rfl k_) ?_
    refine zm_getr 5 dX8_beginsExpression_14 fsX8_27_1 rfl ?_
    refine Zm.l (fun _ _ k_ => z_aload_n dX8_beginsExpression_17 rfl rfl k_) ?_
    refine zm_geti dX8_beginsExpression_18 fsX8_392_1 (by decide) (by decide) ?_
    obtain ⟨b_, k⟩ := k
    refine zm_iald dX8_beginsExpression_21 b_ (by decide) (by decide) ?_
    refine Zm.l (fun _ _ k_ => z_iconst (v := 3) dX8_beginsExpression_22 rfl k_) ?_
    refine Zm.br (fun _ _ k1_ k2_ => z_icmp_eq (tgt := 39) dX8_beginsExpression_23 rfl k1_ k2_) (fun h_ => ?_) (fun h_ => ?_)
    · have k := zit h_ k
      refine Zm.l (fun _ _ k_ => z_iconst (v := 1) dX8_beginsExpression_39 rfl k_) ?_
      exact zm_iret dX8_beginsExpression_40 rfl (by decide) k
    · have k := zif h_ k
      refine Zm.l (fun _ _ k_ => z_aload_n dX8_beginsExpression_26 rfl rfl k_) ?_
      refine zm_getr 5 dX8_beginsExpression_27 fsX8_27_1 rfl ?_
      refine Zm.l (fun _ _ k_ => z_aload_n dX8_beginsExpression_30 rfl rfl k_) ?_
      refine zm_geti dX8_beginsExpression_31 fsX8_392_1 (by decide) (by decide) ?_
      obtain ⟨b_, k⟩ := k
      refine zm_iald dX8_beginsExpression_34 b_ (by decide) (by decide) ?_
      refine Zm.l (fun _ _ k_ => z_iconst (v := 4) dX8_beginsExpression_35 rfl k_) ?_
      refine Zm.brn (fun _ _ k1_ k2_ => z_icmp_ne (tgt := 41) dX8_beginsExpression_36 rfl k1_ k2_) (fun h_ => ?_) (fun h_ => ?_)
      · have k := zif h_ k
        refine Zm.l (fun _ _ k_ => z_aload_n dX8_beginsExpression_41 rfl rfl k_) ?_
        refine zm_getr 5 dX8_beginsExpression_42 fsX8_27_1 rfl ?_
        refine Zm.l (fun _ _ k_ => z_aload_n dX8_beginsExpression_45 rfl rfl k_) ?_
        refine zm_geti dX8_beginsExpression_46 fsX8_392_1 (by decide) (by decide) ?_
        obtain ⟨b_, k⟩ := k
        refine zm_iald dX8_beginsExpression_49 b_ (by decide) (by decide) ?_
        refine Zm.l (fun _ _ k_ => z_iconst (v := 5) dX8_beginsExpression_50 rfl k_) ?_
        refine Zm.brn (fun _ _ k1_ k2_ => z_icmp_ne (tgt := 94) dX8_beginsExpression_51 rfl k1_ k2_) (fun h_ => ?_) (fun h_ => ?_)
        · have k := zif h_ k
          refine Zm.l (fun _ _ k_ => z_aload_n dX8_beginsExpression_94 rfl rfl k_) ?_
          refine zm_getr 5 dX8_beginsExpression_95 fsX8_27_1 rfl ?_
          refine Zm.l (fun _ _ k_ => z_aload_n dX8_beginsExpression_98 rfl rfl k_) ?_
          refine zm_geti dX8_beginsExpression_99 fsX8_392_1 (by decide) (by decide) ?_
          obtain ⟨b_, k⟩ := k
          refine zm_iald dX8_beginsExpression_102 b_ (by decide) (by decide) ?_
          refine Zm.l (fun _ _ k_ => z_iconst (v := 2) dX8_beginsExpression_103 rfl k_) ?_
          refine Zm.br (fun _ _ k1_ k2_ => z_icmp_eq (tgt := 109) dX8_beginsExpression_104 rfl k1_ k2_) (fun h_ => ?_) (fun h_ => ?_)
          · have k := zit h_ k
            refine Zm.l (fun _ _ k_ => z_aload_n dX8_beginsExpression_109 rfl rfl k_) ?_
            exact zm_callV (as := []) (st := []) dX8_beginsExpression_110 vsX8_433_1 (Nat.le_refl _) (Nat.le_of_ble_eq_true rfl) (Nat.le_of_ble_eq_true rfl) rfl k
          · have k := zif h_ k
            refine Zm.l (fun _ _ k_ => z_iconst (v := 0) dX8_beginsExpression_107 rfl k_) ?_
            exact zm_iret dX8_beginsExpression_108 rfl (by decide) k
        · have k := zit h_ k
          refine Zm.l (fun _ _ k_ => z_aload_n dX8_beginsExpression_54 rfl rfl k_) ?_
          refine Zm.l (fun _ _ k_ => z_bipush (v := 26) dX8_beginsExpression_55 rfl k_) ?_
          exact zm_callV (as := [vi (26 : Int32)]) (st := []) dX8_beginsExpression_57 vsX8_398_1 (Nat.le_refl _) (Nat.le_of_ble_eq_true rfl) (Nat.le_of_ble_eq_true rfl) rfl k
      · have k := zit h_ k
        refine Zm.l (fun _ _ k_ => z_iconst (v := 1) dX8_beginsExpression_39 rfl k_) ?_
        exact zm_iret dX8_beginsExpression_40 rfl (by decide) k
theorem sX8_beginsExpression_60 {E : zE} {d : Nat} {Q : zO → zM → Prop} (M : zM) (s0 : Int32) (k : if s0 = 0 then (Zm E YX8_isSign d M (zargs 0 [vr (some (97, 1, 0)), vi (28 : Int32)]) 0 [] (zma E YX8_beginsExpression (d + 1) [(0, vr (some (97, 1, 0)))] 66 3 [] Q)) else (Q (.inl (some (vi (1 : Int32)))) M)) : Zm E YX8_beginsExpression (d + 1) M [(0, vr (some (97, 1, 0)))] 60 [vi s0] Q := by
  refine Zm.brn (fun _ _ k1_ k2_ => z_if_ne (tgt := 88) dX8_beginsExpression_60 rfl k1_ k2_) (fun h_ => ?_) (fun h_ => ?_)
  · have k := zif h_ k
    refine Zm.l (fun _ _ k_ => z_iconst (v := 1) dX8_beginsExpression_88 rfl k_) ?_
    refine Zm.l (fun _ _ k_ => z_goto (tgt := 93) dX8_beginsExpression_89 rfl k_) ?_
    exact zm_iret dX8_beginsExpression_93 rfl (by decide) k
  · have k := zit h_ k
    refine Zm.l (fun _ _ k_ => z_aload_n dX8_beginsExpression_63 rfl rfl k_) ?_
    refine Zm.l (fun _ _ k_ => z_bipush (v := 28) dX8_beginsExpression_64 rfl k_) ?_
    exact zm_callV (as := [vi (28 : Int32)]) (st := []) dX8_beginsExpression_66 vsX8_398_1 (Nat.le_refl _) (Nat.le_of_ble_eq_true rfl) (Nat.le_of_ble_eq_true rfl) rfl k
theorem sX8_beginsExpression_69 {E : zE} {d : Nat} {Q : zO → zM → Prop} (M : zM) (s0 : Int32) (k : if s0 = 0 then (Zm E YX8_isSign d M (zargs 0 [vr (some (97, 1, 0)), vi (24 : Int32)]) 0 [] (zma E YX8_beginsExpression (d + 1) [(0, vr (some (97, 1, 0)))] 75 3 [] Q)) else (Q (.inl (some (vi (1 : Int32)))) M)) : Zm E YX8_beginsExpression (d + 1) M [(0, vr (some (97, 1, 0)))] 69 [vi s0] Q := by
  refine Zm.brn (fun _ _ k1_ k2_ => z_if_ne (tgt := 88) dX8_beginsExpression_69 rfl k1_ k2_) (fun h_ => ?_) (fun h_ => ?_)
  · have k := zif h_ k
    refine Zm.l (fun _ _ k_ => z_iconst (v := 1) dX8_beginsExpression_88 rfl k_) ?_
    refine Zm.l (fun _ _ k_ => z_goto (tgt := 93) dX8_beginsExpression_89 rfl k_) ?_
    exact zm_iret dX8_beginsExpression_93 rfl (by decide) k
  · have k := zit h_ k
    refine Zm.l (fun _ _ k_ => z_aload_n dX8_beginsExpression_72 rfl rfl k_) ?_
    refine Zm.l (fun _ _ k_ => z_bipush (v := 24) dX8_beginsExpression_73 rfl k_) ?_
    exact zm_callV (as := [vi (24 : Int32)]) (st := []) dX8_beginsExpression_75 vsX8_398_1 (Nat.le_refl _) (Nat.le_of_ble_eq_true rfl) (Nat.le_of_ble_eq_true rfl) rfl k
theorem sX8_beginsExpression_78 {E : zE} {d : Nat} {Q : zO → zM → Prop} (M : zM) (s0 : Int32) (k : if s0 = 0 then (Zm E YX8_isPrefix d M (zargs 0 [vr (some (97, 1, 0))]) 0 [] (zma E YX8_beginsExpression (d + 1) [] 82 3 [] Q)) else (Q (.inl (some (vi (1 : Int32)))) M)) : Zm E YX8_beginsExpression (d + 1) M [(0, vr (some (97, 1, 0)))] 78 [vi s0] Q := by
  refine Zm.brn (fun _ _ k1_ k2_ => z_if_ne (tgt := 88) dX8_beginsExpression_78 rfl k1_ k2_) (fun h_ => ?_) (fun h_ => ?_)
  · have k := zif h_ k
    refine Zm.l (fun _ _ k_ => z_iconst (v := 1) dX8_beginsExpression_88 rfl k_) ?_
    refine Zm.l (fun _ _ k_ => z_goto (tgt := 93) dX8_beginsExpression_89 rfl k_) ?_
    exact zm_iret dX8_beginsExpression_93 rfl (by decide) k
  · have k := zit h_ k
    refine Zm.l (fun _ _ k_ => z_aload_n dX8_beginsExpression_81 rfl rfl k_) ?_
    refine Zm.pick [] rfl ?_
    exact zm_callV (as := []) (st := []) dX8_beginsExpression_82 vsX8_433_1 (Nat.le_refl _) (Nat.le_of_ble_eq_true rfl) (Nat.le_of_ble_eq_true rfl) rfl k
theorem sX8_beginsExpression_85 {E : zE} {d : Nat} {Q : zO → zM → Prop} (M : zM) (s0 : Int32) (k : if s0 = 0 then (Q (.inl (some (vi (0 : Int32)))) M) else (Q (.inl (some (vi (1 : Int32)))) M)) : Zm E YX8_beginsExpression (d + 1) M [] 85 [vi s0] Q := by
  refine Zm.br (fun _ _ k1_ k2_ => z_if_eq (tgt := 92) dX8_beginsExpression_85 rfl k1_ k2_) (fun h_ => ?_) (fun h_ => ?_)
  · have k := zit h_ k
    refine Zm.l (fun _ _ k_ => z_iconst (v := 0) dX8_beginsExpression_92 rfl k_) ?_
    exact zm_iret dX8_beginsExpression_93 rfl (by decide) k
  · have k := zif h_ k
    refine Zm.l (fun _ _ k_ => z_iconst (v := 1) dX8_beginsExpression_88 rfl k_) ?_
    refine Zm.l (fun _ _ k_ => z_goto (tgt := 93) dX8_beginsExpression_89 rfl k_) ?_
    exact zm_iret dX8_beginsExpression_93 rfl (by decide) k
theorem sX8_beginsExpression_113 {E : zE} {d : Nat} {Q : zO → zM → Prop} (M : zM) (s0 : Int32) (k : if s0 = 0 then (Zm E YX8_isKeyword d M (zargs 0 [vr (some (97, 1, 0)), vi (20 : Int32)]) 0 [] (zma E YX8_beginsExpression (d + 1) [(0, vr (some (97, 1, 0)))] 119 3 [] Q)) else (Q (.inl (some (vi (1 : Int32)))) M)) : Zm E YX8_beginsExpression (d + 1) M [(0, vr (some (97, 1, 0)))] 113 [vi s0] Q := by
  refine Zm.brn (fun _ _ k1_ k2_ => z_if_ne (tgt := 150) dX8_beginsExpression_113 rfl k1_ k2_) (fun h_ => ?_) (fun h_ => ?_)
  · have k := zif h_ k
    refine Zm.l (fun _ _ k_ => z_iconst (v := 1) dX8_beginsExpression_150 rfl k_) ?_
    refine Zm.l (fun _ _ k_ => z_goto (tgt := 155) dX8_beginsExpression_151 rfl k_) ?_
    exact zm_iret dX8_beginsExpression_155 rfl (by decide) k
  · have k := zit h_ k
    refine Zm.l (fun _ _ k_ => z_aload_n dX8_beginsExpression_116 rfl rfl k_) ?_
    refine Zm.l (fun _ _ k_ => z_bipush (v := 20) dX8_beginsExpression_117 rfl k_) ?_
    exact zm_callV (as := [vi (20 : Int32)]) (st := []) dX8_beginsExpression_119 vsX8_404_1 (Nat.le_refl _) (Nat.le_of_ble_eq_true rfl) (Nat.le_of_ble_eq_true rfl) rfl k
theorem sX8_beginsExpression_122 {E : zE} {d : Nat} {Q : zO → zM → Prop} (M : zM) (s0 : Int32) (k : if s0 = 0 then (Zm E YX8_isKeyword d M (zargs 0 [vr (some (97, 1, 0)), vi (16 : Int32)]) 0 [] (zma E YX8_beginsExpression (d + 1) [(0, vr (some (97, 1, 0)))] 128 3 [] Q)) else (Q (.inl (some (vi (1 : Int32)))) M)) : Zm E YX8_beginsExpression (d + 1) M [(0, vr (some (97, 1, 0)))] 122 [vi s0] Q := by
  refine Zm.brn (fun _ _ k1_ k2_ => z_if_ne (tgt := 150) dX8_beginsExpression_122 rfl k1_ k2_) (fun h_ => ?_) (fun h_ => ?_)
  · have k := zif h_ k
    refine Zm.l (fun _ _ k_ => z_iconst (v := 1) dX8_beginsExpression_150 rfl k_) ?_
    refine Zm.l (fun _ _ k_ => z_goto (tgt := 155) dX8_beginsExpression_151 rfl k_) ?_
    exact zm_iret dX8_beginsExpression_155 rfl (by decide) k
  · have k := zit h_ k
    refine Zm.l (fun _ _ k_ => z_aload_n dX8_beginsExpression_125 rfl rfl k_) ?_
    refine Zm.l (fun _ _ k_ => z_bipush (v := 16) dX8_beginsExpression_126 rfl k_) ?_
    exact zm_callV (as := [vi (16 : Int32)]) (st := []) dX8_beginsExpression_128 vsX8_404_1 (Nat.le_refl _) (Nat.le_of_ble_eq_true rfl) (Nat.le_of_ble_eq_true rfl) rfl k
theorem sX8_beginsExpression_131 {E : zE} {d : Nat} {Q : zO → zM → Prop} (M : zM) (s0 : Int32) (k : if s0 = 0 then (Zm E YX8_isKeyword d M (zargs 0 [vr (some (97, 1, 0)), vi (11 : Int32)]) 0 [] (zma E YX8_beginsExpression (d + 1) [(0, vr (some (97, 1, 0)))] 137 3 [] Q)) else (Q (.inl (some (vi (1 : Int32)))) M)) : Zm E YX8_beginsExpression (d + 1) M [(0, vr (some (97, 1, 0)))] 131 [vi s0] Q := by
  refine Zm.brn (fun _ _ k1_ k2_ => z_if_ne (tgt := 150) dX8_beginsExpression_131 rfl k1_ k2_) (fun h_ => ?_) (fun h_ => ?_)
  · have k := zif h_ k
    refine Zm.l (fun _ _ k_ => z_iconst (v := 1) dX8_beginsExpression_150 rfl k_) ?_
    refine Zm.l (fun _ _ k_ => z_goto (tgt := 155) dX8_beginsExpression_151 rfl k_) ?_
    exact zm_iret dX8_beginsExpression_155 rfl (by decide) k
  · have k := zit h_ k
    refine Zm.l (fun _ _ k_ => z_aload_n dX8_beginsExpression_134 rfl rfl k_) ?_
    refine Zm.l (fun _ _ k_ => z_bipush (v := 11) dX8_beginsExpression_135 rfl k_) ?_
    exact zm_callV (as := [vi (11 : Int32)]) (st := []) dX8_beginsExpression_137 vsX8_404_1 (Nat.le_refl _) (Nat.le_of_ble_eq_true rfl) (Nat.le_of_ble_eq_true rfl) rfl k
theorem sX8_beginsExpression_140 {E : zE} {d : Nat} {Q : zO → zM → Prop} (M : zM) (s0 : Int32) (k : if s0 = 0 then (Zm E YX8_isLiteral d M (zargs 0 [vr (some (97, 1, 0))]) 0 [] (zma E YX8_beginsExpression (d + 1) [] 144 3 [] Q)) else (Q (.inl (some (vi (1 : Int32)))) M)) : Zm E YX8_beginsExpression (d + 1) M [(0, vr (some (97, 1, 0)))] 140 [vi s0] Q := by
  refine Zm.brn (fun _ _ k1_ k2_ => z_if_ne (tgt := 150) dX8_beginsExpression_140 rfl k1_ k2_) (fun h_ => ?_) (fun h_ => ?_)
  · have k := zif h_ k
    refine Zm.l (fun _ _ k_ => z_iconst (v := 1) dX8_beginsExpression_150 rfl k_) ?_
    refine Zm.l (fun _ _ k_ => z_goto (tgt := 155) dX8_beginsExpression_151 rfl k_) ?_
    exact zm_iret dX8_beginsExpression_155 rfl (by decide) k
  · have k := zit h_ k
    refine Zm.l (fun _ _ k_ => z_aload_n dX8_beginsExpression_143 rfl rfl k_) ?_
    refine Zm.pick [] rfl ?_
    exact zm_callV (as := []) (st := []) dX8_beginsExpression_144 vsX8_436_1 (Nat.le_refl _) (Nat.le_of_ble_eq_true rfl) (Nat.le_of_ble_eq_true rfl) rfl k
theorem sX8_beginsExpression_147 {E : zE} {d : Nat} {Q : zO → zM → Prop} (M : zM) (s0 : Int32) (k : if s0 = 0 then (Q (.inl (some (vi (0 : Int32)))) M) else (Q (.inl (some (vi (1 : Int32)))) M)) : Zm E YX8_beginsExpression (d + 1) M [] 147 [vi s0] Q := by
  refine Zm.br (fun _ _ k1_ k2_ => z_if_eq (tgt := 154) dX8_beginsExpression_147 rfl k1_ k2_) (fun h_ => ?_) (fun h_ => ?_)
  · have k := zit h_ k
    refine Zm.l (fun _ _ k_ => z_iconst (v := 0) dX8_beginsExpression_154 rfl k_) ?_
    exact zm_iret dX8_beginsExpression_155 rfl (by decide) k
  · have k := zif h_ k
    refine Zm.l (fun _ _ k_ => z_iconst (v := 1) dX8_beginsExpression_150 rfl k_) ?_
    refine Zm.l (fun _ _ k_ => z_goto (tgt := 155) dX8_beginsExpression_151 rfl k_) ?_
    exact zm_iret dX8_beginsExpression_155 rfl (by decide) k
