/-! ScriptTypesModel.behind(I)V -/
theorem bX8_behind_0 : zdec cX8_behind 0 [(0, .aload_n 0, 1), (1, .iload_n 1, 1), (2, .iconst 0, 1), (3, .invokevirtual 644, 3), (6, .istore_n 2, 1), (7, .aload_n 0, 1), (8, .iload_n 1, 1), (9, .iconst 1, 1), (10, .invokevirtual 644, 3), (13, .istore_n 3, 1), (14, .aload_n 0, 1), (15, .getfield 42, 3), (18, .iload_n 1, 1), (19, .iaload, 1)] = true := by decide +kernel
theorem dX8_behind_0 : decode cX8_behind 0 = .ok (.aload_n 0, 1) := zdec_at bX8_behind_0 0 rfl
theorem dX8_behind_1 : decode cX8_behind 1 = .ok (.iload_n 1, 1) := zdec_at bX8_behind_0 1 rfl
theorem dX8_behind_2 : decode cX8_behind 2 = .ok (.iconst 0, 1) := zdec_at bX8_behind_0 2 rfl
theorem dX8_behind_3 : decode cX8_behind 3 = .ok (.invokevirtual 644, 3) := zdec_at bX8_behind_0 3 rfl
theorem dX8_behind_6 : decode cX8_behind 6 = .ok (.istore_n 2, 1) := zdec_at bX8_behind_0 4 rfl
theorem dX8_behind_7 : decode cX8_behind 7 = .ok (.aload_n 0, 1) := zdec_at bX8_behind_0 5 rfl
theorem dX8_behind_8 : decode cX8_behind 8 = .ok (.iload_n 1, 1) := zdec_at bX8_behind_0 6 rfl
theorem dX8_behind_9 : decode cX8_behind 9 = .ok (.iconst 1, 1) := zdec_at bX8_behind_0 7 rfl
theorem dX8_behind_10 : decode cX8_behind 10 = .ok (.invokevirtual 644, 3) := zdec_at bX8_behind_0 8 rfl
theorem dX8_behind_13 : decode cX8_behind 13 = .ok (.istore_n 3, 1) := zdec_at bX8_behind_0 9 rfl
theorem dX8_behind_14 : decode cX8_behind 14 = .ok (.aload_n 0, 1) := zdec_at bX8_behind_0 10 rfl
theorem dX8_behind_15 : decode cX8_behind 15 = .ok (.getfield 42, 3) := zdec_at bX8_behind_0 11 rfl
theorem dX8_behind_18 : decode cX8_behind 18 = .ok (.iload_n 1, 1) := zdec_at bX8_behind_0 12 rfl
theorem dX8_behind_19 : decode cX8_behind 19 = .ok (.iaload, 1) := zdec_at bX8_behind_0 13 rfl
theorem dX8_behind_20 : decode cX8_behind 20 = .ok (.tableswitch 150 3 11 #[52, 150, 150, 150, 66, 101, 150, 150, 80], 52) := by decide +kernel
theorem bX8_behind_72 : zdec cX8_behind 72 [(72, .aload_n 0, 1), (73, .bipush 17, 2), (75, .invokevirtual 666, 3), (78, .aload_n 0, 1), (79, .iload_n 3, 1), (80, .invokevirtual 668, 3), (83, .goto 129, 3), (86, .aload_n 0, 1), (87, .iload_n 3, 1), (88, .invokevirtual 668, 3), (91, .aload_n 0, 1), (92, .bipush 10, 2), (94, .invokevirtual 666, 3), (97, .goto 115, 3), (100, .aload_n 0, 1), (101, .aload_n 0, 1)] = true := by decide +kernel
theorem dX8_behind_72 : decode cX8_behind 72 = .ok (.aload_n 0, 1) := zdec_at bX8_behind_72 0 rfl
theorem dX8_behind_73 : decode cX8_behind 73 = .ok (.bipush 17, 2) := zdec_at bX8_behind_72 1 rfl
theorem dX8_behind_75 : decode cX8_behind 75 = .ok (.invokevirtual 666, 3) := zdec_at bX8_behind_72 2 rfl
theorem dX8_behind_78 : decode cX8_behind 78 = .ok (.aload_n 0, 1) := zdec_at bX8_behind_72 3 rfl
theorem dX8_behind_79 : decode cX8_behind 79 = .ok (.iload_n 3, 1) := zdec_at bX8_behind_72 4 rfl
theorem dX8_behind_80 : decode cX8_behind 80 = .ok (.invokevirtual 668, 3) := zdec_at bX8_behind_72 5 rfl
theorem dX8_behind_83 : decode cX8_behind 83 = .ok (.goto 129, 3) := zdec_at bX8_behind_72 6 rfl
theorem dX8_behind_86 : decode cX8_behind 86 = .ok (.aload_n 0, 1) := zdec_at bX8_behind_72 7 rfl
theorem dX8_behind_87 : decode cX8_behind 87 = .ok (.iload_n 3, 1) := zdec_at bX8_behind_72 8 rfl
theorem dX8_behind_88 : decode cX8_behind 88 = .ok (.invokevirtual 668, 3) := zdec_at bX8_behind_72 9 rfl
theorem dX8_behind_91 : decode cX8_behind 91 = .ok (.aload_n 0, 1) := zdec_at bX8_behind_72 10 rfl
theorem dX8_behind_92 : decode cX8_behind 92 = .ok (.bipush 10, 2) := zdec_at bX8_behind_72 11 rfl
theorem dX8_behind_94 : decode cX8_behind 94 = .ok (.invokevirtual 666, 3) := zdec_at bX8_behind_72 12 rfl
theorem dX8_behind_97 : decode cX8_behind 97 = .ok (.goto 115, 3) := zdec_at bX8_behind_72 13 rfl
theorem dX8_behind_100 : decode cX8_behind 100 = .ok (.aload_n 0, 1) := zdec_at bX8_behind_72 14 rfl
theorem dX8_behind_101 : decode cX8_behind 101 = .ok (.aload_n 0, 1) := zdec_at bX8_behind_72 15 rfl
theorem bX8_behind_102 : zdec cX8_behind 102 [(102, .iload_n 1, 1), (103, .iconst 2, 1), (104, .invokevirtual 644, 3), (107, .invokevirtual 668, 3), (110, .aload_n 0, 1), (111, .bipush 14, 2), (113, .iload_n 2, 1), (114, .iconst 0, 1), (115, .invokevirtual 615, 3), (118, .goto 94, 3), (121, .aload_n 0, 1), (122, .iload_n 1, 1), (123, .invokevirtual 647, 3), (126, .ifCond .eq 25, 3), (129, .aload_n 0, 1), (130, .bipush 18, 2)] = true := by decide +kernel
theorem dX8_behind_102 : decode cX8_behind 102 = .ok (.iload_n 1, 1) := zdec_at bX8_behind_102 0 rfl
theorem dX8_behind_103 : decode cX8_behind 103 = .ok (.iconst 2, 1) := zdec_at bX8_behind_102 1 rfl
theorem dX8_behind_104 : decode cX8_behind 104 = .ok (.invokevirtual 644, 3) := zdec_at bX8_behind_102 2 rfl
theorem dX8_behind_107 : decode cX8_behind 107 = .ok (.invokevirtual 668, 3) := zdec_at bX8_behind_102 3 rfl
theorem dX8_behind_110 : decode cX8_behind 110 = .ok (.aload_n 0, 1) := zdec_at bX8_behind_102 4 rfl
theorem dX8_behind_111 : decode cX8_behind 111 = .ok (.bipush 14, 2) := zdec_at bX8_behind_102 5 rfl
theorem dX8_behind_113 : decode cX8_behind 113 = .ok (.iload_n 2, 1) := zdec_at bX8_behind_102 6 rfl
theorem dX8_behind_114 : decode cX8_behind 114 = .ok (.iconst 0, 1) := zdec_at bX8_behind_102 7 rfl
theorem dX8_behind_115 : decode cX8_behind 115 = .ok (.invokevirtual 615, 3) := zdec_at bX8_behind_102 8 rfl
theorem dX8_behind_118 : decode cX8_behind 118 = .ok (.goto 94, 3) := zdec_at bX8_behind_102 9 rfl
theorem dX8_behind_121 : decode cX8_behind 121 = .ok (.aload_n 0, 1) := zdec_at bX8_behind_102 10 rfl
theorem dX8_behind_122 : decode cX8_behind 122 = .ok (.iload_n 1, 1) := zdec_at bX8_behind_102 11 rfl
theorem dX8_behind_123 : decode cX8_behind 123 = .ok (.invokevirtual 647, 3) := zdec_at bX8_behind_102 12 rfl
theorem dX8_behind_126 : decode cX8_behind 126 = .ok (.ifCond .eq 25, 3) := zdec_at bX8_behind_102 13 rfl
theorem dX8_behind_129 : decode cX8_behind 129 = .ok (.aload_n 0, 1) := zdec_at bX8_behind_102 14 rfl
theorem dX8_behind_130 : decode cX8_behind 130 = .ok (.bipush 18, 2) := zdec_at bX8_behind_102 15 rfl
theorem bX8_behind_132 : zdec cX8_behind 132 [(132, .invokevirtual 666, 3), (135, .aload_n 0, 1), (136, .aload_n 0, 1), (137, .iload_n 2, 1), (138, .iconst 1, 1), (139, .invokevirtual 644, 3), (142, .invokevirtual 668, 3), (145, .aload_n 0, 1), (146, .bipush 10, 2), (148, .invokevirtual 666, 3), (151, .aload_n 0, 1), (152, .iload_n 3, 1), (153, .invokevirtual 671, 3), (156, .istore 4, 2), (158, .aload_n 0, 1), (159, .bipush 15, 2)] = true := by decide +kernel
theorem dX8_behind_132 : decode cX8_behind 132 = .ok (.invokevirtual 666, 3) := zdec_at bX8_behind_132 0 rfl
theorem dX8_behind_135 : decode cX8_behind 135 = .ok (.aload_n 0, 1) := zdec_at bX8_behind_132 1 rfl
theorem dX8_behind_136 : decode cX8_behind 136 = .ok (.aload_n 0, 1) := zdec_at bX8_behind_132 2 rfl
theorem dX8_behind_137 : decode cX8_behind 137 = .ok (.iload_n 2, 1) := zdec_at bX8_behind_132 3 rfl
theorem dX8_behind_138 : decode cX8_behind 138 = .ok (.iconst 1, 1) := zdec_at bX8_behind_132 4 rfl
theorem dX8_behind_139 : decode cX8_behind 139 = .ok (.invokevirtual 644, 3) := zdec_at bX8_behind_132 5 rfl
theorem dX8_behind_142 : decode cX8_behind 142 = .ok (.invokevirtual 668, 3) := zdec_at bX8_behind_132 6 rfl
theorem dX8_behind_145 : decode cX8_behind 145 = .ok (.aload_n 0, 1) := zdec_at bX8_behind_132 7 rfl
theorem dX8_behind_146 : decode cX8_behind 146 = .ok (.bipush 10, 2) := zdec_at bX8_behind_132 8 rfl
theorem dX8_behind_148 : decode cX8_behind 148 = .ok (.invokevirtual 666, 3) := zdec_at bX8_behind_132 9 rfl
theorem dX8_behind_151 : decode cX8_behind 151 = .ok (.aload_n 0, 1) := zdec_at bX8_behind_132 10 rfl
theorem dX8_behind_152 : decode cX8_behind 152 = .ok (.iload_n 3, 1) := zdec_at bX8_behind_132 11 rfl
theorem dX8_behind_153 : decode cX8_behind 153 = .ok (.invokevirtual 671, 3) := zdec_at bX8_behind_132 12 rfl
theorem dX8_behind_156 : decode cX8_behind 156 = .ok (.istore 4, 2) := zdec_at bX8_behind_132 13 rfl
theorem dX8_behind_158 : decode cX8_behind 158 = .ok (.aload_n 0, 1) := zdec_at bX8_behind_132 14 rfl
theorem dX8_behind_159 : decode cX8_behind 159 = .ok (.bipush 15, 2) := zdec_at bX8_behind_132 15 rfl
theorem bX8_behind_161 : zdec cX8_behind 161 [(161, .iload 4, 2), (163, .iconst 0, 1), (164, .invokevirtual 615, 3), (167, .goto 45, 3), (170, .aload_n 0, 1), (171, .invokevirtual 674, 3), (174, .istore 4, 2), (176, .aload_n 0, 1), (177, .aload_n 0, 1), (178, .getfield 42, 3), (181, .iload_n 1, 1), (182, .iaload, 1), (183, .bipush 12, 2), (185, .if_icmp .ne 8, 3), (188, .bipush 23, 2), (190, .goto 5, 3)] = true := by decide +kernel
theorem dX8_behind_161 : decode cX8_behind 161 = .ok (.iload 4, 2) := zdec_at bX8_behind_161 0 rfl
theorem dX8_behind_163 : decode cX8_behind 163 = .ok (.iconst 0, 1) := zdec_at bX8_behind_161 1 rfl
theorem dX8_behind_164 : decode cX8_behind 164 = .ok (.invokevirtual 615, 3) := zdec_at bX8_behind_161 2 rfl
theorem dX8_behind_167 : decode cX8_behind 167 = .ok (.goto 45, 3) := zdec_at bX8_behind_161 3 rfl
theorem dX8_behind_170 : decode cX8_behind 170 = .ok (.aload_n 0, 1) := zdec_at bX8_behind_161 4 rfl
theorem dX8_behind_171 : decode cX8_behind 171 = .ok (.invokevirtual 674, 3) := zdec_at bX8_behind_161 5 rfl
theorem dX8_behind_174 : decode cX8_behind 174 = .ok (.istore 4, 2) := zdec_at bX8_behind_161 6 rfl
theorem dX8_behind_176 : decode cX8_behind 176 = .ok (.aload_n 0, 1) := zdec_at bX8_behind_161 7 rfl
theorem dX8_behind_177 : decode cX8_behind 177 = .ok (.aload_n 0, 1) := zdec_at bX8_behind_161 8 rfl
theorem dX8_behind_178 : decode cX8_behind 178 = .ok (.getfield 42, 3) := zdec_at bX8_behind_161 9 rfl
theorem dX8_behind_181 : decode cX8_behind 181 = .ok (.iload_n 1, 1) := zdec_at bX8_behind_161 10 rfl
theorem dX8_behind_182 : decode cX8_behind 182 = .ok (.iaload, 1) := zdec_at bX8_behind_161 11 rfl
theorem dX8_behind_183 : decode cX8_behind 183 = .ok (.bipush 12, 2) := zdec_at bX8_behind_161 12 rfl
theorem dX8_behind_185 : decode cX8_behind 185 = .ok (.if_icmp .ne 8, 3) := zdec_at bX8_behind_161 13 rfl
theorem dX8_behind_188 : decode cX8_behind 188 = .ok (.bipush 23, 2) := zdec_at bX8_behind_161 14 rfl
theorem dX8_behind_190 : decode cX8_behind 190 = .ok (.goto 5, 3) := zdec_at bX8_behind_161 15 rfl
theorem bX8_behind_193 : zdec cX8_behind 193 [(193, .bipush 24, 2), (195, .iload 4, 2), (197, .iconst 0, 1), (198, .invokevirtual 615, 3), (201, .aload_n 0, 1), (202, .iload_n 3, 1), (203, .invokevirtual 668, 3), (206, .aload_n 0, 1), (207, .iload 4, 2), (209, .invokevirtual 677, 3), (212, .return_, 1)] = true := by decide +kernel
theorem dX8_behind_193 : decode cX8_behind 193 = .ok (.bipush 24, 2) := zdec_at bX8_behind_193 0 rfl
theorem dX8_behind_195 : decode cX8_behind 195 = .ok (.iload 4, 2) := zdec_at bX8_behind_193 1 rfl
theorem dX8_behind_197 : decode cX8_behind 197 = .ok (.iconst 0, 1) := zdec_at bX8_behind_193 2 rfl
theorem dX8_behind_198 : decode cX8_behind 198 = .ok (.invokevirtual 615, 3) := zdec_at bX8_behind_193 3 rfl
theorem dX8_behind_201 : decode cX8_behind 201 = .ok (.aload_n 0, 1) := zdec_at bX8_behind_193 4 rfl
theorem dX8_behind_202 : decode cX8_behind 202 = .ok (.iload_n 3, 1) := zdec_at bX8_behind_193 5 rfl
theorem dX8_behind_203 : decode cX8_behind 203 = .ok (.invokevirtual 668, 3) := zdec_at bX8_behind_193 6 rfl
theorem dX8_behind_206 : decode cX8_behind 206 = .ok (.aload_n 0, 1) := zdec_at bX8_behind_193 7 rfl
theorem dX8_behind_207 : decode cX8_behind 207 = .ok (.iload 4, 2) := zdec_at bX8_behind_193 8 rfl
theorem dX8_behind_209 : decode cX8_behind 209 = .ok (.invokevirtual 677, 3) := zdec_at bX8_behind_193 9 rfl
theorem dX8_behind_212 : decode cX8_behind 212 = .ok (.return_, 1) := zdec_at bX8_behind_193 10 rfl
theorem sX8_behind_0 {E : zE} {d : Nat} {Q : zO → zM → Prop} (M : zM) (l1 : Int32) (k : Zm E YX8_part d M (zargs 0 [vr (some (97, 1, 0)), vi l1, vi (0 : Int32)]) 0 [] (zma E YX8_behind (d + 1) [(0, vr (some (97, 1, 0))), (1, vi l1)] 3 3 [] Q)) : Zm E YX8_behind (d + 1) M [(0, vr (some (97, 1, 0))), (1, vi l1)] 0 [] Q := by
  refine Zm.l (fun _ _ k_ => z_aload_n dX8_behind_0 rfl rfl k_) ?_
  refine Zm.l (fun _ _ k_ => z_iload_n dX8_behind_1 rfl rfl k_) ?_
  refine Zm.l (fun _ _ k_ => z_iconst (v := 0) dX8_behind_2 rfl k_) ?_
  exact zm_callV (as := [vi l1, vi (0 : Int32)]) (st := []) dX8_behind_3 vsX8_644_1 (Nat.le_refl _) (Nat.le_of_ble_eq_true rfl) (Nat.le_of_ble_eq_true rfl) rfl k
theorem sX8_behind_6 {E : zE} {d : Nat} {Q : zO → zM → Prop} (M : zM) (l1 : Int32) (s0 : Int32) (k : Zm E YX8_part d M (zargs 0 [vr (some (97, 1, 0)), vi l1, vi (1 : Int32)]) 0 [] (zma E YX8_behind (d + 1) [(0, vr (some (97, 1, 0))), (1, vi l1), (2, vi s0)] 10 3 [] Q)) : Zm E YX8_behind (d + 1) M [(0, vr (some (97, 1, 0))), (1, vi l1)] 6 [vi s0] Q := by
  refine Zm.l (fun _ _ k_ => z_ist_n dX8_behind_6 rfl (by decide) (lv' := [(0, vr (some (97, 1, 0))), (1, vi l1), (2, vi s0)]) rfl k_) ?_
  refine Zm.l (fun _ _ k_ => z_aload_n dX8_behind_7 rfl rfl k_) ?_
  refine Zm.l (fun _ _ k_ => z_iload_n dX8_behind_8 rfl rfl k_) ?_
  refine Zm.l (fun _ _ k_ => z_iconst (v := 1) dX8_behind_9 rfl k_) ?_
  exact zm_callV (as := [vi l1, vi (1 : Int32)]) (st := []) dX8_behind_10 vsX8_644_1 (Nat.le_refl _) (Nat.le_of_ble_eq_true rfl) (Nat.le_of_ble_eq_true rfl) rfl k
theorem sX8_behind_13 {E : zE} {d : Nat} {Q : zO → zM → Prop} (M : zM) (l1 : Int32) (l2 : Int32) (s0 : Int32) (k : vp_in l1 12000 ∧ (if (gi M 108 (l1).toNatClampNeg) = 3 then (Zm E YX8_emit_2 d M (zargs 0 [vr (some (97, 1, 0)), vi (17 : Int32)]) 0 [] (zma E YX8_behind (d + 1) [(0, vr (some (97, 1, 0))), (3, vi s0)] 75 3 [] Q)) else (if (gi M 108 (l1).toNatClampNeg) = 4 then (Zm E YX8_mark d M (zargs 0 [vr (some (97, 1, 0))]) 0 [] (zma E YX8_behind (d + 1) [(0, vr (some (97, 1, 0))), (1, vi l1), (3, vi s0)] 171 3 [] Q)) else (if (gi M 108 (l1).toNatClampNeg) = 5 then (Zm E YX8_mark d M (zargs 0 [vr (some (97, 1, 0))]) 0 [] (zma E YX8_behind (d + 1) [(0, vr (some (97, 1, 0))), (1, vi l1), (3, vi s0)] 171 3 [] Q)) else (if (gi M 108 (l1).toNatClampNeg) = 6 then (Zm E YX8_mark d M (zargs 0 [vr (some (97, 1, 0))]) 0 [] (zma E YX8_behind (d + 1) [(0, vr (some (97, 1, 0))), (1, vi l1), (3, vi s0)] 171 3 [] Q)) else (if (gi M 108 (l1).toNatClampNeg) = 7 then (Zm E YX8_value d M (zargs 0 [vr (some (97, 1, 0)), vi s0]) 0 [] (zma E YX8_behind (d + 1) [(0, vr (some (97, 1, 0)))] 88 3 [] Q)) else (if (gi M 108 (l1).toNatClampNeg) = 8 then (Zm E YX8_isMemberCall d M (zargs 0 [vr (some (97, 1, 0)), vi l1]) 0 [] (zma E YX8_behind (d + 1) [(0, vr (some (97, 1, 0))), (2, vi l2), (3, vi s0)] 123 3 [] Q)) else (if (gi M 108 (l1).toNatClampNeg) = 9 then (Zm E YX8_mark d M (zargs 0 [vr (some (97, 1, 0))]) 0 [] (zma E YX8_behind (d + 1) [(0, vr (some (97, 1, 0))), (1, vi l1), (3, vi s0)] 171 3 [] Q)) else (if (gi M 108 (l1).toNatClampNeg) = 10 then (Zm E YX8_mark d M (zargs 0 [vr (some (97, 1, 0))]) 0 [] (zma E YX8_behind (d + 1) [(0, vr (some (97, 1, 0))), (1, vi l1), (3, vi s0)] 171 3 [] Q)) else (if (gi M 108 (l1).toNatClampNeg) = 11 then (Zm E YX8_part d M (zargs 0 [vr (some (97, 1, 0)), vi l1, vi (2 : Int32)]) 0 [] (zma E YX8_behind (d + 1) [(0, vr (some (97, 1, 0))), (2, vi l2)] 104 3 [vr (some (97, 1, 0))] Q)) else (Zm E YX8_mark d M (zargs 0 [vr (some (97, 1, 0))]) 0 [] (zma E YX8_behind (d + 1) [(0, vr (some (97, 1, 0))), (1, vi l1), (3, vi s0)] 171 3 [] Q)))))))))))) : Zm E YX8_behind (d + 1) M [(0, vr (some (97, 1, 0))), (1, vi l1), (2, vi l2)] 13 [vi s0] Q := by
  refine Zm.l (fun _ _ k_ => z_ist_n dX8_behind_13 rfl (by decide) (lv' := [(0, vr (some (97, 1, 0))), (1, vi l1), (2, vi l2), (3, vi s0)]) rfl k_) ?_
  refine Zm.l (fun _ _ k_ => z_aload_n dX8_behind_14 rfl rfl k_) ?_
  refine zm_getr 10 dX8_behind_15 fsX8_42_1 rfl ?_
  refine Zm.l (fun _ _ k_ => z_iload_n dX8_behind_18 rfl rfl k_) ?_
  obtain ⟨b_, k⟩ := k
  refine zm_iald dX8_behind_19 b_ (by decide) (by decide) ?_
  by_cases h0_ : (gi M 108 (l1).toNatClampNeg) = 3
  · have k := zit h0_ k
    refine Zm.l (fun _ _ k_ => z_tableIn (off := 52) (tgt := 72) dX8_behind_20 (by rw [h0_]; decide) (by rw [h0_]; decide) (by rw [h0_]; rfl) rfl k_) ?_
    refine Zm.l (fun _ _ k_ => z_aload_n dX8_behind_72 rfl rfl k_) ?_
    refine Zm.l (fun _ _ k_ => z_bipush (v := 17) dX8_behind_73 rfl k_) ?_
    refine Zm.pick [0, 3] rfl ?_
    exact zm_callV (as := [vi (17 : Int32)]) (st := []) dX8_behind_75 vsX8_666_1 (Nat.le_refl _) (Nat.le_of_ble_eq_true rfl) (Nat.le_of_ble_eq_true rfl) rfl k
  · have k := zif h0_ k
    by_cases h1_ : (gi M 108 (l1).toNatClampNeg) = 4
    · have k := zit h1_ k
      refine Zm.l (fun _ _ k_ => z_tableIn (off := 150) (tgt := 170) dX8_behind_20 (by rw [h1_]; decide) (by rw [h1_]; decide) (by rw [h1_]; rfl) rfl k_) ?_
      refine Zm.l (fun _ _ k_ => z_aload_n dX8_behind_170 rfl rfl k_) ?_
      refine Zm.pick [0, 1, 3] rfl ?_
      exact zm_callV (as := []) (st := []) dX8_behind_171 vsX8_674_1 (Nat.le_refl _) (Nat.le_of_ble_eq_true rfl) (Nat.le_of_ble_eq_true rfl) rfl k
    · have k := zif h1_ k
      by_cases h2_ : (gi M 108 (l1).toNatClampNeg) = 5
      · have k := zit h2_ k
        refine Zm.l (fun _ _ k_ => z_tableIn (off := 150) (tgt := 170) dX8_behind_20 (by rw [h2_]; decide) (by rw [h2_]; decide) (by rw [h2_]; rfl) rfl k_) ?_
        refine Zm.l (fun _ _ k_ => z_aload_n dX8_behind_170 rfl rfl k_) ?_
        refine Zm.pick [0, 1, 3] rfl ?_
        exact zm_callV (as := []) (st := []) dX8_behind_171 vsX8_674_1 (Nat.le_refl _) (Nat.le_of_ble_eq_true rfl) (Nat.le_of_ble_eq_true rfl) rfl k
      · have k := zif h2_ k
        by_cases h3_ : (gi M 108 (l1).toNatClampNeg) = 6
        · have k := zit h3_ k
          refine Zm.l (fun _ _ k_ => z_tableIn (off := 150) (tgt := 170) dX8_behind_20 (by rw [h3_]; decide) (by rw [h3_]; decide) (by rw [h3_]; rfl) rfl k_) ?_
          refine Zm.l (fun _ _ k_ => z_aload_n dX8_behind_170 rfl rfl k_) ?_
          refine Zm.pick [0, 1, 3] rfl ?_
          exact zm_callV (as := []) (st := []) dX8_behind_171 vsX8_674_1 (Nat.le_refl _) (Nat.le_of_ble_eq_true rfl) (Nat.le_of_ble_eq_true rfl) rfl k
        · have k := zif h3_ k
          by_cases h4_ : (gi M 108 (l1).toNatClampNeg) = 7
          · have k := zit h4_ k
            refine Zm.l (fun _ _ k_ => z_tableIn (off := 66) (tgt := 86) dX8_behind_20 (by rw [h4_]; decide) (by rw [h4_]; decide) (by rw [h4_]; rfl) rfl k_) ?_
            refine Zm.l (fun _ _ k_ => z_aload_n dX8_behind_86 rfl rfl k_) ?_
            refine Zm.l (fun _ _ k_ => z_iload_n dX8_behind_87 rfl rfl k_) ?_
            refine Zm.pick [0] rfl ?_
            exact zm_callV (as := [vi s0]) (st := []) dX8_behind_88 vsX8_668_1 (Nat.le_refl _) (Nat.le_of_ble_eq_true rfl) (Nat.le_of_ble_eq_true rfl) rfl k
          · have k := zif h4_ k
            by_cases h5_ : (gi M 108 (l1).toNatClampNeg) = 8
            · have k := zit h5_ k
              refine Zm.l (fun _ _ k_ => z_tableIn (off := 101) (tgt := 121) dX8_behind_20 (by rw [h5_]; decide) (by rw [h5_]; decide) (by rw [h5_]; rfl) rfl k_) ?_
              refine Zm.l (fun _ _ k_ => z_aload_n dX8_behind_121 rfl rfl k_) ?_
              refine Zm.l (fun _ _ k_ => z_iload_n dX8_behind_122 rfl rfl k_) ?_
              refine Zm.pick [0, 2, 3] rfl ?_
              exact zm_callV (as := [vi l1]) (st := []) dX8_behind_123 vsX8_647_1 (Nat.le_refl _) (Nat.le_of_ble_eq_true rfl) (Nat.le_of_ble_eq_true rfl) rfl k
            · have k := zif h5_ k
              by_cases h6_ : (gi M 108 (l1).toNatClampNeg) = 9
              · have k := zit h6_ k
                refine Zm.l (fun _ _ k_ => z_tableIn (off := 150) (tgt := 170) dX8_behind_20 (by rw [h6_]; decide) (by rw [h6_]; decide) (by rw [h6_]; rfl) rfl k_) ?_
                refine Zm.l (fun _ _ k_ => z_aload_n dX8_behind_170 rfl rfl k_) ?_
                refine Zm.pick [0, 1, 3] rfl ?_
                exact zm_callV (as := []) (st := []) dX8_behind_171 vsX8_674_1 (Nat.le_refl _) (Nat.le_of_ble_eq_true rfl) (Nat.le_of_ble_eq_true rfl) rfl k
              · have k := zif h6_ k
                by_cases h7_ : (gi M 108 (l1).toNatClampNeg) = 10
                · have k := zit h7_ k
                  refine Zm.l (fun _ _ k_ => z_tableIn (off := 150) (tgt := 170) dX8_behind_20 (by rw [h7_]; decide) (by rw [h7_]; decide) (by rw [h7_]; rfl) rfl k_) ?_
                  refine Zm.l (fun _ _ k_ => z_aload_n dX8_behind_170 rfl rfl k_) ?_
                  refine Zm.pick [0, 1, 3] rfl ?_
                  exact zm_callV (as := []) (st := []) dX8_behind_171 vsX8_674_1 (Nat.le_refl _) (Nat.le_of_ble_eq_true rfl) (Nat.le_of_ble_eq_true rfl) rfl k
                · have k := zif h7_ k
                  by_cases h8_ : (gi M 108 (l1).toNatClampNeg) = 11
                  · have k := zit h8_ k
                    refine Zm.l (fun _ _ k_ => z_tableIn (off := 80) (tgt := 100) dX8_behind_20 (by rw [h8_]; decide) (by rw [h8_]; decide) (by rw [h8_]; rfl) rfl k_) ?_
                    refine Zm.l (fun _ _ k_ => z_aload_n dX8_behind_100 rfl rfl k_) ?_
                    refine Zm.l (fun _ _ k_ => z_aload_n dX8_behind_101 rfl rfl k_) ?_
                    refine Zm.l (fun _ _ k_ => z_iload_n dX8_behind_102 rfl rfl k_) ?_
                    refine Zm.l (fun _ _ k_ => z_iconst (v := 2) dX8_behind_103 rfl k_) ?_
                    refine Zm.pick [0, 2] rfl ?_
                    exact zm_callV (as := [vi l1, vi (2 : Int32)]) (st := [vr (some (97, 1, 0))]) dX8_behind_104 vsX8_644_1 (Nat.le_refl _) (Nat.le_of_ble_eq_true rfl) (Nat.le_of_ble_eq_true rfl) rfl k
                  · have k := zif h8_ k
                    refine Zm.l (fun _ _ k_ => z_tout (tgt := 170) [3, 4, 5, 6, 7, 8, 9, 10, 11] (by decide) dX8_behind_20 (zall_1 h0_ (zall_1 h1_ (zall_1 h2_ (zall_1 h3_ (zall_1 h4_ (zall_1 h5_ (zall_1 h6_ (zall_1 h7_ (zall_1 h8_ zall_0))))))))) rfl k_) ?_
                    refine Zm.l (fun _ _ k_ => z_aload_n dX8_behind_170 rfl rfl k_) ?_
                    refine Zm.pick [0, 1, 3] rfl ?_
                    exact zm_callV (as := []) (st := []) dX8_behind_171 vsX8_674_1 (Nat.le_refl _) (Nat.le_of_ble_eq_true rfl) (Nat.le_of_ble_eq_true rfl) rfl k
theorem sX8_behind_78 {E : zE} {d : Nat} {Q : zO → zM → Prop} (M : zM) (l3 : Int32) (k : Zm E YX8_value d M (zargs 0 [vr (some (97, 1, 0)), vi l3]) 0 [] (zma E YX8_behind (d + 1) [] 80 3 [] Q)) : Zm E YX8_behind (d + 1) M [(0, vr (some (97, 1, 0))), (3, vi l3)] 78 [] Q := by
  refine Zm.l (fun _ _ k_ => z_aload_n dX8_behind_78 rfl rfl k_) ?_
  refine Zm.l (fun _ _ k_ => z_iload_n dX8_behind_79 rfl rfl k_) ?_
  refine Zm.pick [] rfl ?_
  exact zm_callV (as := [vi l3]) (st := []) dX8_behind_80 vsX8_668_1 (Nat.le_refl _) (Nat.le_of_ble_eq_true rfl) (Nat.le_of_ble_eq_true rfl) rfl k
theorem sX8_behind_83 {E : zE} {d : Nat} {Q : zO → zM → Prop} (M : zM)  (k : Zm E YX8_behind (d + 1) M [] 212 [] Q) : Zm E YX8_behind (d + 1) M [] 83 [] Q := by
  refine Zm.l (fun _ _ k_ => z_goto (tgt := 212) dX8_behind_83 rfl k_) ?_
  exact k
theorem sX8_behind_91 {E : zE} {d : Nat} {Q : zO → zM → Prop} (M : zM)  (k : Zm E YX8_emit_2 d M (zargs 0 [vr (some (97, 1, 0)), vi (10 : Int32)]) 0 [] (zma E YX8_behind (d + 1) [] 94 3 [] Q)) : Zm E YX8_behind (d + 1) M [(0, vr (some (97, 1, 0)))] 91 [] Q := by
  refine Zm.l (fun _ _ k_ => z_aload_n dX8_behind_91 rfl rfl k_) ?_
  refine Zm.l (fun _ _ k_ => z_bipush (v := 10) dX8_behind_92 rfl k_) ?_
  refine Zm.pick [] rfl ?_
  exact zm_callV (as := [vi (10 : Int32)]) (st := []) dX8_behind_94 vsX8_666_1 (Nat.le_refl _) (Nat.le_of_ble_eq_true rfl) (Nat.le_of_ble_eq_true rfl) rfl k
theorem sX8_behind_97 {E : zE} {d : Nat} {Q : zO → zM → Prop} (M : zM)  (k : Zm E YX8_behind (d + 1) M [] 212 [] Q) : Zm E YX8_behind (d + 1) M [] 97 [] Q := by
  refine Zm.l (fun _ _ k_ => z_goto (tgt := 212) dX8_behind_97 rfl k_) ?_
  exact k
theorem sX8_behind_107 {E : zE} {d : Nat} {Q : zO → zM → Prop} (M : zM) (l2 : Int32) (s0 : Int32) (k : Zm E YX8_value d M (zargs 0 [vr (some (97, 1, 0)), vi s0]) 0 [] (zma E YX8_behind (d + 1) [(0, vr (some (97, 1, 0))), (2, vi l2)] 107 3 [] Q)) : Zm E YX8_behind (d + 1) M [(0, vr (some (97, 1, 0))), (2, vi l2)] 107 [vi s0, vr (some (97, 1, 0))] Q := by
  exact zm_callV (as := [vi s0]) (st := []) dX8_behind_107 vsX8_668_1 (Nat.le_refl _) (Nat.le_of_ble_eq_true rfl) (Nat.le_of_ble_eq_true rfl) rfl k
theorem sX8_behind_110 {E : zE} {d : Nat} {Q : zO → zM → Prop} (M : zM) (l2 : Int32) (k : Zm E YX8_emit d M (zargs 0 [vr (some (97, 1, 0)), vi (14 : Int32), vi l2, vi (0 : Int32)]) 0 [] (zma E YX8_behind (d + 1) [] 115 3 [] Q)) : Zm E YX8_behind (d + 1) M [(0, vr (some (97, 1, 0))), (2, vi l2)] 110 [] Q := by
  refine Zm.l (fun _ _ k_ => z_aload_n dX8_behind_110 rfl rfl k_) ?_
  refine Zm.l (fun _ _ k_ => z_bipush (v := 14) dX8_behind_111 rfl k_) ?_
  refine Zm.l (fun _ _ k_ => z_iload_n dX8_behind_113 rfl rfl k_) ?_
  refine Zm.l (fun _ _ k_ => z_iconst (v := 0) dX8_behind_114 rfl k_) ?_
  refine Zm.pick [] rfl ?_
  exact zm_callV (as := [vi (14 : Int32), vi l2, vi (0 : Int32)]) (st := []) dX8_behind_115 vsX8_615_1 (Nat.le_refl _) (Nat.le_of_ble_eq_true rfl) (Nat.le_of_ble_eq_true rfl) rfl k
theorem sX8_behind_118 {E : zE} {d : Nat} {Q : zO → zM → Prop} (M : zM)  (k : Zm E YX8_behind (d + 1) M [] 212 [] Q) : Zm E YX8_behind (d + 1) M [] 118 [] Q := by
  refine Zm.l (fun _ _ k_ => z_goto (tgt := 212) dX8_behind_118 rfl k_) ?_
  exact k
theorem sX8_behind_126 {E : zE} {d : Nat} {Q : zO → zM → Prop} (M : zM) (l2 : Int32) (l3 : Int32) (s0 : Int32) (k : if s0 = 0 then (Zm E YX8_behind (d + 1) M [(0, vr (some (97, 1, 0))), (3, vi l3)] 151 [] Q) else (Zm E YX8_emit_2 d M (zargs 0 [vr (some (97, 1, 0)), vi (18 : Int32)]) 0 [] (zma E YX8_behind (d + 1) [(0, vr (some (97, 1, 0))), (2, vi l2), (3, vi l3)] 132 3 [] Q))) : Zm E YX8_behind (d + 1) M [(0, vr (some (97, 1, 0))), (2, vi l2), (3, vi l3)] 126 [vi s0] Q := by
  refine Zm.br (fun _ _ k1_ k2_ => z_if_eq (tgt := 151) dX8_behind_126 rfl k1_ k2_) (fun h_ => ?_) (fun h_ => ?_)
  · have k := zit h_ k
    refine Zm.pick [0, 2] rfl ?_
    exact k
  · have k := zif h_ k
    refine Zm.l (fun _ _ k_ => z_aload_n dX8_behind_129 rfl rfl k_) ?_
    refine Zm.l (fun _ _ k_ => z_bipush (v := 18) dX8_behind_130 rfl k_) ?_
    exact zm_callV (as := [vi (18 : Int32)]) (st := []) dX8_behind_132 vsX8_666_1 (Nat.le_refl _) (Nat.le_of_ble_eq_true rfl) (Nat.le_of_ble_eq_true rfl) rfl k
theorem sX8_behind_135 {E : zE} {d : Nat} {Q : zO → zM → Prop} (M : zM) (l2 : Int32) (l3 : Int32) (k : Zm E YX8_part d M (zargs 0 [vr (some (97, 1, 0)), vi l2, vi (1 : Int32)]) 0 [] (zma E YX8_behind (d + 1) [(0, vr (some (97, 1, 0))), (3, vi l3)] 139 3 [vr (some (97, 1, 0))] Q)) : Zm E YX8_behind (d + 1) M [(0, vr (some (97, 1, 0))), (2, vi l2), (3, vi l3)] 135 [] Q := by
  refine Zm.l (fun _ _ k_ => z_aload_n dX8_behind_135 rfl rfl k_) ?_
  refine Zm.l (fun _ _ k_ => z_aload_n dX8_behind_136 rfl rfl k_) ?_
  refine Zm.l (fun _ _ k_ => z_iload_n dX8_behind_137 rfl rfl k_) ?_
  refine Zm.l (fun _ _ k_ => z_iconst (v := 1) dX8_behind_138 rfl k_) ?_
  refine Zm.pick [0, 2] rfl ?_
  exact zm_callV (as := [vi l2, vi (1 : Int32)]) (st := [vr (some (97, 1, 0))]) dX8_behind_139 vsX8_644_1 (Nat.le_refl _) (Nat.le_of_ble_eq_true rfl) (Nat.le_of_ble_eq_true rfl) rfl k
theorem sX8_behind_142 {E : zE} {d : Nat} {Q : zO → zM → Prop} (M : zM) (l3 : Int32) (s0 : Int32) (k : Zm E YX8_value d M (zargs 0 [vr (some (97, 1, 0)), vi s0]) 0 [] (zma E YX8_behind (d + 1) [(0, vr (some (97, 1, 0))), (3, vi l3)] 142 3 [] Q)) : Zm E YX8_behind (d + 1) M [(0, vr (some (97, 1, 0))), (3, vi l3)] 142 [vi s0, vr (some (97, 1, 0))] Q := by
  exact zm_callV (as := [vi s0]) (st := []) dX8_behind_142 vsX8_668_1 (Nat.le_refl _) (Nat.le_of_ble_eq_true rfl) (Nat.le_of_ble_eq_true rfl) rfl k
theorem sX8_behind_145 {E : zE} {d : Nat} {Q : zO → zM → Prop} (M : zM) (l3 : Int32) (k : Zm E YX8_emit_2 d M (zargs 0 [vr (some (97, 1, 0)), vi (10 : Int32)]) 0 [] (zma E YX8_behind (d + 1) [(0, vr (some (97, 1, 0))), (3, vi l3)] 148 3 [] Q)) : Zm E YX8_behind (d + 1) M [(0, vr (some (97, 1, 0))), (3, vi l3)] 145 [] Q := by
  refine Zm.l (fun _ _ k_ => z_aload_n dX8_behind_145 rfl rfl k_) ?_
  refine Zm.l (fun _ _ k_ => z_bipush (v := 10) dX8_behind_146 rfl k_) ?_
  exact zm_callV (as := [vi (10 : Int32)]) (st := []) dX8_behind_148 vsX8_666_1 (Nat.le_refl _) (Nat.le_of_ble_eq_true rfl) (Nat.le_of_ble_eq_true rfl) rfl k
theorem sX8_behind_151 {E : zE} {d : Nat} {Q : zO → zM → Prop} (M : zM) (l3 : Int32) (k : Zm E YX8_values d M (zargs 0 [vr (some (97, 1, 0)), vi l3]) 0 [] (zma E YX8_behind (d + 1) [(0, vr (some (97, 1, 0)))] 153 3 [] Q)) : Zm E YX8_behind (d + 1) M [(0, vr (some (97, 1, 0))), (3, vi l3)] 151 [] Q := by
  refine Zm.l (fun _ _ k_ => z_aload_n dX8_behind_151 rfl rfl k_) ?_
  refine Zm.l (fun _ _ k_ => z_iload_n dX8_behind_152 rfl rfl k_) ?_
  refine Zm.pick [0] rfl ?_
  exact zm_callV (as := [vi l3]) (st := []) dX8_behind_153 vsX8_671_1 (Nat.le_refl _) (Nat.le_of_ble_eq_true rfl) (Nat.le_of_ble_eq_true rfl) rfl k
theorem sX8_behind_156 {E : zE} {d : Nat} {Q : zO → zM → Prop} (M : zM) (s0 : Int32) (k : Zm E YX8_emit d M (zargs 0 [vr (some (97, 1, 0)), vi (15 : Int32), vi s0, vi (0 : Int32)]) 0 [] (zma E YX8_behind (d + 1) [] 164 3 [] Q)) : Zm E YX8_behind (d + 1) M [(0, vr (some (97, 1, 0)))] 156 [vi s0] Q := by
  refine Zm.l (fun _ _ k_ => z_ist dX8_behind_156 (by decide) (lv' := [(0, vr (some (97, 1, 0))), (4, vi s0)]) rfl k_) ?_
  refine Zm.l (fun _ _ k_ => z_aload_n dX8_behind_158 rfl rfl k_) ?_
  refine Zm.l (fun _ _ k_ => z_bipush (v := 15) dX8_behind_159 rfl k_) ?_
  refine Zm.l (fun _ _ k_ => z_iload dX8_behind_161 rfl k_) ?_
  refine Zm.l (fun _ _ k_ => z_iconst (v := 0) dX8_behind_163 rfl k_) ?_
  refine Zm.pick [] rfl ?_
  exact zm_callV (as := [vi (15 : Int32), vi s0, vi (0 : Int32)]) (st := []) dX8_behind_164 vsX8_615_1 (Nat.le_refl _) (Nat.le_of_ble_eq_true rfl) (Nat.le_of_ble_eq_true rfl) rfl k
theorem sX8_behind_167 {E : zE} {d : Nat} {Q : zO → zM → Prop} (M : zM)  (k : Zm E YX8_behind (d + 1) M [] 212 [] Q) : Zm E YX8_behind (d + 1) M [] 167 [] Q := by
  refine Zm.l (fun _ _ k_ => z_goto (tgt := 212) dX8_behind_167 rfl k_) ?_
  exact k
theorem sX8_behind_174 {E : zE} {d : Nat} {Q : zO → zM → Prop} (M : zM) (l1 : Int32) (l3 : Int32) (s0 : Int32) (k : vp_in l1 12000 ∧ (if (gi M 108 (l1).toNatClampNeg) = (12 : Int32) then (Zm E YX8_emit d M (zargs 0 [vr (some (97, 1, 0)), vi (23 : Int32), vi s0, vi (0 : Int32)]) 0 [] (zma E YX8_behind (d + 1) [(0, vr (some (97, 1, 0))), (3, vi l3), (4, vi s0)] 198 3 [] Q)) else (Zm E YX8_emit d M (zargs 0 [vr (some (97, 1, 0)), vi (24 : Int32), vi s0, vi (0 : Int32)]) 0 [] (zma E YX8_behind (d + 1) [(0, vr (some (97, 1, 0))), (3, vi l3), (4, vi s0)] 198 3 [] Q)))) : Zm E YX8_behind (d + 1) M [(0, vr (some (97, 1, 0))), (1, vi l1), (3, vi l3)] 174 [vi s0] Q := by
  refine Zm.l (fun _ _ k_ => z_ist dX8_behind_174 (by decide) (lv' := [(0, vr (some (97, 1, 0))), (1, vi l1), (3, vi l3), (4, vi s0)]) rfl k_) ?_
  refine Zm.l (fun _ _ k_ => z_aload_n dX8_behind_176 rfl rfl k_) ?_
  refine Zm.l (fun _ _ k_ => z_aload_n dX8_behind_177 rfl rfl k_) ?_
  refine zm_getr 10 dX8_behind_178 fsX8_42_1 rfl ?_
  refine Zm.l (fun _ _ k_ => z_iload_n dX8_behind_181 rfl rfl k_) ?_
  obtain ⟨b_, k⟩ := k
  refine zm_iald dX8_behind_182 b_ (by decide) (by decide) ?_
  refine Zm.l (fun _ _ k_ => z_bipush (v := 12) dX8_behind_183 rfl k_) ?_
  refine Zm.brn (fun _ _ k1_ k2_ => z_icmp_ne (tgt := 193) dX8_behind_185 rfl k1_ k2_) (fun h_ => ?_) (fun h_ => ?_)
  · have k := zif h_ k
    refine Zm.l (fun _ _ k_ => z_bipush (v := 24) dX8_behind_193 rfl k_) ?_
    refine Zm.l (fun _ _ k_ => z_iload dX8_behind_195 rfl k_) ?_
    refine Zm.l (fun _ _ k_ => z_iconst (v := 0) dX8_behind_197 rfl k_) ?_
    refine Zm.pick [0, 2, 3] rfl ?_
    exact zm_callV (as := [vi (24 : Int32), vi s0, vi (0 : Int32)]) (st := []) dX8_behind_198 vsX8_615_1 (Nat.le_refl _) (Nat.le_of_ble_eq_true rfl) (Nat.le_of_ble_eq_true rfl) rfl k
  · have k := zit h_ k
    refine Zm.l (fun _ _ k_ => z_bipush (v := 23) dX8_behind_188 rfl k_) ?_
    refine Zm.l (fun _ _ k_ => z_goto (tgt := 195) dX8_behind_190 rfl k_) ?_
    refine Zm.l (fun _ _ k_ => z_iload dX8_behind_195 rfl k_) ?_
    refine Zm.l (fun _ _ k_ => z_iconst (v := 0) dX8_behind_197 rfl k_) ?_
    refine Zm.pick [0, 2, 3] rfl ?_
    exact zm_callV (as := [vi (23 : Int32), vi s0, vi (0 : Int32)]) (st := []) dX8_behind_198 vsX8_615_1 (Nat.le_refl _) (Nat.le_of_ble_eq_true rfl) (Nat.le_of_ble_eq_true rfl) rfl k
theorem sX8_behind_201 {E : zE} {d : Nat} {Q : zO → zM → Prop} (M : zM) (l3 : Int32) (l4 : Int32) (k : Zm E YX8_value d M (zargs 0 [vr (some (97, 1, 0)), vi l3]) 0 [] (zma E YX8_behind (d + 1) [(0, vr (some (97, 1, 0))), (4, vi l4)] 203 3 [] Q)) : Zm E YX8_behind (d + 1) M [(0, vr (some (97, 1, 0))), (3, vi l3), (4, vi l4)] 201 [] Q := by
  refine Zm.l (fun _ _ k_ => z_aload_n dX8_behind_201 rfl rfl k_) ?_
  refine Zm.l (fun _ _ k_ => z_iload_n dX8_behind_202 rfl rfl k_) ?_
  refine Zm.pick [0, 2] rfl ?_
  exact zm_callV (as := [vi l3]) (st := []) dX8_behind_203 vsX8_668_1 (Nat.le_refl _) (Nat.le_of_ble_eq_true rfl) (Nat.le_of_ble_eq_true rfl) rfl k
theorem sX8_behind_206 {E : zE} {d : Nat} {Q : zO → zM → Prop} (M : zM) (l4 : Int32) (k : Zm E YX8_here d M (zargs 0 [vr (some (97, 1, 0)), vi l4]) 0 [] (zma E YX8_behind (d + 1) [] 209 3 [] Q)) : Zm E YX8_behind (d + 1) M [(0, vr (some (97, 1, 0))), (4, vi l4)] 206 [] Q := by
  refine Zm.l (fun _ _ k_ => z_aload_n dX8_behind_206 rfl rfl k_) ?_
  refine Zm.l (fun _ _ k_ => z_iload dX8_behind_207 rfl k_) ?_
  refine Zm.pick [] rfl ?_
  exact zm_callV (as := [vi l4]) (st := []) dX8_behind_209 vsX8_677_1 (Nat.le_refl _) (Nat.le_of_ble_eq_true rfl) (Nat.le_of_ble_eq_true rfl) rfl k
theorem sX8_behind_212 {E : zE} {d : Nat} {Q : zO → zM → Prop} (M : zM)  (k : Q (.inl none) M) : Zm E YX8_behind (d + 1) M [] 212 [] Q := by
  exact zm_vret dX8_behind_212 rfl k
/-! ScriptTypesModel.codeInside(IIII)V -/
theorem bX8_codeInside_0 : zdec cX8_codeInside 0 [(0, .aload_n 0, 1), (1, .getfield 634, 3), (4, .istore 5, 2), (6, .aload_n 0, 1), (7, .getfield 637, 3), (10, .istore 6, 2), (12, .aload_n 0, 1), (13, .iload_n 1, 1), (14, .iconst (-1), 1), (15, .iload_n 3, 1), (16, .iload 4, 2), (18, .invokevirtual 723, 3), (21, .aload_n 0, 1), (22, .iload_n 2, 1), (23, .invokevirtual 710, 3), (26, .aload_n 0, 1)] = true := by decide +kernel
theorem dX8_codeInside_0 : decode cX8_codeInside 0 = .ok (.aload_n 0, 1) := zdec_at bX8_codeInside_0 0 rfl
theorem dX8_codeInside_1 : decode cX8_codeInside 1 = .ok (.getfield 634, 3) := zdec_at bX8_codeInside_0 1 rfl
theorem dX8_codeInside_4 : decode cX8_codeInside 4 = .ok (.istore 5, 2) := zdec_at bX8_codeInside_0 2 rfl
theorem dX8_codeInside_6 : decode cX8_codeInside 6 = .ok (.aload_n 0, 1) := zdec_at bX8_codeInside_0 3 rfl
theorem dX8_codeInside_7 : decode cX8_codeInside 7 = .ok (.getfield 637, 3) := zdec_at bX8_codeInside_0 4 rfl
theorem dX8_codeInside_10 : decode cX8_codeInside 10 = .ok (.istore 6, 2) := zdec_at bX8_codeInside_0 5 rfl
theorem dX8_codeInside_12 : decode cX8_codeInside 12 = .ok (.aload_n 0, 1) := zdec_at bX8_codeInside_0 6 rfl
theorem dX8_codeInside_13 : decode cX8_codeInside 13 = .ok (.iload_n 1, 1) := zdec_at bX8_codeInside_0 7 rfl
theorem dX8_codeInside_14 : decode cX8_codeInside 14 = .ok (.iconst (-1), 1) := zdec_at bX8_codeInside_0 8 rfl
theorem dX8_codeInside_15 : decode cX8_codeInside 15 = .ok (.iload_n 3, 1) := zdec_at bX8_codeInside_0 9 rfl
theorem dX8_codeInside_16 : decode cX8_codeInside 16 = .ok (.iload 4, 2) := zdec_at bX8_codeInside_0 10 rfl
theorem dX8_codeInside_18 : decode cX8_codeInside 18 = .ok (.invokevirtual 723, 3) := zdec_at bX8_codeInside_0 11 rfl
theorem dX8_codeInside_21 : decode cX8_codeInside 21 = .ok (.aload_n 0, 1) := zdec_at bX8_codeInside_0 12 rfl
theorem dX8_codeInside_22 : decode cX8_codeInside 22 = .ok (.iload_n 2, 1) := zdec_at bX8_codeInside_0 13 rfl
theorem dX8_codeInside_23 : decode cX8_codeInside 23 = .ok (.invokevirtual 710, 3) := zdec_at bX8_codeInside_0 14 rfl
theorem dX8_codeInside_26 : decode cX8_codeInside 26 = .ok (.aload_n 0, 1) := zdec_at bX8_codeInside_0 15 rfl
theorem bX8_codeInside_27 : zdec cX8_codeInside 27 [(27, .iload 5, 2), (29, .iload 6, 2), (31, .invokevirtual 726, 3), (34, .return_, 1)] = true := by decide +kernel
theorem dX8_codeInside_27 : decode cX8_codeInside 27 = .ok (.iload 5, 2) := zdec_at bX8_codeInside_27 0 rfl
theorem dX8_codeInside_29 : decode cX8_codeInside 29 = .ok (.iload 6, 2) := zdec_at bX8_codeInside_27 1 rfl
theorem dX8_codeInside_31 : decode cX8_codeInside 31 = .ok (.invokevirtual 726, 3) := zdec_at bX8_codeInside_27 2 rfl
theorem dX8_codeInside_34 : decode cX8_codeInside 34 = .ok (.return_, 1) := zdec_at bX8_codeInside_27 3 rfl
theorem sX8_codeInside_0 {E : zE} {d : Nat} {Q : zO → zM → Prop} (M : zM) (l1 : Int32) (l2 : Int32) (l3 : Int32) (l4 : Int32) (k : Zm E YX8_wrapIn d M (zargs 0 [vr (some (97, 1, 0)), vi l1, vi (-1 : Int32), vi l3, vi l4]) 0 [] (zma E YX8_codeInside (d + 1) [(0, vr (some (97, 1, 0))), (2, vi l2), (5, vi (gi M 97 60)), (6, vi (gi M 97 59))] 18 3 [] Q)) : Zm E YX8_codeInside (d + 1) M [(0, vr (some (97, 1, 0))), (1, vi l1), (2, vi l2), (3, vi l3), (4, vi l4)] 0 [] Q := by
  refine Zm.l (fun _ _ k_ => z_aload_n dX8_codeInside_0 rfl rfl k_) ?_
  refine zm_geti dX8_codeInside_1 fsX8_634_1 (by decide) (by decide) ?_
  refine Zm.l (fun _ _ k_ => z_ist dX8_codeInside_4 (by decide) (lv' := [(0, vr (some (97, 1, 0))), (1, vi l1), (2, vi l2), (3, vi l3), (4, vi l4), (5, vi (gi M 97 60))]) rfl k_) ?_
  refine Zm.l (fun _ _ k_ => z_aload_n dX8_codeInside_6 rfl rfl k_) ?_
  refine zm_geti dX8_codeInside_7 fsX8_637_1 (by decide) (by decide) ?_
  refine Zm.l (fun _ _ k_ => z_ist dX8_codeInside_10 (by decide) (lv' := [(0, vr (some (97, 1, 0))), (1, vi l1), (2, vi l2), (3, vi l3), (4, vi l4), (5, vi (gi M 97 60)), (6, vi (gi M 97 59))]) rfl k_) ?_
  refine Zm.l (fun _ _ k_ => z_aload_n dX8_codeInside_12 rfl rfl k_) ?_
  refine Zm.l (fun _ _ k_ => z_iload_n dX8_codeInside_13 rfl rfl k_) ?_
  refine Zm.l (fun _ _ k_ => z_iconst (v := -1) dX8_codeInside_14 rfl k_) ?_
  refine Zm.l (fun _ _ k_ => z_iload_n dX8_codeInside_15 rfl rfl k_) ?_
  refine Zm.l (fun _ _ k_ => z_iload dX8_codeInside_16 rfl k_) ?_
  refine Zm.pick [0, 2, 5, 6] rfl ?_
  exact zm_callV (as := [vi l1, vi (-1 : Int32), vi l3, vi l4]) (st := []) dX8_codeInside_18 vsX8_723_1 (Nat.le_refl _) (Nat.le_of_ble_eq_true rfl) (Nat.le_of_ble_eq_true rfl) rfl k
theorem sX8_codeInside_21 {E : zE} {d : Nat} {Q : zO → zM → Prop} (M : zM) (l2 : Int32) (l5 : Int32) (l6 : Int32) (k : Zm E YX8_code d M (zargs 0 [vr (some (97, 1, 0)), vi l2]) 0 [] (zma E YX8_codeInside (d + 1) [(0, vr (some (97, 1, 0))), (5, vi l5), (6, vi l6)] 23 3 [] Q)) : Zm E YX8_codeInside (d + 1) M [(0, vr (some (97, 1, 0))), (2, vi l2), (5, vi l5), (6, vi l6)] 21 [] Q := by
  refine Zm.l (fun _ _ k_ => z_aload_n dX8_codeInside_21 rfl rfl k_) ?_
  refine Zm.l (fun _ _ k_ => z_iload_n dX8_codeInside_22 rfl rfl k_) ?_
  refine Zm.pick [0, 2, 3] rfl ?_
  exact zm_callV (as := [vi l2]) (st := []) dX8_codeInside_23 vsX8_710_1 (Nat.le_refl _) (Nat.le_of_ble_eq_true rfl) (Nat.le_of_ble_eq_true rfl) rfl k
theorem sX8_codeInside_26 {E : zE} {d : Nat} {Q : zO → zM → Prop} (M : zM) (l5 : Int32) (l6 : Int32) (k : Zm E YX8_unwrap d M (zargs 0 [vr (some (97, 1, 0)), vi l5, vi l6]) 0 [] (zma E YX8_codeInside (d + 1) [] 31 3 [] Q)) : Zm E YX8_codeInside (d + 1) M [(0, vr (some (97, 1, 0))), (5, vi l5), (6, vi l6)] 26 [] Q := by
  refine Zm.l (fun _ _ k_ => z_aload_n dX8_codeInside_26 rfl rfl k_) ?_
  refine Zm.l (fun _ _ k_ => z_iload dX8_codeInside_27 rfl k_) ?_
  refine Zm.l (fun _ _ k_ => z_iload dX8_codeInside_29 rfl k_) ?_
  refine Zm.pick [] rfl ?_
  exact zm_callV (as := [vi l5, vi l6]) (st := []) dX8_codeInside_31 vsX8_726_1 (Nat.le_refl _) (Nat.le_of_ble_eq_true rfl) (Nat.le_of_ble_eq_true rfl) rfl k
theorem sX8_codeInside_34 {E : zE} {d : Nat} {Q : zO → zM → Prop} (M : zM)  (k : Q (.inl none) M) : Zm E YX8_codeInside (d + 1) M [] 34 [] Q := by
  exact zm_vret dX8_codeInside_34 rfl k
/-! ScriptTypesModel.unwrap(II)V -/
theorem bX8_unwrap_0 : zdec cX8_unwrap 0 [(0, .aload_n 0, 1), (1, .iload_n 1, 1), (2, .putfield 634, 3), (5, .aload_n 0, 1), (6, .iload_n 2, 1), (7, .putfield 637, 3), (10, .return_, 1)] = true := by decide +kernel
theorem dX8_unwrap_0 : decode cX8_unwrap 0 = .ok (.aload_n 0, 1) := zdec_at bX8_unwrap_0 0 rfl
theorem dX8_unwrap_1 : decode cX8_unwrap 1 = .ok (.iload_n 1, 1) := zdec_at bX8_unwrap_0 1 rfl
theorem dX8_unwrap_2 : decode cX8_unwrap 2 = .ok (.putfield 634, 3) := zdec_at bX8_unwrap_0 2 rfl
theorem dX8_unwrap_5 : decode cX8_unwrap 5 = .ok (.aload_n 0, 1) := zdec_at bX8_unwrap_0 3 rfl
theorem dX8_unwrap_6 : decode cX8_unwrap 6 = .ok (.iload_n 2, 1) := zdec_at bX8_unwrap_0 4 rfl
theorem dX8_unwrap_7 : decode cX8_unwrap 7 = .ok (.putfield 637, 3) := zdec_at bX8_unwrap_0 5 rfl
theorem dX8_unwrap_10 : decode cX8_unwrap 10 = .ok (.return_, 1) := zdec_at bX8_unwrap_0 6 rfl
theorem sX8_unwrap_0 {E : zE} {d : Nat} {Q : zO → zM → Prop} (M : zM) (l1 : Int32) (l2 : Int32) (k : Q (.inl none) (si (si M 97 60 l1) 97 59 l2)) : Zm E YX8_unwrap d M [(0, vr (some (97, 1, 0))), (1, vi l1), (2, vi l2)] 0 [] Q := by
  refine Zm.l (fun _ _ k_ => z_aload_n dX8_unwrap_0 rfl rfl k_) ?_
  refine Zm.l (fun _ _ k_ => z_iload_n dX8_unwrap_1 rfl rfl k_) ?_
  refine zm_puti (by decide) (by decide) dX8_unwrap_2 (zfwN.w fwX8_634_1) rfl ⟨rfl, rfl⟩ ?_
  refine Zm.l (fun _ _ k_ => z_aload_n dX8_unwrap_5 rfl rfl k_) ?_
  refine Zm.l (fun _ _ k_ => z_iload_n dX8_unwrap_6 rfl rfl k_) ?_
  refine zm_puti (by decide) (by decide) dX8_unwrap_7 (zfwN.w fwX8_637_1) rfl ⟨rfl, rfl⟩ ?_
  exact zm_vret dX8_unwrap_10 rfl k
/-! ScriptTypesModel.codeAttempt(I)V -/
theorem bX8_codeAttempt_0 : zdec cX8_codeAttempt 0 [(0, .aload_n 0, 1), (1, .iload_n 1, 1), (2, .iconst 4, 1), (3, .invokevirtual 644, 3), (6, .istore_n 2, 1), (7, .iload_n 2, 1), (8, .iconst 2, 1), (9, .if_icmp .ge 9, 3), (12, .aload_n 0, 1), (13, .iload_n 1, 1), (14, .invokevirtual 747, 3), (17, .return_, 1), (18, .aload_n 0, 1), (19, .invokevirtual 674, 3), (22, .istore_n 3, 1), (23, .aload_n 0, 1)] = true := by decide +kernel
theorem dX8_codeAttempt_0 : decode cX8_codeAttempt 0 = .ok (.aload_n 0, 1) := zdec_at bX8_codeAttempt_0 0 rfl
theorem dX8_codeAttempt_1 : decode cX8_codeAttempt 1 = .ok (.iload_n 1, 1) := zdec_at bX8_codeAttempt_0 1 rfl
theorem dX8_codeAttempt_2 : decode cX8_codeAttempt 2 = .ok (.iconst 4, 1) := zdec_at bX8_codeAttempt_0 2 rfl
theorem dX8_codeAttempt_3 : decode cX8_codeAttempt 3 = .ok (.invokevirtual 644, 3) := zdec_at bX8_codeAttempt_0 3 rfl
theorem dX8_codeAttempt_6 : decode cX8_codeAttempt 6 = .ok (.istore_n 2, 1) := zdec_at bX8_codeAttempt_0 4 rfl
theorem dX8_codeAttempt_7 : decode cX8_codeAttempt 7 = .ok (.iload_n 2, 1) := zdec_at bX8_codeAttempt_0 5 rfl
theorem dX8_codeAttempt_8 : decode cX8_codeAttempt 8 = .ok (.iconst 2, 1) := zdec_at bX8_codeAttempt_0 6 rfl
theorem dX8_codeAttempt_9 : decode cX8_codeAttempt 9 = .ok (.if_icmp .ge 9, 3) := zdec_at bX8_codeAttempt_0 7 rfl
theorem dX8_codeAttempt_12 : decode cX8_codeAttempt 12 = .ok (.aload_n 0, 1) := zdec_at bX8_codeAttempt_0 8 rfl
theorem dX8_codeAttempt_13 : decode cX8_codeAttempt 13 = .ok (.iload_n 1, 1) := zdec_at bX8_codeAttempt_0 9 rfl
theorem dX8_codeAttempt_14 : decode cX8_codeAttempt 14 = .ok (.invokevirtual 747, 3) := zdec_at bX8_codeAttempt_0 10 rfl
theorem dX8_codeAttempt_17 : decode cX8_codeAttempt 17 = .ok (.return_, 1) := zdec_at bX8_codeAttempt_0 11 rfl
theorem dX8_codeAttempt_18 : decode cX8_codeAttempt 18 = .ok (.aload_n 0, 1) := zdec_at bX8_codeAttempt_0 12 rfl
theorem dX8_codeAttempt_19 : decode cX8_codeAttempt 19 = .ok (.invokevirtual 674, 3) := zdec_at bX8_codeAttempt_0 13 rfl
theorem dX8_codeAttempt_22 : decode cX8_codeAttempt 22 = .ok (.istore_n 3, 1) := zdec_at bX8_codeAttempt_0 14 rfl
theorem dX8_codeAttempt_23 : decode cX8_codeAttempt 23 = .ok (.aload_n 0, 1) := zdec_at bX8_codeAttempt_0 15 rfl
theorem bX8_codeAttempt_24 : zdec cX8_codeAttempt 24 [(24, .invokevirtual 674, 3), (27, .istore 4, 2), (29, .aload_n 0, 1), (30, .getfield 634, 3), (33, .istore 5, 2), (35, .aload_n 0, 1), (36, .getfield 637, 3), (39, .istore 6, 2), (41, .aload_n 0, 1), (42, .bipush 27, 2), (44, .iload_n 3, 1), (45, .iconst 0, 1), (46, .invokevirtual 615, 3), (49, .aload_n 0, 1), (50, .iconst 1, 1), (51, .aload_n 0, 1)] = true := by decide +kernel
theorem dX8_codeAttempt_24 : decode cX8_codeAttempt 24 = .ok (.invokevirtual 674, 3) := zdec_at bX8_codeAttempt_24 0 rfl
theorem dX8_codeAttempt_27 : decode cX8_codeAttempt 27 = .ok (.istore 4, 2) := zdec_at bX8_codeAttempt_24 1 rfl
theorem dX8_codeAttempt_29 : decode cX8_codeAttempt 29 = .ok (.aload_n 0, 1) := zdec_at bX8_codeAttempt_24 2 rfl
theorem dX8_codeAttempt_30 : decode cX8_codeAttempt 30 = .ok (.getfield 634, 3) := zdec_at bX8_codeAttempt_24 3 rfl
theorem dX8_codeAttempt_33 : decode cX8_codeAttempt 33 = .ok (.istore 5, 2) := zdec_at bX8_codeAttempt_24 4 rfl
theorem dX8_codeAttempt_35 : decode cX8_codeAttempt 35 = .ok (.aload_n 0, 1) := zdec_at bX8_codeAttempt_24 5 rfl
theorem dX8_codeAttempt_36 : decode cX8_codeAttempt 36 = .ok (.getfield 637, 3) := zdec_at bX8_codeAttempt_24 6 rfl
theorem dX8_codeAttempt_39 : decode cX8_codeAttempt 39 = .ok (.istore 6, 2) := zdec_at bX8_codeAttempt_24 7 rfl
theorem dX8_codeAttempt_41 : decode cX8_codeAttempt 41 = .ok (.aload_n 0, 1) := zdec_at bX8_codeAttempt_24 8 rfl
theorem dX8_codeAttempt_42 : decode cX8_codeAttempt 42 = .ok (.bipush 27, 2) := zdec_at bX8_codeAttempt_24 9 rfl
theorem dX8_codeAttempt_44 : decode cX8_codeAttempt 44 = .ok (.iload_n 3, 1) := zdec_at bX8_codeAttempt_24 10 rfl
theorem dX8_codeAttempt_45 : decode cX8_codeAttempt 45 = .ok (.iconst 0, 1) := zdec_at bX8_codeAttempt_24 11 rfl
theorem dX8_codeAttempt_46 : decode cX8_codeAttempt 46 = .ok (.invokevirtual 615, 3) := zdec_at bX8_codeAttempt_24 12 rfl
theorem dX8_codeAttempt_49 : decode cX8_codeAttempt 49 = .ok (.aload_n 0, 1) := zdec_at bX8_codeAttempt_24 13 rfl
theorem dX8_codeAttempt_50 : decode cX8_codeAttempt 50 = .ok (.iconst 1, 1) := zdec_at bX8_codeAttempt_24 14 rfl
theorem dX8_codeAttempt_51 : decode cX8_codeAttempt 51 = .ok (.aload_n 0, 1) := zdec_at bX8_codeAttempt_24 15 rfl
theorem bX8_codeAttempt_52 : zdec cX8_codeAttempt 52 [(52, .iload_n 1, 1), (53, .iconst 3, 1), (54, .invokevirtual 644, 3), (57, .iconst 0, 1), (58, .iconst 0, 1), (59, .invokevirtual 723, 3), (62, .iload_n 2, 1), (63, .iconst 3, 1), (64, .if_icmp .ne 11, 3), (67, .aload_n 0, 1), (68, .iload_n 1, 1), (69, .invokevirtual 747, 3), (72, .goto 13, 3), (75, .aload_n 0, 1), (76, .aload_n 0, 1), (77, .iload_n 1, 1)] = true := by decide +kernel
theorem dX8_codeAttempt_52 : decode cX8_codeAttempt 52 = .ok (.iload_n 1, 1) := zdec_at bX8_codeAttempt_52 0 rfl
theorem dX8_codeAttempt_53 : decode cX8_codeAttempt 53 = .ok (.iconst 3, 1) := zdec_at bX8_codeAttempt_52 1 rfl
theorem dX8_codeAttempt_54 : decode cX8_codeAttempt 54 = .ok (.invokevirtual 644, 3) := zdec_at bX8_codeAttempt_52 2 rfl
theorem dX8_codeAttempt_57 : decode cX8_codeAttempt 57 = .ok (.iconst 0, 1) := zdec_at bX8_codeAttempt_52 3 rfl
theorem dX8_codeAttempt_58 : decode cX8_codeAttempt 58 = .ok (.iconst 0, 1) := zdec_at bX8_codeAttempt_52 4 rfl
theorem dX8_codeAttempt_59 : decode cX8_codeAttempt 59 = .ok (.invokevirtual 723, 3) := zdec_at bX8_codeAttempt_52 5 rfl
theorem dX8_codeAttempt_62 : decode cX8_codeAttempt 62 = .ok (.iload_n 2, 1) := zdec_at bX8_codeAttempt_52 6 rfl
theorem dX8_codeAttempt_63 : decode cX8_codeAttempt 63 = .ok (.iconst 3, 1) := zdec_at bX8_codeAttempt_52 7 rfl
theorem dX8_codeAttempt_64 : decode cX8_codeAttempt 64 = .ok (.if_icmp .ne 11, 3) := zdec_at bX8_codeAttempt_52 8 rfl
theorem dX8_codeAttempt_67 : decode cX8_codeAttempt 67 = .ok (.aload_n 0, 1) := zdec_at bX8_codeAttempt_52 9 rfl
theorem dX8_codeAttempt_68 : decode cX8_codeAttempt 68 = .ok (.iload_n 1, 1) := zdec_at bX8_codeAttempt_52 10 rfl
theorem dX8_codeAttempt_69 : decode cX8_codeAttempt 69 = .ok (.invokevirtual 747, 3) := zdec_at bX8_codeAttempt_52 11 rfl
theorem dX8_codeAttempt_72 : decode cX8_codeAttempt 72 = .ok (.goto 13, 3) := zdec_at bX8_codeAttempt_52 12 rfl
theorem dX8_codeAttempt_75 : decode cX8_codeAttempt 75 = .ok (.aload_n 0, 1) := zdec_at bX8_codeAttempt_52 13 rfl
theorem dX8_codeAttempt_76 : decode cX8_codeAttempt 76 = .ok (.aload_n 0, 1) := zdec_at bX8_codeAttempt_52 14 rfl
theorem dX8_codeAttempt_77 : decode cX8_codeAttempt 77 = .ok (.iload_n 1, 1) := zdec_at bX8_codeAttempt_52 15 rfl
theorem bX8_codeAttempt_78 : zdec cX8_codeAttempt 78 [(78, .iconst 0, 1), (79, .invokevirtual 644, 3), (82, .invokevirtual 713, 3), (85, .aload_n 0, 1), (86, .iload 5, 2), (88, .iload 6, 2), (90, .invokevirtual 726, 3), (93, .aload_n 0, 1), (94, .bipush 28, 2), (96, .invokevirtual 666, 3), (99, .aload_n 0, 1), (100, .aload_n 0, 1), (101, .iload_n 1, 1), (102, .iconst 3, 1), (103, .invokevirtual 644, 3), (106, .invokevirtual 713, 3)] = true := by decide +kernel
theorem dX8_codeAttempt_78 : decode cX8_codeAttempt 78 = .ok (.iconst 0, 1) := zdec_at bX8_codeAttempt_78 0 rfl
theorem dX8_codeAttempt_79 : decode cX8_codeAttempt 79 = .ok (.invokevirtual 644, 3) := zdec_at bX8_codeAttempt_78 1 rfl
theorem dX8_codeAttempt_82 : decode cX8_codeAttempt 82 = .ok (.invokevirtual 713, 3) := zdec_at bX8_codeAttempt_78 2 rfl
theorem dX8_codeAttempt_85 : decode cX8_codeAttempt 85 = .ok (.aload_n 0, 1) := zdec_at bX8_codeAttempt_78 3 rfl
theorem dX8_codeAttempt_86 : decode cX8_codeAttempt 86 = .ok (.iload 5, 2) := zdec_at bX8_codeAttempt_78 4 rfl
theorem dX8_codeAttempt_88 : decode cX8_codeAttempt 88 = .ok (.iload 6, 2) := zdec_at bX8_codeAttempt_78 5 rfl
theorem dX8_codeAttempt_90 : decode cX8_codeAttempt 90 = .ok (.invokevirtual 726, 3) := zdec_at bX8_codeAttempt_78 6 rfl
theorem dX8_codeAttempt_93 : decode cX8_codeAttempt 93 = .ok (.aload_n 0, 1) := zdec_at bX8_codeAttempt_78 7 rfl
theorem dX8_codeAttempt_94 : decode cX8_codeAttempt 94 = .ok (.bipush 28, 2) := zdec_at bX8_codeAttempt_78 8 rfl
theorem dX8_codeAttempt_96 : decode cX8_codeAttempt 96 = .ok (.invokevirtual 666, 3) := zdec_at bX8_codeAttempt_78 9 rfl
theorem dX8_codeAttempt_99 : decode cX8_codeAttempt 99 = .ok (.aload_n 0, 1) := zdec_at bX8_codeAttempt_78 10 rfl
theorem dX8_codeAttempt_100 : decode cX8_codeAttempt 100 = .ok (.aload_n 0, 1) := zdec_at bX8_codeAttempt_78 11 rfl
theorem dX8_codeAttempt_101 : decode cX8_codeAttempt 101 = .ok (.iload_n 1, 1) := zdec_at bX8_codeAttempt_78 12 rfl
theorem dX8_codeAttempt_102 : decode cX8_codeAttempt 102 = .ok (.iconst 3, 1) := zdec_at bX8_codeAttempt_78 13 rfl
theorem dX8_codeAttempt_103 : decode cX8_codeAttempt 103 = .ok (.invokevirtual 644, 3) := zdec_at bX8_codeAttempt_78 14 rfl
theorem dX8_codeAttempt_106 : decode cX8_codeAttempt 106 = .ok (.invokevirtual 713, 3) := zdec_at bX8_codeAttempt_78 15 rfl
theorem bX8_codeAttempt_109 : zdec cX8_codeAttempt 109 [(109, .aload_n 0, 1), (110, .bipush 21, 2), (112, .iload 4, 2), (114, .iconst 0, 1), (115, .invokevirtual 615, 3), (118, .aload_n 0, 1), (119, .iload_n 3, 1), (120, .invokevirtual 677, 3), (123, .aload_n 0, 1), (124, .iconst 2, 1), (125, .iconst (-1), 1), (126, .iconst 0, 1), (127, .iconst 0, 1), (128, .invokevirtual 723, 3), (131, .aload_n 0, 1), (132, .aload_n 0, 1)] = true := by decide +kernel
theorem dX8_codeAttempt_109 : decode cX8_codeAttempt 109 = .ok (.aload_n 0, 1) := zdec_at bX8_codeAttempt_109 0 rfl
theorem dX8_codeAttempt_110 : decode cX8_codeAttempt 110 = .ok (.bipush 21, 2) := zdec_at bX8_codeAttempt_109 1 rfl
theorem dX8_codeAttempt_112 : decode cX8_codeAttempt 112 = .ok (.iload 4, 2) := zdec_at bX8_codeAttempt_109 2 rfl
theorem dX8_codeAttempt_114 : decode cX8_codeAttempt 114 = .ok (.iconst 0, 1) := zdec_at bX8_codeAttempt_109 3 rfl
theorem dX8_codeAttempt_115 : decode cX8_codeAttempt 115 = .ok (.invokevirtual 615, 3) := zdec_at bX8_codeAttempt_109 4 rfl
theorem dX8_codeAttempt_118 : decode cX8_codeAttempt 118 = .ok (.aload_n 0, 1) := zdec_at bX8_codeAttempt_109 5 rfl
theorem dX8_codeAttempt_119 : decode cX8_codeAttempt 119 = .ok (.iload_n 3, 1) := zdec_at bX8_codeAttempt_109 6 rfl
theorem dX8_codeAttempt_120 : decode cX8_codeAttempt 120 = .ok (.invokevirtual 677, 3) := zdec_at bX8_codeAttempt_109 7 rfl
theorem dX8_codeAttempt_123 : decode cX8_codeAttempt 123 = .ok (.aload_n 0, 1) := zdec_at bX8_codeAttempt_109 8 rfl
theorem dX8_codeAttempt_124 : decode cX8_codeAttempt 124 = .ok (.iconst 2, 1) := zdec_at bX8_codeAttempt_109 9 rfl
theorem dX8_codeAttempt_125 : decode cX8_codeAttempt 125 = .ok (.iconst (-1), 1) := zdec_at bX8_codeAttempt_109 10 rfl
theorem dX8_codeAttempt_126 : decode cX8_codeAttempt 126 = .ok (.iconst 0, 1) := zdec_at bX8_codeAttempt_109 11 rfl
theorem dX8_codeAttempt_127 : decode cX8_codeAttempt 127 = .ok (.iconst 0, 1) := zdec_at bX8_codeAttempt_109 12 rfl
theorem dX8_codeAttempt_128 : decode cX8_codeAttempt 128 = .ok (.invokevirtual 723, 3) := zdec_at bX8_codeAttempt_109 13 rfl
theorem dX8_codeAttempt_131 : decode cX8_codeAttempt 131 = .ok (.aload_n 0, 1) := zdec_at bX8_codeAttempt_109 14 rfl
theorem dX8_codeAttempt_132 : decode cX8_codeAttempt 132 = .ok (.aload_n 0, 1) := zdec_at bX8_codeAttempt_109 15 rfl
theorem bX8_codeAttempt_133 : zdec cX8_codeAttempt 133 [(133, .iload_n 1, 1), (134, .iconst 3, 1), (135, .invokevirtual 644, 3), (138, .invokevirtual 713, 3), (141, .aload_n 0, 1), (142, .iload 5, 2), (144, .iload 6, 2), (146, .invokevirtual 726, 3), (149, .aload_n 0, 1), (150, .bipush 26, 2), (152, .invokevirtual 666, 3), (155, .aload_n 0, 1), (156, .iload 4, 2), (158, .invokevirtual 677, 3), (161, .return_, 1)] = true := by decide +kernel
theorem dX8_codeAttempt_133 : decode cX8_codeAttempt 133 = .ok (.iload_n 1, 1) := zdec_at bX8_codeAttempt_133 0 rfl
theorem dX8_codeAttempt_134 : decode cX8_codeAttempt 134 = .ok (.iconst 3, 1) := zdec_at bX8_codeAttempt_133 1 rfl
theorem dX8_codeAttempt_135 : decode cX8_codeAttempt 135 = .ok (.invokevirtual 644, 3) := zdec_at bX8_codeAttempt_133 2 rfl
theorem dX8_codeAttempt_138 : decode cX8_codeAttempt 138 = .ok (.invokevirtual 713, 3) := zdec_at bX8_codeAttempt_133 3 rfl
theorem dX8_codeAttempt_141 : decode cX8_codeAttempt 141 = .ok (.aload_n 0, 1) := zdec_at bX8_codeAttempt_133 4 rfl
theorem dX8_codeAttempt_142 : decode cX8_codeAttempt 142 = .ok (.iload 5, 2) := zdec_at bX8_codeAttempt_133 5 rfl
theorem dX8_codeAttempt_144 : decode cX8_codeAttempt 144 = .ok (.iload 6, 2) := zdec_at bX8_codeAttempt_133 6 rfl
theorem dX8_codeAttempt_146 : decode cX8_codeAttempt 146 = .ok (.invokevirtual 726, 3) := zdec_at bX8_codeAttempt_133 7 rfl
theorem dX8_codeAttempt_149 : decode cX8_codeAttempt 149 = .ok (.aload_n 0, 1) := zdec_at bX8_codeAttempt_133 8 rfl
theorem dX8_codeAttempt_150 : decode cX8_codeAttempt 150 = .ok (.bipush 26, 2) := zdec_at bX8_codeAttempt_133 9 rfl
theorem dX8_codeAttempt_152 : decode cX8_codeAttempt 152 = .ok (.invokevirtual 666, 3) := zdec_at bX8_codeAttempt_133 10 rfl
theorem dX8_codeAttempt_155 : decode cX8_codeAttempt 155 = .ok (.aload_n 0, 1) := zdec_at bX8_codeAttempt_133 11 rfl
theorem dX8_codeAttempt_156 : decode cX8_codeAttempt 156 = .ok (.iload 4, 2) := zdec_at bX8_codeAttempt_133 12 rfl
theorem dX8_codeAttempt_158 : decode cX8_codeAttempt 158 = .ok (.invokevirtual 677, 3) := zdec_at bX8_codeAttempt_133 13 rfl
theorem dX8_codeAttempt_161 : decode cX8_codeAttempt 161 = .ok (.return_, 1) := zdec_at bX8_codeAttempt_133 14 rfl
theorem sX8_codeAttempt_0 {E : zE} {d : Nat} {Q : zO → zM → Prop} (M : zM) (l1 : Int32) (k : Zm E YX8_part d M (zargs 0 [vr (some (97, 1, 0)), vi l1, vi (4 : Int32)]) 0 [] (zma E YX8_codeAttempt (d + 1) [(0, vr (some (97, 1, 0))), (1, vi l1)] 3 3 [] Q)) : Zm E YX8_codeAttempt (d + 1) M [(0, vr (some (97, 1, 0))), (1, vi l1)] 0 [] Q := by
  refine Zm.l (fun _ _ k_ => z_aload_n dX8_codeAttempt_0 rfl rfl k_) ?_
  refine Zm.l (fun _ _ k_ => z_iload_n dX8_codeAttempt_1 rfl rfl k_) ?_
  refine Zm.l (fun _ _ k_ => z_iconst (v := 4) dX8_codeAttempt_2 rfl k_) ?_
  exact zm_callV (as := [vi l1, vi (4 : Int32)]) (st := []) dX8_codeAttempt_3 vsX8_644_1 (Nat.le_refl _) (Nat.le_of_ble_eq_true rfl) (Nat.le_of_ble_eq_true rfl) rfl k
theorem sX8_codeAttempt_6 {E : zE} {d : Nat} {Q : zO → zM → Prop} (M : zM) (l1 : Int32) (s0 : Int32) (k : if (2 : Int32) ≤ s0 then (Zm E YX8_mark d M (zargs 0 [vr (some (97, 1, 0))]) 0 [] (zma E YX8_codeAttempt (d + 1) [(0, vr (some (97, 1, 0))), (1, vi l1), (2, vi s0)] 19 3 [] Q)) else (Zm E YX8_codeCatch d M (zargs 0 [vr (some (97, 1, 0)), vi l1]) 0 [] (zma E YX8_codeAttempt (d + 1) [] 14 3 [] Q))) : Zm E YX8_codeAttempt (d + 1) M [(0, vr (some (97, 1, 0))), (1, vi l1)] 6 [vi s0] Q := by
  refine Zm.l (fun _ _ k_ => z_ist_n dX8_codeAttempt_6 rfl (by decide) (lv' := [(0, vr (some (97, 1, 0))), (1, vi l1), (2, vi s0)]) rfl k_) ?_
  refine Zm.l (fun _ _ k_ => z_iload_n dX8_codeAttempt_7 rfl rfl k_) ?_
  refine Zm.l (fun _ _ k_ => z_iconst (v := 2) dX8_codeAttempt_8 rfl k_) ?_
  refine Zm.br (fun _ _ k1_ k2_ => z_icmp_ge (tgt := 18) dX8_codeAttempt_9 rfl k1_ k2_) (fun h_ => ?_) (fun h_ => ?_)
  · have k := zit h_ k
    refine Zm.l (fun _ _ k_ => z_aload_n dX8_codeAttempt_18 rfl rfl k_) ?_
    exact zm_callV (as := []) (st := []) dX8_codeAttempt_19 vsX8_674_1 (Nat.le_refl _) (Nat.le_of_ble_eq_true rfl) (Nat.le_of_ble_eq_true rfl) rfl k
  · have k := zif h_ k
    refine Zm.l (fun _ _ k_ => z_aload_n dX8_codeAttempt_12 rfl rfl k_) ?_
    refine Zm.l (fun _ _ k_ => z_iload_n dX8_codeAttempt_13 rfl rfl k_) ?_
    refine Zm.pick [] rfl ?_
    exact zm_callV (as := [vi l1]) (st := []) dX8_codeAttempt_14 vsX8_747_1 (Nat.le_refl _) (Nat.le_of_ble_eq_true rfl) (Nat.le_of_ble_eq_true rfl) rfl k
theorem sX8_codeAttempt_17 {E : zE} {d : Nat} {Q : zO → zM → Prop} (M : zM)  (k : Q (.inl none) M) : Zm E YX8_codeAttempt (d + 1) M [] 17 [] Q := by
  exact zm_vret dX8_codeAttempt_17 rfl k
theorem sX8_codeAttempt_22 {E : zE} {d : Nat} {Q : zO → zM → Prop} (M : zM) (l1 : Int32) (l2 : Int32) (s0 : Int32) (k : Zm E YX8_mark d M (zargs 0 [vr (some (97, 1, 0))]) 0 [] (zma E YX8_codeAttempt (d + 1) [(0, vr (some (97, 1, 0))), (1, vi l1), (2, vi l2), (3, vi s0)] 24 3 [] Q)) : Zm E YX8_codeAttempt (d + 1) M [(0, vr (some (97, 1, 0))), (1, vi l1), (2, vi l2)] 22 [vi s0] Q := by
  refine Zm.l (fun _ _ k_ => z_ist_n dX8_codeAttempt_22 rfl (by decide) (lv' := [(0, vr (some (97, 1, 0))), (1, vi l1), (2, vi l2), (3, vi s0)]) rfl k_) ?_
  refine Zm.l (fun _ _ k_ => z_aload_n dX8_codeAttempt_23 rfl rfl k_) ?_
  exact zm_callV (as := []) (st := []) dX8_codeAttempt_24 vsX8_674_1 (Nat.le_refl _) (Nat.le_of_ble_eq_true rfl) (Nat.le_of_ble_eq_true rfl) rfl k
theorem sX8_codeAttempt_27 {E : zE} {d : Nat} {Q : zO → zM → Prop} (M : zM) (l1 : Int32) (l2 : Int32) (l3 : Int32) (s0 : Int32) (k : Zm E YX8_emit d M (zargs 0 [vr (some (97, 1, 0)), vi (27 : Int32), vi l3, vi (0 : Int32)]) 0 [] (zma E YX8_codeAttempt (d + 1) [(0, vr (some (97, 1, 0))), (1, vi l1), (2, vi l2), (3, vi l3), (4, vi s0), (5, vi (gi M 97 60)), (6, vi (gi M 97 59))] 46 3 [] Q)) : Zm E YX8_codeAttempt (d + 1) M [(0, vr (some (97, 1, 0))), (1, vi l1), (2, vi l2), (3, vi l3)] 27 [vi s0] Q := by
  refine Zm.l (fun _ _ k_ => z_ist dX8_codeAttempt_27 (by decide) (lv' := [(0, vr (some (97, 1, 0))), (1, vi l1), (2, vi l2), (3, vi l3), (4, vi s0)]) rfl k_) ?_
  refine Zm.l (fun _ _ k_ => z_aload_n dX8_codeAttempt_29 rfl rfl k_) ?_
  refine zm_geti dX8_codeAttempt_30 fsX8_634_1 (by decide) (by decide) ?_
  refine Zm.l (fun _ _ k_ => z_ist dX8_codeAttempt_33 (by decide) (lv' := [(0, vr (some (97, 1, 0))), (1, vi l1), (2, vi l2), (3, vi l3), (4, vi s0), (5, vi (gi M 97 60))]) rfl k_) ?_
  refine Zm.l (fun _ _ k_ => z_aload_n dX8_codeAttempt_35 rfl rfl k_) ?_
  refine zm_geti dX8_codeAttempt_36 fsX8_637_1 (by decide) (by decide) ?_
  refine Zm.l (fun _ _ k_ => z_ist dX8_codeAttempt_39 (by decide) (lv' := [(0, vr (some (97, 1, 0))), (1, vi l1), (2, vi l2), (3, vi l3), (4, vi s0), (5, vi (gi M 97 60)), (6, vi (gi M 97 59))]) rfl k_) ?_
  refine Zm.l (fun _ _ k_ => z_aload_n dX8_codeAttempt_41 rfl rfl k_) ?_
  refine Zm.l (fun _ _ k_ => z_bipush (v := 27) dX8_codeAttempt_42 rfl k_) ?_
  refine Zm.l (fun _ _ k_ => z_iload_n dX8_codeAttempt_44 rfl rfl k_) ?_
  refine Zm.l (fun _ _ k_ => z_iconst (v := 0) dX8_codeAttempt_45 rfl k_) ?_
  exact zm_callV (as := [vi (27 : Int32), vi l3, vi (0 : Int32)]) (st := []) dX8_codeAttempt_46 vsX8_615_1 (Nat.le_refl _) (Nat.le_of_ble_eq_true rfl) (Nat.le_of_ble_eq_true rfl) rfl k
theorem sX8_codeAttempt_49 {E : zE} {d : Nat} {Q : zO → zM → Prop} (M : zM) (l1 : Int32) (l2 : Int32) (l3 : Int32) (l4 : Int32) (l5 : Int32) (l6 : Int32) (k : Zm E YX8_part d M (zargs 0 [vr (some (97, 1, 0)), vi l1, vi (3 : Int32)]) 0 [] (zma E YX8_codeAttempt (d + 1) [(0, vr (some (97, 1, 0))), (1, vi l1), (2, vi l2), (3, vi l3), (4, vi l4), (5, vi l5), (6, vi l6)] 54 3 [vi (1 : Int32), vr (some (97, 1, 0))] Q)) : Zm E YX8_codeAttempt (d + 1) M [(0, vr (some (97, 1, 0))), (1, vi l1), (2, vi l2), (3, vi l3), (4, vi l4), (5, vi l5), (6, vi l6)] 49 [] Q := by
  refine Zm.l (fun _ _ k_ => z_aload_n dX8_codeAttempt_49 rfl rfl k_) ?_
  refine Zm.l (fun _ _ k_ => z_iconst (v := 1) dX8_codeAttempt_50 rfl k_) ?_
  refine Zm.l (fun _ _ k_ => z_aload_n dX8_codeAttempt_51 rfl rfl k_) ?_
  refine Zm.l (fun _ _ k_ => z_iload_n dX8_codeAttempt_52 rfl rfl k_) ?_
  refine Zm.l (fun _ _ k_ => z_iconst (v := 3) dX8_codeAttempt_53 rfl k_) ?_
  exact zm_callV (as := [vi l1, vi (3 : Int32)]) (st := [vi (1 : Int32), vr (some (97, 1, 0))]) dX8_codeAttempt_54 vsX8_644_1 (Nat.le_refl _) (Nat.le_of_ble_eq_true rfl) (Nat.le_of_ble_eq_true rfl) rfl k
theorem sX8_codeAttempt_57 {E : zE} {d : Nat} {Q : zO → zM → Prop} (M : zM) (l1 : Int32) (l2 : Int32) (l3 : Int32) (l4 : Int32) (l5 : Int32) (l6 : Int32) (s0 : Int32) (s1 : Int32) (k : Zm E YX8_wrapIn d M (zargs 0 [vr (some (97, 1, 0)), vi s1, vi s0, vi (0 : Int32), vi (0 : Int32)]) 0 [] (zma E YX8_codeAttempt (d + 1) [(0, vr (some (97, 1, 0))), (1, vi l1), (2, vi l2), (3, vi l3), (4, vi l4), (5, vi l5), (6, vi l6)] 59 3 [] Q)) : Zm E YX8_codeAttempt (d + 1) M [(0, vr (some (97, 1, 0))), (1, vi l1), (2, vi l2), (3, vi l3), (4, vi l4), (5, vi l5), (6, vi l6)] 57 [vi s0, vi s1, vr (some (97, 1, 0))] Q := by
  refine Zm.l (fun _ _ k_ => z_iconst (v := 0) dX8_codeAttempt_57 rfl k_) ?_
  refine Zm.l (fun _ _ k_ => z_iconst (v := 0) dX8_codeAttempt_58 rfl k_) ?_
  exact zm_callV (as := [vi s1, vi s0, vi (0 : Int32), vi (0 : Int32)]) (st := []) dX8_codeAttempt_59 vsX8_723_1 (Nat.le_refl _) (Nat.le_of_ble_eq_true rfl) (Nat.le_of_ble_eq_true rfl) rfl k
theorem sX8_codeAttempt_62 {E : zE} {d : Nat} {Q : zO → zM → Prop} (M : zM) (l1 : Int32) (l2 : Int32) (l3 : Int32) (l4 : Int32) (l5 : Int32) (l6 : Int32) (k : if l2 = (3 : Int32) then (Zm E YX8_codeCatch d M (zargs 0 [vr (some (97, 1, 0)), vi l1]) 0 [] (zma E YX8_codeAttempt (d + 1) [(0, vr (some (97, 1, 0))), (1, vi l1), (3, vi l3), (4, vi l4), (5, vi l5), (6, vi l6)] 69 3 [] Q)) else (Zm E YX8_part d M (zargs 0 [vr (some (97, 1, 0)), vi l1, vi (0 : Int32)]) 0 [] (zma E YX8_codeAttempt (d + 1) [(0, vr (some (97, 1, 0))), (1, vi l1), (3, vi l3), (4, vi l4), (5, vi l5), (6, vi l6)] 79 3 [vr (some (97, 1, 0))] Q))) : Zm E YX8_codeAttempt (d + 1) M [(0, vr (some (97, 1, 0))), (1, vi l1), (2, vi l2), (3, vi l3), (4, vi l4), (5, vi l5), (6, vi l6)] 62 [] Q := by
  refine Zm.l (fun _ _ k_ => z_iload_n dX8_codeAttempt_62 rfl rfl k_) ?_
  refine Zm.l (fun _ _ k_ => z_iconst (v := 3) dX8_codeAttempt_63 rfl k_) ?_
  refine Zm.brn (fun _ _ k1_ k2_ => z_icmp_ne (tgt := 75) dX8_codeAttempt_64 rfl k1_ k2_) (fun h_ => ?_) (fun h_ => ?_)
  · have k := zif h_ k
    refine Zm.l (fun _ _ k_ => z_aload_n dX8_codeAttempt_75 rfl rfl k_) ?_
    refine Zm.l (fun _ _ k_ => z_aload_n dX8_codeAttempt_76 rfl rfl k_) ?_
    refine Zm.l (fun _ _ k_ => z_iload_n dX8_codeAttempt_77 rfl rfl k_) ?_
    refine Zm.l (fun _ _ k_ => z_iconst (v := 0) dX8_codeAttempt_78 rfl k_) ?_
    refine Zm.pick [0, 1, 3, 4, 5, 6] rfl ?_
    exact zm_callV (as := [vi l1, vi (0 : Int32)]) (st := [vr (some (97, 1, 0))]) dX8_codeAttempt_79 vsX8_644_1 (Nat.le_refl _) (Nat.le_of_ble_eq_true rfl) (Nat.le_of_ble_eq_true rfl) rfl k
  · have k := zit h_ k
    refine Zm.l (fun _ _ k_ => z_aload_n dX8_codeAttempt_67 rfl rfl k_) ?_
    refine Zm.l (fun _ _ k_ => z_iload_n dX8_codeAttempt_68 rfl rfl k_) ?_
    refine Zm.pick [0, 1, 3, 4, 5, 6] rfl ?_
    exact zm_callV (as := [vi l1]) (st := []) dX8_codeAttempt_69 vsX8_747_1 (Nat.le_refl _) (Nat.le_of_ble_eq_true rfl) (Nat.le_of_ble_eq_true rfl) rfl k
theorem sX8_codeAttempt_72 {E : zE} {d : Nat} {Q : zO → zM → Prop} (M : zM) (l1 : Int32) (l3 : Int32) (l4 : Int32) (l5 : Int32) (l6 : Int32) (k : Zm E YX8_codeAttempt (d + 1) M [(0, vr (some (97, 1, 0))), (1, vi l1), (3, vi l3), (4, vi l4), (5, vi l5), (6, vi l6)] 85 [] Q) : Zm E YX8_codeAttempt (d + 1) M [(0, vr (some (97, 1, 0))), (1, vi l1), (3, vi l3), (4, vi l4), (5, vi l5), (6, vi l6)] 72 [] Q := by
  refine Zm.l (fun _ _ k_ => z_goto (tgt := 85) dX8_codeAttempt_72 rfl k_) ?_
  exact k
theorem sX8_codeAttempt_82 {E : zE} {d : Nat} {Q : zO → zM → Prop} (M : zM) (l1 : Int32) (l3 : Int32) (l4 : Int32) (l5 : Int32) (l6 : Int32) (s0 : Int32) (k : Zm E YX8_codes d M (zargs 0 [vr (some (97, 1, 0)), vi s0]) 0 [] (zma E YX8_codeAttempt (d + 1) [(0, vr (some (97, 1, 0))), (1, vi l1), (3, vi l3), (4, vi l4), (5, vi l5), (6, vi l6)] 82 3 [] Q)) : Zm E YX8_codeAttempt (d + 1) M [(0, vr (some (97, 1, 0))), (1, vi l1), (3, vi l3), (4, vi l4), (5, vi l5), (6, vi l6)] 82 [vi s0, vr (some (97, 1, 0))] Q := by
  exact zm_callV (as := [vi s0]) (st := []) dX8_codeAttempt_82 vsX8_713_1 (Nat.le_refl _) (Nat.le_of_ble_eq_true rfl) (Nat.le_of_ble_eq_true rfl) rfl k
theorem sX8_codeAttempt_85 {E : zE} {d : Nat} {Q : zO → zM → Prop} (M : zM) (l1 : Int32) (l3 : Int32) (l4 : Int32) (l5 : Int32) (l6 : Int32) (k : Zm E YX8_unwrap d M (zargs 0 [vr (some (97, 1, 0)), vi l5, vi l6]) 0 [] (zma E YX8_codeAttempt (d + 1) [(0, vr (some (97, 1, 0))), (1, vi l1), (3, vi l3), (4, vi l4), (5, vi l5), (6, vi l6)] 90 3 [] Q)) : Zm E YX8_codeAttempt (d + 1) M [(0, vr (some (97, 1, 0))), (1, vi l1), (3, vi l3), (4, vi l4), (5, vi l5), (6, vi l6)] 85 [] Q := by
  refine Zm.l (fun _ _ k_ => z_aload_n dX8_codeAttempt_85 rfl rfl k_) ?_
  refine Zm.l (fun _ _ k_ => z_iload dX8_codeAttempt_86 rfl k_) ?_
  refine Zm.l (fun _ _ k_ => z_iload dX8_codeAttempt_88 rfl k_) ?_
  exact zm_callV (as := [vi l5, vi l6]) (st := []) dX8_codeAttempt_90 vsX8_726_1 (Nat.le_refl _) (Nat.le_of_ble_eq_true rfl) (Nat.le_of_ble_eq_true rfl) rfl k
theorem sX8_codeAttempt_93 {E : zE} {d : Nat} {Q : zO → zM → Prop} (M : zM) (l1 : Int32) (l3 : Int32) (l4 : Int32) (l5 : Int32) (l6 : Int32) (k : Zm E YX8_emit_2 d M (zargs 0 [vr (some (97, 1, 0)), vi (28 : Int32)]) 0 [] (zma E YX8_codeAttempt (d + 1) [(0, vr (some (97, 1, 0))), (1, vi l1), (3, vi l3), (4, vi l4), (5, vi l5), (6, vi l6)] 96 3 [] Q)) : Zm E YX8_codeAttempt (d + 1) M [(0, vr (some (97, 1, 0))), (1, vi l1), (3, vi l3), (4, vi l4), (5, vi l5), (6, vi l6)] 93 [] Q := by
  refine Zm.l (fun _ _ k_ => z_aload_n dX8_codeAttempt_93 rfl rfl k_) ?_
  refine Zm.l (fun _ _ k_ => z_bipush (v := 28) dX8_codeAttempt_94 rfl k_) ?_
  exact zm_callV (as := [vi (28 : Int32)]) (st := []) dX8_codeAttempt_96 vsX8_666_1 (Nat.le_refl _) (Nat.le_of_ble_eq_true rfl) (Nat.le_of_ble_eq_true rfl) rfl k
theorem sX8_codeAttempt_99 {E : zE} {d : Nat} {Q : zO → zM → Prop} (M : zM) (l1 : Int32) (l3 : Int32) (l4 : Int32) (l5 : Int32) (l6 : Int32) (k : Zm E YX8_part d M (zargs 0 [vr (some (97, 1, 0)), vi l1, vi (3 : Int32)]) 0 [] (zma E YX8_codeAttempt (d + 1) [(0, vr (some (97, 1, 0))), (1, vi l1), (3, vi l3), (4, vi l4), (5, vi l5), (6, vi l6)] 103 3 [vr (some (97, 1, 0))] Q)) : Zm E YX8_codeAttempt (d + 1) M [(0, vr (some (97, 1, 0))), (1, vi l1), (3, vi l3), (4, vi l4), (5, vi l5), (6, vi l6)] 99 [] Q := by
  refine Zm.l (fun _ _ k_ => z_aload_n dX8_codeAttempt_99 rfl rfl k_) ?_
  refine Zm.l (fun _ _ k_ => z_aload_n dX8_codeAttempt_100 rfl rfl k_) ?_
  refine Zm.l (fun _ _ k_ => z_iload_n dX8_codeAttempt_101 rfl rfl k_) ?_
  refine Zm.l (fun _ _ k_ => z_iconst (v := 3) dX8_codeAttempt_102 rfl k_) ?_
  exact zm_callV (as := [vi l1, vi (3 : Int32)]) (st := [vr (some (97, 1, 0))]) dX8_codeAttempt_103 vsX8_644_1 (Nat.le_refl _) (Nat.le_of_ble_eq_true rfl) (Nat.le_of_ble_eq_true rfl) rfl k
theorem sX8_codeAttempt_106 {E : zE} {d : Nat} {Q : zO → zM → Prop} (M : zM) (l1 : Int32) (l3 : Int32) (l4 : Int32) (l5 : Int32) (l6 : Int32) (s0 : Int32) (k : Zm E YX8_codes d M (zargs 0 [vr (some (97, 1, 0)), vi s0]) 0 [] (zma E YX8_codeAttempt (d + 1) [(0, vr (some (97, 1, 0))), (1, vi l1), (3, vi l3), (4, vi l4), (5, vi l5), (6, vi l6)] 106 3 [] Q)) : Zm E YX8_codeAttempt (d + 1) M [(0, vr (some (97, 1, 0))), (1, vi l1), (3, vi l3), (4, vi l4), (5, vi l5), (6, vi l6)] 106 [vi s0, vr (some (97, 1, 0))] Q := by
  exact zm_callV (as := [vi s0]) (st := []) dX8_codeAttempt_106 vsX8_713_1 (Nat.le_refl _) (Nat.le_of_ble_eq_true rfl) (Nat.le_of_ble_eq_true rfl) rfl k
theorem sX8_codeAttempt_109 {E : zE} {d : Nat} {Q : zO → zM → Prop} (M : zM) (l1 : Int32) (l3 : Int32) (l4 : Int32) (l5 : Int32) (l6 : Int32) (k : Zm E YX8_emit d M (zargs 0 [vr (some (97, 1, 0)), vi (21 : Int32), vi l4, vi (0 : Int32)]) 0 [] (zma E YX8_codeAttempt (d + 1) [(0, vr (some (97, 1, 0))), (1, vi l1), (3, vi l3), (4, vi l4), (5, vi l5), (6, vi l6)] 115 3 [] Q)) : Zm E YX8_codeAttempt (d + 1) M [(0, vr (some (97, 1, 0))), (1, vi l1), (3, vi l3), (4, vi l4), (5, vi l5), (6, vi l6)] 109 [] Q := by
  refine Zm.l (fun _ _ k_ => z_aload_n dX8_codeAttempt_109 rfl rfl k_) ?_
  refine Zm.l (fun _ _ k_ => z_bipush (v := 21) dX8_codeAttempt_110 rfl k_) ?_
  refine Zm.l (fun _ _ k_ => z_iload dX8_codeAttempt_112 rfl k_) ?_
  refine Zm.l (fun _ _ k_ => z_iconst (v := 0) dX8_codeAttempt_114 rfl k_) ?_
  exact zm_callV (as := [vi (21 : Int32), vi l4, vi (0 : Int32)]) (st := []) dX8_codeAttempt_115 vsX8_615_1 (Nat.le_refl _) (Nat.le_of_ble_eq_true rfl) (Nat.le_of_ble_eq_true rfl) rfl k
theorem sX8_codeAttempt_118 {E : zE} {d : Nat} {Q : zO → zM → Prop} (M : zM) (l1 : Int32) (l3 : Int32) (l4 : Int32) (l5 : Int32) (l6 : Int32) (k : Zm E YX8_here d M (zargs 0 [vr (some (97, 1, 0)), vi l3]) 0 [] (zma E YX8_codeAttempt (d + 1) [(0, vr (some (97, 1, 0))), (1, vi l1), (4, vi l4), (5, vi l5), (6, vi l6)] 120 3 [] Q)) : Zm E YX8_codeAttempt (d + 1) M [(0, vr (some (97, 1, 0))), (1, vi l1), (3, vi l3), (4, vi l4), (5, vi l5), (6, vi l6)] 118 [] Q := by
  refine Zm.l (fun _ _ k_ => z_aload_n dX8_codeAttempt_118 rfl rfl k_) ?_
  refine Zm.l (fun _ _ k_ => z_iload_n dX8_codeAttempt_119 rfl rfl k_) ?_
  refine Zm.pick [0, 1, 3, 4, 5] rfl ?_
  exact zm_callV (as := [vi l3]) (st := []) dX8_codeAttempt_120 vsX8_677_1 (Nat.le_refl _) (Nat.le_of_ble_eq_true rfl) (Nat.le_of_ble_eq_true rfl) rfl k
theorem sX8_codeAttempt_123 {E : zE} {d : Nat} {Q : zO → zM → Prop} (M : zM) (l1 : Int32) (l4 : Int32) (l5 : Int32) (l6 : Int32) (k : Zm E YX8_wrapIn d M (zargs 0 [vr (some (97, 1, 0)), vi (2 : Int32), vi (-1 : Int32), vi (0 : Int32), vi (0 : Int32)]) 0 [] (zma E YX8_codeAttempt (d + 1) [(0, vr (some (97, 1, 0))), (1, vi l1), (4, vi l4), (5, vi l5), (6, vi l6)] 128 3 [] Q)) : Zm E YX8_codeAttempt (d + 1) M [(0, vr (some (97, 1, 0))), (1, vi l1), (4, vi l4), (5, vi l5), (6, vi l6)] 123 [] Q := by
  refine Zm.l (fun _ _ k_ => z_aload_n dX8_codeAttempt_123 rfl rfl k_) ?_
  refine Zm.l (fun _ _ k_ => z_iconst (v := 2) dX8_codeAttempt_124 rfl k_) ?_
  refine Zm.l (fun _ _ k_ => z_iconst (v := -1) dX8_codeAttempt_125 rfl k_) ?_
  refine Zm.l (fun _ _ k_ => z_iconst (v := 0) dX8_codeAttempt_126 rfl k_) ?_
  refine Zm.l (fun _ _ k_ => z_iconst (v := 0) dX8_codeAttempt_127 rfl k_) ?_
  exact zm_callV (as := [vi (2 : Int32), vi (-1 : Int32), vi (0 : Int32), vi (0 : Int32)]) (st := []) dX8_codeAttempt_128 vsX8_723_1 (Nat.le_refl _) (Nat.le_of_ble_eq_true rfl) (Nat.le_of_ble_eq_true rfl) rfl k
theorem sX8_codeAttempt_131 {E : zE} {d : Nat} {Q : zO → zM → Prop} (M : zM) (l1 : Int32) (l4 : Int32) (l5 : Int32) (l6 : Int32) (k : Zm E YX8_part d M (zargs 0 [vr (some (97, 1, 0)), vi l1, vi (3 : Int32)]) 0 [] (zma E YX8_codeAttempt (d + 1) [(0, vr (some (97, 1, 0))), (4, vi l4), (5, vi l5), (6, vi l6)] 135 3 [vr (some (97, 1, 0))] Q)) : Zm E YX8_codeAttempt (d + 1) M [(0, vr (some (97, 1, 0))), (1, vi l1), (4, vi l4), (5, vi l5), (6, vi l6)] 131 [] Q := by
  refine Zm.l (fun _ _ k_ => z_aload_n dX8_codeAttempt_131 rfl rfl k_) ?_
  refine Zm.l (fun _ _ k_ => z_aload_n dX8_codeAttempt_132 rfl rfl k_) ?_
  refine Zm.l (fun _ _ k_ => z_iload_n dX8_codeAttempt_133 rfl rfl k_) ?_
  refine Zm.l (fun _ _ k_ => z_iconst (v := 3) dX8_codeAttempt_134 rfl k_) ?_
  refine Zm.pick [0, 2, 3, 4] rfl ?_
  exact zm_callV (as := [vi l1, vi (3 : Int32)]) (st := [vr (some (97, 1, 0))]) dX8_codeAttempt_135 vsX8_644_1 (Nat.le_refl _) (Nat.le_of_ble_eq_true rfl) (Nat.le_of_ble_eq_true rfl) rfl k
theorem sX8_codeAttempt_138 {E : zE} {d : Nat} {Q : zO → zM → Prop} (M : zM) (l4 : Int32) (l5 : Int32) (l6 : Int32) (s0 : Int32) (k : Zm E YX8_codes d M (zargs 0 [vr (some (97, 1, 0)), vi s0]) 0 [] (zma E YX8_codeAttempt (d + 1) [(0, vr (some (97, 1, 0))), (4, vi l4), (5, vi l5), (6, vi l6)] 138 3 [] Q)) : Zm E YX8_codeAttempt (d + 1) M [(0, vr (some (97, 1, 0))), (4, vi l4), (5, vi l5), (6, vi l6)] 138 [vi s0, vr (some (97, 1, 0))] Q := by
  exact zm_callV (as := [vi s0]) (st := []) dX8_codeAttempt_138 vsX8_713_1 (Nat.le_refl _) (Nat.le_of_ble_eq_true rfl) (Nat.le_of_ble_eq_true rfl) rfl k
theorem sX8_codeAttempt_141 {E : zE} {d : Nat} {Q : zO → zM → Prop} (M : zM) (l4 : Int32) (l5 : Int32) (l6 : Int32) (k : Zm E YX8_unwrap d M (zargs 0 [vr (some (97, 1, 0)), vi l5, vi l6]) 0 [] (zma E YX8_codeAttempt (d + 1) [(0, vr (some (97, 1, 0))), (4, vi l4)] 146 3 [] Q)) : Zm E YX8_codeAttempt (d + 1) M [(0, vr (some (97, 1, 0))), (4, vi l4), (5, vi l5), (6, vi l6)] 141 [] Q := by
  refine Zm.l (fun _ _ k_ => z_aload_n dX8_codeAttempt_141 rfl rfl k_) ?_
  refine Zm.l (fun _ _ k_ => z_iload dX8_codeAttempt_142 rfl k_) ?_
  refine Zm.l (fun _ _ k_ => z_iload dX8_codeAttempt_144 rfl k_) ?_
  refine Zm.pick [0, 1] rfl ?_
  exact zm_callV (as := [vi l5, vi l6]) (st := []) dX8_codeAttempt_146 vsX8_726_1 (Nat.le_refl _) (Nat.le_of_ble_eq_true rfl) (Nat.le_of_ble_eq_true rfl) rfl k
theorem sX8_codeAttempt_149 {E : zE} {d : Nat} {Q : zO → zM → Prop} (M : zM) (l4 : Int32) (k : Zm E YX8_emit_2 d M (zargs 0 [vr (some (97, 1, 0)), vi (26 : Int32)]) 0 [] (zma E YX8_codeAttempt (d + 1) [(0, vr (some (97, 1, 0))), (4, vi l4)] 152 3 [] Q)) : Zm E YX8_codeAttempt (d + 1) M [(0, vr (some (97, 1, 0))), (4, vi l4)] 149 [] Q := by
  refine Zm.l (fun _ _ k_ => z_aload_n dX8_codeAttempt_149 rfl rfl k_) ?_
  refine Zm.l (fun _ _ k_ => z_bipush (v := 26) dX8_codeAttempt_150 rfl k_) ?_
  exact zm_callV (as := [vi (26 : Int32)]) (st := []) dX8_codeAttempt_152 vsX8_666_1 (Nat.le_refl _) (Nat.le_of_ble_eq_true rfl) (Nat.le_of_ble_eq_true rfl) rfl k
theorem sX8_codeAttempt_155 {E : zE} {d : Nat} {Q : zO → zM → Prop} (M : zM) (l4 : Int32) (k : Zm E YX8_here d M (zargs 0 [vr (some (97, 1, 0)), vi l4]) 0 [] (zma E YX8_codeAttempt (d + 1) [] 158 3 [] Q)) : Zm E YX8_codeAttempt (d + 1) M [(0, vr (some (97, 1, 0))), (4, vi l4)] 155 [] Q := by
  refine Zm.l (fun _ _ k_ => z_aload_n dX8_codeAttempt_155 rfl rfl k_) ?_
  refine Zm.l (fun _ _ k_ => z_iload dX8_codeAttempt_156 rfl k_) ?_
  refine Zm.pick [] rfl ?_
  exact zm_callV (as := [vi l4]) (st := []) dX8_codeAttempt_158 vsX8_677_1 (Nat.le_refl _) (Nat.le_of_ble_eq_true rfl) (Nat.le_of_ble_eq_true rfl) rfl k
theorem sX8_codeAttempt_161 {E : zE} {d : Nat} {Q : zO → zM → Prop} (M : zM)  (k : Q (.inl none) M) : Zm E YX8_codeAttempt (d + 1) M [] 161 [] Q := by
  exact zm_vret dX8_codeAttempt_161 rfl k
/-! ScriptTypesModel.codeCatch(I)V -/
theorem bX8_codeCatch_0 : zdec cX8_codeCatch 0 [(0, .aload_n 0, 1), (1, .invokevirtual 674, 3), (4, .istore_n 2, 1), (5, .aload_n 0, 1), (6, .invokevirtual 674, 3), (9, .istore_n 3, 1), (10, .aload_n 0, 1), (11, .getfield 634, 3), (14, .istore 4, 2), (16, .aload_n 0, 1), (17, .getfield 637, 3), (20, .istore 5, 2), (22, .aload_n 0, 1), (23, .bipush 27, 2), (25, .iload_n 2, 1), (26, .iconst 0, 1)] = true := by decide +kernel
theorem dX8_codeCatch_0 : decode cX8_codeCatch 0 = .ok (.aload_n 0, 1) := zdec_at bX8_codeCatch_0 0 rfl
theorem dX8_codeCatch_1 : decode cX8_codeCatch 1 = .ok (.invokevirtual 674, 3) := zdec_at bX8_codeCatch_0 1 rfl
theorem dX8_codeCatch_4 : decode cX8_codeCatch 4 = .ok (.istore_n 2, 1) := zdec_at bX8_codeCatch_0 2 rfl
theorem dX8_codeCatch_5 : decode cX8_codeCatch 5 = .ok (.aload_n 0, 1) := zdec_at bX8_codeCatch_0 3 rfl
theorem dX8_codeCatch_6 : decode cX8_codeCatch 6 = .ok (.invokevirtual 674, 3) := zdec_at bX8_codeCatch_0 4 rfl
theorem dX8_codeCatch_9 : decode cX8_codeCatch 9 = .ok (.istore_n 3, 1) := zdec_at bX8_codeCatch_0 5 rfl
theorem dX8_codeCatch_10 : decode cX8_codeCatch 10 = .ok (.aload_n 0, 1) := zdec_at bX8_codeCatch_0 6 rfl
theorem dX8_codeCatch_11 : decode cX8_codeCatch 11 = .ok (.getfield 634, 3) := zdec_at bX8_codeCatch_0 7 rfl
theorem dX8_codeCatch_14 : decode cX8_codeCatch 14 = .ok (.istore 4, 2) := zdec_at bX8_codeCatch_0 8 rfl
theorem dX8_codeCatch_16 : decode cX8_codeCatch 16 = .ok (.aload_n 0, 1) := zdec_at bX8_codeCatch_0 9 rfl
theorem dX8_codeCatch_17 : decode cX8_codeCatch 17 = .ok (.getfield 637, 3) := zdec_at bX8_codeCatch_0 10 rfl
theorem dX8_codeCatch_20 : decode cX8_codeCatch 20 = .ok (.istore 5, 2) := zdec_at bX8_codeCatch_0 11 rfl
theorem dX8_codeCatch_22 : decode cX8_codeCatch 22 = .ok (.aload_n 0, 1) := zdec_at bX8_codeCatch_0 12 rfl
theorem dX8_codeCatch_23 : decode cX8_codeCatch 23 = .ok (.bipush 27, 2) := zdec_at bX8_codeCatch_0 13 rfl
theorem dX8_codeCatch_25 : decode cX8_codeCatch 25 = .ok (.iload_n 2, 1) := zdec_at bX8_codeCatch_0 14 rfl
theorem dX8_codeCatch_26 : decode cX8_codeCatch 26 = .ok (.iconst 0, 1) := zdec_at bX8_codeCatch_0 15 rfl
theorem bX8_codeCatch_27 : zdec cX8_codeCatch 27 [(27, .invokevirtual 615, 3), (30, .aload_n 0, 1), (31, .iconst 0, 1), (32, .iconst (-1), 1), (33, .iconst 0, 1), (34, .iconst 0, 1), (35, .invokevirtual 723, 3), (38, .aload_n 0, 1), (39, .aload_n 0, 1), (40, .iload_n 1, 1), (41, .iconst 0, 1), (42, .invokevirtual 644, 3), (45, .invokevirtual 713, 3), (48, .aload_n 0, 1), (49, .iload 4, 2), (51, .iload 5, 2)] = true := by decide +kernel
theorem dX8_codeCatch_27 : decode cX8_codeCatch 27 = .ok (.invokevirtual 615, 3) := zdec_at bX8_codeCatch_27 0 rfl
theorem dX8_codeCatch_30 : decode cX8_codeCatch 30 = .ok (.aload_n 0, 1) := zdec_at bX8_codeCatch_27 1 rfl
theorem dX8_codeCatch_31 : decode cX8_codeCatch 31 = .ok (.iconst 0, 1) := zdec_at bX8_codeCatch_27 2 rfl
theorem dX8_codeCatch_32 : decode cX8_codeCatch 32 = .ok (.iconst (-1), 1) := zdec_at bX8_codeCatch_27 3 rfl
theorem dX8_codeCatch_33 : decode cX8_codeCatch 33 = .ok (.iconst 0, 1) := zdec_at bX8_codeCatch_27 4 rfl
theorem dX8_codeCatch_34 : decode cX8_codeCatch 34 = .ok (.iconst 0, 1) := zdec_at bX8_codeCatch_27 5 rfl
theorem dX8_codeCatch_35 : decode cX8_codeCatch 35 = .ok (.invokevirtual 723, 3) := zdec_at bX8_codeCatch_27 6 rfl
theorem dX8_codeCatch_38 : decode cX8_codeCatch 38 = .ok (.aload_n 0, 1) := zdec_at bX8_codeCatch_27 7 rfl
theorem dX8_codeCatch_39 : decode cX8_codeCatch 39 = .ok (.aload_n 0, 1) := zdec_at bX8_codeCatch_27 8 rfl
theorem dX8_codeCatch_40 : decode cX8_codeCatch 40 = .ok (.iload_n 1, 1) := zdec_at bX8_codeCatch_27 9 rfl
theorem dX8_codeCatch_41 : decode cX8_codeCatch 41 = .ok (.iconst 0, 1) := zdec_at bX8_codeCatch_27 10 rfl
theorem dX8_codeCatch_42 : decode cX8_codeCatch 42 = .ok (.invokevirtual 644, 3) := zdec_at bX8_codeCatch_27 11 rfl
theorem dX8_codeCatch_45 : decode cX8_codeCatch 45 = .ok (.invokevirtual 713, 3) := zdec_at bX8_codeCatch_27 12 rfl
theorem dX8_codeCatch_48 : decode cX8_codeCatch 48 = .ok (.aload_n 0, 1) := zdec_at bX8_codeCatch_27 13 rfl
theorem dX8_codeCatch_49 : decode cX8_codeCatch 49 = .ok (.iload 4, 2) := zdec_at bX8_codeCatch_27 14 rfl
theorem dX8_codeCatch_51 : decode cX8_codeCatch 51 = .ok (.iload 5, 2) := zdec_at bX8_codeCatch_27 15 rfl
theorem bX8_codeCatch_53 : zdec cX8_codeCatch 53 [(53, .invokevirtual 726, 3), (56, .aload_n 0, 1), (57, .bipush 28, 2), (59, .invokevirtual 666, 3), (62, .aload_n 0, 1), (63, .bipush 21, 2), (65, .iload_n 3, 1), (66, .iconst 0, 1), (67, .invokevirtual 615, 3), (70, .aload_n 0, 1), (71, .iload_n 2, 1), (72, .invokevirtual 677, 3), (75, .aload_n 0, 1), (76, .aload_n 0, 1), (77, .iload_n 1, 1), (78, .iconst 1, 1)] = true := by decide +kernel
theorem dX8_codeCatch_53 : decode cX8_codeCatch 53 = .ok (.invokevirtual 726, 3) := zdec_at bX8_codeCatch_53 0 rfl
theorem dX8_codeCatch_56 : decode cX8_codeCatch 56 = .ok (.aload_n 0, 1) := zdec_at bX8_codeCatch_53 1 rfl
theorem dX8_codeCatch_57 : decode cX8_codeCatch 57 = .ok (.bipush 28, 2) := zdec_at bX8_codeCatch_53 2 rfl
theorem dX8_codeCatch_59 : decode cX8_codeCatch 59 = .ok (.invokevirtual 666, 3) := zdec_at bX8_codeCatch_53 3 rfl
theorem dX8_codeCatch_62 : decode cX8_codeCatch 62 = .ok (.aload_n 0, 1) := zdec_at bX8_codeCatch_53 4 rfl
theorem dX8_codeCatch_63 : decode cX8_codeCatch 63 = .ok (.bipush 21, 2) := zdec_at bX8_codeCatch_53 5 rfl
theorem dX8_codeCatch_65 : decode cX8_codeCatch 65 = .ok (.iload_n 3, 1) := zdec_at bX8_codeCatch_53 6 rfl
theorem dX8_codeCatch_66 : decode cX8_codeCatch 66 = .ok (.iconst 0, 1) := zdec_at bX8_codeCatch_53 7 rfl
theorem dX8_codeCatch_67 : decode cX8_codeCatch 67 = .ok (.invokevirtual 615, 3) := zdec_at bX8_codeCatch_53 8 rfl
theorem dX8_codeCatch_70 : decode cX8_codeCatch 70 = .ok (.aload_n 0, 1) := zdec_at bX8_codeCatch_53 9 rfl
theorem dX8_codeCatch_71 : decode cX8_codeCatch 71 = .ok (.iload_n 2, 1) := zdec_at bX8_codeCatch_53 10 rfl
theorem dX8_codeCatch_72 : decode cX8_codeCatch 72 = .ok (.invokevirtual 677, 3) := zdec_at bX8_codeCatch_53 11 rfl
theorem dX8_codeCatch_75 : decode cX8_codeCatch 75 = .ok (.aload_n 0, 1) := zdec_at bX8_codeCatch_53 12 rfl
theorem dX8_codeCatch_76 : decode cX8_codeCatch 76 = .ok (.aload_n 0, 1) := zdec_at bX8_codeCatch_53 13 rfl
theorem dX8_codeCatch_77 : decode cX8_codeCatch 77 = .ok (.iload_n 1, 1) := zdec_at bX8_codeCatch_53 14 rfl
theorem dX8_codeCatch_78 : decode cX8_codeCatch 78 = .ok (.iconst 1, 1) := zdec_at bX8_codeCatch_53 15 rfl
theorem bX8_codeCatch_79 : zdec cX8_codeCatch 79 [(79, .invokevirtual 644, 3), (82, .invokevirtual 704, 3), (85, .aload_n 0, 1), (86, .bipush 17, 2), (88, .invokevirtual 666, 3), (91, .aload_n 0, 1), (92, .aload_n 0, 1), (93, .iload_n 1, 1), (94, .iconst 2, 1), (95, .invokevirtual 644, 3), (98, .invokevirtual 713, 3), (101, .aload_n 0, 1), (102, .iload_n 3, 1), (103, .invokevirtual 677, 3), (106, .return_, 1)] = true := by decide +kernel
theorem dX8_codeCatch_79 : decode cX8_codeCatch 79 = .ok (.invokevirtual 644, 3) := zdec_at bX8_codeCatch_79 0 rfl
theorem dX8_codeCatch_82 : decode cX8_codeCatch 82 = .ok (.invokevirtual 704, 3) := zdec_at bX8_codeCatch_79 1 rfl
theorem dX8_codeCatch_85 : decode cX8_codeCatch 85 = .ok (.aload_n 0, 1) := zdec_at bX8_codeCatch_79 2 rfl
theorem dX8_codeCatch_86 : decode cX8_codeCatch 86 = .ok (.bipush 17, 2) := zdec_at bX8_codeCatch_79 3 rfl
theorem dX8_codeCatch_88 : decode cX8_codeCatch 88 = .ok (.invokevirtual 666, 3) := zdec_at bX8_codeCatch_79 4 rfl
theorem dX8_codeCatch_91 : decode cX8_codeCatch 91 = .ok (.aload_n 0, 1) := zdec_at bX8_codeCatch_79 5 rfl
theorem dX8_codeCatch_92 : decode cX8_codeCatch 92 = .ok (.aload_n 0, 1) := zdec_at bX8_codeCatch_79 6 rfl
theorem dX8_codeCatch_93 : decode cX8_codeCatch 93 = .ok (.iload_n 1, 1) := zdec_at bX8_codeCatch_79 7 rfl
theorem dX8_codeCatch_94 : decode cX8_codeCatch 94 = .ok (.iconst 2, 1) := zdec_at bX8_codeCatch_79 8 rfl
theorem dX8_codeCatch_95 : decode cX8_codeCatch 95 = .ok (.invokevirtual 644, 3) := zdec_at bX8_codeCatch_79 9 rfl
theorem dX8_codeCatch_98 : decode cX8_codeCatch 98 = .ok (.invokevirtual 713, 3) := zdec_at bX8_codeCatch_79 10 rfl
theorem dX8_codeCatch_101 : decode cX8_codeCatch 101 = .ok (.aload_n 0, 1) := zdec_at bX8_codeCatch_79 11 rfl
theorem dX8_codeCatch_102 : decode cX8_codeCatch 102 = .ok (.iload_n 3, 1) := zdec_at bX8_codeCatch_79 12 rfl
theorem dX8_codeCatch_103 : decode cX8_codeCatch 103 = .ok (.invokevirtual 677, 3) := zdec_at bX8_codeCatch_79 13 rfl
theorem dX8_codeCatch_106 : decode cX8_codeCatch 106 = .ok (.return_, 1) := zdec_at bX8_codeCatch_79 14 rfl
theorem sX8_codeCatch_0 {E : zE} {d : Nat} {Q : zO → zM → Prop} (M : zM) (l1 : Int32) (k : Zm E YX8_mark d M (zargs 0 [vr (some (97, 1, 0))]) 0 [] (zma E YX8_codeCatch (d + 1) [(0, vr (some (97, 1, 0))), (1, vi l1)] 1 3 [] Q)) : Zm E YX8_codeCatch (d + 1) M [(0, vr (some (97, 1, 0))), (1, vi l1)] 0 [] Q := by
  refine Zm.l (fun _ _ k_ => z_aload_n dX8_codeCatch_0 rfl rfl k_) ?_
  exact zm_callV (as := []) (st := []) dX8_codeCatch_1 vsX8_674_1 (Nat.le_refl _) (Nat.le_of_ble_eq_true rfl) (Nat.le_of_ble_eq_true rfl) rfl k
theorem sX8_codeCatch_4 {E : zE} {d : Nat} {Q : zO → zM → Prop} (M : zM) (l1 : Int32) (s0 : Int32) (k : Zm E YX8_mark d M (zargs 0 [vr (some (97, 1, 0))]) 0 [] (zma E YX8_codeCatch (d + 1) [(0, vr (some (97, 1, 0))), (1, vi l1), (2, vi s0)] 6 3 [] Q)) : Zm E YX8_codeCatch (d + 1) M [(0, vr (some (97, 1, 0))), (1, vi l1)] 4 [vi s0] Q := by
  refine Zm.l (fun _ _ k_ => z_ist_n dX8_codeCatch_4 rfl (by decide) (lv' := [(0, vr (some (97, 1, 0))), (1, vi l1), (2, vi s0)]) rfl k_) ?_
  refine Zm.l (fun _ _ k_ => z_aload_n dX8_codeCatch_5 rfl rfl k_) ?_
  exact zm_callV (as := []) (st := []) dX8_codeCatch_6 vsX8_674_1 (Nat.le_refl _) (Nat.le_of_ble_eq_true rfl) (Nat.le_of_ble_eq_true rfl) rfl k
theorem sX8_codeCatch_9 {E : zE} {d : Nat} {Q : zO → zM → Prop} (M : zM) (l1 : Int32) (l2 : Int32) (s0 : Int32) (k : Zm E YX8_emit d M (zargs 0 [vr (some (97, 1, 0)), vi (27 : Int32), vi l2, vi (0 : Int32)]) 0 [] (zma E YX8_codeCatch (d + 1) [(0, vr (some (97, 1, 0))), (1, vi l1), (2, vi l2), (3, vi s0), (4, vi (gi M 97 60)), (5, vi (gi M 97 59))] 27 3 [] Q)) : Zm E YX8_codeCatch (d + 1) M [(0, vr (some (97, 1, 0))), (1, vi l1), (2, vi l2)] 9 [vi s0] Q := by
  refine Zm.l (fun _ _ k_ => z_ist_n dX8_codeCatch_9 rfl (by decide) (lv' := [(0, vr (some (97, 1, 0))), (1, vi l1), (2, vi l2), (3, vi s0)]) rfl k_) ?_
  refine Zm.l (fun _ _ k_ => z_aload_n dX8_codeCatch_10 rfl rfl k_) ?_
  refine zm_geti dX8_codeCatch_11 fsX8_634_1 (by decide) (by decide) ?_
  refine Zm.l (fun _ _ k_ => z_ist dX8_codeCatch_14 (by decide) (lv' := [(0, vr (some (97, 1, 0))), (1, vi l1), (2, vi l2), (3, vi s0), (4, vi (gi M 97 60))]) rfl k_) ?_
  refine Zm.l (fun _ _ k_ => z_aload_n dX8_codeCatch_16 rfl rfl k_) ?_
  refine zm_geti dX8_codeCatch_17 fsX8_637_1 (by decide) (by decide) ?_
  refine Zm.l (fun _ _ k_ => z_ist dX8_codeCatch_20 (by decide) (lv' := [(0, vr (some (97, 1, 0))), (1, vi l1), (2, vi l2), (3, vi s0), (4, vi (gi M 97 60)), (5, vi (gi M 97 59))]) rfl k_) ?_
  refine Zm.l (fun _ _ k_ => z_aload_n dX8_codeCatch_22 rfl rfl k_) ?_
  refine Zm.l (fun _ _ k_ => z_bipush (v := 27) dX8_codeCatch_23 rfl k_) ?_
  refine Zm.l (fun _ _ k_ => z_iload_n dX8_codeCatch_25 rfl rfl k_) ?_
  refine Zm.l (fun _ _ k_ => z_iconst (v := 0) dX8_codeCatch_26 rfl k_) ?_
  exact zm_callV (as := [vi (27 : Int32), vi l2, vi (0 : Int32)]) (st := []) dX8_codeCatch_27 vsX8_615_1 (Nat.le_refl _) (Nat.le_of_ble_eq_true rfl) (Nat.le_of_ble_eq_true rfl) rfl k
theorem sX8_codeCatch_30 {E : zE} {d : Nat} {Q : zO → zM → Prop} (M : zM) (l1 : Int32) (l2 : Int32) (l3 : Int32) (l4 : Int32) (l5 : Int32) (k : Zm E YX8_wrapIn d M (zargs 0 [vr (some (97, 1, 0)), vi (0 : Int32), vi (-1 : Int32), vi (0 : Int32), vi (0 : Int32)]) 0 [] (zma E YX8_codeCatch (d + 1) [(0, vr (some (97, 1, 0))), (1, vi l1), (2, vi l2), (3, vi l3), (4, vi l4), (5, vi l5)] 35 3 [] Q)) : Zm E YX8_codeCatch (d + 1) M [(0, vr (some (97, 1, 0))), (1, vi l1), (2, vi l2), (3, vi l3), (4, vi l4), (5, vi l5)] 30 [] Q := by
  refine Zm.l (fun _ _ k_ => z_aload_n dX8_codeCatch_30 rfl rfl k_) ?_
  refine Zm.l (fun _ _ k_ => z_iconst (v := 0) dX8_codeCatch_31 rfl k_) ?_
  refine Zm.l (fun _ _ k_ => z_iconst (v := -1) dX8_codeCatch_32 rfl k_) ?_
  refine Zm.l (fun _ _ k_ => z_iconst (v := 0) dX8_codeCatch_33 rfl k_) ?_
  refine Zm.l (fun _ _ k_ => z_iconst (v := 0) dX8_codeCatch_34 rfl k_) ?_
  exact zm_callV (as := [vi (0 : Int32), vi (-1 : Int32), vi (0 : Int32), vi (0 : Int32)]) (st := []) dX8_codeCatch_35 vsX8_723_1 (Nat.le_refl _) (Nat.le_of_ble_eq_true rfl) (Nat.le_of_ble_eq_true rfl) rfl k
theorem sX8_codeCatch_38 {E : zE} {d : Nat} {Q : zO → zM → Prop} (M : zM) (l1 : Int32) (l2 : Int32) (l3 : Int32) (l4 : Int32) (l5 : Int32) (k : Zm E YX8_part d M (zargs 0 [vr (some (97, 1, 0)), vi l1, vi (0 : Int32)]) 0 [] (zma E YX8_codeCatch (d + 1) [(0, vr (some (97, 1, 0))), (1, vi l1), (2, vi l2), (3, vi l3), (4, vi l4), (5, vi l5)] 42 3 [vr (some (97, 1, 0))] Q)) : Zm E YX8_codeCatch (d + 1) M [(0, vr (some (97, 1, 0))), (1, vi l1), (2, vi l2), (3, vi l3), (4, vi l4), (5, vi l5)] 38 [] Q := by
  refine Zm.l (fun _ _ k_ => z_aload_n dX8_codeCatch_38 rfl rfl k_) ?_
  refine Zm.l (fun _ _ k_ => z_aload_n dX8_codeCatch_39 rfl rfl k_) ?_
  refine Zm.l (fun _ _ k_ => z_iload_n dX8_codeCatch_40 rfl rfl k_) ?_
  refine Zm.l (fun _ _ k_ => z_iconst (v := 0) dX8_codeCatch_41 rfl k_) ?_
  exact zm_callV (as := [vi l1, vi (0 : Int32)]) (st := [vr (some (97, 1, 0))]) dX8_codeCatch_42 vsX8_644_1 (Nat.le_refl _) (Nat.le_of_ble_eq_true rfl) (Nat.le_of_ble_eq_true rfl) rfl k
theorem sX8_codeCatch_45 {E : zE} {d : Nat} {Q : zO → zM → Prop} (M : zM) (l1 : Int32) (l2 : Int32) (l3 : Int32) (l4 : Int32) (l5 : Int32) (s0 : Int32) (k : Zm E YX8_codes d M (zargs 0 [vr (some (97, 1, 0)), vi s0]) 0 [] (zma E YX8_codeCatch (d + 1) [(0, vr (some (97, 1, 0))), (1, vi l1), (2, vi l2), (3, vi l3), (4, vi l4), (5, vi l5)] 45 3 [] Q)) : Zm E YX8_codeCatch (d + 1) M [(0, vr (some (97, 1, 0))), (1, vi l1), (2, vi l2), (3, vi l3), (4, vi l4), (5, vi l5)] 45 [vi s0, vr (some (97, 1, 0))] Q := by
  exact zm_callV (as := [vi s0]) (st := []) dX8_codeCatch_45 vsX8_713_1 (Nat.le_refl _) (Nat.le_of_ble_eq_true rfl) (Nat.le_of_ble_eq_true rfl) rfl k
theorem sX8_codeCatch_48 {E : zE} {d : Nat} {Q : zO → zM → Prop} (M : zM) (l1 : Int32) (l2 : Int32) (l3 : Int32) (l4 : Int32) (l5 : Int32) (k : Zm E YX8_unwrap d M (zargs 0 [vr (some (97, 1, 0)), vi l4, vi l5]) 0 [] (zma E YX8_codeCatch (d + 1) [(0, vr (some (97, 1, 0))), (1, vi l1), (2, vi l2), (3, vi l3)] 53 3 [] Q)) : Zm E YX8_codeCatch (d + 1) M [(0, vr (some (97, 1, 0))), (1, vi l1), (2, vi l2), (3, vi l3), (4, vi l4), (5, vi l5)] 48 [] Q := by
  refine Zm.l (fun _ _ k_ => z_aload_n dX8_codeCatch_48 rfl rfl k_) ?_
  refine Zm.l (fun _ _ k_ => z_iload dX8_codeCatch_49 rfl k_) ?_
  refine Zm.l (fun _ _ k_ => z_iload dX8_codeCatch_51 rfl k_) ?_
  refine Zm.pick [0, 1, 2, 3] rfl ?_
  exact zm_callV (as := [vi l4, vi l5]) (st := []) dX8_codeCatch_53 vsX8_726_1 (Nat.le_refl _) (Nat.le_of_ble_eq_true rfl) (Nat.le_of_ble_eq_true rfl) rfl k
theorem sX8_codeCatch_56 {E : zE} {d : Nat} {Q : zO → zM → Prop} (M : zM) (l1 : Int32) (l2 : Int32) (l3 : Int32) (k : Zm E YX8_emit_2 d M (zargs 0 [vr (some (97, 1, 0)), vi (28 : Int32)]) 0 [] (zma E YX8_codeCatch (d + 1) [(0, vr (some (97, 1, 0))), (1, vi l1), (2, vi l2), (3, vi l3)] 59 3 [] Q)) : Zm E YX8_codeCatch (d + 1) M [(0, vr (some (97, 1, 0))), (1, vi l1), (2, vi l2), (3, vi l3)] 56 [] Q := by
  refine Zm.l (fun _ _ k_ => z_aload_n dX8_codeCatch_56 rfl rfl k_) ?_
  refine Zm.l (fun _ _ k_ => z_bipush (v := 28) dX8_codeCatch_57 rfl k_) ?_
  exact zm_callV (as := [vi (28 : Int32)]) (st := []) dX8_codeCatch_59 vsX8_666_1 (Nat.le_refl _) (Nat.le_of_ble_eq_true rfl) (Nat.le_of_ble_eq_true rfl) rfl k
theorem sX8_codeCatch_62 {E : zE} {d : Nat} {Q : zO → zM → Prop} (M : zM) (l1 : Int32) (l2 : Int32) (l3 : Int32) (k : Zm E YX8_emit d M (zargs 0 [vr (some (97, 1, 0)), vi (21 : Int32), vi l3, vi (0 : Int32)]) 0 [] (zma E YX8_codeCatch (d + 1) [(0, vr (some (97, 1, 0))), (1, vi l1), (2, vi l2), (3, vi l3)] 67 3 [] Q)) : Zm E YX8_codeCatch (d + 1) M [(0, vr (some (97, 1, 0))), (1, vi l1), (2, vi l2), (3, vi l3)] 62 [] Q := by
  refine Zm.l (fun _ _ k_ => z_aload_n dX8_codeCatch_62 rfl rfl k_) ?_
  refine Zm.l (fun _ _ k_ => z_bipush (v := 21) dX8_codeCatch_63 rfl k_) ?_
  refine Zm.l (fun _ _ k_ => z_iload_n dX8_codeCatch_65 rfl rfl k_) ?_
  refine Zm.l (fun _ _ k_ => z_iconst (v := 0) dX8_codeCatch_66 rfl k_) ?_
  exact zm_callV (as := [vi (21 : Int32), vi l3, vi (0 : Int32)]) (st := []) dX8_codeCatch_67 vsX8_615_1 (Nat.le_refl _) (Nat.le_of_ble_eq_true rfl) (Nat.le_of_ble_eq_true rfl) rfl k
theorem sX8_codeCatch_70 {E : zE} {d : Nat} {Q : zO → zM → Prop} (M : zM) (l1 : Int32) (l2 : Int32) (l3 : Int32) (k : Zm E YX8_here d M (zargs 0 [vr (some (97, 1, 0)), vi l2]) 0 [] (zma E YX8_codeCatch (d + 1) [(0, vr (some (97, 1, 0))), (1, vi l1), (3, vi l3)] 72 3 [] Q)) : Zm E YX8_codeCatch (d + 1) M [(0, vr (some (97, 1, 0))), (1, vi l1), (2, vi l2), (3, vi l3)] 70 [] Q := by
  refine Zm.l (fun _ _ k_ => z_aload_n dX8_codeCatch_70 rfl rfl k_) ?_
  refine Zm.l (fun _ _ k_ => z_iload_n dX8_codeCatch_71 rfl rfl k_) ?_
  refine Zm.pick [0, 1, 3] rfl ?_
  exact zm_callV (as := [vi l2]) (st := []) dX8_codeCatch_72 vsX8_677_1 (Nat.le_refl _) (Nat.le_of_ble_eq_true rfl) (Nat.le_of_ble_eq_true rfl) rfl k
theorem sX8_codeCatch_75 {E : zE} {d : Nat} {Q : zO → zM → Prop} (M : zM) (l1 : Int32) (l3 : Int32) (k : Zm E YX8_part d M (zargs 0 [vr (some (97, 1, 0)), vi l1, vi (1 : Int32)]) 0 [] (zma E YX8_codeCatch (d + 1) [(0, vr (some (97, 1, 0))), (1, vi l1), (3, vi l3)] 79 3 [vr (some (97, 1, 0))] Q)) : Zm E YX8_codeCatch (d + 1) M [(0, vr (some (97, 1, 0))), (1, vi l1), (3, vi l3)] 75 [] Q := by
  refine Zm.l (fun _ _ k_ => z_aload_n dX8_codeCatch_75 rfl rfl k_) ?_
  refine Zm.l (fun _ _ k_ => z_aload_n dX8_codeCatch_76 rfl rfl k_) ?_
  refine Zm.l (fun _ _ k_ => z_iload_n dX8_codeCatch_77 rfl rfl k_) ?_
  refine Zm.l (fun _ _ k_ => z_iconst (v := 1) dX8_codeCatch_78 rfl k_) ?_
  exact zm_callV (as := [vi l1, vi (1 : Int32)]) (st := [vr (some (97, 1, 0))]) dX8_codeCatch_79 vsX8_644_1 (Nat.le_refl _) (Nat.le_of_ble_eq_true rfl) (Nat.le_of_ble_eq_true rfl) rfl k
theorem sX8_codeCatch_82 {E : zE} {d : Nat} {Q : zO → zM → Prop} (M : zM) (l1 : Int32) (l3 : Int32) (s0 : Int32) (k : Zm E YX8_set d M (zargs 0 [vr (some (97, 1, 0)), vi s0]) 0 [] (zma E YX8_codeCatch (d + 1) [(0, vr (some (97, 1, 0))), (1, vi l1), (3, vi l3)] 82 3 [] Q)) : Zm E YX8_codeCatch (d + 1) M [(0, vr (some (97, 1, 0))), (1, vi l1), (3, vi l3)] 82 [vi s0, vr (some (97, 1, 0))] Q := by
  exact zm_callV (as := [vi s0]) (st := []) dX8_codeCatch_82 vsX8_704_1 (Nat.le_refl _) (Nat.le_of_ble_eq_true rfl) (Nat.le_of_ble_eq_true rfl) rfl k
theorem sX8_codeCatch_85 {E : zE} {d : Nat} {Q : zO → zM → Prop} (M : zM) (l1 : Int32) (l3 : Int32) (k : Zm E YX8_emit_2 d M (zargs 0 [vr (some (97, 1, 0)), vi (17 : Int32)]) 0 [] (zma E YX8_codeCatch (d + 1) [(0, vr (some (97, 1, 0))), (1, vi l1), (3, vi l3)] 88 3 [] Q)) : Zm E YX8_codeCatch (d + 1) M [(0, vr (some (97, 1, 0))), (1, vi l1), (3, vi l3)] 85 [] Q := by
  refine Zm.l (fun _ _ k_ => z_aload_n dX8_codeCatch_85 rfl rfl k_) ?_
  refine Zm.l (fun _ _ k_ => z_bipush (v := 17) dX8_codeCatch_86 rfl k_) ?_
  exact zm_callV (as := [vi (17 : Int32)]) (st := []) dX8_codeCatch_88 vsX8_666_1 (Nat.le_refl _) (Nat.le_of_ble_eq_true rfl) (Nat.le_of_ble_eq_true rfl) rfl k
theorem sX8_codeCatch_91 {E : zE} {d : Nat} {Q : zO → zM → Prop} (M : zM) (l1 : Int32) (l3 : Int32) (k : Zm E YX8_part d M (zargs 0 [vr (some (97, 1, 0)), vi l1, vi (2 : Int32)]) 0 [] (zma E YX8_codeCatch (d + 1) [(0, vr (some (97, 1, 0))), (3, vi l3)] 95 3 [vr (some (97, 1, 0))] Q)) : Zm E YX8_codeCatch (d + 1) M [(0, vr (some (97, 1, 0))), (1, vi l1), (3, vi l3)] 91 [] Q := by
  refine Zm.l (fun _ _ k_ => z_aload_n dX8_codeCatch_91 rfl rfl k_) ?_
  refine Zm.l (fun _ _ k_ => z_aload_n dX8_codeCatch_92 rfl rfl k_) ?_
  refine Zm.l (fun _ _ k_ => z_iload_n dX8_codeCatch_93 rfl rfl k_) ?_
  refine Zm.l (fun _ _ k_ => z_iconst (v := 2) dX8_codeCatch_94 rfl k_) ?_
  refine Zm.pick [0, 2] rfl ?_
  exact zm_callV (as := [vi l1, vi (2 : Int32)]) (st := [vr (some (97, 1, 0))]) dX8_codeCatch_95 vsX8_644_1 (Nat.le_refl _) (Nat.le_of_ble_eq_true rfl) (Nat.le_of_ble_eq_true rfl) rfl k
theorem sX8_codeCatch_98 {E : zE} {d : Nat} {Q : zO → zM → Prop} (M : zM) (l3 : Int32) (s0 : Int32) (k : Zm E YX8_codes d M (zargs 0 [vr (some (97, 1, 0)), vi s0]) 0 [] (zma E YX8_codeCatch (d + 1) [(0, vr (some (97, 1, 0))), (3, vi l3)] 98 3 [] Q)) : Zm E YX8_codeCatch (d + 1) M [(0, vr (some (97, 1, 0))), (3, vi l3)] 98 [vi s0, vr (some (97, 1, 0))] Q := by
  exact zm_callV (as := [vi s0]) (st := []) dX8_codeCatch_98 vsX8_713_1 (Nat.le_refl _) (Nat.le_of_ble_eq_true rfl) (Nat.le_of_ble_eq_true rfl) rfl k
theorem sX8_codeCatch_101 {E : zE} {d : Nat} {Q : zO → zM → Prop} (M : zM) (l3 : Int32) (k : Zm E YX8_here d M (zargs 0 [vr (some (97, 1, 0)), vi l3]) 0 [] (zma E YX8_codeCatch (d + 1) [] 103 3 [] Q)) : Zm E YX8_codeCatch (d + 1) M [(0, vr (some (97, 1, 0))), (3, vi l3)] 101 [] Q := by
  refine Zm.l (fun _ _ k_ => z_aload_n dX8_codeCatch_101 rfl rfl k_) ?_
  refine Zm.l (fun _ _ k_ => z_iload_n dX8_codeCatch_102 rfl rfl k_) ?_
  refine Zm.pick [] rfl ?_
  exact zm_callV (as := [vi l3]) (st := []) dX8_codeCatch_103 vsX8_677_1 (Nat.le_refl _) (Nat.le_of_ble_eq_true rfl) (Nat.le_of_ble_eq_true rfl) rfl k
theorem sX8_codeCatch_106 {E : zE} {d : Nat} {Q : zO → zM → Prop} (M : zM)  (k : Q (.inl none) M) : Zm E YX8_codeCatch (d + 1) M [] 106 [] Q := by
  exact zm_vret dX8_codeCatch_106 rfl k
/-! ScriptTypesModel.codeCases(II)V -/
theorem bX8_codeCases_0 : zdec cX8_codeCases 0 [(0, .aload_n 0, 1), (1, .iload_n 1, 1), (2, .invokevirtual 668, 3), (5, .aload_n 0, 1), (6, .invokevirtual 674, 3), (9, .istore_n 3, 1), (10, .iconst (-1), 1), (11, .istore 4, 2), (13, .aload_n 0, 1), (14, .getfield 619, 3), (17, .istore 5, 2), (19, .iload_n 2, 1), (20, .istore 6, 2), (22, .iload 6, 2), (24, .iconst (-1), 1), (25, .if_icmp .eq 30, 3)] = true := by decide +kernel
theorem dX8_codeCases_0 : decode cX8_codeCases 0 = .ok (.aload_n 0, 1) := zdec_at bX8_codeCases_0 0 rfl
theorem dX8_codeCases_1 : decode cX8_codeCases 1 = .ok (.iload_n 1, 1) := zdec_at bX8_codeCases_0 1 rfl
theorem dX8_codeCases_2 : decode cX8_codeCases 2 = .ok (.invokevirtual 668, 3) := zdec_at bX8_codeCases_0 2 rfl
theorem dX8_codeCases_5 : decode cX8_codeCases 5 = .ok (.aload_n 0, 1) := zdec_at bX8_codeCases_0 3 rfl
theorem dX8_codeCases_6 : decode cX8_codeCases 6 = .ok (.invokevirtual 674, 3) := zdec_at bX8_codeCases_0 4 rfl
theorem dX8_codeCases_9 : decode cX8_codeCases 9 = .ok (.istore_n 3, 1) := zdec_at bX8_codeCases_0 5 rfl
theorem dX8_codeCases_10 : decode cX8_codeCases 10 = .ok (.iconst (-1), 1) := zdec_at bX8_codeCases_0 6 rfl
theorem dX8_codeCases_11 : decode cX8_codeCases 11 = .ok (.istore 4, 2) := zdec_at bX8_codeCases_0 7 rfl
theorem dX8_codeCases_13 : decode cX8_codeCases 13 = .ok (.aload_n 0, 1) := zdec_at bX8_codeCases_0 8 rfl
theorem dX8_codeCases_14 : decode cX8_codeCases 14 = .ok (.getfield 619, 3) := zdec_at bX8_codeCases_0 9 rfl
theorem dX8_codeCases_17 : decode cX8_codeCases 17 = .ok (.istore 5, 2) := zdec_at bX8_codeCases_0 10 rfl
theorem dX8_codeCases_19 : decode cX8_codeCases 19 = .ok (.iload_n 2, 1) := zdec_at bX8_codeCases_0 11 rfl
theorem dX8_codeCases_20 : decode cX8_codeCases 20 = .ok (.istore 6, 2) := zdec_at bX8_codeCases_0 12 rfl
theorem dX8_codeCases_22 : decode cX8_codeCases 22 = .ok (.iload 6, 2) := zdec_at bX8_codeCases_0 13 rfl
theorem dX8_codeCases_24 : decode cX8_codeCases 24 = .ok (.iconst (-1), 1) := zdec_at bX8_codeCases_0 14 rfl
theorem dX8_codeCases_25 : decode cX8_codeCases 25 = .ok (.if_icmp .eq 30, 3) := zdec_at bX8_codeCases_0 15 rfl
theorem bX8_codeCases_28 : zdec cX8_codeCases 28 [(28, .aload_n 0, 1), (29, .getfield 46, 3), (32, .iconst 5, 1), (33, .iload 6, 2), (35, .imul, 1), (36, .iconst 2, 1), (37, .iadd, 1), (38, .aload_n 0, 1), (39, .invokevirtual 674, 3), (42, .iastore, 1), (43, .aload_n 0, 1), (44, .getfield 49, 3), (47, .iload 6, 2), (49, .iaload, 1), (50, .istore 6, 2), (52, .goto (-30), 3)] = true := by decide +kernel
theorem dX8_codeCases_28 : decode cX8_codeCases 28 = .ok (.aload_n 0, 1) := zdec_at bX8_codeCases_28 0 rfl
theorem dX8_codeCases_29 : decode cX8_codeCases 29 = .ok (.getfield 46, 3) := zdec_at bX8_codeCases_28 1 rfl
theorem dX8_codeCases_32 : decode cX8_codeCases 32 = .ok (.iconst 5, 1) := zdec_at bX8_codeCases_28 2 rfl
theorem dX8_codeCases_33 : decode cX8_codeCases 33 = .ok (.iload 6, 2) := zdec_at bX8_codeCases_28 3 rfl
theorem dX8_codeCases_35 : decode cX8_codeCases 35 = .ok (.imul, 1) := zdec_at bX8_codeCases_28 4 rfl
theorem dX8_codeCases_36 : decode cX8_codeCases 36 = .ok (.iconst 2, 1) := zdec_at bX8_codeCases_28 5 rfl
theorem dX8_codeCases_37 : decode cX8_codeCases 37 = .ok (.iadd, 1) := zdec_at bX8_codeCases_28 6 rfl
theorem dX8_codeCases_38 : decode cX8_codeCases 38 = .ok (.aload_n 0, 1) := zdec_at bX8_codeCases_28 7 rfl
theorem dX8_codeCases_39 : decode cX8_codeCases 39 = .ok (.invokevirtual 674, 3) := zdec_at bX8_codeCases_28 8 rfl
theorem dX8_codeCases_42 : decode cX8_codeCases 42 = .ok (.iastore, 1) := zdec_at bX8_codeCases_28 9 rfl
theorem dX8_codeCases_43 : decode cX8_codeCases 43 = .ok (.aload_n 0, 1) := zdec_at bX8_codeCases_28 10 rfl
theorem dX8_codeCases_44 : decode cX8_codeCases 44 = .ok (.getfield 49, 3) := zdec_at bX8_codeCases_28 11 rfl
theorem dX8_codeCases_47 : decode cX8_codeCases 47 = .ok (.iload 6, 2) := zdec_at bX8_codeCases_28 12 rfl
theorem dX8_codeCases_49 : decode cX8_codeCases 49 = .ok (.iaload, 1) := zdec_at bX8_codeCases_28 13 rfl
theorem dX8_codeCases_50 : decode cX8_codeCases 50 = .ok (.istore 6, 2) := zdec_at bX8_codeCases_28 14 rfl
theorem dX8_codeCases_52 : decode cX8_codeCases 52 = .ok (.goto (-30), 3) := zdec_at bX8_codeCases_28 15 rfl
theorem bX8_codeCases_55 : zdec cX8_codeCases 55 [(55, .iload_n 2, 1), (56, .istore 6, 2), (58, .iload 6, 2), (60, .iconst (-1), 1), (61, .if_icmp .eq 112, 3), (64, .aload_n 0, 1), (65, .getfield 609, 3), (68, .ifCond .ne 105, 3), (71, .aload_n 0, 1), (72, .iload 6, 2), (74, .iconst 0, 1), (75, .invokevirtual 644, 3), (78, .iconst (-1), 1), (79, .if_icmp .ne 15, 3), (82, .aload_n 0, 1), (83, .iload 6, 2)] = true := by decide +kernel
theorem dX8_codeCases_55 : decode cX8_codeCases 55 = .ok (.iload_n 2, 1) := zdec_at bX8_codeCases_55 0 rfl
theorem dX8_codeCases_56 : decode cX8_codeCases 56 = .ok (.istore 6, 2) := zdec_at bX8_codeCases_55 1 rfl
theorem dX8_codeCases_58 : decode cX8_codeCases 58 = .ok (.iload 6, 2) := zdec_at bX8_codeCases_55 2 rfl
theorem dX8_codeCases_60 : decode cX8_codeCases 60 = .ok (.iconst (-1), 1) := zdec_at bX8_codeCases_55 3 rfl
theorem dX8_codeCases_61 : decode cX8_codeCases 61 = .ok (.if_icmp .eq 112, 3) := zdec_at bX8_codeCases_55 4 rfl
theorem dX8_codeCases_64 : decode cX8_codeCases 64 = .ok (.aload_n 0, 1) := zdec_at bX8_codeCases_55 5 rfl
theorem dX8_codeCases_65 : decode cX8_codeCases 65 = .ok (.getfield 609, 3) := zdec_at bX8_codeCases_55 6 rfl
theorem dX8_codeCases_68 : decode cX8_codeCases 68 = .ok (.ifCond .ne 105, 3) := zdec_at bX8_codeCases_55 7 rfl
theorem dX8_codeCases_71 : decode cX8_codeCases 71 = .ok (.aload_n 0, 1) := zdec_at bX8_codeCases_55 8 rfl
theorem dX8_codeCases_72 : decode cX8_codeCases 72 = .ok (.iload 6, 2) := zdec_at bX8_codeCases_55 9 rfl
theorem dX8_codeCases_74 : decode cX8_codeCases 74 = .ok (.iconst 0, 1) := zdec_at bX8_codeCases_55 10 rfl
theorem dX8_codeCases_75 : decode cX8_codeCases 75 = .ok (.invokevirtual 644, 3) := zdec_at bX8_codeCases_55 11 rfl
theorem dX8_codeCases_78 : decode cX8_codeCases 78 = .ok (.iconst (-1), 1) := zdec_at bX8_codeCases_55 12 rfl
theorem dX8_codeCases_79 : decode cX8_codeCases 79 = .ok (.if_icmp .ne 15, 3) := zdec_at bX8_codeCases_55 13 rfl
theorem dX8_codeCases_82 : decode cX8_codeCases 82 = .ok (.aload_n 0, 1) := zdec_at bX8_codeCases_55 14 rfl
theorem dX8_codeCases_83 : decode cX8_codeCases 83 = .ok (.iload 6, 2) := zdec_at bX8_codeCases_55 15 rfl
theorem bX8_codeCases_85 : zdec cX8_codeCases 85 [(85, .iconst 2, 1), (86, .invokevirtual 644, 3), (89, .istore 4, 2), (91, .goto 70, 3), (94, .aload_n 0, 1), (95, .invokevirtual 674, 3), (98, .istore 7, 2), (100, .aload_n 0, 1), (101, .bipush 18, 2), (103, .invokevirtual 666, 3), (106, .aload_n 0, 1), (107, .aload_n 0, 1), (108, .iload 6, 2), (110, .iconst 0, 1), (111, .invokevirtual 644, 3), (114, .invokevirtual 668, 3)] = true := by decide +kernel
theorem dX8_codeCases_85 : decode cX8_codeCases 85 = .ok (.iconst 2, 1) := zdec_at bX8_codeCases_85 0 rfl
theorem dX8_codeCases_86 : decode cX8_codeCases 86 = .ok (.invokevirtual 644, 3) := zdec_at bX8_codeCases_85 1 rfl
theorem dX8_codeCases_89 : decode cX8_codeCases 89 = .ok (.istore 4, 2) := zdec_at bX8_codeCases_85 2 rfl
theorem dX8_codeCases_91 : decode cX8_codeCases 91 = .ok (.goto 70, 3) := zdec_at bX8_codeCases_85 3 rfl
theorem dX8_codeCases_94 : decode cX8_codeCases 94 = .ok (.aload_n 0, 1) := zdec_at bX8_codeCases_85 4 rfl
theorem dX8_codeCases_95 : decode cX8_codeCases 95 = .ok (.invokevirtual 674, 3) := zdec_at bX8_codeCases_85 5 rfl
theorem dX8_codeCases_98 : decode cX8_codeCases 98 = .ok (.istore 7, 2) := zdec_at bX8_codeCases_85 6 rfl
theorem dX8_codeCases_100 : decode cX8_codeCases 100 = .ok (.aload_n 0, 1) := zdec_at bX8_codeCases_85 7 rfl
theorem dX8_codeCases_101 : decode cX8_codeCases 101 = .ok (.bipush 18, 2) := zdec_at bX8_codeCases_85 8 rfl
theorem dX8_codeCases_103 : decode cX8_codeCases 103 = .ok (.invokevirtual 666, 3) := zdec_at bX8_codeCases_85 9 rfl
theorem dX8_codeCases_106 : decode cX8_codeCases 106 = .ok (.aload_n 0, 1) := zdec_at bX8_codeCases_85 10 rfl
theorem dX8_codeCases_107 : decode cX8_codeCases 107 = .ok (.aload_n 0, 1) := zdec_at bX8_codeCases_85 11 rfl
theorem dX8_codeCases_108 : decode cX8_codeCases 108 = .ok (.iload 6, 2) := zdec_at bX8_codeCases_85 12 rfl
theorem dX8_codeCases_110 : decode cX8_codeCases 110 = .ok (.iconst 0, 1) := zdec_at bX8_codeCases_85 13 rfl
theorem dX8_codeCases_111 : decode cX8_codeCases 111 = .ok (.invokevirtual 644, 3) := zdec_at bX8_codeCases_85 14 rfl
theorem dX8_codeCases_114 : decode cX8_codeCases 114 = .ok (.invokevirtual 668, 3) := zdec_at bX8_codeCases_85 15 rfl
theorem bX8_codeCases_117 : zdec cX8_codeCases 117 [(117, .aload_n 0, 1), (118, .bipush 14, 2), (120, .bipush 13, 2), (122, .iconst 0, 1), (123, .invokevirtual 615, 3), (126, .aload_n 0, 1), (127, .bipush 22, 2), (129, .iload 7, 2), (131, .iconst 0, 1), (132, .invokevirtual 615, 3), (135, .aload_n 0, 1), (136, .bipush 17, 2), (138, .invokevirtual 666, 3), (141, .aload_n 0, 1), (142, .bipush 21, 2), (144, .aload_n 0, 1)] = true := by decide +kernel
theorem dX8_codeCases_117 : decode cX8_codeCases 117 = .ok (.aload_n 0, 1) := zdec_at bX8_codeCases_117 0 rfl
theorem dX8_codeCases_118 : decode cX8_codeCases 118 = .ok (.bipush 14, 2) := zdec_at bX8_codeCases_117 1 rfl
theorem dX8_codeCases_120 : decode cX8_codeCases 120 = .ok (.bipush 13, 2) := zdec_at bX8_codeCases_117 2 rfl
theorem dX8_codeCases_122 : decode cX8_codeCases 122 = .ok (.iconst 0, 1) := zdec_at bX8_codeCases_117 3 rfl
theorem dX8_codeCases_123 : decode cX8_codeCases 123 = .ok (.invokevirtual 615, 3) := zdec_at bX8_codeCases_117 4 rfl
theorem dX8_codeCases_126 : decode cX8_codeCases 126 = .ok (.aload_n 0, 1) := zdec_at bX8_codeCases_117 5 rfl
theorem dX8_codeCases_127 : decode cX8_codeCases 127 = .ok (.bipush 22, 2) := zdec_at bX8_codeCases_117 6 rfl
theorem dX8_codeCases_129 : decode cX8_codeCases 129 = .ok (.iload 7, 2) := zdec_at bX8_codeCases_117 7 rfl
theorem dX8_codeCases_131 : decode cX8_codeCases 131 = .ok (.iconst 0, 1) := zdec_at bX8_codeCases_117 8 rfl
theorem dX8_codeCases_132 : decode cX8_codeCases 132 = .ok (.invokevirtual 615, 3) := zdec_at bX8_codeCases_117 9 rfl
theorem dX8_codeCases_135 : decode cX8_codeCases 135 = .ok (.aload_n 0, 1) := zdec_at bX8_codeCases_117 10 rfl
theorem dX8_codeCases_136 : decode cX8_codeCases 136 = .ok (.bipush 17, 2) := zdec_at bX8_codeCases_117 11 rfl
theorem dX8_codeCases_138 : decode cX8_codeCases 138 = .ok (.invokevirtual 666, 3) := zdec_at bX8_codeCases_117 12 rfl
theorem dX8_codeCases_141 : decode cX8_codeCases 141 = .ok (.aload_n 0, 1) := zdec_at bX8_codeCases_117 13 rfl
theorem dX8_codeCases_142 : decode cX8_codeCases 142 = .ok (.bipush 21, 2) := zdec_at bX8_codeCases_117 14 rfl
theorem dX8_codeCases_144 : decode cX8_codeCases 144 = .ok (.aload_n 0, 1) := zdec_at bX8_codeCases_117 15 rfl
theorem bX8_codeCases_145 : zdec cX8_codeCases 145 [(145, .iload 6, 2), (147, .iconst 2, 1), (148, .invokevirtual 644, 3), (151, .iconst 0, 1), (152, .invokevirtual 615, 3), (155, .aload_n 0, 1), (156, .iload 7, 2), (158, .invokevirtual 677, 3), (161, .aload_n 0, 1), (162, .getfield 49, 3), (165, .iload 6, 2), (167, .iaload, 1), (168, .istore 6, 2), (170, .goto (-112), 3), (173, .aload_n 0, 1), (174, .bipush 17, 2)] = true := by decide +kernel
theorem dX8_codeCases_145 : decode cX8_codeCases 145 = .ok (.iload 6, 2) := zdec_at bX8_codeCases_145 0 rfl
theorem dX8_codeCases_147 : decode cX8_codeCases 147 = .ok (.iconst 2, 1) := zdec_at bX8_codeCases_145 1 rfl
theorem dX8_codeCases_148 : decode cX8_codeCases 148 = .ok (.invokevirtual 644, 3) := zdec_at bX8_codeCases_145 2 rfl
theorem dX8_codeCases_151 : decode cX8_codeCases 151 = .ok (.iconst 0, 1) := zdec_at bX8_codeCases_145 3 rfl
theorem dX8_codeCases_152 : decode cX8_codeCases 152 = .ok (.invokevirtual 615, 3) := zdec_at bX8_codeCases_145 4 rfl
theorem dX8_codeCases_155 : decode cX8_codeCases 155 = .ok (.aload_n 0, 1) := zdec_at bX8_codeCases_145 5 rfl
theorem dX8_codeCases_156 : decode cX8_codeCases 156 = .ok (.iload 7, 2) := zdec_at bX8_codeCases_145 6 rfl
theorem dX8_codeCases_158 : decode cX8_codeCases 158 = .ok (.invokevirtual 677, 3) := zdec_at bX8_codeCases_145 7 rfl
theorem dX8_codeCases_161 : decode cX8_codeCases 161 = .ok (.aload_n 0, 1) := zdec_at bX8_codeCases_145 8 rfl
theorem dX8_codeCases_162 : decode cX8_codeCases 162 = .ok (.getfield 49, 3) := zdec_at bX8_codeCases_145 9 rfl
theorem dX8_codeCases_165 : decode cX8_codeCases 165 = .ok (.iload 6, 2) := zdec_at bX8_codeCases_145 10 rfl
theorem dX8_codeCases_167 : decode cX8_codeCases 167 = .ok (.iaload, 1) := zdec_at bX8_codeCases_145 11 rfl
theorem dX8_codeCases_168 : decode cX8_codeCases 168 = .ok (.istore 6, 2) := zdec_at bX8_codeCases_145 12 rfl
theorem dX8_codeCases_170 : decode cX8_codeCases 170 = .ok (.goto (-112), 3) := zdec_at bX8_codeCases_145 13 rfl
theorem dX8_codeCases_173 : decode cX8_codeCases 173 = .ok (.aload_n 0, 1) := zdec_at bX8_codeCases_145 14 rfl
theorem dX8_codeCases_174 : decode cX8_codeCases 174 = .ok (.bipush 17, 2) := zdec_at bX8_codeCases_145 15 rfl
theorem bX8_codeCases_176 : zdec cX8_codeCases 176 [(176, .invokevirtual 666, 3), (179, .aload_n 0, 1), (180, .bipush 21, 2), (182, .iload 4, 2), (184, .iconst (-1), 1), (185, .if_icmp .ne 7, 3), (188, .iload_n 3, 1), (189, .goto 5, 3), (192, .iload 4, 2), (194, .iconst 0, 1), (195, .invokevirtual 615, 3), (198, .aload_n 0, 1), (199, .getfield 634, 3), (202, .istore 6, 2), (204, .aload_n 0, 1), (205, .getfield 637, 3)] = true := by decide +kernel
theorem dX8_codeCases_176 : decode cX8_codeCases 176 = .ok (.invokevirtual 666, 3) := zdec_at bX8_codeCases_176 0 rfl
theorem dX8_codeCases_179 : decode cX8_codeCases 179 = .ok (.aload_n 0, 1) := zdec_at bX8_codeCases_176 1 rfl
theorem dX8_codeCases_180 : decode cX8_codeCases 180 = .ok (.bipush 21, 2) := zdec_at bX8_codeCases_176 2 rfl
theorem dX8_codeCases_182 : decode cX8_codeCases 182 = .ok (.iload 4, 2) := zdec_at bX8_codeCases_176 3 rfl
theorem dX8_codeCases_184 : decode cX8_codeCases 184 = .ok (.iconst (-1), 1) := zdec_at bX8_codeCases_176 4 rfl
theorem dX8_codeCases_185 : decode cX8_codeCases 185 = .ok (.if_icmp .ne 7, 3) := zdec_at bX8_codeCases_176 5 rfl
theorem dX8_codeCases_188 : decode cX8_codeCases 188 = .ok (.iload_n 3, 1) := zdec_at bX8_codeCases_176 6 rfl
theorem dX8_codeCases_189 : decode cX8_codeCases 189 = .ok (.goto 5, 3) := zdec_at bX8_codeCases_176 7 rfl
theorem dX8_codeCases_192 : decode cX8_codeCases 192 = .ok (.iload 4, 2) := zdec_at bX8_codeCases_176 8 rfl
theorem dX8_codeCases_194 : decode cX8_codeCases 194 = .ok (.iconst 0, 1) := zdec_at bX8_codeCases_176 9 rfl
theorem dX8_codeCases_195 : decode cX8_codeCases 195 = .ok (.invokevirtual 615, 3) := zdec_at bX8_codeCases_176 10 rfl
theorem dX8_codeCases_198 : decode cX8_codeCases 198 = .ok (.aload_n 0, 1) := zdec_at bX8_codeCases_176 11 rfl
theorem dX8_codeCases_199 : decode cX8_codeCases 199 = .ok (.getfield 634, 3) := zdec_at bX8_codeCases_176 12 rfl
theorem dX8_codeCases_202 : decode cX8_codeCases 202 = .ok (.istore 6, 2) := zdec_at bX8_codeCases_176 13 rfl
theorem dX8_codeCases_204 : decode cX8_codeCases 204 = .ok (.aload_n 0, 1) := zdec_at bX8_codeCases_176 14 rfl
theorem dX8_codeCases_205 : decode cX8_codeCases 205 = .ok (.getfield 637, 3) := zdec_at bX8_codeCases_176 15 rfl
theorem bX8_codeCases_208 : zdec cX8_codeCases 208 [(208, .istore 7, 2), (210, .aload_n 0, 1), (211, .iconst 5, 1), (212, .iconst (-1), 1), (213, .iload_n 3, 1), (214, .iconst 0, 1), (215, .invokevirtual 723, 3), (218, .iload_n 2, 1), (219, .istore 8, 2), (221, .iload 8, 2), (223, .iconst (-1), 1), (224, .if_icmp .eq 44, 3), (227, .aload_n 0, 1), (228, .getfield 609, 3), (231, .ifCond .ne 37, 3), (234, .aload_n 0, 1)] = true := by decide +kernel
theorem dX8_codeCases_208 : decode cX8_codeCases 208 = .ok (.istore 7, 2) := zdec_at bX8_codeCases_208 0 rfl
theorem dX8_codeCases_210 : decode cX8_codeCases 210 = .ok (.aload_n 0, 1) := zdec_at bX8_codeCases_208 1 rfl
theorem dX8_codeCases_211 : decode cX8_codeCases 211 = .ok (.iconst 5, 1) := zdec_at bX8_codeCases_208 2 rfl
theorem dX8_codeCases_212 : decode cX8_codeCases 212 = .ok (.iconst (-1), 1) := zdec_at bX8_codeCases_208 3 rfl
theorem dX8_codeCases_213 : decode cX8_codeCases 213 = .ok (.iload_n 3, 1) := zdec_at bX8_codeCases_208 4 rfl
theorem dX8_codeCases_214 : decode cX8_codeCases 214 = .ok (.iconst 0, 1) := zdec_at bX8_codeCases_208 5 rfl
theorem dX8_codeCases_215 : decode cX8_codeCases 215 = .ok (.invokevirtual 723, 3) := zdec_at bX8_codeCases_208 6 rfl
theorem dX8_codeCases_218 : decode cX8_codeCases 218 = .ok (.iload_n 2, 1) := zdec_at bX8_codeCases_208 7 rfl
theorem dX8_codeCases_219 : decode cX8_codeCases 219 = .ok (.istore 8, 2) := zdec_at bX8_codeCases_208 8 rfl
theorem dX8_codeCases_221 : decode cX8_codeCases 221 = .ok (.iload 8, 2) := zdec_at bX8_codeCases_208 9 rfl
theorem dX8_codeCases_223 : decode cX8_codeCases 223 = .ok (.iconst (-1), 1) := zdec_at bX8_codeCases_208 10 rfl
theorem dX8_codeCases_224 : decode cX8_codeCases 224 = .ok (.if_icmp .eq 44, 3) := zdec_at bX8_codeCases_208 11 rfl
theorem dX8_codeCases_227 : decode cX8_codeCases 227 = .ok (.aload_n 0, 1) := zdec_at bX8_codeCases_208 12 rfl
theorem dX8_codeCases_228 : decode cX8_codeCases 228 = .ok (.getfield 609, 3) := zdec_at bX8_codeCases_208 13 rfl
theorem dX8_codeCases_231 : decode cX8_codeCases 231 = .ok (.ifCond .ne 37, 3) := zdec_at bX8_codeCases_208 14 rfl
theorem dX8_codeCases_234 : decode cX8_codeCases 234 = .ok (.aload_n 0, 1) := zdec_at bX8_codeCases_208 15 rfl
theorem bX8_codeCases_235 : zdec cX8_codeCases 235 [(235, .aload_n 0, 1), (236, .iload 8, 2), (238, .iconst 2, 1), (239, .invokevirtual 644, 3), (242, .invokevirtual 677, 3), (245, .aload_n 0, 1), (246, .aload_n 0, 1), (247, .iload 8, 2), (249, .iconst 1, 1), (250, .invokevirtual 644, 3), (253, .invokevirtual 713, 3), (256, .aload_n 0, 1), (257, .getfield 49, 3), (260, .iload 8, 2), (262, .iaload, 1), (263, .istore 8, 2)] = true := by decide +kernel
theorem dX8_codeCases_235 : decode cX8_codeCases 235 = .ok (.aload_n 0, 1) := zdec_at bX8_codeCases_235 0 rfl
theorem dX8_codeCases_236 : decode cX8_codeCases 236 = .ok (.iload 8, 2) := zdec_at bX8_codeCases_235 1 rfl
theorem dX8_codeCases_238 : decode cX8_codeCases 238 = .ok (.iconst 2, 1) := zdec_at bX8_codeCases_235 2 rfl
theorem dX8_codeCases_239 : decode cX8_codeCases 239 = .ok (.invokevirtual 644, 3) := zdec_at bX8_codeCases_235 3 rfl
theorem dX8_codeCases_242 : decode cX8_codeCases 242 = .ok (.invokevirtual 677, 3) := zdec_at bX8_codeCases_235 4 rfl
theorem dX8_codeCases_245 : decode cX8_codeCases 245 = .ok (.aload_n 0, 1) := zdec_at bX8_codeCases_235 5 rfl
theorem dX8_codeCases_246 : decode cX8_codeCases 246 = .ok (.aload_n 0, 1) := zdec_at bX8_codeCases_235 6 rfl
theorem dX8_codeCases_247 : decode cX8_codeCases 247 = .ok (.iload 8, 2) := zdec_at bX8_codeCases_235 7 rfl
theorem dX8_codeCases_249 : decode cX8_codeCases 249 = .ok (.iconst 1, 1) := zdec_at bX8_codeCases_235 8 rfl
theorem dX8_codeCases_250 : decode cX8_codeCases 250 = .ok (.invokevirtual 644, 3) := zdec_at bX8_codeCases_235 9 rfl
theorem dX8_codeCases_253 : decode cX8_codeCases 253 = .ok (.invokevirtual 713, 3) := zdec_at bX8_codeCases_235 10 rfl
theorem dX8_codeCases_256 : decode cX8_codeCases 256 = .ok (.aload_n 0, 1) := zdec_at bX8_codeCases_235 11 rfl
theorem dX8_codeCases_257 : decode cX8_codeCases 257 = .ok (.getfield 49, 3) := zdec_at bX8_codeCases_235 12 rfl
theorem dX8_codeCases_260 : decode cX8_codeCases 260 = .ok (.iload 8, 2) := zdec_at bX8_codeCases_235 13 rfl
theorem dX8_codeCases_262 : decode cX8_codeCases 262 = .ok (.iaload, 1) := zdec_at bX8_codeCases_235 14 rfl
theorem dX8_codeCases_263 : decode cX8_codeCases 263 = .ok (.istore 8, 2) := zdec_at bX8_codeCases_235 15 rfl
theorem bX8_codeCases_265 : zdec cX8_codeCases 265 [(265, .goto (-44), 3), (268, .aload_n 0, 1), (269, .iload 6, 2), (271, .iload 7, 2), (273, .invokevirtual 726, 3), (276, .aload_n 0, 1), (277, .iload_n 3, 1), (278, .invokevirtual 677, 3), (281, .return_, 1)] = true := by decide +kernel
theorem dX8_codeCases_265 : decode cX8_codeCases 265 = .ok (.goto (-44), 3) := zdec_at bX8_codeCases_265 0 rfl
theorem dX8_codeCases_268 : decode cX8_codeCases 268 = .ok (.aload_n 0, 1) := zdec_at bX8_codeCases_265 1 rfl
theorem dX8_codeCases_269 : decode cX8_codeCases 269 = .ok (.iload 6, 2) := zdec_at bX8_codeCases_265 2 rfl
theorem dX8_codeCases_271 : decode cX8_codeCases 271 = .ok (.iload 7, 2) := zdec_at bX8_codeCases_265 3 rfl
theorem dX8_codeCases_273 : decode cX8_codeCases 273 = .ok (.invokevirtual 726, 3) := zdec_at bX8_codeCases_265 4 rfl
theorem dX8_codeCases_276 : decode cX8_codeCases 276 = .ok (.aload_n 0, 1) := zdec_at bX8_codeCases_265 5 rfl
theorem dX8_codeCases_277 : decode cX8_codeCases 277 = .ok (.iload_n 3, 1) := zdec_at bX8_codeCases_265 6 rfl
theorem dX8_codeCases_278 : decode cX8_codeCases 278 = .ok (.invokevirtual 677, 3) := zdec_at bX8_codeCases_265 7 rfl
theorem dX8_codeCases_281 : decode cX8_codeCases 281 = .ok (.return_, 1) := zdec_at bX8_codeCases_265 8 rfl
theorem sX8_codeCases_0 {E : zE} {d : Nat} {Q : zO → zM → Prop} (M : zM) (l1 : Int32) (l2 : Int32) (k : Zm E YX8_value d M (zargs 0 [vr (some (97, 1, 0)), vi l1]) 0 [] (zma E YX8_codeCases (d + 1) [(0, vr (some (97, 1, 0))), (2, vi l2)] 2 3 [] Q)) : Zm E YX8_codeCases (d + 1) M [(0, vr (some (97, 1, 0))), (1, vi l1), (2, vi l2)] 0 [] Q := by
  refine Zm.l (fun _ _ k_ => z_aload_n dX8_codeCases_0 rfl rfl k_) ?_
  refine Zm.l (fun _ _ k_ => z_iload_n dX8_codeCases_1 rfl rfl k_) ?_
  refine Zm.pick [0, 2] rfl ?_
  exact zm_callV (as := [vi l1]) (st := []) dX8_codeCases_2 vsX8_668_1 (Nat.le_refl _) (Nat.le_of_ble_eq_true rfl) (Nat.le_of_ble_eq_true rfl) rfl k
theorem sX8_codeCases_5 {E : zE} {d : Nat} {Q : zO → zM → Prop} (M : zM) (l2 : Int32) (k : Zm E YX8_mark d M (zargs 0 [vr (some (97, 1, 0))]) 0 [] (zma E YX8_codeCases (d + 1) [(0, vr (some (97, 1, 0))), (2, vi l2)] 6 3 [] Q)) : Zm E YX8_codeCases (d + 1) M [(0, vr (some (97, 1, 0))), (2, vi l2)] 5 [] Q := by
  refine Zm.l (fun _ _ k_ => z_aload_n dX8_codeCases_5 rfl rfl k_) ?_
  exact zm_callV (as := []) (st := []) dX8_codeCases_6 vsX8_674_1 (Nat.le_refl _) (Nat.le_of_ble_eq_true rfl) (Nat.le_of_ble_eq_true rfl) rfl k
theorem sX8_codeCases_9 {E : zE} {d : Nat} {Q : zO → zM → Prop} (M : zM) (l2 : Int32) (s0 : Int32) (k : Zm E YX8_codeCases (d + 1) M [(0, vr (some (97, 1, 0))), (2, vi l2), (3, vi s0), (4, vi (-1 : Int32)), (6, vi l2)] 22 [] Q) : Zm E YX8_codeCases (d + 1) M [(0, vr (some (97, 1, 0))), (2, vi l2)] 9 [vi s0] Q := by
  refine Zm.l (fun _ _ k_ => z_ist_n dX8_codeCases_9 rfl (by decide) (lv' := [(0, vr (some (97, 1, 0))), (2, vi l2), (3, vi s0)]) rfl k_) ?_
  refine Zm.l (fun _ _ k_ => z_iconst (v := -1) dX8_codeCases_10 rfl k_) ?_
  refine Zm.l (fun _ _ k_ => z_ist dX8_codeCases_11 (by decide) (lv' := [(0, vr (some (97, 1, 0))), (2, vi l2), (3, vi s0), (4, vi (-1 : Int32))]) rfl k_) ?_
  refine Zm.l (fun _ _ k_ => z_aload_n dX8_codeCases_13 rfl rfl k_) ?_
  refine zm_geti dX8_codeCases_14 fsX8_619_1 (by decide) (by decide) ?_
  refine Zm.l (fun _ _ k_ => z_ist dX8_codeCases_17 (by decide) (lv' := [(0, vr (some (97, 1, 0))), (2, vi l2), (3, vi s0), (4, vi (-1 : Int32)), (5, vi (gi M 97 53))]) rfl k_) ?_
  refine Zm.l (fun _ _ k_ => z_iload_n dX8_codeCases_19 rfl rfl k_) ?_
  refine Zm.l (fun _ _ k_ => z_ist dX8_codeCases_20 (by decide) (lv' := [(0, vr (some (97, 1, 0))), (2, vi l2), (3, vi s0), (4, vi (-1 : Int32)), (5, vi (gi M 97 53)), (6, vi l2)]) rfl k_) ?_
  refine Zm.pick [0, 1, 2, 3, 5] rfl ?_
  exact k
theorem sX8_codeCases_22 {E : zE} {d : Nat} {Q : zO → zM → Prop} (M : zM) (l2 : Int32) (l3 : Int32) (l4 : Int32) (l6 : Int32) (k : if l6 = (-1 : Int32) then (Zm E YX8_codeCases (d + 1) M [(0, vr (some (97, 1, 0))), (2, vi l2), (3, vi l3), (4, vi l4), (6, vi l2)] 58 [] Q) else (Zm E YX8_mark d M (zargs 0 [vr (some (97, 1, 0))]) 0 [] (zma E YX8_codeCases (d + 1) [(0, vr (some (97, 1, 0))), (2, vi l2), (3, vi l3), (4, vi l4), (6, vi l6)] 39 3 [vi (((5 : Int32) * l6) + (2 : Int32)), vr (some (109, 100, 60000))] Q))) : Zm E YX8_codeCases (d + 1) M [(0, vr (some (97, 1, 0))), (2, vi l2), (3, vi l3), (4, vi l4), (6, vi l6)] 22 [] Q := by
  refine Zm.l (fun _ _ k_ => z_iload dX8_codeCases_22 rfl k_) ?_
  refine Zm.l (fun _ _ k_ => z_iconst (v := -1) dX8_codeCases_24 rfl k_) ?_
  refine Zm.br (fun _ _ k1_ k2_ => z_icmp_eq (tgt := 55) dX8_codeCases_25 rfl k1_ k2_) (fun h_ => ?_) (fun h_ => ?_)
  · have k := zit h_ k
    refine Zm.l (fun _ _ k_ => z_iload_n dX8_codeCases_55 rfl rfl k_) ?_
    refine Zm.l (fun _ _ k_ => z_ist dX8_codeCases_56 (by decide) (lv' := [(0, vr (some (97, 1, 0))), (2, vi l2), (3, vi l3), (4, vi l4), (6, vi l2)]) rfl k_) ?_
    exact k
  · have k := zif h_ k
    refine Zm.l (fun _ _ k_ => z_aload_n dX8_codeCases_28 rfl rfl k_) ?_
    refine zm_getr 11 dX8_codeCases_29 fsX8_46_1 rfl ?_
    refine Zm.l (fun _ _ k_ => z_iconst (v := 5) dX8_codeCases_32 rfl k_) ?_
    refine Zm.l (fun _ _ k_ => z_iload dX8_codeCases_33 rfl k_) ?_
    refine Zm.l (fun _ _ k_ => z_imul dX8_codeCases_35 k_) ?_
    refine Zm.l (fun _ _ k_ => z_iconst (v := 2) dX8_codeCases_36 rfl k_) ?_
    refine Zm.l (fun _ _ k_ => z_iadd dX8_codeCases_37 k_) ?_
    refine Zm.l (fun _ _ k_ => z_aload_n dX8_codeCases_38 rfl rfl k_) ?_
    exact zm_callV (as := []) (st := [vi (((5 : Int32) * l6) + (2 : Int32)), vr (some (109, 100, 60000))]) dX8_codeCases_39 vsX8_674_1 (Nat.le_refl _) (Nat.le_of_ble_eq_true rfl) (Nat.le_of_ble_eq_true rfl) rfl k
theorem sX8_codeCases_42 {E : zE} {d : Nat} {Q : zO → zM → Prop} (M : zM) (l2 : Int32) (l3 : Int32) (l4 : Int32) (l6 : Int32) (s0 : Int32) (s1 : Int32) (k : vp_in s1 60000 ∧ (vp_in l6 12000 ∧ (Zm E YX8_codeCases (d + 1) (si M 109 (s1).toNatClampNeg s0) [(0, vr (some (97, 1, 0))), (2, vi l2), (3, vi l3), (4, vi l4), (6, vi (gi M 110 (l6).toNatClampNeg))] 22 [] Q))) : Zm E YX8_codeCases (d + 1) M [(0, vr (some (97, 1, 0))), (2, vi l2), (3, vi l3), (4, vi l4), (6, vi l6)] 42 [vi s0, vi s1, vr (some (109, 100, 60000))] Q := by
  obtain ⟨b_, k⟩ := k
  refine zm_iast dX8_codeCases_42 b_ (by decide) (by decide) ?_
  refine Zm.l (fun _ _ k_ => z_aload_n dX8_codeCases_43 rfl rfl k_) ?_
  refine zm_getr 12 dX8_codeCases_44 fsX8_49_1 rfl ?_
  refine Zm.l (fun _ _ k_ => z_iload dX8_codeCases_47 rfl k_) ?_
  obtain ⟨b_, k⟩ := k
  refine zm_iald dX8_codeCases_49 b_ (by decide) (by decide) ?_
  refine Zm.l (fun _ _ k_ => z_ist dX8_codeCases_50 (by decide) (lv' := [(0, vr (some (97, 1, 0))), (2, vi l2), (3, vi l3), (4, vi l4), (6, vi (gi M 110 (l6).toNatClampNeg))]) rfl k_) ?_
  refine Zm.l (fun _ _ k_ => z_goto (tgt := 22) dX8_codeCases_52 rfl k_) ?_
  exact k
theorem sX8_codeCases_58 {E : zE} {d : Nat} {Q : zO → zM → Prop} (M : zM) (l2 : Int32) (l3 : Int32) (l4 : Int32) (l6 : Int32) (k : if l6 = (-1 : Int32) then (Zm E YX8_emit_2 d M (zargs 0 [vr (some (97, 1, 0)), vi (17 : Int32)]) 0 [] (zma E YX8_codeCases (d + 1) [(0, vr (some (97, 1, 0))), (2, vi l2), (3, vi l3), (4, vi l4)] 176 3 [] Q)) else (if (gi M 97 47) = 0 then (Zm E YX8_part d M (zargs 0 [vr (some (97, 1, 0)), vi l6, vi (0 : Int32)]) 0 [] (zma E YX8_codeCases (d + 1) [(0, vr (some (97, 1, 0))), (2, vi l2), (3, vi l3), (4, vi l4), (6, vi l6)] 75 3 [] Q)) else (Zm E YX8_emit_2 d M (zargs 0 [vr (some (97, 1, 0)), vi (17 : Int32)]) 0 [] (zma E YX8_codeCases (d + 1) [(0, vr (some (97, 1, 0))), (2, vi l2), (3, vi l3), (4, vi l4)] 176 3 [] Q)))) : Zm E YX8_codeCases (d + 1) M [(0, vr (some (97, 1, 0))), (2, vi l2), (3, vi l3), (4, vi l4), (6, vi l6)] 58 [] Q := by
  refine Zm.l (fun _ _ k_ => z_iload dX8_codeCases_58 rfl k_) ?_
  refine Zm.l (fun _ _ k_ => z_iconst (v := -1) dX8_codeCases_60 rfl k_) ?_
  refine Zm.br (fun _ _ k1_ k2_ => z_icmp_eq (tgt := 173) dX8_codeCases_61 rfl k1_ k2_) (fun h_ => ?_) (fun h_ => ?_)
  · have k := zit h_ k
    refine Zm.l (fun _ _ k_ => z_aload_n dX8_codeCases_173 rfl rfl k_) ?_
    refine Zm.l (fun _ _ k_ => z_bipush (v := 17) dX8_codeCases_174 rfl k_) ?_
    refine Zm.pick [0, 1, 2, 3] rfl ?_
    exact zm_callV (as := [vi (17 : Int32)]) (st := []) dX8_codeCases_176 vsX8_666_1 (Nat.le_refl _) (Nat.le_of_ble_eq_true rfl) (Nat.le_of_ble_eq_true rfl) rfl k
  · have k := zif h_ k
    refine Zm.l (fun _ _ k_ => z_aload_n dX8_codeCases_64 rfl rfl k_) ?_
    refine zm_geti dX8_codeCases_65 fsX8_609_1 (by decide) (by decide) ?_
    refine Zm.brn (fun _ _ k1_ k2_ => z_if_ne (tgt := 173) dX8_codeCases_68 rfl k1_ k2_) (fun h_ => ?_) (fun h_ => ?_)
    · have k := zif h_ k
      refine Zm.l (fun _ _ k_ => z_aload_n dX8_codeCases_173 rfl rfl k_) ?_
      refine Zm.l (fun _ _ k_ => z_bipush (v := 17) dX8_codeCases_174 rfl k_) ?_
      refine Zm.pick [0, 1, 2, 3] rfl ?_
      exact zm_callV (as := [vi (17 : Int32)]) (st := []) dX8_codeCases_176 vsX8_666_1 (Nat.le_refl _) (Nat.le_of_ble_eq_true rfl) (Nat.le_of_ble_eq_true rfl) rfl k
    · have k := zit h_ k
      refine Zm.l (fun _ _ k_ => z_aload_n dX8_codeCases_71 rfl rfl k_) ?_
      refine Zm.l (fun _ _ k_ => z_iload dX8_codeCases_72 rfl k_) ?_
      refine Zm.l (fun _ _ k_ => z_iconst (v := 0) dX8_codeCases_74 rfl k_) ?_
      exact zm_callV (as := [vi l6, vi (0 : Int32)]) (st := []) dX8_codeCases_75 vsX8_644_1 (Nat.le_refl _) (Nat.le_of_ble_eq_true rfl) (Nat.le_of_ble_eq_true rfl) rfl k
theorem sX8_codeCases_78 {E : zE} {d : Nat} {Q : zO → zM → Prop} (M : zM) (l2 : Int32) (l3 : Int32) (l4 : Int32) (l6 : Int32) (s0 : Int32) (k : if s0 = (-1 : Int32) then (Zm E YX8_part d M (zargs 0 [vr (some (97, 1, 0)), vi l6, vi (2 : Int32)]) 0 [] (zma E YX8_codeCases (d + 1) [(0, vr (some (97, 1, 0))), (2, vi l2), (3, vi l3), (6, vi l6)] 86 3 [] Q)) else (Zm E YX8_mark d M (zargs 0 [vr (some (97, 1, 0))]) 0 [] (zma E YX8_codeCases (d + 1) [(0, vr (some (97, 1, 0))), (2, vi l2), (3, vi l3), (4, vi l4), (6, vi l6)] 95 3 [] Q))) : Zm E YX8_codeCases (d + 1) M [(0, vr (some (97, 1, 0))), (2, vi l2), (3, vi l3), (4, vi l4), (6, vi l6)] 78 [vi s0] Q := by
  refine Zm.l (fun _ _ k_ => z_iconst (v := -1) dX8_codeCases_78 rfl k_) ?_
  refine Zm.brn (fun _ _ k1_ k2_ => z_icmp_ne (tgt := 94) dX8_codeCases_79 rfl k1_ k2_) (fun h_ => ?_) (fun h_ => ?_)
  · have k := zif h_ k
    refine Zm.l (fun _ _ k_ => z_aload_n dX8_codeCases_94 rfl rfl k_) ?_
    exact zm_callV (as := []) (st := []) dX8_codeCases_95 vsX8_674_1 (Nat.le_refl _) (Nat.le_of_ble_eq_true rfl) (Nat.le_of_ble_eq_true rfl) rfl k
  · have k := zit h_ k
    refine Zm.l (fun _ _ k_ => z_aload_n dX8_codeCases_82 rfl rfl k_) ?_
    refine Zm.l (fun _ _ k_ => z_iload dX8_codeCases_83 rfl k_) ?_
    refine Zm.l (fun _ _ k_ => z_iconst (v := 2) dX8_codeCases_85 rfl k_) ?_
    refine Zm.pick [0, 1, 2, 4] rfl ?_
    exact zm_callV (as := [vi l6, vi (2 : Int32)]) (st := []) dX8_codeCases_86 vsX8_644_1 (Nat.le_refl _) (Nat.le_of_ble_eq_true rfl) (Nat.le_of_ble_eq_true rfl) rfl k
theorem sX8_codeCases_89 {E : zE} {d : Nat} {Q : zO → zM → Prop} (M : zM) (l2 : Int32) (l3 : Int32) (l6 : Int32) (s0 : Int32) (k : Zm E YX8_codeCases (d + 1) M [(0, vr (some (97, 1, 0))), (2, vi l2), (3, vi l3), (4, vi s0), (6, vi l6)] 161 [] Q) : Zm E YX8_codeCases (d + 1) M [(0, vr (some (97, 1, 0))), (2, vi l2), (3, vi l3), (6, vi l6)] 89 [vi s0] Q := by
  refine Zm.l (fun _ _ k_ => z_ist dX8_codeCases_89 (by decide) (lv' := [(0, vr (some (97, 1, 0))), (2, vi l2), (3, vi l3), (4, vi s0), (6, vi l6)]) rfl k_) ?_
  refine Zm.l (fun _ _ k_ => z_goto (tgt := 161) dX8_codeCases_91 rfl k_) ?_
  exact k
theorem sX8_codeCases_98 {E : zE} {d : Nat} {Q : zO → zM → Prop} (M : zM) (l2 : Int32) (l3 : Int32) (l4 : Int32) (l6 : Int32) (s0 : Int32) (k : Zm E YX8_emit_2 d M (zargs 0 [vr (some (97, 1, 0)), vi (18 : Int32)]) 0 [] (zma E YX8_codeCases (d + 1) [(0, vr (some (97, 1, 0))), (2, vi l2), (3, vi l3), (4, vi l4), (6, vi l6), (7, vi s0)] 103 3 [] Q)) : Zm E YX8_codeCases (d + 1) M [(0, vr (some (97, 1, 0))), (2, vi l2), (3, vi l3), (4, vi l4), (6, vi l6)] 98 [vi s0] Q := by
  refine Zm.l (fun _ _ k_ => z_ist dX8_codeCases_98 (by decide) (lv' := [(0, vr (some (97, 1, 0))), (2, vi l2), (3, vi l3), (4, vi l4), (6, vi l6), (7, vi s0)]) rfl k_) ?_
  refine Zm.l (fun _ _ k_ => z_aload_n dX8_codeCases_100 rfl rfl k_) ?_
  refine Zm.l (fun _ _ k_ => z_bipush (v := 18) dX8_codeCases_101 rfl k_) ?_
  exact zm_callV (as := [vi (18 : Int32)]) (st := []) dX8_codeCases_103 vsX8_666_1 (Nat.le_refl _) (Nat.le_of_ble_eq_true rfl) (Nat.le_of_ble_eq_true rfl) rfl k
theorem sX8_codeCases_106 {E : zE} {d : Nat} {Q : zO → zM → Prop} (M : zM) (l2 : Int32) (l3 : Int32) (l4 : Int32) (l6 : Int32) (l7 : Int32) (k : Zm E YX8_part d M (zargs 0 [vr (some (97, 1, 0)), vi l6, vi (0 : Int32)]) 0 [] (zma E YX8_codeCases (d + 1) [(0, vr (some (97, 1, 0))), (2, vi l2), (3, vi l3), (4, vi l4), (6, vi l6), (7, vi l7)] 111 3 [vr (some (97, 1, 0))] Q)) : Zm E YX8_codeCases (d + 1) M [(0, vr (some (97, 1, 0))), (2, vi l2), (3, vi l3), (4, vi l4), (6, vi l6), (7, vi l7)] 106 [] Q := by
  refine Zm.l (fun _ _ k_ => z_aload_n dX8_codeCases_106 rfl rfl k_) ?_
  refine Zm.l (fun _ _ k_ => z_aload_n dX8_codeCases_107 rfl rfl k_) ?_
  refine Zm.l (fun _ _ k_ => z_iload dX8_codeCases_108 rfl k_) ?_
  refine Zm.l (fun _ _ k_ => z_iconst (v := 0) dX8_codeCases_110 rfl k_) ?_
  exact zm_callV (as := [vi l6, vi (0 : Int32)]) (st := [vr (some (97, 1, 0))]) dX8_codeCases_111 vsX8_644_1 (Nat.le_refl _) (Nat.le_of_ble_eq_true rfl) (Nat.le_of_ble_eq_true rfl) rfl k
theorem sX8_codeCases_114 {E : zE} {d : Nat} {Q : zO → zM → Prop} (M : zM) (l2 : Int32) (l3 : Int32) (l4 : Int32) (l6 : Int32) (l7 : Int32) (s0 : Int32) (k : Zm E YX8_value d M (zargs 0 [vr (some (97, 1, 0)), vi s0]) 0 [] (zma E YX8_codeCases (d + 1) [(0, vr (some (97, 1, 0))), (2, vi l2), (3, vi l3), (4, vi l4), (6, vi l6), (7, vi l7)] 114 3 [] Q)) : Zm E YX8_codeCases (d + 1) M [(0, vr (some (97, 1, 0))), (2, vi l2), (3, vi l3), (4, vi l4), (6, vi l6), (7, vi l7)] 114 [vi s0, vr (some (97, 1, 0))] Q := by
  exact zm_callV (as := [vi s0]) (st := []) dX8_codeCases_114 vsX8_668_1 (Nat.le_refl _) (Nat.le_of_ble_eq_true rfl) (Nat.le_of_ble_eq_true rfl) rfl k
theorem sX8_codeCases_117 {E : zE} {d : Nat} {Q : zO → zM → Prop} (M : zM) (l2 : Int32) (l3 : Int32) (l4 : Int32) (l6 : Int32) (l7 : Int32) (k : Zm E YX8_emit d M (zargs 0 [vr (some (97, 1, 0)), vi (14 : Int32), vi (13 : Int32), vi (0 : Int32)]) 0 [] (zma E YX8_codeCases (d + 1) [(0, vr (some (97, 1, 0))), (2, vi l2), (3, vi l3), (4, vi l4), (6, vi l6), (7, vi l7)] 123 3 [] Q)) : Zm E YX8_codeCases (d + 1) M [(0, vr (some (97, 1, 0))), (2, vi l2), (3, vi l3), (4, vi l4), (6, vi l6), (7, vi l7)] 117 [] Q := by
  refine Zm.l (fun _ _ k_ => z_aload_n dX8_codeCases_117 rfl rfl k_) ?_
  refine Zm.l (fun _ _ k_ => z_bipush (v := 14) dX8_codeCases_118 rfl k_) ?_
  refine Zm.l (fun _ _ k_ => z_bipush (v := 13) dX8_codeCases_120 rfl k_) ?_
  refine Zm.l (fun _ _ k_ => z_iconst (v := 0) dX8_codeCases_122 rfl k_) ?_
  exact zm_callV (as := [vi (14 : Int32), vi (13 : Int32), vi (0 : Int32)]) (st := []) dX8_codeCases_123 vsX8_615_1 (Nat.le_refl _) (Nat.le_of_ble_eq_true rfl) (Nat.le_of_ble_eq_true rfl) rfl k
theorem sX8_codeCases_126 {E : zE} {d : Nat} {Q : zO → zM → Prop} (M : zM) (l2 : Int32) (l3 : Int32) (l4 : Int32) (l6 : Int32) (l7 : Int32) (k : Zm E YX8_emit d M (zargs 0 [vr (some (97, 1, 0)), vi (22 : Int32), vi l7, vi (0 : Int32)]) 0 [] (zma E YX8_codeCases (d + 1) [(0, vr (some (97, 1, 0))), (2, vi l2), (3, vi l3), (4, vi l4), (6, vi l6), (7, vi l7)] 132 3 [] Q)) : Zm E YX8_codeCases (d + 1) M [(0, vr (some (97, 1, 0))), (2, vi l2), (3, vi l3), (4, vi l4), (6, vi l6), (7, vi l7)] 126 [] Q := by
  refine Zm.l (fun _ _ k_ => z_aload_n dX8_codeCases_126 rfl rfl k_) ?_
  refine Zm.l (fun _ _ k_ => z_bipush (v := 22) dX8_codeCases_127 rfl k_) ?_
  refine Zm.l (fun _ _ k_ => z_iload dX8_codeCases_129 rfl k_) ?_
  refine Zm.l (fun _ _ k_ => z_iconst (v := 0) dX8_codeCases_131 rfl k_) ?_
  exact zm_callV (as := [vi (22 : Int32), vi l7, vi (0 : Int32)]) (st := []) dX8_codeCases_132 vsX8_615_1 (Nat.le_refl _) (Nat.le_of_ble_eq_true rfl) (Nat.le_of_ble_eq_true rfl) rfl k
theorem sX8_codeCases_135 {E : zE} {d : Nat} {Q : zO → zM → Prop} (M : zM) (l2 : Int32) (l3 : Int32) (l4 : Int32) (l6 : Int32) (l7 : Int32) (k : Zm E YX8_emit_2 d M (zargs 0 [vr (some (97, 1, 0)), vi (17 : Int32)]) 0 [] (zma E YX8_codeCases (d + 1) [(0, vr (some (97, 1, 0))), (2, vi l2), (3, vi l3), (4, vi l4), (6, vi l6), (7, vi l7)] 138 3 [] Q)) : Zm E YX8_codeCases (d + 1) M [(0, vr (some (97, 1, 0))), (2, vi l2), (3, vi l3), (4, vi l4), (6, vi l6), (7, vi l7)] 135 [] Q := by
  refine Zm.l (fun _ _ k_ => z_aload_n dX8_codeCases_135 rfl rfl k_) ?_
  refine Zm.l (fun _ _ k_ => z_bipush (v := 17) dX8_codeCases_136 rfl k_) ?_
  exact zm_callV (as := [vi (17 : Int32)]) (st := []) dX8_codeCases_138 vsX8_666_1 (Nat.le_refl _) (Nat.le_of_ble_eq_true rfl) (Nat.le_of_ble_eq_true rfl) rfl k
theorem sX8_codeCases_141 {E : zE} {d : Nat} {Q : zO → zM → Prop} (M : zM) (l2 : Int32) (l3 : Int32) (l4 : Int32) (l6 : Int32) (l7 : Int32) (k : Zm E YX8_part d M (zargs 0 [vr (some (97, 1, 0)), vi l6, vi (2 : Int32)]) 0 [] (zma E YX8_codeCases (d + 1) [(0, vr (some (97, 1, 0))), (2, vi l2), (3, vi l3), (4, vi l4), (6, vi l6), (7, vi l7)] 148 3 [vi (21 : Int32), vr (some (97, 1, 0))] Q)) : Zm E YX8_codeCases (d + 1) M [(0, vr (some (97, 1, 0))), (2, vi l2), (3, vi l3), (4, vi l4), (6, vi l6), (7, vi l7)] 141 [] Q := by
  refine Zm.l (fun _ _ k_ => z_aload_n dX8_codeCases_141 rfl rfl k_) ?_
  refine Zm.l (fun _ _ k_ => z_bipush (v := 21) dX8_codeCases_142 rfl k_) ?_
  refine Zm.l (fun _ _ k_ => z_aload_n dX8_codeCases_144 rfl rfl k_) ?_
  refine Zm.l (fun _ _ k_ => z_iload dX8_codeCases_145 rfl k_) ?_
  refine Zm.l (fun _ _ k_ => z_iconst (v := 2) dX8_codeCases_147 rfl k_) ?_
  exact zm_callV (as := [vi l6, vi (2 : Int32)]) (st := [vi (21 : Int32), vr (some (97, 1, 0))]) dX8_codeCases_148 vsX8_644_1 (Nat.le_refl _) (Nat.le_of_ble_eq_true rfl) (Nat.le_of_ble_eq_true rfl) rfl k
theorem sX8_codeCases_151 {E : zE} {d : Nat} {Q : zO → zM → Prop} (M : zM) (l2 : Int32) (l3 : Int32) (l4 : Int32) (l6 : Int32) (l7 : Int32) (s0 : Int32) (s1 : Int32) (k : Zm E YX8_emit d M (zargs 0 [vr (some (97, 1, 0)), vi s1, vi s0, vi (0 : Int32)]) 0 [] (zma E YX8_codeCases (d + 1) [(0, vr (some (97, 1, 0))), (2, vi l2), (3, vi l3), (4, vi l4), (6, vi l6), (7, vi l7)] 152 3 [] Q)) : Zm E YX8_codeCases (d + 1) M [(0, vr (some (97, 1, 0))), (2, vi l2), (3, vi l3), (4, vi l4), (6, vi l6), (7, vi l7)] 151 [vi s0, vi s1, vr (some (97, 1, 0))] Q := by
  refine Zm.l (fun _ _ k_ => z_iconst (v := 0) dX8_codeCases_151 rfl k_) ?_
  exact zm_callV (as := [vi s1, vi s0, vi (0 : Int32)]) (st := []) dX8_codeCases_152 vsX8_615_1 (Nat.le_refl _) (Nat.le_of_ble_eq_true rfl) (Nat.le_of_ble_eq_true rfl) rfl k
theorem sX8_codeCases_155 {E : zE} {d : Nat} {Q : zO → zM → Prop} (M : zM) (l2 : Int32) (l3 : Int32) (l4 : Int32) (l6 : Int32) (l7 : Int32) (k : Zm E YX8_here d M (zargs 0 [vr (some (97, 1, 0)), vi l7]) 0 [] (zma E YX8_codeCases (d + 1) [(0, vr (some (97, 1, 0))), (2, vi l2), (3, vi l3), (4, vi l4), (6, vi l6)] 158 3 [] Q)) : Zm E YX8_codeCases (d + 1) M [(0, vr (some (97, 1, 0))), (2, vi l2), (3, vi l3), (4, vi l4), (6, vi l6), (7, vi l7)] 155 [] Q := by
  refine Zm.l (fun _ _ k_ => z_aload_n dX8_codeCases_155 rfl rfl k_) ?_
  refine Zm.l (fun _ _ k_ => z_iload dX8_codeCases_156 rfl k_) ?_
  refine Zm.pick [0, 1, 2, 3, 4] rfl ?_
  exact zm_callV (as := [vi l7]) (st := []) dX8_codeCases_158 vsX8_677_1 (Nat.le_refl _) (Nat.le_of_ble_eq_true rfl) (Nat.le_of_ble_eq_true rfl) rfl k
theorem sX8_codeCases_161 {E : zE} {d : Nat} {Q : zO → zM → Prop} (M : zM) (l2 : Int32) (l3 : Int32) (l4 : Int32) (l6 : Int32) (k : vp_in l6 12000 ∧ (Zm E YX8_codeCases (d + 1) M [(0, vr (some (97, 1, 0))), (2, vi l2), (3, vi l3), (4, vi l4), (6, vi (gi M 110 (l6).toNatClampNeg))] 58 [] Q)) : Zm E YX8_codeCases (d + 1) M [(0, vr (some (97, 1, 0))), (2, vi l2), (3, vi l3), (4, vi l4), (6, vi l6)] 161 [] Q := by
  refine Zm.l (fun _ _ k_ => z_aload_n dX8_codeCases_161 rfl rfl k_) ?_
  refine zm_getr 12 dX8_codeCases_162 fsX8_49_1 rfl ?_
  refine Zm.l (fun _ _ k_ => z_iload dX8_codeCases_165 rfl k_) ?_
  obtain ⟨b_, k⟩ := k
  refine zm_iald dX8_codeCases_167 b_ (by decide) (by decide) ?_
  refine Zm.l (fun _ _ k_ => z_ist dX8_codeCases_168 (by decide) (lv' := [(0, vr (some (97, 1, 0))), (2, vi l2), (3, vi l3), (4, vi l4), (6, vi (gi M 110 (l6).toNatClampNeg))]) rfl k_) ?_
  refine Zm.l (fun _ _ k_ => z_goto (tgt := 58) dX8_codeCases_170 rfl k_) ?_
  exact k
theorem sX8_codeCases_179 {E : zE} {d : Nat} {Q : zO → zM → Prop} (M : zM) (l2 : Int32) (l3 : Int32) (l4 : Int32) (k : if l4 = (-1 : Int32) then (Zm E YX8_emit d M (zargs 0 [vr (some (97, 1, 0)), vi (21 : Int32), vi l3, vi (0 : Int32)]) 0 [] (zma E YX8_codeCases (d + 1) [(0, vr (some (97, 1, 0))), (2, vi l2), (3, vi l3)] 195 3 [] Q)) else (Zm E YX8_emit d M (zargs 0 [vr (some (97, 1, 0)), vi (21 : Int32), vi l4, vi (0 : Int32)]) 0 [] (zma E YX8_codeCases (d + 1) [(0, vr (some (97, 1, 0))), (2, vi l2), (3, vi l3)] 195 3 [] Q))) : Zm E YX8_codeCases (d + 1) M [(0, vr (some (97, 1, 0))), (2, vi l2), (3, vi l3), (4, vi l4)] 179 [] Q := by
  refine Zm.l (fun _ _ k_ => z_aload_n dX8_codeCases_179 rfl rfl k_) ?_
  refine Zm.l (fun _ _ k_ => z_bipush (v := 21) dX8_codeCases_180 rfl k_) ?_
  refine Zm.l (fun _ _ k_ => z_iload dX8_codeCases_182 rfl k_) ?_
  refine Zm.l (fun _ _ k_ => z_iconst (v := -1) dX8_codeCases_184 rfl k_) ?_
  refine Zm.brn (fun _ _ k1_ k2_ => z_icmp_ne (tgt := 192) dX8_codeCases_185 rfl k1_ k2_) (fun h_ => ?_) (fun h_ => ?_)
  · have k := zif h_ k
    refine Zm.l (fun _ _ k_ => z_iload dX8_codeCases_192 rfl k_) ?_
    refine Zm.l (fun _ _ k_ => z_iconst (v := 0) dX8_codeCases_194 rfl k_) ?_
    refine Zm.pick [0, 1, 2] rfl ?_
    exact zm_callV (as := [vi (21 : Int32), vi l4, vi (0 : Int32)]) (st := []) dX8_codeCases_195 vsX8_615_1 (Nat.le_refl _) (Nat.le_of_ble_eq_true rfl) (Nat.le_of_ble_eq_true rfl) rfl k
  · have k := zit h_ k
    refine Zm.l (fun _ _ k_ => z_iload_n dX8_codeCases_188 rfl rfl k_) ?_
    refine Zm.l (fun _ _ k_ => z_goto (tgt := 194) dX8_codeCases_189 rfl k_) ?_
    refine Zm.l (fun _ _ k_ => z_iconst (v := 0) dX8_codeCases_194 rfl k_) ?_
    refine Zm.pick [0, 1, 2] rfl ?_
    exact zm_callV (as := [vi (21 : Int32), vi l3, vi (0 : Int32)]) (st := []) dX8_codeCases_195 vsX8_615_1 (Nat.le_refl _) (Nat.le_of_ble_eq_true rfl) (Nat.le_of_ble_eq_true rfl) rfl k
theorem sX8_codeCases_198 {E : zE} {d : Nat} {Q : zO → zM → Prop} (M : zM) (l2 : Int32) (l3 : Int32) (k : Zm E YX8_wrapIn d M (zargs 0 [vr (some (97, 1, 0)), vi (5 : Int32), vi (-1 : Int32), vi l3, vi (0 : Int32)]) 0 [] (zma E YX8_codeCases (d + 1) [(0, vr (some (97, 1, 0))), (2, vi l2), (3, vi l3), (6, vi (gi M 97 60)), (7, vi (gi M 97 59))] 215 3 [] Q)) : Zm E YX8_codeCases (d + 1) M [(0, vr (some (97, 1, 0))), (2, vi l2), (3, vi l3)] 198 [] Q := by
  refine Zm.l (fun _ _ k_ => z_aload_n dX8_codeCases_198 rfl rfl k_) ?_
  refine zm_geti dX8_codeCases_199 fsX8_634_1 (by decide) (by decide) ?_
  refine Zm.l (fun _ _ k_ => z_ist dX8_codeCases_202 (by decide) (lv' := [(0, vr (some (97, 1, 0))), (2, vi l2), (3, vi l3), (6, vi (gi M 97 60))]) rfl k_) ?_
  refine Zm.l (fun _ _ k_ => z_aload_n dX8_codeCases_204 rfl rfl k_) ?_
  refine zm_geti dX8_codeCases_205 fsX8_637_1 (by decide) (by decide) ?_
  refine Zm.l (fun _ _ k_ => z_ist dX8_codeCases_208 (by decide) (lv' := [(0, vr (some (97, 1, 0))), (2, vi l2), (3, vi l3), (6, vi (gi M 97 60)), (7, vi (gi M 97 59))]) rfl k_) ?_
  refine Zm.l (fun _ _ k_ => z_aload_n dX8_codeCases_210 rfl rfl k_) ?_
  refine Zm.l (fun _ _ k_ => z_iconst (v := 5) dX8_codeCases_211 rfl k_) ?_
  refine Zm.l (fun _ _ k_ => z_iconst (v := -1) dX8_codeCases_212 rfl k_) ?_
  refine Zm.l (fun _ _ k_ => z_iload_n dX8_codeCases_213 rfl rfl k_) ?_
  refine Zm.l (fun _ _ k_ => z_iconst (v := 0) dX8_codeCases_214 rfl k_) ?_
  exact zm_callV (as := [vi (5 : Int32), vi (-1 : Int32), vi l3, vi (0 : Int32)]) (st := []) dX8_codeCases_215 vsX8_723_1 (Nat.le_refl _) (Nat.le_of_ble_eq_true rfl) (Nat.le_of_ble_eq_true rfl) rfl k
theorem sX8_codeCases_218 {E : zE} {d : Nat} {Q : zO → zM → Prop} (M : zM) (l2 : Int32) (l3 : Int32) (l6 : Int32) (l7 : Int32) (k : Zm E YX8_codeCases (d + 1) M [(0, vr (some (97, 1, 0))), (3, vi l3), (6, vi l6), (7, vi l7), (8, vi l2)] 221 [] Q) : Zm E YX8_codeCases (d + 1) M [(0, vr (some (97, 1, 0))), (2, vi l2), (3, vi l3), (6, vi l6), (7, vi l7)] 218 [] Q := by
  refine Zm.l (fun _ _ k_ => z_iload_n dX8_codeCases_218 rfl rfl k_) ?_
  refine Zm.l (fun _ _ k_ => z_ist dX8_codeCases_219 (by decide) (lv' := [(0, vr (some (97, 1, 0))), (2, vi l2), (3, vi l3), (6, vi l6), (7, vi l7), (8, vi l2)]) rfl k_) ?_
  refine Zm.pick [0, 2, 3, 4, 5] rfl ?_
  exact k
theorem sX8_codeCases_221 {E : zE} {d : Nat} {Q : zO → zM → Prop} (M : zM) (l3 : Int32) (l6 : Int32) (l7 : Int32) (l8 : Int32) (k : if l8 = (-1 : Int32) then (Zm E YX8_unwrap d M (zargs 0 [vr (some (97, 1, 0)), vi l6, vi l7]) 0 [] (zma E YX8_codeCases (d + 1) [(0, vr (some (97, 1, 0))), (3, vi l3)] 273 3 [] Q)) else (if (gi M 97 47) = 0 then (Zm E YX8_part d M (zargs 0 [vr (some (97, 1, 0)), vi l8, vi (2 : Int32)]) 0 [] (zma E YX8_codeCases (d + 1) [(0, vr (some (97, 1, 0))), (3, vi l3), (6, vi l6), (7, vi l7), (8, vi l8)] 239 3 [vr (some (97, 1, 0))] Q)) else (Zm E YX8_unwrap d M (zargs 0 [vr (some (97, 1, 0)), vi l6, vi l7]) 0 [] (zma E YX8_codeCases (d + 1) [(0, vr (some (97, 1, 0))), (3, vi l3)] 273 3 [] Q)))) : Zm E YX8_codeCases (d + 1) M [(0, vr (some (97, 1, 0))), (3, vi l3), (6, vi l6), (7, vi l7), (8, vi l8)] 221 [] Q := by
  refine Zm.l (fun _ _ k_ => z_iload dX8_codeCases_221 rfl k_) ?_
  refine Zm.l (fun _ _ k_ => z_iconst (v := -1) dX8_codeCases_223 rfl k_) ?_
  refine Zm.br (fun _ _ k1_ k2_ => z_icmp_eq (tgt := 268) dX8_codeCases_224 rfl k1_ k2_) (fun h_ => ?_) (fun h_ => ?_)
  · have k := zit h_ k
    refine Zm.l (fun _ _ k_ => z_aload_n dX8_codeCases_268 rfl rfl k_) ?_
    refine Zm.l (fun _ _ k_ => z_iload dX8_codeCases_269 rfl k_) ?_
    refine Zm.l (fun _ _ k_ => z_iload dX8_codeCases_271 rfl k_) ?_
    refine Zm.pick [0, 1] rfl ?_
    exact zm_callV (as := [vi l6, vi l7]) (st := []) dX8_codeCases_273 vsX8_726_1 (Nat.le_refl _) (Nat.le_of_ble_eq_true rfl) (Nat.le_of_ble_eq_true rfl) rfl k
  · have k := zif h_ k
    refine Zm.l (fun _ _ k_ => z_aload_n dX8_codeCases_227 rfl rfl k_) ?_
    refine zm_geti dX8_codeCases_228 fsX8_609_1 (by decide) (by decide) ?_
    refine Zm.brn (fun _ _ k1_ k2_ => z_if_ne (tgt := 268) dX8_codeCases_231 rfl k1_ k2_) (fun h_ => ?_) (fun h_ => ?_)
    · have k := zif h_ k
      refine Zm.l (fun _ _ k_ => z_aload_n dX8_codeCases_268 rfl rfl k_) ?_
      refine Zm.l (fun _ _ k_ => z_iload dX8_codeCases_269 rfl k_) ?_
      refine Zm.l (fun _ _ k_ => z_iload dX8_codeCases_271 rfl k_) ?_
      refine Zm.pick [0, 1] rfl ?_
      exact zm_callV (as := [vi l6, vi l7]) (st := []) dX8_codeCases_273 vsX8_726_1 (Nat.le_refl _) (Nat.le_of_ble_eq_true rfl) (Nat.le_of_ble_eq_true rfl) rfl k
    · have k := zit h_ k
      refine Zm.l (fun _ _ k_ => z_aload_n dX8_codeCases_234 rfl rfl k_) ?_
      refine Zm.l (fun _ _ k_ => z_aload_n dX8_codeCases_235 rfl rfl k_) ?_
      refine Zm.l (fun _ _ k_ => z_iload dX8_codeCases_236 rfl k_) ?_
      refine Zm.l (fun _ _ k_ => z_iconst (v := 2) dX8_codeCases_238 rfl k_) ?_
      exact zm_callV (as := [vi l8, vi (2 : Int32)]) (st := [vr (some (97, 1, 0))]) dX8_codeCases_239 vsX8_644_1 (Nat.le_refl _) (Nat.le_of_ble_eq_true rfl) (Nat.le_of_ble_eq_true rfl) rfl k
theorem sX8_codeCases_242 {E : zE} {d : Nat} {Q : zO → zM → Prop} (M : zM) (l3 : Int32) (l6 : Int32) (l7 : Int32) (l8 : Int32) (s0 : Int32) (k : Zm E YX8_here d M (zargs 0 [vr (some (97, 1, 0)), vi s0]) 0 [] (zma E YX8_codeCases (d + 1) [(0, vr (some (97, 1, 0))), (3, vi l3), (6, vi l6), (7, vi l7), (8, vi l8)] 242 3 [] Q)) : Zm E YX8_codeCases (d + 1) M [(0, vr (some (97, 1, 0))), (3, vi l3), (6, vi l6), (7, vi l7), (8, vi l8)] 242 [vi s0, vr (some (97, 1, 0))] Q := by
  exact zm_callV (as := [vi s0]) (st := []) dX8_codeCases_242 vsX8_677_1 (Nat.le_refl _) (Nat.le_of_ble_eq_true rfl) (Nat.le_of_ble_eq_true rfl) rfl k
theorem sX8_codeCases_245 {E : zE} {d : Nat} {Q : zO → zM → Prop} (M : zM) (l3 : Int32) (l6 : Int32) (l7 : Int32) (l8 : Int32) (k : Zm E YX8_part d M (zargs 0 [vr (some (97, 1, 0)), vi l8, vi (1 : Int32)]) 0 [] (zma E YX8_codeCases (d + 1) [(0, vr (some (97, 1, 0))), (3, vi l3), (6, vi l6), (7, vi l7), (8, vi l8)] 250 3 [vr (some (97, 1, 0))] Q)) : Zm E YX8_codeCases (d + 1) M [(0, vr (some (97, 1, 0))), (3, vi l3), (6, vi l6), (7, vi l7), (8, vi l8)] 245 [] Q := by
  refine Zm.l (fun _ _ k_ => z_aload_n dX8_codeCases_245 rfl rfl k_) ?_
  refine Zm.l (fun _ _ k_ => z_aload_n dX8_codeCases_246 rfl rfl k_) ?_
  refine Zm.l (fun _ _ k_ => z_iload dX8_codeCases_247 rfl k_) ?_
  refine Zm.l (fun _ _ k_ => z_iconst (v := 1) dX8_codeCases_249 rfl k_) ?_
  exact zm_callV (as := [vi l8, vi (1 : Int32)]) (st := [vr (some (97, 1, 0))]) dX8_codeCases_250 vsX8_644_1 (Nat.le_refl _) (Nat.le_of_ble_eq_true rfl) (Nat.le_of_ble_eq_true rfl) rfl k
theorem sX8_codeCases_253 {E : zE} {d : Nat} {Q : zO → zM → Prop} (M : zM) (l3 : Int32) (l6 : Int32) (l7 : Int32) (l8 : Int32) (s0 : Int32) (k : Zm E YX8_codes d M (zargs 0 [vr (some (97, 1, 0)), vi s0]) 0 [] (zma E YX8_codeCases (d + 1) [(0, vr (some (97, 1, 0))), (3, vi l3), (6, vi l6), (7, vi l7), (8, vi l8)] 253 3 [] Q)) : Zm E YX8_codeCases (d + 1) M [(0, vr (some (97, 1, 0))), (3, vi l3), (6, vi l6), (7, vi l7), (8, vi l8)] 253 [vi s0, vr (some (97, 1, 0))] Q := by
  exact zm_callV (as := [vi s0]) (st := []) dX8_codeCases_253 vsX8_713_1 (Nat.le_refl _) (Nat.le_of_ble_eq_true rfl) (Nat.le_of_ble_eq_true rfl) rfl k
theorem sX8_codeCases_256 {E : zE} {d : Nat} {Q : zO → zM → Prop} (M : zM) (l3 : Int32) (l6 : Int32) (l7 : Int32) (l8 : Int32) (k : vp_in l8 12000 ∧ (Zm E YX8_codeCases (d + 1) M [(0, vr (some (97, 1, 0))), (3, vi l3), (6, vi l6), (7, vi l7), (8, vi (gi M 110 (l8).toNatClampNeg))] 221 [] Q)) : Zm E YX8_codeCases (d + 1) M [(0, vr (some (97, 1, 0))), (3, vi l3), (6, vi l6), (7, vi l7), (8, vi l8)] 256 [] Q := by
  refine Zm.l (fun _ _ k_ => z_aload_n dX8_codeCases_256 rfl rfl k_) ?_
  refine zm_getr 12 dX8_codeCases_257 fsX8_49_1 rfl ?_
  refine Zm.l (fun _ _ k_ => z_iload dX8_codeCases_260 rfl k_) ?_
  obtain ⟨b_, k⟩ := k
  refine zm_iald dX8_codeCases_262 b_ (by decide) (by decide) ?_
  refine Zm.l (fun _ _ k_ => z_ist dX8_codeCases_263 (by decide) (lv' := [(0, vr (some (97, 1, 0))), (3, vi l3), (6, vi l6), (7, vi l7), (8, vi (gi M 110 (l8).toNatClampNeg))]) rfl k_) ?_
  refine Zm.l (fun _ _ k_ => z_goto (tgt := 221) dX8_codeCases_265 rfl k_) ?_
  exact k
theorem sX8_codeCases_276 {E : zE} {d : Nat} {Q : zO → zM → Prop} (M : zM) (l3 : Int32) (k : Zm E YX8_here d M (zargs 0 [vr (some (97, 1, 0)), vi l3]) 0 [] (zma E YX8_codeCases (d + 1) [] 278 3 [] Q)) : Zm E YX8_codeCases (d + 1) M [(0, vr (some (97, 1, 0))), (3, vi l3)] 276 [] Q := by
  refine Zm.l (fun _ _ k_ => z_aload_n dX8_codeCases_276 rfl rfl k_) ?_
  refine Zm.l (fun _ _ k_ => z_iload_n dX8_codeCases_277 rfl rfl k_) ?_
  refine Zm.pick [] rfl ?_
  exact zm_callV (as := [vi l3]) (st := []) dX8_codeCases_278 vsX8_677_1 (Nat.le_refl _) (Nat.le_of_ble_eq_true rfl) (Nat.le_of_ble_eq_true rfl) rfl k
theorem sX8_codeCases_281 {E : zE} {d : Nat} {Q : zO → zM → Prop} (M : zM)  (k : Q (.inl none) M) : Zm E YX8_codeCases (d + 1) M [] 281 [] Q := by
  exact zm_vret dX8_codeCases_281 rfl k
/-! ScriptTypesModel.isJump(I)Z -/
theorem bX8_isJump_0 : zdec cX8_isJump 0 [(0, .iload_n 0, 1), (1, .bipush 21, 2), (3, .if_icmp .lt 9, 3), (6, .iload_n 0, 1), (7, .bipush 24, 2), (9, .if_icmp .le 15, 3), (12, .iload_n 0, 1), (13, .bipush 27, 2), (15, .if_icmp .eq 9, 3), (18, .iload_n 0, 1), (19, .bipush 30, 2), (21, .if_icmp .ne 7, 3), (24, .iconst 1, 1), (25, .goto 4, 3), (28, .iconst 0, 1), (29, .ireturn, 1)] = true := by decide +kernel
theorem dX8_isJump_0 : decode cX8_isJump 0 = .ok (.iload_n 0, 1) := zdec_at bX8_isJump_0 0 rfl
theorem dX8_isJump_1 : decode cX8_isJump 1 = .ok (.bipush 21, 2) := zdec_at bX8_isJump_0 1 rfl
theorem dX8_isJump_3 : decode cX8_isJump 3 = .ok (.if_icmp .lt 9, 3) := zdec_at bX8_isJump_0 2 rfl
theorem dX8_isJump_6 : decode cX8_isJump 6 = .ok (.iload_n 0, 1) := zdec_at bX8_isJump_0 3 rfl
theorem dX8_isJump_7 : decode cX8_isJump 7 = .ok (.bipush 24, 2) := zdec_at bX8_isJump_0 4 rfl
theorem dX8_isJump_9 : decode cX8_isJump 9 = .ok (.if_icmp .le 15, 3) := zdec_at bX8_isJump_0 5 rfl
theorem dX8_isJump_12 : decode cX8_isJump 12 = .ok (.iload_n 0, 1) := zdec_at bX8_isJump_0 6 rfl
theorem dX8_isJump_13 : decode cX8_isJump 13 = .ok (.bipush 27, 2) := zdec_at bX8_isJump_0 7 rfl
theorem dX8_isJump_15 : decode cX8_isJump 15 = .ok (.if_icmp .eq 9, 3) := zdec_at bX8_isJump_0 8 rfl
theorem dX8_isJump_18 : decode cX8_isJump 18 = .ok (.iload_n 0, 1) := zdec_at bX8_isJump_0 9 rfl
theorem dX8_isJump_19 : decode cX8_isJump 19 = .ok (.bipush 30, 2) := zdec_at bX8_isJump_0 10 rfl
theorem dX8_isJump_21 : decode cX8_isJump 21 = .ok (.if_icmp .ne 7, 3) := zdec_at bX8_isJump_0 11 rfl
theorem dX8_isJump_24 : decode cX8_isJump 24 = .ok (.iconst 1, 1) := zdec_at bX8_isJump_0 12 rfl
theorem dX8_isJump_25 : decode cX8_isJump 25 = .ok (.goto 4, 3) := zdec_at bX8_isJump_0 13 rfl
theorem dX8_isJump_28 : decode cX8_isJump 28 = .ok (.iconst 0, 1) := zdec_at bX8_isJump_0 14 rfl
theorem dX8_isJump_29 : decode cX8_isJump 29 = .ok (.ireturn, 1) := zdec_at bX8_isJump_0 15 rfl
theorem sX8_isJump_0 {E : zE} {d : Nat} {Q : zO → zM → Prop} (M : zM) (l0 : Int32) (k : if l0 < (21 : Int32) then (Zm E YX8_isJump d M [(0, vi l0)] 12 [] Q) else (if l0 ≤ (24 : Int32) then (Q (.inl (some (vi (1 : Int32)))) M) else (Zm E YX8_isJump d M [(0, vi l0)] 12 [] Q))) : Zm E YX8_isJump d M [(0, vi l0)] 0 [] Q := by
  refine Zm.l (fun _ _ k_ => z_iload_n dX8_isJump_0 rfl rfl k_) ?_
  refine Zm.l (fun _ _ k_ => z_bipush (v := 21) dX8_isJump_1 rfl k_) ?_
  refine Zm.br (fun _ _ k1_ k2_ => z_icmp_lt (tgt := 12) dX8_isJump_3 rfl k1_ k2_) (fun h_ => ?_) (fun h_ => ?_)
  · have k := zit h_ k
    exact k
  · have k := zif h_ k
    refine Zm.l (fun _ _ k_ => z_iload_n dX8_isJump_6 rfl rfl k_) ?_
    refine Zm.l (fun _ _ k_ => z_bipush (v := 24) dX8_isJump_7 rfl k_) ?_
    refine Zm.br (fun _ _ k1_ k2_ => z_icmp_le (tgt := 24) dX8_isJump_9 rfl k1_ k2_) (fun h_ => ?_) (fun h_ => ?_)
    · have k := zit h_ k
      refine Zm.l (fun _ _ k_ => z_iconst (v := 1) dX8_isJump_24 rfl k_) ?_
      refine Zm.l (fun _ _ k_ => z_goto (tgt := 29) dX8_isJump_25 rfl k_) ?_
      exact zm_iret dX8_isJump_29 rfl (by decide) k
    · have k := zif h_ k
      exact k
theorem sX8_isJump_12 {E : zE} {d : Nat} {Q : zO → zM → Prop} (M : zM) (l0 : Int32) (k : if l0 = (27 : Int32) then (Q (.inl (some (vi (1 : Int32)))) M) else (if l0 = (30 : Int32) then (Q (.inl (some (vi (1 : Int32)))) M) else (Q (.inl (some (vi (0 : Int32)))) M))) : Zm E YX8_isJump d M [(0, vi l0)] 12 [] Q := by
  refine Zm.l (fun _ _ k_ => z_iload_n dX8_isJump_12 rfl rfl k_) ?_
  refine Zm.l (fun _ _ k_ => z_bipush (v := 27) dX8_isJump_13 rfl k_) ?_
  refine Zm.br (fun _ _ k1_ k2_ => z_icmp_eq (tgt := 24) dX8_isJump_15 rfl k1_ k2_) (fun h_ => ?_) (fun h_ => ?_)
  · have k := zit h_ k
    refine Zm.l (fun _ _ k_ => z_iconst (v := 1) dX8_isJump_24 rfl k_) ?_
    refine Zm.l (fun _ _ k_ => z_goto (tgt := 29) dX8_isJump_25 rfl k_) ?_
    exact zm_iret dX8_isJump_29 rfl (by decide) k
  · have k := zif h_ k
    refine Zm.l (fun _ _ k_ => z_iload_n dX8_isJump_18 rfl rfl k_) ?_
    refine Zm.l (fun _ _ k_ => z_bipush (v := 30) dX8_isJump_19 rfl k_) ?_
    refine Zm.brn (fun _ _ k1_ k2_ => z_icmp_ne (tgt := 28) dX8_isJump_21 rfl k1_ k2_) (fun h_ => ?_) (fun h_ => ?_)
    · have k := zif h_ k
      refine Zm.l (fun _ _ k_ => z_iconst (v := 0) dX8_isJump_28 rfl k_) ?_
      exact zm_iret dX8_isJump_29 rfl (by decide) k
    · have k := zit h_ k
      refine Zm.l (fun _ _ k_ => z_iconst (v := 1) dX8_isJump_24 rfl k_) ?_
      refine Zm.l (fun _ _ k_ => z_goto (tgt := 29) dX8_isJump_25 rfl k_) ?_
      exact zm_iret dX8_isJump_29 rfl (by decide) k
/-! ScriptTypesModel.begin()V -/
theorem bX8_begin_0 : zdec cX8_begin 0 [(0, .aload_n 0, 1), (1, .aload_n 0, 1), (2, .getfield 770, 3), (5, .ifCond .eq 7, 3), (8, .iconst 0, 1), (9, .goto 4, 3), (12, .iconst 1, 1), (13, .putfield 289, 3), (16, .aload_n 0, 1), (17, .getfield 289, 3), (20, .ifCond .le 4, 3), (23, .return_, 1), (24, .aload_n 0, 1), (25, .iconst 1, 1), (26, .putfield 773, 3), (29, .aload_n 0, 1)] = true := by decide +kernel
theorem dX8_begin_0 : decode cX8_begin 0 = .ok (.aload_n 0, 1) := zdec_at bX8_begin_0 0 rfl
theorem dX8_begin_1 : decode cX8_begin 1 = .ok (.aload_n 0, 1) := zdec_at bX8_begin_0 1 rfl
theorem dX8_begin_2 : decode cX8_begin 2 = .ok (.getfield 770, 3) := zdec_at bX8_begin_0 2 rfl
theorem dX8_begin_5 : decode cX8_begin 5 = .ok (.ifCond .eq 7, 3) := zdec_at bX8_begin_0 3 rfl
theorem dX8_begin_8 : decode cX8_begin 8 = .ok (.iconst 0, 1) := zdec_at bX8_begin_0 4 rfl
theorem dX8_begin_9 : decode cX8_begin 9 = .ok (.goto 4, 3) := zdec_at bX8_begin_0 5 rfl
theorem dX8_begin_12 : decode cX8_begin 12 = .ok (.iconst 1, 1) := zdec_at bX8_begin_0 6 rfl
theorem dX8_begin_13 : decode cX8_begin 13 = .ok (.putfield 289, 3) := zdec_at bX8_begin_0 7 rfl
theorem dX8_begin_16 : decode cX8_begin 16 = .ok (.aload_n 0, 1) := zdec_at bX8_begin_0 8 rfl
theorem dX8_begin_17 : decode cX8_begin 17 = .ok (.getfield 289, 3) := zdec_at bX8_begin_0 9 rfl
theorem dX8_begin_20 : decode cX8_begin 20 = .ok (.ifCond .le 4, 3) := zdec_at bX8_begin_0 10 rfl
theorem dX8_begin_23 : decode cX8_begin 23 = .ok (.return_, 1) := zdec_at bX8_begin_0 11 rfl
theorem dX8_begin_24 : decode cX8_begin 24 = .ok (.aload_n 0, 1) := zdec_at bX8_begin_0 12 rfl
theorem dX8_begin_25 : decode cX8_begin 25 = .ok (.iconst 1, 1) := zdec_at bX8_begin_0 13 rfl
theorem dX8_begin_26 : decode cX8_begin 26 = .ok (.putfield 773, 3) := zdec_at bX8_begin_0 14 rfl
theorem dX8_begin_29 : decode cX8_begin 29 = .ok (.aload_n 0, 1) := zdec_at bX8_begin_0 15 rfl
theorem bX8_begin_30 : zdec cX8_begin 30 [(30, .iconst 0, 1), (31, .putfield 861, 3), (34, .aload_n 0, 1), (35, .iconst 0, 1), (36, .putfield 794, 3), (39, .aload_n 0, 1), (40, .aload_n 0, 1), (41, .getfield 762, 3), (44, .putfield 296, 3), (47, .aload_n 0, 1), (48, .iconst 0, 1), (49, .putfield 843, 3), (52, .aload_n 0, 1), (53, .iconst 0, 1), (54, .putfield 849, 3), (57, .aload_n 0, 1)] = true := by decide +kernel
theorem dX8_begin_30 : decode cX8_begin 30 = .ok (.iconst 0, 1) := zdec_at bX8_begin_30 0 rfl
theorem dX8_begin_31 : decode cX8_begin 31 = .ok (.putfield 861, 3) := zdec_at bX8_begin_30 1 rfl
theorem dX8_begin_34 : decode cX8_begin 34 = .ok (.aload_n 0, 1) := zdec_at bX8_begin_30 2 rfl
theorem dX8_begin_35 : decode cX8_begin 35 = .ok (.iconst 0, 1) := zdec_at bX8_begin_30 3 rfl
theorem dX8_begin_36 : decode cX8_begin 36 = .ok (.putfield 794, 3) := zdec_at bX8_begin_30 4 rfl
theorem dX8_begin_39 : decode cX8_begin 39 = .ok (.aload_n 0, 1) := zdec_at bX8_begin_30 5 rfl
theorem dX8_begin_40 : decode cX8_begin 40 = .ok (.aload_n 0, 1) := zdec_at bX8_begin_30 6 rfl
theorem dX8_begin_41 : decode cX8_begin 41 = .ok (.getfield 762, 3) := zdec_at bX8_begin_30 7 rfl
theorem dX8_begin_44 : decode cX8_begin 44 = .ok (.putfield 296, 3) := zdec_at bX8_begin_30 8 rfl
theorem dX8_begin_47 : decode cX8_begin 47 = .ok (.aload_n 0, 1) := zdec_at bX8_begin_30 9 rfl
theorem dX8_begin_48 : decode cX8_begin 48 = .ok (.iconst 0, 1) := zdec_at bX8_begin_30 10 rfl
theorem dX8_begin_49 : decode cX8_begin 49 = .ok (.putfield 843, 3) := zdec_at bX8_begin_30 11 rfl
theorem dX8_begin_52 : decode cX8_begin 52 = .ok (.aload_n 0, 1) := zdec_at bX8_begin_30 12 rfl
theorem dX8_begin_53 : decode cX8_begin 53 = .ok (.iconst 0, 1) := zdec_at bX8_begin_30 13 rfl
theorem dX8_begin_54 : decode cX8_begin 54 = .ok (.putfield 849, 3) := zdec_at bX8_begin_30 14 rfl
theorem dX8_begin_57 : decode cX8_begin 57 = .ok (.aload_n 0, 1) := zdec_at bX8_begin_30 15 rfl
theorem bX8_begin_58 : zdec cX8_begin 58 [(58, .iconst 0, 1), (59, .putfield 855, 3), (62, .aload_n 0, 1), (63, .iconst 0, 1), (64, .putfield 852, 3), (67, .iconst 0, 1), (68, .istore_n 1, 1), (69, .iload_n 1, 1), (70, .sipush 3000, 3), (73, .if_icmp .ge 18, 3), (76, .aload_n 0, 1), (77, .getfield 167, 3), (80, .iload_n 1, 1), (81, .iload_n 1, 1), (82, .iconst 1, 1), (83, .iadd, 1)] = true := by decide +kernel
theorem dX8_begin_58 : decode cX8_begin 58 = .ok (.iconst 0, 1) := zdec_at bX8_begin_58 0 rfl
theorem dX8_begin_59 : decode cX8_begin 59 = .ok (.putfield 855, 3) := zdec_at bX8_begin_58 1 rfl
theorem dX8_begin_62 : decode cX8_begin 62 = .ok (.aload_n 0, 1) := zdec_at bX8_begin_58 2 rfl
theorem dX8_begin_63 : decode cX8_begin 63 = .ok (.iconst 0, 1) := zdec_at bX8_begin_58 3 rfl
theorem dX8_begin_64 : decode cX8_begin 64 = .ok (.putfield 852, 3) := zdec_at bX8_begin_58 4 rfl
theorem dX8_begin_67 : decode cX8_begin 67 = .ok (.iconst 0, 1) := zdec_at bX8_begin_58 5 rfl
theorem dX8_begin_68 : decode cX8_begin 68 = .ok (.istore_n 1, 1) := zdec_at bX8_begin_58 6 rfl
theorem dX8_begin_69 : decode cX8_begin 69 = .ok (.iload_n 1, 1) := zdec_at bX8_begin_58 7 rfl
theorem dX8_begin_70 : decode cX8_begin 70 = .ok (.sipush 3000, 3) := zdec_at bX8_begin_58 8 rfl
theorem dX8_begin_73 : decode cX8_begin 73 = .ok (.if_icmp .ge 18, 3) := zdec_at bX8_begin_58 9 rfl
theorem dX8_begin_76 : decode cX8_begin 76 = .ok (.aload_n 0, 1) := zdec_at bX8_begin_58 10 rfl
theorem dX8_begin_77 : decode cX8_begin 77 = .ok (.getfield 167, 3) := zdec_at bX8_begin_58 11 rfl
theorem dX8_begin_80 : decode cX8_begin 80 = .ok (.iload_n 1, 1) := zdec_at bX8_begin_58 12 rfl
theorem dX8_begin_81 : decode cX8_begin 81 = .ok (.iload_n 1, 1) := zdec_at bX8_begin_58 13 rfl
theorem dX8_begin_82 : decode cX8_begin 82 = .ok (.iconst 1, 1) := zdec_at bX8_begin_58 14 rfl
theorem dX8_begin_83 : decode cX8_begin 83 = .ok (.iadd, 1) := zdec_at bX8_begin_58 15 rfl
theorem bX8_begin_84 : zdec cX8_begin 84 [(84, .iastore, 1), (85, .iinc 1 1, 3), (88, .goto (-19), 3), (91, .aload_n 0, 1), (92, .iconst 0, 1), (93, .putfield 864, 3), (96, .aload_n 0, 1), (97, .iconst 0, 1), (98, .iconst 1, 1), (99, .iconst 0, 1), (100, .invokevirtual 867, 3), (103, .aload_n 0, 1), (104, .iconst 1, 1), (105, .iconst (-1), 1), (106, .iconst 0, 1), (107, .invokevirtual 867, 3)] = true := by decide +kernel
theorem dX8_begin_84 : decode cX8_begin 84 = .ok (.iastore, 1) := zdec_at bX8_begin_84 0 rfl
theorem dX8_begin_85 : decode cX8_begin 85 = .ok (.iinc 1 1, 3) := zdec_at bX8_begin_84 1 rfl
theorem dX8_begin_88 : decode cX8_begin 88 = .ok (.goto (-19), 3) := zdec_at bX8_begin_84 2 rfl
theorem dX8_begin_91 : decode cX8_begin 91 = .ok (.aload_n 0, 1) := zdec_at bX8_begin_84 3 rfl
theorem dX8_begin_92 : decode cX8_begin 92 = .ok (.iconst 0, 1) := zdec_at bX8_begin_84 4 rfl
theorem dX8_begin_93 : decode cX8_begin 93 = .ok (.putfield 864, 3) := zdec_at bX8_begin_84 5 rfl
theorem dX8_begin_96 : decode cX8_begin 96 = .ok (.aload_n 0, 1) := zdec_at bX8_begin_84 6 rfl
theorem dX8_begin_97 : decode cX8_begin 97 = .ok (.iconst 0, 1) := zdec_at bX8_begin_84 7 rfl
theorem dX8_begin_98 : decode cX8_begin 98 = .ok (.iconst 1, 1) := zdec_at bX8_begin_84 8 rfl
theorem dX8_begin_99 : decode cX8_begin 99 = .ok (.iconst 0, 1) := zdec_at bX8_begin_84 9 rfl
theorem dX8_begin_100 : decode cX8_begin 100 = .ok (.invokevirtual 867, 3) := zdec_at bX8_begin_84 10 rfl
theorem dX8_begin_103 : decode cX8_begin 103 = .ok (.aload_n 0, 1) := zdec_at bX8_begin_84 11 rfl
theorem dX8_begin_104 : decode cX8_begin 104 = .ok (.iconst 1, 1) := zdec_at bX8_begin_84 12 rfl
theorem dX8_begin_105 : decode cX8_begin 105 = .ok (.iconst (-1), 1) := zdec_at bX8_begin_84 13 rfl
theorem dX8_begin_106 : decode cX8_begin 106 = .ok (.iconst 0, 1) := zdec_at bX8_begin_84 14 rfl
theorem dX8_begin_107 : decode cX8_begin 107 = .ok (.invokevirtual 867, 3) := zdec_at bX8_begin_84 15 rfl
theorem bX8_begin_110 : zdec cX8_begin 110 [(110, .aload_n 0, 1), (111, .iconst 2, 1), (112, .iconst 1, 1), (113, .iconst 0, 1), (114, .invokevirtual 867, 3), (117, .aload_n 0, 1), (118, .iconst 3, 1), (119, .iconst 1, 1), (120, .iconst 0, 1), (121, .invokevirtual 867, 3), (124, .aload_n 0, 1), (125, .iconst 4, 1), (126, .iconst 1, 1), (127, .iconst 0, 1), (128, .invokevirtual 867, 3), (131, .aload_n 0, 1)] = true := by decide +kernel
theorem dX8_begin_110 : decode cX8_begin 110 = .ok (.aload_n 0, 1) := zdec_at bX8_begin_110 0 rfl
theorem dX8_begin_111 : decode cX8_begin 111 = .ok (.iconst 2, 1) := zdec_at bX8_begin_110 1 rfl
theorem dX8_begin_112 : decode cX8_begin 112 = .ok (.iconst 1, 1) := zdec_at bX8_begin_110 2 rfl
theorem dX8_begin_113 : decode cX8_begin 113 = .ok (.iconst 0, 1) := zdec_at bX8_begin_110 3 rfl
theorem dX8_begin_114 : decode cX8_begin 114 = .ok (.invokevirtual 867, 3) := zdec_at bX8_begin_110 4 rfl
theorem dX8_begin_117 : decode cX8_begin 117 = .ok (.aload_n 0, 1) := zdec_at bX8_begin_110 5 rfl
theorem dX8_begin_118 : decode cX8_begin 118 = .ok (.iconst 3, 1) := zdec_at bX8_begin_110 6 rfl
theorem dX8_begin_119 : decode cX8_begin 119 = .ok (.iconst 1, 1) := zdec_at bX8_begin_110 7 rfl
theorem dX8_begin_120 : decode cX8_begin 120 = .ok (.iconst 0, 1) := zdec_at bX8_begin_110 8 rfl
theorem dX8_begin_121 : decode cX8_begin 121 = .ok (.invokevirtual 867, 3) := zdec_at bX8_begin_110 9 rfl
theorem dX8_begin_124 : decode cX8_begin 124 = .ok (.aload_n 0, 1) := zdec_at bX8_begin_110 10 rfl
theorem dX8_begin_125 : decode cX8_begin 125 = .ok (.iconst 4, 1) := zdec_at bX8_begin_110 11 rfl
theorem dX8_begin_126 : decode cX8_begin 126 = .ok (.iconst 1, 1) := zdec_at bX8_begin_110 12 rfl
theorem dX8_begin_127 : decode cX8_begin 127 = .ok (.iconst 0, 1) := zdec_at bX8_begin_110 13 rfl
theorem dX8_begin_128 : decode cX8_begin 128 = .ok (.invokevirtual 867, 3) := zdec_at bX8_begin_110 14 rfl
theorem dX8_begin_131 : decode cX8_begin 131 = .ok (.aload_n 0, 1) := zdec_at bX8_begin_110 15 rfl
theorem bX8_begin_132 : zdec cX8_begin 132 [(132, .iconst 5, 1), (133, .iconst 1, 1), (134, .iconst 0, 1), (135, .invokevirtual 867, 3), (138, .bipush 6, 2), (140, .istore_n 1, 1), (141, .iload_n 1, 1), (142, .bipush 9, 2), (144, .if_icmp .ge 16, 3), (147, .aload_n 0, 1), (148, .iload_n 1, 1), (149, .iconst 5, 1), (150, .iconst 0, 1), (151, .invokevirtual 867, 3), (154, .iinc 1 1, 3), (157, .goto (-16), 3)] = true := by decide +kernel
theorem dX8_begin_132 : decode cX8_begin 132 = .ok (.iconst 5, 1) := zdec_at bX8_begin_132 0 rfl
theorem dX8_begin_133 : decode cX8_begin 133 = .ok (.iconst 1, 1) := zdec_at bX8_begin_132 1 rfl
theorem dX8_begin_134 : decode cX8_begin 134 = .ok (.iconst 0, 1) := zdec_at bX8_begin_132 2 rfl
theorem dX8_begin_135 : decode cX8_begin 135 = .ok (.invokevirtual 867, 3) := zdec_at bX8_begin_132 3 rfl
theorem dX8_begin_138 : decode cX8_begin 138 = .ok (.bipush 6, 2) := zdec_at bX8_begin_132 4 rfl
theorem dX8_begin_140 : decode cX8_begin 140 = .ok (.istore_n 1, 1) := zdec_at bX8_begin_132 5 rfl
theorem dX8_begin_141 : decode cX8_begin 141 = .ok (.iload_n 1, 1) := zdec_at bX8_begin_132 6 rfl
theorem dX8_begin_142 : decode cX8_begin 142 = .ok (.bipush 9, 2) := zdec_at bX8_begin_132 7 rfl
theorem dX8_begin_144 : decode cX8_begin 144 = .ok (.if_icmp .ge 16, 3) := zdec_at bX8_begin_132 8 rfl
theorem dX8_begin_147 : decode cX8_begin 147 = .ok (.aload_n 0, 1) := zdec_at bX8_begin_132 9 rfl
theorem dX8_begin_148 : decode cX8_begin 148 = .ok (.iload_n 1, 1) := zdec_at bX8_begin_132 10 rfl
theorem dX8_begin_149 : decode cX8_begin 149 = .ok (.iconst 5, 1) := zdec_at bX8_begin_132 11 rfl
theorem dX8_begin_150 : decode cX8_begin 150 = .ok (.iconst 0, 1) := zdec_at bX8_begin_132 12 rfl
theorem dX8_begin_151 : decode cX8_begin 151 = .ok (.invokevirtual 867, 3) := zdec_at bX8_begin_132 13 rfl
theorem dX8_begin_154 : decode cX8_begin 154 = .ok (.iinc 1 1, 3) := zdec_at bX8_begin_132 14 rfl
theorem dX8_begin_157 : decode cX8_begin 157 = .ok (.goto (-16), 3) := zdec_at bX8_begin_132 15 rfl
theorem bX8_begin_160 : zdec cX8_begin 160 [(160, .bipush 9, 2), (162, .istore_n 1, 1), (163, .iload_n 1, 1), (164, .bipush 23, 2), (166, .if_icmp .ge 16, 3), (169, .aload_n 0, 1), (170, .iload_n 1, 1), (171, .iconst 2, 1), (172, .iconst 1, 1), (173, .invokevirtual 867, 3), (176, .iinc 1 1, 3), (179, .goto (-16), 3), (182, .iconst 0, 1), (183, .istore_n 1, 1), (184, .iload_n 1, 1), (185, .bipush 9, 2)] = true := by decide +kernel
theorem dX8_begin_160 : decode cX8_begin 160 = .ok (.bipush 9, 2) := zdec_at bX8_begin_160 0 rfl
theorem dX8_begin_162 : decode cX8_begin 162 = .ok (.istore_n 1, 1) := zdec_at bX8_begin_160 1 rfl
theorem dX8_begin_163 : decode cX8_begin 163 = .ok (.iload_n 1, 1) := zdec_at bX8_begin_160 2 rfl
theorem dX8_begin_164 : decode cX8_begin 164 = .ok (.bipush 23, 2) := zdec_at bX8_begin_160 3 rfl
theorem dX8_begin_166 : decode cX8_begin 166 = .ok (.if_icmp .ge 16, 3) := zdec_at bX8_begin_160 4 rfl
theorem dX8_begin_169 : decode cX8_begin 169 = .ok (.aload_n 0, 1) := zdec_at bX8_begin_160 5 rfl
theorem dX8_begin_170 : decode cX8_begin 170 = .ok (.iload_n 1, 1) := zdec_at bX8_begin_160 6 rfl
theorem dX8_begin_171 : decode cX8_begin 171 = .ok (.iconst 2, 1) := zdec_at bX8_begin_160 7 rfl
theorem dX8_begin_172 : decode cX8_begin 172 = .ok (.iconst 1, 1) := zdec_at bX8_begin_160 8 rfl
theorem dX8_begin_173 : decode cX8_begin 173 = .ok (.invokevirtual 867, 3) := zdec_at bX8_begin_160 9 rfl
theorem dX8_begin_176 : decode cX8_begin 176 = .ok (.iinc 1 1, 3) := zdec_at bX8_begin_160 10 rfl
theorem dX8_begin_179 : decode cX8_begin 179 = .ok (.goto (-16), 3) := zdec_at bX8_begin_160 11 rfl
theorem dX8_begin_182 : decode cX8_begin 182 = .ok (.iconst 0, 1) := zdec_at bX8_begin_160 12 rfl
theorem dX8_begin_183 : decode cX8_begin 183 = .ok (.istore_n 1, 1) := zdec_at bX8_begin_160 13 rfl
theorem dX8_begin_184 : decode cX8_begin 184 = .ok (.iload_n 1, 1) := zdec_at bX8_begin_160 14 rfl
theorem dX8_begin_185 : decode cX8_begin 185 = .ok (.bipush 9, 2) := zdec_at bX8_begin_160 15 rfl
theorem bX8_begin_187 : zdec cX8_begin 187 [(187, .if_icmp .ge 23, 3), (190, .aload_n 0, 1), (191, .iconst 0, 1), (192, .iconst 5, 1), (193, .iload_n 1, 1), (194, .iadd, 1), (195, .bipush 7, 2), (197, .bipush 9, 2), (199, .iload_n 1, 1), (200, .iadd, 1), (201, .invokevirtual 870, 3), (204, .iinc 1 1, 3), (207, .goto (-23), 3), (210, .aload_n 0, 1), (211, .iconst 1, 1), (212, .iconst 2, 1)] = true := by decide +kernel
theorem dX8_begin_187 : decode cX8_begin 187 = .ok (.if_icmp .ge 23, 3) := zdec_at bX8_begin_187 0 rfl
theorem dX8_begin_190 : decode cX8_begin 190 = .ok (.aload_n 0, 1) := zdec_at bX8_begin_187 1 rfl
theorem dX8_begin_191 : decode cX8_begin 191 = .ok (.iconst 0, 1) := zdec_at bX8_begin_187 2 rfl
theorem dX8_begin_192 : decode cX8_begin 192 = .ok (.iconst 5, 1) := zdec_at bX8_begin_187 3 rfl
theorem dX8_begin_193 : decode cX8_begin 193 = .ok (.iload_n 1, 1) := zdec_at bX8_begin_187 4 rfl
theorem dX8_begin_194 : decode cX8_begin 194 = .ok (.iadd, 1) := zdec_at bX8_begin_187 5 rfl
theorem dX8_begin_195 : decode cX8_begin 195 = .ok (.bipush 7, 2) := zdec_at bX8_begin_187 6 rfl
theorem dX8_begin_197 : decode cX8_begin 197 = .ok (.bipush 9, 2) := zdec_at bX8_begin_187 7 rfl
theorem dX8_begin_199 : decode cX8_begin 199 = .ok (.iload_n 1, 1) := zdec_at bX8_begin_187 8 rfl
theorem dX8_begin_200 : decode cX8_begin 200 = .ok (.iadd, 1) := zdec_at bX8_begin_187 9 rfl
theorem dX8_begin_201 : decode cX8_begin 201 = .ok (.invokevirtual 870, 3) := zdec_at bX8_begin_187 10 rfl
theorem dX8_begin_204 : decode cX8_begin 204 = .ok (.iinc 1 1, 3) := zdec_at bX8_begin_187 11 rfl
theorem dX8_begin_207 : decode cX8_begin 207 = .ok (.goto (-23), 3) := zdec_at bX8_begin_187 12 rfl
theorem dX8_begin_210 : decode cX8_begin 210 = .ok (.aload_n 0, 1) := zdec_at bX8_begin_187 13 rfl
theorem dX8_begin_211 : decode cX8_begin 211 = .ok (.iconst 1, 1) := zdec_at bX8_begin_187 14 rfl
theorem dX8_begin_212 : decode cX8_begin 212 = .ok (.iconst 2, 1) := zdec_at bX8_begin_187 15 rfl
theorem bX8_begin_213 : zdec cX8_begin 213 [(213, .bipush 7, 2), (215, .bipush 10, 2), (217, .invokevirtual 870, 3), (220, .aload_n 0, 1), (221, .iconst 1, 1), (222, .bipush 17, 2), (224, .bipush 7, 2), (226, .bipush 21, 2), (228, .invokevirtual 870, 3), (231, .aload_n 0, 1), (232, .iconst 2, 1), (233, .bipush 16, 2), (235, .bipush 7, 2), (237, .bipush 20, 2), (239, .invokevirtual 870, 3), (242, .aload_n 0, 1)] = true := by decide +kernel
theorem dX8_begin_213 : decode cX8_begin 213 = .ok (.bipush 7, 2) := zdec_at bX8_begin_213 0 rfl
theorem dX8_begin_215 : decode cX8_begin 215 = .ok (.bipush 10, 2) := zdec_at bX8_begin_213 1 rfl
theorem dX8_begin_217 : decode cX8_begin 217 = .ok (.invokevirtual 870, 3) := zdec_at bX8_begin_213 2 rfl
theorem dX8_begin_220 : decode cX8_begin 220 = .ok (.aload_n 0, 1) := zdec_at bX8_begin_213 3 rfl
theorem dX8_begin_221 : decode cX8_begin 221 = .ok (.iconst 1, 1) := zdec_at bX8_begin_213 4 rfl
theorem dX8_begin_222 : decode cX8_begin 222 = .ok (.bipush 17, 2) := zdec_at bX8_begin_213 5 rfl
theorem dX8_begin_224 : decode cX8_begin 224 = .ok (.bipush 7, 2) := zdec_at bX8_begin_213 6 rfl
theorem dX8_begin_226 : decode cX8_begin 226 = .ok (.bipush 21, 2) := zdec_at bX8_begin_213 7 rfl
theorem dX8_begin_228 : decode cX8_begin 228 = .ok (.invokevirtual 870, 3) := zdec_at bX8_begin_213 8 rfl
theorem dX8_begin_231 : decode cX8_begin 231 = .ok (.aload_n 0, 1) := zdec_at bX8_begin_213 9 rfl
theorem dX8_begin_232 : decode cX8_begin 232 = .ok (.iconst 2, 1) := zdec_at bX8_begin_213 10 rfl
theorem dX8_begin_233 : decode cX8_begin 233 = .ok (.bipush 16, 2) := zdec_at bX8_begin_213 11 rfl
theorem dX8_begin_235 : decode cX8_begin 235 = .ok (.bipush 7, 2) := zdec_at bX8_begin_213 12 rfl
theorem dX8_begin_237 : decode cX8_begin 237 = .ok (.bipush 20, 2) := zdec_at bX8_begin_213 13 rfl
theorem dX8_begin_239 : decode cX8_begin 239 = .ok (.invokevirtual 870, 3) := zdec_at bX8_begin_213 14 rfl
theorem dX8_begin_242 : decode cX8_begin 242 = .ok (.aload_n 0, 1) := zdec_at bX8_begin_213 15 rfl
theorem bX8_begin_243 : zdec cX8_begin 243 [(243, .iconst 3, 1), (244, .iconst 2, 1), (245, .bipush 7, 2), (247, .bipush 11, 2), (249, .invokevirtual 870, 3), (252, .aload_n 0, 1), (253, .iconst 3, 1), (254, .bipush 14, 2), (256, .bipush 7, 2), (258, .bipush 18, 2), (260, .invokevirtual 870, 3), (263, .aload_n 0, 1), (264, .iconst 3, 1), (265, .bipush 15, 2), (267, .bipush 7, 2), (269, .bipush 19, 2)] = true := by decide +kernel
theorem dX8_begin_243 : decode cX8_begin 243 = .ok (.iconst 3, 1) := zdec_at bX8_begin_243 0 rfl
theorem dX8_begin_244 : decode cX8_begin 244 = .ok (.iconst 2, 1) := zdec_at bX8_begin_243 1 rfl
theorem dX8_begin_245 : decode cX8_begin 245 = .ok (.bipush 7, 2) := zdec_at bX8_begin_243 2 rfl
theorem dX8_begin_247 : decode cX8_begin 247 = .ok (.bipush 11, 2) := zdec_at bX8_begin_243 3 rfl
theorem dX8_begin_249 : decode cX8_begin 249 = .ok (.invokevirtual 870, 3) := zdec_at bX8_begin_243 4 rfl
theorem dX8_begin_252 : decode cX8_begin 252 = .ok (.aload_n 0, 1) := zdec_at bX8_begin_243 5 rfl
theorem dX8_begin_253 : decode cX8_begin 253 = .ok (.iconst 3, 1) := zdec_at bX8_begin_243 6 rfl
theorem dX8_begin_254 : decode cX8_begin 254 = .ok (.bipush 14, 2) := zdec_at bX8_begin_243 7 rfl
theorem dX8_begin_256 : decode cX8_begin 256 = .ok (.bipush 7, 2) := zdec_at bX8_begin_243 8 rfl
theorem dX8_begin_258 : decode cX8_begin 258 = .ok (.bipush 18, 2) := zdec_at bX8_begin_243 9 rfl
theorem dX8_begin_260 : decode cX8_begin 260 = .ok (.invokevirtual 870, 3) := zdec_at bX8_begin_243 10 rfl
theorem dX8_begin_263 : decode cX8_begin 263 = .ok (.aload_n 0, 1) := zdec_at bX8_begin_243 11 rfl
theorem dX8_begin_264 : decode cX8_begin 264 = .ok (.iconst 3, 1) := zdec_at bX8_begin_243 12 rfl
theorem dX8_begin_265 : decode cX8_begin 265 = .ok (.bipush 15, 2) := zdec_at bX8_begin_243 13 rfl
theorem dX8_begin_267 : decode cX8_begin 267 = .ok (.bipush 7, 2) := zdec_at bX8_begin_243 14 rfl
theorem dX8_begin_269 : decode cX8_begin 269 = .ok (.bipush 19, 2) := zdec_at bX8_begin_243 15 rfl
theorem bX8_begin_271 : zdec cX8_begin 271 [(271, .invokevirtual 870, 3), (274, .aload_n 0, 1), (275, .iconst 4, 1), (276, .iconst 2, 1), (277, .bipush 7, 2), (279, .bipush 12, 2), (281, .invokevirtual 870, 3), (284, .aload_n 0, 1), (285, .iconst 4, 1), (286, .bipush 18, 2), (288, .bipush 7, 2), (290, .bipush 22, 2), (292, .invokevirtual 870, 3), (295, .iconst 0, 1), (296, .istore_n 1, 1), (297, .iload_n 1, 1)] = true := by decide +kernel
theorem dX8_begin_271 : decode cX8_begin 271 = .ok (.invokevirtual 870, 3) := zdec_at bX8_begin_271 0 rfl
theorem dX8_begin_274 : decode cX8_begin 274 = .ok (.aload_n 0, 1) := zdec_at bX8_begin_271 1 rfl
theorem dX8_begin_275 : decode cX8_begin 275 = .ok (.iconst 4, 1) := zdec_at bX8_begin_271 2 rfl
theorem dX8_begin_276 : decode cX8_begin 276 = .ok (.iconst 2, 1) := zdec_at bX8_begin_271 3 rfl
theorem dX8_begin_277 : decode cX8_begin 277 = .ok (.bipush 7, 2) := zdec_at bX8_begin_271 4 rfl
theorem dX8_begin_279 : decode cX8_begin 279 = .ok (.bipush 12, 2) := zdec_at bX8_begin_271 5 rfl
theorem dX8_begin_281 : decode cX8_begin 281 = .ok (.invokevirtual 870, 3) := zdec_at bX8_begin_271 6 rfl
theorem dX8_begin_284 : decode cX8_begin 284 = .ok (.aload_n 0, 1) := zdec_at bX8_begin_271 7 rfl
theorem dX8_begin_285 : decode cX8_begin 285 = .ok (.iconst 4, 1) := zdec_at bX8_begin_271 8 rfl
theorem dX8_begin_286 : decode cX8_begin 286 = .ok (.bipush 18, 2) := zdec_at bX8_begin_271 9 rfl
theorem dX8_begin_288 : decode cX8_begin 288 = .ok (.bipush 7, 2) := zdec_at bX8_begin_271 10 rfl
theorem dX8_begin_290 : decode cX8_begin 290 = .ok (.bipush 22, 2) := zdec_at bX8_begin_271 11 rfl
theorem dX8_begin_292 : decode cX8_begin 292 = .ok (.invokevirtual 870, 3) := zdec_at bX8_begin_271 12 rfl
theorem dX8_begin_295 : decode cX8_begin 295 = .ok (.iconst 0, 1) := zdec_at bX8_begin_271 13 rfl
theorem dX8_begin_296 : decode cX8_begin 296 = .ok (.istore_n 1, 1) := zdec_at bX8_begin_271 14 rfl
theorem dX8_begin_297 : decode cX8_begin 297 = .ok (.iload_n 1, 1) := zdec_at bX8_begin_271 15 rfl
theorem bX8_begin_298 : zdec cX8_begin 298 [(298, .iconst 4, 1), (299, .if_icmp .ge 37, 3), (302, .aload_n 0, 1), (303, .iconst 5, 1), (304, .iload_n 1, 1), (305, .iadd, 1), (306, .iconst 2, 1), (307, .bipush 7, 2), (309, .bipush 14, 2), (311, .iload_n 1, 1), (312, .iadd, 1), (313, .invokevirtual 870, 3), (316, .aload_n 0, 1), (317, .iconst 5, 1), (318, .iload_n 1, 1), (319, .iadd, 1)] = true := by decide +kernel
theorem dX8_begin_298 : decode cX8_begin 298 = .ok (.iconst 4, 1) := zdec_at bX8_begin_298 0 rfl
theorem dX8_begin_299 : decode cX8_begin 299 = .ok (.if_icmp .ge 37, 3) := zdec_at bX8_begin_298 1 rfl
theorem dX8_begin_302 : decode cX8_begin 302 = .ok (.aload_n 0, 1) := zdec_at bX8_begin_298 2 rfl
theorem dX8_begin_303 : decode cX8_begin 303 = .ok (.iconst 5, 1) := zdec_at bX8_begin_298 3 rfl
theorem dX8_begin_304 : decode cX8_begin 304 = .ok (.iload_n 1, 1) := zdec_at bX8_begin_298 4 rfl
theorem dX8_begin_305 : decode cX8_begin 305 = .ok (.iadd, 1) := zdec_at bX8_begin_298 5 rfl
theorem dX8_begin_306 : decode cX8_begin 306 = .ok (.iconst 2, 1) := zdec_at bX8_begin_298 6 rfl
theorem dX8_begin_307 : decode cX8_begin 307 = .ok (.bipush 7, 2) := zdec_at bX8_begin_298 7 rfl
theorem dX8_begin_309 : decode cX8_begin 309 = .ok (.bipush 14, 2) := zdec_at bX8_begin_298 8 rfl
theorem dX8_begin_311 : decode cX8_begin 311 = .ok (.iload_n 1, 1) := zdec_at bX8_begin_298 9 rfl
theorem dX8_begin_312 : decode cX8_begin 312 = .ok (.iadd, 1) := zdec_at bX8_begin_298 10 rfl
theorem dX8_begin_313 : decode cX8_begin 313 = .ok (.invokevirtual 870, 3) := zdec_at bX8_begin_298 11 rfl
theorem dX8_begin_316 : decode cX8_begin 316 = .ok (.aload_n 0, 1) := zdec_at bX8_begin_298 12 rfl
theorem dX8_begin_317 : decode cX8_begin 317 = .ok (.iconst 5, 1) := zdec_at bX8_begin_298 13 rfl
theorem dX8_begin_318 : decode cX8_begin 318 = .ok (.iload_n 1, 1) := zdec_at bX8_begin_298 14 rfl
theorem dX8_begin_319 : decode cX8_begin 319 = .ok (.iadd, 1) := zdec_at bX8_begin_298 15 rfl
theorem bX8_begin_320 : zdec cX8_begin 320 [(320, .iconst 4, 1), (321, .bipush 6, 2), (323, .bipush 10, 2), (325, .iload_n 1, 1), (326, .iadd, 1), (327, .invokevirtual 870, 3), (330, .iinc 1 1, 3), (333, .goto (-36), 3), (336, .aload_n 0, 1), (337, .bipush 10, 2), (339, .iconst 1, 1), (340, .bipush 7, 2), (342, .iconst 1, 1), (343, .invokevirtual 870, 3), (346, .aload_n 0, 1), (347, .bipush 11, 2)] = true := by decide +kernel
theorem dX8_begin_320 : decode cX8_begin 320 = .ok (.iconst 4, 1) := zdec_at bX8_begin_320 0 rfl
theorem dX8_begin_321 : decode cX8_begin 321 = .ok (.bipush 6, 2) := zdec_at bX8_begin_320 1 rfl
theorem dX8_begin_323 : decode cX8_begin 323 = .ok (.bipush 10, 2) := zdec_at bX8_begin_320 2 rfl
theorem dX8_begin_325 : decode cX8_begin 325 = .ok (.iload_n 1, 1) := zdec_at bX8_begin_320 3 rfl
theorem dX8_begin_326 : decode cX8_begin 326 = .ok (.iadd, 1) := zdec_at bX8_begin_320 4 rfl
theorem dX8_begin_327 : decode cX8_begin 327 = .ok (.invokevirtual 870, 3) := zdec_at bX8_begin_320 5 rfl
theorem dX8_begin_330 : decode cX8_begin 330 = .ok (.iinc 1 1, 3) := zdec_at bX8_begin_320 6 rfl
theorem dX8_begin_333 : decode cX8_begin 333 = .ok (.goto (-36), 3) := zdec_at bX8_begin_320 7 rfl
theorem dX8_begin_336 : decode cX8_begin 336 = .ok (.aload_n 0, 1) := zdec_at bX8_begin_320 8 rfl
theorem dX8_begin_337 : decode cX8_begin 337 = .ok (.bipush 10, 2) := zdec_at bX8_begin_320 9 rfl
theorem dX8_begin_339 : decode cX8_begin 339 = .ok (.iconst 1, 1) := zdec_at bX8_begin_320 10 rfl
theorem dX8_begin_340 : decode cX8_begin 340 = .ok (.bipush 7, 2) := zdec_at bX8_begin_320 11 rfl
theorem dX8_begin_342 : decode cX8_begin 342 = .ok (.iconst 1, 1) := zdec_at bX8_begin_320 12 rfl
theorem dX8_begin_343 : decode cX8_begin 343 = .ok (.invokevirtual 870, 3) := zdec_at bX8_begin_320 13 rfl
theorem dX8_begin_346 : decode cX8_begin 346 = .ok (.aload_n 0, 1) := zdec_at bX8_begin_320 14 rfl
theorem dX8_begin_347 : decode cX8_begin 347 = .ok (.bipush 11, 2) := zdec_at bX8_begin_320 15 rfl
theorem bX8_begin_349 : zdec cX8_begin 349 [(349, .iconst 1, 1), (350, .bipush 7, 2), (352, .iconst 3, 1), (353, .invokevirtual 870, 3), (356, .aload_n 0, 1), (357, .bipush 12, 2), (359, .iconst 1, 1), (360, .bipush 7, 2), (362, .iconst 4, 1), (363, .invokevirtual 870, 3), (366, .iconst 0, 1), (367, .istore_n 1, 1), (368, .iload_n 1, 1), (369, .iconst 4, 1), (370, .if_icmp .ge 23, 3), (373, .aload_n 0, 1)] = true := by decide +kernel
theorem dX8_begin_349 : decode cX8_begin 349 = .ok (.iconst 1, 1) := zdec_at bX8_begin_349 0 rfl
theorem dX8_begin_350 : decode cX8_begin 350 = .ok (.bipush 7, 2) := zdec_at bX8_begin_349 1 rfl
theorem dX8_begin_352 : decode cX8_begin 352 = .ok (.iconst 3, 1) := zdec_at bX8_begin_349 2 rfl
theorem dX8_begin_353 : decode cX8_begin 353 = .ok (.invokevirtual 870, 3) := zdec_at bX8_begin_349 3 rfl
theorem dX8_begin_356 : decode cX8_begin 356 = .ok (.aload_n 0, 1) := zdec_at bX8_begin_349 4 rfl
theorem dX8_begin_357 : decode cX8_begin 357 = .ok (.bipush 12, 2) := zdec_at bX8_begin_349 5 rfl
theorem dX8_begin_359 : decode cX8_begin 359 = .ok (.iconst 1, 1) := zdec_at bX8_begin_349 6 rfl
theorem dX8_begin_360 : decode cX8_begin 360 = .ok (.bipush 7, 2) := zdec_at bX8_begin_349 7 rfl
theorem dX8_begin_362 : decode cX8_begin 362 = .ok (.iconst 4, 1) := zdec_at bX8_begin_349 8 rfl
theorem dX8_begin_363 : decode cX8_begin 363 = .ok (.invokevirtual 870, 3) := zdec_at bX8_begin_349 9 rfl
theorem dX8_begin_366 : decode cX8_begin 366 = .ok (.iconst 0, 1) := zdec_at bX8_begin_349 10 rfl
theorem dX8_begin_367 : decode cX8_begin 367 = .ok (.istore_n 1, 1) := zdec_at bX8_begin_349 11 rfl
theorem dX8_begin_368 : decode cX8_begin 368 = .ok (.iload_n 1, 1) := zdec_at bX8_begin_349 12 rfl
theorem dX8_begin_369 : decode cX8_begin 369 = .ok (.iconst 4, 1) := zdec_at bX8_begin_349 13 rfl
theorem dX8_begin_370 : decode cX8_begin 370 = .ok (.if_icmp .ge 23, 3) := zdec_at bX8_begin_349 14 rfl
theorem dX8_begin_373 : decode cX8_begin 373 = .ok (.aload_n 0, 1) := zdec_at bX8_begin_349 15 rfl
theorem bX8_begin_374 : zdec cX8_begin 374 [(374, .bipush 14, 2), (376, .iload_n 1, 1), (377, .iadd, 1), (378, .iconst 1, 1), (379, .bipush 7, 2), (381, .iconst 5, 1), (382, .iload_n 1, 1), (383, .iadd, 1), (384, .invokevirtual 870, 3), (387, .iinc 1 1, 3), (390, .goto (-22), 3), (393, .aload_n 0, 1), (394, .iconst 0, 1), (395, .putfield 872, 3), (398, .aload_n 0, 1), (399, .iconst 0, 1)] = true := by decide +kernel
theorem dX8_begin_374 : decode cX8_begin 374 = .ok (.bipush 14, 2) := zdec_at bX8_begin_374 0 rfl
theorem dX8_begin_376 : decode cX8_begin 376 = .ok (.iload_n 1, 1) := zdec_at bX8_begin_374 1 rfl
theorem dX8_begin_377 : decode cX8_begin 377 = .ok (.iadd, 1) := zdec_at bX8_begin_374 2 rfl
theorem dX8_begin_378 : decode cX8_begin 378 = .ok (.iconst 1, 1) := zdec_at bX8_begin_374 3 rfl
theorem dX8_begin_379 : decode cX8_begin 379 = .ok (.bipush 7, 2) := zdec_at bX8_begin_374 4 rfl
theorem dX8_begin_381 : decode cX8_begin 381 = .ok (.iconst 5, 1) := zdec_at bX8_begin_374 5 rfl
theorem dX8_begin_382 : decode cX8_begin 382 = .ok (.iload_n 1, 1) := zdec_at bX8_begin_374 6 rfl
theorem dX8_begin_383 : decode cX8_begin 383 = .ok (.iadd, 1) := zdec_at bX8_begin_374 7 rfl
theorem dX8_begin_384 : decode cX8_begin 384 = .ok (.invokevirtual 870, 3) := zdec_at bX8_begin_374 8 rfl
theorem dX8_begin_387 : decode cX8_begin 387 = .ok (.iinc 1 1, 3) := zdec_at bX8_begin_374 9 rfl
theorem dX8_begin_390 : decode cX8_begin 390 = .ok (.goto (-22), 3) := zdec_at bX8_begin_374 10 rfl
theorem dX8_begin_393 : decode cX8_begin 393 = .ok (.aload_n 0, 1) := zdec_at bX8_begin_374 11 rfl
theorem dX8_begin_394 : decode cX8_begin 394 = .ok (.iconst 0, 1) := zdec_at bX8_begin_374 12 rfl
theorem dX8_begin_395 : decode cX8_begin 395 = .ok (.putfield 872, 3) := zdec_at bX8_begin_374 13 rfl
theorem dX8_begin_398 : decode cX8_begin 398 = .ok (.aload_n 0, 1) := zdec_at bX8_begin_374 14 rfl
theorem dX8_begin_399 : decode cX8_begin 399 = .ok (.iconst 0, 1) := zdec_at bX8_begin_374 15 rfl
theorem bX8_begin_400 : zdec cX8_begin 400 [(400, .iconst (-1), 1), (401, .iconst 0, 1), (402, .iconst 0, 1), (403, .iconst (-1), 1), (404, .invokevirtual 875, 3), (407, .return_, 1)] = true := by decide +kernel
theorem dX8_begin_400 : decode cX8_begin 400 = .ok (.iconst (-1), 1) := zdec_at bX8_begin_400 0 rfl
theorem dX8_begin_401 : decode cX8_begin 401 = .ok (.iconst 0, 1) := zdec_at bX8_begin_400 1 rfl
theorem dX8_begin_402 : decode cX8_begin 402 = .ok (.iconst 0, 1) := zdec_at bX8_begin_400 2 rfl
theorem dX8_begin_403 : decode cX8_begin 403 = .ok (.iconst (-1), 1) := zdec_at bX8_begin_400 3 rfl
theorem dX8_begin_404 : decode cX8_begin 404 = .ok (.invokevirtual 875, 3) := zdec_at bX8_begin_400 4 rfl
theorem dX8_begin_407 : decode cX8_begin 407 = .ok (.return_, 1) := zdec_at bX8_begin_400 5 rfl
theorem sX8_begin_0 {E : zE} {d : Nat} {Q : zO → zM → Prop} (M : zM)  (k : if (gi M 97 72) = 0 then (Zm E YX8_begin (d + 1) M [(0, vr (some (97, 1, 0)))] 13 [vi (1 : Int32), vr (some (97, 1, 0))] Q) else (Zm E YX8_begin (d + 1) M [(0, vr (some (97, 1, 0)))] 13 [vi (0 : Int32), vr (some (97, 1, 0))] Q)) : Zm E YX8_begin (d + 1) M [(0, vr (some (97, 1, 0)))] 0 [] Q := by
  refine Zm.l (fun _ _ k_ => z_aload_n dX8_begin_0 rfl rfl k_) ?_
  refine Zm.l (fun _ _ k_ => z_aload_n dX8_begin_1 rfl rfl k_) ?_
  refine zm_geti dX8_begin_2 fsX8_770_1 (by decide) (by decide) ?_
  refine Zm.br (fun _ _ k1_ k2_ => z_if_eq (tgt := 12) dX8_begin_5 rfl k1_ k2_) (fun h_ => ?_) (fun h_ => ?_)
  · have k := zit h_ k
    refine Zm.l (fun _ _ k_ => z_iconst (v := 1) dX8_begin_12 rfl k_) ?_
    exact k
  · have k := zif h_ k
    refine Zm.l (fun _ _ k_ => z_iconst (v := 0) dX8_begin_8 rfl k_) ?_
    refine Zm.l (fun _ _ k_ => z_goto (tgt := 13) dX8_begin_9 rfl k_) ?_
    exact k
theorem sX8_begin_13 {E : zE} {d : Nat} {Q : zO → zM → Prop} (M : zM) (s0 : Int32) (k : if s0 ≤ 0 then (Zm E YX8_begin (d + 1) (si (si (si (si (si (si (si (si (si M 97 0 s0) 97 73 (1 : Int32)) 97 74 (0 : Int32)) 97 75 (0 : Int32)) 97 7 (gi M 97 8)) 97 76 (0 : Int32)) 97 84 (0 : Int32)) 97 86 (0 : Int32)) 97 85 (0 : Int32)) [(0, vr (some (97, 1, 0))), (1, vi (0 : Int32))] 69 [] Q) else (Q (.inl none) (si M 97 0 s0))) : Zm E YX8_begin (d + 1) M [(0, vr (some (97, 1, 0)))] 13 [vi s0, vr (some (97, 1, 0))] Q := by
  refine zm_puti (by decide) (by decide) dX8_begin_13 (zfwN.w fwX8_289_1) rfl ⟨rfl, rfl⟩ ?_
  refine Zm.l (fun _ _ k_ => z_aload_n dX8_begin_16 rfl rfl k_) ?_
  refine zm_geti dX8_begin_17 fsX8_289_1 (by decide) (by decide) ?_
  refine Zm.br (fun _ _ k1_ k2_ => z_if_le (tgt := 24) dX8_begin_20 rfl k1_ k2_) (fun h_ => ?_) (fun h_ => ?_)
  · have k := zit h_ k
    refine Zm.l (fun _ _ k_ => z_aload_n dX8_begin_24 rfl rfl k_) ?_
    refine Zm.l (fun _ _ k_ => z_iconst (v := 1) dX8_begin_25 rfl k_) ?_
    refine zm_puti (by decide) (by decide) dX8_begin_26 (zfwN.w fwX8_773_1) rfl ⟨rfl, rfl⟩ ?_
    refine Zm.l (fun _ _ k_ => z_aload_n dX8_begin_29 rfl rfl k_) ?_
    refine Zm.l (fun _ _ k_ => z_iconst (v := 0) dX8_begin_30 rfl k_) ?_
    refine zm_puti (by decide) (by decide) dX8_begin_31 (zfwN.w fwX8_861_1) rfl ⟨rfl, rfl⟩ ?_
    refine Zm.l (fun _ _ k_ => z_aload_n dX8_begin_34 rfl rfl k_) ?_
    refine Zm.l (fun _ _ k_ => z_iconst (v := 0) dX8_begin_35 rfl k_) ?_
    refine zm_puti (by decide) (by decide) dX8_begin_36 (zfwN.w fwX8_794_1) rfl ⟨by decide, by decide⟩ ?_
    refine Zm.l (fun _ _ k_ => z_aload_n dX8_begin_39 rfl rfl k_) ?_
    refine Zm.l (fun _ _ k_ => z_aload_n dX8_begin_40 rfl rfl k_) ?_
    refine zm_geti dX8_begin_41 fsX8_762_1 (by decide) (by decide) ?_
    refine zm_puti (by decide) (by decide) dX8_begin_44 (zfwN.w fwX8_296_1) rfl ⟨rfl, rfl⟩ ?_
    refine Zm.l (fun _ _ k_ => z_aload_n dX8_begin_47 rfl rfl k_) ?_
    refine Zm.l (fun _ _ k_ => z_iconst (v := 0) dX8_begin_48 rfl k_) ?_
    refine zm_puti (by decide) (by decide) dX8_begin_49 (zfwN.w fwX8_843_1) rfl ⟨rfl, rfl⟩ ?_
    refine Zm.l (fun _ _ k_ => z_aload_n dX8_begin_52 rfl rfl k_) ?_
    refine Zm.l (fun _ _ k_ => z_iconst (v := 0) dX8_begin_53 rfl k_) ?_
    refine zm_puti (by decide) (by decide) dX8_begin_54 (zfwN.w fwX8_849_1) rfl ⟨rfl, rfl⟩ ?_
    refine Zm.l (fun _ _ k_ => z_aload_n dX8_begin_57 rfl rfl k_) ?_
    refine Zm.l (fun _ _ k_ => z_iconst (v := 0) dX8_begin_58 rfl k_) ?_
    refine zm_puti (by decide) (by decide) dX8_begin_59 (zfwN.w fwX8_855_1) rfl ⟨rfl, rfl⟩ ?_
    refine Zm.l (fun _ _ k_ => z_aload_n dX8_begin_62 rfl rfl k_) ?_
    refine Zm.l (fun _ _ k_ => z_iconst (v := 0) dX8_begin_63 rfl k_) ?_
    refine zm_puti (by decide) (by decide) dX8_begin_64 (zfwN.w fwX8_852_1) rfl ⟨rfl, rfl⟩ ?_
    refine Zm.l (fun _ _ k_ => z_iconst (v := 0) dX8_begin_67 rfl k_) ?_
    refine Zm.l (fun _ _ k_ => z_ist_n dX8_begin_68 rfl (by decide) (lv' := [(0, vr (some (97, 1, 0))), (1, vi (0 : Int32))]) rfl k_) ?_
    exact k
  · have k := zif h_ k
    exact zm_vret dX8_begin_23 rfl k
theorem sX8_begin_69 {E : zE} {d : Nat} {Q : zO → zM → Prop} (M : zM) (l1 : Int32) (k : if (3000 : Int32) ≤ l1 then (Zm E YX8_build d (si M 97 107 (0 : Int32)) (zargs 0 [vr (some (97, 1, 0)), vi (0 : Int32), vi (1 : Int32), vi (0 : Int32)]) 0 [] (zma E YX8_begin (d + 1) [(0, vr (some (97, 1, 0)))] 100 3 [] Q)) else (vp_in l1 3000 ∧ (Zm E YX8_begin (d + 1) (si M 149 (l1).toNatClampNeg (l1 + (1 : Int32))) [(0, vr (some (97, 1, 0))), (1, vi (l1 + (1 : Int32)))] 69 [] Q))) : Zm E YX8_begin (d + 1) M [(0, vr (some (97, 1, 0))), (1, vi l1)] 69 [] Q := by
  refine Zm.l (fun _ _ k_ => z_iload_n dX8_begin_69 rfl rfl k_) ?_
  refine Zm.l (fun _ _ k_ => z_sipush (v := 3000) dX8_begin_70 rfl k_) ?_
  refine Zm.br (fun _ _ k1_ k2_ => z_icmp_ge (tgt := 91) dX8_begin_73 rfl k1_ k2_) (fun h_ => ?_) (fun h_ => ?_)
  · have k := zit h_ k
    refine Zm.l (fun _ _ k_ => z_aload_n dX8_begin_91 rfl rfl k_) ?_
    refine Zm.l (fun _ _ k_ => z_iconst (v := 0) dX8_begin_92 rfl k_) ?_
    refine zm_puti (by decide) (by decide) dX8_begin_93 (zfwN.w fwX8_864_1) rfl ⟨rfl, rfl⟩ ?_
    refine Zm.l (fun _ _ k_ => z_aload_n dX8_begin_96 rfl rfl k_) ?_
    refine Zm.l (fun _ _ k_ => z_iconst (v := 0) dX8_begin_97 rfl k_) ?_
    refine Zm.l (fun _ _ k_ => z_iconst (v := 1) dX8_begin_98 rfl k_) ?_
    refine Zm.l (fun _ _ k_ => z_iconst (v := 0) dX8_begin_99 rfl k_) ?_
    refine Zm.pick [0] rfl ?_
    exact zm_callV (as := [vi (0 : Int32), vi (1 : Int32), vi (0 : Int32)]) (st := []) dX8_begin_100 vsX8_867_1 (Nat.le_refl _) (Nat.le_of_ble_eq_true rfl) (Nat.le_of_ble_eq_true rfl) rfl k
  · have k := zif h_ k
    refine Zm.l (fun _ _ k_ => z_aload_n dX8_begin_76 rfl rfl k_) ?_
    refine zm_getr 46 dX8_begin_77 fsX8_167_1 rfl ?_
    refine Zm.l (fun _ _ k_ => z_iload_n dX8_begin_80 rfl rfl k_) ?_
    refine Zm.l (fun _ _ k_ => z_iload_n dX8_begin_81 rfl rfl k_) ?_
    refine Zm.l (fun _ _ k_ => z_iconst (v := 1) dX8_begin_82 rfl k_) ?_
    refine Zm.l (fun _ _ k_ => z_iadd dX8_begin_83 k_) ?_
    obtain ⟨b_, k⟩ := k
    refine zm_iast dX8_begin_84 b_ (by decide) (by decide) ?_
    refine Zm.l (fun _ _ k_ => z_inc (v := (l1 + (1 : Int32))) dX8_begin_85 rfl rfl (by decide) (lv' := [(0, vr (some (97, 1, 0))), (1, vi (l1 + (1 : Int32)))]) rfl k_) ?_
    refine Zm.l (fun _ _ k_ => z_goto (tgt := 69) dX8_begin_88 rfl k_) ?_
    exact k
theorem sX8_begin_103 {E : zE} {d : Nat} {Q : zO → zM → Prop} (M : zM)  (k : Zm E YX8_build d M (zargs 0 [vr (some (97, 1, 0)), vi (1 : Int32), vi (-1 : Int32), vi (0 : Int32)]) 0 [] (zma E YX8_begin (d + 1) [(0, vr (some (97, 1, 0)))] 107 3 [] Q)) : Zm E YX8_begin (d + 1) M [(0, vr (some (97, 1, 0)))] 103 [] Q := by
  refine Zm.l (fun _ _ k_ => z_aload_n dX8_begin_103 rfl rfl k_) ?_
  refine Zm.l (fun _ _ k_ => z_iconst (v := 1) dX8_begin_104 rfl k_) ?_
  refine Zm.l (fun _ _ k_ => z_iconst (v := -1) dX8_begin_105 rfl k_) ?_
  refine Zm.l (fun _ _ k_ => z_iconst (v := 0) dX8_begin_106 rfl k_) ?_
  exact zm_callV (as := [vi (1 : Int32), vi (-1 : Int32), vi (0 : Int32)]) (st := []) dX8_begin_107 vsX8_867_1 (Nat.le_refl _) (Nat.le_of_ble_eq_true rfl) (Nat.le_of_ble_eq_true rfl) rfl k
theorem sX8_begin_110 {E : zE} {d : Nat} {Q : zO → zM → Prop} (M : zM)  (k : Zm E YX8_build d M (zargs 0 [vr (some (97, 1, 0)), vi (2 : Int32), vi (1 : Int32), vi (0 : Int32)]) 0 [] (zma E YX8_begin (d + 1) [(0, vr (some (97, 1, 0)))] 114 3 [] Q)) : Zm E YX8_begin (d + 1) M [(0, vr (some (97, 1, 0)))] 110 [] Q := by
  refine Zm.l (fun _ _ k_ => z_aload_n dX8_begin_110 rfl rfl k_) ?_
  refine Zm.l (fun _ _ k_ => z_iconst (v := 2) dX8_begin_111 rfl k_) ?_
  refine Zm.l (fun _ _ k_ => z_iconst (v := 1) dX8_begin_112 rfl k_) ?_
  refine Zm.l (fun _ _ k_ => z_iconst (v := 0) dX8_begin_113 rfl k_) ?_
  exact zm_callV (as := [vi (2 : Int32), vi (1 : Int32), vi (0 : Int32)]) (st := []) dX8_begin_114 vsX8_867_1 (Nat.le_refl _) (Nat.le_of_ble_eq_true rfl) (Nat.le_of_ble_eq_true rfl) rfl k
theorem sX8_begin_117 {E : zE} {d : Nat} {Q : zO → zM → Prop} (M : zM)  (k : Zm E YX8_build d M (zargs 0 [vr (some (97, 1, 0)), vi (3 : Int32), vi (1 : Int32), vi (0 : Int32)]) 0 [] (zma E YX8_begin (d + 1) [(0, vr (some (97, 1, 0)))] 121 3 [] Q)) : Zm E YX8_begin (d + 1) M [(0, vr (some (97, 1, 0)))] 117 [] Q := by
  refine Zm.l (fun _ _ k_ => z_aload_n dX8_begin_117 rfl rfl k_) ?_
  refine Zm.l (fun _ _ k_ => z_iconst (v := 3) dX8_begin_118 rfl k_) ?_
  refine Zm.l (fun _ _ k_ => z_iconst (v := 1) dX8_begin_119 rfl k_) ?_
  refine Zm.l (fun _ _ k_ => z_iconst (v := 0) dX8_begin_120 rfl k_) ?_
  exact zm_callV (as := [vi (3 : Int32), vi (1 : Int32), vi (0 : Int32)]) (st := []) dX8_begin_121 vsX8_867_1 (Nat.le_refl _) (Nat.le_of_ble_eq_true rfl) (Nat.le_of_ble_eq_true rfl) rfl k
theorem sX8_begin_124 {E : zE} {d : Nat} {Q : zO → zM → Prop} (M : zM)  (k : Zm E YX8_build d M (zargs 0 [vr (some (97, 1, 0)), vi (4 : Int32), vi (1 : Int32), vi (0 : Int32)]) 0 [] (zma E YX8_begin (d + 1) [(0, vr (some (97, 1, 0)))] 128 3 [] Q)) : Zm E YX8_begin (d + 1) M [(0, vr (some (97, 1, 0)))] 124 [] Q := by
  refine Zm.l (fun _ _ k_ => z_aload_n dX8_begin_124 rfl rfl k_) ?_
  refine Zm.l (fun _ _ k_ => z_iconst (v := 4) dX8_begin_125 rfl k_) ?_
  refine Zm.l (fun _ _ k_ => z_iconst (v := 1) dX8_begin_126 rfl k_) ?_
  refine Zm.l (fun _ _ k_ => z_iconst (v := 0) dX8_begin_127 rfl k_) ?_
  exact zm_callV (as := [vi (4 : Int32), vi (1 : Int32), vi (0 : Int32)]) (st := []) dX8_begin_128 vsX8_867_1 (Nat.le_refl _) (Nat.le_of_ble_eq_true rfl) (Nat.le_of_ble_eq_true rfl) rfl k
theorem sX8_begin_131 {E : zE} {d : Nat} {Q : zO → zM → Prop} (M : zM)  (k : Zm E YX8_build d M (zargs 0 [vr (some (97, 1, 0)), vi (5 : Int32), vi (1 : Int32), vi (0 : Int32)]) 0 [] (zma E YX8_begin (d + 1) [(0, vr (some (97, 1, 0)))] 135 3 [] Q)) : Zm E YX8_begin (d + 1) M [(0, vr (some (97, 1, 0)))] 131 [] Q := by
  refine Zm.l (fun _ _ k_ => z_aload_n dX8_begin_131 rfl rfl k_) ?_
  refine Zm.l (fun _ _ k_ => z_iconst (v := 5) dX8_begin_132 rfl k_) ?_
  refine Zm.l (fun _ _ k_ => z_iconst (v := 1) dX8_begin_133 rfl k_) ?_
  refine Zm.l (fun _ _ k_ => z_iconst (v := 0) dX8_begin_134 rfl k_) ?_
  exact zm_callV (as := [vi (5 : Int32), vi (1 : Int32), vi (0 : Int32)]) (st := []) dX8_begin_135 vsX8_867_1 (Nat.le_refl _) (Nat.le_of_ble_eq_true rfl) (Nat.le_of_ble_eq_true rfl) rfl k
theorem sX8_begin_138 {E : zE} {d : Nat} {Q : zO → zM → Prop} (M : zM)  (k : Zm E YX8_begin (d + 1) M [(0, vr (some (97, 1, 0))), (1, vi (6 : Int32))] 141 [] Q) : Zm E YX8_begin (d + 1) M [(0, vr (some (97, 1, 0)))] 138 [] Q := by
  refine Zm.l (fun _ _ k_ => z_bipush (v := 6) dX8_begin_138 rfl k_) ?_
  refine Zm.l (fun _ _ k_ => z_ist_n dX8_begin_140 rfl (by decide) (lv' := [(0, vr (some (97, 1, 0))), (1, vi (6 : Int32))]) rfl k_) ?_
  exact k
theorem sX8_begin_141 {E : zE} {d : Nat} {Q : zO → zM → Prop} (M : zM) (l1 : Int32) (k : if (9 : Int32) ≤ l1 then (Zm E YX8_begin (d + 1) M [(0, vr (some (97, 1, 0))), (1, vi (9 : Int32))] 163 [] Q) else (Zm E YX8_build d M (zargs 0 [vr (some (97, 1, 0)), vi l1, vi (5 : Int32), vi (0 : Int32)]) 0 [] (zma E YX8_begin (d + 1) [(0, vr (some (97, 1, 0))), (1, vi l1)] 151 3 [] Q))) : Zm E YX8_begin (d + 1) M [(0, vr (some (97, 1, 0))), (1, vi l1)] 141 [] Q := by
  refine Zm.l (fun _ _ k_ => z_iload_n dX8_begin_141 rfl rfl k_) ?_
  refine Zm.l (fun _ _ k_ => z_bipush (v := 9) dX8_begin_142 rfl k_) ?_
  refine Zm.br (fun _ _ k1_ k2_ => z_icmp_ge (tgt := 160) dX8_begin_144 rfl k1_ k2_) (fun h_ => ?_) (fun h_ => ?_)
  · have k := zit h_ k
    refine Zm.l (fun _ _ k_ => z_bipush (v := 9) dX8_begin_160 rfl k_) ?_
    refine Zm.l (fun _ _ k_ => z_ist_n dX8_begin_162 rfl (by decide) (lv' := [(0, vr (some (97, 1, 0))), (1, vi (9 : Int32))]) rfl k_) ?_
    exact k
  · have k := zif h_ k
    refine Zm.l (fun _ _ k_ => z_aload_n dX8_begin_147 rfl rfl k_) ?_
    refine Zm.l (fun _ _ k_ => z_iload_n dX8_begin_148 rfl rfl k_) ?_
    refine Zm.l (fun _ _ k_ => z_iconst (v := 5) dX8_begin_149 rfl k_) ?_
    refine Zm.l (fun _ _ k_ => z_iconst (v := 0) dX8_begin_150 rfl k_) ?_
    exact zm_callV (as := [vi l1, vi (5 : Int32), vi (0 : Int32)]) (st := []) dX8_begin_151 vsX8_867_1 (Nat.le_refl _) (Nat.le_of_ble_eq_true rfl) (Nat.le_of_ble_eq_true rfl) rfl k
theorem sX8_begin_154 {E : zE} {d : Nat} {Q : zO → zM → Prop} (M : zM) (l1 : Int32) (k : Zm E YX8_begin (d + 1) M [(0, vr (some (97, 1, 0))), (1, vi (l1 + (1 : Int32)))] 141 [] Q) : Zm E YX8_begin (d + 1) M [(0, vr (some (97, 1, 0))), (1, vi l1)] 154 [] Q := by
  refine Zm.l (fun _ _ k_ => z_inc (v := (l1 + (1 : Int32))) dX8_begin_154 rfl rfl (by decide) (lv' := [(0, vr (some (97, 1, 0))), (1, vi (l1 + (1 : Int32)))]) rfl k_) ?_
  refine Zm.l (fun _ _ k_ => z_goto (tgt := 141) dX8_begin_157 rfl k_) ?_
  exact k
theorem sX8_begin_163 {E : zE} {d : Nat} {Q : zO → zM → Prop} (M : zM) (l1 : Int32) (k : if (23 : Int32) ≤ l1 then (Zm E YX8_begin (d + 1) M [(0, vr (some (97, 1, 0))), (1, vi (0 : Int32))] 184 [] Q) else (Zm E YX8_build d M (zargs 0 [vr (some (97, 1, 0)), vi l1, vi (2 : Int32), vi (1 : Int32)]) 0 [] (zma E YX8_begin (d + 1) [(0, vr (some (97, 1, 0))), (1, vi l1)] 173 3 [] Q))) : Zm E YX8_begin (d + 1) M [(0, vr (some (97, 1, 0))), (1, vi l1)] 163 [] Q := by
  refine Zm.l (fun _ _ k_ => z_iload_n dX8_begin_163 rfl rfl k_) ?_
  refine Zm.l (fun _ _ k_ => z_bipush (v := 23) dX8_begin_164 rfl k_) ?_
  refine Zm.br (fun _ _ k1_ k2_ => z_icmp_ge (tgt := 182) dX8_begin_166 rfl k1_ k2_) (fun h_ => ?_) (fun h_ => ?_)
  · have k := zit h_ k
    refine Zm.l (fun _ _ k_ => z_iconst (v := 0) dX8_begin_182 rfl k_) ?_
    refine Zm.l (fun _ _ k_ => z_ist_n dX8_begin_183 rfl (by decide) (lv' := [(0, vr (some (97, 1, 0))), (1, vi (0 : Int32))]) rfl k_) ?_
    exact k
  · have k := zif h_ k
    refine Zm.l (fun _ _ k_ => z_aload_n dX8_begin_169 rfl rfl k_) ?_
    refine Zm.l (fun _ _ k_ => z_iload_n dX8_begin_170 rfl rfl k_) ?_
    refine Zm.l (fun _ _ k_ => z_iconst (v := 2) dX8_begin_171 rfl k_) ?_
    refine Zm.l (fun _ _ k_ => z_iconst (v := 1) dX8_begin_172 rfl k_) ?_
    exact zm_callV (as := [vi l1, vi (2 : Int32), vi (1 : Int32)]) (st := []) dX8_begin_173 vsX8_867_1 (Nat.le_refl _) (Nat.le_of_ble_eq_true rfl) (Nat.le_of_ble_eq_true rfl) rfl k
theorem sX8_begin_176 {E : zE} {d : Nat} {Q : zO → zM → Prop} (M : zM) (l1 : Int32) (k : Zm E YX8_begin (d + 1) M [(0, vr (some (97, 1, 0))), (1, vi (l1 + (1 : Int32)))] 163 [] Q) : Zm E YX8_begin (d + 1) M [(0, vr (some (97, 1, 0))), (1, vi l1)] 176 [] Q := by
  refine Zm.l (fun _ _ k_ => z_inc (v := (l1 + (1 : Int32))) dX8_begin_176 rfl rfl (by decide) (lv' := [(0, vr (some (97, 1, 0))), (1, vi (l1 + (1 : Int32)))]) rfl k_) ?_
  refine Zm.l (fun _ _ k_ => z_goto (tgt := 163) dX8_begin_179 rfl k_) ?_
  exact k
theorem sX8_begin_184 {E : zE} {d : Nat} {Q : zO → zM → Prop} (M : zM) (l1 : Int32) (k : if (9 : Int32) ≤ l1 then (Zm E YX8_set_2 d M (zargs 0 [vr (some (97, 1, 0)), vi (1 : Int32), vi (2 : Int32), vi (7 : Int32), vi (10 : Int32)]) 0 [] (zma E YX8_begin (d + 1) [(0, vr (some (97, 1, 0)))] 217 3 [] Q)) else (Zm E YX8_set_2 d M (zargs 0 [vr (some (97, 1, 0)), vi (0 : Int32), vi ((5 : Int32) + l1), vi (7 : Int32), vi ((9 : Int32) + l1)]) 0 [] (zma E YX8_begin (d + 1) [(0, vr (some (97, 1, 0))), (1, vi l1)] 201 3 [] Q))) : Zm E YX8_begin (d + 1) M [(0, vr (some (97, 1, 0))), (1, vi l1)] 184 [] Q := by
  refine Zm.l (fun _ _ k_ => z_iload_n dX8_begin_184 rfl rfl k_) ?_
  refine Zm.l (fun _ _ k_ => z_bipush (v := 9) dX8_begin_185 rfl k_) ?_
  refine Zm.br (fun _ _ k1_ k2_ => z_icmp_ge (tgt := 210) dX8_begin_187 rfl k1_ k2_) (fun h_ => ?_) (fun h_ => ?_)
  · have k := zit h_ k
    refine Zm.l (fun _ _ k_ => z_aload_n dX8_begin_210 rfl rfl k_) ?_
    refine Zm.l (fun _ _ k_ => z_iconst (v := 1) dX8_begin_211 rfl k_) ?_
    refine Zm.l (fun _ _ k_ => z_iconst (v := 2) dX8_begin_212 rfl k_) ?_
    refine Zm.l (fun _ _ k_ => z_bipush (v := 7) dX8_begin_213 rfl k_) ?_
    refine Zm.l (fun _ _ k_ => z_bipush (v := 10) dX8_begin_215 rfl k_) ?_
    refine Zm.pick [0] rfl ?_
    exact zm_callV (as := [vi (1 : Int32), vi (2 : Int32), vi (7 : Int32), vi (10 : Int32)]) (st := []) dX8_begin_217 vsX8_870_1 (Nat.le_refl _) (Nat.le_of_ble_eq_true rfl) (Nat.le_of_ble_eq_true rfl) rfl k
  · have k := zif h_ k
    refine Zm.l (fun _ _ k_ => z_aload_n dX8_begin_190 rfl rfl k_) ?_
    refine Zm.l (fun _ _ k_ => z_iconst (v := 0) dX8_begin_191 rfl k_) ?_
    refine Zm.l (fun _ _ k_ => z_iconst (v := 5) dX8_begin_192 rfl k_) ?_
    refine Zm.l (fun _ _ k_ => z_iload_n dX8_begin_193 rfl rfl k_) ?_
    refine Zm.l (fun _ _ k_ => z_iadd dX8_begin_194 k_) ?_
    refine Zm.l (fun _ _ k_ => z_bipush (v := 7) dX8_begin_195 rfl k_) ?_
    refine Zm.l (fun _ _ k_ => z_bipush (v := 9) dX8_begin_197 rfl k_) ?_
    refine Zm.l (fun _ _ k_ => z_iload_n dX8_begin_199 rfl rfl k_) ?_
    refine Zm.l (fun _ _ k_ => z_iadd dX8_begin_200 k_) ?_
    exact zm_callV (as := [vi (0 : Int32), vi ((5 : Int32) + l1), vi (7 : Int32), vi ((9 : Int32) + l1)]) (st := []) dX8_begin_201 vsX8_870_1 (Nat.le_refl _) (Nat.le_of_ble_eq_true rfl) (Nat.le_of_ble_eq_true rfl) rfl k
theorem sX8_begin_204 {E : zE} {d : Nat} {Q : zO → zM → Prop} (M : zM) (l1 : Int32) (k : Zm E YX8_begin (d + 1) M [(0, vr (some (97, 1, 0))), (1, vi (l1 + (1 : Int32)))] 184 [] Q) : Zm E YX8_begin (d + 1) M [(0, vr (some (97, 1, 0))), (1, vi l1)] 204 [] Q := by
  refine Zm.l (fun _ _ k_ => z_inc (v := (l1 + (1 : Int32))) dX8_begin_204 rfl rfl (by decide) (lv' := [(0, vr (some (97, 1, 0))), (1, vi (l1 + (1 : Int32)))]) rfl k_) ?_
  refine Zm.l (fun _ _ k_ => z_goto (tgt := 184) dX8_begin_207 rfl k_) ?_
  exact k
theorem sX8_begin_220 {E : zE} {d : Nat} {Q : zO → zM → Prop} (M : zM)  (k : Zm E YX8_set_2 d M (zargs 0 [vr (some (97, 1, 0)), vi (1 : Int32), vi (17 : Int32), vi (7 : Int32), vi (21 : Int32)]) 0 [] (zma E YX8_begin (d + 1) [(0, vr (some (97, 1, 0)))] 228 3 [] Q)) : Zm E YX8_begin (d + 1) M [(0, vr (some (97, 1, 0)))] 220 [] Q := by
  refine Zm.l (fun _ _ k_ => z_aload_n dX8_begin_220 rfl rfl k_) ?_
  refine Zm.l (fun _ _ k_ => z_iconst (v := 1) dX8_begin_221 rfl k_) ?_
  refine Zm.l (fun _ _ k_ => z_bipush (v := 17) dX8_begin_222 rfl k_) ?_
  refine Zm.l (fun _ _ k_ => z_bipush (v := 7) dX8_begin_224 rfl k_) ?_
  refine Zm.l (fun _ _ k_ => z_bipush (v := 21) dX8_begin_226 rfl k_) ?_
  exact zm_callV (as := [vi (1 : Int32), vi (17 : Int32), vi (7 : Int32), vi (21 : Int32)]) (st := []) dX8_begin_228 vsX8_870_1 (Nat.le_refl _) (Nat.le_of_ble_eq_true rfl) (Nat.le_of_ble_eq_true rfl) rfl k
theorem sX8_begin_231 {E : zE} {d : Nat} {Q : zO → zM → Prop} (M : zM)  (k : Zm E YX8_set_2 d M (zargs 0 [vr (some (97, 1, 0)), vi (2 : Int32), vi (16 : Int32), vi (7 : Int32), vi (20 : Int32)]) 0 [] (zma E YX8_begin (d + 1) [(0, vr (some (97, 1, 0)))] 239 3 [] Q)) : Zm E YX8_begin (d + 1) M [(0, vr (some (97, 1, 0)))] 231 [] Q := by
  refine Zm.l (fun _ _ k_ => z_aload_n dX8_begin_231 rfl rfl k_) ?_
  refine Zm.l (fun _ _ k_ => z_iconst (v := 2) dX8_begin_232 rfl k_) ?_
  refine Zm.l (fun _ _ k_ => z_bipush (v := 16) dX8_begin_233 rfl k_) ?_
  refine Zm.l (fun _ _ k_ => z_bipush (v := 7) dX8_begin_235 rfl k_) ?_
  refine Zm.l (fun _ _ k_ => z_bipush (v := 20) dX8_begin_237 rfl k_) ?_
  exact zm_callV (as := [vi (2 : Int32), vi (16 : Int32), vi (7 : Int32), vi (20 : Int32)]) (st := []) dX8_begin_239 vsX8_870_1 (Nat.le_refl _) (Nat.le_of_ble_eq_true rfl) (Nat.le_of_ble_eq_true rfl) rfl k
theorem sX8_begin_242 {E : zE} {d : Nat} {Q : zO → zM → Prop} (M : zM)  (k : Zm E YX8_set_2 d M (zargs 0 [vr (some (97, 1, 0)), vi (3 : Int32), vi (2 : Int32), vi (7 : Int32), vi (11 : Int32)]) 0 [] (zma E YX8_begin (d + 1) [(0, vr (some (97, 1, 0)))] 249 3 [] Q)) : Zm E YX8_begin (d + 1) M [(0, vr (some (97, 1, 0)))] 242 [] Q := by
  refine Zm.l (fun _ _ k_ => z_aload_n dX8_begin_242 rfl rfl k_) ?_
  refine Zm.l (fun _ _ k_ => z_iconst (v := 3) dX8_begin_243 rfl k_) ?_
  refine Zm.l (fun _ _ k_ => z_iconst (v := 2) dX8_begin_244 rfl k_) ?_
  refine Zm.l (fun _ _ k_ => z_bipush (v := 7) dX8_begin_245 rfl k_) ?_
  refine Zm.l (fun _ _ k_ => z_bipush (v := 11) dX8_begin_247 rfl k_) ?_
  exact zm_callV (as := [vi (3 : Int32), vi (2 : Int32), vi (7 : Int32), vi (11 : Int32)]) (st := []) dX8_begin_249 vsX8_870_1 (Nat.le_refl _) (Nat.le_of_ble_eq_true rfl) (Nat.le_of_ble_eq_true rfl) rfl k
theorem sX8_begin_252 {E : zE} {d : Nat} {Q : zO → zM → Prop} (M : zM)  (k : Zm E YX8_set_2 d M (zargs 0 [vr (some (97, 1, 0)), vi (3 : Int32), vi (14 : Int32), vi (7 : Int32), vi (18 : Int32)]) 0 [] (zma E YX8_begin (d + 1) [(0, vr (some (97, 1, 0)))] 260 3 [] Q)) : Zm E YX8_begin (d + 1) M [(0, vr (some (97, 1, 0)))] 252 [] Q := by
  refine Zm.l (fun _ _ k_ => z_aload_n dX8_begin_252 rfl rfl k_) ?_
  refine Zm.l (fun _ _ k_ => z_iconst (v := 3) dX8_begin_253 rfl k_) ?_
  refine Zm.l (fun _ _ k_ => z_bipush (v := 14) dX8_begin_254 rfl k_) ?_
  refine Zm.l (fun _ _ k_ => z_bipush (v := 7) dX8_begin_256 rfl k_) ?_
  refine Zm.l (fun _ _ k_ => z_bipush (v := 18) dX8_begin_258 rfl k_) ?_
  exact zm_callV (as := [vi (3 : Int32), vi (14 : Int32), vi (7 : Int32), vi (18 : Int32)]) (st := []) dX8_begin_260 vsX8_870_1 (Nat.le_refl _) (Nat.le_of_ble_eq_true rfl) (Nat.le_of_ble_eq_true rfl) rfl k
theorem sX8_begin_263 {E : zE} {d : Nat} {Q : zO → zM → Prop} (M : zM)  (k : Zm E YX8_set_2 d M (zargs 0 [vr (some (97, 1, 0)), vi (3 : Int32), vi (15 : Int32), vi (7 : Int32), vi (19 : Int32)]) 0 [] (zma E YX8_begin (d + 1) [(0, vr (some (97, 1, 0)))] 271 3 [] Q)) : Zm E YX8_begin (d + 1) M [(0, vr (some (97, 1, 0)))] 263 [] Q := by
  refine Zm.l (fun _ _ k_ => z_aload_n dX8_begin_263 rfl rfl k_) ?_
  refine Zm.l (fun _ _ k_ => z_iconst (v := 3) dX8_begin_264 rfl k_) ?_
  refine Zm.l (fun _ _ k_ => z_bipush (v := 15) dX8_begin_265 rfl k_) ?_
  refine Zm.l (fun _ _ k_ => z_bipush (v := 7) dX8_begin_267 rfl k_) ?_
  refine Zm.l (fun _ _ k_ => z_bipush (v := 19) dX8_begin_269 rfl k_) ?_
  exact zm_callV (as := [vi (3 : Int32), vi (15 : Int32), vi (7 : Int32), vi (19 : Int32)]) (st := []) dX8_begin_271 vsX8_870_1 (Nat.le_refl _) (Nat.le_of_ble_eq_true rfl) (Nat.le_of_ble_eq_true rfl) rfl k
theorem sX8_begin_274 {E : zE} {d : Nat} {Q : zO → zM → Prop} (M : zM)  (k : Zm E YX8_set_2 d M (zargs 0 [vr (some (97, 1, 0)), vi (4 : Int32), vi (2 : Int32), vi (7 : Int32), vi (12 : Int32)]) 0 [] (zma E YX8_begin (d + 1) [(0, vr (some (97, 1, 0)))] 281 3 [] Q)) : Zm E YX8_begin (d + 1) M [(0, vr (some (97, 1, 0)))] 274 [] Q := by
  refine Zm.l (fun _ _ k_ => z_aload_n dX8_begin_274 rfl rfl k_) ?_
  refine Zm.l (fun _ _ k_ => z_iconst (v := 4) dX8_begin_275 rfl k_) ?_
  refine Zm.l (fun _ _ k_ => z_iconst (v := 2) dX8_begin_276 rfl k_) ?_
  refine Zm.l (fun _ _ k_ => z_bipush (v := 7) dX8_begin_277 rfl k_) ?_
  refine Zm.l (fun _ _ k_ => z_bipush (v := 12) dX8_begin_279 rfl k_) ?_
  exact zm_callV (as := [vi (4 : Int32), vi (2 : Int32), vi (7 : Int32), vi (12 : Int32)]) (st := []) dX8_begin_281 vsX8_870_1 (Nat.le_refl _) (Nat.le_of_ble_eq_true rfl) (Nat.le_of_ble_eq_true rfl) rfl k
theorem sX8_begin_284 {E : zE} {d : Nat} {Q : zO → zM → Prop} (M : zM)  (k : Zm E YX8_set_2 d M (zargs 0 [vr (some (97, 1, 0)), vi (4 : Int32), vi (18 : Int32), vi (7 : Int32), vi (22 : Int32)]) 0 [] (zma E YX8_begin (d + 1) [(0, vr (some (97, 1, 0)))] 292 3 [] Q)) : Zm E YX8_begin (d + 1) M [(0, vr (some (97, 1, 0)))] 284 [] Q := by
  refine Zm.l (fun _ _ k_ => z_aload_n dX8_begin_284 rfl rfl k_) ?_
  refine Zm.l (fun _ _ k_ => z_iconst (v := 4) dX8_begin_285 rfl k_) ?_
  refine Zm.l (fun _ _ k_ => z_bipush (v := 18) dX8_begin_286 rfl k_) ?_
  refine Zm.l (fun _ _ k_ => z_bipush (v := 7) dX8_begin_288 rfl k_) ?_
  refine Zm.l (fun _ _ k_ => z_bipush (v := 22) dX8_begin_290 rfl k_) ?_
  exact zm_callV (as := [vi (4 : Int32), vi (18 : Int32), vi (7 : Int32), vi (22 : Int32)]) (st := []) dX8_begin_292 vsX8_870_1 (Nat.le_refl _) (Nat.le_of_ble_eq_true rfl) (Nat.le_of_ble_eq_true rfl) rfl k
theorem sX8_begin_295 {E : zE} {d : Nat} {Q : zO → zM → Prop} (M : zM)  (k : Zm E YX8_begin (d + 1) M [(0, vr (some (97, 1, 0))), (1, vi (0 : Int32))] 297 [] Q) : Zm E YX8_begin (d + 1) M [(0, vr (some (97, 1, 0)))] 295 [] Q := by
  refine Zm.l (fun _ _ k_ => z_iconst (v := 0) dX8_begin_295 rfl k_) ?_
  refine Zm.l (fun _ _ k_ => z_ist_n dX8_begin_296 rfl (by decide) (lv' := [(0, vr (some (97, 1, 0))), (1, vi (0 : Int32))]) rfl k_) ?_
  exact k
theorem sX8_begin_297 {E : zE} {d : Nat} {Q : zO → zM → Prop} (M : zM) (l1 : Int32) (k : if (4 : Int32) ≤ l1 then (Zm E YX8_set_2 d M (zargs 0 [vr (some (97, 1, 0)), vi (10 : Int32), vi (1 : Int32), vi (7 : Int32), vi (1 : Int32)]) 0 [] (zma E YX8_begin (d + 1) [(0, vr (some (97, 1, 0)))] 343 3 [] Q)) else (Zm E YX8_set_2 d M (zargs 0 [vr (some (97, 1, 0)), vi ((5 : Int32) + l1), vi (2 : Int32), vi (7 : Int32), vi ((14 : Int32) + l1)]) 0 [] (zma E YX8_begin (d + 1) [(0, vr (some (97, 1, 0))), (1, vi l1)] 313 3 [] Q))) : Zm E YX8_begin (d + 1) M [(0, vr (some (97, 1, 0))), (1, vi l1)] 297 [] Q := by
  refine Zm.l (fun _ _ k_ => z_iload_n dX8_begin_297 rfl rfl k_) ?_
  refine Zm.l (fun _ _ k_ => z_iconst (v := 4) dX8_begin_298 rfl k_) ?_
  refine Zm.br (fun _ _ k1_ k2_ => z_icmp_ge (tgt := 336) dX8_begin_299 rfl k1_ k2_) (fun h_ => ?_) (fun h_ => ?_)
  · have k := zit h_ k
    refine Zm.l (fun _ _ k_ => z_aload_n dX8_begin_336 rfl rfl k_) ?_
    refine Zm.l (fun _ _ k_ => z_bipush (v := 10) dX8_begin_337 rfl k_) ?_
    refine Zm.l (fun _ _ k_ => z_iconst (v := 1) dX8_begin_339 rfl k_) ?_
    refine Zm.l (fun _ _ k_ => z_bipush (v := 7) dX8_begin_340 rfl k_) ?_
    refine Zm.l (fun _ _ k_ => z_iconst (v := 1) dX8_begin_342 rfl k_) ?_
    refine Zm.pick [0] rfl ?_
    exact zm_callV (as := [vi (10 : Int32), vi (1 : Int32), vi (7 : Int32), vi (1 : Int32)]) (st := []) dX8_begin_343 vsX8_870_1 (Nat.le_refl _) (Nat.le_of_ble_eq_true rfl) (Nat.le_of_ble_eq_true rfl) rfl k
  · have k := zif h_ k
    refine Zm.l (fun _ _ k_ => z_aload_n dX8_begin_302 rfl rfl k_) ?_
    refine Zm.l (fun _ _ k_ => z_iconst (v := 5) dX8_begin_303 rfl k_) ?_
    refine Zm.l (fun _ _ k_ => z_iload_n dX8_begin_304 rfl rfl k_) ?_
    refine Zm.l (fun _ _ k_ => z_iadd dX8_begin_305 k_) ?_
    refine Zm.l (fun _ _ k_ => z_iconst (v := 2) dX8_begin_306 rfl k_) ?_
    refine Zm.l (fun _ _ k_ => z_bipush (v := 7) dX8_begin_307 rfl k_) ?_
    refine Zm.l (fun _ _ k_ => z_bipush (v := 14) dX8_begin_309 rfl k_) ?_
    refine Zm.l (fun _ _ k_ => z_iload_n dX8_begin_311 rfl rfl k_) ?_
    refine Zm.l (fun _ _ k_ => z_iadd dX8_begin_312 k_) ?_
    exact zm_callV (as := [vi ((5 : Int32) + l1), vi (2 : Int32), vi (7 : Int32), vi ((14 : Int32) + l1)]) (st := []) dX8_begin_313 vsX8_870_1 (Nat.le_refl _) (Nat.le_of_ble_eq_true rfl) (Nat.le_of_ble_eq_true rfl) rfl k
theorem sX8_begin_316 {E : zE} {d : Nat} {Q : zO → zM → Prop} (M : zM) (l1 : Int32) (k : Zm E YX8_set_2 d M (zargs 0 [vr (some (97, 1, 0)), vi ((5 : Int32) + l1), vi (4 : Int32), vi (6 : Int32), vi ((10 : Int32) + l1)]) 0 [] (zma E YX8_begin (d + 1) [(0, vr (some (97, 1, 0))), (1, vi l1)] 327 3 [] Q)) : Zm E YX8_begin (d + 1) M [(0, vr (some (97, 1, 0))), (1, vi l1)] 316 [] Q := by
  refine Zm.l (fun _ _ k_ => z_aload_n dX8_begin_316 rfl rfl k_) ?_
  refine Zm.l (fun _ _ k_ => z_iconst (v := 5) dX8_begin_317 rfl k_) ?_
  refine Zm.l (fun _ _ k_ => z_iload_n dX8_begin_318 rfl rfl k_) ?_
  refine Zm.l (fun _ _ k_ => z_iadd dX8_begin_319 k_) ?_
  refine Zm.l (fun _ _ k_ => z_iconst (v := 4) dX8_begin_320 rfl k_) ?_
  refine Zm.l (fun _ _ k_ => z_bipush (v := 6) dX8_begin_321 rfl k_) ?_
  refine Zm.l (fun _ _ k_ => z_bipush (v := 10) dX8_begin_323 rfl k_) ?_
  refine Zm.l (fun _ _ k_ => z_iload_n dX8_begin_325 rfl rfl k_) ?_
  refine Zm.l (fun _ _ k_ => z_iadd dX8_begin_326 k_) ?_
  exact zm_callV (as := [vi ((5 : Int32) + l1), vi (4 : Int32), vi (6 : Int32), vi ((10 : Int32) + l1)]) (st := []) dX8_begin_327 vsX8_870_1 (Nat.le_refl _) (Nat.le_of_ble_eq_true rfl) (Nat.le_of_ble_eq_true rfl) rfl k
theorem sX8_begin_330 {E : zE} {d : Nat} {Q : zO → zM → Prop} (M : zM) (l1 : Int32) (k : Zm E YX8_begin (d + 1) M [(0, vr (some (97, 1, 0))), (1, vi (l1 + (1 : Int32)))] 297 [] Q) : Zm E YX8_begin (d + 1) M [(0, vr (some (97, 1, 0))), (1, vi l1)] 330 [] Q := by
  refine Zm.l (fun _ _ k_ => z_inc (v := (l1 + (1 : Int32))) dX8_begin_330 rfl rfl (by decide) (lv' := [(0, vr (some (97, 1, 0))), (1, vi (l1 + (1 : Int32)))]) rfl k_) ?_
  refine Zm.l (fun _ _ k_ => z_goto (tgt := 297) dX8_begin_333 rfl k_) ?_
  exact k
theorem sX8_begin_346 {E : zE} {d : Nat} {Q : zO → zM → Prop} (M : zM)  (k : Zm E YX8_set_2 d M (zargs 0 [vr (some (97, 1, 0)), vi (11 : Int32), vi (1 : Int32), vi (7 : Int32), vi (3 : Int32)]) 0 [] (zma E YX8_begin (d + 1) [(0, vr (some (97, 1, 0)))] 353 3 [] Q)) : Zm E YX8_begin (d + 1) M [(0, vr (some (97, 1, 0)))] 346 [] Q := by
  refine Zm.l (fun _ _ k_ => z_aload_n dX8_begin_346 rfl rfl k_) ?_
  refine Zm.l (fun _ _ k_ => z_bipush (v := 11) dX8_begin_347 rfl k_) ?_
  refine Zm.l (fun _ _ k_ => z_iconst (v := 1) dX8_begin_349 rfl k_) ?_
  refine Zm.l (fun _ _ k_ => z_bipush (v := 7) dX8_begin_350 rfl k_) ?_
  refine Zm.l (fun _ _ k_ => z_iconst (v := 3) dX8_begin_352 rfl k_) ?_
  exact zm_callV (as := [vi (11 : Int32), vi (1 : Int32), vi (7 : Int32), vi (3 : Int32)]) (st := []) dX8_begin_353 vsX8_870_1 (Nat.le_refl _) (Nat.le_of_ble_eq_true rfl) (Nat.le_of_ble_eq_true rfl) rfl k
theorem sX8_begin_356 {E : zE} {d : Nat} {Q : zO → zM → Prop} (M : zM)  (k : Zm E YX8_set_2 d M (zargs 0 [vr (some (97, 1, 0)), vi (12 : Int32), vi (1 : Int32), vi (7 : Int32), vi (4 : Int32)]) 0 [] (zma E YX8_begin (d + 1) [(0, vr (some (97, 1, 0)))] 363 3 [] Q)) : Zm E YX8_begin (d + 1) M [(0, vr (some (97, 1, 0)))] 356 [] Q := by
  refine Zm.l (fun _ _ k_ => z_aload_n dX8_begin_356 rfl rfl k_) ?_
  refine Zm.l (fun _ _ k_ => z_bipush (v := 12) dX8_begin_357 rfl k_) ?_
  refine Zm.l (fun _ _ k_ => z_iconst (v := 1) dX8_begin_359 rfl k_) ?_
  refine Zm.l (fun _ _ k_ => z_bipush (v := 7) dX8_begin_360 rfl k_) ?_
  refine Zm.l (fun _ _ k_ => z_iconst (v := 4) dX8_begin_362 rfl k_) ?_
  exact zm_callV (as := [vi (12 : Int32), vi (1 : Int32), vi (7 : Int32), vi (4 : Int32)]) (st := []) dX8_begin_363 vsX8_870_1 (Nat.le_refl _) (Nat.le_of_ble_eq_true rfl) (Nat.le_of_ble_eq_true rfl) rfl k
theorem sX8_begin_366 {E : zE} {d : Nat} {Q : zO → zM → Prop} (M : zM)  (k : Zm E YX8_begin (d + 1) M [(0, vr (some (97, 1, 0))), (1, vi (0 : Int32))] 368 [] Q) : Zm E YX8_begin (d + 1) M [(0, vr (some (97, 1, 0)))] 366 [] Q := by
  refine Zm.l (fun _ _ k_ => z_iconst (v := 0) dX8_begin_366 rfl k_) ?_
  refine Zm.l (fun _ _ k_ => z_ist_n dX8_begin_367 rfl (by decide) (lv' := [(0, vr (some (97, 1, 0))), (1, vi (0 : Int32))]) rfl k_) ?_
  exact k
theorem sX8_begin_368 {E : zE} {d : Nat} {Q : zO → zM → Prop} (M : zM) (l1 : Int32) (k : if (4 : Int32) ≤ l1 then (Zm E YX8_enterFrame d (si M 97 92 (0 : Int32)) (zargs 0 [vr (some (97, 1, 0)), vi (0 : Int32), vi (-1 : Int32), vi (0 : Int32), vi (0 : Int32), vi (-1 : Int32)]) 0 [] (zma E YX8_begin (d + 1) [] 404 3 [] Q)) else (Zm E YX8_set_2 d M (zargs 0 [vr (some (97, 1, 0)), vi ((14 : Int32) + l1), vi (1 : Int32), vi (7 : Int32), vi ((5 : Int32) + l1)]) 0 [] (zma E YX8_begin (d + 1) [(0, vr (some (97, 1, 0))), (1, vi l1)] 384 3 [] Q))) : Zm E YX8_begin (d + 1) M [(0, vr (some (97, 1, 0))), (1, vi l1)] 368 [] Q := by
  refine Zm.l (fun _ _ k_ => z_iload_n dX8_begin_368 rfl rfl k_) ?_
  refine Zm.l (fun _ _ k_ => z_iconst (v := 4) dX8_begin_369 rfl k_) ?_
  refine Zm.br (fun _ _ k1_ k2_ => z_icmp_ge (tgt := 393) dX8_begin_370 rfl k1_ k2_) (fun h_ => ?_) (fun h_ => ?_)
  · have k := zit h_ k
    refine Zm.l (fun _ _ k_ => z_aload_n dX8_begin_393 rfl rfl k_) ?_
    refine Zm.l (fun _ _ k_ => z_iconst (v := 0) dX8_begin_394 rfl k_) ?_
    refine zm_puti (by decide) (by decide) dX8_begin_395 (zfwN.w fwX8_872_1) rfl ⟨rfl, rfl⟩ ?_
    refine Zm.l (fun _ _ k_ => z_aload_n dX8_begin_398 rfl rfl k_) ?_
    refine Zm.l (fun _ _ k_ => z_iconst (v := 0) dX8_begin_399 rfl k_) ?_
    refine Zm.l (fun _ _ k_ => z_iconst (v := -1) dX8_begin_400 rfl k_) ?_
    refine Zm.l (fun _ _ k_ => z_iconst (v := 0) dX8_begin_401 rfl k_) ?_
    refine Zm.l (fun _ _ k_ => z_iconst (v := 0) dX8_begin_402 rfl k_) ?_
    refine Zm.l (fun _ _ k_ => z_iconst (v := -1) dX8_begin_403 rfl k_) ?_
    refine Zm.pick [] rfl ?_
    exact zm_callV (as := [vi (0 : Int32), vi (-1 : Int32), vi (0 : Int32), vi (0 : Int32), vi (-1 : Int32)]) (st := []) dX8_begin_404 vsX8_875_1 (Nat.le_refl _) (Nat.le_of_ble_eq_true rfl) (Nat.le_of_ble_eq_true rfl) rfl k
  · have k := zif h_ k
    refine Zm.l (fun _ _ k_ => z_aload_n dX8_begin_373 rfl rfl k_) ?_
    refine Zm.l (fun _ _ k_ => z_bipush (v := 14) dX8_begin_374 rfl k_) ?_
    refine Zm.l (fun _ _ k_ => z_iload_n dX8_begin_376 rfl rfl k_) ?_
    refine Zm.l (fun _ _ k_ => z_iadd dX8_begin_377 k_) ?_
    refine Zm.l (fun _ _ k_ => z_iconst (v := 1) dX8_begin_378 rfl k_) ?_
    refine Zm.l (fun _ _ k_ => z_bipush (v := 7) dX8_begin_379 rfl k_) ?_
    refine Zm.l (fun _ _ k_ => z_iconst (v := 5) dX8_begin_381 rfl k_) ?_
    refine Zm.l (fun _ _ k_ => z_iload_n dX8_begin_382 rfl rfl k_) ?_
    refine Zm.l (fun _ _ k_ => z_iadd dX8_begin_383 k_) ?_
    exact zm_callV (as := [vi ((14 : Int32) + l1), vi (1 : Int32), vi (7 : Int32), vi ((5 : Int32) + l1)]) (st := []) dX8_begin_384 vsX8_870_1 (Nat.le_refl _) (Nat.le_of_ble_eq_true rfl) (Nat.le_of_ble_eq_true rfl) rfl k
theorem sX8_begin_387 {E : zE} {d : Nat} {Q : zO → zM → Prop} (M : zM) (l1 : Int32) (k : Zm E YX8_begin (d + 1) M [(0, vr (some (97, 1, 0))), (1, vi (l1 + (1 : Int32)))] 368 [] Q) : Zm E YX8_begin (d + 1) M [(0, vr (some (97, 1, 0))), (1, vi l1)] 387 [] Q := by
  refine Zm.l (fun _ _ k_ => z_inc (v := (l1 + (1 : Int32))) dX8_begin_387 rfl rfl (by decide) (lv' := [(0, vr (some (97, 1, 0))), (1, vi (l1 + (1 : Int32)))]) rfl k_) ?_
  refine Zm.l (fun _ _ k_ => z_goto (tgt := 368) dX8_begin_390 rfl k_) ?_
  exact k
theorem sX8_begin_407 {E : zE} {d : Nat} {Q : zO → zM → Prop} (M : zM)  (k : Q (.inl none) M) : Zm E YX8_begin (d + 1) M [] 407 [] Q := by
  exact zm_vret dX8_begin_407 rfl k
/-! ScriptTypesModel.build(III)V -/
theorem bX8_build_0 : zdec cX8_build 0 [(0, .aload_n 0, 1), (1, .iload_n 2, 1), (2, .iload_n 1, 1), (3, .iload_n 3, 1), (4, .invokevirtual 858, 3), (7, .istore 4, 2), (9, .return_, 1)] = true := by decide +kernel
theorem dX8_build_0 : decode cX8_build 0 = .ok (.aload_n 0, 1) := zdec_at bX8_build_0 0 rfl
theorem dX8_build_1 : decode cX8_build 1 = .ok (.iload_n 2, 1) := zdec_at bX8_build_0 1 rfl
theorem dX8_build_2 : decode cX8_build 2 = .ok (.iload_n 1, 1) := zdec_at bX8_build_0 2 rfl
theorem dX8_build_3 : decode cX8_build 3 = .ok (.iload_n 3, 1) := zdec_at bX8_build_0 3 rfl
theorem dX8_build_4 : decode cX8_build 4 = .ok (.invokevirtual 858, 3) := zdec_at bX8_build_0 4 rfl
theorem dX8_build_7 : decode cX8_build 7 = .ok (.istore 4, 2) := zdec_at bX8_build_0 5 rfl
theorem dX8_build_9 : decode cX8_build 9 = .ok (.return_, 1) := zdec_at bX8_build_0 6 rfl
theorem sX8_build_0 {E : zE} {d : Nat} {Q : zO → zM → Prop} (M : zM) (l1 : Int32) (l2 : Int32) (l3 : Int32) (k : Zm E YX8_newObject d M (zargs 0 [vr (some (97, 1, 0)), vi l2, vi l1, vi l3]) 0 [] (zma E YX8_build (d + 1) [] 4 3 [] Q)) : Zm E YX8_build (d + 1) M [(0, vr (some (97, 1, 0))), (1, vi l1), (2, vi l2), (3, vi l3)] 0 [] Q := by
  refine Zm.l (fun _ _ k_ => z_aload_n dX8_build_0 rfl rfl k_) ?_
  refine Zm.l (fun _ _ k_ => z_iload_n dX8_build_1 rfl rfl k_) ?_
  refine Zm.l (fun _ _ k_ => z_iload_n dX8_build_2 rfl rfl k_) ?_
  refine Zm.l (fun _ _ k_ => z_iload_n dX8_build_3 rfl rfl k_) ?_
  refine Zm.pick [] rfl ?_
  exact zm_callV (as := [vi l2, vi l1, vi l3]) (st := []) dX8_build_4 vsX8_858_1 (Nat.le_refl _) (Nat.le_of_ble_eq_true rfl) (Nat.le_of_ble_eq_true rfl) rfl k
theorem sX8_build_7 {E : zE} {d : Nat} {Q : zO → zM → Prop} (M : zM) (s0 : Int32) (k : Q (.inl none) M) : Zm E YX8_build (d + 1) M [] 7 [vi s0] Q := by
  refine Zm.l (fun _ _ k_ => z_ist dX8_build_7 (by decide) (lv' := [(4, vi s0)]) rfl k_) ?_
  exact zm_vret dX8_build_9 rfl k
/-! ScriptTypesModel.newObject(III)I -/
theorem bX8_newObject_0 : zdec cX8_newObject 0 [(0, .aload_n 0, 1), (1, .getfield 843, 3), (4, .sipush 300, 3), (7, .if_icmp .ne 10, 3), (10, .aload_n 0, 1), (11, .iconst 1, 1), (12, .putfield 794, 3), (15, .iconst 0, 1), (16, .ireturn, 1), (17, .iconst 0, 1), (18, .istore 4, 2), (20, .iload_n 2, 1), (21, .bipush 29, 2), (23, .if_icmp .lt 49, 3), (26, .iload 4, 2), (28, .aload_n 0, 1)] = true := by decide +kernel
theorem dX8_newObject_0 : decode cX8_newObject 0 = .ok (.aload_n 0, 1) := zdec_at bX8_newObject_0 0 rfl
theorem dX8_newObject_1 : decode cX8_newObject 1 = .ok (.getfield 843, 3) := zdec_at bX8_newObject_0 1 rfl
theorem dX8_newObject_4 : decode cX8_newObject 4 = .ok (.sipush 300, 3) := zdec_at bX8_newObject_0 2 rfl
theorem dX8_newObject_7 : decode cX8_newObject 7 = .ok (.if_icmp .ne 10, 3) := zdec_at bX8_newObject_0 3 rfl
theorem dX8_newObject_10 : decode cX8_newObject 10 = .ok (.aload_n 0, 1) := zdec_at bX8_newObject_0 4 rfl
theorem dX8_newObject_11 : decode cX8_newObject 11 = .ok (.iconst 1, 1) := zdec_at bX8_newObject_0 5 rfl
theorem dX8_newObject_12 : decode cX8_newObject 12 = .ok (.putfield 794, 3) := zdec_at bX8_newObject_0 6 rfl
theorem dX8_newObject_15 : decode cX8_newObject 15 = .ok (.iconst 0, 1) := zdec_at bX8_newObject_0 7 rfl
theorem dX8_newObject_16 : decode cX8_newObject 16 = .ok (.ireturn, 1) := zdec_at bX8_newObject_0 8 rfl
theorem dX8_newObject_17 : decode cX8_newObject 17 = .ok (.iconst 0, 1) := zdec_at bX8_newObject_0 9 rfl
theorem dX8_newObject_18 : decode cX8_newObject 18 = .ok (.istore 4, 2) := zdec_at bX8_newObject_0 10 rfl
theorem dX8_newObject_20 : decode cX8_newObject 20 = .ok (.iload_n 2, 1) := zdec_at bX8_newObject_0 11 rfl
theorem dX8_newObject_21 : decode cX8_newObject 21 = .ok (.bipush 29, 2) := zdec_at bX8_newObject_0 12 rfl
theorem dX8_newObject_23 : decode cX8_newObject 23 = .ok (.if_icmp .lt 49, 3) := zdec_at bX8_newObject_0 13 rfl
theorem dX8_newObject_26 : decode cX8_newObject 26 = .ok (.iload 4, 2) := zdec_at bX8_newObject_0 14 rfl
theorem dX8_newObject_28 : decode cX8_newObject 28 = .ok (.aload_n 0, 1) := zdec_at bX8_newObject_0 15 rfl
theorem bX8_newObject_29 : zdec cX8_newObject 29 [(29, .getfield 843, 3), (32, .if_icmp .ge 40, 3), (35, .aload_n 0, 1), (36, .getfield 134, 3), (39, .iload 4, 2), (41, .aload_n 0, 1), (42, .getfield 134, 3), (45, .iload 4, 2), (47, .iaload, 1), (48, .iload_n 2, 1), (49, .if_icmp .ne 9, 3), (52, .iload_n 2, 1), (53, .iconst 1, 1), (54, .iadd, 1), (55, .goto 10, 3), (58, .aload_n 0, 1)] = true := by decide +kernel
theorem dX8_newObject_29 : decode cX8_newObject 29 = .ok (.getfield 843, 3) := zdec_at bX8_newObject_29 0 rfl
theorem dX8_newObject_32 : decode cX8_newObject 32 = .ok (.if_icmp .ge 40, 3) := zdec_at bX8_newObject_29 1 rfl
theorem dX8_newObject_35 : decode cX8_newObject 35 = .ok (.aload_n 0, 1) := zdec_at bX8_newObject_29 2 rfl
theorem dX8_newObject_36 : decode cX8_newObject 36 = .ok (.getfield 134, 3) := zdec_at bX8_newObject_29 3 rfl
theorem dX8_newObject_39 : decode cX8_newObject 39 = .ok (.iload 4, 2) := zdec_at bX8_newObject_29 4 rfl
theorem dX8_newObject_41 : decode cX8_newObject 41 = .ok (.aload_n 0, 1) := zdec_at bX8_newObject_29 5 rfl
theorem dX8_newObject_42 : decode cX8_newObject 42 = .ok (.getfield 134, 3) := zdec_at bX8_newObject_29 6 rfl
theorem dX8_newObject_45 : decode cX8_newObject 45 = .ok (.iload 4, 2) := zdec_at bX8_newObject_29 7 rfl
theorem dX8_newObject_47 : decode cX8_newObject 47 = .ok (.iaload, 1) := zdec_at bX8_newObject_29 8 rfl
theorem dX8_newObject_48 : decode cX8_newObject 48 = .ok (.iload_n 2, 1) := zdec_at bX8_newObject_29 9 rfl
theorem dX8_newObject_49 : decode cX8_newObject 49 = .ok (.if_icmp .ne 9, 3) := zdec_at bX8_newObject_29 10 rfl
theorem dX8_newObject_52 : decode cX8_newObject 52 = .ok (.iload_n 2, 1) := zdec_at bX8_newObject_29 11 rfl
theorem dX8_newObject_53 : decode cX8_newObject 53 = .ok (.iconst 1, 1) := zdec_at bX8_newObject_29 12 rfl
theorem dX8_newObject_54 : decode cX8_newObject 54 = .ok (.iadd, 1) := zdec_at bX8_newObject_29 13 rfl
theorem dX8_newObject_55 : decode cX8_newObject 55 = .ok (.goto 10, 3) := zdec_at bX8_newObject_29 14 rfl
theorem dX8_newObject_58 : decode cX8_newObject 58 = .ok (.aload_n 0, 1) := zdec_at bX8_newObject_29 15 rfl
theorem bX8_newObject_59 : zdec cX8_newObject 59 [(59, .getfield 134, 3), (62, .iload 4, 2), (64, .iaload, 1), (65, .iastore, 1), (66, .iinc 4 1, 3), (69, .goto (-49), 3), (72, .aload_n 0, 1), (73, .getfield 843, 3), (76, .istore 4, 2), (78, .aload_n 0, 1), (79, .dup, 1), (80, .getfield 843, 3), (83, .iconst 1, 1), (84, .iadd, 1), (85, .putfield 843, 3), (88, .aload_n 0, 1)] = true := by decide +kernel
theorem dX8_newObject_59 : decode cX8_newObject 59 = .ok (.getfield 134, 3) := zdec_at bX8_newObject_59 0 rfl
theorem dX8_newObject_62 : decode cX8_newObject 62 = .ok (.iload 4, 2) := zdec_at bX8_newObject_59 1 rfl
theorem dX8_newObject_64 : decode cX8_newObject 64 = .ok (.iaload, 1) := zdec_at bX8_newObject_59 2 rfl
theorem dX8_newObject_65 : decode cX8_newObject 65 = .ok (.iastore, 1) := zdec_at bX8_newObject_59 3 rfl
theorem dX8_newObject_66 : decode cX8_newObject 66 = .ok (.iinc 4 1, 3) := zdec_at bX8_newObject_59 4 rfl
theorem dX8_newObject_69 : decode cX8_newObject 69 = .ok (.goto (-49), 3) := zdec_at bX8_newObject_59 5 rfl
theorem dX8_newObject_72 : decode cX8_newObject 72 = .ok (.aload_n 0, 1) := zdec_at bX8_newObject_59 6 rfl
theorem dX8_newObject_73 : decode cX8_newObject 73 = .ok (.getfield 843, 3) := zdec_at bX8_newObject_59 7 rfl
theorem dX8_newObject_76 : decode cX8_newObject 76 = .ok (.istore 4, 2) := zdec_at bX8_newObject_59 8 rfl
theorem dX8_newObject_78 : decode cX8_newObject 78 = .ok (.aload_n 0, 1) := zdec_at bX8_newObject_59 9 rfl
theorem dX8_newObject_79 : decode cX8_newObject 79 = .ok (.dup, 1) := zdec_at bX8_newObject_59 10 rfl
theorem dX8_newObject_80 : decode cX8_newObject 80 = .ok (.getfield 843, 3) := zdec_at bX8_newObject_59 11 rfl
theorem dX8_newObject_83 : decode cX8_newObject 83 = .ok (.iconst 1, 1) := zdec_at bX8_newObject_59 12 rfl
theorem dX8_newObject_84 : decode cX8_newObject 84 = .ok (.iadd, 1) := zdec_at bX8_newObject_59 13 rfl
theorem dX8_newObject_85 : decode cX8_newObject 85 = .ok (.putfield 843, 3) := zdec_at bX8_newObject_59 14 rfl
theorem dX8_newObject_88 : decode cX8_newObject 88 = .ok (.aload_n 0, 1) := zdec_at bX8_newObject_59 15 rfl
theorem bX8_newObject_89 : zdec cX8_newObject 89 [(89, .getfield 134, 3), (92, .iload 4, 2), (94, .iload_n 2, 1), (95, .iastore, 1), (96, .aload_n 0, 1), (97, .getfield 137, 3), (100, .iload 4, 2), (102, .iload_n 1, 1), (103, .iastore, 1), (104, .aload_n 0, 1), (105, .getfield 140, 3), (108, .iload 4, 2), (110, .iconst (-1), 1), (111, .iastore, 1), (112, .aload_n 0, 1), (113, .getfield 143, 3)] = true := by decide +kernel
theorem dX8_newObject_89 : decode cX8_newObject 89 = .ok (.getfield 134, 3) := zdec_at bX8_newObject_89 0 rfl
theorem dX8_newObject_92 : decode cX8_newObject 92 = .ok (.iload 4, 2) := zdec_at bX8_newObject_89 1 rfl
theorem dX8_newObject_94 : decode cX8_newObject 94 = .ok (.iload_n 2, 1) := zdec_at bX8_newObject_89 2 rfl
theorem dX8_newObject_95 : decode cX8_newObject 95 = .ok (.iastore, 1) := zdec_at bX8_newObject_89 3 rfl
theorem dX8_newObject_96 : decode cX8_newObject 96 = .ok (.aload_n 0, 1) := zdec_at bX8_newObject_89 4 rfl
theorem dX8_newObject_97 : decode cX8_newObject 97 = .ok (.getfield 137, 3) := zdec_at bX8_newObject_89 5 rfl
theorem dX8_newObject_100 : decode cX8_newObject 100 = .ok (.iload 4, 2) := zdec_at bX8_newObject_89 6 rfl
theorem dX8_newObject_102 : decode cX8_newObject 102 = .ok (.iload_n 1, 1) := zdec_at bX8_newObject_89 7 rfl
theorem dX8_newObject_103 : decode cX8_newObject 103 = .ok (.iastore, 1) := zdec_at bX8_newObject_89 8 rfl
theorem dX8_newObject_104 : decode cX8_newObject 104 = .ok (.aload_n 0, 1) := zdec_at bX8_newObject_89 9 rfl
theorem dX8_newObject_105 : decode cX8_newObject 105 = .ok (.getfield 140, 3) := zdec_at bX8_newObject_89 10 rfl
theorem dX8_newObject_108 : decode cX8_newObject 108 = .ok (.iload 4, 2) := zdec_at bX8_newObject_89 11 rfl
theorem dX8_newObject_110 : decode cX8_newObject 110 = .ok (.iconst (-1), 1) := zdec_at bX8_newObject_89 12 rfl
theorem dX8_newObject_111 : decode cX8_newObject 111 = .ok (.iastore, 1) := zdec_at bX8_newObject_89 13 rfl
theorem dX8_newObject_112 : decode cX8_newObject 112 = .ok (.aload_n 0, 1) := zdec_at bX8_newObject_89 14 rfl
theorem dX8_newObject_113 : decode cX8_newObject 113 = .ok (.getfield 143, 3) := zdec_at bX8_newObject_89 15 rfl
theorem bX8_newObject_116 : zdec cX8_newObject 116 [(116, .iload 4, 2), (118, .iload_n 3, 1), (119, .iastore, 1), (120, .aload_n 0, 1), (121, .getfield 146, 3), (124, .iload 4, 2), (126, .iconst 0, 1), (127, .iastore, 1), (128, .aload_n 0, 1), (129, .getfield 149, 3), (132, .iload 4, 2), (134, .iconst (-1), 1), (135, .iastore, 1), (136, .aload_n 0, 1), (137, .getfield 152, 3), (140, .iload 4, 2)] = true := by decide +kernel
theorem dX8_newObject_116 : decode cX8_newObject 116 = .ok (.iload 4, 2) := zdec_at bX8_newObject_116 0 rfl
theorem dX8_newObject_118 : decode cX8_newObject 118 = .ok (.iload_n 3, 1) := zdec_at bX8_newObject_116 1 rfl
theorem dX8_newObject_119 : decode cX8_newObject 119 = .ok (.iastore, 1) := zdec_at bX8_newObject_116 2 rfl
theorem dX8_newObject_120 : decode cX8_newObject 120 = .ok (.aload_n 0, 1) := zdec_at bX8_newObject_116 3 rfl
theorem dX8_newObject_121 : decode cX8_newObject 121 = .ok (.getfield 146, 3) := zdec_at bX8_newObject_116 4 rfl
theorem dX8_newObject_124 : decode cX8_newObject 124 = .ok (.iload 4, 2) := zdec_at bX8_newObject_116 5 rfl
theorem dX8_newObject_126 : decode cX8_newObject 126 = .ok (.iconst 0, 1) := zdec_at bX8_newObject_116 6 rfl
theorem dX8_newObject_127 : decode cX8_newObject 127 = .ok (.iastore, 1) := zdec_at bX8_newObject_116 7 rfl
theorem dX8_newObject_128 : decode cX8_newObject 128 = .ok (.aload_n 0, 1) := zdec_at bX8_newObject_116 8 rfl
theorem dX8_newObject_129 : decode cX8_newObject 129 = .ok (.getfield 149, 3) := zdec_at bX8_newObject_116 9 rfl
theorem dX8_newObject_132 : decode cX8_newObject 132 = .ok (.iload 4, 2) := zdec_at bX8_newObject_116 10 rfl
theorem dX8_newObject_134 : decode cX8_newObject 134 = .ok (.iconst (-1), 1) := zdec_at bX8_newObject_116 11 rfl
theorem dX8_newObject_135 : decode cX8_newObject 135 = .ok (.iastore, 1) := zdec_at bX8_newObject_116 12 rfl
theorem dX8_newObject_136 : decode cX8_newObject 136 = .ok (.aload_n 0, 1) := zdec_at bX8_newObject_116 13 rfl
theorem dX8_newObject_137 : decode cX8_newObject 137 = .ok (.getfield 152, 3) := zdec_at bX8_newObject_116 14 rfl
theorem dX8_newObject_140 : decode cX8_newObject 140 = .ok (.iload 4, 2) := zdec_at bX8_newObject_116 15 rfl
theorem bX8_newObject_142 : zdec cX8_newObject 142 [(142, .iconst (-1), 1), (143, .iastore, 1), (144, .iload 4, 2), (146, .ireturn, 1)] = true := by decide +kernel
theorem dX8_newObject_142 : decode cX8_newObject 142 = .ok (.iconst (-1), 1) := zdec_at bX8_newObject_142 0 rfl
theorem dX8_newObject_143 : decode cX8_newObject 143 = .ok (.iastore, 1) := zdec_at bX8_newObject_142 1 rfl
theorem dX8_newObject_144 : decode cX8_newObject 144 = .ok (.iload 4, 2) := zdec_at bX8_newObject_142 2 rfl
theorem dX8_newObject_146 : decode cX8_newObject 146 = .ok (.ireturn, 1) := zdec_at bX8_newObject_142 3 rfl
theorem sX8_newObject_0 {E : zE} {d : Nat} {Q : zO → zM → Prop} (M : zM) (l1 : Int32) (l2 : Int32) (l3 : Int32) (k : if (gi M 97 76) = (300 : Int32) then (Q (.inl (some (vi (0 : Int32)))) (si M 97 75 (1 : Int32))) else (Zm E YX8_newObject d M [(0, vr (some (97, 1, 0))), (1, vi l1), (2, vi l2), (3, vi l3), (4, vi (0 : Int32))] 20 [] Q)) : Zm E YX8_newObject d M [(0, vr (some (97, 1, 0))), (1, vi l1), (2, vi l2), (3, vi l3)] 0 [] Q := by
  refine Zm.l (fun _ _ k_ => z_aload_n dX8_newObject_0 rfl rfl k_) ?_
  refine zm_geti dX8_newObject_1 fsX8_843_1 (by decide) (by decide) ?_
  refine Zm.l (fun _ _ k_ => z_sipush (v := 300) dX8_newObject_4 rfl k_) ?_
  refine Zm.brn (fun _ _ k1_ k2_ => z_icmp_ne (tgt := 17) dX8_newObject_7 rfl k1_ k2_) (fun h_ => ?_) (fun h_ => ?_)
  · have k := zif h_ k
    refine Zm.l (fun _ _ k_ => z_iconst (v := 0) dX8_newObject_17 rfl k_) ?_
    refine Zm.l (fun _ _ k_ => z_ist dX8_newObject_18 (by decide) (lv' := [(0, vr (some (97, 1, 0))), (1, vi l1), (2, vi l2), (3, vi l3), (4, vi (0 : Int32))]) rfl k_) ?_
    exact k
  · have k := zit h_ k
    refine Zm.l (fun _ _ k_ => z_aload_n dX8_newObject_10 rfl rfl k_) ?_
    refine Zm.l (fun _ _ k_ => z_iconst (v := 1) dX8_newObject_11 rfl k_) ?_
    refine zm_puti (by decide) (by decide) dX8_newObject_12 (zfwN.w fwX8_794_1) rfl ⟨by decide, by decide⟩ ?_
    refine Zm.l (fun _ _ k_ => z_iconst (v := 0) dX8_newObject_15 rfl k_) ?_
    exact zm_iret dX8_newObject_16 rfl rfl k
theorem sX8_newObject_20 {E : zE} {d : Nat} {Q : zO → zM → Prop} (M : zM) (l1 : Int32) (l2 : Int32) (l3 : Int32) (l4 : Int32) (k : if l2 < (29 : Int32) then (Zm E YX8_newObject d M [(0, vr (some (97, 1, 0))), (1, vi l1), (2, vi l2), (3, vi l3)] 72 [] Q) else (if (gi M 97 76) ≤ l4 then (Zm E YX8_newObject d M [(0, vr (some (97, 1, 0))), (1, vi l1), (2, vi l2), (3, vi l3)] 72 [] Q) else (vp_in l4 300 ∧ (if (gi M 138 (l4).toNatClampNeg) = l2 then (vp_in l4 300 ∧ (Zm E YX8_newObject d (si M 138 (l4).toNatClampNeg (l2 + (1 : Int32))) [(0, vr (some (97, 1, 0))), (1, vi l1), (2, vi l2), (3, vi l3), (4, vi (l4 + (1 : Int32)))] 20 [] Q)) else (vp_in l4 300 ∧ (vp_in l4 300 ∧ (Zm E YX8_newObject d (si M 138 (l4).toNatClampNeg (gi M 138 (l4).toNatClampNeg)) [(0, vr (some (97, 1, 0))), (1, vi l1), (2, vi l2), (3, vi l3), (4, vi (l4 + (1 : Int32)))] 20 [] Q))))))) : Zm E YX8_newObject d M [(0, vr (some (97, 1, 0))), (1, vi l1), (2, vi l2), (3, vi l3), (4, vi l4)] 20 [] Q := by
  refine Zm.l (fun _ _ k_ => z_iload_n dX8_newObject_20 rfl rfl k_) ?_
  refine Zm.l (fun _ _ k_ => z_bipush (v := 29) dX8_newObject_21 rfl k_) ?_
  refine Zm.br (fun _ _ k1_ k2_ => z_icmp_lt (tgt := 72) dX8_newObject_23 rfl k1_ k2_) (fun h_ => ?_) (fun h_ => ?_)
  · have k := zit h_ k
    refine Zm.pick [0, 1, 2, 3] rfl ?_
    exact k
  · have k := zif h_ k
    refine Zm.l (fun _ _ k_ => z_iload dX8_newObject_26 rfl k_) ?_
    refine Zm.l (fun _ _ k_ => z_aload_n dX8_newObject_28 rfl rfl k_) ?_
    refine zm_geti dX8_newObject_29 fsX8_843_1 (by decide) (by decide) ?_
    refine Zm.br (fun _ _ k1_ k2_ => z_icmp_ge (tgt := 72) dX8_newObject_32 rfl k1_ k2_) (fun h_ => ?_) (fun h_ => ?_)
    · have k := zit h_ k
      refine Zm.pick [0, 1, 2, 3] rfl ?_
      exact k
    · have k := zif h_ k
      refine Zm.l (fun _ _ k_ => z_aload_n dX8_newObject_35 rfl rfl k_) ?_
      refine zm_getr 35 dX8_newObject_36 fsX8_134_1 rfl ?_
      refine Zm.l (fun _ _ k_ => z_iload dX8_newObject_39 rfl k_) ?_
      refine Zm.l (fun _ _ k_ => z_aload_n dX8_newObject_41 rfl rfl k_) ?_
      refine zm_getr 35 dX8_newObject_42 fsX8_134_1 rfl ?_
      refine Zm.l (fun _ _ k_ => z_iload dX8_newObject_45 rfl k_) ?_
      obtain ⟨b_, k⟩ := k
      refine zm_iald dX8_newObject_47 b_ (by decide) (by decide) ?_
      refine Zm.l (fun _ _ k_ => z_iload_n dX8_newObject_48 rfl rfl k_) ?_
      refine Zm.brn (fun _ _ k1_ k2_ => z_icmp_ne (tgt := 58) dX8_newObject_49 rfl k1_ k2_) (fun h_ => ?_) (fun h_ => ?_)
      · have k := zif h_ k
        refine Zm.l (fun _ _ k_ => z_aload_n dX8_newObject_58 rfl rfl k_) ?_
        refine zm_getr 35 dX8_newObject_59 fsX8_134_1 rfl ?_
        refine Zm.l (fun _ _ k_ => z_iload dX8_newObject_62 rfl k_) ?_
        obtain ⟨b_, k⟩ := k
        refine zm_iald dX8_newObject_64 b_ (by decide) (by decide) ?_
        obtain ⟨b_, k⟩ := k
        refine zm_iast dX8_newObject_65 b_ (by decide) (by decide) ?_
        refine Zm.l (fun _ _ k_ => z_inc (v := (l4 + (1 : Int32))) dX8_newObject_66 rfl rfl (by decide) (lv' := [(0, vr (some (97, 1, 0))), (1, vi l1), (2, vi l2), (3, vi l3), (4, vi (l4 + (1 : Int32)))]) rfl k_) ?_
        refine Zm.l (fun _ _ k_ => z_goto (tgt := 20) dX8_newObject_69 rfl k_) ?_
        exact k
      · have k := zit h_ k
        refine Zm.l (fun _ _ k_ => z_iload_n dX8_newObject_52 rfl rfl k_) ?_
        refine Zm.l (fun _ _ k_ => z_iconst (v := 1) dX8_newObject_53 rfl k_) ?_
        refine Zm.l (fun _ _ k_ => z_iadd dX8_newObject_54 k_) ?_
        refine Zm.l (fun _ _ k_ => z_goto (tgt := 65) dX8_newObject_55 rfl k_) ?_
        obtain ⟨b_, k⟩ := k
        refine zm_iast dX8_newObject_65 b_ (by decide) (by decide) ?_
        refine Zm.l (fun _ _ k_ => z_inc (v := (l4 + (1 : Int32))) dX8_newObject_66 rfl rfl (by decide) (lv' := [(0, vr (some (97, 1, 0))), (1, vi l1), (2, vi l2), (3, vi l3), (4, vi (l4 + (1 : Int32)))]) rfl k_) ?_
        refine Zm.l (fun _ _ k_ => z_goto (tgt := 20) dX8_newObject_69 rfl k_) ?_
        exact k
theorem sX8_newObject_72 {E : zE} {d : Nat} {Q : zO → zM → Prop} (M : zM) (l1 : Int32) (l2 : Int32) (l3 : Int32) (k : vp_in (gi M 97 76) 300 ∧ (vp_in (gi M 97 76) 300 ∧ (vp_in (gi M 97 76) 300 ∧ (vp_in (gi M 97 76) 300 ∧ (vp_in (gi M 97 76) 300 ∧ (vp_in (gi M 97 76) 300 ∧ (vp_in (gi M 97 76) 300 ∧ (Q (.inl (some (vi (gi M 97 76)))) (si (si (si (si (si (si (si (si M 97 76 ((gi M 97 76) + (1 : Int32))) 138 ((gi M 97 76)).toNatClampNeg l2) 139 ((gi M 97 76)).toNatClampNeg l1) 140 ((gi M 97 76)).toNatClampNeg (-1 : Int32)) 141 ((gi M 97 76)).toNatClampNeg l3) 142 ((gi M 97 76)).toNatClampNeg (0 : Int32)) 143 ((gi M 97 76)).toNatClampNeg (-1 : Int32)) 144 ((gi M 97 76)).toNatClampNeg (-1 : Int32)))))))))) : Zm E YX8_newObject d M [(0, vr (some (97, 1, 0))), (1, vi l1), (2, vi l2), (3, vi l3)] 72 [] Q := by
  refine Zm.l (fun _ _ k_ => z_aload_n dX8_newObject_72 rfl rfl k_) ?_
  refine zm_geti dX8_newObject_73 fsX8_843_1 (by decide) (by decide) ?_
  refine Zm.l (fun _ _ k_ => z_ist dX8_newObject_76 (by decide) (lv' := [(0, vr (some (97, 1, 0))), (1, vi l1), (2, vi l2), (3, vi l3), (4, vi (gi M 97 76))]) rfl k_) ?_
  refine Zm.l (fun _ _ k_ => z_aload_n dX8_newObject_78 rfl rfl k_) ?_
  refine Zm.l (fun _ _ k_ => z_dup dX8_newObject_79 rfl k_) ?_
  refine zm_geti dX8_newObject_80 fsX8_843_1 (by decide) (by decide) ?_
  refine Zm.l (fun _ _ k_ => z_iconst (v := 1) dX8_newObject_83 rfl k_) ?_
  refine Zm.l (fun _ _ k_ => z_iadd dX8_newObject_84 k_) ?_
  refine zm_puti (by decide) (by decide) dX8_newObject_85 (zfwN.w fwX8_843_1) rfl ⟨rfl, rfl⟩ ?_
  refine Zm.l (fun _ _ k_ => z_aload_n dX8_newObject_88 rfl rfl k_) ?_
  refine zm_getr 35 dX8_newObject_89 fsX8_134_1 rfl ?_
  refine Zm.l (fun _ _ k_ => z_iload dX8_newObject_92 rfl k_) ?_
  refine Zm.l (fun _ _ k_ => z_iload_n dX8_newObject_94 rfl rfl k_) ?_
  obtain ⟨b_, k⟩ := k
  refine zm_iast dX8_newObject_95 b_ (by decide) (by decide) ?_
  refine Zm.l (fun _ _ k_ => z_aload_n dX8_newObject_96 rfl rfl k_) ?_
  refine zm_getr 36 dX8_newObject_97 fsX8_137_1 rfl ?_
  refine Zm.l (fun _ _ k_ => z_iload dX8_newObject_100 rfl k_) ?_
  refine Zm.l (fun _ _ k_ => z_iload_n dX8_newObject_102 rfl rfl k_) ?_
  obtain ⟨b_, k⟩ := k
  refine zm_iast dX8_newObject_103 b_ (by decide) (by decide) ?_
  refine Zm.l (fun _ _ k_ => z_aload_n dX8_newObject_104 rfl rfl k_) ?_
  refine zm_getr 37 dX8_newObject_105 fsX8_140_1 rfl ?_
  refine Zm.l (fun _ _ k_ => z_iload dX8_newObject_108 rfl k_) ?_
  refine Zm.l (fun _ _ k_ => z_iconst (v := -1) dX8_newObject_110 rfl k_) ?_
  obtain ⟨b_, k⟩ := k
  refine zm_iast dX8_newObject_111 b_ (by decide) (by decide) ?_
  refine Zm.l (fun _ _ k_ => z_aload_n dX8_newObject_112 rfl rfl k_) ?_
  refine zm_getr 38 dX8_newObject_113 fsX8_143_1 rfl ?_
  refine Zm.l (fun _ _ k_ => z_iload dX8_newObject_116 rfl k_) ?_
  refine Zm.l (fun _ _ k_ => z_iload_n dX8_newObject_118 rfl rfl k_) ?_
  obtain ⟨b_, k⟩ := k
  refine zm_iast dX8_newObject_119 b_ (by decide) (by decide) ?_
  refine Zm.l (fun _ _ k_ => z_aload_n dX8_newObject_120 rfl rfl k_) ?_
  refine zm_getr 39 dX8_newObject_121 fsX8_146_1 rfl ?_
  refine Zm.l (fun _ _ k_ => z_iload dX8_newObject_124 rfl k_) ?_
  refine Zm.l (fun _ _ k_ => z_iconst (v := 0) dX8_newObject_126 rfl k_) ?_
  obtain ⟨b_, k⟩ := k
  refine zm_iast dX8_newObject_127 b_ (by decide) (by decide) ?_
  refine Zm.l (fun _ _ k_ => z_aload_n dX8_newObject_128 rfl rfl k_) ?_
  refine zm_getr 40 dX8_newObject_129 fsX8_149_1 rfl ?_
  refine Zm.l (fun _ _ k_ => z_iload dX8_newObject_132 rfl k_) ?_
  refine Zm.l (fun _ _ k_ => z_iconst (v := -1) dX8_newObject_134 rfl k_) ?_
  obtain ⟨b_, k⟩ := k
  refine zm_iast dX8_newObject_135 b_ (by decide) (by decide) ?_
  refine Zm.l (fun _ _ k_ => z_aload_n dX8_newObject_136 rfl rfl k_) ?_
  refine zm_getr 41 dX8_newObject_137 fsX8_152_1 rfl ?_
  refine Zm.l (fun _ _ k_ => z_iload dX8_newObject_140 rfl k_) ?_
  refine Zm.l (fun _ _ k_ => z_iconst (v := -1) dX8_newObject_142 rfl k_) ?_
  obtain ⟨b_, k⟩ := k
  refine zm_iast dX8_newObject_143 b_ (by decide) (by decide) ?_
  refine Zm.l (fun _ _ k_ => z_iload dX8_newObject_144 rfl k_) ?_
  exact zm_iret dX8_newObject_146 rfl rfl k
/-! ScriptTypesModel.set(IIII)V -/
theorem bX8_set_2_0 : zdec cX8_set_2 0 [(0, .aload_n 0, 1), (1, .iload_n 1, 1), (2, .iload_n 2, 1), (3, .invokevirtual 846, 3), (6, .istore 5, 2), (8, .iload 5, 2), (10, .iconst (-1), 1), (11, .if_icmp .ne 125, 3), (14, .aload_n 0, 1), (15, .getfield 849, 3), (18, .sipush 3000, 3), (21, .if_icmp .ne 9, 3), (24, .aload_n 0, 1), (25, .iconst 1, 1), (26, .putfield 794, 3), (29, .return_, 1)] = true := by decide +kernel
theorem dX8_set_2_0 : decode cX8_set_2 0 = .ok (.aload_n 0, 1) := zdec_at bX8_set_2_0 0 rfl
theorem dX8_set_2_1 : decode cX8_set_2 1 = .ok (.iload_n 1, 1) := zdec_at bX8_set_2_0 1 rfl
theorem dX8_set_2_2 : decode cX8_set_2 2 = .ok (.iload_n 2, 1) := zdec_at bX8_set_2_0 2 rfl
theorem dX8_set_2_3 : decode cX8_set_2 3 = .ok (.invokevirtual 846, 3) := zdec_at bX8_set_2_0 3 rfl
theorem dX8_set_2_6 : decode cX8_set_2 6 = .ok (.istore 5, 2) := zdec_at bX8_set_2_0 4 rfl
theorem dX8_set_2_8 : decode cX8_set_2 8 = .ok (.iload 5, 2) := zdec_at bX8_set_2_0 5 rfl
theorem dX8_set_2_10 : decode cX8_set_2 10 = .ok (.iconst (-1), 1) := zdec_at bX8_set_2_0 6 rfl
theorem dX8_set_2_11 : decode cX8_set_2 11 = .ok (.if_icmp .ne 125, 3) := zdec_at bX8_set_2_0 7 rfl
theorem dX8_set_2_14 : decode cX8_set_2 14 = .ok (.aload_n 0, 1) := zdec_at bX8_set_2_0 8 rfl
theorem dX8_set_2_15 : decode cX8_set_2 15 = .ok (.getfield 849, 3) := zdec_at bX8_set_2_0 9 rfl
theorem dX8_set_2_18 : decode cX8_set_2 18 = .ok (.sipush 3000, 3) := zdec_at bX8_set_2_0 10 rfl
theorem dX8_set_2_21 : decode cX8_set_2 21 = .ok (.if_icmp .ne 9, 3) := zdec_at bX8_set_2_0 11 rfl
theorem dX8_set_2_24 : decode cX8_set_2 24 = .ok (.aload_n 0, 1) := zdec_at bX8_set_2_0 12 rfl
theorem dX8_set_2_25 : decode cX8_set_2 25 = .ok (.iconst 1, 1) := zdec_at bX8_set_2_0 13 rfl
theorem dX8_set_2_26 : decode cX8_set_2 26 = .ok (.putfield 794, 3) := zdec_at bX8_set_2_0 14 rfl
theorem dX8_set_2_29 : decode cX8_set_2 29 = .ok (.return_, 1) := zdec_at bX8_set_2_0 15 rfl
theorem bX8_set_2_30 : zdec cX8_set_2 30 [(30, .aload_n 0, 1), (31, .getfield 852, 3), (34, .istore 5, 2), (36, .aload_n 0, 1), (37, .aload_n 0, 1), (38, .getfield 167, 3), (41, .iload 5, 2), (43, .iaload, 1), (44, .putfield 852, 3), (47, .aload_n 0, 1), (48, .dup, 1), (49, .getfield 849, 3), (52, .iconst 1, 1), (53, .iadd, 1), (54, .putfield 849, 3), (57, .aload_n 0, 1)] = true := by decide +kernel
theorem dX8_set_2_30 : decode cX8_set_2 30 = .ok (.aload_n 0, 1) := zdec_at bX8_set_2_30 0 rfl
theorem dX8_set_2_31 : decode cX8_set_2 31 = .ok (.getfield 852, 3) := zdec_at bX8_set_2_30 1 rfl
theorem dX8_set_2_34 : decode cX8_set_2 34 = .ok (.istore 5, 2) := zdec_at bX8_set_2_30 2 rfl
theorem dX8_set_2_36 : decode cX8_set_2 36 = .ok (.aload_n 0, 1) := zdec_at bX8_set_2_30 3 rfl
theorem dX8_set_2_37 : decode cX8_set_2 37 = .ok (.aload_n 0, 1) := zdec_at bX8_set_2_30 4 rfl
theorem dX8_set_2_38 : decode cX8_set_2 38 = .ok (.getfield 167, 3) := zdec_at bX8_set_2_30 5 rfl
theorem dX8_set_2_41 : decode cX8_set_2 41 = .ok (.iload 5, 2) := zdec_at bX8_set_2_30 6 rfl
theorem dX8_set_2_43 : decode cX8_set_2 43 = .ok (.iaload, 1) := zdec_at bX8_set_2_30 7 rfl
theorem dX8_set_2_44 : decode cX8_set_2 44 = .ok (.putfield 852, 3) := zdec_at bX8_set_2_30 8 rfl
theorem dX8_set_2_47 : decode cX8_set_2 47 = .ok (.aload_n 0, 1) := zdec_at bX8_set_2_30 9 rfl
theorem dX8_set_2_48 : decode cX8_set_2 48 = .ok (.dup, 1) := zdec_at bX8_set_2_30 10 rfl
theorem dX8_set_2_49 : decode cX8_set_2 49 = .ok (.getfield 849, 3) := zdec_at bX8_set_2_30 11 rfl
theorem dX8_set_2_52 : decode cX8_set_2 52 = .ok (.iconst 1, 1) := zdec_at bX8_set_2_30 12 rfl
theorem dX8_set_2_53 : decode cX8_set_2 53 = .ok (.iadd, 1) := zdec_at bX8_set_2_30 13 rfl
theorem dX8_set_2_54 : decode cX8_set_2 54 = .ok (.putfield 849, 3) := zdec_at bX8_set_2_30 14 rfl
theorem dX8_set_2_57 : decode cX8_set_2 57 = .ok (.aload_n 0, 1) := zdec_at bX8_set_2_30 15 rfl
theorem bX8_set_2_58 : zdec cX8_set_2 58 [(58, .getfield 155, 3), (61, .iload 5, 2), (63, .iload_n 2, 1), (64, .iastore, 1), (65, .aload_n 0, 1), (66, .dup, 1), (67, .getfield 855, 3), (70, .iconst 1, 1), (71, .iadd, 1), (72, .putfield 855, 3), (75, .aload_n 0, 1), (76, .getfield 164, 3), (79, .iload 5, 2), (81, .aload_n 0, 1), (82, .getfield 855, 3), (85, .iastore, 1)] = true := by decide +kernel
theorem dX8_set_2_58 : decode cX8_set_2 58 = .ok (.getfield 155, 3) := zdec_at bX8_set_2_58 0 rfl
theorem dX8_set_2_61 : decode cX8_set_2 61 = .ok (.iload 5, 2) := zdec_at bX8_set_2_58 1 rfl
theorem dX8_set_2_63 : decode cX8_set_2 63 = .ok (.iload_n 2, 1) := zdec_at bX8_set_2_58 2 rfl
theorem dX8_set_2_64 : decode cX8_set_2 64 = .ok (.iastore, 1) := zdec_at bX8_set_2_58 3 rfl
theorem dX8_set_2_65 : decode cX8_set_2 65 = .ok (.aload_n 0, 1) := zdec_at bX8_set_2_58 4 rfl
theorem dX8_set_2_66 : decode cX8_set_2 66 = .ok (.dup, 1) := zdec_at bX8_set_2_58 5 rfl
theorem dX8_set_2_67 : decode cX8_set_2 67 = .ok (.getfield 855, 3) := zdec_at bX8_set_2_58 6 rfl
theorem dX8_set_2_70 : decode cX8_set_2 70 = .ok (.iconst 1, 1) := zdec_at bX8_set_2_58 7 rfl
theorem dX8_set_2_71 : decode cX8_set_2 71 = .ok (.iadd, 1) := zdec_at bX8_set_2_58 8 rfl
theorem dX8_set_2_72 : decode cX8_set_2 72 = .ok (.putfield 855, 3) := zdec_at bX8_set_2_58 9 rfl
theorem dX8_set_2_75 : decode cX8_set_2 75 = .ok (.aload_n 0, 1) := zdec_at bX8_set_2_58 10 rfl
theorem dX8_set_2_76 : decode cX8_set_2 76 = .ok (.getfield 164, 3) := zdec_at bX8_set_2_58 11 rfl
theorem dX8_set_2_79 : decode cX8_set_2 79 = .ok (.iload 5, 2) := zdec_at bX8_set_2_58 12 rfl
theorem dX8_set_2_81 : decode cX8_set_2 81 = .ok (.aload_n 0, 1) := zdec_at bX8_set_2_58 13 rfl
theorem dX8_set_2_82 : decode cX8_set_2 82 = .ok (.getfield 855, 3) := zdec_at bX8_set_2_58 14 rfl
theorem dX8_set_2_85 : decode cX8_set_2 85 = .ok (.iastore, 1) := zdec_at bX8_set_2_58 15 rfl
theorem bX8_set_2_86 : zdec cX8_set_2 86 [(86, .aload_n 0, 1), (87, .getfield 167, 3), (90, .iload 5, 2), (92, .iconst (-1), 1), (93, .iastore, 1), (94, .aload_n 0, 1), (95, .getfield 152, 3), (98, .iload_n 1, 1), (99, .iaload, 1), (100, .iconst (-1), 1), (101, .if_icmp .ne 14, 3), (104, .aload_n 0, 1), (105, .getfield 149, 3), (108, .iload_n 1, 1), (109, .iload 5, 2), (111, .iastore, 1)] = true := by decide +kernel
theorem dX8_set_2_86 : decode cX8_set_2 86 = .ok (.aload_n 0, 1) := zdec_at bX8_set_2_86 0 rfl
theorem dX8_set_2_87 : decode cX8_set_2 87 = .ok (.getfield 167, 3) := zdec_at bX8_set_2_86 1 rfl
theorem dX8_set_2_90 : decode cX8_set_2 90 = .ok (.iload 5, 2) := zdec_at bX8_set_2_86 2 rfl
theorem dX8_set_2_92 : decode cX8_set_2 92 = .ok (.iconst (-1), 1) := zdec_at bX8_set_2_86 3 rfl
theorem dX8_set_2_93 : decode cX8_set_2 93 = .ok (.iastore, 1) := zdec_at bX8_set_2_86 4 rfl
theorem dX8_set_2_94 : decode cX8_set_2 94 = .ok (.aload_n 0, 1) := zdec_at bX8_set_2_86 5 rfl
theorem dX8_set_2_95 : decode cX8_set_2 95 = .ok (.getfield 152, 3) := zdec_at bX8_set_2_86 6 rfl
theorem dX8_set_2_98 : decode cX8_set_2 98 = .ok (.iload_n 1, 1) := zdec_at bX8_set_2_86 7 rfl
theorem dX8_set_2_99 : decode cX8_set_2 99 = .ok (.iaload, 1) := zdec_at bX8_set_2_86 8 rfl
theorem dX8_set_2_100 : decode cX8_set_2 100 = .ok (.iconst (-1), 1) := zdec_at bX8_set_2_86 9 rfl
theorem dX8_set_2_101 : decode cX8_set_2 101 = .ok (.if_icmp .ne 14, 3) := zdec_at bX8_set_2_86 10 rfl
theorem dX8_set_2_104 : decode cX8_set_2 104 = .ok (.aload_n 0, 1) := zdec_at bX8_set_2_86 11 rfl
theorem dX8_set_2_105 : decode cX8_set_2 105 = .ok (.getfield 149, 3) := zdec_at bX8_set_2_86 12 rfl
theorem dX8_set_2_108 : decode cX8_set_2 108 = .ok (.iload_n 1, 1) := zdec_at bX8_set_2_86 13 rfl
theorem dX8_set_2_109 : decode cX8_set_2 109 = .ok (.iload 5, 2) := zdec_at bX8_set_2_86 14 rfl
theorem dX8_set_2_111 : decode cX8_set_2 111 = .ok (.iastore, 1) := zdec_at bX8_set_2_86 15 rfl
theorem bX8_set_2_112 : zdec cX8_set_2 112 [(112, .goto 16, 3), (115, .aload_n 0, 1), (116, .getfield 167, 3), (119, .aload_n 0, 1), (120, .getfield 152, 3), (123, .iload_n 1, 1), (124, .iaload, 1), (125, .iload 5, 2), (127, .iastore, 1), (128, .aload_n 0, 1), (129, .getfield 152, 3), (132, .iload_n 1, 1), (133, .iload 5, 2), (135, .iastore, 1), (136, .aload_n 0, 1), (137, .getfield 158, 3)] = true := by decide +kernel
theorem dX8_set_2_112 : decode cX8_set_2 112 = .ok (.goto 16, 3) := zdec_at bX8_set_2_112 0 rfl
theorem dX8_set_2_115 : decode cX8_set_2 115 = .ok (.aload_n 0, 1) := zdec_at bX8_set_2_112 1 rfl
theorem dX8_set_2_116 : decode cX8_set_2 116 = .ok (.getfield 167, 3) := zdec_at bX8_set_2_112 2 rfl
theorem dX8_set_2_119 : decode cX8_set_2 119 = .ok (.aload_n 0, 1) := zdec_at bX8_set_2_112 3 rfl
theorem dX8_set_2_120 : decode cX8_set_2 120 = .ok (.getfield 152, 3) := zdec_at bX8_set_2_112 4 rfl
theorem dX8_set_2_123 : decode cX8_set_2 123 = .ok (.iload_n 1, 1) := zdec_at bX8_set_2_112 5 rfl
theorem dX8_set_2_124 : decode cX8_set_2 124 = .ok (.iaload, 1) := zdec_at bX8_set_2_112 6 rfl
theorem dX8_set_2_125 : decode cX8_set_2 125 = .ok (.iload 5, 2) := zdec_at bX8_set_2_112 7 rfl
theorem dX8_set_2_127 : decode cX8_set_2 127 = .ok (.iastore, 1) := zdec_at bX8_set_2_112 8 rfl
theorem dX8_set_2_128 : decode cX8_set_2 128 = .ok (.aload_n 0, 1) := zdec_at bX8_set_2_112 9 rfl
theorem dX8_set_2_129 : decode cX8_set_2 129 = .ok (.getfield 152, 3) := zdec_at bX8_set_2_112 10 rfl
theorem dX8_set_2_132 : decode cX8_set_2 132 = .ok (.iload_n 1, 1) := zdec_at bX8_set_2_112 11 rfl
theorem dX8_set_2_133 : decode cX8_set_2 133 = .ok (.iload 5, 2) := zdec_at bX8_set_2_112 12 rfl
theorem dX8_set_2_135 : decode cX8_set_2 135 = .ok (.iastore, 1) := zdec_at bX8_set_2_112 13 rfl
theorem dX8_set_2_136 : decode cX8_set_2 136 = .ok (.aload_n 0, 1) := zdec_at bX8_set_2_112 14 rfl
theorem dX8_set_2_137 : decode cX8_set_2 137 = .ok (.getfield 158, 3) := zdec_at bX8_set_2_112 15 rfl
theorem bX8_set_2_140 : zdec cX8_set_2 140 [(140, .iload 5, 2), (142, .iload_n 3, 1), (143, .iastore, 1), (144, .aload_n 0, 1), (145, .getfield 161, 3), (148, .iload 5, 2), (150, .iload 4, 2), (152, .iastore, 1), (153, .return_, 1)] = true := by decide +kernel
theorem dX8_set_2_140 : decode cX8_set_2 140 = .ok (.iload 5, 2) := zdec_at bX8_set_2_140 0 rfl
theorem dX8_set_2_142 : decode cX8_set_2 142 = .ok (.iload_n 3, 1) := zdec_at bX8_set_2_140 1 rfl
theorem dX8_set_2_143 : decode cX8_set_2 143 = .ok (.iastore, 1) := zdec_at bX8_set_2_140 2 rfl
theorem dX8_set_2_144 : decode cX8_set_2 144 = .ok (.aload_n 0, 1) := zdec_at bX8_set_2_140 3 rfl
theorem dX8_set_2_145 : decode cX8_set_2 145 = .ok (.getfield 161, 3) := zdec_at bX8_set_2_140 4 rfl
theorem dX8_set_2_148 : decode cX8_set_2 148 = .ok (.iload 5, 2) := zdec_at bX8_set_2_140 5 rfl
theorem dX8_set_2_150 : decode cX8_set_2 150 = .ok (.iload 4, 2) := zdec_at bX8_set_2_140 6 rfl
theorem dX8_set_2_152 : decode cX8_set_2 152 = .ok (.iastore, 1) := zdec_at bX8_set_2_140 7 rfl
theorem dX8_set_2_153 : decode cX8_set_2 153 = .ok (.return_, 1) := zdec_at bX8_set_2_140 8 rfl
theorem sX8_set_2_0 {E : zE} {d : Nat} {Q : zO → zM → Prop} (M : zM) (l1 : Int32) (l2 : Int32) (l3 : Int32) (l4 : Int32) (k : Zm E YX8_findProperty d M (zargs 0 [vr (some (97, 1, 0)), vi l1, vi l2]) 0 [] (zma E YX8_set_2 (d + 1) [(0, vr (some (97, 1, 0))), (1, vi l1), (2, vi l2), (3, vi l3), (4, vi l4)] 3 3 [] Q)) : Zm E YX8_set_2 (d + 1) M [(0, vr (some (97, 1, 0))), (1, vi l1), (2, vi l2), (3, vi l3), (4, vi l4)] 0 [] Q := by
  refine Zm.l (fun _ _ k_ => z_aload_n dX8_set_2_0 rfl rfl k_) ?_
  refine Zm.l (fun _ _ k_ => z_iload_n dX8_set_2_1 rfl rfl k_) ?_
  refine Zm.l (fun _ _ k_ => z_iload_n dX8_set_2_2 rfl rfl k_) ?_
  exact zm_callV (as := [vi l1, vi l2]) (st := []) dX8_set_2_3 vsX8_846_1 (Nat.le_refl _) (Nat.le_of_ble_eq_true rfl) (Nat.le_of_ble_eq_true rfl) rfl k
theorem sX8_set_2_6 {E : zE} {d : Nat} {Q : zO → zM → Prop} (M : zM) (l1 : Int32) (l2 : Int32) (l3 : Int32) (l4 : Int32) (s0 : Int32) (k : if s0 = (-1 : Int32) then (if (gi M 97 84) = (3000 : Int32) then (Q (.inl none) (si M 97 75 (1 : Int32))) else (vp_in (gi M 97 85) 3000 ∧ (vp_in (gi M 97 85) 3000 ∧ (vp_in (gi M 97 85) 3000 ∧ (vp_in (gi M 97 85) 3000 ∧ (vp_in l1 300 ∧ (if (gi M 144 (l1).toNatClampNeg) = (-1 : Int32) then (vp_in l1 300 ∧ (vp_in l1 300 ∧ (Zm E YX8_set_2 (d + 1) (si (si (si (si (si (si (si (si M 97 85 (gi M 149 ((gi M 97 85)).toNatClampNeg)) 97 84 ((gi M 97 84) + (1 : Int32))) 145 ((gi M 97 85)).toNatClampNeg l2) 97 86 ((gi M 97 86) + (1 : Int32))) 148 ((gi M 97 85)).toNatClampNeg ((gi M 97 86) + (1 : Int32))) 149 ((gi M 97 85)).toNatClampNeg (-1 : Int32)) 143 (l1).toNatClampNeg (gi M 97 85)) 144 (l1).toNatClampNeg (gi M 97 85)) [(0, vr (some (97, 1, 0))), (3, vi l3), (4, vi l4), (5, vi (gi M 97 85))] 136 [] Q))) else (vp_in l1 300 ∧ (vp_in (gi M 144 (l1).toNatClampNeg) 3000 ∧ (vp_in l1 300 ∧ (Zm E YX8_set_2 (d + 1) (si (si (si (si (si (si (si (si M 97 85 (gi M 149 ((gi M 97 85)).toNatClampNeg)) 97 84 ((gi M 97 84) + (1 : Int32))) 145 ((gi M 97 85)).toNatClampNeg l2) 97 86 ((gi M 97 86) + (1 : Int32))) 148 ((gi M 97 85)).toNatClampNeg ((gi M 97 86) + (1 : Int32))) 149 ((gi M 97 85)).toNatClampNeg (-1 : Int32)) 149 ((gi M 144 (l1).toNatClampNeg)).toNatClampNeg (gi M 97 85)) 144 (l1).toNatClampNeg (gi M 97 85)) [(0, vr (some (97, 1, 0))), (3, vi l3), (4, vi l4), (5, vi (gi M 97 85))] 136 [] Q))))))))))) else (Zm E YX8_set_2 (d + 1) M [(0, vr (some (97, 1, 0))), (3, vi l3), (4, vi l4), (5, vi s0)] 136 [] Q)) : Zm E YX8_set_2 (d + 1) M [(0, vr (some (97, 1, 0))), (1, vi l1), (2, vi l2), (3, vi l3), (4, vi l4)] 6 [vi s0] Q := by
  refine Zm.l (fun _ _ k_ => z_ist dX8_set_2_6 (by decide) (lv' := [(0, vr (some (97, 1, 0))), (1, vi l1), (2, vi l2), (3, vi l3), (4, vi l4), (5, vi s0)]) rfl k_) ?_
  refine Zm.l (fun _ _ k_ => z_iload dX8_set_2_8 rfl k_) ?_
  refine Zm.l (fun _ _ k_ => z_iconst (v := -1) dX8_set_2_10 rfl k_) ?_
  refine Zm.brn (fun _ _ k1_ k2_ => z_icmp_ne (tgt := 136) dX8_set_2_11 rfl k1_ k2_) (fun h_ => ?_) (fun h_ => ?_)
  · have k := zif h_ k
    refine Zm.pick [0, 3, 4, 5] rfl ?_
    exact k
  · have k := zit h_ k
    refine Zm.l (fun _ _ k_ => z_aload_n dX8_set_2_14 rfl rfl k_) ?_
    refine zm_geti dX8_set_2_15 fsX8_849_1 (by decide) (by decide) ?_
    refine Zm.l (fun _ _ k_ => z_sipush (v := 3000) dX8_set_2_18 rfl k_) ?_
    refine Zm.brn (fun _ _ k1_ k2_ => z_icmp_ne (tgt := 30) dX8_set_2_21 rfl k1_ k2_) (fun h_ => ?_) (fun h_ => ?_)
    · have k := zif h_ k
      refine Zm.l (fun _ _ k_ => z_aload_n dX8_set_2_30 rfl rfl k_) ?_
      refine zm_geti dX8_set_2_31 fsX8_852_1 (by decide) (by decide) ?_
      refine Zm.l (fun _ _ k_ => z_ist dX8_set_2_34 (by decide) (lv' := [(0, vr (some (97, 1, 0))), (1, vi l1), (2, vi l2), (3, vi l3), (4, vi l4), (5, vi (gi M 97 85))]) rfl k_) ?_
      refine Zm.l (fun _ _ k_ => z_aload_n dX8_set_2_36 rfl rfl k_) ?_
      refine Zm.l (fun _ _ k_ => z_aload_n dX8_set_2_37 rfl rfl k_) ?_
      refine zm_getr 46 dX8_set_2_38 fsX8_167_1 rfl ?_
      refine Zm.l (fun _ _ k_ => z_iload dX8_set_2_41 rfl k_) ?_
      obtain ⟨b_, k⟩ := k
      refine zm_iald dX8_set_2_43 b_ (by decide) (by decide) ?_
      refine zm_puti (by decide) (by decide) dX8_set_2_44 (zfwN.w fwX8_852_1) rfl ⟨rfl, rfl⟩ ?_
      refine Zm.l (fun _ _ k_ => z_aload_n dX8_set_2_47 rfl rfl k_) ?_
      refine Zm.l (fun _ _ k_ => z_dup dX8_set_2_48 rfl k_) ?_
      refine zm_geti dX8_set_2_49 fsX8_849_1 (by decide) (by decide) ?_
      refine Zm.l (fun _ _ k_ => z_iconst (v := 1) dX8_set_2_52 rfl k_) ?_
      refine Zm.l (fun _ _ k_ => z_iadd dX8_set_2_53 k_) ?_
      refine zm_puti (by decide) (by decide) dX8_set_2_54 (zfwN.w fwX8_849_1) rfl ⟨rfl, rfl⟩ ?_
      refine Zm.l (fun _ _ k_ => z_aload_n dX8_set_2_57 rfl rfl k_) ?_
      refine zm_getr 42 dX8_set_2_58 fsX8_155_1 rfl ?_
      refine Zm.l (fun _ _ k_ => z_iload dX8_set_2_61 rfl k_) ?_
      refine Zm.l (fun _ _ k_ => z_iload_n dX8_set_2_63 rfl rfl k_) ?_
      obtain ⟨b_, k⟩ := k
      refine zm_iast dX8_set_2_64 b_ (by decide) (by decide) ?_
      refine Zm.l (fun _ _ k_ => z_aload_n dX8_set_2_65 rfl rfl k_) ?_
      refine Zm.l (fun _ _ k_ => z_dup dX8_set_2_66 rfl k_) ?_
      refine zm_geti dX8_set_2_67 fsX8_855_1 (by decide) (by decide) ?_
      refine Zm.l (fun _ _ k_ => z_iconst (v := 1) dX8_set_2_70 rfl k_) ?_
      refine Zm.l (fun _ _ k_ => z_iadd dX8_set_2_71 k_) ?_
      refine zm_puti (by decide) (by decide) dX8_set_2_72 (zfwN.w fwX8_855_1) rfl ⟨rfl, rfl⟩ ?_
      refine Zm.l (fun _ _ k_ => z_aload_n dX8_set_2_75 rfl rfl k_) ?_
      refine zm_getr 45 dX8_set_2_76 fsX8_164_1 rfl ?_
      refine Zm.l (fun _ _ k_ => z_iload dX8_set_2_79 rfl k_) ?_
      refine Zm.l (fun _ _ k_ => z_aload_n dX8_set_2_81 rfl rfl k_) ?_
      refine zm_geti dX8_set_2_82 fsX8_855_1 (by decide) (by decide) ?_
      obtain ⟨b_, k⟩ := k
      refine zm_iast dX8_set_2_85 b_ (by decide) (by decide) ?_
      refine Zm.l (fun _ _ k_ => z_aload_n dX8_set_2_86 rfl rfl k_) ?_
      refine zm_getr 46 dX8_set_2_87 fsX8_167_1 rfl ?_
      refine Zm.l (fun _ _ k_ => z_iload dX8_set_2_90 rfl k_) ?_
      refine Zm.l (fun _ _ k_ => z_iconst (v := -1) dX8_set_2_92 rfl k_) ?_
      obtain ⟨b_, k⟩ := k
      refine zm_iast dX8_set_2_93 b_ (by decide) (by decide) ?_
      refine Zm.l (fun _ _ k_ => z_aload_n dX8_set_2_94 rfl rfl k_) ?_
      refine zm_getr 41 dX8_set_2_95 fsX8_152_1 rfl ?_
      refine Zm.l (fun _ _ k_ => z_iload_n dX8_set_2_98 rfl rfl k_) ?_
      obtain ⟨b_, k⟩ := k
      refine zm_iald dX8_set_2_99 b_ (by decide) (by decide) ?_
      refine Zm.l (fun _ _ k_ => z_iconst (v := -1) dX8_set_2_100 rfl k_) ?_
      refine Zm.brn (fun _ _ k1_ k2_ => z_icmp_ne (tgt := 115) dX8_set_2_101 rfl k1_ k2_) (fun h_ => ?_) (fun h_ => ?_)
      · have k := zif h_ k
        refine Zm.l (fun _ _ k_ => z_aload_n dX8_set_2_115 rfl rfl k_) ?_
        refine zm_getr 46 dX8_set_2_116 fsX8_167_1 rfl ?_
        refine Zm.l (fun _ _ k_ => z_aload_n dX8_set_2_119 rfl rfl k_) ?_
        refine zm_getr 41 dX8_set_2_120 fsX8_152_1 rfl ?_
        refine Zm.l (fun _ _ k_ => z_iload_n dX8_set_2_123 rfl rfl k_) ?_
        obtain ⟨b_, k⟩ := k
        refine zm_iald dX8_set_2_124 b_ (by decide) (by decide) ?_
        refine Zm.l (fun _ _ k_ => z_iload dX8_set_2_125 rfl k_) ?_
        obtain ⟨b_, k⟩ := k
        refine zm_iast dX8_set_2_127 b_ (by decide) (by decide) ?_
        refine Zm.l (fun _ _ k_ => z_aload_n dX8_set_2_128 rfl rfl k_) ?_
        refine zm_getr 41 dX8_set_2_129 fsX8_152_1 rfl ?_
        refine Zm.l (fun _ _ k_ => z_iload_n dX8_set_2_132 rfl rfl k_) ?_
        refine Zm.l (fun _ _ k_ => z_iload dX8_set_2_133 rfl k_) ?_
        obtain ⟨b_, k⟩ := k
        refine zm_iast dX8_set_2_135 b_ (by decide) (by decide) ?_
        refine Zm.pick [0, 3, 4, 5] rfl ?_
        exact k
      · have k := zit h_ k
        refine Zm.l (fun _ _ k_ => z_aload_n dX8_set_2_104 rfl rfl k_) ?_
        refine zm_getr 40 dX8_set_2_105 fsX8_149_1 rfl ?_
        refine Zm.l (fun _ _ k_ => z_iload_n dX8_set_2_108 rfl rfl k_) ?_
        refine Zm.l (fun _ _ k_ => z_iload dX8_set_2_109 rfl k_) ?_
        obtain ⟨b_, k⟩ := k
        refine zm_iast dX8_set_2_111 b_ (by decide) (by decide) ?_
        refine Zm.l (fun _ _ k_ => z_goto (tgt := 128) dX8_set_2_112 rfl k_) ?_
        refine Zm.l (fun _ _ k_ => z_aload_n dX8_set_2_128 rfl rfl k_) ?_
        refine zm_getr 41 dX8_set_2_129 fsX8_152_1 rfl ?_
        refine Zm.l (fun _ _ k_ => z_iload_n dX8_set_2_132 rfl rfl k_) ?_
        refine Zm.l (fun _ _ k_ => z_iload dX8_set_2_133 rfl k_) ?_
        obtain ⟨b_, k⟩ := k
        refine zm_iast dX8_set_2_135 b_ (by decide) (by decide) ?_
        refine Zm.pick [0, 3, 4, 5] rfl ?_
        exact k
    · have k := zit h_ k
      refine Zm.l (fun _ _ k_ => z_aload_n dX8_set_2_24 rfl rfl k_) ?_
      refine Zm.l (fun _ _ k_ => z_iconst (v := 1) dX8_set_2_25 rfl k_) ?_
      refine zm_puti (by decide) (by decide) dX8_set_2_26 (zfwN.w fwX8_794_1) rfl ⟨by decide, by decide⟩ ?_
      exact zm_vret dX8_set_2_29 rfl k
theorem sX8_set_2_136 {E : zE} {d : Nat} {Q : zO → zM → Prop} (M : zM) (l3 : Int32) (l4 : Int32) (l5 : Int32) (k : vp_in l5 3000 ∧ (vp_in l5 3000 ∧ (Q (.inl none) (si (si M 146 (l5).toNatClampNeg l3) 147 (l5).toNatClampNeg l4)))) : Zm E YX8_set_2 (d + 1) M [(0, vr (some (97, 1, 0))), (3, vi l3), (4, vi l4), (5, vi l5)] 136 [] Q := by
  refine Zm.l (fun _ _ k_ => z_aload_n dX8_set_2_136 rfl rfl k_) ?_
  refine zm_getr 43 dX8_set_2_137 fsX8_158_1 rfl ?_
  refine Zm.l (fun _ _ k_ => z_iload dX8_set_2_140 rfl k_) ?_
  refine Zm.l (fun _ _ k_ => z_iload_n dX8_set_2_142 rfl rfl k_) ?_
  obtain ⟨b_, k⟩ := k
  refine zm_iast dX8_set_2_143 b_ (by decide) (by decide) ?_
  refine Zm.l (fun _ _ k_ => z_aload_n dX8_set_2_144 rfl rfl k_) ?_
  refine zm_getr 44 dX8_set_2_145 fsX8_161_1 rfl ?_
  refine Zm.l (fun _ _ k_ => z_iload dX8_set_2_148 rfl k_) ?_
  refine Zm.l (fun _ _ k_ => z_iload dX8_set_2_150 rfl k_) ?_
  obtain ⟨b_, k⟩ := k
  refine zm_iast dX8_set_2_152 b_ (by decide) (by decide) ?_
  exact zm_vret dX8_set_2_153 rfl k
/-! ScriptTypesModel.findProperty(II)I -/
theorem bX8_findProperty_0 : zdec cX8_findProperty 0 [(0, .aload_n 0, 1), (1, .getfield 149, 3), (4, .iload_n 1, 1), (5, .iaload, 1), (6, .istore_n 3, 1), (7, .iload_n 3, 1), (8, .iconst (-1), 1), (9, .if_icmp .eq 23, 3), (12, .aload_n 0, 1), (13, .getfield 155, 3), (16, .iload_n 3, 1), (17, .iaload, 1), (18, .iload_n 2, 1), (19, .if_icmp .eq 13, 3), (22, .aload_n 0, 1), (23, .getfield 167, 3)] = true := by decide +kernel
theorem dX8_findProperty_0 : decode cX8_findProperty 0 = .ok (.aload_n 0, 1) := zdec_at bX8_findProperty_0 0 rfl
theorem dX8_findProperty_1 : decode cX8_findProperty 1 = .ok (.getfield 149, 3) := zdec_at bX8_findProperty_0 1 rfl
theorem dX8_findProperty_4 : decode cX8_findProperty 4 = .ok (.iload_n 1, 1) := zdec_at bX8_findProperty_0 2 rfl
theorem dX8_findProperty_5 : decode cX8_findProperty 5 = .ok (.iaload, 1) := zdec_at bX8_findProperty_0 3 rfl
theorem dX8_findProperty_6 : decode cX8_findProperty 6 = .ok (.istore_n 3, 1) := zdec_at bX8_findProperty_0 4 rfl
theorem dX8_findProperty_7 : decode cX8_findProperty 7 = .ok (.iload_n 3, 1) := zdec_at bX8_findProperty_0 5 rfl
theorem dX8_findProperty_8 : decode cX8_findProperty 8 = .ok (.iconst (-1), 1) := zdec_at bX8_findProperty_0 6 rfl
theorem dX8_findProperty_9 : decode cX8_findProperty 9 = .ok (.if_icmp .eq 23, 3) := zdec_at bX8_findProperty_0 7 rfl
theorem dX8_findProperty_12 : decode cX8_findProperty 12 = .ok (.aload_n 0, 1) := zdec_at bX8_findProperty_0 8 rfl
theorem dX8_findProperty_13 : decode cX8_findProperty 13 = .ok (.getfield 155, 3) := zdec_at bX8_findProperty_0 9 rfl
theorem dX8_findProperty_16 : decode cX8_findProperty 16 = .ok (.iload_n 3, 1) := zdec_at bX8_findProperty_0 10 rfl
theorem dX8_findProperty_17 : decode cX8_findProperty 17 = .ok (.iaload, 1) := zdec_at bX8_findProperty_0 11 rfl
theorem dX8_findProperty_18 : decode cX8_findProperty 18 = .ok (.iload_n 2, 1) := zdec_at bX8_findProperty_0 12 rfl
theorem dX8_findProperty_19 : decode cX8_findProperty 19 = .ok (.if_icmp .eq 13, 3) := zdec_at bX8_findProperty_0 13 rfl
theorem dX8_findProperty_22 : decode cX8_findProperty 22 = .ok (.aload_n 0, 1) := zdec_at bX8_findProperty_0 14 rfl
theorem dX8_findProperty_23 : decode cX8_findProperty 23 = .ok (.getfield 167, 3) := zdec_at bX8_findProperty_0 15 rfl
theorem bX8_findProperty_26 : zdec cX8_findProperty 26 [(26, .iload_n 3, 1), (27, .iaload, 1), (28, .istore_n 3, 1), (29, .goto (-22), 3), (32, .iload_n 3, 1), (33, .ireturn, 1)] = true := by decide +kernel
theorem dX8_findProperty_26 : decode cX8_findProperty 26 = .ok (.iload_n 3, 1) := zdec_at bX8_findProperty_26 0 rfl
theorem dX8_findProperty_27 : decode cX8_findProperty 27 = .ok (.iaload, 1) := zdec_at bX8_findProperty_26 1 rfl
theorem dX8_findProperty_28 : decode cX8_findProperty 28 = .ok (.istore_n 3, 1) := zdec_at bX8_findProperty_26 2 rfl
theorem dX8_findProperty_29 : decode cX8_findProperty 29 = .ok (.goto (-22), 3) := zdec_at bX8_findProperty_26 3 rfl
theorem dX8_findProperty_32 : decode cX8_findProperty 32 = .ok (.iload_n 3, 1) := zdec_at bX8_findProperty_26 4 rfl
theorem dX8_findProperty_33 : decode cX8_findProperty 33 = .ok (.ireturn, 1) := zdec_at bX8_findProperty_26 5 rfl
theorem sX8_findProperty_0 {E : zE} {d : Nat} {Q : zO → zM → Prop} (M : zM) (l1 : Int32) (l2 : Int32) (k : vp_in l1 300 ∧ (Zm E YX8_findProperty d M [(0, vr (some (97, 1, 0))), (2, vi l2), (3, vi (gi M 143 (l1).toNatClampNeg))] 7 [] Q)) : Zm E YX8_findProperty d M [(0, vr (some (97, 1, 0))), (1, vi l1), (2, vi l2)] 0 [] Q := by
  refine Zm.l (fun _ _ k_ => z_aload_n dX8_findProperty_0 rfl rfl k_) ?_
  refine zm_getr 40 dX8_findProperty_1 fsX8_149_1 rfl ?_
  refine Zm.l (fun _ _ k_ => z_iload_n dX8_findProperty_4 rfl rfl k_) ?_
  obtain ⟨b_, k⟩ := k
  refine zm_iald dX8_findProperty_5 b_ (by decide) (by decide) ?_
  refine Zm.l (fun _ _ k_ => z_ist_n dX8_findProperty_6 rfl (by decide) (lv' := [(0, vr (some (97, 1, 0))), (1, vi l1), (2, vi l2), (3, vi (gi M 143 (l1).toNatClampNeg))]) rfl k_) ?_
  refine Zm.pick [0, 2, 3] rfl ?_
  exact k
theorem sX8_findProperty_7 {E : zE} {d : Nat} {Q : zO → zM → Prop} (M : zM) (l2 : Int32) (l3 : Int32) (k : if l3 = (-1 : Int32) then (Q (.inl (some (vi l3))) M) else (vp_in l3 3000 ∧ (if (gi M 145 (l3).toNatClampNeg) = l2 then (Q (.inl (some (vi l3))) M) else (vp_in l3 3000 ∧ (Zm E YX8_findProperty d M [(0, vr (some (97, 1, 0))), (2, vi l2), (3, vi (gi M 149 (l3).toNatClampNeg))] 7 [] Q))))) : Zm E YX8_findProperty d M [(0, vr (some (97, 1, 0))), (2, vi l2), (3, vi l3)] 7 [] Q := by
  refine Zm.l (fun _ _ k_ => z_iload_n dX8_findProperty_7 rfl rfl k_) ?_
  refine Zm.l (fun _ _ k_ => z_iconst (v := -1) dX8_findProperty_8 rfl k_) ?_
  refine Zm.br (fun _ _ k1_ k2_ => z_icmp_eq (tgt := 32) dX8_findProperty_9 rfl k1_ k2_) (fun h_ => ?_) (fun h_ => ?_)
  · have k := zit h_ k
    refine Zm.l (fun _ _ k_ => z_iload_n dX8_findProperty_32 rfl rfl k_) ?_
    exact zm_iret dX8_findProperty_33 rfl rfl k
  · have k := zif h_ k
    refine Zm.l (fun _ _ k_ => z_aload_n dX8_findProperty_12 rfl rfl k_) ?_
    refine zm_getr 42 dX8_findProperty_13 fsX8_155_1 rfl ?_
    refine Zm.l (fun _ _ k_ => z_iload_n dX8_findProperty_16 rfl rfl k_) ?_
    obtain ⟨b_, k⟩ := k
    refine zm_iald dX8_findProperty_17 b_ (by decide) (by decide) ?_
    refine Zm.l (fun _ _ k_ => z_iload_n dX8_findProperty_18 rfl rfl k_) ?_
    refine Zm.br (fun _ _ k1_ k2_ => z_icmp_eq (tgt := 32) dX8_findProperty_19 rfl k1_ k2_) (fun h_ => ?_) (fun h_ => ?_)
    · have k := zit h_ k
      refine Zm.l (fun _ _ k_ => z_iload_n dX8_findProperty_32 rfl rfl k_) ?_
      exact zm_iret dX8_findProperty_33 rfl rfl k
    · have k := zif h_ k
      refine Zm.l (fun _ _ k_ => z_aload_n dX8_findProperty_22 rfl rfl k_) ?_
      refine zm_getr 46 dX8_findProperty_23 fsX8_167_1 rfl ?_
      refine Zm.l (fun _ _ k_ => z_iload_n dX8_findProperty_26 rfl rfl k_) ?_
      obtain ⟨b_, k⟩ := k
      refine zm_iald dX8_findProperty_27 b_ (by decide) (by decide) ?_
      refine Zm.l (fun _ _ k_ => z_ist_n dX8_findProperty_28 rfl (by decide) (lv' := [(0, vr (some (97, 1, 0))), (2, vi l2), (3, vi (gi M 149 (l3).toNatClampNeg))]) rfl k_) ?_
      refine Zm.l (fun _ _ k_ => z_goto (tgt := 7) dX8_findProperty_29 rfl k_) ?_
      exact k
/-! ScriptTypesModel.enterFrame(IIIII)V -/
theorem bX8_enterFrame_0 : zdec cX8_enterFrame 0 [(0, .aload_n 0, 1), (1, .getfield 872, 3), (4, .istore 6, 2), (6, .aload_n 0, 1), (7, .dup, 1), (8, .getfield 872, 3), (11, .iconst 1, 1), (12, .iadd, 1), (13, .putfield 872, 3), (16, .aload_n 0, 1), (17, .getfield 170, 3), (20, .iload 6, 2), (22, .iload_n 1, 1), (23, .iastore, 1), (24, .aload_n 0, 1), (25, .getfield 173, 3)] = true := by decide +kernel
theorem dX8_enterFrame_0 : decode cX8_enterFrame 0 = .ok (.aload_n 0, 1) := zdec_at bX8_enterFrame_0 0 rfl
theorem dX8_enterFrame_1 : decode cX8_enterFrame 1 = .ok (.getfield 872, 3) := zdec_at bX8_enterFrame_0 1 rfl
theorem dX8_enterFrame_4 : decode cX8_enterFrame 4 = .ok (.istore 6, 2) := zdec_at bX8_enterFrame_0 2 rfl
theorem dX8_enterFrame_6 : decode cX8_enterFrame 6 = .ok (.aload_n 0, 1) := zdec_at bX8_enterFrame_0 3 rfl
theorem dX8_enterFrame_7 : decode cX8_enterFrame 7 = .ok (.dup, 1) := zdec_at bX8_enterFrame_0 4 rfl
theorem dX8_enterFrame_8 : decode cX8_enterFrame 8 = .ok (.getfield 872, 3) := zdec_at bX8_enterFrame_0 5 rfl
theorem dX8_enterFrame_11 : decode cX8_enterFrame 11 = .ok (.iconst 1, 1) := zdec_at bX8_enterFrame_0 6 rfl
theorem dX8_enterFrame_12 : decode cX8_enterFrame 12 = .ok (.iadd, 1) := zdec_at bX8_enterFrame_0 7 rfl
theorem dX8_enterFrame_13 : decode cX8_enterFrame 13 = .ok (.putfield 872, 3) := zdec_at bX8_enterFrame_0 8 rfl
theorem dX8_enterFrame_16 : decode cX8_enterFrame 16 = .ok (.aload_n 0, 1) := zdec_at bX8_enterFrame_0 9 rfl
theorem dX8_enterFrame_17 : decode cX8_enterFrame 17 = .ok (.getfield 170, 3) := zdec_at bX8_enterFrame_0 10 rfl
theorem dX8_enterFrame_20 : decode cX8_enterFrame 20 = .ok (.iload 6, 2) := zdec_at bX8_enterFrame_0 11 rfl
theorem dX8_enterFrame_22 : decode cX8_enterFrame 22 = .ok (.iload_n 1, 1) := zdec_at bX8_enterFrame_0 12 rfl
theorem dX8_enterFrame_23 : decode cX8_enterFrame 23 = .ok (.iastore, 1) := zdec_at bX8_enterFrame_0 13 rfl
theorem dX8_enterFrame_24 : decode cX8_enterFrame 24 = .ok (.aload_n 0, 1) := zdec_at bX8_enterFrame_0 14 rfl
theorem dX8_enterFrame_25 : decode cX8_enterFrame 25 = .ok (.getfield 173, 3) := zdec_at bX8_enterFrame_0 15 rfl
theorem bX8_enterFrame_28 : zdec cX8_enterFrame 28 [(28, .iload 6, 2), (30, .iload_n 2, 1), (31, .iastore, 1), (32, .aload_n 0, 1), (33, .getfield 176, 3), (36, .iload 6, 2), (38, .iload_n 3, 1), (39, .iastore, 1), (40, .aload_n 0, 1), (41, .getfield 179, 3), (44, .iload 6, 2), (46, .iload 4, 2), (48, .iastore, 1), (49, .aload_n 0, 1), (50, .getfield 182, 3), (53, .iload 6, 2)] = true := by decide +kernel
theorem dX8_enterFrame_28 : decode cX8_enterFrame 28 = .ok (.iload 6, 2) := zdec_at bX8_enterFrame_28 0 rfl
theorem dX8_enterFrame_30 : decode cX8_enterFrame 30 = .ok (.iload_n 2, 1) := zdec_at bX8_enterFrame_28 1 rfl
theorem dX8_enterFrame_31 : decode cX8_enterFrame 31 = .ok (.iastore, 1) := zdec_at bX8_enterFrame_28 2 rfl
theorem dX8_enterFrame_32 : decode cX8_enterFrame 32 = .ok (.aload_n 0, 1) := zdec_at bX8_enterFrame_28 3 rfl
theorem dX8_enterFrame_33 : decode cX8_enterFrame 33 = .ok (.getfield 176, 3) := zdec_at bX8_enterFrame_28 4 rfl
theorem dX8_enterFrame_36 : decode cX8_enterFrame 36 = .ok (.iload 6, 2) := zdec_at bX8_enterFrame_28 5 rfl
theorem dX8_enterFrame_38 : decode cX8_enterFrame 38 = .ok (.iload_n 3, 1) := zdec_at bX8_enterFrame_28 6 rfl
theorem dX8_enterFrame_39 : decode cX8_enterFrame 39 = .ok (.iastore, 1) := zdec_at bX8_enterFrame_28 7 rfl
theorem dX8_enterFrame_40 : decode cX8_enterFrame 40 = .ok (.aload_n 0, 1) := zdec_at bX8_enterFrame_28 8 rfl
theorem dX8_enterFrame_41 : decode cX8_enterFrame 41 = .ok (.getfield 179, 3) := zdec_at bX8_enterFrame_28 9 rfl
theorem dX8_enterFrame_44 : decode cX8_enterFrame 44 = .ok (.iload 6, 2) := zdec_at bX8_enterFrame_28 10 rfl
theorem dX8_enterFrame_46 : decode cX8_enterFrame 46 = .ok (.iload 4, 2) := zdec_at bX8_enterFrame_28 11 rfl
theorem dX8_enterFrame_48 : decode cX8_enterFrame 48 = .ok (.iastore, 1) := zdec_at bX8_enterFrame_28 12 rfl
theorem dX8_enterFrame_49 : decode cX8_enterFrame 49 = .ok (.aload_n 0, 1) := zdec_at bX8_enterFrame_28 13 rfl
theorem dX8_enterFrame_50 : decode cX8_enterFrame 50 = .ok (.getfield 182, 3) := zdec_at bX8_enterFrame_28 14 rfl
theorem dX8_enterFrame_53 : decode cX8_enterFrame 53 = .ok (.iload 6, 2) := zdec_at bX8_enterFrame_28 15 rfl
theorem bX8_enterFrame_55 : zdec cX8_enterFrame 55 [(55, .aload_n 0, 1), (56, .getfield 101, 3), (59, .iload_n 1, 1), (60, .iaload, 1), (61, .iastore, 1), (62, .aload_n 0, 1), (63, .getfield 185, 3), (66, .iload 6, 2), (68, .iconst 0, 1), (69, .iastore, 1), (70, .aload_n 0, 1), (71, .getfield 188, 3), (74, .iload 6, 2), (76, .iload 5, 2), (78, .iastore, 1), (79, .aload_n 0, 1)] = true := by decide +kernel
theorem dX8_enterFrame_55 : decode cX8_enterFrame 55 = .ok (.aload_n 0, 1) := zdec_at bX8_enterFrame_55 0 rfl
theorem dX8_enterFrame_56 : decode cX8_enterFrame 56 = .ok (.getfield 101, 3) := zdec_at bX8_enterFrame_55 1 rfl
theorem dX8_enterFrame_59 : decode cX8_enterFrame 59 = .ok (.iload_n 1, 1) := zdec_at bX8_enterFrame_55 2 rfl
theorem dX8_enterFrame_60 : decode cX8_enterFrame 60 = .ok (.iaload, 1) := zdec_at bX8_enterFrame_55 3 rfl
theorem dX8_enterFrame_61 : decode cX8_enterFrame 61 = .ok (.iastore, 1) := zdec_at bX8_enterFrame_55 4 rfl
theorem dX8_enterFrame_62 : decode cX8_enterFrame 62 = .ok (.aload_n 0, 1) := zdec_at bX8_enterFrame_55 5 rfl
theorem dX8_enterFrame_63 : decode cX8_enterFrame 63 = .ok (.getfield 185, 3) := zdec_at bX8_enterFrame_55 6 rfl
theorem dX8_enterFrame_66 : decode cX8_enterFrame 66 = .ok (.iload 6, 2) := zdec_at bX8_enterFrame_55 7 rfl
theorem dX8_enterFrame_68 : decode cX8_enterFrame 68 = .ok (.iconst 0, 1) := zdec_at bX8_enterFrame_55 8 rfl
theorem dX8_enterFrame_69 : decode cX8_enterFrame 69 = .ok (.iastore, 1) := zdec_at bX8_enterFrame_55 9 rfl
theorem dX8_enterFrame_70 : decode cX8_enterFrame 70 = .ok (.aload_n 0, 1) := zdec_at bX8_enterFrame_55 10 rfl
theorem dX8_enterFrame_71 : decode cX8_enterFrame 71 = .ok (.getfield 188, 3) := zdec_at bX8_enterFrame_55 11 rfl
theorem dX8_enterFrame_74 : decode cX8_enterFrame 74 = .ok (.iload 6, 2) := zdec_at bX8_enterFrame_55 12 rfl
theorem dX8_enterFrame_76 : decode cX8_enterFrame 76 = .ok (.iload 5, 2) := zdec_at bX8_enterFrame_55 13 rfl
theorem dX8_enterFrame_78 : decode cX8_enterFrame 78 = .ok (.iastore, 1) := zdec_at bX8_enterFrame_55 14 rfl
theorem dX8_enterFrame_79 : decode cX8_enterFrame 79 = .ok (.aload_n 0, 1) := zdec_at bX8_enterFrame_55 15 rfl
theorem bX8_enterFrame_80 : zdec cX8_enterFrame 80 [(80, .getfield 191, 3), (83, .iload 6, 2), (85, .iconst 0, 1), (86, .iastore, 1), (87, .return_, 1)] = true := by decide +kernel
theorem dX8_enterFrame_80 : decode cX8_enterFrame 80 = .ok (.getfield 191, 3) := zdec_at bX8_enterFrame_80 0 rfl
theorem dX8_enterFrame_83 : decode cX8_enterFrame 83 = .ok (.iload 6, 2) := zdec_at bX8_enterFrame_80 1 rfl
theorem dX8_enterFrame_85 : decode cX8_enterFrame 85 = .ok (.iconst 0, 1) := zdec_at bX8_enterFrame_80 2 rfl
theorem dX8_enterFrame_86 : decode cX8_enterFrame 86 = .ok (.iastore, 1) := zdec_at bX8_enterFrame_80 3 rfl
theorem dX8_enterFrame_87 : decode cX8_enterFrame 87 = .ok (.return_, 1) := zdec_at bX8_enterFrame_80 4 rfl
theorem sX8_enterFrame_0 {E : zE} {d : Nat} {Q : zO → zM → Prop} (M : zM) (l1 : Int32) (l2 : Int32) (l3 : Int32) (l4 : Int32) (l5 : Int32) (k : vp_in (gi M 97 92) 24 ∧ (vp_in (gi M 97 92) 24 ∧ (vp_in (gi M 97 92) 24 ∧ (vp_in (gi M 97 92) 24 ∧ (vp_in l1 12 ∧ (vp_in (gi M 97 92) 24 ∧ (vp_in (gi M 97 92) 24 ∧ (vp_in (gi M 97 92) 24 ∧ (vp_in (gi M 97 92) 24 ∧ (Q (.inl none) (si (si (si (si (si (si (si (si (si M 97 92 ((gi M 97 92) + (1 : Int32))) 150 ((gi M 97 92)).toNatClampNeg l1) 151 ((gi M 97 92)).toNatClampNeg l2) 152 ((gi M 97 92)).toNatClampNeg l3) 153 ((gi M 97 92)).toNatClampNeg l4) 154 ((gi M 97 92)).toNatClampNeg (gi M 127 (l1).toNatClampNeg)) 155 ((gi M 97 92)).toNatClampNeg (0 : Int32)) 156 ((gi M 97 92)).toNatClampNeg l5) 157 ((gi M 97 92)).toNatClampNeg (0 : Int32)))))))))))) : Zm E YX8_enterFrame d M [(0, vr (some (97, 1, 0))), (1, vi l1), (2, vi l2), (3, vi l3), (4, vi l4), (5, vi l5)] 0 [] Q := by
  refine Zm.l (fun _ _ k_ => z_aload_n dX8_enterFrame_0 rfl rfl k_) ?_
  refine zm_geti dX8_enterFrame_1 fsX8_872_1 (by decide) (by decide) ?_
  refine Zm.l (fun _ _ k_ => z_ist dX8_enterFrame_4 (by decide) (lv' := [(0, vr (some (97, 1, 0))), (1, vi l1), (2, vi l2), (3, vi l3), (4, vi l4), (5, vi l5), (6, vi (gi M 97 92))]) rfl k_) ?_
  refine Zm.l (fun _ _ k_ => z_aload_n dX8_enterFrame_6 rfl rfl k_) ?_
  refine Zm.l (fun _ _ k_ => z_dup dX8_enterFrame_7 rfl k_) ?_
  refine zm_geti dX8_enterFrame_8 fsX8_872_1 (by decide) (by decide) ?_
  refine Zm.l (fun _ _ k_ => z_iconst (v := 1) dX8_enterFrame_11 rfl k_) ?_
  refine Zm.l (fun _ _ k_ => z_iadd dX8_enterFrame_12 k_) ?_
  refine zm_puti (by decide) (by decide) dX8_enterFrame_13 (zfwN.w fwX8_872_1) rfl ⟨rfl, rfl⟩ ?_
  refine Zm.l (fun _ _ k_ => z_aload_n dX8_enterFrame_16 rfl rfl k_) ?_
  refine zm_getr 47 dX8_enterFrame_17 fsX8_170_1 rfl ?_
  refine Zm.l (fun _ _ k_ => z_iload dX8_enterFrame_20 rfl k_) ?_
  refine Zm.l (fun _ _ k_ => z_iload_n dX8_enterFrame_22 rfl rfl k_) ?_
  obtain ⟨b_, k⟩ := k
  refine zm_iast dX8_enterFrame_23 b_ (by decide) (by decide) ?_
  refine Zm.l (fun _ _ k_ => z_aload_n dX8_enterFrame_24 rfl rfl k_) ?_
  refine zm_getr 48 dX8_enterFrame_25 fsX8_173_1 rfl ?_
  refine Zm.l (fun _ _ k_ => z_iload dX8_enterFrame_28 rfl k_) ?_
  refine Zm.l (fun _ _ k_ => z_iload_n dX8_enterFrame_30 rfl rfl k_) ?_
  obtain ⟨b_, k⟩ := k
  refine zm_iast dX8_enterFrame_31 b_ (by decide) (by decide) ?_
  refine Zm.l (fun _ _ k_ => z_aload_n dX8_enterFrame_32 rfl rfl k_) ?_
  refine zm_getr 49 dX8_enterFrame_33 fsX8_176_1 rfl ?_
  refine Zm.l (fun _ _ k_ => z_iload dX8_enterFrame_36 rfl k_) ?_
  refine Zm.l (fun _ _ k_ => z_iload_n dX8_enterFrame_38 rfl rfl k_) ?_
  obtain ⟨b_, k⟩ := k
  refine zm_iast dX8_enterFrame_39 b_ (by decide) (by decide) ?_
  refine Zm.l (fun _ _ k_ => z_aload_n dX8_enterFrame_40 rfl rfl k_) ?_
  refine zm_getr 50 dX8_enterFrame_41 fsX8_179_1 rfl ?_
  refine Zm.l (fun _ _ k_ => z_iload dX8_enterFrame_44 rfl k_) ?_
  refine Zm.l (fun _ _ k_ => z_iload dX8_enterFrame_46 rfl k_) ?_
  obtain ⟨b_, k⟩ := k
  refine zm_iast dX8_enterFrame_48 b_ (by decide) (by decide) ?_
  refine Zm.l (fun _ _ k_ => z_aload_n dX8_enterFrame_49 rfl rfl k_) ?_
  refine zm_getr 51 dX8_enterFrame_50 fsX8_182_1 rfl ?_
  refine Zm.l (fun _ _ k_ => z_iload dX8_enterFrame_53 rfl k_) ?_
  refine Zm.l (fun _ _ k_ => z_aload_n dX8_enterFrame_55 rfl rfl k_) ?_
  refine zm_getr 29 dX8_enterFrame_56 fsX8_101_1 rfl ?_
  refine Zm.l (fun _ _ k_ => z_iload_n dX8_enterFrame_59 rfl rfl k_) ?_
  obtain ⟨b_, k⟩ := k
  refine zm_iald dX8_enterFrame_60 b_ (by decide) (by decide) ?_
  obtain ⟨b_, k⟩ := k
  refine zm_iast dX8_enterFrame_61 b_ (by decide) (by decide) ?_
  refine Zm.l (fun _ _ k_ => z_aload_n dX8_enterFrame_62 rfl rfl k_) ?_
  refine zm_getr 52 dX8_enterFrame_63 fsX8_185_1 rfl ?_
  refine Zm.l (fun _ _ k_ => z_iload dX8_enterFrame_66 rfl k_) ?_
  refine Zm.l (fun _ _ k_ => z_iconst (v := 0) dX8_enterFrame_68 rfl k_) ?_
  obtain ⟨b_, k⟩ := k
  refine zm_iast dX8_enterFrame_69 b_ (by decide) (by decide) ?_
  refine Zm.l (fun _ _ k_ => z_aload_n dX8_enterFrame_70 rfl rfl k_) ?_
  refine zm_getr 53 dX8_enterFrame_71 fsX8_188_1 rfl ?_
  refine Zm.l (fun _ _ k_ => z_iload dX8_enterFrame_74 rfl k_) ?_
  refine Zm.l (fun _ _ k_ => z_iload dX8_enterFrame_76 rfl k_) ?_
  obtain ⟨b_, k⟩ := k
  refine zm_iast dX8_enterFrame_78 b_ (by decide) (by decide) ?_
  refine Zm.l (fun _ _ k_ => z_aload_n dX8_enterFrame_79 rfl rfl k_) ?_
  refine zm_getr 54 dX8_enterFrame_80 fsX8_191_1 rfl ?_
  refine Zm.l (fun _ _ k_ => z_iload dX8_enterFrame_83 rfl k_) ?_
  refine Zm.l (fun _ _ k_ => z_iconst (v := 0) dX8_enterFrame_85 rfl k_) ?_
  obtain ⟨b_, k⟩ := k
  refine zm_iast dX8_enterFrame_86 b_ (by decide) (by decide) ?_
  exact zm_vret dX8_enterFrame_87 rfl k
/-! ScriptTypesModel.run(I)I -/
theorem bX8_run_0 : zdec cX8_run 0 [(0, .aload_n 0, 1), (1, .iload_n 1, 1), (2, .iconst 0, 1), (3, .sipush 2000, 3), (6, .invokestatic 899, 3), (9, .ifCond .ne 7, 3), (12, .iconst 1, 1), (13, .goto 16, 3), (16, .aload_n 0, 1), (17, .getfield 773, 3), (20, .iconst 1, 1), (21, .if_icmp .eq 7, 3), (24, .iconst 2, 1), (25, .goto 4, 3), (28, .iconst 0, 1), (29, .putfield 289, 3)] = true := by decide +kernel
theorem dX8_run_0 : decode cX8_run 0 = .ok (.aload_n 0, 1) := zdec_at bX8_run_0 0 rfl
theorem dX8_run_1 : decode cX8_run 1 = .ok (.iload_n 1, 1) := zdec_at bX8_run_0 1 rfl
theorem dX8_run_2 : decode cX8_run 2 = .ok (.iconst 0, 1) := zdec_at bX8_run_0 2 rfl
theorem dX8_run_3 : decode cX8_run 3 = .ok (.sipush 2000, 3) := zdec_at bX8_run_0 3 rfl
theorem dX8_run_6 : decode cX8_run 6 = .ok (.invokestatic 899, 3) := zdec_at bX8_run_0 4 rfl
theorem dX8_run_9 : decode cX8_run 9 = .ok (.ifCond .ne 7, 3) := zdec_at bX8_run_0 5 rfl
theorem dX8_run_12 : decode cX8_run 12 = .ok (.iconst 1, 1) := zdec_at bX8_run_0 6 rfl
theorem dX8_run_13 : decode cX8_run 13 = .ok (.goto 16, 3) := zdec_at bX8_run_0 7 rfl
theorem dX8_run_16 : decode cX8_run 16 = .ok (.aload_n 0, 1) := zdec_at bX8_run_0 8 rfl
theorem dX8_run_17 : decode cX8_run 17 = .ok (.getfield 773, 3) := zdec_at bX8_run_0 9 rfl
theorem dX8_run_20 : decode cX8_run 20 = .ok (.iconst 1, 1) := zdec_at bX8_run_0 10 rfl
theorem dX8_run_21 : decode cX8_run 21 = .ok (.if_icmp .eq 7, 3) := zdec_at bX8_run_0 11 rfl
theorem dX8_run_24 : decode cX8_run 24 = .ok (.iconst 2, 1) := zdec_at bX8_run_0 12 rfl
theorem dX8_run_25 : decode cX8_run 25 = .ok (.goto 4, 3) := zdec_at bX8_run_0 13 rfl
theorem dX8_run_28 : decode cX8_run 28 = .ok (.iconst 0, 1) := zdec_at bX8_run_0 14 rfl
theorem dX8_run_29 : decode cX8_run 29 = .ok (.putfield 289, 3) := zdec_at bX8_run_0 15 rfl
theorem bX8_run_32 : zdec cX8_run 32 [(32, .aload_n 0, 1), (33, .getfield 289, 3), (36, .ifCond .le 5, 3), (39, .iconst 0, 1), (40, .ireturn, 1), (41, .iconst 0, 1), (42, .istore_n 2, 1), (43, .iload_n 2, 1), (44, .iload_n 1, 1), (45, .if_icmp .ge 43, 3), (48, .aload_n 0, 1), (49, .getfield 773, 3), (52, .iconst 1, 1), (53, .if_icmp .ne 35, 3), (56, .aload_n 0, 1), (57, .invokevirtual 902, 3)] = true := by decide +kernel
theorem dX8_run_32 : decode cX8_run 32 = .ok (.aload_n 0, 1) := zdec_at bX8_run_32 0 rfl
theorem dX8_run_33 : decode cX8_run 33 = .ok (.getfield 289, 3) := zdec_at bX8_run_32 1 rfl
theorem dX8_run_36 : decode cX8_run 36 = .ok (.ifCond .le 5, 3) := zdec_at bX8_run_32 2 rfl
theorem dX8_run_39 : decode cX8_run 39 = .ok (.iconst 0, 1) := zdec_at bX8_run_32 3 rfl
theorem dX8_run_40 : decode cX8_run 40 = .ok (.ireturn, 1) := zdec_at bX8_run_32 4 rfl
theorem dX8_run_41 : decode cX8_run 41 = .ok (.iconst 0, 1) := zdec_at bX8_run_32 5 rfl
theorem dX8_run_42 : decode cX8_run 42 = .ok (.istore_n 2, 1) := zdec_at bX8_run_32 6 rfl
theorem dX8_run_43 : decode cX8_run 43 = .ok (.iload_n 2, 1) := zdec_at bX8_run_32 7 rfl
theorem dX8_run_44 : decode cX8_run 44 = .ok (.iload_n 1, 1) := zdec_at bX8_run_32 8 rfl
theorem dX8_run_45 : decode cX8_run 45 = .ok (.if_icmp .ge 43, 3) := zdec_at bX8_run_32 9 rfl
theorem dX8_run_48 : decode cX8_run 48 = .ok (.aload_n 0, 1) := zdec_at bX8_run_32 10 rfl
theorem dX8_run_49 : decode cX8_run 49 = .ok (.getfield 773, 3) := zdec_at bX8_run_32 11 rfl
theorem dX8_run_52 : decode cX8_run 52 = .ok (.iconst 1, 1) := zdec_at bX8_run_32 12 rfl
theorem dX8_run_53 : decode cX8_run 53 = .ok (.if_icmp .ne 35, 3) := zdec_at bX8_run_32 13 rfl
theorem dX8_run_56 : decode cX8_run 56 = .ok (.aload_n 0, 1) := zdec_at bX8_run_32 14 rfl
theorem dX8_run_57 : decode cX8_run 57 = .ok (.invokevirtual 902, 3) := zdec_at bX8_run_32 15 rfl
theorem bX8_run_60 : zdec cX8_run 60 [(60, .iinc 2 1, 3), (63, .aload_n 0, 1), (64, .dup, 1), (65, .getfield 861, 3), (68, .iconst 1, 1), (69, .iadd, 1), (70, .putfield 861, 3), (73, .aload_n 0, 1), (74, .getfield 794, 3), (77, .ifCond .eq (-34), 3), (80, .aload_n 0, 1), (81, .iconst 4, 1), (82, .putfield 773, 3), (85, .goto (-42), 3), (88, .iload_n 2, 1), (89, .ireturn, 1)] = true := by decide +kernel
theorem dX8_run_60 : decode cX8_run 60 = .ok (.iinc 2 1, 3) := zdec_at bX8_run_60 0 rfl
theorem dX8_run_63 : decode cX8_run 63 = .ok (.aload_n 0, 1) := zdec_at bX8_run_60 1 rfl
theorem dX8_run_64 : decode cX8_run 64 = .ok (.dup, 1) := zdec_at bX8_run_60 2 rfl
theorem dX8_run_65 : decode cX8_run 65 = .ok (.getfield 861, 3) := zdec_at bX8_run_60 3 rfl
theorem dX8_run_68 : decode cX8_run 68 = .ok (.iconst 1, 1) := zdec_at bX8_run_60 4 rfl
theorem dX8_run_69 : decode cX8_run 69 = .ok (.iadd, 1) := zdec_at bX8_run_60 5 rfl
theorem dX8_run_70 : decode cX8_run 70 = .ok (.putfield 861, 3) := zdec_at bX8_run_60 6 rfl
theorem dX8_run_73 : decode cX8_run 73 = .ok (.aload_n 0, 1) := zdec_at bX8_run_60 7 rfl
theorem dX8_run_74 : decode cX8_run 74 = .ok (.getfield 794, 3) := zdec_at bX8_run_60 8 rfl
theorem dX8_run_77 : decode cX8_run 77 = .ok (.ifCond .eq (-34), 3) := zdec_at bX8_run_60 9 rfl
theorem dX8_run_80 : decode cX8_run 80 = .ok (.aload_n 0, 1) := zdec_at bX8_run_60 10 rfl
theorem dX8_run_81 : decode cX8_run 81 = .ok (.iconst 4, 1) := zdec_at bX8_run_60 11 rfl
theorem dX8_run_82 : decode cX8_run 82 = .ok (.putfield 773, 3) := zdec_at bX8_run_60 12 rfl
theorem dX8_run_85 : decode cX8_run 85 = .ok (.goto (-42), 3) := zdec_at bX8_run_60 13 rfl
theorem dX8_run_88 : decode cX8_run 88 = .ok (.iload_n 2, 1) := zdec_at bX8_run_60 14 rfl
theorem dX8_run_89 : decode cX8_run 89 = .ok (.ireturn, 1) := zdec_at bX8_run_60 15 rfl
theorem sX8_run_0 {E : zE} {d : Nat} {Q : zO → zM → Prop} (M : zM) (l1 : Int32) (k : Zm E YX8_in d M (zargs 0 [vi l1, vi (0 : Int32), vi (2000 : Int32)]) 0 [] (zma E YX8_run (d + 1) [(0, vr (some (97, 1, 0))), (1, vi l1)] 6 3 [vr (some (97, 1, 0))] Q)) : Zm E YX8_run (d + 1) M [(0, vr (some (97, 1, 0))), (1, vi l1)] 0 [] Q := by
  refine Zm.l (fun _ _ k_ => z_aload_n dX8_run_0 rfl rfl k_) ?_
  refine Zm.l (fun _ _ k_ => z_iload_n dX8_run_1 rfl rfl k_) ?_
  refine Zm.l (fun _ _ k_ => z_iconst (v := 0) dX8_run_2 rfl k_) ?_
  refine Zm.l (fun _ _ k_ => z_sipush (v := 2000) dX8_run_3 rfl k_) ?_
  exact zm_callS (as := [vi l1, vi (0 : Int32), vi (2000 : Int32)]) (st := [vr (some (97, 1, 0))]) dX8_run_6 ssX8_899 (Nat.le_refl _) (Nat.le_of_ble_eq_true rfl) (Nat.le_of_ble_eq_true rfl) rfl k
theorem sX8_run_9 {E : zE} {d : Nat} {Q : zO → zM → Prop} (M : zM) (l1 : Int32) (s0 : Int32) (k : if s0 = 0 then (Zm E YX8_run (d + 1) M [(0, vr (some (97, 1, 0))), (1, vi l1)] 29 [vi (1 : Int32), vr (some (97, 1, 0))] Q) else (if (gi M 97 73) = (1 : Int32) then (Zm E YX8_run (d + 1) M [(0, vr (some (97, 1, 0))), (1, vi l1)] 29 [vi (0 : Int32), vr (some (97, 1, 0))] Q) else (Zm E YX8_run (d + 1) M [(0, vr (some (97, 1, 0))), (1, vi l1)] 29 [vi (2 : Int32), vr (some (97, 1, 0))] Q))) : Zm E YX8_run (d + 1) M [(0, vr (some (97, 1, 0))), (1, vi l1)] 9 [vi s0, vr (some (97, 1, 0))] Q := by
  refine Zm.brn (fun _ _ k1_ k2_ => z_if_ne (tgt := 16) dX8_run_9 rfl k1_ k2_) (fun h_ => ?_) (fun h_ => ?_)
  · have k := zif h_ k
    refine Zm.l (fun _ _ k_ => z_aload_n dX8_run_16 rfl rfl k_) ?_
    refine zm_geti dX8_run_17 fsX8_773_1 (by decide) (by decide) ?_
    refine Zm.l (fun _ _ k_ => z_iconst (v := 1) dX8_run_20 rfl k_) ?_
    refine Zm.br (fun _ _ k1_ k2_ => z_icmp_eq (tgt := 28) dX8_run_21 rfl k1_ k2_) (fun h_ => ?_) (fun h_ => ?_)
    · have k := zit h_ k
      refine Zm.l (fun _ _ k_ => z_iconst (v := 0) dX8_run_28 rfl k_) ?_
      exact k
    · have k := zif h_ k
      refine Zm.l (fun _ _ k_ => z_iconst (v := 2) dX8_run_24 rfl k_) ?_
      refine Zm.l (fun _ _ k_ => z_goto (tgt := 29) dX8_run_25 rfl k_) ?_
      exact k
  · have k := zit h_ k
    refine Zm.l (fun _ _ k_ => z_iconst (v := 1) dX8_run_12 rfl k_) ?_
    refine Zm.l (fun _ _ k_ => z_goto (tgt := 29) dX8_run_13 rfl k_) ?_
    exact k
theorem sX8_run_29 {E : zE} {d : Nat} {Q : zO → zM → Prop} (M : zM) (l1 : Int32) (s0 : Int32) (k : if s0 ≤ 0 then (Zm E YX8_run (d + 1) (si M 97 0 s0) [(0, vr (some (97, 1, 0))), (1, vi l1), (2, vi (0 : Int32))] 43 [] Q) else (Q (.inl (some (vi (0 : Int32)))) (si M 97 0 s0))) : Zm E YX8_run (d + 1) M [(0, vr (some (97, 1, 0))), (1, vi l1)] 29 [vi s0, vr (some (97, 1, 0))] Q := by
  refine zm_puti (by decide) (by decide) dX8_run_29 (zfwN.w fwX8_289_1) rfl ⟨rfl, rfl⟩ ?_
  refine Zm.l (fun _ _ k_ => z_aload_n dX8_run_32 rfl rfl k_) ?_
  refine zm_geti dX8_run_33 fsX8_289_1 (by decide) (by decide) ?_
  refine Zm.br (fun _ _ k1_ k2_ => z_if_le (tgt := 41) dX8_run_36 rfl k1_ k2_) (fun h_ => ?_) (fun h_ => ?_)
  · have k := zit h_ k
    refine Zm.l (fun _ _ k_ => z_iconst (v := 0) dX8_run_41 rfl k_) ?_
    refine Zm.l (fun _ _ k_ => z_ist_n dX8_run_42 rfl (by decide) (lv' := [(0, vr (some (97, 1, 0))), (1, vi l1), (2, vi (0 : Int32))]) rfl k_) ?_
    exact k
  · have k := zif h_ k
    refine Zm.l (fun _ _ k_ => z_iconst (v := 0) dX8_run_39 rfl k_) ?_
    exact zm_iret dX8_run_40 rfl rfl k
theorem sX8_run_43 {E : zE} {d : Nat} {Q : zO → zM → Prop} (M : zM) (l1 : Int32) (l2 : Int32) (k : if l1 ≤ l2 then (Q (.inl (some (vi l2))) M) else (if (gi M 97 73) = (1 : Int32) then (Zm E YX8_step_2 d M (zargs 0 [vr (some (97, 1, 0))]) 0 [] (zma E YX8_run (d + 1) [(0, vr (some (97, 1, 0))), (1, vi l1), (2, vi l2)] 57 3 [] Q)) else (Q (.inl (some (vi l2))) M))) : Zm E YX8_run (d + 1) M [(0, vr (some (97, 1, 0))), (1, vi l1), (2, vi l2)] 43 [] Q := by
  refine Zm.l (fun _ _ k_ => z_iload_n dX8_run_43 rfl rfl k_) ?_
  refine Zm.l (fun _ _ k_ => z_iload_n dX8_run_44 rfl rfl k_) ?_
  refine Zm.br (fun _ _ k1_ k2_ => z_icmp_ge (tgt := 88) dX8_run_45 rfl k1_ k2_) (fun h_ => ?_) (fun h_ => ?_)
  · have k := zit h_ k
    refine Zm.l (fun _ _ k_ => z_iload_n dX8_run_88 rfl rfl k_) ?_
    exact zm_iret dX8_run_89 rfl rfl k
  · have k := zif h_ k
    refine Zm.l (fun _ _ k_ => z_aload_n dX8_run_48 rfl rfl k_) ?_
    refine zm_geti dX8_run_49 fsX8_773_1 (by decide) (by decide) ?_
    refine Zm.l (fun _ _ k_ => z_iconst (v := 1) dX8_run_52 rfl k_) ?_
    refine Zm.brn (fun _ _ k1_ k2_ => z_icmp_ne (tgt := 88) dX8_run_53 rfl k1_ k2_) (fun h_ => ?_) (fun h_ => ?_)
    · have k := zif h_ k
      refine Zm.l (fun _ _ k_ => z_iload_n dX8_run_88 rfl rfl k_) ?_
      exact zm_iret dX8_run_89 rfl rfl k
    · have k := zit h_ k
      refine Zm.l (fun _ _ k_ => z_aload_n dX8_run_56 rfl rfl k_) ?_
      exact zm_callV (as := []) (st := []) dX8_run_57 vsX8_902_1 (Nat.le_refl _) (Nat.le_of_ble_eq_true rfl) (Nat.le_of_ble_eq_true rfl) rfl k
theorem sX8_run_60 {E : zE} {d : Nat} {Q : zO → zM → Prop} (M : zM) (l1 : Int32) (l2 : Int32) (k : if (gi M 97 75) = 0 then (Zm E YX8_run (d + 1) (si M 97 74 ((gi M 97 74) + (1 : Int32))) [(0, vr (some (97, 1, 0))), (1, vi l1), (2, vi (l2 + (1 : Int32)))] 43 [] Q) else (Zm E YX8_run (d + 1) (si (si M 97 74 ((gi M 97 74) + (1 : Int32))) 97 73 (4 : Int32)) [(0, vr (some (97, 1, 0))), (1, vi l1), (2, vi (l2 + (1 : Int32)))] 43 [] Q)) : Zm E YX8_run (d + 1) M [(0, vr (some (97, 1, 0))), (1, vi l1), (2, vi l2)] 60 [] Q := by
  refine Zm.l (fun _ _ k_ => z_inc (v := (l2 + (1 : Int32))) dX8_run_60 rfl rfl (by decide) (lv' := [(0, vr (some (97, 1, 0))), (1, vi l1), (2, vi (l2 + (1 : Int32)))]) rfl k_) ?_
  refine Zm.l (fun _ _ k_ => z_aload_n dX8_run_63 rfl rfl k_) ?_
  refine Zm.l (fun _ _ k_ => z_dup dX8_run_64 rfl k_) ?_
  refine zm_geti dX8_run_65 fsX8_861_1 (by decide) (by decide) ?_
  refine Zm.l (fun _ _ k_ => z_iconst (v := 1) dX8_run_68 rfl k_) ?_
  refine Zm.l (fun _ _ k_ => z_iadd dX8_run_69 k_) ?_
  refine zm_puti (by decide) (by decide) dX8_run_70 (zfwN.w fwX8_861_1) rfl ⟨rfl, rfl⟩ ?_
  refine Zm.l (fun _ _ k_ => z_aload_n dX8_run_73 rfl rfl k_) ?_
  refine zm_geti dX8_run_74 fsX8_794_1 (by decide) (by decide) ?_
  refine Zm.br (fun _ _ k1_ k2_ => z_if_eq (tgt := 43) dX8_run_77 rfl k1_ k2_) (fun h_ => ?_) (fun h_ => ?_)
  · have k := zit h_ k
    exact k
  · have k := zif h_ k
    refine Zm.l (fun _ _ k_ => z_aload_n dX8_run_80 rfl rfl k_) ?_
    refine Zm.l (fun _ _ k_ => z_iconst (v := 4) dX8_run_81 rfl k_) ?_
    refine zm_puti (by decide) (by decide) dX8_run_82 (zfwN.w fwX8_773_1) rfl ⟨rfl, rfl⟩ ?_
    refine Zm.l (fun _ _ k_ => z_goto (tgt := 43) dX8_run_85 rfl k_) ?_
    exact k
/-! ScriptTypesModel.in(III)Z -/
theorem bX8_in_0 : zdec cX8_in 0 [(0, .iload_n 0, 1), (1, .iload_n 1, 1), (2, .if_icmp .lt 12, 3), (5, .iload_n 0, 1), (6, .iload_n 2, 1), (7, .if_icmp .gt 7, 3), (10, .iconst 1, 1), (11, .goto 4, 3), (14, .iconst 0, 1), (15, .ireturn, 1)] = true := by decide +kernel
theorem dX8_in_0 : decode cX8_in 0 = .ok (.iload_n 0, 1) := zdec_at bX8_in_0 0 rfl
theorem dX8_in_1 : decode cX8_in 1 = .ok (.iload_n 1, 1) := zdec_at bX8_in_0 1 rfl
theorem dX8_in_2 : decode cX8_in 2 = .ok (.if_icmp .lt 12, 3) := zdec_at bX8_in_0 2 rfl
theorem dX8_in_5 : decode cX8_in 5 = .ok (.iload_n 0, 1) := zdec_at bX8_in_0 3 rfl
theorem dX8_in_6 : decode cX8_in 6 = .ok (.iload_n 2, 1) := zdec_at bX8_in_0 4 rfl
theorem dX8_in_7 : decode cX8_in 7 = .ok (.if_icmp .gt 7, 3) := zdec_at bX8_in_0 5 rfl
theorem dX8_in_10 : decode cX8_in 10 = .ok (.iconst 1, 1) := zdec_at bX8_in_0 6 rfl
theorem dX8_in_11 : decode cX8_in 11 = .ok (.goto 4, 3) := zdec_at bX8_in_0 7 rfl
theorem dX8_in_14 : decode cX8_in 14 = .ok (.iconst 0, 1) := zdec_at bX8_in_0 8 rfl
theorem dX8_in_15 : decode cX8_in 15 = .ok (.ireturn, 1) := zdec_at bX8_in_0 9 rfl
theorem sX8_in_0 {E : zE} {d : Nat} {Q : zO → zM → Prop} (M : zM) (l0 : Int32) (l1 : Int32) (l2 : Int32) (k : if l0 < l1 then (Q (.inl (some (vi (0 : Int32)))) M) else (if l2 < l0 then (Q (.inl (some (vi (0 : Int32)))) M) else (Q (.inl (some (vi (1 : Int32)))) M))) : Zm E YX8_in d M [(0, vi l0), (1, vi l1), (2, vi l2)] 0 [] Q := by
  refine Zm.l (fun _ _ k_ => z_iload_n dX8_in_0 rfl rfl k_) ?_
  refine Zm.l (fun _ _ k_ => z_iload_n dX8_in_1 rfl rfl k_) ?_
  refine Zm.br (fun _ _ k1_ k2_ => z_icmp_lt (tgt := 14) dX8_in_2 rfl k1_ k2_) (fun h_ => ?_) (fun h_ => ?_)
  · have k := zit h_ k
    refine Zm.l (fun _ _ k_ => z_iconst (v := 0) dX8_in_14 rfl k_) ?_
    exact zm_iret dX8_in_15 rfl (by decide) k
  · have k := zif h_ k
    refine Zm.l (fun _ _ k_ => z_iload_n dX8_in_5 rfl rfl k_) ?_
    refine Zm.l (fun _ _ k_ => z_iload_n dX8_in_6 rfl rfl k_) ?_
    refine Zm.br (fun _ _ k1_ k2_ => z_icmp_gt (tgt := 14) dX8_in_7 rfl k1_ k2_) (fun h_ => ?_) (fun h_ => ?_)
    · have k := zit h_ k
      refine Zm.l (fun _ _ k_ => z_iconst (v := 0) dX8_in_14 rfl k_) ?_
      exact zm_iret dX8_in_15 rfl (by decide) k
    · have k := zif h_ k
      refine Zm.l (fun _ _ k_ => z_iconst (v := 1) dX8_in_10 rfl k_) ?_
      refine Zm.l (fun _ _ k_ => z_goto (tgt := 15) dX8_in_11 rfl k_) ?_
      exact zm_iret dX8_in_15 rfl (by decide) k
/-! ScriptTypesModel.step()V -/
theorem bX8_step_2_0 : zdec cX8_step_2 0 [(0, .aload_n 0, 1), (1, .getfield 182, 3), (4, .aload_n 0, 1), (5, .getfield 872, 3), (8, .iconst 1, 1), (9, .isub, 1), (10, .iaload, 1), (11, .istore_n 1, 1), (12, .aload_n 0, 1), (13, .getfield 92, 3), (16, .iload_n 1, 1), (17, .iaload, 1), (18, .istore_n 2, 1), (19, .aload_n 0, 1), (20, .getfield 95, 3), (23, .iload_n 1, 1)] = true := by decide +kernel
theorem dX8_step_2_0 : decode cX8_step_2 0 = .ok (.aload_n 0, 1) := zdec_at bX8_step_2_0 0 rfl
theorem dX8_step_2_1 : decode cX8_step_2 1 = .ok (.getfield 182, 3) := zdec_at bX8_step_2_0 1 rfl
theorem dX8_step_2_4 : decode cX8_step_2 4 = .ok (.aload_n 0, 1) := zdec_at bX8_step_2_0 2 rfl
theorem dX8_step_2_5 : decode cX8_step_2 5 = .ok (.getfield 872, 3) := zdec_at bX8_step_2_0 3 rfl
theorem dX8_step_2_8 : decode cX8_step_2 8 = .ok (.iconst 1, 1) := zdec_at bX8_step_2_0 4 rfl
theorem dX8_step_2_9 : decode cX8_step_2 9 = .ok (.isub, 1) := zdec_at bX8_step_2_0 5 rfl
theorem dX8_step_2_10 : decode cX8_step_2 10 = .ok (.iaload, 1) := zdec_at bX8_step_2_0 6 rfl
theorem dX8_step_2_11 : decode cX8_step_2 11 = .ok (.istore_n 1, 1) := zdec_at bX8_step_2_0 7 rfl
theorem dX8_step_2_12 : decode cX8_step_2 12 = .ok (.aload_n 0, 1) := zdec_at bX8_step_2_0 8 rfl
theorem dX8_step_2_13 : decode cX8_step_2 13 = .ok (.getfield 92, 3) := zdec_at bX8_step_2_0 9 rfl
theorem dX8_step_2_16 : decode cX8_step_2 16 = .ok (.iload_n 1, 1) := zdec_at bX8_step_2_0 10 rfl
theorem dX8_step_2_17 : decode cX8_step_2 17 = .ok (.iaload, 1) := zdec_at bX8_step_2_0 11 rfl
theorem dX8_step_2_18 : decode cX8_step_2 18 = .ok (.istore_n 2, 1) := zdec_at bX8_step_2_0 12 rfl
theorem dX8_step_2_19 : decode cX8_step_2 19 = .ok (.aload_n 0, 1) := zdec_at bX8_step_2_0 13 rfl
theorem dX8_step_2_20 : decode cX8_step_2 20 = .ok (.getfield 95, 3) := zdec_at bX8_step_2_0 14 rfl
theorem dX8_step_2_23 : decode cX8_step_2 23 = .ok (.iload_n 1, 1) := zdec_at bX8_step_2_0 15 rfl
theorem bX8_step_2_24 : zdec cX8_step_2 24 [(24, .iaload, 1), (25, .istore_n 3, 1), (26, .aload_n 0, 1), (27, .getfield 89, 3), (30, .iload_n 1, 1), (31, .iaload, 1)] = true := by decide +kernel
theorem dX8_step_2_24 : decode cX8_step_2 24 = .ok (.iaload, 1) := zdec_at bX8_step_2_24 0 rfl
theorem dX8_step_2_25 : decode cX8_step_2 25 = .ok (.istore_n 3, 1) := zdec_at bX8_step_2_24 1 rfl
theorem dX8_step_2_26 : decode cX8_step_2 26 = .ok (.aload_n 0, 1) := zdec_at bX8_step_2_24 2 rfl
theorem dX8_step_2_27 : decode cX8_step_2 27 = .ok (.getfield 89, 3) := zdec_at bX8_step_2_24 3 rfl
theorem dX8_step_2_30 : decode cX8_step_2 30 = .ok (.iload_n 1, 1) := zdec_at bX8_step_2_24 4 rfl
theorem dX8_step_2_31 : decode cX8_step_2 31 = .ok (.iaload, 1) := zdec_at bX8_step_2_24 5 rfl
theorem dX8_step_2_32 : decode cX8_step_2 32 = .ok (.tableswitch 403 0 16 #[84, 98, 136, 163, 186, 163, 216, 250, 275, 298, 306, 313, 320, 327, 378, 386, 394], 84) := by decide +kernel
theorem bX8_step_2_116 : zdec cX8_step_2 116 [(116, .aload_n 0, 1), (117, .iload_n 2, 1), (118, .iload_n 3, 1), (119, .invokevirtual 822, 3), (122, .aload_n 0, 1), (123, .iconst 0, 1), (124, .invokevirtual 904, 3), (127, .goto 319, 3), (130, .aload_n 0, 1), (131, .aload_n 0, 1), (132, .iload_n 2, 1), (133, .invokevirtual 907, 3), (136, .iload_n 3, 1), (137, .invokevirtual 846, 3), (140, .istore 4, 2), (142, .aload_n 0, 1)] = true := by decide +kernel
theorem dX8_step_2_116 : decode cX8_step_2 116 = .ok (.aload_n 0, 1) := zdec_at bX8_step_2_116 0 rfl
theorem dX8_step_2_117 : decode cX8_step_2 117 = .ok (.iload_n 2, 1) := zdec_at bX8_step_2_116 1 rfl
theorem dX8_step_2_118 : decode cX8_step_2 118 = .ok (.iload_n 3, 1) := zdec_at bX8_step_2_116 2 rfl
theorem dX8_step_2_119 : decode cX8_step_2 119 = .ok (.invokevirtual 822, 3) := zdec_at bX8_step_2_116 3 rfl
theorem dX8_step_2_122 : decode cX8_step_2 122 = .ok (.aload_n 0, 1) := zdec_at bX8_step_2_116 4 rfl
theorem dX8_step_2_123 : decode cX8_step_2 123 = .ok (.iconst 0, 1) := zdec_at bX8_step_2_116 5 rfl
theorem dX8_step_2_124 : decode cX8_step_2 124 = .ok (.invokevirtual 904, 3) := zdec_at bX8_step_2_116 6 rfl
theorem dX8_step_2_127 : decode cX8_step_2 127 = .ok (.goto 319, 3) := zdec_at bX8_step_2_116 7 rfl
theorem dX8_step_2_130 : decode cX8_step_2 130 = .ok (.aload_n 0, 1) := zdec_at bX8_step_2_116 8 rfl
theorem dX8_step_2_131 : decode cX8_step_2 131 = .ok (.aload_n 0, 1) := zdec_at bX8_step_2_116 9 rfl
theorem dX8_step_2_132 : decode cX8_step_2 132 = .ok (.iload_n 2, 1) := zdec_at bX8_step_2_116 10 rfl
theorem dX8_step_2_133 : decode cX8_step_2 133 = .ok (.invokevirtual 907, 3) := zdec_at bX8_step_2_116 11 rfl
theorem dX8_step_2_136 : decode cX8_step_2 136 = .ok (.iload_n 3, 1) := zdec_at bX8_step_2_116 12 rfl
theorem dX8_step_2_137 : decode cX8_step_2 137 = .ok (.invokevirtual 846, 3) := zdec_at bX8_step_2_116 13 rfl
theorem dX8_step_2_140 : decode cX8_step_2 140 = .ok (.istore 4, 2) := zdec_at bX8_step_2_116 14 rfl
theorem dX8_step_2_142 : decode cX8_step_2 142 = .ok (.aload_n 0, 1) := zdec_at bX8_step_2_116 15 rfl
theorem bX8_step_2_143 : zdec cX8_step_2 143 [(143, .aload_n 0, 1), (144, .getfield 158, 3), (147, .iload 4, 2), (149, .iaload, 1), (150, .aload_n 0, 1), (151, .getfield 161, 3), (154, .iload 4, 2), (156, .iaload, 1), (157, .invokevirtual 822, 3), (160, .aload_n 0, 1), (161, .iconst 0, 1), (162, .invokevirtual 904, 3), (165, .goto 281, 3), (168, .aload_n 0, 1), (169, .aload_n 0, 1), (170, .iload_n 2, 1)] = true := by decide +kernel
theorem dX8_step_2_143 : decode cX8_step_2 143 = .ok (.aload_n 0, 1) := zdec_at bX8_step_2_143 0 rfl
theorem dX8_step_2_144 : decode cX8_step_2 144 = .ok (.getfield 158, 3) := zdec_at bX8_step_2_143 1 rfl
theorem dX8_step_2_147 : decode cX8_step_2 147 = .ok (.iload 4, 2) := zdec_at bX8_step_2_143 2 rfl
theorem dX8_step_2_149 : decode cX8_step_2 149 = .ok (.iaload, 1) := zdec_at bX8_step_2_143 3 rfl
theorem dX8_step_2_150 : decode cX8_step_2 150 = .ok (.aload_n 0, 1) := zdec_at bX8_step_2_143 4 rfl
theorem dX8_step_2_151 : decode cX8_step_2 151 = .ok (.getfield 161, 3) := zdec_at bX8_step_2_143 5 rfl
theorem dX8_step_2_154 : decode cX8_step_2 154 = .ok (.iload 4, 2) := zdec_at bX8_step_2_143 6 rfl
theorem dX8_step_2_156 : decode cX8_step_2 156 = .ok (.iaload, 1) := zdec_at bX8_step_2_143 7 rfl
theorem dX8_step_2_157 : decode cX8_step_2 157 = .ok (.invokevirtual 822, 3) := zdec_at bX8_step_2_143 8 rfl
theorem dX8_step_2_160 : decode cX8_step_2 160 = .ok (.aload_n 0, 1) := zdec_at bX8_step_2_143 9 rfl
theorem dX8_step_2_161 : decode cX8_step_2 161 = .ok (.iconst 0, 1) := zdec_at bX8_step_2_143 10 rfl
theorem dX8_step_2_162 : decode cX8_step_2 162 = .ok (.invokevirtual 904, 3) := zdec_at bX8_step_2_143 11 rfl
theorem dX8_step_2_165 : decode cX8_step_2 165 = .ok (.goto 281, 3) := zdec_at bX8_step_2_143 12 rfl
theorem dX8_step_2_168 : decode cX8_step_2 168 = .ok (.aload_n 0, 1) := zdec_at bX8_step_2_143 13 rfl
theorem dX8_step_2_169 : decode cX8_step_2 169 = .ok (.aload_n 0, 1) := zdec_at bX8_step_2_143 14 rfl
theorem dX8_step_2_170 : decode cX8_step_2 170 = .ok (.iload_n 2, 1) := zdec_at bX8_step_2_143 15 rfl
theorem bX8_step_2_171 : zdec cX8_step_2 171 [(171, .invokevirtual 907, 3), (174, .iload_n 3, 1), (175, .aload_n 0, 1), (176, .iconst 0, 1), (177, .invokevirtual 910, 3), (180, .aload_n 0, 1), (181, .iconst 0, 1), (182, .invokevirtual 913, 3), (185, .invokevirtual 870, 3), (188, .aload_n 0, 1), (189, .invokevirtual 888, 3), (192, .goto 254, 3), (195, .aload_n 0, 1), (196, .aload_n 0, 1), (197, .getfield 89, 3), (200, .iload_n 1, 1)] = true := by decide +kernel
theorem dX8_step_2_171 : decode cX8_step_2 171 = .ok (.invokevirtual 907, 3) := zdec_at bX8_step_2_171 0 rfl
theorem dX8_step_2_174 : decode cX8_step_2 174 = .ok (.iload_n 3, 1) := zdec_at bX8_step_2_171 1 rfl
theorem dX8_step_2_175 : decode cX8_step_2 175 = .ok (.aload_n 0, 1) := zdec_at bX8_step_2_171 2 rfl
theorem dX8_step_2_176 : decode cX8_step_2 176 = .ok (.iconst 0, 1) := zdec_at bX8_step_2_171 3 rfl
theorem dX8_step_2_177 : decode cX8_step_2 177 = .ok (.invokevirtual 910, 3) := zdec_at bX8_step_2_171 4 rfl
theorem dX8_step_2_180 : decode cX8_step_2 180 = .ok (.aload_n 0, 1) := zdec_at bX8_step_2_171 5 rfl
theorem dX8_step_2_181 : decode cX8_step_2 181 = .ok (.iconst 0, 1) := zdec_at bX8_step_2_171 6 rfl
theorem dX8_step_2_182 : decode cX8_step_2 182 = .ok (.invokevirtual 913, 3) := zdec_at bX8_step_2_171 7 rfl
theorem dX8_step_2_185 : decode cX8_step_2 185 = .ok (.invokevirtual 870, 3) := zdec_at bX8_step_2_171 8 rfl
theorem dX8_step_2_188 : decode cX8_step_2 188 = .ok (.aload_n 0, 1) := zdec_at bX8_step_2_171 9 rfl
theorem dX8_step_2_189 : decode cX8_step_2 189 = .ok (.invokevirtual 888, 3) := zdec_at bX8_step_2_171 10 rfl
theorem dX8_step_2_192 : decode cX8_step_2 192 = .ok (.goto 254, 3) := zdec_at bX8_step_2_171 11 rfl
theorem dX8_step_2_195 : decode cX8_step_2 195 = .ok (.aload_n 0, 1) := zdec_at bX8_step_2_171 12 rfl
theorem dX8_step_2_196 : decode cX8_step_2 196 = .ok (.aload_n 0, 1) := zdec_at bX8_step_2_171 13 rfl
theorem dX8_step_2_197 : decode cX8_step_2 197 = .ok (.getfield 89, 3) := zdec_at bX8_step_2_171 14 rfl
theorem dX8_step_2_200 : decode cX8_step_2 200 = .ok (.iload_n 1, 1) := zdec_at bX8_step_2_171 15 rfl
theorem bX8_step_2_201 : zdec cX8_step_2 201 [(201, .iaload, 1), (202, .iconst 3, 1), (203, .if_icmp .ne 7, 3), (206, .iconst 1, 1), (207, .goto 4, 3), (210, .iconst 0, 1), (211, .iload_n 3, 1), (212, .invokevirtual 916, 3), (215, .goto 231, 3), (218, .aload_n 0, 1), (219, .iconst 0, 1), (220, .iload_n 3, 1), (221, .aload_n 0, 1), (222, .iconst 0, 1), (223, .invokevirtual 910, 3), (226, .aload_n 0, 1)] = true := by decide +kernel
theorem dX8_step_2_201 : decode cX8_step_2 201 = .ok (.iaload, 1) := zdec_at bX8_step_2_201 0 rfl
theorem dX8_step_2_202 : decode cX8_step_2 202 = .ok (.iconst 3, 1) := zdec_at bX8_step_2_201 1 rfl
theorem dX8_step_2_203 : decode cX8_step_2 203 = .ok (.if_icmp .ne 7, 3) := zdec_at bX8_step_2_201 2 rfl
theorem dX8_step_2_206 : decode cX8_step_2 206 = .ok (.iconst 1, 1) := zdec_at bX8_step_2_201 3 rfl
theorem dX8_step_2_207 : decode cX8_step_2 207 = .ok (.goto 4, 3) := zdec_at bX8_step_2_201 4 rfl
theorem dX8_step_2_210 : decode cX8_step_2 210 = .ok (.iconst 0, 1) := zdec_at bX8_step_2_201 5 rfl
theorem dX8_step_2_211 : decode cX8_step_2 211 = .ok (.iload_n 3, 1) := zdec_at bX8_step_2_201 6 rfl
theorem dX8_step_2_212 : decode cX8_step_2 212 = .ok (.invokevirtual 916, 3) := zdec_at bX8_step_2_201 7 rfl
theorem dX8_step_2_215 : decode cX8_step_2 215 = .ok (.goto 231, 3) := zdec_at bX8_step_2_201 8 rfl
theorem dX8_step_2_218 : decode cX8_step_2 218 = .ok (.aload_n 0, 1) := zdec_at bX8_step_2_201 9 rfl
theorem dX8_step_2_219 : decode cX8_step_2 219 = .ok (.iconst 0, 1) := zdec_at bX8_step_2_201 10 rfl
theorem dX8_step_2_220 : decode cX8_step_2 220 = .ok (.iload_n 3, 1) := zdec_at bX8_step_2_201 11 rfl
theorem dX8_step_2_221 : decode cX8_step_2 221 = .ok (.aload_n 0, 1) := zdec_at bX8_step_2_201 12 rfl
theorem dX8_step_2_222 : decode cX8_step_2 222 = .ok (.iconst 0, 1) := zdec_at bX8_step_2_201 13 rfl
theorem dX8_step_2_223 : decode cX8_step_2 223 = .ok (.invokevirtual 910, 3) := zdec_at bX8_step_2_201 14 rfl
theorem dX8_step_2_226 : decode cX8_step_2 226 = .ok (.aload_n 0, 1) := zdec_at bX8_step_2_201 15 rfl
theorem bX8_step_2_227 : zdec cX8_step_2 227 [(227, .iconst 0, 1), (228, .invokevirtual 913, 3), (231, .invokevirtual 870, 3), (234, .aload_n 0, 1), (235, .getfield 794, 3), (238, .ifCond .ne 208, 3), (241, .aload_n 0, 1), (242, .invokevirtual 888, 3), (245, .goto 201, 3), (248, .aload_n 0, 1), (249, .aload_n 0, 1), (250, .getfield 176, 3), (253, .aload_n 0, 1), (254, .getfield 872, 3), (257, .iconst 1, 1), (258, .isub, 1)] = true := by decide +kernel
theorem dX8_step_2_227 : decode cX8_step_2 227 = .ok (.iconst 0, 1) := zdec_at bX8_step_2_227 0 rfl
theorem dX8_step_2_228 : decode cX8_step_2 228 = .ok (.invokevirtual 913, 3) := zdec_at bX8_step_2_227 1 rfl
theorem dX8_step_2_231 : decode cX8_step_2 231 = .ok (.invokevirtual 870, 3) := zdec_at bX8_step_2_227 2 rfl
theorem dX8_step_2_234 : decode cX8_step_2 234 = .ok (.aload_n 0, 1) := zdec_at bX8_step_2_227 3 rfl
theorem dX8_step_2_235 : decode cX8_step_2 235 = .ok (.getfield 794, 3) := zdec_at bX8_step_2_227 4 rfl
theorem dX8_step_2_238 : decode cX8_step_2 238 = .ok (.ifCond .ne 208, 3) := zdec_at bX8_step_2_227 5 rfl
theorem dX8_step_2_241 : decode cX8_step_2 241 = .ok (.aload_n 0, 1) := zdec_at bX8_step_2_227 6 rfl
theorem dX8_step_2_242 : decode cX8_step_2 242 = .ok (.invokevirtual 888, 3) := zdec_at bX8_step_2_227 7 rfl
theorem dX8_step_2_245 : decode cX8_step_2 245 = .ok (.goto 201, 3) := zdec_at bX8_step_2_227 8 rfl
theorem dX8_step_2_248 : decode cX8_step_2 248 = .ok (.aload_n 0, 1) := zdec_at bX8_step_2_227 9 rfl
theorem dX8_step_2_249 : decode cX8_step_2 249 = .ok (.aload_n 0, 1) := zdec_at bX8_step_2_227 10 rfl
theorem dX8_step_2_250 : decode cX8_step_2 250 = .ok (.getfield 176, 3) := zdec_at bX8_step_2_227 11 rfl
theorem dX8_step_2_253 : decode cX8_step_2 253 = .ok (.aload_n 0, 1) := zdec_at bX8_step_2_227 12 rfl
theorem dX8_step_2_254 : decode cX8_step_2 254 = .ok (.getfield 872, 3) := zdec_at bX8_step_2_227 13 rfl
theorem dX8_step_2_257 : decode cX8_step_2 257 = .ok (.iconst 1, 1) := zdec_at bX8_step_2_227 14 rfl
theorem dX8_step_2_258 : decode cX8_step_2 258 = .ok (.isub, 1) := zdec_at bX8_step_2_227 15 rfl
theorem bX8_step_2_259 : zdec cX8_step_2 259 [(259, .iaload, 1), (260, .aload_n 0, 1), (261, .getfield 179, 3), (264, .aload_n 0, 1), (265, .getfield 872, 3), (268, .iconst 1, 1), (269, .isub, 1), (270, .iaload, 1), (271, .invokevirtual 822, 3), (274, .aload_n 0, 1), (275, .iconst 0, 1), (276, .invokevirtual 904, 3), (279, .goto 167, 3), (282, .aload_n 0, 1), (283, .bipush 7, 2), (285, .aload_n 0, 1)] = true := by decide +kernel
theorem dX8_step_2_259 : decode cX8_step_2 259 = .ok (.iaload, 1) := zdec_at bX8_step_2_259 0 rfl
theorem dX8_step_2_260 : decode cX8_step_2 260 = .ok (.aload_n 0, 1) := zdec_at bX8_step_2_259 1 rfl
theorem dX8_step_2_261 : decode cX8_step_2 261 = .ok (.getfield 179, 3) := zdec_at bX8_step_2_259 2 rfl
theorem dX8_step_2_264 : decode cX8_step_2 264 = .ok (.aload_n 0, 1) := zdec_at bX8_step_2_259 3 rfl
theorem dX8_step_2_265 : decode cX8_step_2 265 = .ok (.getfield 872, 3) := zdec_at bX8_step_2_259 4 rfl
theorem dX8_step_2_268 : decode cX8_step_2 268 = .ok (.iconst 1, 1) := zdec_at bX8_step_2_259 5 rfl
theorem dX8_step_2_269 : decode cX8_step_2 269 = .ok (.isub, 1) := zdec_at bX8_step_2_259 6 rfl
theorem dX8_step_2_270 : decode cX8_step_2 270 = .ok (.iaload, 1) := zdec_at bX8_step_2_259 7 rfl
theorem dX8_step_2_271 : decode cX8_step_2 271 = .ok (.invokevirtual 822, 3) := zdec_at bX8_step_2_259 8 rfl
theorem dX8_step_2_274 : decode cX8_step_2 274 = .ok (.aload_n 0, 1) := zdec_at bX8_step_2_259 9 rfl
theorem dX8_step_2_275 : decode cX8_step_2 275 = .ok (.iconst 0, 1) := zdec_at bX8_step_2_259 10 rfl
theorem dX8_step_2_276 : decode cX8_step_2 276 = .ok (.invokevirtual 904, 3) := zdec_at bX8_step_2_259 11 rfl
theorem dX8_step_2_279 : decode cX8_step_2 279 = .ok (.goto 167, 3) := zdec_at bX8_step_2_259 12 rfl
theorem dX8_step_2_282 : decode cX8_step_2 282 = .ok (.aload_n 0, 1) := zdec_at bX8_step_2_259 13 rfl
theorem dX8_step_2_283 : decode cX8_step_2 283 = .ok (.bipush 7, 2) := zdec_at bX8_step_2_259 14 rfl
theorem dX8_step_2_285 : decode cX8_step_2 285 = .ok (.aload_n 0, 1) := zdec_at bX8_step_2_259 15 rfl
theorem bX8_step_2_286 : zdec cX8_step_2 286 [(286, .iconst 1, 1), (287, .aload_n 0, 1), (288, .iload_n 2, 1), (289, .invokevirtual 920, 3), (292, .iconst 0, 1), (293, .invokevirtual 858, 3), (296, .invokevirtual 822, 3), (299, .aload_n 0, 1), (300, .iconst 0, 1), (301, .invokevirtual 904, 3), (304, .goto 142, 3), (307, .aload_n 0, 1), (308, .bipush 7, 2), (310, .aload_n 0, 1), (311, .aload_n 0, 1), (312, .iload_n 2, 1)] = true := by decide +kernel
theorem dX8_step_2_286 : decode cX8_step_2 286 = .ok (.iconst 1, 1) := zdec_at bX8_step_2_286 0 rfl
theorem dX8_step_2_287 : decode cX8_step_2 287 = .ok (.aload_n 0, 1) := zdec_at bX8_step_2_286 1 rfl
theorem dX8_step_2_288 : decode cX8_step_2 288 = .ok (.iload_n 2, 1) := zdec_at bX8_step_2_286 2 rfl
theorem dX8_step_2_289 : decode cX8_step_2 289 = .ok (.invokevirtual 920, 3) := zdec_at bX8_step_2_286 3 rfl
theorem dX8_step_2_292 : decode cX8_step_2 292 = .ok (.iconst 0, 1) := zdec_at bX8_step_2_286 4 rfl
theorem dX8_step_2_293 : decode cX8_step_2 293 = .ok (.invokevirtual 858, 3) := zdec_at bX8_step_2_286 5 rfl
theorem dX8_step_2_296 : decode cX8_step_2 296 = .ok (.invokevirtual 822, 3) := zdec_at bX8_step_2_286 6 rfl
theorem dX8_step_2_299 : decode cX8_step_2 299 = .ok (.aload_n 0, 1) := zdec_at bX8_step_2_286 7 rfl
theorem dX8_step_2_300 : decode cX8_step_2 300 = .ok (.iconst 0, 1) := zdec_at bX8_step_2_286 8 rfl
theorem dX8_step_2_301 : decode cX8_step_2 301 = .ok (.invokevirtual 904, 3) := zdec_at bX8_step_2_286 9 rfl
theorem dX8_step_2_304 : decode cX8_step_2 304 = .ok (.goto 142, 3) := zdec_at bX8_step_2_286 10 rfl
theorem dX8_step_2_307 : decode cX8_step_2 307 = .ok (.aload_n 0, 1) := zdec_at bX8_step_2_286 11 rfl
theorem dX8_step_2_308 : decode cX8_step_2 308 = .ok (.bipush 7, 2) := zdec_at bX8_step_2_286 12 rfl
theorem dX8_step_2_310 : decode cX8_step_2 310 = .ok (.aload_n 0, 1) := zdec_at bX8_step_2_286 13 rfl
theorem dX8_step_2_311 : decode cX8_step_2 311 = .ok (.aload_n 0, 1) := zdec_at bX8_step_2_286 14 rfl
theorem dX8_step_2_312 : decode cX8_step_2 312 = .ok (.iload_n 2, 1) := zdec_at bX8_step_2_286 15 rfl
theorem bX8_step_2_313 : zdec cX8_step_2 313 [(313, .invokevirtual 920, 3), (316, .invokevirtual 923, 3), (319, .invokevirtual 822, 3), (322, .aload_n 0, 1), (323, .iconst 0, 1), (324, .invokevirtual 904, 3), (327, .goto 119, 3), (330, .aload_n 0, 1), (331, .iload_n 2, 1), (332, .invokevirtual 926, 3), (335, .goto 111, 3), (338, .aload_n 0, 1), (339, .invokevirtual 929, 3), (342, .goto 104, 3), (345, .aload_n 0, 1), (346, .invokevirtual 931, 3)] = true := by decide +kernel
theorem dX8_step_2_313 : decode cX8_step_2 313 = .ok (.invokevirtual 920, 3) := zdec_at bX8_step_2_313 0 rfl
theorem dX8_step_2_316 : decode cX8_step_2 316 = .ok (.invokevirtual 923, 3) := zdec_at bX8_step_2_313 1 rfl
theorem dX8_step_2_319 : decode cX8_step_2 319 = .ok (.invokevirtual 822, 3) := zdec_at bX8_step_2_313 2 rfl
theorem dX8_step_2_322 : decode cX8_step_2 322 = .ok (.aload_n 0, 1) := zdec_at bX8_step_2_313 3 rfl
theorem dX8_step_2_323 : decode cX8_step_2 323 = .ok (.iconst 0, 1) := zdec_at bX8_step_2_313 4 rfl
theorem dX8_step_2_324 : decode cX8_step_2 324 = .ok (.invokevirtual 904, 3) := zdec_at bX8_step_2_313 5 rfl
theorem dX8_step_2_327 : decode cX8_step_2 327 = .ok (.goto 119, 3) := zdec_at bX8_step_2_313 6 rfl
theorem dX8_step_2_330 : decode cX8_step_2 330 = .ok (.aload_n 0, 1) := zdec_at bX8_step_2_313 7 rfl
theorem dX8_step_2_331 : decode cX8_step_2 331 = .ok (.iload_n 2, 1) := zdec_at bX8_step_2_313 8 rfl
theorem dX8_step_2_332 : decode cX8_step_2 332 = .ok (.invokevirtual 926, 3) := zdec_at bX8_step_2_313 9 rfl
theorem dX8_step_2_335 : decode cX8_step_2 335 = .ok (.goto 111, 3) := zdec_at bX8_step_2_313 10 rfl
theorem dX8_step_2_338 : decode cX8_step_2 338 = .ok (.aload_n 0, 1) := zdec_at bX8_step_2_313 11 rfl
theorem dX8_step_2_339 : decode cX8_step_2 339 = .ok (.invokevirtual 929, 3) := zdec_at bX8_step_2_313 12 rfl
theorem dX8_step_2_342 : decode cX8_step_2 342 = .ok (.goto 104, 3) := zdec_at bX8_step_2_313 13 rfl
theorem dX8_step_2_345 : decode cX8_step_2 345 = .ok (.aload_n 0, 1) := zdec_at bX8_step_2_313 14 rfl
theorem dX8_step_2_346 : decode cX8_step_2 346 = .ok (.invokevirtual 931, 3) := zdec_at bX8_step_2_313 15 rfl
theorem bX8_step_2_349 : zdec cX8_step_2 349 [(349, .goto 97, 3), (352, .aload_n 0, 1), (353, .invokevirtual 934, 3), (356, .goto 90, 3), (359, .iload_n 2, 1), (360, .iconst 4, 1), (361, .if_icmp .ne 26, 3), (364, .aload_n 0, 1), (365, .bipush 6, 2), (367, .aload_n 0, 1), (368, .aload_n 0, 1), (369, .iconst 0, 1), (370, .invokevirtual 910, 3), (373, .aload_n 0, 1), (374, .iconst 0, 1), (375, .invokevirtual 913, 3)] = true := by decide +kernel
theorem dX8_step_2_349 : decode cX8_step_2 349 = .ok (.goto 97, 3) := zdec_at bX8_step_2_349 0 rfl
theorem dX8_step_2_352 : decode cX8_step_2 352 = .ok (.aload_n 0, 1) := zdec_at bX8_step_2_349 1 rfl
theorem dX8_step_2_353 : decode cX8_step_2 353 = .ok (.invokevirtual 934, 3) := zdec_at bX8_step_2_349 2 rfl
theorem dX8_step_2_356 : decode cX8_step_2 356 = .ok (.goto 90, 3) := zdec_at bX8_step_2_349 3 rfl
theorem dX8_step_2_359 : decode cX8_step_2 359 = .ok (.iload_n 2, 1) := zdec_at bX8_step_2_349 4 rfl
theorem dX8_step_2_360 : decode cX8_step_2 360 = .ok (.iconst 4, 1) := zdec_at bX8_step_2_349 5 rfl
theorem dX8_step_2_361 : decode cX8_step_2 361 = .ok (.if_icmp .ne 26, 3) := zdec_at bX8_step_2_349 6 rfl
theorem dX8_step_2_364 : decode cX8_step_2 364 = .ok (.aload_n 0, 1) := zdec_at bX8_step_2_349 7 rfl
theorem dX8_step_2_365 : decode cX8_step_2 365 = .ok (.bipush 6, 2) := zdec_at bX8_step_2_349 8 rfl
theorem dX8_step_2_367 : decode cX8_step_2 367 = .ok (.aload_n 0, 1) := zdec_at bX8_step_2_349 9 rfl
theorem dX8_step_2_368 : decode cX8_step_2 368 = .ok (.aload_n 0, 1) := zdec_at bX8_step_2_349 10 rfl
theorem dX8_step_2_369 : decode cX8_step_2 369 = .ok (.iconst 0, 1) := zdec_at bX8_step_2_349 11 rfl
theorem dX8_step_2_370 : decode cX8_step_2 370 = .ok (.invokevirtual 910, 3) := zdec_at bX8_step_2_349 12 rfl
theorem dX8_step_2_373 : decode cX8_step_2 373 = .ok (.aload_n 0, 1) := zdec_at bX8_step_2_349 13 rfl
theorem dX8_step_2_374 : decode cX8_step_2 374 = .ok (.iconst 0, 1) := zdec_at bX8_step_2_349 14 rfl
theorem dX8_step_2_375 : decode cX8_step_2 375 = .ok (.invokevirtual 913, 3) := zdec_at bX8_step_2_349 15 rfl
theorem bX8_step_2_378 : zdec cX8_step_2 378 [(378, .invokevirtual 937, 3), (381, .invokevirtual 822, 3), (384, .goto 18, 3), (387, .aload_n 0, 1), (388, .iload_n 2, 1), (389, .aload_n 0, 1), (390, .iconst 0, 1), (391, .invokevirtual 910, 3), (394, .aload_n 0, 1), (395, .iconst 0, 1), (396, .invokevirtual 913, 3), (399, .invokevirtual 940, 3), (402, .aload_n 0, 1), (403, .iconst 1, 1), (404, .invokevirtual 904, 3), (407, .goto 39, 3)] = true := by decide +kernel
theorem dX8_step_2_378 : decode cX8_step_2 378 = .ok (.invokevirtual 937, 3) := zdec_at bX8_step_2_378 0 rfl
theorem dX8_step_2_381 : decode cX8_step_2 381 = .ok (.invokevirtual 822, 3) := zdec_at bX8_step_2_378 1 rfl
theorem dX8_step_2_384 : decode cX8_step_2 384 = .ok (.goto 18, 3) := zdec_at bX8_step_2_378 2 rfl
theorem dX8_step_2_387 : decode cX8_step_2 387 = .ok (.aload_n 0, 1) := zdec_at bX8_step_2_378 3 rfl
theorem dX8_step_2_388 : decode cX8_step_2 388 = .ok (.iload_n 2, 1) := zdec_at bX8_step_2_378 4 rfl
theorem dX8_step_2_389 : decode cX8_step_2 389 = .ok (.aload_n 0, 1) := zdec_at bX8_step_2_378 5 rfl
theorem dX8_step_2_390 : decode cX8_step_2 390 = .ok (.iconst 0, 1) := zdec_at bX8_step_2_378 6 rfl
theorem dX8_step_2_391 : decode cX8_step_2 391 = .ok (.invokevirtual 910, 3) := zdec_at bX8_step_2_378 7 rfl
theorem dX8_step_2_394 : decode cX8_step_2 394 = .ok (.aload_n 0, 1) := zdec_at bX8_step_2_378 8 rfl
theorem dX8_step_2_395 : decode cX8_step_2 395 = .ok (.iconst 0, 1) := zdec_at bX8_step_2_378 9 rfl
theorem dX8_step_2_396 : decode cX8_step_2 396 = .ok (.invokevirtual 913, 3) := zdec_at bX8_step_2_378 10 rfl
theorem dX8_step_2_399 : decode cX8_step_2 399 = .ok (.invokevirtual 940, 3) := zdec_at bX8_step_2_378 11 rfl
theorem dX8_step_2_402 : decode cX8_step_2 402 = .ok (.aload_n 0, 1) := zdec_at bX8_step_2_378 12 rfl
theorem dX8_step_2_403 : decode cX8_step_2 403 = .ok (.iconst 1, 1) := zdec_at bX8_step_2_378 13 rfl
theorem dX8_step_2_404 : decode cX8_step_2 404 = .ok (.invokevirtual 904, 3) := zdec_at bX8_step_2_378 14 rfl
theorem dX8_step_2_407 : decode cX8_step_2 407 = .ok (.goto 39, 3) := zdec_at bX8_step_2_378 15 rfl
theorem bX8_step_2_410 : zdec cX8_step_2 410 [(410, .aload_n 0, 1), (411, .iload_n 2, 1), (412, .invokevirtual 943, 3), (415, .goto 31, 3), (418, .aload_n 0, 1), (419, .iload_n 2, 1), (420, .invokevirtual 945, 3), (423, .goto 23, 3), (426, .aload_n 0, 1), (427, .iload_n 2, 1), (428, .iload_n 3, 1), (429, .invokevirtual 948, 3), (432, .goto 14, 3), (435, .aload_n 0, 1), (436, .aload_n 0, 1), (437, .getfield 89, 3)] = true := by decide +kernel
theorem dX8_step_2_410 : decode cX8_step_2 410 = .ok (.aload_n 0, 1) := zdec_at bX8_step_2_410 0 rfl
theorem dX8_step_2_411 : decode cX8_step_2 411 = .ok (.iload_n 2, 1) := zdec_at bX8_step_2_410 1 rfl
theorem dX8_step_2_412 : decode cX8_step_2 412 = .ok (.invokevirtual 943, 3) := zdec_at bX8_step_2_410 2 rfl
theorem dX8_step_2_415 : decode cX8_step_2 415 = .ok (.goto 31, 3) := zdec_at bX8_step_2_410 3 rfl
theorem dX8_step_2_418 : decode cX8_step_2 418 = .ok (.aload_n 0, 1) := zdec_at bX8_step_2_410 4 rfl
theorem dX8_step_2_419 : decode cX8_step_2 419 = .ok (.iload_n 2, 1) := zdec_at bX8_step_2_410 5 rfl
theorem dX8_step_2_420 : decode cX8_step_2 420 = .ok (.invokevirtual 945, 3) := zdec_at bX8_step_2_410 6 rfl
theorem dX8_step_2_423 : decode cX8_step_2 423 = .ok (.goto 23, 3) := zdec_at bX8_step_2_410 7 rfl
theorem dX8_step_2_426 : decode cX8_step_2 426 = .ok (.aload_n 0, 1) := zdec_at bX8_step_2_410 8 rfl
theorem dX8_step_2_427 : decode cX8_step_2 427 = .ok (.iload_n 2, 1) := zdec_at bX8_step_2_410 9 rfl
theorem dX8_step_2_428 : decode cX8_step_2 428 = .ok (.iload_n 3, 1) := zdec_at bX8_step_2_410 10 rfl
theorem dX8_step_2_429 : decode cX8_step_2 429 = .ok (.invokevirtual 948, 3) := zdec_at bX8_step_2_410 11 rfl
theorem dX8_step_2_432 : decode cX8_step_2 432 = .ok (.goto 14, 3) := zdec_at bX8_step_2_410 12 rfl
theorem dX8_step_2_435 : decode cX8_step_2 435 = .ok (.aload_n 0, 1) := zdec_at bX8_step_2_410 13 rfl
theorem dX8_step_2_436 : decode cX8_step_2 436 = .ok (.aload_n 0, 1) := zdec_at bX8_step_2_410 14 rfl
theorem dX8_step_2_437 : decode cX8_step_2 437 = .ok (.getfield 89, 3) := zdec_at bX8_step_2_410 15 rfl
theorem bX8_step_2_440 : zdec cX8_step_2 440 [(440, .iload_n 1, 1), (441, .iaload, 1), (442, .iload_n 2, 1), (443, .invokevirtual 951, 3), (446, .return_, 1)] = true := by decide +kernel
theorem dX8_step_2_440 : decode cX8_step_2 440 = .ok (.iload_n 1, 1) := zdec_at bX8_step_2_440 0 rfl
theorem dX8_step_2_441 : decode cX8_step_2 441 = .ok (.iaload, 1) := zdec_at bX8_step_2_440 1 rfl
theorem dX8_step_2_442 : decode cX8_step_2 442 = .ok (.iload_n 2, 1) := zdec_at bX8_step_2_440 2 rfl
theorem dX8_step_2_443 : decode cX8_step_2 443 = .ok (.invokevirtual 951, 3) := zdec_at bX8_step_2_440 3 rfl
theorem dX8_step_2_446 : decode cX8_step_2 446 = .ok (.return_, 1) := zdec_at bX8_step_2_440 4 rfl
theorem sX8_step_2_0 {E : zE} {d : Nat} {Q : zO → zM → Prop} (M : zM)  (k : vp_in ((gi M 97 92) - (1 : Int32)) 24 ∧ (vp_in (gi M 154 (((gi M 97 92) - (1 : Int32))).toNatClampNeg) 600 ∧ (vp_in (gi M 154 (((gi M 97 92) - (1 : Int32))).toNatClampNeg) 600 ∧ (vp_in (gi M 154 (((gi M 97 92) - (1 : Int32))).toNatClampNeg) 600 ∧ (if (gi M 123 ((gi M 154 (((gi M 97 92) - (1 : Int32))).toNatClampNeg)).toNatClampNeg) = 0 then (Zm E YX8_give_2 d M (zargs 0 [vr (some (97, 1, 0)), vi (gi M 124 ((gi M 154 (((gi M 97 92) - (1 : Int32))).toNatClampNeg)).toNatClampNeg), vi (gi M 125 ((gi M 154 (((gi M 97 92) - (1 : Int32))).toNatClampNeg)).toNatClampNeg)]) 0 [] (zma E YX8_step_2 (d + 1) [(0, vr (some (97, 1, 0)))] 119 3 [] Q)) else (if (gi M 123 ((gi M 154 (((gi M 97 92) - (1 : Int32))).toNatClampNeg)).toNatClampNeg) = 1 then (Zm E YX8_scopeAt d M (zargs 0 [vr (some (97, 1, 0)), vi (gi M 124 ((gi M 154 (((gi M 97 92) - (1 : Int32))).toNatClampNeg)).toNatClampNeg)]) 0 [] (zma E YX8_step_2 (d + 1) [(0, vr (some (97, 1, 0))), (3, vi (gi M 125 ((gi M 154 (((gi M 97 92) - (1 : Int32))).toNatClampNeg)).toNatClampNeg))] 133 3 [vr (some (97, 1, 0))] Q)) else (if (gi M 123 ((gi M 154 (((gi M 97 92) - (1 : Int32))).toNatClampNeg)).toNatClampNeg) = 2 then (Zm E YX8_scopeAt d M (zargs 0 [vr (some (97, 1, 0)), vi (gi M 124 ((gi M 154 (((gi M 97 92) - (1 : Int32))).toNatClampNeg)).toNatClampNeg)]) 0 [] (zma E YX8_step_2 (d + 1) [(0, vr (some (97, 1, 0))), (3, vi (gi M 125 ((gi M 154 (((gi M 97 92) - (1 : Int32))).toNatClampNeg)).toNatClampNeg))] 171 3 [vr (some (97, 1, 0))] Q)) else (if (gi M 123 ((gi M 154 (((gi M 97 92) - (1 : Int32))).toNatClampNeg)).toNatClampNeg) = 3 then (vp_in (gi M 154 (((gi M 97 92) - (1 : Int32))).toNatClampNeg) 600 ∧ (if (gi M 123 ((gi M 154 (((gi M 97 92) - (1 : Int32))).toNatClampNeg)).toNatClampNeg) = (3 : Int32) then (Zm E YX8_global d M (zargs 0 [vr (some (97, 1, 0)), vi (1 : Int32), vi (gi M 125 ((gi M 154 (((gi M 97 92) - (1 : Int32))).toNatClampNeg)).toNatClampNeg)]) 0 [] (zma E YX8_step_2 (d + 1) [] 212 3 [] Q)) else (Zm E YX8_global d M (zargs 0 [vr (some (97, 1, 0)), vi (0 : Int32), vi (gi M 125 ((gi M 154 (((gi M 97 92) - (1 : Int32))).toNatClampNeg)).toNatClampNeg)]) 0 [] (zma E YX8_step_2 (d + 1) [] 212 3 [] Q)))) else (if (gi M 123 ((gi M 154 (((gi M 97 92) - (1 : Int32))).toNatClampNeg)).toNatClampNeg) = 4 then (Zm E YX8_sortAt d M (zargs 0 [vr (some (97, 1, 0)), vi (0 : Int32)]) 0 [] (zma E YX8_step_2 (d + 1) [(0, vr (some (97, 1, 0)))] 223 3 [vi (gi M 125 ((gi M 154 (((gi M 97 92) - (1 : Int32))).toNatClampNeg)).toNatClampNeg), vi (0 : Int32), vr (some (97, 1, 0))] Q)) else (if (gi M 123 ((gi M 154 (((gi M 97 92) - (1 : Int32))).toNatClampNeg)).toNatClampNeg) = 5 then (vp_in (gi M 154 (((gi M 97 92) - (1 : Int32))).toNatClampNeg) 600 ∧ (if (gi M 123 ((gi M 154 (((gi M 97 92) - (1 : Int32))).toNatClampNeg)).toNatClampNeg) = (3 : Int32) then (Zm E YX8_global d M (zargs 0 [vr (some (97, 1, 0)), vi (1 : Int32), vi (gi M 125 ((gi M 154 (((gi M 97 92) - (1 : Int32))).toNatClampNeg)).toNatClampNeg)]) 0 [] (zma E YX8_step_2 (d + 1) [] 212 3 [] Q)) else (Zm E YX8_global d M (zargs 0 [vr (some (97, 1, 0)), vi (0 : Int32), vi (gi M 125 ((gi M 154 (((gi M 97 92) - (1 : Int32))).toNatClampNeg)).toNatClampNeg)]) 0 [] (zma E YX8_step_2 (d + 1) [] 212 3 [] Q)))) else (if (gi M 123 ((gi M 154 (((gi M 97 92) - (1 : Int32))).toNatClampNeg)).toNatClampNeg) = 6 then (vp_in ((gi M 97 92) - (1 : Int32)) 24 ∧ (vp_in ((gi M 97 92) - (1 : Int32)) 24 ∧ (Zm E YX8_give_2 d M (zargs 0 [vr (some (97, 1, 0)), vi (gi M 152 (((gi M 97 92) - (1 : Int32))).toNatClampNeg), vi (gi M 153 (((gi M 97 92) - (1 : Int32))).toNatClampNeg)]) 0 [] (zma E YX8_step_2 (d + 1) [(0, vr (some (97, 1, 0)))] 271 3 [] Q)))) else (if (gi M 123 ((gi M 154 (((gi M 97 92) - (1 : Int32))).toNatClampNeg)).toNatClampNeg) = 7 then (Zm E YX8_siteLabel d M (zargs 0 [vr (some (97, 1, 0)), vi (gi M 124 ((gi M 154 (((gi M 97 92) - (1 : Int32))).toNatClampNeg)).toNatClampNeg)]) 0 [] (zma E YX8_step_2 (d + 1) [(0, vr (some (97, 1, 0)))] 289 3 [vi (1 : Int32), vr (some (97, 1, 0)), vi (7 : Int32), vr (some (97, 1, 0))] Q)) else (if (gi M 123 ((gi M 154 (((gi M 97 92) - (1 : Int32))).toNatClampNeg)).toNatClampNeg) = 8 then (Zm E YX8_siteLabel d M (zargs 0 [vr (some (97, 1, 0)), vi (gi M 124 ((gi M 154 (((gi M 97 92) - (1 : Int32))).toNatClampNeg)).toNatClampNeg)]) 0 [] (zma E YX8_step_2 (d + 1) [(0, vr (some (97, 1, 0)))] 313 3 [vr (some (97, 1, 0)), vi (7 : Int32), vr (some (97, 1, 0))] Q)) else (if (gi M 123 ((gi M 154 (((gi M 97 92) - (1 : Int32))).toNatClampNeg)).toNatClampNeg) = 9 then (Zm E YX8_makeFunction d M (zargs 0 [vr (some (97, 1, 0)), vi (gi M 124 ((gi M 154 (((gi M 97 92) - (1 : Int32))).toNatClampNeg)).toNatClampNeg)]) 0 [] (zma E YX8_step_2 (d + 1) [] 332 3 [] Q)) else (if (gi M 123 ((gi M 154 (((gi M 97 92) - (1 : Int32))).toNatClampNeg)).toNatClampNeg) = 10 then (Zm E YX8_get_2 d M (zargs 0 [vr (some (97, 1, 0))]) 0 [] (zma E YX8_step_2 (d + 1) [] 339 3 [] Q)) else (if (gi M 123 ((gi M 154 (((gi M 97 92) - (1 : Int32))).toNatClampNeg)).toNatClampNeg) = 11 then (Zm E YX8_putInto d M (zargs 0 [vr (some (97, 1, 0))]) 0 [] (zma E YX8_step_2 (d + 1) [] 346 3 [] Q)) else (if (gi M 123 ((gi M 154 (((gi M 97 92) - (1 : Int32))).toNatClampNeg)).toNatClampNeg) = 12 then (Zm E YX8_delete d M (zargs 0 [vr (some (97, 1, 0))]) 0 [] (zma E YX8_step_2 (d + 1) [] 353 3 [] Q)) else (if (gi M 123 ((gi M 154 (((gi M 97 92) - (1 : Int32))).toNatClampNeg)).toNatClampNeg) = 13 then (if (gi M 124 ((gi M 154 (((gi M 97 92) - (1 : Int32))).toNatClampNeg)).toNatClampNeg) = (4 : Int32) then (Zm E YX8_sortAt d M (zargs 0 [vr (some (97, 1, 0)), vi (0 : Int32)]) 0 [] (zma E YX8_step_2 (d + 1) [(0, vr (some (97, 1, 0)))] 370 3 [vr (some (97, 1, 0)), vi (6 : Int32), vr (some (97, 1, 0))] Q)) else (Zm E YX8_sortAt d M (zargs 0 [vr (some (97, 1, 0)), vi (0 : Int32)]) 0 [] (zma E YX8_step_2 (d + 1) [(0, vr (some (97, 1, 0)))] 391 3 [vi (gi M 124 ((gi M 154 (((gi M 97 92) - (1 : Int32))).toNatClampNeg)).toNatClampNeg), vr (some (97, 1, 0))] Q))) else (if (gi M 123 ((gi M 154 (((gi M 97 92) - (1 : Int32))).toNatClampNeg)).toNatClampNeg) = 14 then (Zm E YX8_binary_2 d M (zargs 0 [vr (some (97, 1, 0)), vi (gi M 124 ((gi M 154 (((gi M 97 92) - (1 : Int32))).toNatClampNeg)).toNatClampNeg)]) 0 [] (zma E YX8_step_2 (d + 1) [] 412 3 [] Q)) else (if (gi M 123 ((gi M 154 (((gi M 97 92) - (1 : Int32))).toNatClampNeg)).toNatClampNeg) = 15 then (Zm E YX8_call d M (zargs 0 [vr (some (97, 1, 0)), vi (gi M 124 ((gi M 154 (((gi M 97 92) - (1 : Int32))).toNatClampNeg)).toNatClampNeg)]) 0 [] (zma E YX8_step_2 (d + 1) [] 420 3 [] Q)) else (if (gi M 123 ((gi M 154 (((gi M 97 92) - (1 : Int32))).toNatClampNeg)).toNatClampNeg) = 16 then (Zm E YX8_makeNew d M (zargs 0 [vr (some (97, 1, 0)), vi (gi M 124 ((gi M 154 (((gi M 97 92) - (1 : Int32))).toNatClampNeg)).toNatClampNeg), vi (gi M 125 ((gi M 154 (((gi M 97 92) - (1 : Int32))).toNatClampNeg)).toNatClampNeg)]) 0 [] (zma E YX8_step_2 (d + 1) [] 429 3 [] Q)) else (vp_in (gi M 154 (((gi M 97 92) - (1 : Int32))).toNatClampNeg) 600 ∧ (Zm E YX8_stepOther d M (zargs 0 [vr (some (97, 1, 0)), vi (gi M 123 ((gi M 154 (((gi M 97 92) - (1 : Int32))).toNatClampNeg)).toNatClampNeg), vi (gi M 124 ((gi M 154 (((gi M 97 92) - (1 : Int32))).toNatClampNeg)).toNatClampNeg)]) 0 [] (zma E YX8_step_2 (d + 1) [] 443 3 [] Q)))))))))))))))))))))))) : Zm E YX8_step_2 (d + 1) M [(0, vr (some (97, 1, 0)))] 0 [] Q := by
  refine Zm.l (fun _ _ k_ => z_aload_n dX8_step_2_0 rfl rfl k_) ?_
  refine zm_getr 51 dX8_step_2_1 fsX8_182_1 rfl ?_
  refine Zm.l (fun _ _ k_ => z_aload_n dX8_step_2_4 rfl rfl k_) ?_
  refine zm_geti dX8_step_2_5 fsX8_872_1 (by decide) (by decide) ?_
  refine Zm.l (fun _ _ k_ => z_iconst (v := 1) dX8_step_2_8 rfl k_) ?_
  refine Zm.l (fun _ _ k_ => z_isub dX8_step_2_9 k_) ?_
  obtain ⟨b_, k⟩ := k
  refine zm_iald dX8_step_2_10 b_ (by decide) (by decide) ?_
  refine Zm.l (fun _ _ k_ => z_ist_n dX8_step_2_11 rfl (by decide) (lv' := [(0, vr (some (97, 1, 0))), (1, vi (gi M 154 (((gi M 97 92) - (1 : Int32))).toNatClampNeg))]) rfl k_) ?_
  refine Zm.l (fun _ _ k_ => z_aload_n dX8_step_2_12 rfl rfl k_) ?_
  refine zm_getr 26 dX8_step_2_13 fsX8_92_1 rfl ?_
  refine Zm.l (fun _ _ k_ => z_iload_n dX8_step_2_16 rfl rfl k_) ?_
  obtain ⟨b_, k⟩ := k
  refine zm_iald dX8_step_2_17 b_ (by decide) (by decide) ?_
  refine Zm.l (fun _ _ k_ => z_ist_n dX8_step_2_18 rfl (by decide) (lv' := [(0, vr (some (97, 1, 0))), (1, vi (gi M 154 (((gi M 97 92) - (1 : Int32))).toNatClampNeg)), (2, vi (gi M 124 ((gi M 154 (((gi M 97 92) - (1 : Int32))).toNatClampNeg)).toNatClampNeg))]) rfl k_) ?_
  refine Zm.l (fun _ _ k_ => z_aload_n dX8_step_2_19 rfl rfl k_) ?_
  refine zm_getr 27 dX8_step_2_20 fsX8_95_1 rfl ?_
  refine Zm.l (fun _ _ k_ => z_iload_n dX8_step_2_23 rfl rfl k_) ?_
  obtain ⟨b_, k⟩ := k
  refine zm_iald dX8_step_2_24 b_ (by decide) (by decide) ?_
  refine Zm.l (fun _ _ k_ => z_ist_n dX8_step_2_25 rfl (by decide) (lv' := [(0, vr (some (97, 1, 0))), (1, vi (gi M 154 (((gi M 97 92) - (1 : Int32))).toNatClampNeg)), (2, vi (gi M 124 ((gi M 154 (((gi M 97 92) - (1 : Int32))).toNatClampNeg)).toNatClampNeg)), (3, vi (gi M 125 ((gi M 154 (((gi M 97 92) - (1 : Int32))).toNatClampNeg)).toNatClampNeg))]) rfl k_) ?_
  refine Zm.l (fun _ _ k_ => z_aload_n dX8_step_2_26 rfl rfl k_) ?_
  refine zm_getr 25 dX8_step_2_27 fsX8_89_1 rfl ?_
  refine Zm.l (fun _ _ k_ => z_iload_n dX8_step_2_30 rfl rfl k_) ?_
  obtain ⟨b_, k⟩ := k
  refine zm_iald dX8_step_2_31 b_ (by decide) (by decide) ?_
  by_cases h0_ : (gi M 123 ((gi M 154 (((gi M 97 92) - (1 : Int32))).toNatClampNeg)).toNatClampNeg) = 0
  · have k := zit h0_ k
    refine Zm.l (fun _ _ k_ => z_tableIn (off := 84) (tgt := 116) dX8_step_2_32 (by rw [h0_]; decide) (by rw [h0_]; decide) (by rw [h0_]; rfl) rfl k_) ?_
    refine Zm.l (fun _ _ k_ => z_aload_n dX8_step_2_116 rfl rfl k_) ?_
    refine Zm.l (fun _ _ k_ => z_iload_n dX8_step_2_117 rfl rfl k_) ?_
    refine Zm.l (fun _ _ k_ => z_iload_n dX8_step_2_118 rfl rfl k_) ?_
    refine Zm.pick [0] rfl ?_
    exact zm_callV (as := [vi (gi M 124 ((gi M 154 (((gi M 97 92) - (1 : Int32))).toNatClampNeg)).toNatClampNeg), vi (gi M 125 ((gi M 154 (((gi M 97 92) - (1 : Int32))).toNatClampNeg)).toNatClampNeg)]) (st := []) dX8_step_2_119 vsX8_822_1 (Nat.le_refl _) (Nat.le_of_ble_eq_true rfl) (Nat.le_of_ble_eq_true rfl) rfl k
  · have k := zif h0_ k
    by_cases h1_ : (gi M 123 ((gi M 154 (((gi M 97 92) - (1 : Int32))).toNatClampNeg)).toNatClampNeg) = 1
    · have k := zit h1_ k
      refine Zm.l (fun _ _ k_ => z_tableIn (off := 98) (tgt := 130) dX8_step_2_32 (by rw [h1_]; decide) (by rw [h1_]; decide) (by rw [h1_]; rfl) rfl k_) ?_
      refine Zm.l (fun _ _ k_ => z_aload_n dX8_step_2_130 rfl rfl k_) ?_
      refine Zm.l (fun _ _ k_ => z_aload_n dX8_step_2_131 rfl rfl k_) ?_
      refine Zm.l (fun _ _ k_ => z_iload_n dX8_step_2_132 rfl rfl k_) ?_
      refine Zm.pick [0, 3] rfl ?_
      exact zm_callV (as := [vi (gi M 124 ((gi M 154 (((gi M 97 92) - (1 : Int32))).toNatClampNeg)).toNatClampNeg)]) (st := [vr (some (97, 1, 0))]) dX8_step_2_133 vsX8_907_1 (Nat.le_refl _) (Nat.le_of_ble_eq_true rfl) (Nat.le_of_ble_eq_true rfl) rfl k
    · have k := zif h1_ k
      by_cases h2_ : (gi M 123 ((gi M 154 (((gi M 97 92) - (1 : Int32))).toNatClampNeg)).toNatClampNeg) = 2
      · have k := zit h2_ k
        refine Zm.l (fun _ _ k_ => z_tableIn (off := 136) (tgt := 168) dX8_step_2_32 (by rw [h2_]; decide) (by rw [h2_]; decide) (by rw [h2_]; rfl) rfl k_) ?_
        refine Zm.l (fun _ _ k_ => z_aload_n dX8_step_2_168 rfl rfl k_) ?_
        refine Zm.l (fun _ _ k_ => z_aload_n dX8_step_2_169 rfl rfl k_) ?_
        refine Zm.l (fun _ _ k_ => z_iload_n dX8_step_2_170 rfl rfl k_) ?_
        refine Zm.pick [0, 3] rfl ?_
        exact zm_callV (as := [vi (gi M 124 ((gi M 154 (((gi M 97 92) - (1 : Int32))).toNatClampNeg)).toNatClampNeg)]) (st := [vr (some (97, 1, 0))]) dX8_step_2_171 vsX8_907_1 (Nat.le_refl _) (Nat.le_of_ble_eq_true rfl) (Nat.le_of_ble_eq_true rfl) rfl k
      · have k := zif h2_ k
        by_cases h3_ : (gi M 123 ((gi M 154 (((gi M 97 92) - (1 : Int32))).toNatClampNeg)).toNatClampNeg) = 3
        · have k := zit h3_ k
          refine Zm.l (fun _ _ k_ => z_tableIn (off := 163) (tgt := 195) dX8_step_2_32 (by rw [h3_]; decide) (by rw [h3_]; decide) (by rw [h3_]; rfl) rfl k_) ?_
          refine Zm.l (fun _ _ k_ => z_aload_n dX8_step_2_195 rfl rfl k_) ?_
          refine Zm.l (fun _ _ k_ => z_aload_n dX8_step_2_196 rfl rfl k_) ?_
          refine zm_getr 25 dX8_step_2_197 fsX8_89_1 rfl ?_
          refine Zm.l (fun _ _ k_ => z_iload_n dX8_step_2_200 rfl rfl k_) ?_
          obtain ⟨b_, k⟩ := k
          refine zm_iald dX8_step_2_201 b_ (by decide) (by decide) ?_
          refine Zm.l (fun _ _ k_ => z_iconst (v := 3) dX8_step_2_202 rfl k_) ?_
          refine Zm.brn (fun _ _ k1_ k2_ => z_icmp_ne (tgt := 210) dX8_step_2_203 rfl k1_ k2_) (fun h_ => ?_) (fun h_ => ?_)
          · have k := zif h_ k
            refine Zm.l (fun _ _ k_ => z_iconst (v := 0) dX8_step_2_210 rfl k_) ?_
            refine Zm.l (fun _ _ k_ => z_iload_n dX8_step_2_211 rfl rfl k_) ?_
            refine Zm.pick [] rfl ?_
            exact zm_callV (as := [vi (0 : Int32), vi (gi M 125 ((gi M 154 (((gi M 97 92) - (1 : Int32))).toNatClampNeg)).toNatClampNeg)]) (st := []) dX8_step_2_212 vsX8_916_1 (Nat.le_refl _) (Nat.le_of_ble_eq_true rfl) (Nat.le_of_ble_eq_true rfl) rfl k
          · have k := zit h_ k
            refine Zm.l (fun _ _ k_ => z_iconst (v := 1) dX8_step_2_206 rfl k_) ?_
            refine Zm.l (fun _ _ k_ => z_goto (tgt := 211) dX8_step_2_207 rfl k_) ?_
            refine Zm.l (fun _ _ k_ => z_iload_n dX8_step_2_211 rfl rfl k_) ?_
            refine Zm.pick [] rfl ?_
            exact zm_callV (as := [vi (1 : Int32), vi (gi M 125 ((gi M 154 (((gi M 97 92) - (1 : Int32))).toNatClampNeg)).toNatClampNeg)]) (st := []) dX8_step_2_212 vsX8_916_1 (Nat.le_refl _) (Nat.le_of_ble_eq_true rfl) (Nat.le_of_ble_eq_true rfl) rfl k
        · have k := zif h3_ k
          by_cases h4_ : (gi M 123 ((gi M 154 (((gi M 97 92) - (1 : Int32))).toNatClampNeg)).toNatClampNeg) = 4
          · have k := zit h4_ k
            refine Zm.l (fun _ _ k_ => z_tableIn (off := 186) (tgt := 218) dX8_step_2_32 (by rw [h4_]; decide) (by rw [h4_]; decide) (by rw [h4_]; rfl) rfl k_) ?_
            refine Zm.l (fun _ _ k_ => z_aload_n dX8_step_2_218 rfl rfl k_) ?_
            refine Zm.l (fun _ _ k_ => z_iconst (v := 0) dX8_step_2_219 rfl k_) ?_
            refine Zm.l (fun _ _ k_ => z_iload_n dX8_step_2_220 rfl rfl k_) ?_
            refine Zm.l (fun _ _ k_ => z_aload_n dX8_step_2_221 rfl rfl k_) ?_
            refine Zm.l (fun _ _ k_ => z_iconst (v := 0) dX8_step_2_222 rfl k_) ?_
            refine Zm.pick [0] rfl ?_
            exact zm_callV (as := [vi (0 : Int32)]) (st := [vi (gi M 125 ((gi M 154 (((gi M 97 92) - (1 : Int32))).toNatClampNeg)).toNatClampNeg), vi (0 : Int32), vr (some (97, 1, 0))]) dX8_step_2_223 vsX8_910_1 (Nat.le_refl _) (Nat.le_of_ble_eq_true rfl) (Nat.le_of_ble_eq_true rfl) rfl k
          · have k := zif h4_ k
            by_cases h5_ : (gi M 123 ((gi M 154 (((gi M 97 92) - (1 : Int32))).toNatClampNeg)).toNatClampNeg) = 5
            · have k := zit h5_ k
              refine Zm.l (fun _ _ k_ => z_tableIn (off := 163) (tgt := 195) dX8_step_2_32 (by rw [h5_]; decide) (by rw [h5_]; decide) (by rw [h5_]; rfl) rfl k_) ?_
              refine Zm.l (fun _ _ k_ => z_aload_n dX8_step_2_195 rfl rfl k_) ?_
              refine Zm.l (fun _ _ k_ => z_aload_n dX8_step_2_196 rfl rfl k_) ?_
              refine zm_getr 25 dX8_step_2_197 fsX8_89_1 rfl ?_
              refine Zm.l (fun _ _ k_ => z_iload_n dX8_step_2_200 rfl rfl k_) ?_
              obtain ⟨b_, k⟩ := k
              refine zm_iald dX8_step_2_201 b_ (by decide) (by decide) ?_
              refine Zm.l (fun _ _ k_ => z_iconst (v := 3) dX8_step_2_202 rfl k_) ?_
              refine Zm.brn (fun _ _ k1_ k2_ => z_icmp_ne (tgt := 210) dX8_step_2_203 rfl k1_ k2_) (fun h_ => ?_) (fun h_ => ?_)
              · have k := zif h_ k
                refine Zm.l (fun _ _ k_ => z_iconst (v := 0) dX8_step_2_210 rfl k_) ?_
                refine Zm.l (fun _ _ k_ => z_iload_n dX8_step_2_211 rfl rfl k_) ?_
                refine Zm.pick [] rfl ?_
                exact zm_callV (as := [vi (0 : Int32), vi (gi M 125 ((gi M 154 (((gi M 97 92) - (1 : Int32))).toNatClampNeg)).toNatClampNeg)]) (st := []) dX8_step_2_212 vsX8_916_1 (Nat.le_refl _) (Nat.le_of_ble_eq_true rfl) (Nat.le_of_ble_eq_true rfl) rfl k
              · have k := zit h_ k
                refine Zm.l (fun _ _ k_ => z_iconst (v := 1) dX8_step_2_206 rfl k_) ?_
                refine Zm.l (fun _ _ k_ => z_goto (tgt := 211) dX8_step_2_207 rfl k_) ?_
                refine Zm.l (fun _ _ k_ => z_iload_n dX8_step_2_211 rfl rfl k_) ?_
                refine Zm.pick [] rfl ?_
                exact zm_callV (as := [vi (1 : Int32), vi (gi M 125 ((gi M 154 (((gi M 97 92) - (1 : Int32))).toNatClampNeg)).toNatClampNeg)]) (st := []) dX8_step_2_212 vsX8_916_1 (Nat.le_refl _) (Nat.le_of_ble_eq_true rfl) (Nat.le_of_ble_eq_true rfl) rfl k
            · have k := zif h5_ k
              by_cases h6_ : (gi M 123 ((gi M 154 (((gi M 97 92) - (1 : Int32))).toNatClampNeg)).toNatClampNeg) = 6
              · have k := zit h6_ k
                refine Zm.l (fun _ _ k_ => z_tableIn (off := 216) (tgt := 248) dX8_step_2_32 (by rw [h6_]; decide) (by rw [h6_]; decide) (by rw [h6_]; rfl) rfl k_) ?_
                refine Zm.l (fun _ _ k_ => z_aload_n dX8_step_2_248 rfl rfl k_) ?_
                refine Zm.l (fun _ _ k_ => z_aload_n dX8_step_2_249 rfl rfl k_) ?_
                refine zm_getr 49 dX8_step_2_250 fsX8_176_1 rfl ?_
                refine Zm.l (fun _ _ k_ => z_aload_n dX8_step_2_253 rfl rfl k_) ?_
                refine zm_geti dX8_step_2_254 fsX8_872_1 (by decide) (by decide) ?_
                refine Zm.l (fun _ _ k_ => z_iconst (v := 1) dX8_step_2_257 rfl k_) ?_
                refine Zm.l (fun _ _ k_ => z_isub dX8_step_2_258 k_) ?_
                obtain ⟨b_, k⟩ := k
                refine zm_iald dX8_step_2_259 b_ (by decide) (by decide) ?_
                refine Zm.l (fun _ _ k_ => z_aload_n dX8_step_2_260 rfl rfl k_) ?_
                refine zm_getr 50 dX8_step_2_261 fsX8_179_1 rfl ?_
                refine Zm.l (fun _ _ k_ => z_aload_n dX8_step_2_264 rfl rfl k_) ?_
                refine zm_geti dX8_step_2_265 fsX8_872_1 (by decide) (by decide) ?_
                refine Zm.l (fun _ _ k_ => z_iconst (v := 1) dX8_step_2_268 rfl k_) ?_
                refine Zm.l (fun _ _ k_ => z_isub dX8_step_2_269 k_) ?_
                obtain ⟨b_, k⟩ := k
                refine zm_iald dX8_step_2_270 b_ (by decide) (by decide) ?_
                refine Zm.pick [0] rfl ?_
                exact zm_callV (as := [vi (gi M 152 (((gi M 97 92) - (1 : Int32))).toNatClampNeg), vi (gi M 153 (((gi M 97 92) - (1 : Int32))).toNatClampNeg)]) (st := []) dX8_step_2_271 vsX8_822_1 (Nat.le_refl _) (Nat.le_of_ble_eq_true rfl) (Nat.le_of_ble_eq_true rfl) rfl k
              · have k := zif h6_ k
                by_cases h7_ : (gi M 123 ((gi M 154 (((gi M 97 92) - (1 : Int32))).toNatClampNeg)).toNatClampNeg) = 7
                · have k := zit h7_ k
                  refine Zm.l (fun _ _ k_ => z_tableIn (off := 250) (tgt := 282) dX8_step_2_32 (by rw [h7_]; decide) (by rw [h7_]; decide) (by rw [h7_]; rfl) rfl k_) ?_
                  refine Zm.l (fun _ _ k_ => z_aload_n dX8_step_2_282 rfl rfl k_) ?_
                  refine Zm.l (fun _ _ k_ => z_bipush (v := 7) dX8_step_2_283 rfl k_) ?_
                  refine Zm.l (fun _ _ k_ => z_aload_n dX8_step_2_285 rfl rfl k_) ?_
                  refine Zm.l (fun _ _ k_ => z_iconst (v := 1) dX8_step_2_286 rfl k_) ?_
                  refine Zm.l (fun _ _ k_ => z_aload_n dX8_step_2_287 rfl rfl k_) ?_
                  refine Zm.l (fun _ _ k_ => z_iload_n dX8_step_2_288 rfl rfl k_) ?_
                  refine Zm.pick [0] rfl ?_
                  exact zm_callV (as := [vi (gi M 124 ((gi M 154 (((gi M 97 92) - (1 : Int32))).toNatClampNeg)).toNatClampNeg)]) (st := [vi (1 : Int32), vr (some (97, 1, 0)), vi (7 : Int32), vr (some (97, 1, 0))]) dX8_step_2_289 vsX8_920_1 (Nat.le_refl _) (Nat.le_of_ble_eq_true rfl) (Nat.le_of_ble_eq_true rfl) rfl k
                · have k := zif h7_ k
                  by_cases h8_ : (gi M 123 ((gi M 154 (((gi M 97 92) - (1 : Int32))).toNatClampNeg)).toNatClampNeg) = 8
                  · have k := zit h8_ k
                    refine Zm.l (fun _ _ k_ => z_tableIn (off := 275) (tgt := 307) dX8_step_2_32 (by rw [h8_]; decide) (by rw [h8_]; decide) (by rw [h8_]; rfl) rfl k_) ?_
                    refine Zm.l (fun _ _ k_ => z_aload_n dX8_step_2_307 rfl rfl k_) ?_
                    refine Zm.l (fun _ _ k_ => z_bipush (v := 7) dX8_step_2_308 rfl k_) ?_
                    refine Zm.l (fun _ _ k_ => z_aload_n dX8_step_2_310 rfl rfl k_) ?_
                    refine Zm.l (fun _ _ k_ => z_aload_n dX8_step_2_311 rfl rfl k_) ?_
                    refine Zm.l (fun _ _ k_ => z_iload_n dX8_step_2_312 rfl rfl k_) ?_
                    refine Zm.pick [0] rfl ?_
                    exact zm_callV (as := [vi (gi M 124 ((gi M 154 (((gi M 97 92) - (1 : Int32))).toNatClampNeg)).toNatClampNeg)]) (st := [vr (some (97, 1, 0)), vi (7 : Int32), vr (some (97, 1, 0))]) dX8_step_2_313 vsX8_920_1 (Nat.le_refl _) (Nat.le_of_ble_eq_true rfl) (Nat.le_of_ble_eq_true rfl) rfl k
                  · have k := zif h8_ k
                    by_cases h9_ : (gi M 123 ((gi M 154 (((gi M 97 92) - (1 : Int32))).toNatClampNeg)).toNatClampNeg) = 9
                    · have k := zit h9_ k
                      refine Zm.l (fun _ _ k_ => z_tableIn (off := 298) (tgt := 330) dX8_step_2_32 (by rw [h9_]; decide) (by rw [h9_]; decide) (by rw [h9_]; rfl) rfl k_) ?_
                      refine Zm.l (fun _ _ k_ => z_aload_n dX8_step_2_330 rfl rfl k_) ?_
                      refine Zm.l (fun _ _ k_ => z_iload_n dX8_step_2_331 rfl rfl k_) ?_
                      refine Zm.pick [] rfl ?_
                      exact zm_callV (as := [vi (gi M 124 ((gi M 154 (((gi M 97 92) - (1 : Int32))).toNatClampNeg)).toNatClampNeg)]) (st := []) dX8_step_2_332 vsX8_926_1 (Nat.le_refl _) (Nat.le_of_ble_eq_true rfl) (Nat.le_of_ble_eq_true rfl) rfl k
                    · have k := zif h9_ k
                      by_cases h10_ : (gi M 123 ((gi M 154 (((gi M 97 92) - (1 : Int32))).toNatClampNeg)).toNatClampNeg) = 10
                      · have k := zit h10_ k
                        refine Zm.l (fun _ _ k_ => z_tableIn (off := 306) (tgt := 338) dX8_step_2_32 (by rw [h10_]; decide) (by rw [h10_]; decide) (by rw [h10_]; rfl) rfl k_) ?_
                        refine Zm.l (fun _ _ k_ => z_aload_n dX8_step_2_338 rfl rfl k_) ?_
                        refine Zm.pick [] rfl ?_
                        exact zm_callV (as := []) (st := []) dX8_step_2_339 vsX8_929_1 (Nat.le_refl _) (Nat.le_of_ble_eq_true rfl) (Nat.le_of_ble_eq_true rfl) rfl k
                      · have k := zif h10_ k
                        by_cases h11_ : (gi M 123 ((gi M 154 (((gi M 97 92) - (1 : Int32))).toNatClampNeg)).toNatClampNeg) = 11
                        · have k := zit h11_ k
                          refine Zm.l (fun _ _ k_ => z_tableIn (off := 313) (tgt := 345) dX8_step_2_32 (by rw [h11_]; decide) (by rw [h11_]; decide) (by rw [h11_]; rfl) rfl k_) ?_
                          refine Zm.l (fun _ _ k_ => z_aload_n dX8_step_2_345 rfl rfl k_) ?_
                          refine Zm.pick [] rfl ?_
                          exact zm_callV (as := []) (st := []) dX8_step_2_346 vsX8_931_1 (Nat.le_refl _) (Nat.le_of_ble_eq_true rfl) (Nat.le_of_ble_eq_true rfl) rfl k
                        · have k := zif h11_ k
                          by_cases h12_ : (gi M 123 ((gi M 154 (((gi M 97 92) - (1 : Int32))).toNatClampNeg)).toNatClampNeg) = 12
                          · have k := zit h12_ k
                            refine Zm.l (fun _ _ k_ => z_tableIn (off := 320) (tgt := 352) dX8_step_2_32 (by rw [h12_]; decide) (by rw [h12_]; decide) (by rw [h12_]; rfl) rfl k_) ?_
                            refine Zm.l (fun _ _ k_ => z_aload_n dX8_step_2_352 rfl rfl k_) ?_
                            refine Zm.pick [] rfl ?_
                            exact zm_callV (as := []) (st := []) dX8_step_2_353 vsX8_934_1 (Nat.le_refl _) (Nat.le_of_ble_eq_true rfl) (Nat.le_of_ble_eq_true rfl) rfl k
                          · have k := zif h12_ k
                            by_cases h13_ : (gi M 123 ((gi M 154 (((gi M 97 92) - (1 : Int32))).toNatClampNeg)).toNatClampNeg) = 13
                            · have k := zit h13_ k
                              refine Zm.l (fun _ _ k_ => z_tableIn (off := 327) (tgt := 359) dX8_step_2_32 (by rw [h13_]; decide) (by rw [h13_]; decide) (by rw [h13_]; rfl) rfl k_) ?_
                              refine Zm.l (fun _ _ k_ => z_iload_n dX8_step_2_359 rfl rfl k_) ?_
                              refine Zm.l (fun _ _ k_ => z_iconst (v := 4) dX8_step_2_360 rfl k_) ?_
                              refine Zm.brn (fun _ _ k1_ k2_ => z_icmp_ne (tgt := 387) dX8_step_2_361 rfl k1_ k2_) (fun h_ => ?_) (fun h_ => ?_)
                              · have k := zif h_ k
                                refine Zm.l (fun _ _ k_ => z_aload_n dX8_step_2_387 rfl rfl k_) ?_
                                refine Zm.l (fun _ _ k_ => z_iload_n dX8_step_2_388 rfl rfl k_) ?_
                                refine Zm.l (fun _ _ k_ => z_aload_n dX8_step_2_389 rfl rfl k_) ?_
                                refine Zm.l (fun _ _ k_ => z_iconst (v := 0) dX8_step_2_390 rfl k_) ?_
                                refine Zm.pick [0] rfl ?_
                                exact zm_callV (as := [vi (0 : Int32)]) (st := [vi (gi M 124 ((gi M 154 (((gi M 97 92) - (1 : Int32))).toNatClampNeg)).toNatClampNeg), vr (some (97, 1, 0))]) dX8_step_2_391 vsX8_910_1 (Nat.le_refl _) (Nat.le_of_ble_eq_true rfl) (Nat.le_of_ble_eq_true rfl) rfl k
                              · have k := zit h_ k
                                refine Zm.l (fun _ _ k_ => z_aload_n dX8_step_2_364 rfl rfl k_) ?_
                                refine Zm.l (fun _ _ k_ => z_bipush (v := 6) dX8_step_2_365 rfl k_) ?_
                                refine Zm.l (fun _ _ k_ => z_aload_n dX8_step_2_367 rfl rfl k_) ?_
                                refine Zm.l (fun _ _ k_ => z_aload_n dX8_step_2_368 rfl rfl k_) ?_
                                refine Zm.l (fun _ _ k_ => z_iconst (v := 0) dX8_step_2_369 rfl k_) ?_
                                refine Zm.pick [0] rfl ?_
                                exact zm_callV (as := [vi (0 : Int32)]) (st := [vr (some (97, 1, 0)), vi (6 : Int32), vr (some (97, 1, 0))]) dX8_step_2_370 vsX8_910_1 (Nat.le_refl _) (Nat.le_of_ble_eq_true rfl) (Nat.le_of_ble_eq_true rfl) rfl k
                            · have k := zif h13_ k
                              by_cases h14_ : (gi M 123 ((gi M 154 (((gi M 97 92) - (1 : Int32))).toNatClampNeg)).toNatClampNeg) = 14
                              · have k := zit h14_ k
                                refine Zm.l (fun _ _ k_ => z_tableIn (off := 378) (tgt := 410) dX8_step_2_32 (by rw [h14_]; decide) (by rw [h14_]; decide) (by rw [h14_]; rfl) rfl k_) ?_
                                refine Zm.l (fun _ _ k_ => z_aload_n dX8_step_2_410 rfl rfl k_) ?_
                                refine Zm.l (fun _ _ k_ => z_iload_n dX8_step_2_411 rfl rfl k_) ?_
                                refine Zm.pick [] rfl ?_
                                exact zm_callV (as := [vi (gi M 124 ((gi M 154 (((gi M 97 92) - (1 : Int32))).toNatClampNeg)).toNatClampNeg)]) (st := []) dX8_step_2_412 vsX8_943_1 (Nat.le_refl _) (Nat.le_of_ble_eq_true rfl) (Nat.le_of_ble_eq_true rfl) rfl k
                              · have k := zif h14_ k
                                by_cases h15_ : (gi M 123 ((gi M 154 (((gi M 97 92) - (1 : Int32))).toNatClampNeg)).toNatClampNeg) = 15
                                · have k := zit h15_ k
                                  refine Zm.l (fun _ _ k_ => z_tableIn (off := 386) (tgt := 418) dX8_step_2_32 (by rw [h15_]; decide) (by rw [h15_]; decide) (by rw [h15_]; rfl) rfl k_) ?_
                                  refine Zm.l (fun _ _ k_ => z_aload_n dX8_step_2_418 rfl rfl k_) ?_
                                  refine Zm.l (fun _ _ k_ => z_iload_n dX8_step_2_419 rfl rfl k_) ?_
                                  refine Zm.pick [] rfl ?_
                                  exact zm_callV (as := [vi (gi M 124 ((gi M 154 (((gi M 97 92) - (1 : Int32))).toNatClampNeg)).toNatClampNeg)]) (st := []) dX8_step_2_420 vsX8_945_1 (Nat.le_refl _) (Nat.le_of_ble_eq_true rfl) (Nat.le_of_ble_eq_true rfl) rfl k
                                · have k := zif h15_ k
                                  by_cases h16_ : (gi M 123 ((gi M 154 (((gi M 97 92) - (1 : Int32))).toNatClampNeg)).toNatClampNeg) = 16
                                  · have k := zit h16_ k
                                    refine Zm.l (fun _ _ k_ => z_tableIn (off := 394) (tgt := 426) dX8_step_2_32 (by rw [h16_]; decide) (by rw [h16_]; decide) (by rw [h16_]; rfl) rfl k_) ?_
                                    refine Zm.l (fun _ _ k_ => z_aload_n dX8_step_2_426 rfl rfl k_) ?_
                                    refine Zm.l (fun _ _ k_ => z_iload_n dX8_step_2_427 rfl rfl k_) ?_
                                    refine Zm.l (fun _ _ k_ => z_iload_n dX8_step_2_428 rfl rfl k_) ?_
                                    refine Zm.pick [] rfl ?_
                                    exact zm_callV (as := [vi (gi M 124 ((gi M 154 (((gi M 97 92) - (1 : Int32))).toNatClampNeg)).toNatClampNeg), vi (gi M 125 ((gi M 154 (((gi M 97 92) - (1 : Int32))).toNatClampNeg)).toNatClampNeg)]) (st := []) dX8_step_2_429 vsX8_948_1 (Nat.le_refl _) (Nat.le_of_ble_eq_true rfl) (Nat.le_of_ble_eq_true rfl) rfl k
                                  · have k := zif h16_ k
                                    refine Zm.l (fun _ _ k_ => z_tout (tgt := 435) [0, 1, 2, 3, 4, 5, 6, 7, 8, 9, 10, 11, 12, 13, 14, 15, 16] (by decide) dX8_step_2_32 (zall_1 h0_ (zall_1 h1_ (zall_1 h2_ (zall_1 h3_ (zall_1 h4_ (zall_1 h5_ (zall_1 h6_ (zall_1 h7_ (zall_1 h8_ (zall_1 h9_ (zall_1 h10_ (zall_1 h11_ (zall_1 h12_ (zall_1 h13_ (zall_1 h14_ (zall_1 h15_ (zall_1 h16_ zall_0))))))))))))))))) rfl k_) ?_
                                    refine Zm.l (fun _ _ k_ => z_aload_n dX8_step_2_435 rfl rfl k_) ?_
                                    refine Zm.l (fun _ _ k_ => z_aload_n dX8_step_2_436 rfl rfl k_) ?_
                                    refine zm_getr 25 dX8_step_2_437 fsX8_89_1 rfl ?_
                                    refine Zm.l (fun _ _ k_ => z_iload_n dX8_step_2_440 rfl rfl k_) ?_
                                    obtain ⟨b_, k⟩ := k
                                    refine zm_iald dX8_step_2_441 b_ (by decide) (by decide) ?_
                                    refine Zm.l (fun _ _ k_ => z_iload_n dX8_step_2_442 rfl rfl k_) ?_
                                    refine Zm.pick [] rfl ?_
                                    exact zm_callV (as := [vi (gi M 123 ((gi M 154 (((gi M 97 92) - (1 : Int32))).toNatClampNeg)).toNatClampNeg), vi (gi M 124 ((gi M 154 (((gi M 97 92) - (1 : Int32))).toNatClampNeg)).toNatClampNeg)]) (st := []) dX8_step_2_443 vsX8_951_1 (Nat.le_refl _) (Nat.le_of_ble_eq_true rfl) (Nat.le_of_ble_eq_true rfl) rfl k
theorem sX8_step_2_122 {E : zE} {d : Nat} {Q : zO → zM → Prop} (M : zM)  (k : Zm E YX8_gives d M (zargs 0 [vr (some (97, 1, 0)), vi (0 : Int32)]) 0 [] (zma E YX8_step_2 (d + 1) [] 124 3 [] Q)) : Zm E YX8_step_2 (d + 1) M [(0, vr (some (97, 1, 0)))] 122 [] Q := by
  refine Zm.l (fun _ _ k_ => z_aload_n dX8_step_2_122 rfl rfl k_) ?_
  refine Zm.l (fun _ _ k_ => z_iconst (v := 0) dX8_step_2_123 rfl k_) ?_
  refine Zm.pick [] rfl ?_
  exact zm_callV (as := [vi (0 : Int32)]) (st := []) dX8_step_2_124 vsX8_904_1 (Nat.le_refl _) (Nat.le_of_ble_eq_true rfl) (Nat.le_of_ble_eq_true rfl) rfl k
theorem sX8_step_2_127 {E : zE} {d : Nat} {Q : zO → zM → Prop} (M : zM)  (k : Zm E YX8_step_2 (d + 1) M [] 446 [] Q) : Zm E YX8_step_2 (d + 1) M [] 127 [] Q := by
  refine Zm.l (fun _ _ k_ => z_goto (tgt := 446) dX8_step_2_127 rfl k_) ?_
  exact k
theorem sX8_step_2_136 {E : zE} {d : Nat} {Q : zO → zM → Prop} (M : zM) (l3 : Int32) (s0 : Int32) (k : Zm E YX8_findProperty d M (zargs 0 [vr (some (97, 1, 0)), vi s0, vi l3]) 0 [] (zma E YX8_step_2 (d + 1) [(0, vr (some (97, 1, 0)))] 137 3 [] Q)) : Zm E YX8_step_2 (d + 1) M [(0, vr (some (97, 1, 0))), (3, vi l3)] 136 [vi s0, vr (some (97, 1, 0))] Q := by
  refine Zm.l (fun _ _ k_ => z_iload_n dX8_step_2_136 rfl rfl k_) ?_
  refine Zm.pick [0] rfl ?_
  exact zm_callV (as := [vi s0, vi l3]) (st := []) dX8_step_2_137 vsX8_846_1 (Nat.le_refl _) (Nat.le_of_ble_eq_true rfl) (Nat.le_of_ble_eq_true rfl) rfl k
theorem sX8_step_2_140 {E : zE} {d : Nat} {Q : zO → zM → Prop} (M : zM) (s0 : Int32) (k : vp_in s0 3000 ∧ (vp_in s0 3000 ∧ (Zm E YX8_give_2 d M (zargs 0 [vr (some (97, 1, 0)), vi (gi M 146 (s0).toNatClampNeg), vi (gi M 147 (s0).toNatClampNeg)]) 0 [] (zma E YX8_step_2 (d + 1) [(0, vr (some (97, 1, 0)))] 157 3 [] Q)))) : Zm E YX8_step_2 (d + 1) M [(0, vr (some (97, 1, 0)))] 140 [vi s0] Q := by
  refine Zm.l (fun _ _ k_ => z_ist dX8_step_2_140 (by decide) (lv' := [(0, vr (some (97, 1, 0))), (4, vi s0)]) rfl k_) ?_
  refine Zm.l (fun _ _ k_ => z_aload_n dX8_step_2_142 rfl rfl k_) ?_
  refine Zm.l (fun _ _ k_ => z_aload_n dX8_step_2_143 rfl rfl k_) ?_
  refine zm_getr 43 dX8_step_2_144 fsX8_158_1 rfl ?_
  refine Zm.l (fun _ _ k_ => z_iload dX8_step_2_147 rfl k_) ?_
  obtain ⟨b_, k⟩ := k
  refine zm_iald dX8_step_2_149 b_ (by decide) (by decide) ?_
  refine Zm.l (fun _ _ k_ => z_aload_n dX8_step_2_150 rfl rfl k_) ?_
  refine zm_getr 44 dX8_step_2_151 fsX8_161_1 rfl ?_
  refine Zm.l (fun _ _ k_ => z_iload dX8_step_2_154 rfl k_) ?_
  obtain ⟨b_, k⟩ := k
  refine zm_iald dX8_step_2_156 b_ (by decide) (by decide) ?_
  refine Zm.pick [0] rfl ?_
  exact zm_callV (as := [vi (gi M 146 (s0).toNatClampNeg), vi (gi M 147 (s0).toNatClampNeg)]) (st := []) dX8_step_2_157 vsX8_822_1 (Nat.le_refl _) (Nat.le_of_ble_eq_true rfl) (Nat.le_of_ble_eq_true rfl) rfl k
theorem sX8_step_2_160 {E : zE} {d : Nat} {Q : zO → zM → Prop} (M : zM)  (k : Zm E YX8_gives d M (zargs 0 [vr (some (97, 1, 0)), vi (0 : Int32)]) 0 [] (zma E YX8_step_2 (d + 1) [] 162 3 [] Q)) : Zm E YX8_step_2 (d + 1) M [(0, vr (some (97, 1, 0)))] 160 [] Q := by
  refine Zm.l (fun _ _ k_ => z_aload_n dX8_step_2_160 rfl rfl k_) ?_
  refine Zm.l (fun _ _ k_ => z_iconst (v := 0) dX8_step_2_161 rfl k_) ?_
  refine Zm.pick [] rfl ?_
  exact zm_callV (as := [vi (0 : Int32)]) (st := []) dX8_step_2_162 vsX8_904_1 (Nat.le_refl _) (Nat.le_of_ble_eq_true rfl) (Nat.le_of_ble_eq_true rfl) rfl k
theorem sX8_step_2_165 {E : zE} {d : Nat} {Q : zO → zM → Prop} (M : zM)  (k : Zm E YX8_step_2 (d + 1) M [] 446 [] Q) : Zm E YX8_step_2 (d + 1) M [] 165 [] Q := by
  refine Zm.l (fun _ _ k_ => z_goto (tgt := 446) dX8_step_2_165 rfl k_) ?_
  exact k
theorem sX8_step_2_174 {E : zE} {d : Nat} {Q : zO → zM → Prop} (M : zM) (l3 : Int32) (s0 : Int32) (k : Zm E YX8_sortAt d M (zargs 0 [vr (some (97, 1, 0)), vi (0 : Int32)]) 0 [] (zma E YX8_step_2 (d + 1) [(0, vr (some (97, 1, 0)))] 177 3 [vi l3, vi s0, vr (some (97, 1, 0))] Q)) : Zm E YX8_step_2 (d + 1) M [(0, vr (some (97, 1, 0))), (3, vi l3)] 174 [vi s0, vr (some (97, 1, 0))] Q := by
  refine Zm.l (fun _ _ k_ => z_iload_n dX8_step_2_174 rfl rfl k_) ?_
  refine Zm.l (fun _ _ k_ => z_aload_n dX8_step_2_175 rfl rfl k_) ?_
  refine Zm.l (fun _ _ k_ => z_iconst (v := 0) dX8_step_2_176 rfl k_) ?_
  refine Zm.pick [0] rfl ?_
  exact zm_callV (as := [vi (0 : Int32)]) (st := [vi l3, vi s0, vr (some (97, 1, 0))]) dX8_step_2_177 vsX8_910_1 (Nat.le_refl _) (Nat.le_of_ble_eq_true rfl) (Nat.le_of_ble_eq_true rfl) rfl k
theorem sX8_step_2_180 {E : zE} {d : Nat} {Q : zO → zM → Prop} (M : zM) (s0 : Int32) (s1 : Int32) (s2 : Int32) (k : Zm E YX8_valueAt d M (zargs 0 [vr (some (97, 1, 0)), vi (0 : Int32)]) 0 [] (zma E YX8_step_2 (d + 1) [(0, vr (some (97, 1, 0)))] 182 3 [vi s0, vi s1, vi s2, vr (some (97, 1, 0))] Q)) : Zm E YX8_step_2 (d + 1) M [(0, vr (some (97, 1, 0)))] 180 [vi s0, vi s1, vi s2, vr (some (97, 1, 0))] Q := by
  refine Zm.l (fun _ _ k_ => z_aload_n dX8_step_2_180 rfl rfl k_) ?_
  refine Zm.l (fun _ _ k_ => z_iconst (v := 0) dX8_step_2_181 rfl k_) ?_
  exact zm_callV (as := [vi (0 : Int32)]) (st := [vi s0, vi s1, vi s2, vr (some (97, 1, 0))]) dX8_step_2_182 vsX8_913_1 (Nat.le_refl _) (Nat.le_of_ble_eq_true rfl) (Nat.le_of_ble_eq_true rfl) rfl k
theorem sX8_step_2_185 {E : zE} {d : Nat} {Q : zO → zM → Prop} (M : zM) (s0 : Int32) (s1 : Int32) (s2 : Int32) (s3 : Int32) (k : Zm E YX8_set_2 d M (zargs 0 [vr (some (97, 1, 0)), vi s3, vi s2, vi s1, vi s0]) 0 [] (zma E YX8_step_2 (d + 1) [(0, vr (some (97, 1, 0)))] 185 3 [] Q)) : Zm E YX8_step_2 (d + 1) M [(0, vr (some (97, 1, 0)))] 185 [vi s0, vi s1, vi s2, vi s3, vr (some (97, 1, 0))] Q := by
  exact zm_callV (as := [vi s3, vi s2, vi s1, vi s0]) (st := []) dX8_step_2_185 vsX8_870_1 (Nat.le_refl _) (Nat.le_of_ble_eq_true rfl) (Nat.le_of_ble_eq_true rfl) rfl k
theorem sX8_step_2_188 {E : zE} {d : Nat} {Q : zO → zM → Prop} (M : zM)  (k : Zm E YX8_goOn d M (zargs 0 [vr (some (97, 1, 0))]) 0 [] (zma E YX8_step_2 (d + 1) [] 189 3 [] Q)) : Zm E YX8_step_2 (d + 1) M [(0, vr (some (97, 1, 0)))] 188 [] Q := by
  refine Zm.l (fun _ _ k_ => z_aload_n dX8_step_2_188 rfl rfl k_) ?_
  refine Zm.pick [] rfl ?_
  exact zm_callV (as := []) (st := []) dX8_step_2_189 vsX8_888_1 (Nat.le_refl _) (Nat.le_of_ble_eq_true rfl) (Nat.le_of_ble_eq_true rfl) rfl k
theorem sX8_step_2_192 {E : zE} {d : Nat} {Q : zO → zM → Prop} (M : zM)  (k : Zm E YX8_step_2 (d + 1) M [] 446 [] Q) : Zm E YX8_step_2 (d + 1) M [] 192 [] Q := by
  refine Zm.l (fun _ _ k_ => z_goto (tgt := 446) dX8_step_2_192 rfl k_) ?_
  exact k
theorem sX8_step_2_215 {E : zE} {d : Nat} {Q : zO → zM → Prop} (M : zM)  (k : Zm E YX8_step_2 (d + 1) M [] 446 [] Q) : Zm E YX8_step_2 (d + 1) M [] 215 [] Q := by
  refine Zm.l (fun _ _ k_ => z_goto (tgt := 446) dX8_step_2_215 rfl k_) ?_
  exact k
theorem sX8_step_2_226 {E : zE} {d : Nat} {Q : zO → zM → Prop} (M : zM) (s0 : Int32) (s1 : Int32) (s2 : Int32) (k : Zm E YX8_valueAt d M (zargs 0 [vr (some (97, 1, 0)), vi (0 : Int32)]) 0 [] (zma E YX8_step_2 (d + 1) [(0, vr (some (97, 1, 0)))] 228 3 [vi s0, vi s1, vi s2, vr (some (97, 1, 0))] Q)) : Zm E YX8_step_2 (d + 1) M [(0, vr (some (97, 1, 0)))] 226 [vi s0, vi s1, vi s2, vr (some (97, 1, 0))] Q := by
  refine Zm.l (fun _ _ k_ => z_aload_n dX8_step_2_226 rfl rfl k_) ?_
  refine Zm.l (fun _ _ k_ => z_iconst (v := 0) dX8_step_2_227 rfl k_) ?_
  exact zm_callV (as := [vi (0 : Int32)]) (st := [vi s0, vi s1, vi s2, vr (some (97, 1, 0))]) dX8_step_2_228 vsX8_913_1 (Nat.le_refl _) (Nat.le_of_ble_eq_true rfl) (Nat.le_of_ble_eq_true rfl) rfl k
theorem sX8_step_2_231 {E : zE} {d : Nat} {Q : zO → zM → Prop} (M : zM) (s0 : Int32) (s1 : Int32) (s2 : Int32) (s3 : Int32) (k : Zm E YX8_set_2 d M (zargs 0 [vr (some (97, 1, 0)), vi s3, vi s2, vi s1, vi s0]) 0 [] (zma E YX8_step_2 (d + 1) [(0, vr (some (97, 1, 0)))] 231 3 [] Q)) : Zm E YX8_step_2 (d + 1) M [(0, vr (some (97, 1, 0)))] 231 [vi s0, vi s1, vi s2, vi s3, vr (some (97, 1, 0))] Q := by
  exact zm_callV (as := [vi s3, vi s2, vi s1, vi s0]) (st := []) dX8_step_2_231 vsX8_870_1 (Nat.le_refl _) (Nat.le_of_ble_eq_true rfl) (Nat.le_of_ble_eq_true rfl) rfl k
theorem sX8_step_2_234 {E : zE} {d : Nat} {Q : zO → zM → Prop} (M : zM)  (k : if (gi M 97 75) = 0 then (Zm E YX8_goOn d M (zargs 0 [vr (some (97, 1, 0))]) 0 [] (zma E YX8_step_2 (d + 1) [] 242 3 [] Q)) else (Zm E YX8_step_2 (d + 1) M [] 446 [] Q)) : Zm E YX8_step_2 (d + 1) M [(0, vr (some (97, 1, 0)))] 234 [] Q := by
  refine Zm.l (fun _ _ k_ => z_aload_n dX8_step_2_234 rfl rfl k_) ?_
  refine zm_geti dX8_step_2_235 fsX8_794_1 (by decide) (by decide) ?_
  refine Zm.brn (fun _ _ k1_ k2_ => z_if_ne (tgt := 446) dX8_step_2_238 rfl k1_ k2_) (fun h_ => ?_) (fun h_ => ?_)
  · have k := zif h_ k
    refine Zm.pick [] rfl ?_
    exact k
  · have k := zit h_ k
    refine Zm.l (fun _ _ k_ => z_aload_n dX8_step_2_241 rfl rfl k_) ?_
    refine Zm.pick [] rfl ?_
    exact zm_callV (as := []) (st := []) dX8_step_2_242 vsX8_888_1 (Nat.le_refl _) (Nat.le_of_ble_eq_true rfl) (Nat.le_of_ble_eq_true rfl) rfl k
theorem sX8_step_2_245 {E : zE} {d : Nat} {Q : zO → zM → Prop} (M : zM)  (k : Zm E YX8_step_2 (d + 1) M [] 446 [] Q) : Zm E YX8_step_2 (d + 1) M [] 245 [] Q := by
  refine Zm.l (fun _ _ k_ => z_goto (tgt := 446) dX8_step_2_245 rfl k_) ?_
  exact k
theorem sX8_step_2_274 {E : zE} {d : Nat} {Q : zO → zM → Prop} (M : zM)  (k : Zm E YX8_gives d M (zargs 0 [vr (some (97, 1, 0)), vi (0 : Int32)]) 0 [] (zma E YX8_step_2 (d + 1) [] 276 3 [] Q)) : Zm E YX8_step_2 (d + 1) M [(0, vr (some (97, 1, 0)))] 274 [] Q := by
  refine Zm.l (fun _ _ k_ => z_aload_n dX8_step_2_274 rfl rfl k_) ?_
  refine Zm.l (fun _ _ k_ => z_iconst (v := 0) dX8_step_2_275 rfl k_) ?_
  refine Zm.pick [] rfl ?_
  exact zm_callV (as := [vi (0 : Int32)]) (st := []) dX8_step_2_276 vsX8_904_1 (Nat.le_refl _) (Nat.le_of_ble_eq_true rfl) (Nat.le_of_ble_eq_true rfl) rfl k
theorem sX8_step_2_279 {E : zE} {d : Nat} {Q : zO → zM → Prop} (M : zM)  (k : Zm E YX8_step_2 (d + 1) M [] 446 [] Q) : Zm E YX8_step_2 (d + 1) M [] 279 [] Q := by
  refine Zm.l (fun _ _ k_ => z_goto (tgt := 446) dX8_step_2_279 rfl k_) ?_
  exact k
theorem sX8_step_2_292 {E : zE} {d : Nat} {Q : zO → zM → Prop} (M : zM) (s0 : Int32) (s1 : Int32) (s3 : Int32) (k : Zm E YX8_newObject d M (zargs 0 [vr (some (97, 1, 0)), vi s1, vi s0, vi (0 : Int32)]) 0 [] (zma E YX8_step_2 (d + 1) [(0, vr (some (97, 1, 0)))] 293 3 [vi s3, vr (some (97, 1, 0))] Q)) : Zm E YX8_step_2 (d + 1) M [(0, vr (some (97, 1, 0)))] 292 [vi s0, vi s1, vr (some (97, 1, 0)), vi s3, vr (some (97, 1, 0))] Q := by
  refine Zm.l (fun _ _ k_ => z_iconst (v := 0) dX8_step_2_292 rfl k_) ?_
  exact zm_callV (as := [vi s1, vi s0, vi (0 : Int32)]) (st := [vi s3, vr (some (97, 1, 0))]) dX8_step_2_293 vsX8_858_1 (Nat.le_refl _) (Nat.le_of_ble_eq_true rfl) (Nat.le_of_ble_eq_true rfl) rfl k
theorem sX8_step_2_296 {E : zE} {d : Nat} {Q : zO → zM → Prop} (M : zM) (s0 : Int32) (s1 : Int32) (k : Zm E YX8_give_2 d M (zargs 0 [vr (some (97, 1, 0)), vi s1, vi s0]) 0 [] (zma E YX8_step_2 (d + 1) [(0, vr (some (97, 1, 0)))] 296 3 [] Q)) : Zm E YX8_step_2 (d + 1) M [(0, vr (some (97, 1, 0)))] 296 [vi s0, vi s1, vr (some (97, 1, 0))] Q := by
  exact zm_callV (as := [vi s1, vi s0]) (st := []) dX8_step_2_296 vsX8_822_1 (Nat.le_refl _) (Nat.le_of_ble_eq_true rfl) (Nat.le_of_ble_eq_true rfl) rfl k
theorem sX8_step_2_299 {E : zE} {d : Nat} {Q : zO → zM → Prop} (M : zM)  (k : Zm E YX8_gives d M (zargs 0 [vr (some (97, 1, 0)), vi (0 : Int32)]) 0 [] (zma E YX8_step_2 (d + 1) [] 301 3 [] Q)) : Zm E YX8_step_2 (d + 1) M [(0, vr (some (97, 1, 0)))] 299 [] Q := by
  refine Zm.l (fun _ _ k_ => z_aload_n dX8_step_2_299 rfl rfl k_) ?_
  refine Zm.l (fun _ _ k_ => z_iconst (v := 0) dX8_step_2_300 rfl k_) ?_
  refine Zm.pick [] rfl ?_
  exact zm_callV (as := [vi (0 : Int32)]) (st := []) dX8_step_2_301 vsX8_904_1 (Nat.le_refl _) (Nat.le_of_ble_eq_true rfl) (Nat.le_of_ble_eq_true rfl) rfl k
theorem sX8_step_2_304 {E : zE} {d : Nat} {Q : zO → zM → Prop} (M : zM)  (k : Zm E YX8_step_2 (d + 1) M [] 446 [] Q) : Zm E YX8_step_2 (d + 1) M [] 304 [] Q := by
  refine Zm.l (fun _ _ k_ => z_goto (tgt := 446) dX8_step_2_304 rfl k_) ?_
  exact k
theorem sX8_step_2_316 {E : zE} {d : Nat} {Q : zO → zM → Prop} (M : zM) (s0 : Int32) (s2 : Int32) (k : Zm E YX8_newArray d M (zargs 0 [vr (some (97, 1, 0)), vi s0]) 0 [] (zma E YX8_step_2 (d + 1) [(0, vr (some (97, 1, 0)))] 316 3 [vi s2, vr (some (97, 1, 0))] Q)) : Zm E YX8_step_2 (d + 1) M [(0, vr (some (97, 1, 0)))] 316 [vi s0, vr (some (97, 1, 0)), vi s2, vr (some (97, 1, 0))] Q := by
  exact zm_callV (as := [vi s0]) (st := [vi s2, vr (some (97, 1, 0))]) dX8_step_2_316 vsX8_923_1 (Nat.le_refl _) (Nat.le_of_ble_eq_true rfl) (Nat.le_of_ble_eq_true rfl) rfl k
theorem sX8_step_2_319 {E : zE} {d : Nat} {Q : zO → zM → Prop} (M : zM) (s0 : Int32) (s1 : Int32) (k : Zm E YX8_give_2 d M (zargs 0 [vr (some (97, 1, 0)), vi s1, vi s0]) 0 [] (zma E YX8_step_2 (d + 1) [(0, vr (some (97, 1, 0)))] 319 3 [] Q)) : Zm E YX8_step_2 (d + 1) M [(0, vr (some (97, 1, 0)))] 319 [vi s0, vi s1, vr (some (97, 1, 0))] Q := by
  exact zm_callV (as := [vi s1, vi s0]) (st := []) dX8_step_2_319 vsX8_822_1 (Nat.le_refl _) (Nat.le_of_ble_eq_true rfl) (Nat.le_of_ble_eq_true rfl) rfl k
theorem sX8_step_2_322 {E : zE} {d : Nat} {Q : zO → zM → Prop} (M : zM)  (k : Zm E YX8_gives d M (zargs 0 [vr (some (97, 1, 0)), vi (0 : Int32)]) 0 [] (zma E YX8_step_2 (d + 1) [] 324 3 [] Q)) : Zm E YX8_step_2 (d + 1) M [(0, vr (some (97, 1, 0)))] 322 [] Q := by
  refine Zm.l (fun _ _ k_ => z_aload_n dX8_step_2_322 rfl rfl k_) ?_
  refine Zm.l (fun _ _ k_ => z_iconst (v := 0) dX8_step_2_323 rfl k_) ?_
  refine Zm.pick [] rfl ?_
  exact zm_callV (as := [vi (0 : Int32)]) (st := []) dX8_step_2_324 vsX8_904_1 (Nat.le_refl _) (Nat.le_of_ble_eq_true rfl) (Nat.le_of_ble_eq_true rfl) rfl k
theorem sX8_step_2_327 {E : zE} {d : Nat} {Q : zO → zM → Prop} (M : zM)  (k : Zm E YX8_step_2 (d + 1) M [] 446 [] Q) : Zm E YX8_step_2 (d + 1) M [] 327 [] Q := by
  refine Zm.l (fun _ _ k_ => z_goto (tgt := 446) dX8_step_2_327 rfl k_) ?_
  exact k
theorem sX8_step_2_335 {E : zE} {d : Nat} {Q : zO → zM → Prop} (M : zM)  (k : Zm E YX8_step_2 (d + 1) M [] 446 [] Q) : Zm E YX8_step_2 (d + 1) M [] 335 [] Q := by
  refine Zm.l (fun _ _ k_ => z_goto (tgt := 446) dX8_step_2_335 rfl k_) ?_
  exact k
theorem sX8_step_2_342 {E : zE} {d : Nat} {Q : zO → zM → Prop} (M : zM)  (k : Zm E YX8_step_2 (d + 1) M [] 446 [] Q) : Zm E YX8_step_2 (d + 1) M [] 342 [] Q := by
  refine Zm.l (fun _ _ k_ => z_goto (tgt := 446) dX8_step_2_342 rfl k_) ?_
  exact k
theorem sX8_step_2_349 {E : zE} {d : Nat} {Q : zO → zM → Prop} (M : zM)  (k : Zm E YX8_step_2 (d + 1) M [] 446 [] Q) : Zm E YX8_step_2 (d + 1) M [] 349 [] Q := by
  refine Zm.l (fun _ _ k_ => z_goto (tgt := 446) dX8_step_2_349 rfl k_) ?_
  exact k
theorem sX8_step_2_356 {E : zE} {d : Nat} {Q : zO → zM → Prop} (M : zM)  (k : Zm E YX8_step_2 (d + 1) M [] 446 [] Q) : Zm E YX8_step_2 (d + 1) M [] 356 [] Q := by
  refine Zm.l (fun _ _ k_ => z_goto (tgt := 446) dX8_step_2_356 rfl k_) ?_
  exact k
theorem sX8_step_2_373 {E : zE} {d : Nat} {Q : zO → zM → Prop} (M : zM) (s0 : Int32) (s2 : Int32) (k : Zm E YX8_valueAt d M (zargs 0 [vr (some (97, 1, 0)), vi (0 : Int32)]) 0 [] (zma E YX8_step_2 (d + 1) [(0, vr (some (97, 1, 0)))] 375 3 [vi s0, vr (some (97, 1, 0)), vi s2, vr (some (97, 1, 0))] Q)) : Zm E YX8_step_2 (d + 1) M [(0, vr (some (97, 1, 0)))] 373 [vi s0, vr (some (97, 1, 0)), vi s2, vr (some (97, 1, 0))] Q := by
  refine Zm.l (fun _ _ k_ => z_aload_n dX8_step_2_373 rfl rfl k_) ?_
  refine Zm.l (fun _ _ k_ => z_iconst (v := 0) dX8_step_2_374 rfl k_) ?_
  exact zm_callV (as := [vi (0 : Int32)]) (st := [vi s0, vr (some (97, 1, 0)), vi s2, vr (some (97, 1, 0))]) dX8_step_2_375 vsX8_913_1 (Nat.le_refl _) (Nat.le_of_ble_eq_true rfl) (Nat.le_of_ble_eq_true rfl) rfl k
theorem sX8_step_2_378 {E : zE} {d : Nat} {Q : zO → zM → Prop} (M : zM) (s0 : Int32) (s1 : Int32) (s3 : Int32) (k : Zm E YX8_typeOf d M (zargs 0 [vr (some (97, 1, 0)), vi s1, vi s0]) 0 [] (zma E YX8_step_2 (d + 1) [(0, vr (some (97, 1, 0)))] 378 3 [vi s3, vr (some (97, 1, 0))] Q)) : Zm E YX8_step_2 (d + 1) M [(0, vr (some (97, 1, 0)))] 378 [vi s0, vi s1, vr (some (97, 1, 0)), vi s3, vr (some (97, 1, 0))] Q := by
  exact zm_callV (as := [vi s1, vi s0]) (st := [vi s3, vr (some (97, 1, 0))]) dX8_step_2_378 vsX8_937_1 (Nat.le_refl _) (Nat.le_of_ble_eq_true rfl) (Nat.le_of_ble_eq_true rfl) rfl k
theorem sX8_step_2_381 {E : zE} {d : Nat} {Q : zO → zM → Prop} (M : zM) (s0 : Int32) (s1 : Int32) (k : Zm E YX8_give_2 d M (zargs 0 [vr (some (97, 1, 0)), vi s1, vi s0]) 0 [] (zma E YX8_step_2 (d + 1) [(0, vr (some (97, 1, 0)))] 381 3 [] Q)) : Zm E YX8_step_2 (d + 1) M [(0, vr (some (97, 1, 0)))] 381 [vi s0, vi s1, vr (some (97, 1, 0))] Q := by
  exact zm_callV (as := [vi s1, vi s0]) (st := []) dX8_step_2_381 vsX8_822_1 (Nat.le_refl _) (Nat.le_of_ble_eq_true rfl) (Nat.le_of_ble_eq_true rfl) rfl k
theorem sX8_step_2_384 {E : zE} {d : Nat} {Q : zO → zM → Prop} (M : zM)  (k : Zm E YX8_step_2 (d + 1) M [(0, vr (some (97, 1, 0)))] 402 [] Q) : Zm E YX8_step_2 (d + 1) M [(0, vr (some (97, 1, 0)))] 384 [] Q := by
  refine Zm.l (fun _ _ k_ => z_goto (tgt := 402) dX8_step_2_384 rfl k_) ?_
  exact k
theorem sX8_step_2_394 {E : zE} {d : Nat} {Q : zO → zM → Prop} (M : zM) (s0 : Int32) (s1 : Int32) (k : Zm E YX8_valueAt d M (zargs 0 [vr (some (97, 1, 0)), vi (0 : Int32)]) 0 [] (zma E YX8_step_2 (d + 1) [(0, vr (some (97, 1, 0)))] 396 3 [vi s0, vi s1, vr (some (97, 1, 0))] Q)) : Zm E YX8_step_2 (d + 1) M [(0, vr (some (97, 1, 0)))] 394 [vi s0, vi s1, vr (some (97, 1, 0))] Q := by
  refine Zm.l (fun _ _ k_ => z_aload_n dX8_step_2_394 rfl rfl k_) ?_
  refine Zm.l (fun _ _ k_ => z_iconst (v := 0) dX8_step_2_395 rfl k_) ?_
  exact zm_callV (as := [vi (0 : Int32)]) (st := [vi s0, vi s1, vr (some (97, 1, 0))]) dX8_step_2_396 vsX8_913_1 (Nat.le_refl _) (Nat.le_of_ble_eq_true rfl) (Nat.le_of_ble_eq_true rfl) rfl k
theorem sX8_step_2_399 {E : zE} {d : Nat} {Q : zO → zM → Prop} (M : zM) (s0 : Int32) (s1 : Int32) (s2 : Int32) (k : Zm E YX8_unaryOf d M (zargs 0 [vr (some (97, 1, 0)), vi s2, vi s1, vi s0]) 0 [] (zma E YX8_step_2 (d + 1) [(0, vr (some (97, 1, 0)))] 399 3 [] Q)) : Zm E YX8_step_2 (d + 1) M [(0, vr (some (97, 1, 0)))] 399 [vi s0, vi s1, vi s2, vr (some (97, 1, 0))] Q := by
  exact zm_callV (as := [vi s2, vi s1, vi s0]) (st := []) dX8_step_2_399 vsX8_940_1 (Nat.le_refl _) (Nat.le_of_ble_eq_true rfl) (Nat.le_of_ble_eq_true rfl) rfl k
theorem sX8_step_2_402 {E : zE} {d : Nat} {Q : zO → zM → Prop} (M : zM)  (k : Zm E YX8_gives d M (zargs 0 [vr (some (97, 1, 0)), vi (1 : Int32)]) 0 [] (zma E YX8_step_2 (d + 1) [] 404 3 [] Q)) : Zm E YX8_step_2 (d + 1) M [(0, vr (some (97, 1, 0)))] 402 [] Q := by
  refine Zm.l (fun _ _ k_ => z_aload_n dX8_step_2_402 rfl rfl k_) ?_
  refine Zm.l (fun _ _ k_ => z_iconst (v := 1) dX8_step_2_403 rfl k_) ?_
  refine Zm.pick [] rfl ?_
  exact zm_callV (as := [vi (1 : Int32)]) (st := []) dX8_step_2_404 vsX8_904_1 (Nat.le_refl _) (Nat.le_of_ble_eq_true rfl) (Nat.le_of_ble_eq_true rfl) rfl k
theorem sX8_step_2_407 {E : zE} {d : Nat} {Q : zO → zM → Prop} (M : zM)  (k : Zm E YX8_step_2 (d + 1) M [] 446 [] Q) : Zm E YX8_step_2 (d + 1) M [] 407 [] Q := by
  refine Zm.l (fun _ _ k_ => z_goto (tgt := 446) dX8_step_2_407 rfl k_) ?_
  exact k
theorem sX8_step_2_415 {E : zE} {d : Nat} {Q : zO → zM → Prop} (M : zM)  (k : Zm E YX8_step_2 (d + 1) M [] 446 [] Q) : Zm E YX8_step_2 (d + 1) M [] 415 [] Q := by
  refine Zm.l (fun _ _ k_ => z_goto (tgt := 446) dX8_step_2_415 rfl k_) ?_
  exact k
theorem sX8_step_2_423 {E : zE} {d : Nat} {Q : zO → zM → Prop} (M : zM)  (k : Zm E YX8_step_2 (d + 1) M [] 446 [] Q) : Zm E YX8_step_2 (d + 1) M [] 423 [] Q := by
  refine Zm.l (fun _ _ k_ => z_goto (tgt := 446) dX8_step_2_423 rfl k_) ?_
  exact k
theorem sX8_step_2_432 {E : zE} {d : Nat} {Q : zO → zM → Prop} (M : zM)  (k : Zm E YX8_step_2 (d + 1) M [] 446 [] Q) : Zm E YX8_step_2 (d + 1) M [] 432 [] Q := by
  refine Zm.l (fun _ _ k_ => z_goto (tgt := 446) dX8_step_2_432 rfl k_) ?_
  exact k
theorem sX8_step_2_446 {E : zE} {d : Nat} {Q : zO → zM → Prop} (M : zM)  (k : Q (.inl none) M) : Zm E YX8_step_2 (d + 1) M [] 446 [] Q := by
  exact zm_vret dX8_step_2_446 rfl k
/-! ScriptTypesModel.give(II)V -/
theorem bX8_give_2_0 : zdec cX8_give_2 0 [(0, .aload_n 0, 1), (1, .iload_n 1, 1), (2, .putfield 788, 3), (5, .aload_n 0, 1), (6, .iload_n 2, 1), (7, .putfield 791, 3), (10, .return_, 1)] = true := by decide +kernel
theorem dX8_give_2_0 : decode cX8_give_2 0 = .ok (.aload_n 0, 1) := zdec_at bX8_give_2_0 0 rfl
theorem dX8_give_2_1 : decode cX8_give_2 1 = .ok (.iload_n 1, 1) := zdec_at bX8_give_2_0 1 rfl
theorem dX8_give_2_2 : decode cX8_give_2 2 = .ok (.putfield 788, 3) := zdec_at bX8_give_2_0 2 rfl
theorem dX8_give_2_5 : decode cX8_give_2 5 = .ok (.aload_n 0, 1) := zdec_at bX8_give_2_0 3 rfl
theorem dX8_give_2_6 : decode cX8_give_2 6 = .ok (.iload_n 2, 1) := zdec_at bX8_give_2_0 4 rfl
theorem dX8_give_2_7 : decode cX8_give_2 7 = .ok (.putfield 791, 3) := zdec_at bX8_give_2_0 5 rfl
theorem dX8_give_2_10 : decode cX8_give_2 10 = .ok (.return_, 1) := zdec_at bX8_give_2_0 6 rfl
theorem sX8_give_2_0 {E : zE} {d : Nat} {Q : zO → zM → Prop} (M : zM) (l1 : Int32) (l2 : Int32) (k : Q (.inl none) (si (si M 97 111 l1) 97 112 l2)) : Zm E YX8_give_2 d M [(0, vr (some (97, 1, 0))), (1, vi l1), (2, vi l2)] 0 [] Q := by
  refine Zm.l (fun _ _ k_ => z_aload_n dX8_give_2_0 rfl rfl k_) ?_
  refine Zm.l (fun _ _ k_ => z_iload_n dX8_give_2_1 rfl rfl k_) ?_
  refine zm_puti (by decide) (by decide) dX8_give_2_2 (zfwN.w fwX8_788_1) rfl ⟨rfl, rfl⟩ ?_
  refine Zm.l (fun _ _ k_ => z_aload_n dX8_give_2_5 rfl rfl k_) ?_
  refine Zm.l (fun _ _ k_ => z_iload_n dX8_give_2_6 rfl rfl k_) ?_
  refine zm_puti (by decide) (by decide) dX8_give_2_7 (zfwN.w fwX8_791_1) rfl ⟨rfl, rfl⟩ ?_
  exact zm_vret dX8_give_2_10 rfl k
/-! ScriptTypesModel.gives(I)V -/
theorem bX8_gives_0 : zdec cX8_gives 0 [(0, .aload_n 0, 1), (1, .getfield 794, 3), (4, .ifCond .ne 11, 3), (7, .aload_n 0, 1), (8, .getfield 773, 3), (11, .iconst 1, 1), (12, .if_icmp .eq 4, 3), (15, .return_, 1), (16, .aload_n 0, 1), (17, .iload_n 1, 1), (18, .invokevirtual 882, 3), (21, .aload_n 0, 1), (22, .aload_n 0, 1), (23, .getfield 788, 3), (26, .aload_n 0, 1), (27, .getfield 791, 3)] = true := by decide +kernel
theorem dX8_gives_0 : decode cX8_gives 0 = .ok (.aload_n 0, 1) := zdec_at bX8_gives_0 0 rfl
theorem dX8_gives_1 : decode cX8_gives 1 = .ok (.getfield 794, 3) := zdec_at bX8_gives_0 1 rfl
theorem dX8_gives_4 : decode cX8_gives 4 = .ok (.ifCond .ne 11, 3) := zdec_at bX8_gives_0 2 rfl
theorem dX8_gives_7 : decode cX8_gives 7 = .ok (.aload_n 0, 1) := zdec_at bX8_gives_0 3 rfl
theorem dX8_gives_8 : decode cX8_gives 8 = .ok (.getfield 773, 3) := zdec_at bX8_gives_0 4 rfl
theorem dX8_gives_11 : decode cX8_gives 11 = .ok (.iconst 1, 1) := zdec_at bX8_gives_0 5 rfl
theorem dX8_gives_12 : decode cX8_gives 12 = .ok (.if_icmp .eq 4, 3) := zdec_at bX8_gives_0 6 rfl
theorem dX8_gives_15 : decode cX8_gives 15 = .ok (.return_, 1) := zdec_at bX8_gives_0 7 rfl
theorem dX8_gives_16 : decode cX8_gives 16 = .ok (.aload_n 0, 1) := zdec_at bX8_gives_0 8 rfl
theorem dX8_gives_17 : decode cX8_gives 17 = .ok (.iload_n 1, 1) := zdec_at bX8_gives_0 9 rfl
theorem dX8_gives_18 : decode cX8_gives 18 = .ok (.invokevirtual 882, 3) := zdec_at bX8_gives_0 10 rfl
theorem dX8_gives_21 : decode cX8_gives 21 = .ok (.aload_n 0, 1) := zdec_at bX8_gives_0 11 rfl
theorem dX8_gives_22 : decode cX8_gives 22 = .ok (.aload_n 0, 1) := zdec_at bX8_gives_0 12 rfl
theorem dX8_gives_23 : decode cX8_gives 23 = .ok (.getfield 788, 3) := zdec_at bX8_gives_0 13 rfl
theorem dX8_gives_26 : decode cX8_gives 26 = .ok (.aload_n 0, 1) := zdec_at bX8_gives_0 14 rfl
theorem dX8_gives_27 : decode cX8_gives 27 = .ok (.getfield 791, 3) := zdec_at bX8_gives_0 15 rfl
theorem bX8_gives_30 : zdec cX8_gives 30 [(30, .invokevirtual 885, 3), (33, .aload_n 0, 1), (34, .invokevirtual 888, 3), (37, .return_, 1)] = true := by decide +kernel
theorem dX8_gives_30 : decode cX8_gives 30 = .ok (.invokevirtual 885, 3) := zdec_at bX8_gives_30 0 rfl
theorem dX8_gives_33 : decode cX8_gives 33 = .ok (.aload_n 0, 1) := zdec_at bX8_gives_30 1 rfl
theorem dX8_gives_34 : decode cX8_gives 34 = .ok (.invokevirtual 888, 3) := zdec_at bX8_gives_30 2 rfl
theorem dX8_gives_37 : decode cX8_gives 37 = .ok (.return_, 1) := zdec_at bX8_gives_30 3 rfl
theorem sX8_gives_0 {E : zE} {d : Nat} {Q : zO → zM → Prop} (M : zM) (l1 : Int32) (k : if (gi M 97 75) = 0 then (if (gi M 97 73) = (1 : Int32) then (Zm E YX8_drop d M (zargs 0 [vr (some (97, 1, 0)), vi l1]) 0 [] (zma E YX8_gives (d + 1) [(0, vr (some (97, 1, 0)))] 18 3 [] Q)) else (Q (.inl none) M)) else (Q (.inl none) M)) : Zm E YX8_gives (d + 1) M [(0, vr (some (97, 1, 0))), (1, vi l1)] 0 [] Q := by
  refine Zm.l (fun _ _ k_ => z_aload_n dX8_gives_0 rfl rfl k_) ?_
  refine zm_geti dX8_gives_1 fsX8_794_1 (by decide) (by decide) ?_
  refine Zm.brn (fun _ _ k1_ k2_ => z_if_ne (tgt := 15) dX8_gives_4 rfl k1_ k2_) (fun h_ => ?_) (fun h_ => ?_)
  · have k := zif h_ k
    exact zm_vret dX8_gives_15 rfl k
  · have k := zit h_ k
    refine Zm.l (fun _ _ k_ => z_aload_n dX8_gives_7 rfl rfl k_) ?_
    refine zm_geti dX8_gives_8 fsX8_773_1 (by decide) (by decide) ?_
    refine Zm.l (fun _ _ k_ => z_iconst (v := 1) dX8_gives_11 rfl k_) ?_
    refine Zm.br (fun _ _ k1_ k2_ => z_icmp_eq (tgt := 16) dX8_gives_12 rfl k1_ k2_) (fun h_ => ?_) (fun h_ => ?_)
    · have k := zit h_ k
      refine Zm.l (fun _ _ k_ => z_aload_n dX8_gives_16 rfl rfl k_) ?_
      refine Zm.l (fun _ _ k_ => z_iload_n dX8_gives_17 rfl rfl k_) ?_
      refine Zm.pick [0] rfl ?_
      exact zm_callV (as := [vi l1]) (st := []) dX8_gives_18 vsX8_882_1 (Nat.le_refl _) (Nat.le_of_ble_eq_true rfl) (Nat.le_of_ble_eq_true rfl) rfl k
    · have k := zif h_ k
      exact zm_vret dX8_gives_15 rfl k
theorem sX8_gives_21 {E : zE} {d : Nat} {Q : zO → zM → Prop} (M : zM)  (k : Zm E YX8_push d M (zargs 0 [vr (some (97, 1, 0)), vi (gi M 97 111), vi (gi M 97 112)]) 0 [] (zma E YX8_gives (d + 1) [(0, vr (some (97, 1, 0)))] 30 3 [] Q)) : Zm E YX8_gives (d + 1) M [(0, vr (some (97, 1, 0)))] 21 [] Q := by
  refine Zm.l (fun _ _ k_ => z_aload_n dX8_gives_21 rfl rfl k_) ?_
  refine Zm.l (fun _ _ k_ => z_aload_n dX8_gives_22 rfl rfl k_) ?_
  refine zm_geti dX8_gives_23 fsX8_788_1 (by decide) (by decide) ?_
  refine Zm.l (fun _ _ k_ => z_aload_n dX8_gives_26 rfl rfl k_) ?_
  refine zm_geti dX8_gives_27 fsX8_791_1 (by decide) (by decide) ?_
  exact zm_callV (as := [vi (gi M 97 111), vi (gi M 97 112)]) (st := []) dX8_gives_30 vsX8_885_1 (Nat.le_refl _) (Nat.le_of_ble_eq_true rfl) (Nat.le_of_ble_eq_true rfl) rfl k
theorem sX8_gives_33 {E : zE} {d : Nat} {Q : zO → zM → Prop} (M : zM)  (k : Zm E YX8_goOn d M (zargs 0 [vr (some (97, 1, 0))]) 0 [] (zma E YX8_gives (d + 1) [] 34 3 [] Q)) : Zm E YX8_gives (d + 1) M [(0, vr (some (97, 1, 0)))] 33 [] Q := by
  refine Zm.l (fun _ _ k_ => z_aload_n dX8_gives_33 rfl rfl k_) ?_
  refine Zm.pick [] rfl ?_
  exact zm_callV (as := []) (st := []) dX8_gives_34 vsX8_888_1 (Nat.le_refl _) (Nat.le_of_ble_eq_true rfl) (Nat.le_of_ble_eq_true rfl) rfl k
theorem sX8_gives_37 {E : zE} {d : Nat} {Q : zO → zM → Prop} (M : zM)  (k : Q (.inl none) M) : Zm E YX8_gives (d + 1) M [] 37 [] Q := by
  exact zm_vret dX8_gives_37 rfl k
/-! ScriptTypesModel.drop(I)V -/
theorem bX8_drop_0 : zdec cX8_drop 0 [(0, .aload_n 0, 1), (1, .getfield 185, 3), (4, .aload_n 0, 1), (5, .getfield 872, 3), (8, .iconst 1, 1), (9, .isub, 1), (10, .dup2, 1), (11, .iaload, 1), (12, .iload_n 1, 1), (13, .isub, 1), (14, .iastore, 1), (15, .return_, 1)] = true := by decide +kernel
theorem dX8_drop_0 : decode cX8_drop 0 = .ok (.aload_n 0, 1) := zdec_at bX8_drop_0 0 rfl
theorem dX8_drop_1 : decode cX8_drop 1 = .ok (.getfield 185, 3) := zdec_at bX8_drop_0 1 rfl
theorem dX8_drop_4 : decode cX8_drop 4 = .ok (.aload_n 0, 1) := zdec_at bX8_drop_0 2 rfl
theorem dX8_drop_5 : decode cX8_drop 5 = .ok (.getfield 872, 3) := zdec_at bX8_drop_0 3 rfl
theorem dX8_drop_8 : decode cX8_drop 8 = .ok (.iconst 1, 1) := zdec_at bX8_drop_0 4 rfl
theorem dX8_drop_9 : decode cX8_drop 9 = .ok (.isub, 1) := zdec_at bX8_drop_0 5 rfl
theorem dX8_drop_10 : decode cX8_drop 10 = .ok (.dup2, 1) := zdec_at bX8_drop_0 6 rfl
theorem dX8_drop_11 : decode cX8_drop 11 = .ok (.iaload, 1) := zdec_at bX8_drop_0 7 rfl
theorem dX8_drop_12 : decode cX8_drop 12 = .ok (.iload_n 1, 1) := zdec_at bX8_drop_0 8 rfl
theorem dX8_drop_13 : decode cX8_drop 13 = .ok (.isub, 1) := zdec_at bX8_drop_0 9 rfl
theorem dX8_drop_14 : decode cX8_drop 14 = .ok (.iastore, 1) := zdec_at bX8_drop_0 10 rfl
theorem dX8_drop_15 : decode cX8_drop 15 = .ok (.return_, 1) := zdec_at bX8_drop_0 11 rfl
theorem sX8_drop_0 {E : zE} {d : Nat} {Q : zO → zM → Prop} (M : zM) (l1 : Int32) (k : vp_in ((gi M 97 92) - (1 : Int32)) 24 ∧ (vp_in ((gi M 97 92) - (1 : Int32)) 24 ∧ (Q (.inl none) (si M 155 (((gi M 97 92) - (1 : Int32))).toNatClampNeg ((gi M 155 (((gi M 97 92) - (1 : Int32))).toNatClampNeg) - l1))))) : Zm E YX8_drop d M [(0, vr (some (97, 1, 0))), (1, vi l1)] 0 [] Q := by
  refine Zm.l (fun _ _ k_ => z_aload_n dX8_drop_0 rfl rfl k_) ?_
  refine zm_getr 52 dX8_drop_1 fsX8_185_1 rfl ?_
  refine Zm.l (fun _ _ k_ => z_aload_n dX8_drop_4 rfl rfl k_) ?_
  refine zm_geti dX8_drop_5 fsX8_872_1 (by decide) (by decide) ?_
  refine Zm.l (fun _ _ k_ => z_iconst (v := 1) dX8_drop_8 rfl k_) ?_
  refine Zm.l (fun _ _ k_ => z_isub dX8_drop_9 k_) ?_
  refine Zm.l (fun _ _ k_ => z_dup2 dX8_drop_10 rfl rfl k_) ?_
  obtain ⟨b_, k⟩ := k
  refine zm_iald dX8_drop_11 b_ (by decide) (by decide) ?_
  refine Zm.l (fun _ _ k_ => z_iload_n dX8_drop_12 rfl rfl k_) ?_
  refine Zm.l (fun _ _ k_ => z_isub dX8_drop_13 k_) ?_
  obtain ⟨b_, k⟩ := k
  refine zm_iast dX8_drop_14 b_ (by decide) (by decide) ?_
  exact zm_vret dX8_drop_15 rfl k
/-! ScriptTypesModel.push(II)V -/
theorem bX8_push_0 : zdec cX8_push 0 [(0, .aload_n 0, 1), (1, .getfield 200, 3), (4, .aload_n 0, 1), (5, .invokevirtual 879, 3), (8, .iload_n 1, 1), (9, .iastore, 1), (10, .aload_n 0, 1), (11, .getfield 203, 3), (14, .aload_n 0, 1), (15, .invokevirtual 879, 3), (18, .iload_n 2, 1), (19, .iastore, 1), (20, .aload_n 0, 1), (21, .getfield 185, 3), (24, .aload_n 0, 1), (25, .getfield 872, 3)] = true := by decide +kernel
theorem dX8_push_0 : decode cX8_push 0 = .ok (.aload_n 0, 1) := zdec_at bX8_push_0 0 rfl
theorem dX8_push_1 : decode cX8_push 1 = .ok (.getfield 200, 3) := zdec_at bX8_push_0 1 rfl
theorem dX8_push_4 : decode cX8_push 4 = .ok (.aload_n 0, 1) := zdec_at bX8_push_0 2 rfl
theorem dX8_push_5 : decode cX8_push 5 = .ok (.invokevirtual 879, 3) := zdec_at bX8_push_0 3 rfl
theorem dX8_push_8 : decode cX8_push 8 = .ok (.iload_n 1, 1) := zdec_at bX8_push_0 4 rfl
theorem dX8_push_9 : decode cX8_push 9 = .ok (.iastore, 1) := zdec_at bX8_push_0 5 rfl
theorem dX8_push_10 : decode cX8_push 10 = .ok (.aload_n 0, 1) := zdec_at bX8_push_0 6 rfl
theorem dX8_push_11 : decode cX8_push 11 = .ok (.getfield 203, 3) := zdec_at bX8_push_0 7 rfl
theorem dX8_push_14 : decode cX8_push 14 = .ok (.aload_n 0, 1) := zdec_at bX8_push_0 8 rfl
theorem dX8_push_15 : decode cX8_push 15 = .ok (.invokevirtual 879, 3) := zdec_at bX8_push_0 9 rfl
theorem dX8_push_18 : decode cX8_push 18 = .ok (.iload_n 2, 1) := zdec_at bX8_push_0 10 rfl
theorem dX8_push_19 : decode cX8_push 19 = .ok (.iastore, 1) := zdec_at bX8_push_0 11 rfl
theorem dX8_push_20 : decode cX8_push 20 = .ok (.aload_n 0, 1) := zdec_at bX8_push_0 12 rfl
theorem dX8_push_21 : decode cX8_push 21 = .ok (.getfield 185, 3) := zdec_at bX8_push_0 13 rfl
theorem dX8_push_24 : decode cX8_push 24 = .ok (.aload_n 0, 1) := zdec_at bX8_push_0 14 rfl
theorem dX8_push_25 : decode cX8_push 25 = .ok (.getfield 872, 3) := zdec_at bX8_push_0 15 rfl
theorem bX8_push_28 : zdec cX8_push 28 [(28, .iconst 1, 1), (29, .isub, 1), (30, .dup2, 1), (31, .iaload, 1), (32, .iconst 1, 1), (33, .iadd, 1), (34, .iastore, 1), (35, .return_, 1)] = true := by decide +kernel
theorem dX8_push_28 : decode cX8_push 28 = .ok (.iconst 1, 1) := zdec_at bX8_push_28 0 rfl
theorem dX8_push_29 : decode cX8_push 29 = .ok (.isub, 1) := zdec_at bX8_push_28 1 rfl
theorem dX8_push_30 : decode cX8_push 30 = .ok (.dup2, 1) := zdec_at bX8_push_28 2 rfl
theorem dX8_push_31 : decode cX8_push 31 = .ok (.iaload, 1) := zdec_at bX8_push_28 3 rfl
theorem dX8_push_32 : decode cX8_push 32 = .ok (.iconst 1, 1) := zdec_at bX8_push_28 4 rfl
theorem dX8_push_33 : decode cX8_push 33 = .ok (.iadd, 1) := zdec_at bX8_push_28 5 rfl
theorem dX8_push_34 : decode cX8_push 34 = .ok (.iastore, 1) := zdec_at bX8_push_28 6 rfl
theorem dX8_push_35 : decode cX8_push 35 = .ok (.return_, 1) := zdec_at bX8_push_28 7 rfl
theorem sX8_push_0 {E : zE} {d : Nat} {Q : zO → zM → Prop} (M : zM) (l1 : Int32) (l2 : Int32) (k : Zm E YX8_top d M (zargs 0 [vr (some (97, 1, 0))]) 0 [] (zma E YX8_push (d + 1) [(0, vr (some (97, 1, 0))), (1, vi l1), (2, vi l2)] 5 3 [vr (some (160, 100, 9600))] Q)) : Zm E YX8_push (d + 1) M [(0, vr (some (97, 1, 0))), (1, vi l1), (2, vi l2)] 0 [] Q := by
  refine Zm.l (fun _ _ k_ => z_aload_n dX8_push_0 rfl rfl k_) ?_
  refine zm_getr 57 dX8_push_1 fsX8_200_1 rfl ?_
  refine Zm.l (fun _ _ k_ => z_aload_n dX8_push_4 rfl rfl k_) ?_
  exact zm_callV (as := []) (st := [vr (some (160, 100, 9600))]) dX8_push_5 vsX8_879_1 (Nat.le_refl _) (Nat.le_of_ble_eq_true rfl) (Nat.le_of_ble_eq_true rfl) rfl k
theorem sX8_push_8 {E : zE} {d : Nat} {Q : zO → zM → Prop} (M : zM) (l1 : Int32) (l2 : Int32) (s0 : Int32) (k : vp_in s0 9600 ∧ (Zm E YX8_top d (si M 160 (s0).toNatClampNeg l1) (zargs 0 [vr (some (97, 1, 0))]) 0 [] (zma E YX8_push (d + 1) [(0, vr (some (97, 1, 0))), (2, vi l2)] 15 3 [vr (some (161, 100, 9600))] Q))) : Zm E YX8_push (d + 1) M [(0, vr (some (97, 1, 0))), (1, vi l1), (2, vi l2)] 8 [vi s0, vr (some (160, 100, 9600))] Q := by
  refine Zm.l (fun _ _ k_ => z_iload_n dX8_push_8 rfl rfl k_) ?_
  obtain ⟨b_, k⟩ := k
  refine zm_iast dX8_push_9 b_ (by decide) (by decide) ?_
  refine Zm.l (fun _ _ k_ => z_aload_n dX8_push_10 rfl rfl k_) ?_
  refine zm_getr 58 dX8_push_11 fsX8_203_1 rfl ?_
  refine Zm.l (fun _ _ k_ => z_aload_n dX8_push_14 rfl rfl k_) ?_
  refine Zm.pick [0, 2] rfl ?_
  exact zm_callV (as := []) (st := [vr (some (161, 100, 9600))]) dX8_push_15 vsX8_879_1 (Nat.le_refl _) (Nat.le_of_ble_eq_true rfl) (Nat.le_of_ble_eq_true rfl) rfl k
theorem sX8_push_18 {E : zE} {d : Nat} {Q : zO → zM → Prop} (M : zM) (l2 : Int32) (s0 : Int32) (k : vp_in s0 9600 ∧ (vp_in ((gi M 97 92) - (1 : Int32)) 24 ∧ (vp_in ((gi M 97 92) - (1 : Int32)) 24 ∧ (Q (.inl none) (si (si M 161 (s0).toNatClampNeg l2) 155 (((gi M 97 92) - (1 : Int32))).toNatClampNeg ((gi M 155 (((gi M 97 92) - (1 : Int32))).toNatClampNeg) + (1 : Int32))))))) : Zm E YX8_push (d + 1) M [(0, vr (some (97, 1, 0))), (2, vi l2)] 18 [vi s0, vr (some (161, 100, 9600))] Q := by
  refine Zm.l (fun _ _ k_ => z_iload_n dX8_push_18 rfl rfl k_) ?_
  obtain ⟨b_, k⟩ := k
  refine zm_iast dX8_push_19 b_ (by decide) (by decide) ?_
  refine Zm.l (fun _ _ k_ => z_aload_n dX8_push_20 rfl rfl k_) ?_
  refine zm_getr 52 dX8_push_21 fsX8_185_1 rfl ?_
  refine Zm.l (fun _ _ k_ => z_aload_n dX8_push_24 rfl rfl k_) ?_
  refine zm_geti dX8_push_25 fsX8_872_1 (by decide) (by decide) ?_
  refine Zm.l (fun _ _ k_ => z_iconst (v := 1) dX8_push_28 rfl k_) ?_
  refine Zm.l (fun _ _ k_ => z_isub dX8_push_29 k_) ?_
  refine Zm.l (fun _ _ k_ => z_dup2 dX8_push_30 rfl rfl k_) ?_
  obtain ⟨b_, k⟩ := k
  refine zm_iald dX8_push_31 b_ (by decide) (by decide) ?_
  refine Zm.l (fun _ _ k_ => z_iconst (v := 1) dX8_push_32 rfl k_) ?_
  refine Zm.l (fun _ _ k_ => z_iadd dX8_push_33 k_) ?_
  obtain ⟨b_, k⟩ := k
  refine zm_iast dX8_push_34 b_ (by decide) (by decide) ?_
  exact zm_vret dX8_push_35 rfl k
/-! ScriptTypesModel.top()I -/
theorem bX8_top_0 : zdec cX8_top 0 [(0, .sipush 400, 3), (3, .aload_n 0, 1), (4, .getfield 872, 3), (7, .iconst 1, 1), (8, .isub, 1), (9, .imul, 1), (10, .aload_n 0, 1), (11, .getfield 185, 3), (14, .aload_n 0, 1), (15, .getfield 872, 3), (18, .iconst 1, 1), (19, .isub, 1), (20, .iaload, 1), (21, .iadd, 1), (22, .ireturn, 1)] = true := by decide +kernel
theorem dX8_top_0 : decode cX8_top 0 = .ok (.sipush 400, 3) := zdec_at bX8_top_0 0 rfl
theorem dX8_top_3 : decode cX8_top 3 = .ok (.aload_n 0, 1) := zdec_at bX8_top_0 1 rfl
theorem dX8_top_4 : decode cX8_top 4 = .ok (.getfield 872, 3) := zdec_at bX8_top_0 2 rfl
theorem dX8_top_7 : decode cX8_top 7 = .ok (.iconst 1, 1) := zdec_at bX8_top_0 3 rfl
theorem dX8_top_8 : decode cX8_top 8 = .ok (.isub, 1) := zdec_at bX8_top_0 4 rfl
theorem dX8_top_9 : decode cX8_top 9 = .ok (.imul, 1) := zdec_at bX8_top_0 5 rfl
theorem dX8_top_10 : decode cX8_top 10 = .ok (.aload_n 0, 1) := zdec_at bX8_top_0 6 rfl
theorem dX8_top_11 : decode cX8_top 11 = .ok (.getfield 185, 3) := zdec_at bX8_top_0 7 rfl
theorem dX8_top_14 : decode cX8_top 14 = .ok (.aload_n 0, 1) := zdec_at bX8_top_0 8 rfl
theorem dX8_top_15 : decode cX8_top 15 = .ok (.getfield 872, 3) := zdec_at bX8_top_0 9 rfl
theorem dX8_top_18 : decode cX8_top 18 = .ok (.iconst 1, 1) := zdec_at bX8_top_0 10 rfl
theorem dX8_top_19 : decode cX8_top 19 = .ok (.isub, 1) := zdec_at bX8_top_0 11 rfl
theorem dX8_top_20 : decode cX8_top 20 = .ok (.iaload, 1) := zdec_at bX8_top_0 12 rfl
theorem dX8_top_21 : decode cX8_top 21 = .ok (.iadd, 1) := zdec_at bX8_top_0 13 rfl
theorem dX8_top_22 : decode cX8_top 22 = .ok (.ireturn, 1) := zdec_at bX8_top_0 14 rfl
theorem sX8_top_0 {E : zE} {d : Nat} {Q : zO → zM → Prop} (M : zM)  (k : vp_in ((gi M 97 92) - (1 : Int32)) 24 ∧ (Q (.inl (some (vi (((400 : Int32) * ((gi M 97 92) - (1 : Int32))) + (gi M 155 (((gi M 97 92) - (1 : Int32))).toNatClampNeg))))) M)) : Zm E YX8_top d M [(0, vr (some (97, 1, 0)))] 0 [] Q := by
  refine Zm.l (fun _ _ k_ => z_sipush (v := 400) dX8_top_0 rfl k_) ?_
  refine Zm.l (fun _ _ k_ => z_aload_n dX8_top_3 rfl rfl k_) ?_
  refine zm_geti dX8_top_4 fsX8_872_1 (by decide) (by decide) ?_
  refine Zm.l (fun _ _ k_ => z_iconst (v := 1) dX8_top_7 rfl k_) ?_
  refine Zm.l (fun _ _ k_ => z_isub dX8_top_8 k_) ?_
  refine Zm.l (fun _ _ k_ => z_imul dX8_top_9 k_) ?_
  refine Zm.l (fun _ _ k_ => z_aload_n dX8_top_10 rfl rfl k_) ?_
  refine zm_getr 52 dX8_top_11 fsX8_185_1 rfl ?_
  refine Zm.l (fun _ _ k_ => z_aload_n dX8_top_14 rfl rfl k_) ?_
  refine zm_geti dX8_top_15 fsX8_872_1 (by decide) (by decide) ?_
  refine Zm.l (fun _ _ k_ => z_iconst (v := 1) dX8_top_18 rfl k_) ?_
  refine Zm.l (fun _ _ k_ => z_isub dX8_top_19 k_) ?_
  obtain ⟨b_, k⟩ := k
  refine zm_iald dX8_top_20 b_ (by decide) (by decide) ?_
  refine Zm.l (fun _ _ k_ => z_iadd dX8_top_21 k_) ?_
  exact zm_iret dX8_top_22 rfl rfl k
/-! ScriptTypesModel.goOn()V -/
theorem bX8_goOn_0 : zdec cX8_goOn 0 [(0, .aload_n 0, 1), (1, .getfield 182, 3), (4, .aload_n 0, 1), (5, .getfield 872, 3), (8, .iconst 1, 1), (9, .isub, 1), (10, .dup2, 1), (11, .iaload, 1), (12, .iconst 1, 1), (13, .iadd, 1), (14, .iastore, 1), (15, .return_, 1)] = true := by decide +kernel
theorem dX8_goOn_0 : decode cX8_goOn 0 = .ok (.aload_n 0, 1) := zdec_at bX8_goOn_0 0 rfl
theorem dX8_goOn_1 : decode cX8_goOn 1 = .ok (.getfield 182, 3) := zdec_at bX8_goOn_0 1 rfl
theorem dX8_goOn_4 : decode cX8_goOn 4 = .ok (.aload_n 0, 1) := zdec_at bX8_goOn_0 2 rfl
theorem dX8_goOn_5 : decode cX8_goOn 5 = .ok (.getfield 872, 3) := zdec_at bX8_goOn_0 3 rfl
theorem dX8_goOn_8 : decode cX8_goOn 8 = .ok (.iconst 1, 1) := zdec_at bX8_goOn_0 4 rfl
theorem dX8_goOn_9 : decode cX8_goOn 9 = .ok (.isub, 1) := zdec_at bX8_goOn_0 5 rfl
theorem dX8_goOn_10 : decode cX8_goOn 10 = .ok (.dup2, 1) := zdec_at bX8_goOn_0 6 rfl
theorem dX8_goOn_11 : decode cX8_goOn 11 = .ok (.iaload, 1) := zdec_at bX8_goOn_0 7 rfl
theorem dX8_goOn_12 : decode cX8_goOn 12 = .ok (.iconst 1, 1) := zdec_at bX8_goOn_0 8 rfl
theorem dX8_goOn_13 : decode cX8_goOn 13 = .ok (.iadd, 1) := zdec_at bX8_goOn_0 9 rfl
theorem dX8_goOn_14 : decode cX8_goOn 14 = .ok (.iastore, 1) := zdec_at bX8_goOn_0 10 rfl
theorem dX8_goOn_15 : decode cX8_goOn 15 = .ok (.return_, 1) := zdec_at bX8_goOn_0 11 rfl
theorem sX8_goOn_0 {E : zE} {d : Nat} {Q : zO → zM → Prop} (M : zM)  (k : vp_in ((gi M 97 92) - (1 : Int32)) 24 ∧ (vp_in ((gi M 97 92) - (1 : Int32)) 24 ∧ (Q (.inl none) (si M 154 (((gi M 97 92) - (1 : Int32))).toNatClampNeg ((gi M 154 (((gi M 97 92) - (1 : Int32))).toNatClampNeg) + (1 : Int32)))))) : Zm E YX8_goOn d M [(0, vr (some (97, 1, 0)))] 0 [] Q := by
  refine Zm.l (fun _ _ k_ => z_aload_n dX8_goOn_0 rfl rfl k_) ?_
  refine zm_getr 51 dX8_goOn_1 fsX8_182_1 rfl ?_
  refine Zm.l (fun _ _ k_ => z_aload_n dX8_goOn_4 rfl rfl k_) ?_
  refine zm_geti dX8_goOn_5 fsX8_872_1 (by decide) (by decide) ?_
  refine Zm.l (fun _ _ k_ => z_iconst (v := 1) dX8_goOn_8 rfl k_) ?_
  refine Zm.l (fun _ _ k_ => z_isub dX8_goOn_9 k_) ?_
  refine Zm.l (fun _ _ k_ => z_dup2 dX8_goOn_10 rfl rfl k_) ?_
  obtain ⟨b_, k⟩ := k
  refine zm_iald dX8_goOn_11 b_ (by decide) (by decide) ?_
  refine Zm.l (fun _ _ k_ => z_iconst (v := 1) dX8_goOn_12 rfl k_) ?_
  refine Zm.l (fun _ _ k_ => z_iadd dX8_goOn_13 k_) ?_
  obtain ⟨b_, k⟩ := k
  refine zm_iast dX8_goOn_14 b_ (by decide) (by decide) ?_
  exact zm_vret dX8_goOn_15 rfl k
/-! ScriptTypesModel.scopeAt(I)I -/
theorem bX8_scopeAt_0 : zdec cX8_scopeAt 0 [(0, .aload_n 0, 1), (1, .getfield 173, 3), (4, .aload_n 0, 1), (5, .getfield 872, 3), (8, .iconst 1, 1), (9, .isub, 1), (10, .iaload, 1), (11, .istore_n 2, 1), (12, .iconst 0, 1), (13, .istore_n 3, 1), (14, .iload_n 3, 1), (15, .iload_n 1, 1), (16, .if_icmp .ge 16, 3), (19, .aload_n 0, 1), (20, .getfield 140, 3), (23, .iload_n 2, 1)] = true := by decide +kernel
theorem dX8_scopeAt_0 : decode cX8_scopeAt 0 = .ok (.aload_n 0, 1) := zdec_at bX8_scopeAt_0 0 rfl
theorem dX8_scopeAt_1 : decode cX8_scopeAt 1 = .ok (.getfield 173, 3) := zdec_at bX8_scopeAt_0 1 rfl
theorem dX8_scopeAt_4 : decode cX8_scopeAt 4 = .ok (.aload_n 0, 1) := zdec_at bX8_scopeAt_0 2 rfl
theorem dX8_scopeAt_5 : decode cX8_scopeAt 5 = .ok (.getfield 872, 3) := zdec_at bX8_scopeAt_0 3 rfl
theorem dX8_scopeAt_8 : decode cX8_scopeAt 8 = .ok (.iconst 1, 1) := zdec_at bX8_scopeAt_0 4 rfl
theorem dX8_scopeAt_9 : decode cX8_scopeAt 9 = .ok (.isub, 1) := zdec_at bX8_scopeAt_0 5 rfl
theorem dX8_scopeAt_10 : decode cX8_scopeAt 10 = .ok (.iaload, 1) := zdec_at bX8_scopeAt_0 6 rfl
theorem dX8_scopeAt_11 : decode cX8_scopeAt 11 = .ok (.istore_n 2, 1) := zdec_at bX8_scopeAt_0 7 rfl
theorem dX8_scopeAt_12 : decode cX8_scopeAt 12 = .ok (.iconst 0, 1) := zdec_at bX8_scopeAt_0 8 rfl
theorem dX8_scopeAt_13 : decode cX8_scopeAt 13 = .ok (.istore_n 3, 1) := zdec_at bX8_scopeAt_0 9 rfl
theorem dX8_scopeAt_14 : decode cX8_scopeAt 14 = .ok (.iload_n 3, 1) := zdec_at bX8_scopeAt_0 10 rfl
theorem dX8_scopeAt_15 : decode cX8_scopeAt 15 = .ok (.iload_n 1, 1) := zdec_at bX8_scopeAt_0 11 rfl
theorem dX8_scopeAt_16 : decode cX8_scopeAt 16 = .ok (.if_icmp .ge 16, 3) := zdec_at bX8_scopeAt_0 12 rfl
theorem dX8_scopeAt_19 : decode cX8_scopeAt 19 = .ok (.aload_n 0, 1) := zdec_at bX8_scopeAt_0 13 rfl
theorem dX8_scopeAt_20 : decode cX8_scopeAt 20 = .ok (.getfield 140, 3) := zdec_at bX8_scopeAt_0 14 rfl
theorem dX8_scopeAt_23 : decode cX8_scopeAt 23 = .ok (.iload_n 2, 1) := zdec_at bX8_scopeAt_0 15 rfl
theorem bX8_scopeAt_24 : zdec cX8_scopeAt 24 [(24, .iaload, 1), (25, .istore_n 2, 1), (26, .iinc 3 1, 3), (29, .goto (-15), 3), (32, .iload_n 2, 1), (33, .ireturn, 1)] = true := by decide +kernel
theorem dX8_scopeAt_24 : decode cX8_scopeAt 24 = .ok (.iaload, 1) := zdec_at bX8_scopeAt_24 0 rfl
theorem dX8_scopeAt_25 : decode cX8_scopeAt 25 = .ok (.istore_n 2, 1) := zdec_at bX8_scopeAt_24 1 rfl
theorem dX8_scopeAt_26 : decode cX8_scopeAt 26 = .ok (.iinc 3 1, 3) := zdec_at bX8_scopeAt_24 2 rfl
theorem dX8_scopeAt_29 : decode cX8_scopeAt 29 = .ok (.goto (-15), 3) := zdec_at bX8_scopeAt_24 3 rfl
theorem dX8_scopeAt_32 : decode cX8_scopeAt 32 = .ok (.iload_n 2, 1) := zdec_at bX8_scopeAt_24 4 rfl
theorem dX8_scopeAt_33 : decode cX8_scopeAt 33 = .ok (.ireturn, 1) := zdec_at bX8_scopeAt_24 5 rfl
theorem sX8_scopeAt_0 {E : zE} {d : Nat} {Q : zO → zM → Prop} (M : zM) (l1 : Int32) (k : vp_in ((gi M 97 92) - (1 : Int32)) 24 ∧ (Zm E YX8_scopeAt d M [(0, vr (some (97, 1, 0))), (1, vi l1), (2, vi (gi M 151 (((gi M 97 92) - (1 : Int32))).toNatClampNeg)), (3, vi (0 : Int32))] 14 [] Q)) : Zm E YX8_scopeAt d M [(0, vr (some (97, 1, 0))), (1, vi l1)] 0 [] Q := by
  refine Zm.l (fun _ _ k_ => z_aload_n dX8_scopeAt_0 rfl rfl k_) ?_
  refine zm_getr 48 dX8_scopeAt_1 fsX8_173_1 rfl ?_
  refine Zm.l (fun _ _ k_ => z_aload_n dX8_scopeAt_4 rfl rfl k_) ?_
  refine zm_geti dX8_scopeAt_5 fsX8_872_1 (by decide) (by decide) ?_
  refine Zm.l (fun _ _ k_ => z_iconst (v := 1) dX8_scopeAt_8 rfl k_) ?_
  refine Zm.l (fun _ _ k_ => z_isub dX8_scopeAt_9 k_) ?_
  obtain ⟨b_, k⟩ := k
  refine zm_iald dX8_scopeAt_10 b_ (by decide) (by decide) ?_
  refine Zm.l (fun _ _ k_ => z_ist_n dX8_scopeAt_11 rfl (by decide) (lv' := [(0, vr (some (97, 1, 0))), (1, vi l1), (2, vi (gi M 151 (((gi M 97 92) - (1 : Int32))).toNatClampNeg))]) rfl k_) ?_
  refine Zm.l (fun _ _ k_ => z_iconst (v := 0) dX8_scopeAt_12 rfl k_) ?_
  refine Zm.l (fun _ _ k_ => z_ist_n dX8_scopeAt_13 rfl (by decide) (lv' := [(0, vr (some (97, 1, 0))), (1, vi l1), (2, vi (gi M 151 (((gi M 97 92) - (1 : Int32))).toNatClampNeg)), (3, vi (0 : Int32))]) rfl k_) ?_
  exact k
theorem sX8_scopeAt_14 {E : zE} {d : Nat} {Q : zO → zM → Prop} (M : zM) (l1 : Int32) (l2 : Int32) (l3 : Int32) (k : if l1 ≤ l3 then (Q (.inl (some (vi l2))) M) else (vp_in l2 300 ∧ (Zm E YX8_scopeAt d M [(0, vr (some (97, 1, 0))), (1, vi l1), (2, vi (gi M 140 (l2).toNatClampNeg)), (3, vi (l3 + (1 : Int32)))] 14 [] Q))) : Zm E YX8_scopeAt d M [(0, vr (some (97, 1, 0))), (1, vi l1), (2, vi l2), (3, vi l3)] 14 [] Q := by
  refine Zm.l (fun _ _ k_ => z_iload_n dX8_scopeAt_14 rfl rfl k_) ?_
  refine Zm.l (fun _ _ k_ => z_iload_n dX8_scopeAt_15 rfl rfl k_) ?_
  refine Zm.br (fun _ _ k1_ k2_ => z_icmp_ge (tgt := 32) dX8_scopeAt_16 rfl k1_ k2_) (fun h_ => ?_) (fun h_ => ?_)
  · have k := zit h_ k
    refine Zm.l (fun _ _ k_ => z_iload_n dX8_scopeAt_32 rfl rfl k_) ?_
    exact zm_iret dX8_scopeAt_33 rfl rfl k
  · have k := zif h_ k
    refine Zm.l (fun _ _ k_ => z_aload_n dX8_scopeAt_19 rfl rfl k_) ?_
    refine zm_getr 37 dX8_scopeAt_20 fsX8_140_1 rfl ?_
    refine Zm.l (fun _ _ k_ => z_iload_n dX8_scopeAt_23 rfl rfl k_) ?_
    obtain ⟨b_, k⟩ := k
    refine zm_iald dX8_scopeAt_24 b_ (by decide) (by decide) ?_
    refine Zm.l (fun _ _ k_ => z_ist_n dX8_scopeAt_25 rfl (by decide) (lv' := [(0, vr (some (97, 1, 0))), (1, vi l1), (2, vi (gi M 140 (l2).toNatClampNeg)), (3, vi l3)]) rfl k_) ?_
    refine Zm.l (fun _ _ k_ => z_inc (v := (l3 + (1 : Int32))) dX8_scopeAt_26 rfl rfl (by decide) (lv' := [(0, vr (some (97, 1, 0))), (1, vi l1), (2, vi (gi M 140 (l2).toNatClampNeg)), (3, vi (l3 + (1 : Int32)))]) rfl k_) ?_
    refine Zm.l (fun _ _ k_ => z_goto (tgt := 14) dX8_scopeAt_29 rfl k_) ?_
    exact k
/-! ScriptTypesModel.sortAt(I)I -/
theorem bX8_sortAt_0 : zdec cX8_sortAt 0 [(0, .aload_n 0, 1), (1, .getfield 200, 3), (4, .aload_n 0, 1), (5, .invokevirtual 879, 3), (8, .iconst 1, 1), (9, .isub, 1), (10, .iload_n 1, 1), (11, .isub, 1), (12, .iaload, 1), (13, .ireturn, 1)] = true := by decide +kernel
theorem dX8_sortAt_0 : decode cX8_sortAt 0 = .ok (.aload_n 0, 1) := zdec_at bX8_sortAt_0 0 rfl
theorem dX8_sortAt_1 : decode cX8_sortAt 1 = .ok (.getfield 200, 3) := zdec_at bX8_sortAt_0 1 rfl
theorem dX8_sortAt_4 : decode cX8_sortAt 4 = .ok (.aload_n 0, 1) := zdec_at bX8_sortAt_0 2 rfl
theorem dX8_sortAt_5 : decode cX8_sortAt 5 = .ok (.invokevirtual 879, 3) := zdec_at bX8_sortAt_0 3 rfl
theorem dX8_sortAt_8 : decode cX8_sortAt 8 = .ok (.iconst 1, 1) := zdec_at bX8_sortAt_0 4 rfl
theorem dX8_sortAt_9 : decode cX8_sortAt 9 = .ok (.isub, 1) := zdec_at bX8_sortAt_0 5 rfl
theorem dX8_sortAt_10 : decode cX8_sortAt 10 = .ok (.iload_n 1, 1) := zdec_at bX8_sortAt_0 6 rfl
theorem dX8_sortAt_11 : decode cX8_sortAt 11 = .ok (.isub, 1) := zdec_at bX8_sortAt_0 7 rfl
theorem dX8_sortAt_12 : decode cX8_sortAt 12 = .ok (.iaload, 1) := zdec_at bX8_sortAt_0 8 rfl
theorem dX8_sortAt_13 : decode cX8_sortAt 13 = .ok (.ireturn, 1) := zdec_at bX8_sortAt_0 9 rfl
theorem sX8_sortAt_0 {E : zE} {d : Nat} {Q : zO → zM → Prop} (M : zM) (l1 : Int32) (k : Zm E YX8_top d M (zargs 0 [vr (some (97, 1, 0))]) 0 [] (zma E YX8_sortAt (d + 1) [(1, vi l1)] 5 3 [vr (some (160, 100, 9600))] Q)) : Zm E YX8_sortAt (d + 1) M [(0, vr (some (97, 1, 0))), (1, vi l1)] 0 [] Q := by
  refine Zm.l (fun _ _ k_ => z_aload_n dX8_sortAt_0 rfl rfl k_) ?_
  refine zm_getr 57 dX8_sortAt_1 fsX8_200_1 rfl ?_
  refine Zm.l (fun _ _ k_ => z_aload_n dX8_sortAt_4 rfl rfl k_) ?_
  refine Zm.pick [1] rfl ?_
  exact zm_callV (as := []) (st := [vr (some (160, 100, 9600))]) dX8_sortAt_5 vsX8_879_1 (Nat.le_refl _) (Nat.le_of_ble_eq_true rfl) (Nat.le_of_ble_eq_true rfl) rfl k
theorem sX8_sortAt_8 {E : zE} {d : Nat} {Q : zO → zM → Prop} (M : zM) (l1 : Int32) (s0 : Int32) (k : vp_in ((s0 - (1 : Int32)) - l1) 9600 ∧ (Q (.inl (some (vi (gi M 160 (((s0 - (1 : Int32)) - l1)).toNatClampNeg)))) M)) : Zm E YX8_sortAt (d + 1) M [(1, vi l1)] 8 [vi s0, vr (some (160, 100, 9600))] Q := by
  refine Zm.l (fun _ _ k_ => z_iconst (v := 1) dX8_sortAt_8 rfl k_) ?_
  refine Zm.l (fun _ _ k_ => z_isub dX8_sortAt_9 k_) ?_
  refine Zm.l (fun _ _ k_ => z_iload_n dX8_sortAt_10 rfl rfl k_) ?_
  refine Zm.l (fun _ _ k_ => z_isub dX8_sortAt_11 k_) ?_
  obtain ⟨b_, k⟩ := k
  refine zm_iald dX8_sortAt_12 b_ (by decide) (by decide) ?_
  exact zm_iret dX8_sortAt_13 rfl rfl k
/-! ScriptTypesModel.valueAt(I)I -/
theorem bX8_valueAt_0 : zdec cX8_valueAt 0 [(0, .aload_n 0, 1), (1, .getfield 203, 3), (4, .aload_n 0, 1), (5, .invokevirtual 879, 3), (8, .iconst 1, 1), (9, .isub, 1), (10, .iload_n 1, 1), (11, .isub, 1), (12, .iaload, 1), (13, .ireturn, 1)] = true := by decide +kernel
theorem dX8_valueAt_0 : decode cX8_valueAt 0 = .ok (.aload_n 0, 1) := zdec_at bX8_valueAt_0 0 rfl
theorem dX8_valueAt_1 : decode cX8_valueAt 1 = .ok (.getfield 203, 3) := zdec_at bX8_valueAt_0 1 rfl
theorem dX8_valueAt_4 : decode cX8_valueAt 4 = .ok (.aload_n 0, 1) := zdec_at bX8_valueAt_0 2 rfl
theorem dX8_valueAt_5 : decode cX8_valueAt 5 = .ok (.invokevirtual 879, 3) := zdec_at bX8_valueAt_0 3 rfl
theorem dX8_valueAt_8 : decode cX8_valueAt 8 = .ok (.iconst 1, 1) := zdec_at bX8_valueAt_0 4 rfl
theorem dX8_valueAt_9 : decode cX8_valueAt 9 = .ok (.isub, 1) := zdec_at bX8_valueAt_0 5 rfl
theorem dX8_valueAt_10 : decode cX8_valueAt 10 = .ok (.iload_n 1, 1) := zdec_at bX8_valueAt_0 6 rfl
theorem dX8_valueAt_11 : decode cX8_valueAt 11 = .ok (.isub, 1) := zdec_at bX8_valueAt_0 7 rfl
theorem dX8_valueAt_12 : decode cX8_valueAt 12 = .ok (.iaload, 1) := zdec_at bX8_valueAt_0 8 rfl
theorem dX8_valueAt_13 : decode cX8_valueAt 13 = .ok (.ireturn, 1) := zdec_at bX8_valueAt_0 9 rfl
theorem sX8_valueAt_0 {E : zE} {d : Nat} {Q : zO → zM → Prop} (M : zM) (l1 : Int32) (k : Zm E YX8_top d M (zargs 0 [vr (some (97, 1, 0))]) 0 [] (zma E YX8_valueAt (d + 1) [(1, vi l1)] 5 3 [vr (some (161, 100, 9600))] Q)) : Zm E YX8_valueAt (d + 1) M [(0, vr (some (97, 1, 0))), (1, vi l1)] 0 [] Q := by
  refine Zm.l (fun _ _ k_ => z_aload_n dX8_valueAt_0 rfl rfl k_) ?_
  refine zm_getr 58 dX8_valueAt_1 fsX8_203_1 rfl ?_
  refine Zm.l (fun _ _ k_ => z_aload_n dX8_valueAt_4 rfl rfl k_) ?_
  refine Zm.pick [1] rfl ?_
  exact zm_callV (as := []) (st := [vr (some (161, 100, 9600))]) dX8_valueAt_5 vsX8_879_1 (Nat.le_refl _) (Nat.le_of_ble_eq_true rfl) (Nat.le_of_ble_eq_true rfl) rfl k
theorem sX8_valueAt_8 {E : zE} {d : Nat} {Q : zO → zM → Prop} (M : zM) (l1 : Int32) (s0 : Int32) (k : vp_in ((s0 - (1 : Int32)) - l1) 9600 ∧ (Q (.inl (some (vi (gi M 161 (((s0 - (1 : Int32)) - l1)).toNatClampNeg)))) M)) : Zm E YX8_valueAt (d + 1) M [(1, vi l1)] 8 [vi s0, vr (some (161, 100, 9600))] Q := by
  refine Zm.l (fun _ _ k_ => z_iconst (v := 1) dX8_valueAt_8 rfl k_) ?_
  refine Zm.l (fun _ _ k_ => z_isub dX8_valueAt_9 k_) ?_
  refine Zm.l (fun _ _ k_ => z_iload_n dX8_valueAt_10 rfl rfl k_) ?_
  refine Zm.l (fun _ _ k_ => z_isub dX8_valueAt_11 k_) ?_
  obtain ⟨b_, k⟩ := k
  refine zm_iald dX8_valueAt_12 b_ (by decide) (by decide) ?_
  exact zm_iret dX8_valueAt_13 rfl rfl k
/-! ScriptTypesModel.global(ZI)V -/
theorem bX8_global_0 : zdec cX8_global 0 [(0, .aload_n 0, 1), (1, .iconst 0, 1), (2, .iload_n 2, 1), (3, .invokevirtual 846, 3), (6, .istore_n 3, 1), (7, .iload_n 3, 1), (8, .iconst (-1), 1), (9, .if_icmp .ne 14, 3), (12, .iload_n 1, 1), (13, .ifCond .eq 10, 3), (16, .aload_n 0, 1), (17, .bipush 7, 2), (19, .invokevirtual 966, 3), (22, .return_, 1), (23, .iload_n 3, 1), (24, .iconst (-1), 1)] = true := by decide +kernel
theorem dX8_global_0 : decode cX8_global 0 = .ok (.aload_n 0, 1) := zdec_at bX8_global_0 0 rfl
theorem dX8_global_1 : decode cX8_global 1 = .ok (.iconst 0, 1) := zdec_at bX8_global_0 1 rfl
theorem dX8_global_2 : decode cX8_global 2 = .ok (.iload_n 2, 1) := zdec_at bX8_global_0 2 rfl
theorem dX8_global_3 : decode cX8_global 3 = .ok (.invokevirtual 846, 3) := zdec_at bX8_global_0 3 rfl
theorem dX8_global_6 : decode cX8_global 6 = .ok (.istore_n 3, 1) := zdec_at bX8_global_0 4 rfl
theorem dX8_global_7 : decode cX8_global 7 = .ok (.iload_n 3, 1) := zdec_at bX8_global_0 5 rfl
theorem dX8_global_8 : decode cX8_global 8 = .ok (.iconst (-1), 1) := zdec_at bX8_global_0 6 rfl
theorem dX8_global_9 : decode cX8_global 9 = .ok (.if_icmp .ne 14, 3) := zdec_at bX8_global_0 7 rfl
theorem dX8_global_12 : decode cX8_global 12 = .ok (.iload_n 1, 1) := zdec_at bX8_global_0 8 rfl
theorem dX8_global_13 : decode cX8_global 13 = .ok (.ifCond .eq 10, 3) := zdec_at bX8_global_0 9 rfl
theorem dX8_global_16 : decode cX8_global 16 = .ok (.aload_n 0, 1) := zdec_at bX8_global_0 10 rfl
theorem dX8_global_17 : decode cX8_global 17 = .ok (.bipush 7, 2) := zdec_at bX8_global_0 11 rfl
theorem dX8_global_19 : decode cX8_global 19 = .ok (.invokevirtual 966, 3) := zdec_at bX8_global_0 12 rfl
theorem dX8_global_22 : decode cX8_global 22 = .ok (.return_, 1) := zdec_at bX8_global_0 13 rfl
theorem dX8_global_23 : decode cX8_global 23 = .ok (.iload_n 3, 1) := zdec_at bX8_global_0 14 rfl
theorem dX8_global_24 : decode cX8_global 24 = .ok (.iconst (-1), 1) := zdec_at bX8_global_0 15 rfl
theorem bX8_global_25 : zdec cX8_global 25 [(25, .if_icmp .ne 14, 3), (28, .aload_n 0, 1), (29, .bipush 6, 2), (31, .bipush 19, 2), (33, .invokevirtual 822, 3), (36, .goto 48, 3), (39, .iload_n 1, 1), (40, .ifCond .eq 22, 3), (43, .aload_n 0, 1), (44, .aload_n 0, 1), (45, .getfield 158, 3), (48, .iload_n 3, 1), (49, .iaload, 1), (50, .aload_n 0, 1), (51, .getfield 161, 3), (54, .iload_n 3, 1)] = true := by decide +kernel
theorem dX8_global_25 : decode cX8_global 25 = .ok (.if_icmp .ne 14, 3) := zdec_at bX8_global_25 0 rfl
theorem dX8_global_28 : decode cX8_global 28 = .ok (.aload_n 0, 1) := zdec_at bX8_global_25 1 rfl
theorem dX8_global_29 : decode cX8_global 29 = .ok (.bipush 6, 2) := zdec_at bX8_global_25 2 rfl
theorem dX8_global_31 : decode cX8_global 31 = .ok (.bipush 19, 2) := zdec_at bX8_global_25 3 rfl
theorem dX8_global_33 : decode cX8_global 33 = .ok (.invokevirtual 822, 3) := zdec_at bX8_global_25 4 rfl
theorem dX8_global_36 : decode cX8_global 36 = .ok (.goto 48, 3) := zdec_at bX8_global_25 5 rfl
theorem dX8_global_39 : decode cX8_global 39 = .ok (.iload_n 1, 1) := zdec_at bX8_global_25 6 rfl
theorem dX8_global_40 : decode cX8_global 40 = .ok (.ifCond .eq 22, 3) := zdec_at bX8_global_25 7 rfl
theorem dX8_global_43 : decode cX8_global 43 = .ok (.aload_n 0, 1) := zdec_at bX8_global_25 8 rfl
theorem dX8_global_44 : decode cX8_global 44 = .ok (.aload_n 0, 1) := zdec_at bX8_global_25 9 rfl
theorem dX8_global_45 : decode cX8_global 45 = .ok (.getfield 158, 3) := zdec_at bX8_global_25 10 rfl
theorem dX8_global_48 : decode cX8_global 48 = .ok (.iload_n 3, 1) := zdec_at bX8_global_25 11 rfl
theorem dX8_global_49 : decode cX8_global 49 = .ok (.iaload, 1) := zdec_at bX8_global_25 12 rfl
theorem dX8_global_50 : decode cX8_global 50 = .ok (.aload_n 0, 1) := zdec_at bX8_global_25 13 rfl
theorem dX8_global_51 : decode cX8_global 51 = .ok (.getfield 161, 3) := zdec_at bX8_global_25 14 rfl
theorem dX8_global_54 : decode cX8_global 54 = .ok (.iload_n 3, 1) := zdec_at bX8_global_25 15 rfl
theorem bX8_global_55 : zdec cX8_global 55 [(55, .iaload, 1), (56, .invokevirtual 822, 3), (59, .goto 25, 3), (62, .aload_n 0, 1), (63, .bipush 6, 2), (65, .aload_n 0, 1), (66, .aload_n 0, 1), (67, .getfield 158, 3), (70, .iload_n 3, 1), (71, .iaload, 1), (72, .aload_n 0, 1), (73, .getfield 161, 3), (76, .iload_n 3, 1), (77, .iaload, 1), (78, .invokevirtual 937, 3), (81, .invokevirtual 822, 3)] = true := by decide +kernel
theorem dX8_global_55 : decode cX8_global 55 = .ok (.iaload, 1) := zdec_at bX8_global_55 0 rfl
theorem dX8_global_56 : decode cX8_global 56 = .ok (.invokevirtual 822, 3) := zdec_at bX8_global_55 1 rfl
theorem dX8_global_59 : decode cX8_global 59 = .ok (.goto 25, 3) := zdec_at bX8_global_55 2 rfl
theorem dX8_global_62 : decode cX8_global 62 = .ok (.aload_n 0, 1) := zdec_at bX8_global_55 3 rfl
theorem dX8_global_63 : decode cX8_global 63 = .ok (.bipush 6, 2) := zdec_at bX8_global_55 4 rfl
theorem dX8_global_65 : decode cX8_global 65 = .ok (.aload_n 0, 1) := zdec_at bX8_global_55 5 rfl
theorem dX8_global_66 : decode cX8_global 66 = .ok (.aload_n 0, 1) := zdec_at bX8_global_55 6 rfl
theorem dX8_global_67 : decode cX8_global 67 = .ok (.getfield 158, 3) := zdec_at bX8_global_55 7 rfl
theorem dX8_global_70 : decode cX8_global 70 = .ok (.iload_n 3, 1) := zdec_at bX8_global_55 8 rfl
theorem dX8_global_71 : decode cX8_global 71 = .ok (.iaload, 1) := zdec_at bX8_global_55 9 rfl
theorem dX8_global_72 : decode cX8_global 72 = .ok (.aload_n 0, 1) := zdec_at bX8_global_55 10 rfl
theorem dX8_global_73 : decode cX8_global 73 = .ok (.getfield 161, 3) := zdec_at bX8_global_55 11 rfl
theorem dX8_global_76 : decode cX8_global 76 = .ok (.iload_n 3, 1) := zdec_at bX8_global_55 12 rfl
theorem dX8_global_77 : decode cX8_global 77 = .ok (.iaload, 1) := zdec_at bX8_global_55 13 rfl
theorem dX8_global_78 : decode cX8_global 78 = .ok (.invokevirtual 937, 3) := zdec_at bX8_global_55 14 rfl
theorem dX8_global_81 : decode cX8_global 81 = .ok (.invokevirtual 822, 3) := zdec_at bX8_global_55 15 rfl
theorem bX8_global_84 : zdec cX8_global 84 [(84, .aload_n 0, 1), (85, .iconst 0, 1), (86, .invokevirtual 904, 3), (89, .return_, 1)] = true := by decide +kernel
theorem dX8_global_84 : decode cX8_global 84 = .ok (.aload_n 0, 1) := zdec_at bX8_global_84 0 rfl
theorem dX8_global_85 : decode cX8_global 85 = .ok (.iconst 0, 1) := zdec_at bX8_global_84 1 rfl
theorem dX8_global_86 : decode cX8_global 86 = .ok (.invokevirtual 904, 3) := zdec_at bX8_global_84 2 rfl
theorem dX8_global_89 : decode cX8_global 89 = .ok (.return_, 1) := zdec_at bX8_global_84 3 rfl
theorem sX8_global_0 {E : zE} {d : Nat} {Q : zO → zM → Prop} (M : zM) (l1 : Int32) (l2 : Int32) (k : Zm E YX8_findProperty d M (zargs 0 [vr (some (97, 1, 0)), vi (0 : Int32), vi l2]) 0 [] (zma E YX8_global (d + 1) [(0, vr (some (97, 1, 0))), (1, vi l1)] 3 3 [] Q)) : Zm E YX8_global (d + 1) M [(0, vr (some (97, 1, 0))), (1, vi l1), (2, vi l2)] 0 [] Q := by
  refine Zm.l (fun _ _ k_ => z_aload_n dX8_global_0 rfl rfl k_) ?_
  refine Zm.l (fun _ _ k_ => z_iconst (v := 0) dX8_global_1 rfl k_) ?_
  refine Zm.l (fun _ _ k_ => z_iload_n dX8_global_2 rfl rfl k_) ?_
  refine Zm.pick [0, 1] rfl ?_
  exact zm_callV (as := [vi (0 : Int32), vi l2]) (st := []) dX8_global_3 vsX8_846_1 (Nat.le_refl _) (Nat.le_of_ble_eq_true rfl) (Nat.le_of_ble_eq_true rfl) rfl k
theorem sX8_global_6 {E : zE} {d : Nat} {Q : zO → zM → Prop} (M : zM) (l1 : Int32) (s0 : Int32) (k : if s0 = (-1 : Int32) then (if l1 = 0 then (Zm E YX8_global (d + 1) M [(0, vr (some (97, 1, 0))), (1, vi l1), (3, vi s0)] 23 [] Q) else (Zm E YX8_error d M (zargs 0 [vr (some (97, 1, 0)), vi (7 : Int32)]) 0 [] (zma E YX8_global (d + 1) [] 19 3 [] Q))) else (Zm E YX8_global (d + 1) M [(0, vr (some (97, 1, 0))), (1, vi l1), (3, vi s0)] 23 [] Q)) : Zm E YX8_global (d + 1) M [(0, vr (some (97, 1, 0))), (1, vi l1)] 6 [vi s0] Q := by
  refine Zm.l (fun _ _ k_ => z_ist_n dX8_global_6 rfl (by decide) (lv' := [(0, vr (some (97, 1, 0))), (1, vi l1), (3, vi s0)]) rfl k_) ?_
  refine Zm.l (fun _ _ k_ => z_iload_n dX8_global_7 rfl rfl k_) ?_
  refine Zm.l (fun _ _ k_ => z_iconst (v := -1) dX8_global_8 rfl k_) ?_
  refine Zm.brn (fun _ _ k1_ k2_ => z_icmp_ne (tgt := 23) dX8_global_9 rfl k1_ k2_) (fun h_ => ?_) (fun h_ => ?_)
  · have k := zif h_ k
    exact k
  · have k := zit h_ k
    refine Zm.l (fun _ _ k_ => z_iload_n dX8_global_12 rfl rfl k_) ?_
    refine Zm.br (fun _ _ k1_ k2_ => z_if_eq (tgt := 23) dX8_global_13 rfl k1_ k2_) (fun h_ => ?_) (fun h_ => ?_)
    · have k := zit h_ k
      exact k
    · have k := zif h_ k
      refine Zm.l (fun _ _ k_ => z_aload_n dX8_global_16 rfl rfl k_) ?_
      refine Zm.l (fun _ _ k_ => z_bipush (v := 7) dX8_global_17 rfl k_) ?_
      refine Zm.pick [] rfl ?_
      exact zm_callV (as := [vi (7 : Int32)]) (st := []) dX8_global_19 vsX8_966_1 (Nat.le_refl _) (Nat.le_of_ble_eq_true rfl) (Nat.le_of_ble_eq_true rfl) rfl k
theorem sX8_global_22 {E : zE} {d : Nat} {Q : zO → zM → Prop} (M : zM)  (k : Q (.inl none) M) : Zm E YX8_global (d + 1) M [] 22 [] Q := by
  exact zm_vret dX8_global_22 rfl k
theorem sX8_global_23 {E : zE} {d : Nat} {Q : zO → zM → Prop} (M : zM) (l1 : Int32) (l3 : Int32) (k : if l3 = (-1 : Int32) then (Zm E YX8_give_2 d M (zargs 0 [vr (some (97, 1, 0)), vi (6 : Int32), vi (19 : Int32)]) 0 [] (zma E YX8_global (d + 1) [(0, vr (some (97, 1, 0)))] 33 3 [] Q)) else (if l1 = 0 then (vp_in l3 3000 ∧ (vp_in l3 3000 ∧ (Zm E YX8_typeOf d M (zargs 0 [vr (some (97, 1, 0)), vi (gi M 146 (l3).toNatClampNeg), vi (gi M 147 (l3).toNatClampNeg)]) 0 [] (zma E YX8_global (d + 1) [(0, vr (some (97, 1, 0)))] 78 3 [vi (6 : Int32), vr (some (97, 1, 0))] Q)))) else (vp_in l3 3000 ∧ (vp_in l3 3000 ∧ (Zm E YX8_give_2 d M (zargs 0 [vr (some (97, 1, 0)), vi (gi M 146 (l3).toNatClampNeg), vi (gi M 147 (l3).toNatClampNeg)]) 0 [] (zma E YX8_global (d + 1) [(0, vr (some (97, 1, 0)))] 56 3 [] Q)))))) : Zm E YX8_global (d + 1) M [(0, vr (some (97, 1, 0))), (1, vi l1), (3, vi l3)] 23 [] Q := by
  refine Zm.l (fun _ _ k_ => z_iload_n dX8_global_23 rfl rfl k_) ?_
  refine Zm.l (fun _ _ k_ => z_iconst (v := -1) dX8_global_24 rfl k_) ?_
  refine Zm.brn (fun _ _ k1_ k2_ => z_icmp_ne (tgt := 39) dX8_global_25 rfl k1_ k2_) (fun h_ => ?_) (fun h_ => ?_)
  · have k := zif h_ k
    refine Zm.l (fun _ _ k_ => z_iload_n dX8_global_39 rfl rfl k_) ?_
    refine Zm.br (fun _ _ k1_ k2_ => z_if_eq (tgt := 62) dX8_global_40 rfl k1_ k2_) (fun h_ => ?_) (fun h_ => ?_)
    · have k := zit h_ k
      refine Zm.l (fun _ _ k_ => z_aload_n dX8_global_62 rfl rfl k_) ?_
      refine Zm.l (fun _ _ k_ => z_bipush (v := 6) dX8_global_63 rfl k_) ?_
      refine Zm.l (fun _ _ k_ => z_aload_n dX8_global_65 rfl rfl k_) ?_
      refine Zm.l (fun _ _ k_ => z_aload_n dX8_global_66 rfl rfl k_) ?_
      refine zm_getr 43 dX8_global_67 fsX8_158_1 rfl ?_
      refine Zm.l (fun _ _ k_ => z_iload_n dX8_global_70 rfl rfl k_) ?_
      obtain ⟨b_, k⟩ := k
      refine zm_iald dX8_global_71 b_ (by decide) (by decide) ?_
      refine Zm.l (fun _ _ k_ => z_aload_n dX8_global_72 rfl rfl k_) ?_
      refine zm_getr 44 dX8_global_73 fsX8_161_1 rfl ?_
      refine Zm.l (fun _ _ k_ => z_iload_n dX8_global_76 rfl rfl k_) ?_
      obtain ⟨b_, k⟩ := k
      refine zm_iald dX8_global_77 b_ (by decide) (by decide) ?_
      refine Zm.pick [0] rfl ?_
      exact zm_callV (as := [vi (gi M 146 (l3).toNatClampNeg), vi (gi M 147 (l3).toNatClampNeg)]) (st := [vi (6 : Int32), vr (some (97, 1, 0))]) dX8_global_78 vsX8_937_1 (Nat.le_refl _) (Nat.le_of_ble_eq_true rfl) (Nat.le_of_ble_eq_true rfl) rfl k
    · have k := zif h_ k
      refine Zm.l (fun _ _ k_ => z_aload_n dX8_global_43 rfl rfl k_) ?_
      refine Zm.l (fun _ _ k_ => z_aload_n dX8_global_44 rfl rfl k_) ?_
      refine zm_getr 43 dX8_global_45 fsX8_158_1 rfl ?_
      refine Zm.l (fun _ _ k_ => z_iload_n dX8_global_48 rfl rfl k_) ?_
      obtain ⟨b_, k⟩ := k
      refine zm_iald dX8_global_49 b_ (by decide) (by decide) ?_
      refine Zm.l (fun _ _ k_ => z_aload_n dX8_global_50 rfl rfl k_) ?_
      refine zm_getr 44 dX8_global_51 fsX8_161_1 rfl ?_
      refine Zm.l (fun _ _ k_ => z_iload_n dX8_global_54 rfl rfl k_) ?_
      obtain ⟨b_, k⟩ := k
      refine zm_iald dX8_global_55 b_ (by decide) (by decide) ?_
      refine Zm.pick [0] rfl ?_
      exact zm_callV (as := [vi (gi M 146 (l3).toNatClampNeg), vi (gi M 147 (l3).toNatClampNeg)]) (st := []) dX8_global_56 vsX8_822_1 (Nat.le_refl _) (Nat.le_of_ble_eq_true rfl) (Nat.le_of_ble_eq_true rfl) rfl k
  · have k := zit h_ k
    refine Zm.l (fun _ _ k_ => z_aload_n dX8_global_28 rfl rfl k_) ?_
    refine Zm.l (fun _ _ k_ => z_bipush (v := 6) dX8_global_29 rfl k_) ?_
    refine Zm.l (fun _ _ k_ => z_bipush (v := 19) dX8_global_31 rfl k_) ?_
    refine Zm.pick [0] rfl ?_
    exact zm_callV (as := [vi (6 : Int32), vi (19 : Int32)]) (st := []) dX8_global_33 vsX8_822_1 (Nat.le_refl _) (Nat.le_of_ble_eq_true rfl) (Nat.le_of_ble_eq_true rfl) rfl k
theorem sX8_global_36 {E : zE} {d : Nat} {Q : zO → zM → Prop} (M : zM)  (k : Zm E YX8_global (d + 1) M [(0, vr (some (97, 1, 0)))] 84 [] Q) : Zm E YX8_global (d + 1) M [(0, vr (some (97, 1, 0)))] 36 [] Q := by
  refine Zm.l (fun _ _ k_ => z_goto (tgt := 84) dX8_global_36 rfl k_) ?_
  exact k
theorem sX8_global_59 {E : zE} {d : Nat} {Q : zO → zM → Prop} (M : zM)  (k : Zm E YX8_global (d + 1) M [(0, vr (some (97, 1, 0)))] 84 [] Q) : Zm E YX8_global (d + 1) M [(0, vr (some (97, 1, 0)))] 59 [] Q := by
  refine Zm.l (fun _ _ k_ => z_goto (tgt := 84) dX8_global_59 rfl k_) ?_
  exact k
theorem sX8_global_81 {E : zE} {d : Nat} {Q : zO → zM → Prop} (M : zM) (s0 : Int32) (s1 : Int32) (k : Zm E YX8_give_2 d M (zargs 0 [vr (some (97, 1, 0)), vi s1, vi s0]) 0 [] (zma E YX8_global (d + 1) [(0, vr (some (97, 1, 0)))] 81 3 [] Q)) : Zm E YX8_global (d + 1) M [(0, vr (some (97, 1, 0)))] 81 [vi s0, vi s1, vr (some (97, 1, 0))] Q := by
  exact zm_callV (as := [vi s1, vi s0]) (st := []) dX8_global_81 vsX8_822_1 (Nat.le_refl _) (Nat.le_of_ble_eq_true rfl) (Nat.le_of_ble_eq_true rfl) rfl k
theorem sX8_global_84 {E : zE} {d : Nat} {Q : zO → zM → Prop} (M : zM)  (k : Zm E YX8_gives d M (zargs 0 [vr (some (97, 1, 0)), vi (0 : Int32)]) 0 [] (zma E YX8_global (d + 1) [] 86 3 [] Q)) : Zm E YX8_global (d + 1) M [(0, vr (some (97, 1, 0)))] 84 [] Q := by
  refine Zm.l (fun _ _ k_ => z_aload_n dX8_global_84 rfl rfl k_) ?_
  refine Zm.l (fun _ _ k_ => z_iconst (v := 0) dX8_global_85 rfl k_) ?_
  refine Zm.pick [] rfl ?_
  exact zm_callV (as := [vi (0 : Int32)]) (st := []) dX8_global_86 vsX8_904_1 (Nat.le_refl _) (Nat.le_of_ble_eq_true rfl) (Nat.le_of_ble_eq_true rfl) rfl k
theorem sX8_global_89 {E : zE} {d : Nat} {Q : zO → zM → Prop} (M : zM)  (k : Q (.inl none) M) : Zm E YX8_global (d + 1) M [] 89 [] Q := by
  exact zm_vret dX8_global_89 rfl k
/-! ScriptTypesModel.error(I)V -/
theorem bX8_error_0 : zdec cX8_error 0 [(0, .aload_n 0, 1), (1, .iload_n 1, 1), (2, .iload_n 1, 1), (3, .bipush 20, 2), (5, .iadd, 1), (6, .iconst 0, 1), (7, .invokevirtual 858, 3), (10, .istore_n 2, 1), (11, .aload_n 0, 1), (12, .bipush 7, 2), (14, .iload_n 2, 1), (15, .invokevirtual 897, 3), (18, .return_, 1)] = true := by decide +kernel
theorem dX8_error_0 : decode cX8_error 0 = .ok (.aload_n 0, 1) := zdec_at bX8_error_0 0 rfl
theorem dX8_error_1 : decode cX8_error 1 = .ok (.iload_n 1, 1) := zdec_at bX8_error_0 1 rfl
theorem dX8_error_2 : decode cX8_error 2 = .ok (.iload_n 1, 1) := zdec_at bX8_error_0 2 rfl
theorem dX8_error_3 : decode cX8_error 3 = .ok (.bipush 20, 2) := zdec_at bX8_error_0 3 rfl
theorem dX8_error_5 : decode cX8_error 5 = .ok (.iadd, 1) := zdec_at bX8_error_0 4 rfl
theorem dX8_error_6 : decode cX8_error 6 = .ok (.iconst 0, 1) := zdec_at bX8_error_0 5 rfl
theorem dX8_error_7 : decode cX8_error 7 = .ok (.invokevirtual 858, 3) := zdec_at bX8_error_0 6 rfl
theorem dX8_error_10 : decode cX8_error 10 = .ok (.istore_n 2, 1) := zdec_at bX8_error_0 7 rfl
theorem dX8_error_11 : decode cX8_error 11 = .ok (.aload_n 0, 1) := zdec_at bX8_error_0 8 rfl
theorem dX8_error_12 : decode cX8_error 12 = .ok (.bipush 7, 2) := zdec_at bX8_error_0 9 rfl
theorem dX8_error_14 : decode cX8_error 14 = .ok (.iload_n 2, 1) := zdec_at bX8_error_0 10 rfl
theorem dX8_error_15 : decode cX8_error 15 = .ok (.invokevirtual 897, 3) := zdec_at bX8_error_0 11 rfl
theorem dX8_error_18 : decode cX8_error 18 = .ok (.return_, 1) := zdec_at bX8_error_0 12 rfl
theorem sX8_error_0 {E : zE} {d : Nat} {Q : zO → zM → Prop} (M : zM) (l1 : Int32) (k : Zm E YX8_newObject d M (zargs 0 [vr (some (97, 1, 0)), vi l1, vi (l1 + (20 : Int32)), vi (0 : Int32)]) 0 [] (zma E YX8_error (d + 1) [(0, vr (some (97, 1, 0)))] 7 3 [] Q)) : Zm E YX8_error (d + 1) M [(0, vr (some (97, 1, 0))), (1, vi l1)] 0 [] Q := by
  refine Zm.l (fun _ _ k_ => z_aload_n dX8_error_0 rfl rfl k_) ?_
  refine Zm.l (fun _ _ k_ => z_iload_n dX8_error_1 rfl rfl k_) ?_
  refine Zm.l (fun _ _ k_ => z_iload_n dX8_error_2 rfl rfl k_) ?_
  refine Zm.l (fun _ _ k_ => z_bipush (v := 20) dX8_error_3 rfl k_) ?_
  refine Zm.l (fun _ _ k_ => z_iadd dX8_error_5 k_) ?_
  refine Zm.l (fun _ _ k_ => z_iconst (v := 0) dX8_error_6 rfl k_) ?_
  refine Zm.pick [0] rfl ?_
  exact zm_callV (as := [vi l1, vi (l1 + (20 : Int32)), vi (0 : Int32)]) (st := []) dX8_error_7 vsX8_858_1 (Nat.le_refl _) (Nat.le_of_ble_eq_true rfl) (Nat.le_of_ble_eq_true rfl) rfl k
theorem sX8_error_10 {E : zE} {d : Nat} {Q : zO → zM → Prop} (M : zM) (s0 : Int32) (k : Zm E YX8_toss_2 d M (zargs 0 [vr (some (97, 1, 0)), vi (7 : Int32), vi s0]) 0 [] (zma E YX8_error (d + 1) [] 15 3 [] Q)) : Zm E YX8_error (d + 1) M [(0, vr (some (97, 1, 0)))] 10 [vi s0] Q := by
  refine Zm.l (fun _ _ k_ => z_ist_n dX8_error_10 rfl (by decide) (lv' := [(0, vr (some (97, 1, 0))), (2, vi s0)]) rfl k_) ?_
  refine Zm.l (fun _ _ k_ => z_aload_n dX8_error_11 rfl rfl k_) ?_
  refine Zm.l (fun _ _ k_ => z_bipush (v := 7) dX8_error_12 rfl k_) ?_
  refine Zm.l (fun _ _ k_ => z_iload_n dX8_error_14 rfl rfl k_) ?_
  refine Zm.pick [] rfl ?_
  exact zm_callV (as := [vi (7 : Int32), vi s0]) (st := []) dX8_error_15 vsX8_897_1 (Nat.le_refl _) (Nat.le_of_ble_eq_true rfl) (Nat.le_of_ble_eq_true rfl) rfl k
theorem sX8_error_18 {E : zE} {d : Nat} {Q : zO → zM → Prop} (M : zM)  (k : Q (.inl none) M) : Zm E YX8_error (d + 1) M [] 18 [] Q := by
  exact zm_vret dX8_error_18 rfl k
/-! ScriptTypesModel.toss(II)V -/
theorem bX8_toss_2_0 : zdec cX8_toss_2 0 [(0, .aload_n 0, 1), (1, .getfield 794, 3), (4, .ifCond .eq 4, 3), (7, .return_, 1), (8, .aload_n 0, 1), (9, .getfield 872, 3), (12, .ifCond .le 30, 3), (15, .aload_n 0, 1), (16, .getfield 191, 3), (19, .aload_n 0, 1), (20, .getfield 872, 3), (23, .iconst 1, 1), (24, .isub, 1), (25, .iaload, 1), (26, .ifCond .ne 16, 3), (29, .aload_n 0, 1)] = true := by decide +kernel
theorem dX8_toss_2_0 : decode cX8_toss_2 0 = .ok (.aload_n 0, 1) := zdec_at bX8_toss_2_0 0 rfl
theorem dX8_toss_2_1 : decode cX8_toss_2 1 = .ok (.getfield 794, 3) := zdec_at bX8_toss_2_0 1 rfl
theorem dX8_toss_2_4 : decode cX8_toss_2 4 = .ok (.ifCond .eq 4, 3) := zdec_at bX8_toss_2_0 2 rfl
theorem dX8_toss_2_7 : decode cX8_toss_2 7 = .ok (.return_, 1) := zdec_at bX8_toss_2_0 3 rfl
theorem dX8_toss_2_8 : decode cX8_toss_2 8 = .ok (.aload_n 0, 1) := zdec_at bX8_toss_2_0 4 rfl
theorem dX8_toss_2_9 : decode cX8_toss_2 9 = .ok (.getfield 872, 3) := zdec_at bX8_toss_2_0 5 rfl
theorem dX8_toss_2_12 : decode cX8_toss_2 12 = .ok (.ifCond .le 30, 3) := zdec_at bX8_toss_2_0 6 rfl
theorem dX8_toss_2_15 : decode cX8_toss_2 15 = .ok (.aload_n 0, 1) := zdec_at bX8_toss_2_0 7 rfl
theorem dX8_toss_2_16 : decode cX8_toss_2 16 = .ok (.getfield 191, 3) := zdec_at bX8_toss_2_0 8 rfl
theorem dX8_toss_2_19 : decode cX8_toss_2 19 = .ok (.aload_n 0, 1) := zdec_at bX8_toss_2_0 9 rfl
theorem dX8_toss_2_20 : decode cX8_toss_2 20 = .ok (.getfield 872, 3) := zdec_at bX8_toss_2_0 10 rfl
theorem dX8_toss_2_23 : decode cX8_toss_2 23 = .ok (.iconst 1, 1) := zdec_at bX8_toss_2_0 11 rfl
theorem dX8_toss_2_24 : decode cX8_toss_2 24 = .ok (.isub, 1) := zdec_at bX8_toss_2_0 12 rfl
theorem dX8_toss_2_25 : decode cX8_toss_2 25 = .ok (.iaload, 1) := zdec_at bX8_toss_2_0 13 rfl
theorem dX8_toss_2_26 : decode cX8_toss_2 26 = .ok (.ifCond .ne 16, 3) := zdec_at bX8_toss_2_0 14 rfl
theorem dX8_toss_2_29 : decode cX8_toss_2 29 = .ok (.aload_n 0, 1) := zdec_at bX8_toss_2_0 15 rfl
theorem bX8_toss_2_30 : zdec cX8_toss_2 30 [(30, .dup, 1), (31, .getfield 872, 3), (34, .iconst 1, 1), (35, .isub, 1), (36, .putfield 872, 3), (39, .goto (-31), 3), (42, .aload_n 0, 1), (43, .getfield 872, 3), (46, .ifCond .ne 19, 3), (49, .aload_n 0, 1), (50, .iconst 3, 1), (51, .putfield 773, 3), (54, .aload_n 0, 1), (55, .iload_n 1, 1), (56, .putfield 891, 3), (59, .aload_n 0, 1)] = true := by decide +kernel
theorem dX8_toss_2_30 : decode cX8_toss_2 30 = .ok (.dup, 1) := zdec_at bX8_toss_2_30 0 rfl
theorem dX8_toss_2_31 : decode cX8_toss_2 31 = .ok (.getfield 872, 3) := zdec_at bX8_toss_2_30 1 rfl
theorem dX8_toss_2_34 : decode cX8_toss_2 34 = .ok (.iconst 1, 1) := zdec_at bX8_toss_2_30 2 rfl
theorem dX8_toss_2_35 : decode cX8_toss_2 35 = .ok (.isub, 1) := zdec_at bX8_toss_2_30 3 rfl
theorem dX8_toss_2_36 : decode cX8_toss_2 36 = .ok (.putfield 872, 3) := zdec_at bX8_toss_2_30 4 rfl
theorem dX8_toss_2_39 : decode cX8_toss_2 39 = .ok (.goto (-31), 3) := zdec_at bX8_toss_2_30 5 rfl
theorem dX8_toss_2_42 : decode cX8_toss_2 42 = .ok (.aload_n 0, 1) := zdec_at bX8_toss_2_30 6 rfl
theorem dX8_toss_2_43 : decode cX8_toss_2 43 = .ok (.getfield 872, 3) := zdec_at bX8_toss_2_30 7 rfl
theorem dX8_toss_2_46 : decode cX8_toss_2 46 = .ok (.ifCond .ne 19, 3) := zdec_at bX8_toss_2_30 8 rfl
theorem dX8_toss_2_49 : decode cX8_toss_2 49 = .ok (.aload_n 0, 1) := zdec_at bX8_toss_2_30 9 rfl
theorem dX8_toss_2_50 : decode cX8_toss_2 50 = .ok (.iconst 3, 1) := zdec_at bX8_toss_2_30 10 rfl
theorem dX8_toss_2_51 : decode cX8_toss_2 51 = .ok (.putfield 773, 3) := zdec_at bX8_toss_2_30 11 rfl
theorem dX8_toss_2_54 : decode cX8_toss_2 54 = .ok (.aload_n 0, 1) := zdec_at bX8_toss_2_30 12 rfl
theorem dX8_toss_2_55 : decode cX8_toss_2 55 = .ok (.iload_n 1, 1) := zdec_at bX8_toss_2_30 13 rfl
theorem dX8_toss_2_56 : decode cX8_toss_2 56 = .ok (.putfield 891, 3) := zdec_at bX8_toss_2_30 14 rfl
theorem dX8_toss_2_59 : decode cX8_toss_2 59 = .ok (.aload_n 0, 1) := zdec_at bX8_toss_2_30 15 rfl
theorem bX8_toss_2_60 : zdec cX8_toss_2 60 [(60, .iload_n 2, 1), (61, .putfield 894, 3), (64, .return_, 1), (65, .aload_n 0, 1), (66, .getfield 872, 3), (69, .iconst 1, 1), (70, .isub, 1), (71, .istore_n 3, 1), (72, .aload_n 0, 1), (73, .getfield 191, 3), (76, .iload_n 3, 1), (77, .dup2, 1), (78, .iaload, 1), (79, .iconst 1, 1), (80, .isub, 1), (81, .iastore, 1)] = true := by decide +kernel
theorem dX8_toss_2_60 : decode cX8_toss_2 60 = .ok (.iload_n 2, 1) := zdec_at bX8_toss_2_60 0 rfl
theorem dX8_toss_2_61 : decode cX8_toss_2 61 = .ok (.putfield 894, 3) := zdec_at bX8_toss_2_60 1 rfl
theorem dX8_toss_2_64 : decode cX8_toss_2 64 = .ok (.return_, 1) := zdec_at bX8_toss_2_60 2 rfl
theorem dX8_toss_2_65 : decode cX8_toss_2 65 = .ok (.aload_n 0, 1) := zdec_at bX8_toss_2_60 3 rfl
theorem dX8_toss_2_66 : decode cX8_toss_2 66 = .ok (.getfield 872, 3) := zdec_at bX8_toss_2_60 4 rfl
theorem dX8_toss_2_69 : decode cX8_toss_2 69 = .ok (.iconst 1, 1) := zdec_at bX8_toss_2_60 5 rfl
theorem dX8_toss_2_70 : decode cX8_toss_2 70 = .ok (.isub, 1) := zdec_at bX8_toss_2_60 6 rfl
theorem dX8_toss_2_71 : decode cX8_toss_2 71 = .ok (.istore_n 3, 1) := zdec_at bX8_toss_2_60 7 rfl
theorem dX8_toss_2_72 : decode cX8_toss_2 72 = .ok (.aload_n 0, 1) := zdec_at bX8_toss_2_60 8 rfl
theorem dX8_toss_2_73 : decode cX8_toss_2 73 = .ok (.getfield 191, 3) := zdec_at bX8_toss_2_60 9 rfl
theorem dX8_toss_2_76 : decode cX8_toss_2 76 = .ok (.iload_n 3, 1) := zdec_at bX8_toss_2_60 10 rfl
theorem dX8_toss_2_77 : decode cX8_toss_2 77 = .ok (.dup2, 1) := zdec_at bX8_toss_2_60 11 rfl
theorem dX8_toss_2_78 : decode cX8_toss_2 78 = .ok (.iaload, 1) := zdec_at bX8_toss_2_60 12 rfl
theorem dX8_toss_2_79 : decode cX8_toss_2 79 = .ok (.iconst 1, 1) := zdec_at bX8_toss_2_60 13 rfl
theorem dX8_toss_2_80 : decode cX8_toss_2 80 = .ok (.isub, 1) := zdec_at bX8_toss_2_60 14 rfl
theorem dX8_toss_2_81 : decode cX8_toss_2 81 = .ok (.iastore, 1) := zdec_at bX8_toss_2_60 15 rfl
theorem bX8_toss_2_82 : zdec cX8_toss_2 82 [(82, .bipush 40, 2), (84, .iload_n 3, 1), (85, .imul, 1), (86, .aload_n 0, 1), (87, .getfield 191, 3), (90, .iload_n 3, 1), (91, .iaload, 1), (92, .iadd, 1), (93, .istore 4, 2), (95, .aload_n 0, 1), (96, .getfield 185, 3), (99, .iload_n 3, 1), (100, .aload_n 0, 1), (101, .getfield 197, 3), (104, .iload 4, 2), (106, .iaload, 1)] = true := by decide +kernel
theorem dX8_toss_2_82 : decode cX8_toss_2 82 = .ok (.bipush 40, 2) := zdec_at bX8_toss_2_82 0 rfl
theorem dX8_toss_2_84 : decode cX8_toss_2 84 = .ok (.iload_n 3, 1) := zdec_at bX8_toss_2_82 1 rfl
theorem dX8_toss_2_85 : decode cX8_toss_2 85 = .ok (.imul, 1) := zdec_at bX8_toss_2_82 2 rfl
theorem dX8_toss_2_86 : decode cX8_toss_2 86 = .ok (.aload_n 0, 1) := zdec_at bX8_toss_2_82 3 rfl
theorem dX8_toss_2_87 : decode cX8_toss_2 87 = .ok (.getfield 191, 3) := zdec_at bX8_toss_2_82 4 rfl
theorem dX8_toss_2_90 : decode cX8_toss_2 90 = .ok (.iload_n 3, 1) := zdec_at bX8_toss_2_82 5 rfl
theorem dX8_toss_2_91 : decode cX8_toss_2 91 = .ok (.iaload, 1) := zdec_at bX8_toss_2_82 6 rfl
theorem dX8_toss_2_92 : decode cX8_toss_2 92 = .ok (.iadd, 1) := zdec_at bX8_toss_2_82 7 rfl
theorem dX8_toss_2_93 : decode cX8_toss_2 93 = .ok (.istore 4, 2) := zdec_at bX8_toss_2_82 8 rfl
theorem dX8_toss_2_95 : decode cX8_toss_2 95 = .ok (.aload_n 0, 1) := zdec_at bX8_toss_2_82 9 rfl
theorem dX8_toss_2_96 : decode cX8_toss_2 96 = .ok (.getfield 185, 3) := zdec_at bX8_toss_2_82 10 rfl
theorem dX8_toss_2_99 : decode cX8_toss_2 99 = .ok (.iload_n 3, 1) := zdec_at bX8_toss_2_82 11 rfl
theorem dX8_toss_2_100 : decode cX8_toss_2 100 = .ok (.aload_n 0, 1) := zdec_at bX8_toss_2_82 12 rfl
theorem dX8_toss_2_101 : decode cX8_toss_2 101 = .ok (.getfield 197, 3) := zdec_at bX8_toss_2_82 13 rfl
theorem dX8_toss_2_104 : decode cX8_toss_2 104 = .ok (.iload 4, 2) := zdec_at bX8_toss_2_82 14 rfl
theorem dX8_toss_2_106 : decode cX8_toss_2 106 = .ok (.iaload, 1) := zdec_at bX8_toss_2_82 15 rfl
theorem bX8_toss_2_107 : zdec cX8_toss_2 107 [(107, .iastore, 1), (108, .aload_n 0, 1), (109, .iload_n 1, 1), (110, .iload_n 2, 1), (111, .invokevirtual 885, 3), (114, .aload_n 0, 1), (115, .getfield 182, 3), (118, .iload_n 3, 1), (119, .aload_n 0, 1), (120, .getfield 194, 3), (123, .iload 4, 2), (125, .iaload, 1), (126, .iastore, 1), (127, .return_, 1)] = true := by decide +kernel
theorem dX8_toss_2_107 : decode cX8_toss_2 107 = .ok (.iastore, 1) := zdec_at bX8_toss_2_107 0 rfl
theorem dX8_toss_2_108 : decode cX8_toss_2 108 = .ok (.aload_n 0, 1) := zdec_at bX8_toss_2_107 1 rfl
theorem dX8_toss_2_109 : decode cX8_toss_2 109 = .ok (.iload_n 1, 1) := zdec_at bX8_toss_2_107 2 rfl
theorem dX8_toss_2_110 : decode cX8_toss_2 110 = .ok (.iload_n 2, 1) := zdec_at bX8_toss_2_107 3 rfl
theorem dX8_toss_2_111 : decode cX8_toss_2 111 = .ok (.invokevirtual 885, 3) := zdec_at bX8_toss_2_107 4 rfl
theorem dX8_toss_2_114 : decode cX8_toss_2 114 = .ok (.aload_n 0, 1) := zdec_at bX8_toss_2_107 5 rfl
theorem dX8_toss_2_115 : decode cX8_toss_2 115 = .ok (.getfield 182, 3) := zdec_at bX8_toss_2_107 6 rfl
theorem dX8_toss_2_118 : decode cX8_toss_2 118 = .ok (.iload_n 3, 1) := zdec_at bX8_toss_2_107 7 rfl
theorem dX8_toss_2_119 : decode cX8_toss_2 119 = .ok (.aload_n 0, 1) := zdec_at bX8_toss_2_107 8 rfl
theorem dX8_toss_2_120 : decode cX8_toss_2 120 = .ok (.getfield 194, 3) := zdec_at bX8_toss_2_107 9 rfl
theorem dX8_toss_2_123 : decode cX8_toss_2 123 = .ok (.iload 4, 2) := zdec_at bX8_toss_2_107 10 rfl
theorem dX8_toss_2_125 : decode cX8_toss_2 125 = .ok (.iaload, 1) := zdec_at bX8_toss_2_107 11 rfl
theorem dX8_toss_2_126 : decode cX8_toss_2 126 = .ok (.iastore, 1) := zdec_at bX8_toss_2_107 12 rfl
theorem dX8_toss_2_127 : decode cX8_toss_2 127 = .ok (.return_, 1) := zdec_at bX8_toss_2_107 13 rfl
theorem sX8_toss_2_0 {E : zE} {d : Nat} {Q : zO → zM → Prop} (M : zM) (l1 : Int32) (l2 : Int32) (k : if (gi M 97 75) = 0 then (Zm E YX8_toss_2 (d + 1) M [(0, vr (some (97, 1, 0))), (1, vi l1), (2, vi l2)] 8 [] Q) else (Q (.inl none) M)) : Zm E YX8_toss_2 (d + 1) M [(0, vr (some (97, 1, 0))), (1, vi l1), (2, vi l2)] 0 [] Q := by
  refine Zm.l (fun _ _ k_ => z_aload_n dX8_toss_2_0 rfl rfl k_) ?_
  refine zm_geti dX8_toss_2_1 fsX8_794_1 (by decide) (by decide) ?_
  refine Zm.br (fun _ _ k1_ k2_ => z_if_eq (tgt := 8) dX8_toss_2_4 rfl k1_ k2_) (fun h_ => ?_) (fun h_ => ?_)
  · have k := zit h_ k
    exact k
  · have k := zif h_ k
    exact zm_vret dX8_toss_2_7 rfl k
theorem sX8_toss_2_8 {E : zE} {d : Nat} {Q : zO → zM → Prop} (M : zM) (l1 : Int32) (l2 : Int32) (k : if (gi M 97 92) ≤ 0 then (Zm E YX8_toss_2 (d + 1) M [(0, vr (some (97, 1, 0))), (1, vi l1), (2, vi l2)] 42 [] Q) else (vp_in ((gi M 97 92) - (1 : Int32)) 24 ∧ (if (gi M 157 (((gi M 97 92) - (1 : Int32))).toNatClampNeg) = 0 then (Zm E YX8_toss_2 (d + 1) (si M 97 92 ((gi M 97 92) - (1 : Int32))) [(0, vr (some (97, 1, 0))), (1, vi l1), (2, vi l2)] 8 [] Q) else (Zm E YX8_toss_2 (d + 1) M [(0, vr (some (97, 1, 0))), (1, vi l1), (2, vi l2)] 42 [] Q)))) : Zm E YX8_toss_2 (d + 1) M [(0, vr (some (97, 1, 0))), (1, vi l1), (2, vi l2)] 8 [] Q := by
  refine Zm.l (fun _ _ k_ => z_aload_n dX8_toss_2_8 rfl rfl k_) ?_
  refine zm_geti dX8_toss_2_9 fsX8_872_1 (by decide) (by decide) ?_
  refine Zm.br (fun _ _ k1_ k2_ => z_if_le (tgt := 42) dX8_toss_2_12 rfl k1_ k2_) (fun h_ => ?_) (fun h_ => ?_)
  · have k := zit h_ k
    exact k
  · have k := zif h_ k
    refine Zm.l (fun _ _ k_ => z_aload_n dX8_toss_2_15 rfl rfl k_) ?_
    refine zm_getr 54 dX8_toss_2_16 fsX8_191_1 rfl ?_
    refine Zm.l (fun _ _ k_ => z_aload_n dX8_toss_2_19 rfl rfl k_) ?_
    refine zm_geti dX8_toss_2_20 fsX8_872_1 (by decide) (by decide) ?_
    refine Zm.l (fun _ _ k_ => z_iconst (v := 1) dX8_toss_2_23 rfl k_) ?_
    refine Zm.l (fun _ _ k_ => z_isub dX8_toss_2_24 k_) ?_
    obtain ⟨b_, k⟩ := k
    refine zm_iald dX8_toss_2_25 b_ (by decide) (by decide) ?_
    refine Zm.brn (fun _ _ k1_ k2_ => z_if_ne (tgt := 42) dX8_toss_2_26 rfl k1_ k2_) (fun h_ => ?_) (fun h_ => ?_)
    · have k := zif h_ k
      exact k
    · have k := zit h_ k
      refine Zm.l (fun _ _ k_ => z_aload_n dX8_toss_2_29 rfl rfl k_) ?_
      refine Zm.l (fun _ _ k_ => z_dup dX8_toss_2_30 rfl k_) ?_
      refine zm_geti dX8_toss_2_31 fsX8_872_1 (by decide) (by decide) ?_
      refine Zm.l (fun _ _ k_ => z_iconst (v := 1) dX8_toss_2_34 rfl k_) ?_
      refine Zm.l (fun _ _ k_ => z_isub dX8_toss_2_35 k_) ?_
      refine zm_puti (by decide) (by decide) dX8_toss_2_36 (zfwN.w fwX8_872_1) rfl ⟨rfl, rfl⟩ ?_
      refine Zm.l (fun _ _ k_ => z_goto (tgt := 8) dX8_toss_2_39 rfl k_) ?_
      exact k
theorem sX8_toss_2_42 {E : zE} {d : Nat} {Q : zO → zM → Prop} (M : zM) (l1 : Int32) (l2 : Int32) (k : if (gi M 97 92) = 0 then (Q (.inl none) (si (si (si M 97 73 (3 : Int32)) 97 109 l1) 97 110 l2)) else (vp_in ((gi M 97 92) - (1 : Int32)) 24 ∧ (vp_in ((gi M 97 92) - (1 : Int32)) 24 ∧ (vp_in ((gi M 97 92) - (1 : Int32)) 24 ∧ (vp_in (((40 : Int32) * ((gi M 97 92) - (1 : Int32))) + (gi (si M 157 (((gi M 97 92) - (1 : Int32))).toNatClampNeg ((gi M 157 (((gi M 97 92) - (1 : Int32))).toNatClampNeg) - (1 : Int32))) 157 (((gi M 97 92) - (1 : Int32))).toNatClampNeg)) 960 ∧ (vp_in ((gi M 97 92) - (1 : Int32)) 24 ∧ (Zm E YX8_push d (si (si M 157 (((gi M 97 92) - (1 : Int32))).toNatClampNeg ((gi M 157 (((gi M 97 92) - (1 : Int32))).toNatClampNeg) - (1 : Int32))) 155 (((gi M 97 92) - (1 : Int32))).toNatClampNeg (gi M 159 ((((40 : Int32) * ((gi M 97 92) - (1 : Int32))) + (gi (si M 157 (((gi M 97 92) - (1 : Int32))).toNatClampNeg ((gi M 157 (((gi M 97 92) - (1 : Int32))).toNatClampNeg) - (1 : Int32))) 157 (((gi M 97 92) - (1 : Int32))).toNatClampNeg))).toNatClampNeg)) (zargs 0 [vr (some (97, 1, 0)), vi l1, vi l2]) 0 [] (zma E YX8_toss_2 (d + 1) [(0, vr (some (97, 1, 0))), (3, vi ((gi M 97 92) - (1 : Int32))), (4, vi (((40 : Int32) * ((gi M 97 92) - (1 : Int32))) + (gi (si M 157 (((gi M 97 92) - (1 : Int32))).toNatClampNeg ((gi M 157 (((gi M 97 92) - (1 : Int32))).toNatClampNeg) - (1 : Int32))) 157 (((gi M 97 92) - (1 : Int32))).toNatClampNeg)))] 111 3 [] Q)))))))) : Zm E YX8_toss_2 (d + 1) M [(0, vr (some (97, 1, 0))), (1, vi l1), (2, vi l2)] 42 [] Q := by
  refine Zm.l (fun _ _ k_ => z_aload_n dX8_toss_2_42 rfl rfl k_) ?_
  refine zm_geti dX8_toss_2_43 fsX8_872_1 (by decide) (by decide) ?_
  refine Zm.brn (fun _ _ k1_ k2_ => z_if_ne (tgt := 65) dX8_toss_2_46 rfl k1_ k2_) (fun h_ => ?_) (fun h_ => ?_)
  · have k := zif h_ k
    refine Zm.l (fun _ _ k_ => z_aload_n dX8_toss_2_65 rfl rfl k_) ?_
    refine zm_geti dX8_toss_2_66 fsX8_872_1 (by decide) (by decide) ?_
    refine Zm.l (fun _ _ k_ => z_iconst (v := 1) dX8_toss_2_69 rfl k_) ?_
    refine Zm.l (fun _ _ k_ => z_isub dX8_toss_2_70 k_) ?_
    refine Zm.l (fun _ _ k_ => z_ist_n dX8_toss_2_71 rfl (by decide) (lv' := [(0, vr (some (97, 1, 0))), (1, vi l1), (2, vi l2), (3, vi ((gi M 97 92) - (1 : Int32)))]) rfl k_) ?_
    refine Zm.l (fun _ _ k_ => z_aload_n dX8_toss_2_72 rfl rfl k_) ?_
    refine zm_getr 54 dX8_toss_2_73 fsX8_191_1 rfl ?_
    refine Zm.l (fun _ _ k_ => z_iload_n dX8_toss_2_76 rfl rfl k_) ?_
    refine Zm.l (fun _ _ k_ => z_dup2 dX8_toss_2_77 rfl rfl k_) ?_
    obtain ⟨b_, k⟩ := k
    refine zm_iald dX8_toss_2_78 b_ (by decide) (by decide) ?_
    refine Zm.l (fun _ _ k_ => z_iconst (v := 1) dX8_toss_2_79 rfl k_) ?_
    refine Zm.l (fun _ _ k_ => z_isub dX8_toss_2_80 k_) ?_
    obtain ⟨b_, k⟩ := k
    refine zm_iast dX8_toss_2_81 b_ (by decide) (by decide) ?_
    refine Zm.l (fun _ _ k_ => z_bipush (v := 40) dX8_toss_2_82 rfl k_) ?_
    refine Zm.l (fun _ _ k_ => z_iload_n dX8_toss_2_84 rfl rfl k_) ?_
    refine Zm.l (fun _ _ k_ => z_imul dX8_toss_2_85 k_) ?_
    refine Zm.l (fun _ _ k_ => z_aload_n dX8_toss_2_86 rfl rfl k_) ?_
    refine zm_getr 54 dX8_toss_2_87 fsX8_191_1 rfl ?_
    refine Zm.l (fun _ _ k_ => z_iload_n dX8_toss_2_90 rfl rfl k_) ?_
    obtain ⟨b_, k⟩ := k
    refine zm_iald dX8_toss_2_91 b_ (by decide) (by decide) ?_
    refine Zm.l (fun _ _ k_ => z_iadd dX8_toss_2_92 k_) ?_
    refine Zm.l (fun _ _ k_ => z_ist dX8_toss_2_93 (by decide) (lv' := [(0, vr (some (97, 1, 0))), (1, vi l1), (2, vi l2), (3, vi ((gi M 97 92) - (1 : Int32))), (4, vi (((40 : Int32) * ((gi M 97 92) - (1 : Int32))) + (gi (si M 157 (((gi M 97 92) - (1 : Int32))).toNatClampNeg ((gi M 157 (((gi M 97 92) - (1 : Int32))).toNatClampNeg) - (1 : Int32))) 157 (((gi M 97 92) - (1 : Int32))).toNatClampNeg)))]) rfl k_) ?_
    refine Zm.l (fun _ _ k_ => z_aload_n dX8_toss_2_95 rfl rfl k_) ?_
    refine zm_getr 52 dX8_toss_2_96 fsX8_185_1 rfl ?_
    refine Zm.l (fun _ _ k_ => z_iload_n dX8_toss_2_99 rfl rfl k_) ?_
    refine Zm.l (fun _ _ k_ => z_aload_n dX8_toss_2_100 rfl rfl k_) ?_
    refine zm_getr 56 dX8_toss_2_101 fsX8_197_1 rfl ?_
    refine Zm.l (fun _ _ k_ => z_iload dX8_toss_2_104 rfl k_) ?_
    obtain ⟨b_, k⟩ := k
    refine zm_iald dX8_toss_2_106 b_ (by decide) (by decide) ?_
    obtain ⟨b_, k⟩ := k
    refine zm_iast dX8_toss_2_107 b_ (by decide) (by decide) ?_
    refine Zm.l (fun _ _ k_ => z_aload_n dX8_toss_2_108 rfl rfl k_) ?_
    refine Zm.l (fun _ _ k_ => z_iload_n dX8_toss_2_109 rfl rfl k_) ?_
    refine Zm.l (fun _ _ k_ => z_iload_n dX8_toss_2_110 rfl rfl k_) ?_
    refine Zm.pick [0, 3, 4] rfl ?_
    exact zm_callV (as := [vi l1, vi l2]) (st := []) dX8_toss_2_111 vsX8_885_1 (Nat.le_refl _) (Nat.le_of_ble_eq_true rfl) (Nat.le_of_ble_eq_true rfl) rfl k
  · have k := zit h_ k
    refine Zm.l (fun _ _ k_ => z_aload_n dX8_toss_2_49 rfl rfl k_) ?_
    refine Zm.l (fun _ _ k_ => z_iconst (v := 3) dX8_toss_2_50 rfl k_) ?_
    refine zm_puti (by decide) (by decide) dX8_toss_2_51 (zfwN.w fwX8_773_1) rfl ⟨rfl, rfl⟩ ?_
    refine Zm.l (fun _ _ k_ => z_aload_n dX8_toss_2_54 rfl rfl k_) ?_
    refine Zm.l (fun _ _ k_ => z_iload_n dX8_toss_2_55 rfl rfl k_) ?_
    refine zm_puti (by decide) (by decide) dX8_toss_2_56 (zfwN.w fwX8_891_1) rfl ⟨rfl, rfl⟩ ?_
    refine Zm.l (fun _ _ k_ => z_aload_n dX8_toss_2_59 rfl rfl k_) ?_
    refine Zm.l (fun _ _ k_ => z_iload_n dX8_toss_2_60 rfl rfl k_) ?_
    refine zm_puti (by decide) (by decide) dX8_toss_2_61 (zfwN.w fwX8_894_1) rfl ⟨rfl, rfl⟩ ?_
    exact zm_vret dX8_toss_2_64 rfl k
theorem sX8_toss_2_114 {E : zE} {d : Nat} {Q : zO → zM → Prop} (M : zM) (l3 : Int32) (l4 : Int32) (k : vp_in l4 960 ∧ (vp_in l3 24 ∧ (Q (.inl none) (si M 154 (l3).toNatClampNeg (gi M 158 (l4).toNatClampNeg))))) : Zm E YX8_toss_2 (d + 1) M [(0, vr (some (97, 1, 0))), (3, vi l3), (4, vi l4)] 114 [] Q := by
  refine Zm.l (fun _ _ k_ => z_aload_n dX8_toss_2_114 rfl rfl k_) ?_
  refine zm_getr 51 dX8_toss_2_115 fsX8_182_1 rfl ?_
  refine Zm.l (fun _ _ k_ => z_iload_n dX8_toss_2_118 rfl rfl k_) ?_
  refine Zm.l (fun _ _ k_ => z_aload_n dX8_toss_2_119 rfl rfl k_) ?_
  refine zm_getr 55 dX8_toss_2_120 fsX8_194_1 rfl ?_
  refine Zm.l (fun _ _ k_ => z_iload dX8_toss_2_123 rfl k_) ?_
  obtain ⟨b_, k⟩ := k
  refine zm_iald dX8_toss_2_125 b_ (by decide) (by decide) ?_
  obtain ⟨b_, k⟩ := k
  refine zm_iast dX8_toss_2_126 b_ (by decide) (by decide) ?_
  exact zm_vret dX8_toss_2_127 rfl k
/-! ScriptTypesModel.typeOf(II)I -/
theorem bX8_typeOf_0 : zdec cX8_typeOf 0 [(0, .iload_n 1, 1), (1, .ifCond .ne 6, 3), (4, .bipush 19, 2), (6, .ireturn, 1), (7, .iload_n 1, 1), (8, .iconst 1, 1), (9, .if_icmp .ne 6, 3), (12, .bipush 20, 2), (14, .ireturn, 1), (15, .iload_n 1, 1), (16, .iconst 2, 1), (17, .if_icmp .eq 8, 3), (20, .iload_n 1, 1), (21, .iconst 3, 1), (22, .if_icmp .ne 6, 3), (25, .bipush 21, 2)] = true := by decide +kernel
theorem dX8_typeOf_0 : decode cX8_typeOf 0 = .ok (.iload_n 1, 1) := zdec_at bX8_typeOf_0 0 rfl
theorem dX8_typeOf_1 : decode cX8_typeOf 1 = .ok (.ifCond .ne 6, 3) := zdec_at bX8_typeOf_0 1 rfl
theorem dX8_typeOf_4 : decode cX8_typeOf 4 = .ok (.bipush 19, 2) := zdec_at bX8_typeOf_0 2 rfl
theorem dX8_typeOf_6 : decode cX8_typeOf 6 = .ok (.ireturn, 1) := zdec_at bX8_typeOf_0 3 rfl
theorem dX8_typeOf_7 : decode cX8_typeOf 7 = .ok (.iload_n 1, 1) := zdec_at bX8_typeOf_0 4 rfl
theorem dX8_typeOf_8 : decode cX8_typeOf 8 = .ok (.iconst 1, 1) := zdec_at bX8_typeOf_0 5 rfl
theorem dX8_typeOf_9 : decode cX8_typeOf 9 = .ok (.if_icmp .ne 6, 3) := zdec_at bX8_typeOf_0 6 rfl
theorem dX8_typeOf_12 : decode cX8_typeOf 12 = .ok (.bipush 20, 2) := zdec_at bX8_typeOf_0 7 rfl
theorem dX8_typeOf_14 : decode cX8_typeOf 14 = .ok (.ireturn, 1) := zdec_at bX8_typeOf_0 8 rfl
theorem dX8_typeOf_15 : decode cX8_typeOf 15 = .ok (.iload_n 1, 1) := zdec_at bX8_typeOf_0 9 rfl
theorem dX8_typeOf_16 : decode cX8_typeOf 16 = .ok (.iconst 2, 1) := zdec_at bX8_typeOf_0 10 rfl
theorem dX8_typeOf_17 : decode cX8_typeOf 17 = .ok (.if_icmp .eq 8, 3) := zdec_at bX8_typeOf_0 11 rfl
theorem dX8_typeOf_20 : decode cX8_typeOf 20 = .ok (.iload_n 1, 1) := zdec_at bX8_typeOf_0 12 rfl
theorem dX8_typeOf_21 : decode cX8_typeOf 21 = .ok (.iconst 3, 1) := zdec_at bX8_typeOf_0 13 rfl
theorem dX8_typeOf_22 : decode cX8_typeOf 22 = .ok (.if_icmp .ne 6, 3) := zdec_at bX8_typeOf_0 14 rfl
theorem dX8_typeOf_25 : decode cX8_typeOf 25 = .ok (.bipush 21, 2) := zdec_at bX8_typeOf_0 15 rfl
theorem bX8_typeOf_27 : zdec cX8_typeOf 27 [(27, .ireturn, 1), (28, .iload_n 1, 1), (29, .iconst 4, 1), (30, .if_icmp .eq 8, 3), (33, .iload_n 1, 1), (34, .iconst 5, 1), (35, .if_icmp .ne 6, 3), (38, .bipush 22, 2), (40, .ireturn, 1), (41, .iload_n 1, 1), (42, .bipush 6, 2), (44, .if_icmp .ne 8, 3), (47, .bipush 23, 2), (49, .goto 20, 3), (52, .aload_n 0, 1), (53, .getfield 143, 3)] = true := by decide +kernel
theorem dX8_typeOf_27 : decode cX8_typeOf 27 = .ok (.ireturn, 1) := zdec_at bX8_typeOf_27 0 rfl
theorem dX8_typeOf_28 : decode cX8_typeOf 28 = .ok (.iload_n 1, 1) := zdec_at bX8_typeOf_27 1 rfl
theorem dX8_typeOf_29 : decode cX8_typeOf 29 = .ok (.iconst 4, 1) := zdec_at bX8_typeOf_27 2 rfl
theorem dX8_typeOf_30 : decode cX8_typeOf 30 = .ok (.if_icmp .eq 8, 3) := zdec_at bX8_typeOf_27 3 rfl
theorem dX8_typeOf_33 : decode cX8_typeOf 33 = .ok (.iload_n 1, 1) := zdec_at bX8_typeOf_27 4 rfl
theorem dX8_typeOf_34 : decode cX8_typeOf 34 = .ok (.iconst 5, 1) := zdec_at bX8_typeOf_27 5 rfl
theorem dX8_typeOf_35 : decode cX8_typeOf 35 = .ok (.if_icmp .ne 6, 3) := zdec_at bX8_typeOf_27 6 rfl
theorem dX8_typeOf_38 : decode cX8_typeOf 38 = .ok (.bipush 22, 2) := zdec_at bX8_typeOf_27 7 rfl
theorem dX8_typeOf_40 : decode cX8_typeOf 40 = .ok (.ireturn, 1) := zdec_at bX8_typeOf_27 8 rfl
theorem dX8_typeOf_41 : decode cX8_typeOf 41 = .ok (.iload_n 1, 1) := zdec_at bX8_typeOf_27 9 rfl
theorem dX8_typeOf_42 : decode cX8_typeOf 42 = .ok (.bipush 6, 2) := zdec_at bX8_typeOf_27 10 rfl
theorem dX8_typeOf_44 : decode cX8_typeOf 44 = .ok (.if_icmp .ne 8, 3) := zdec_at bX8_typeOf_27 11 rfl
theorem dX8_typeOf_47 : decode cX8_typeOf 47 = .ok (.bipush 23, 2) := zdec_at bX8_typeOf_27 12 rfl
theorem dX8_typeOf_49 : decode cX8_typeOf 49 = .ok (.goto 20, 3) := zdec_at bX8_typeOf_27 13 rfl
theorem dX8_typeOf_52 : decode cX8_typeOf 52 = .ok (.aload_n 0, 1) := zdec_at bX8_typeOf_27 14 rfl
theorem dX8_typeOf_53 : decode cX8_typeOf 53 = .ok (.getfield 143, 3) := zdec_at bX8_typeOf_27 15 rfl
theorem bX8_typeOf_56 : zdec cX8_typeOf 56 [(56, .iload_n 2, 1), (57, .iaload, 1), (58, .iconst 1, 1), (59, .if_icmp .ne 8, 3), (62, .bipush 24, 2), (64, .goto 5, 3), (67, .bipush 20, 2), (69, .ireturn, 1)] = true := by decide +kernel
theorem dX8_typeOf_56 : decode cX8_typeOf 56 = .ok (.iload_n 2, 1) := zdec_at bX8_typeOf_56 0 rfl
theorem dX8_typeOf_57 : decode cX8_typeOf 57 = .ok (.iaload, 1) := zdec_at bX8_typeOf_56 1 rfl
theorem dX8_typeOf_58 : decode cX8_typeOf 58 = .ok (.iconst 1, 1) := zdec_at bX8_typeOf_56 2 rfl
theorem dX8_typeOf_59 : decode cX8_typeOf 59 = .ok (.if_icmp .ne 8, 3) := zdec_at bX8_typeOf_56 3 rfl
theorem dX8_typeOf_62 : decode cX8_typeOf 62 = .ok (.bipush 24, 2) := zdec_at bX8_typeOf_56 4 rfl
theorem dX8_typeOf_64 : decode cX8_typeOf 64 = .ok (.goto 5, 3) := zdec_at bX8_typeOf_56 5 rfl
theorem dX8_typeOf_67 : decode cX8_typeOf 67 = .ok (.bipush 20, 2) := zdec_at bX8_typeOf_56 6 rfl
theorem dX8_typeOf_69 : decode cX8_typeOf 69 = .ok (.ireturn, 1) := zdec_at bX8_typeOf_56 7 rfl
theorem sX8_typeOf_0 {E : zE} {d : Nat} {Q : zO → zM → Prop} (M : zM) (l1 : Int32) (l2 : Int32) (k : if l1 = 0 then (Q (.inl (some (vi (19 : Int32)))) M) else (if l1 = (1 : Int32) then (Q (.inl (some (vi (20 : Int32)))) M) else (if l1 = (2 : Int32) then (Q (.inl (some (vi (21 : Int32)))) M) else (if l1 = (3 : Int32) then (Q (.inl (some (vi (21 : Int32)))) M) else (if l1 = (4 : Int32) then (Q (.inl (some (vi (22 : Int32)))) M) else (if l1 = (5 : Int32) then (Q (.inl (some (vi (22 : Int32)))) M) else (if l1 = (6 : Int32) then (Q (.inl (some (vi (23 : Int32)))) M) else (vp_in l2 300 ∧ (if (gi M 141 (l2).toNatClampNeg) = (1 : Int32) then (Q (.inl (some (vi (24 : Int32)))) M) else (Q (.inl (some (vi (20 : Int32)))) M)))))))))) : Zm E YX8_typeOf d M [(0, vr (some (97, 1, 0))), (1, vi l1), (2, vi l2)] 0 [] Q := by
  refine Zm.l (fun _ _ k_ => z_iload_n dX8_typeOf_0 rfl rfl k_) ?_
  refine Zm.brn (fun _ _ k1_ k2_ => z_if_ne (tgt := 7) dX8_typeOf_1 rfl k1_ k2_) (fun h_ => ?_) (fun h_ => ?_)
  · have k := zif h_ k
    refine Zm.l (fun _ _ k_ => z_iload_n dX8_typeOf_7 rfl rfl k_) ?_
    refine Zm.l (fun _ _ k_ => z_iconst (v := 1) dX8_typeOf_8 rfl k_) ?_
    refine Zm.brn (fun _ _ k1_ k2_ => z_icmp_ne (tgt := 15) dX8_typeOf_9 rfl k1_ k2_) (fun h_ => ?_) (fun h_ => ?_)
    · have k := zif h_ k
      refine Zm.l (fun _ _ k_ => z_iload_n dX8_typeOf_15 rfl rfl k_) ?_
      refine Zm.l (fun _ _ k_ => z_iconst (v := 2) dX8_typeOf_16 rfl k_) ?_
      refine Zm.br (fun _ _ k1_ k2_ => z_icmp_eq (tgt := 25) dX8_typeOf_17 rfl k1_ k2_) (fun h_ => ?_) (fun h_ => ?_)
      · have k := zit h_ k
        refine Zm.l (fun _ _ k_ => z_bipush (v := 21) dX8_typeOf_25 rfl k_) ?_
        exact zm_iret dX8_typeOf_27 rfl rfl k
      · have k := zif h_ k
        refine Zm.l (fun _ _ k_ => z_iload_n dX8_typeOf_20 rfl rfl k_) ?_
        refine Zm.l (fun _ _ k_ => z_iconst (v := 3) dX8_typeOf_21 rfl k_) ?_
        refine Zm.brn (fun _ _ k1_ k2_ => z_icmp_ne (tgt := 28) dX8_typeOf_22 rfl k1_ k2_) (fun h_ => ?_) (fun h_ => ?_)
        · have k := zif h_ k
          refine Zm.l (fun _ _ k_ => z_iload_n dX8_typeOf_28 rfl rfl k_) ?_
          refine Zm.l (fun _ _ k_ => z_iconst (v := 4) dX8_typeOf_29 rfl k_) ?_
          refine Zm.br (fun _ _ k1_ k2_ => z_icmp_eq (tgt := 38) dX8_typeOf_30 rfl k1_ k2_) (fun h_ => ?_) (fun h_ => ?_)
          · have k := zit h_ k
            refine Zm.l (fun _ _ k_ => z_bipush (v := 22) dX8_typeOf_38 rfl k_) ?_
            exact zm_iret dX8_typeOf_40 rfl rfl k
          · have k := zif h_ k
            refine Zm.l (fun _ _ k_ => z_iload_n dX8_typeOf_33 rfl rfl k_) ?_
            refine Zm.l (fun _ _ k_ => z_iconst (v := 5) dX8_typeOf_34 rfl k_) ?_
            refine Zm.brn (fun _ _ k1_ k2_ => z_icmp_ne (tgt := 41) dX8_typeOf_35 rfl k1_ k2_) (fun h_ => ?_) (fun h_ => ?_)
            · have k := zif h_ k
              refine Zm.l (fun _ _ k_ => z_iload_n dX8_typeOf_41 rfl rfl k_) ?_
              refine Zm.l (fun _ _ k_ => z_bipush (v := 6) dX8_typeOf_42 rfl k_) ?_
              refine Zm.brn (fun _ _ k1_ k2_ => z_icmp_ne (tgt := 52) dX8_typeOf_44 rfl k1_ k2_) (fun h_ => ?_) (fun h_ => ?_)
              · have k := zif h_ k
                refine Zm.l (fun _ _ k_ => z_aload_n dX8_typeOf_52 rfl rfl k_) ?_
                refine zm_getr 38 dX8_typeOf_53 fsX8_143_1 rfl ?_
                refine Zm.l (fun _ _ k_ => z_iload_n dX8_typeOf_56 rfl rfl k_) ?_
                obtain ⟨b_, k⟩ := k
                refine zm_iald dX8_typeOf_57 b_ (by decide) (by decide) ?_
                refine Zm.l (fun _ _ k_ => z_iconst (v := 1) dX8_typeOf_58 rfl k_) ?_
                refine Zm.brn (fun _ _ k1_ k2_ => z_icmp_ne (tgt := 67) dX8_typeOf_59 rfl k1_ k2_) (fun h_ => ?_) (fun h_ => ?_)
                · have k := zif h_ k
                  refine Zm.l (fun _ _ k_ => z_bipush (v := 20) dX8_typeOf_67 rfl k_) ?_
                  exact zm_iret dX8_typeOf_69 rfl rfl k
                · have k := zit h_ k
                  refine Zm.l (fun _ _ k_ => z_bipush (v := 24) dX8_typeOf_62 rfl k_) ?_
                  refine Zm.l (fun _ _ k_ => z_goto (tgt := 69) dX8_typeOf_64 rfl k_) ?_
                  exact zm_iret dX8_typeOf_69 rfl rfl k
              · have k := zit h_ k
                refine Zm.l (fun _ _ k_ => z_bipush (v := 23) dX8_typeOf_47 rfl k_) ?_
                refine Zm.l (fun _ _ k_ => z_goto (tgt := 69) dX8_typeOf_49 rfl k_) ?_
                exact zm_iret dX8_typeOf_69 rfl rfl k
            · have k := zit h_ k
              refine Zm.l (fun _ _ k_ => z_bipush (v := 22) dX8_typeOf_38 rfl k_) ?_
              exact zm_iret dX8_typeOf_40 rfl rfl k
        · have k := zit h_ k
          refine Zm.l (fun _ _ k_ => z_bipush (v := 21) dX8_typeOf_25 rfl k_) ?_
          exact zm_iret dX8_typeOf_27 rfl rfl k
    · have k := zit h_ k
      refine Zm.l (fun _ _ k_ => z_bipush (v := 20) dX8_typeOf_12 rfl k_) ?_
      exact zm_iret dX8_typeOf_14 rfl rfl k
  · have k := zit h_ k
    refine Zm.l (fun _ _ k_ => z_bipush (v := 19) dX8_typeOf_4 rfl k_) ?_
    exact zm_iret dX8_typeOf_6 rfl rfl k
/-! ScriptTypesModel.siteLabel(I)I -/
theorem bX8_siteLabel_0 : zdec cX8_siteLabel 0 [(0, .bipush 29, 2), (2, .bipush 6, 2), (4, .aload_n 0, 1), (5, .getfield 527, 3), (8, .iconst 1, 1), (9, .isub, 1), (10, .imul, 1), (11, .iadd, 1), (12, .iconst 2, 1), (13, .iload_n 1, 1), (14, .imul, 1), (15, .iadd, 1), (16, .ireturn, 1)] = true := by decide +kernel
theorem dX8_siteLabel_0 : decode cX8_siteLabel 0 = .ok (.bipush 29, 2) := zdec_at bX8_siteLabel_0 0 rfl
theorem dX8_siteLabel_2 : decode cX8_siteLabel 2 = .ok (.bipush 6, 2) := zdec_at bX8_siteLabel_0 1 rfl
theorem dX8_siteLabel_4 : decode cX8_siteLabel 4 = .ok (.aload_n 0, 1) := zdec_at bX8_siteLabel_0 2 rfl
theorem dX8_siteLabel_5 : decode cX8_siteLabel 5 = .ok (.getfield 527, 3) := zdec_at bX8_siteLabel_0 3 rfl
theorem dX8_siteLabel_8 : decode cX8_siteLabel 8 = .ok (.iconst 1, 1) := zdec_at bX8_siteLabel_0 4 rfl
theorem dX8_siteLabel_9 : decode cX8_siteLabel 9 = .ok (.isub, 1) := zdec_at bX8_siteLabel_0 5 rfl
theorem dX8_siteLabel_10 : decode cX8_siteLabel 10 = .ok (.imul, 1) := zdec_at bX8_siteLabel_0 6 rfl
theorem dX8_siteLabel_11 : decode cX8_siteLabel 11 = .ok (.iadd, 1) := zdec_at bX8_siteLabel_0 7 rfl
theorem dX8_siteLabel_12 : decode cX8_siteLabel 12 = .ok (.iconst 2, 1) := zdec_at bX8_siteLabel_0 8 rfl
theorem dX8_siteLabel_13 : decode cX8_siteLabel 13 = .ok (.iload_n 1, 1) := zdec_at bX8_siteLabel_0 9 rfl
theorem dX8_siteLabel_14 : decode cX8_siteLabel 14 = .ok (.imul, 1) := zdec_at bX8_siteLabel_0 10 rfl
theorem dX8_siteLabel_15 : decode cX8_siteLabel 15 = .ok (.iadd, 1) := zdec_at bX8_siteLabel_0 11 rfl
theorem dX8_siteLabel_16 : decode cX8_siteLabel 16 = .ok (.ireturn, 1) := zdec_at bX8_siteLabel_0 12 rfl
theorem sX8_siteLabel_0 {E : zE} {d : Nat} {Q : zO → zM → Prop} (M : zM) (l1 : Int32) (k : Q (.inl (some (vi (((29 : Int32) + ((6 : Int32) * ((gi M 97 32) - (1 : Int32)))) + ((2 : Int32) * l1))))) M) : Zm E YX8_siteLabel d M [(0, vr (some (97, 1, 0))), (1, vi l1)] 0 [] Q := by
  refine Zm.l (fun _ _ k_ => z_bipush (v := 29) dX8_siteLabel_0 rfl k_) ?_
  refine Zm.l (fun _ _ k_ => z_bipush (v := 6) dX8_siteLabel_2 rfl k_) ?_
  refine Zm.l (fun _ _ k_ => z_aload_n dX8_siteLabel_4 rfl rfl k_) ?_
  refine zm_geti dX8_siteLabel_5 fsX8_527_1 (by decide) (by decide) ?_
  refine Zm.l (fun _ _ k_ => z_iconst (v := 1) dX8_siteLabel_8 rfl k_) ?_
  refine Zm.l (fun _ _ k_ => z_isub dX8_siteLabel_9 k_) ?_
  refine Zm.l (fun _ _ k_ => z_imul dX8_siteLabel_10 k_) ?_
  refine Zm.l (fun _ _ k_ => z_iadd dX8_siteLabel_11 k_) ?_
  refine Zm.l (fun _ _ k_ => z_iconst (v := 2) dX8_siteLabel_12 rfl k_) ?_
  refine Zm.l (fun _ _ k_ => z_iload_n dX8_siteLabel_13 rfl rfl k_) ?_
  refine Zm.l (fun _ _ k_ => z_imul dX8_siteLabel_14 k_) ?_
  refine Zm.l (fun _ _ k_ => z_iadd dX8_siteLabel_15 k_) ?_
  exact zm_iret dX8_siteLabel_16 rfl rfl k
/-! ScriptTypesModel.newArray(I)I -/
theorem bX8_newArray_0 : zdec cX8_newArray 0 [(0, .aload_n 0, 1), (1, .iconst 3, 1), (2, .iload_n 1, 1), (3, .iconst 2, 1), (4, .invokevirtual 858, 3), (7, .istore_n 2, 1), (8, .aload_n 0, 1), (9, .getfield 794, 3), (12, .ifCond .ne 11, 3), (15, .aload_n 0, 1), (16, .iload_n 2, 1), (17, .iconst 0, 1), (18, .iconst 5, 1), (19, .iconst 0, 1), (20, .invokevirtual 870, 3), (23, .iload_n 2, 1)] = true := by decide +kernel
theorem dX8_newArray_0 : decode cX8_newArray 0 = .ok (.aload_n 0, 1) := zdec_at bX8_newArray_0 0 rfl
theorem dX8_newArray_1 : decode cX8_newArray 1 = .ok (.iconst 3, 1) := zdec_at bX8_newArray_0 1 rfl
theorem dX8_newArray_2 : decode cX8_newArray 2 = .ok (.iload_n 1, 1) := zdec_at bX8_newArray_0 2 rfl
theorem dX8_newArray_3 : decode cX8_newArray 3 = .ok (.iconst 2, 1) := zdec_at bX8_newArray_0 3 rfl
theorem dX8_newArray_4 : decode cX8_newArray 4 = .ok (.invokevirtual 858, 3) := zdec_at bX8_newArray_0 4 rfl
theorem dX8_newArray_7 : decode cX8_newArray 7 = .ok (.istore_n 2, 1) := zdec_at bX8_newArray_0 5 rfl
theorem dX8_newArray_8 : decode cX8_newArray 8 = .ok (.aload_n 0, 1) := zdec_at bX8_newArray_0 6 rfl
theorem dX8_newArray_9 : decode cX8_newArray 9 = .ok (.getfield 794, 3) := zdec_at bX8_newArray_0 7 rfl
theorem dX8_newArray_12 : decode cX8_newArray 12 = .ok (.ifCond .ne 11, 3) := zdec_at bX8_newArray_0 8 rfl
theorem dX8_newArray_15 : decode cX8_newArray 15 = .ok (.aload_n 0, 1) := zdec_at bX8_newArray_0 9 rfl
theorem dX8_newArray_16 : decode cX8_newArray 16 = .ok (.iload_n 2, 1) := zdec_at bX8_newArray_0 10 rfl
theorem dX8_newArray_17 : decode cX8_newArray 17 = .ok (.iconst 0, 1) := zdec_at bX8_newArray_0 11 rfl
theorem dX8_newArray_18 : decode cX8_newArray 18 = .ok (.iconst 5, 1) := zdec_at bX8_newArray_0 12 rfl
theorem dX8_newArray_19 : decode cX8_newArray 19 = .ok (.iconst 0, 1) := zdec_at bX8_newArray_0 13 rfl
theorem dX8_newArray_20 : decode cX8_newArray 20 = .ok (.invokevirtual 870, 3) := zdec_at bX8_newArray_0 14 rfl
theorem dX8_newArray_23 : decode cX8_newArray 23 = .ok (.iload_n 2, 1) := zdec_at bX8_newArray_0 15 rfl
theorem bX8_newArray_24 : zdec cX8_newArray 24 [(24, .ireturn, 1)] = true := by decide +kernel
theorem dX8_newArray_24 : decode cX8_newArray 24 = .ok (.ireturn, 1) := zdec_at bX8_newArray_24 0 rfl
theorem sX8_newArray_0 {E : zE} {d : Nat} {Q : zO → zM → Prop} (M : zM) (l1 : Int32) (k : Zm E YX8_newObject d M (zargs 0 [vr (some (97, 1, 0)), vi (3 : Int32), vi l1, vi (2 : Int32)]) 0 [] (zma E YX8_newArray (d + 1) [(0, vr (some (97, 1, 0)))] 4 3 [] Q)) : Zm E YX8_newArray (d + 1) M [(0, vr (some (97, 1, 0))), (1, vi l1)] 0 [] Q := by
  refine Zm.l (fun _ _ k_ => z_aload_n dX8_newArray_0 rfl rfl k_) ?_
  refine Zm.l (fun _ _ k_ => z_iconst (v := 3) dX8_newArray_1 rfl k_) ?_
  refine Zm.l (fun _ _ k_ => z_iload_n dX8_newArray_2 rfl rfl k_) ?_
  refine Zm.l (fun _ _ k_ => z_iconst (v := 2) dX8_newArray_3 rfl k_) ?_
  refine Zm.pick [0] rfl ?_
  exact zm_callV (as := [vi (3 : Int32), vi l1, vi (2 : Int32)]) (st := []) dX8_newArray_4 vsX8_858_1 (Nat.le_refl _) (Nat.le_of_ble_eq_true rfl) (Nat.le_of_ble_eq_true rfl) rfl k
theorem sX8_newArray_7 {E : zE} {d : Nat} {Q : zO → zM → Prop} (M : zM) (s0 : Int32) (k : if (gi M 97 75) = 0 then (Zm E YX8_set_2 d M (zargs 0 [vr (some (97, 1, 0)), vi s0, vi (0 : Int32), vi (5 : Int32), vi (0 : Int32)]) 0 [] (zma E YX8_newArray (d + 1) [(2, vi s0)] 20 3 [] Q)) else (Zm E YX8_newArray (d + 1) M [(2, vi s0)] 23 [] Q)) : Zm E YX8_newArray (d + 1) M [(0, vr (some (97, 1, 0)))] 7 [vi s0] Q := by
  refine Zm.l (fun _ _ k_ => z_ist_n dX8_newArray_7 rfl (by decide) (lv' := [(0, vr (some (97, 1, 0))), (2, vi s0)]) rfl k_) ?_
  refine Zm.l (fun _ _ k_ => z_aload_n dX8_newArray_8 rfl rfl k_) ?_
  refine zm_geti dX8_newArray_9 fsX8_794_1 (by decide) (by decide) ?_
  refine Zm.brn (fun _ _ k1_ k2_ => z_if_ne (tgt := 23) dX8_newArray_12 rfl k1_ k2_) (fun h_ => ?_) (fun h_ => ?_)
  · have k := zif h_ k
    refine Zm.pick [1] rfl ?_
    exact k
  · have k := zit h_ k
    refine Zm.l (fun _ _ k_ => z_aload_n dX8_newArray_15 rfl rfl k_) ?_
    refine Zm.l (fun _ _ k_ => z_iload_n dX8_newArray_16 rfl rfl k_) ?_
    refine Zm.l (fun _ _ k_ => z_iconst (v := 0) dX8_newArray_17 rfl k_) ?_
    refine Zm.l (fun _ _ k_ => z_iconst (v := 5) dX8_newArray_18 rfl k_) ?_
    refine Zm.l (fun _ _ k_ => z_iconst (v := 0) dX8_newArray_19 rfl k_) ?_
    refine Zm.pick [1] rfl ?_
    exact zm_callV (as := [vi s0, vi (0 : Int32), vi (5 : Int32), vi (0 : Int32)]) (st := []) dX8_newArray_20 vsX8_870_1 (Nat.le_refl _) (Nat.le_of_ble_eq_true rfl) (Nat.le_of_ble_eq_true rfl) rfl k
theorem sX8_newArray_23 {E : zE} {d : Nat} {Q : zO → zM → Prop} (M : zM) (l2 : Int32) (k : Q (.inl (some (vi l2))) M) : Zm E YX8_newArray (d + 1) M [(2, vi l2)] 23 [] Q := by
  refine Zm.l (fun _ _ k_ => z_iload_n dX8_newArray_23 rfl rfl k_) ?_
  exact zm_iret dX8_newArray_24 rfl rfl k
/-! ScriptTypesModel.makeFunction(I)V -/
theorem bX8_makeFunction_0 : zdec cX8_makeFunction 0 [(0, .bipush 29, 2), (2, .bipush 6, 2), (4, .iload_n 1, 1), (5, .iconst 1, 1), (6, .isub, 1), (7, .imul, 1), (8, .iadd, 1), (9, .istore_n 2, 1), (10, .aload_n 0, 1), (11, .iconst 2, 1), (12, .iload_n 2, 1), (13, .iconst 2, 1), (14, .iadd, 1), (15, .iconst 1, 1), (16, .invokevirtual 858, 3), (19, .istore_n 3, 1)] = true := by decide +kernel
theorem dX8_makeFunction_0 : decode cX8_makeFunction 0 = .ok (.bipush 29, 2) := zdec_at bX8_makeFunction_0 0 rfl
theorem dX8_makeFunction_2 : decode cX8_makeFunction 2 = .ok (.bipush 6, 2) := zdec_at bX8_makeFunction_0 1 rfl
theorem dX8_makeFunction_4 : decode cX8_makeFunction 4 = .ok (.iload_n 1, 1) := zdec_at bX8_makeFunction_0 2 rfl
theorem dX8_makeFunction_5 : decode cX8_makeFunction 5 = .ok (.iconst 1, 1) := zdec_at bX8_makeFunction_0 3 rfl
theorem dX8_makeFunction_6 : decode cX8_makeFunction 6 = .ok (.isub, 1) := zdec_at bX8_makeFunction_0 4 rfl
theorem dX8_makeFunction_7 : decode cX8_makeFunction 7 = .ok (.imul, 1) := zdec_at bX8_makeFunction_0 5 rfl
theorem dX8_makeFunction_8 : decode cX8_makeFunction 8 = .ok (.iadd, 1) := zdec_at bX8_makeFunction_0 6 rfl
theorem dX8_makeFunction_9 : decode cX8_makeFunction 9 = .ok (.istore_n 2, 1) := zdec_at bX8_makeFunction_0 7 rfl
theorem dX8_makeFunction_10 : decode cX8_makeFunction 10 = .ok (.aload_n 0, 1) := zdec_at bX8_makeFunction_0 8 rfl
theorem dX8_makeFunction_11 : decode cX8_makeFunction 11 = .ok (.iconst 2, 1) := zdec_at bX8_makeFunction_0 9 rfl
theorem dX8_makeFunction_12 : decode cX8_makeFunction 12 = .ok (.iload_n 2, 1) := zdec_at bX8_makeFunction_0 10 rfl
theorem dX8_makeFunction_13 : decode cX8_makeFunction 13 = .ok (.iconst 2, 1) := zdec_at bX8_makeFunction_0 11 rfl
theorem dX8_makeFunction_14 : decode cX8_makeFunction 14 = .ok (.iadd, 1) := zdec_at bX8_makeFunction_0 12 rfl
theorem dX8_makeFunction_15 : decode cX8_makeFunction 15 = .ok (.iconst 1, 1) := zdec_at bX8_makeFunction_0 13 rfl
theorem dX8_makeFunction_16 : decode cX8_makeFunction 16 = .ok (.invokevirtual 858, 3) := zdec_at bX8_makeFunction_0 14 rfl
theorem dX8_makeFunction_19 : decode cX8_makeFunction 19 = .ok (.istore_n 3, 1) := zdec_at bX8_makeFunction_0 15 rfl
theorem bX8_makeFunction_20 : zdec cX8_makeFunction 20 [(20, .aload_n 0, 1), (21, .getfield 794, 3), (24, .ifCond .eq 4, 3), (27, .return_, 1), (28, .aload_n 0, 1), (29, .getfield 140, 3), (32, .iload_n 3, 1), (33, .aload_n 0, 1), (34, .getfield 173, 3), (37, .aload_n 0, 1), (38, .getfield 872, 3), (41, .iconst 1, 1), (42, .isub, 1), (43, .iaload, 1), (44, .iastore, 1), (45, .aload_n 0, 1)] = true := by decide +kernel
theorem dX8_makeFunction_20 : decode cX8_makeFunction 20 = .ok (.aload_n 0, 1) := zdec_at bX8_makeFunction_20 0 rfl
theorem dX8_makeFunction_21 : decode cX8_makeFunction 21 = .ok (.getfield 794, 3) := zdec_at bX8_makeFunction_20 1 rfl
theorem dX8_makeFunction_24 : decode cX8_makeFunction 24 = .ok (.ifCond .eq 4, 3) := zdec_at bX8_makeFunction_20 2 rfl
theorem dX8_makeFunction_27 : decode cX8_makeFunction 27 = .ok (.return_, 1) := zdec_at bX8_makeFunction_20 3 rfl
theorem dX8_makeFunction_28 : decode cX8_makeFunction 28 = .ok (.aload_n 0, 1) := zdec_at bX8_makeFunction_20 4 rfl
theorem dX8_makeFunction_29 : decode cX8_makeFunction 29 = .ok (.getfield 140, 3) := zdec_at bX8_makeFunction_20 5 rfl
theorem dX8_makeFunction_32 : decode cX8_makeFunction 32 = .ok (.iload_n 3, 1) := zdec_at bX8_makeFunction_20 6 rfl
theorem dX8_makeFunction_33 : decode cX8_makeFunction 33 = .ok (.aload_n 0, 1) := zdec_at bX8_makeFunction_20 7 rfl
theorem dX8_makeFunction_34 : decode cX8_makeFunction 34 = .ok (.getfield 173, 3) := zdec_at bX8_makeFunction_20 8 rfl
theorem dX8_makeFunction_37 : decode cX8_makeFunction 37 = .ok (.aload_n 0, 1) := zdec_at bX8_makeFunction_20 9 rfl
theorem dX8_makeFunction_38 : decode cX8_makeFunction 38 = .ok (.getfield 872, 3) := zdec_at bX8_makeFunction_20 10 rfl
theorem dX8_makeFunction_41 : decode cX8_makeFunction 41 = .ok (.iconst 1, 1) := zdec_at bX8_makeFunction_20 11 rfl
theorem dX8_makeFunction_42 : decode cX8_makeFunction 42 = .ok (.isub, 1) := zdec_at bX8_makeFunction_20 12 rfl
theorem dX8_makeFunction_43 : decode cX8_makeFunction 43 = .ok (.iaload, 1) := zdec_at bX8_makeFunction_20 13 rfl
theorem dX8_makeFunction_44 : decode cX8_makeFunction 44 = .ok (.iastore, 1) := zdec_at bX8_makeFunction_20 14 rfl
theorem dX8_makeFunction_45 : decode cX8_makeFunction 45 = .ok (.aload_n 0, 1) := zdec_at bX8_makeFunction_20 15 rfl
theorem bX8_makeFunction_46 : zdec cX8_makeFunction 46 [(46, .getfield 146, 3), (49, .iload_n 3, 1), (50, .iload_n 1, 1), (51, .iastore, 1), (52, .aload_n 0, 1), (53, .iconst 1, 1), (54, .iload_n 2, 1), (55, .iconst 4, 1), (56, .iadd, 1), (57, .iconst 0, 1), (58, .invokevirtual 858, 3), (61, .istore 4, 2), (63, .aload_n 0, 1), (64, .getfield 794, 3), (67, .ifCond .eq 4, 3), (70, .return_, 1)] = true := by decide +kernel
theorem dX8_makeFunction_46 : decode cX8_makeFunction 46 = .ok (.getfield 146, 3) := zdec_at bX8_makeFunction_46 0 rfl
theorem dX8_makeFunction_49 : decode cX8_makeFunction 49 = .ok (.iload_n 3, 1) := zdec_at bX8_makeFunction_46 1 rfl
theorem dX8_makeFunction_50 : decode cX8_makeFunction 50 = .ok (.iload_n 1, 1) := zdec_at bX8_makeFunction_46 2 rfl
theorem dX8_makeFunction_51 : decode cX8_makeFunction 51 = .ok (.iastore, 1) := zdec_at bX8_makeFunction_46 3 rfl
theorem dX8_makeFunction_52 : decode cX8_makeFunction 52 = .ok (.aload_n 0, 1) := zdec_at bX8_makeFunction_46 4 rfl
theorem dX8_makeFunction_53 : decode cX8_makeFunction 53 = .ok (.iconst 1, 1) := zdec_at bX8_makeFunction_46 5 rfl
theorem dX8_makeFunction_54 : decode cX8_makeFunction 54 = .ok (.iload_n 2, 1) := zdec_at bX8_makeFunction_46 6 rfl
theorem dX8_makeFunction_55 : decode cX8_makeFunction 55 = .ok (.iconst 4, 1) := zdec_at bX8_makeFunction_46 7 rfl
theorem dX8_makeFunction_56 : decode cX8_makeFunction 56 = .ok (.iadd, 1) := zdec_at bX8_makeFunction_46 8 rfl
theorem dX8_makeFunction_57 : decode cX8_makeFunction 57 = .ok (.iconst 0, 1) := zdec_at bX8_makeFunction_46 9 rfl
theorem dX8_makeFunction_58 : decode cX8_makeFunction 58 = .ok (.invokevirtual 858, 3) := zdec_at bX8_makeFunction_46 10 rfl
theorem dX8_makeFunction_61 : decode cX8_makeFunction 61 = .ok (.istore 4, 2) := zdec_at bX8_makeFunction_46 11 rfl
theorem dX8_makeFunction_63 : decode cX8_makeFunction 63 = .ok (.aload_n 0, 1) := zdec_at bX8_makeFunction_46 12 rfl
theorem dX8_makeFunction_64 : decode cX8_makeFunction 64 = .ok (.getfield 794, 3) := zdec_at bX8_makeFunction_46 13 rfl
theorem dX8_makeFunction_67 : decode cX8_makeFunction 67 = .ok (.ifCond .eq 4, 3) := zdec_at bX8_makeFunction_46 14 rfl
theorem dX8_makeFunction_70 : decode cX8_makeFunction 70 = .ok (.return_, 1) := zdec_at bX8_makeFunction_46 15 rfl
theorem bX8_makeFunction_71 : zdec cX8_makeFunction 71 [(71, .aload_n 0, 1), (72, .iload_n 3, 1), (73, .iconst 1, 1), (74, .bipush 7, 2), (76, .iload 4, 2), (78, .invokevirtual 870, 3), (81, .aload_n 0, 1), (82, .getfield 794, 3), (85, .ifCond .eq 4, 3), (88, .return_, 1), (89, .aload_n 0, 1), (90, .iload 4, 2), (92, .iconst 2, 1), (93, .bipush 7, 2), (95, .iload_n 3, 1), (96, .invokevirtual 870, 3)] = true := by decide +kernel
theorem dX8_makeFunction_71 : decode cX8_makeFunction 71 = .ok (.aload_n 0, 1) := zdec_at bX8_makeFunction_71 0 rfl
theorem dX8_makeFunction_72 : decode cX8_makeFunction 72 = .ok (.iload_n 3, 1) := zdec_at bX8_makeFunction_71 1 rfl
theorem dX8_makeFunction_73 : decode cX8_makeFunction 73 = .ok (.iconst 1, 1) := zdec_at bX8_makeFunction_71 2 rfl
theorem dX8_makeFunction_74 : decode cX8_makeFunction 74 = .ok (.bipush 7, 2) := zdec_at bX8_makeFunction_71 3 rfl
theorem dX8_makeFunction_76 : decode cX8_makeFunction 76 = .ok (.iload 4, 2) := zdec_at bX8_makeFunction_71 4 rfl
theorem dX8_makeFunction_78 : decode cX8_makeFunction 78 = .ok (.invokevirtual 870, 3) := zdec_at bX8_makeFunction_71 5 rfl
theorem dX8_makeFunction_81 : decode cX8_makeFunction 81 = .ok (.aload_n 0, 1) := zdec_at bX8_makeFunction_71 6 rfl
theorem dX8_makeFunction_82 : decode cX8_makeFunction 82 = .ok (.getfield 794, 3) := zdec_at bX8_makeFunction_71 7 rfl
theorem dX8_makeFunction_85 : decode cX8_makeFunction 85 = .ok (.ifCond .eq 4, 3) := zdec_at bX8_makeFunction_71 8 rfl
theorem dX8_makeFunction_88 : decode cX8_makeFunction 88 = .ok (.return_, 1) := zdec_at bX8_makeFunction_71 9 rfl
theorem dX8_makeFunction_89 : decode cX8_makeFunction 89 = .ok (.aload_n 0, 1) := zdec_at bX8_makeFunction_71 10 rfl
theorem dX8_makeFunction_90 : decode cX8_makeFunction 90 = .ok (.iload 4, 2) := zdec_at bX8_makeFunction_71 11 rfl
theorem dX8_makeFunction_92 : decode cX8_makeFunction 92 = .ok (.iconst 2, 1) := zdec_at bX8_makeFunction_71 12 rfl
theorem dX8_makeFunction_93 : decode cX8_makeFunction 93 = .ok (.bipush 7, 2) := zdec_at bX8_makeFunction_71 13 rfl
theorem dX8_makeFunction_95 : decode cX8_makeFunction 95 = .ok (.iload_n 3, 1) := zdec_at bX8_makeFunction_71 14 rfl
theorem dX8_makeFunction_96 : decode cX8_makeFunction 96 = .ok (.invokevirtual 870, 3) := zdec_at bX8_makeFunction_71 15 rfl
theorem bX8_makeFunction_99 : zdec cX8_makeFunction 99 [(99, .aload_n 0, 1), (100, .bipush 7, 2), (102, .iload_n 3, 1), (103, .invokevirtual 822, 3), (106, .aload_n 0, 1), (107, .iconst 0, 1), (108, .invokevirtual 904, 3), (111, .return_, 1)] = true := by decide +kernel
theorem dX8_makeFunction_99 : decode cX8_makeFunction 99 = .ok (.aload_n 0, 1) := zdec_at bX8_makeFunction_99 0 rfl
theorem dX8_makeFunction_100 : decode cX8_makeFunction 100 = .ok (.bipush 7, 2) := zdec_at bX8_makeFunction_99 1 rfl
theorem dX8_makeFunction_102 : decode cX8_makeFunction 102 = .ok (.iload_n 3, 1) := zdec_at bX8_makeFunction_99 2 rfl
theorem dX8_makeFunction_103 : decode cX8_makeFunction 103 = .ok (.invokevirtual 822, 3) := zdec_at bX8_makeFunction_99 3 rfl
theorem dX8_makeFunction_106 : decode cX8_makeFunction 106 = .ok (.aload_n 0, 1) := zdec_at bX8_makeFunction_99 4 rfl
theorem dX8_makeFunction_107 : decode cX8_makeFunction 107 = .ok (.iconst 0, 1) := zdec_at bX8_makeFunction_99 5 rfl
theorem dX8_makeFunction_108 : decode cX8_makeFunction 108 = .ok (.invokevirtual 904, 3) := zdec_at bX8_makeFunction_99 6 rfl
theorem dX8_makeFunction_111 : decode cX8_makeFunction 111 = .ok (.return_, 1) := zdec_at bX8_makeFunction_99 7 rfl
theorem sX8_makeFunction_0 {E : zE} {d : Nat} {Q : zO → zM → Prop} (M : zM) (l1 : Int32) (k : Zm E YX8_newObject d M (zargs 0 [vr (some (97, 1, 0)), vi (2 : Int32), vi (((29 : Int32) + ((6 : Int32) * (l1 - (1 : Int32)))) + (2 : Int32)), vi (1 : Int32)]) 0 [] (zma E YX8_makeFunction (d + 1) [(0, vr (some (97, 1, 0))), (1, vi l1), (2, vi ((29 : Int32) + ((6 : Int32) * (l1 - (1 : Int32)))))] 16 3 [] Q)) : Zm E YX8_makeFunction (d + 1) M [(0, vr (some (97, 1, 0))), (1, vi l1)] 0 [] Q := by
  refine Zm.l (fun _ _ k_ => z_bipush (v := 29) dX8_makeFunction_0 rfl k_) ?_
  refine Zm.l (fun _ _ k_ => z_bipush (v := 6) dX8_makeFunction_2 rfl k_) ?_
  refine Zm.l (fun _ _ k_ => z_iload_n dX8_makeFunction_4 rfl rfl k_) ?_
  refine Zm.l (fun _ _ k_ => z_iconst (v := 1) dX8_makeFunction_5 rfl k_) ?_
  refine Zm.l (fun _ _ k_ => z_isub dX8_makeFunction_6 k_) ?_
  refine Zm.l (fun _ _ k_ => z_imul dX8_makeFunction_7 k_) ?_
  refine Zm.l (fun _ _ k_ => z_iadd dX8_makeFunction_8 k_) ?_
  refine Zm.l (fun _ _ k_ => z_ist_n dX8_makeFunction_9 rfl (by decide) (lv' := [(0, vr (some (97, 1, 0))), (1, vi l1), (2, vi ((29 : Int32) + ((6 : Int32) * (l1 - (1 : Int32)))))]) rfl k_) ?_
  refine Zm.l (fun _ _ k_ => z_aload_n dX8_makeFunction_10 rfl rfl k_) ?_
  refine Zm.l (fun _ _ k_ => z_iconst (v := 2) dX8_makeFunction_11 rfl k_) ?_
  refine Zm.l (fun _ _ k_ => z_iload_n dX8_makeFunction_12 rfl rfl k_) ?_
  refine Zm.l (fun _ _ k_ => z_iconst (v := 2) dX8_makeFunction_13 rfl k_) ?_
  refine Zm.l (fun _ _ k_ => z_iadd dX8_makeFunction_14 k_) ?_
  refine Zm.l (fun _ _ k_ => z_iconst (v := 1) dX8_makeFunction_15 rfl k_) ?_
  exact zm_callV (as := [vi (2 : Int32), vi (((29 : Int32) + ((6 : Int32) * (l1 - (1 : Int32)))) + (2 : Int32)), vi (1 : Int32)]) (st := []) dX8_makeFunction_16 vsX8_858_1 (Nat.le_refl _) (Nat.le_of_ble_eq_true rfl) (Nat.le_of_ble_eq_true rfl) rfl k
theorem sX8_makeFunction_19 {E : zE} {d : Nat} {Q : zO → zM → Prop} (M : zM) (l1 : Int32) (l2 : Int32) (s0 : Int32) (k : if (gi M 97 75) = 0 then (vp_in ((gi M 97 92) - (1 : Int32)) 24 ∧ (vp_in s0 300 ∧ (vp_in s0 300 ∧ (Zm E YX8_newObject d (si (si M 140 (s0).toNatClampNeg (gi M 151 (((gi M 97 92) - (1 : Int32))).toNatClampNeg)) 142 (s0).toNatClampNeg l1) (zargs 0 [vr (some (97, 1, 0)), vi (1 : Int32), vi (l2 + (4 : Int32)), vi (0 : Int32)]) 0 [] (zma E YX8_makeFunction (d + 1) [(0, vr (some (97, 1, 0))), (3, vi s0)] 58 3 [] Q))))) else (Q (.inl none) M)) : Zm E YX8_makeFunction (d + 1) M [(0, vr (some (97, 1, 0))), (1, vi l1), (2, vi l2)] 19 [vi s0] Q := by
  refine Zm.l (fun _ _ k_ => z_ist_n dX8_makeFunction_19 rfl (by decide) (lv' := [(0, vr (some (97, 1, 0))), (1, vi l1), (2, vi l2), (3, vi s0)]) rfl k_) ?_
  refine Zm.l (fun _ _ k_ => z_aload_n dX8_makeFunction_20 rfl rfl k_) ?_
  refine zm_geti dX8_makeFunction_21 fsX8_794_1 (by decide) (by decide) ?_
  refine Zm.br (fun _ _ k1_ k2_ => z_if_eq (tgt := 28) dX8_makeFunction_24 rfl k1_ k2_) (fun h_ => ?_) (fun h_ => ?_)
  · have k := zit h_ k
    refine Zm.l (fun _ _ k_ => z_aload_n dX8_makeFunction_28 rfl rfl k_) ?_
    refine zm_getr 37 dX8_makeFunction_29 fsX8_140_1 rfl ?_
    refine Zm.l (fun _ _ k_ => z_iload_n dX8_makeFunction_32 rfl rfl k_) ?_
    refine Zm.l (fun _ _ k_ => z_aload_n dX8_makeFunction_33 rfl rfl k_) ?_
    refine zm_getr 48 dX8_makeFunction_34 fsX8_173_1 rfl ?_
    refine Zm.l (fun _ _ k_ => z_aload_n dX8_makeFunction_37 rfl rfl k_) ?_
    refine zm_geti dX8_makeFunction_38 fsX8_872_1 (by decide) (by decide) ?_
    refine Zm.l (fun _ _ k_ => z_iconst (v := 1) dX8_makeFunction_41 rfl k_) ?_
    refine Zm.l (fun _ _ k_ => z_isub dX8_makeFunction_42 k_) ?_
    obtain ⟨b_, k⟩ := k
    refine zm_iald dX8_makeFunction_43 b_ (by decide) (by decide) ?_
    obtain ⟨b_, k⟩ := k
    refine zm_iast dX8_makeFunction_44 b_ (by decide) (by decide) ?_
    refine Zm.l (fun _ _ k_ => z_aload_n dX8_makeFunction_45 rfl rfl k_) ?_
    refine zm_getr 39 dX8_makeFunction_46 fsX8_146_1 rfl ?_
    refine Zm.l (fun _ _ k_ => z_iload_n dX8_makeFunction_49 rfl rfl k_) ?_
    refine Zm.l (fun _ _ k_ => z_iload_n dX8_makeFunction_50 rfl rfl k_) ?_
    obtain ⟨b_, k⟩ := k
    refine zm_iast dX8_makeFunction_51 b_ (by decide) (by decide) ?_
    refine Zm.l (fun _ _ k_ => z_aload_n dX8_makeFunction_52 rfl rfl k_) ?_
    refine Zm.l (fun _ _ k_ => z_iconst (v := 1) dX8_makeFunction_53 rfl k_) ?_
    refine Zm.l (fun _ _ k_ => z_iload_n dX8_makeFunction_54 rfl rfl k_) ?_
    refine Zm.l (fun _ _ k_ => z_iconst (v := 4) dX8_makeFunction_55 rfl k_) ?_
    refine Zm.l (fun _ _ k_ => z_iadd dX8_makeFunction_56 k_) ?_
    refine Zm.l (fun _ _ k_ => z_iconst (v := 0) dX8_makeFunction_57 rfl k_) ?_
    refine Zm.pick [0, 3] rfl ?_
    exact zm_callV (as := [vi (1 : Int32), vi (l2 + (4 : Int32)), vi (0 : Int32)]) (st := []) dX8_makeFunction_58 vsX8_858_1 (Nat.le_refl _) (Nat.le_of_ble_eq_true rfl) (Nat.le_of_ble_eq_true rfl) rfl k
  · have k := zif h_ k
    exact zm_vret dX8_makeFunction_27 rfl k
theorem sX8_makeFunction_61 {E : zE} {d : Nat} {Q : zO → zM → Prop} (M : zM) (l3 : Int32) (s0 : Int32) (k : if (gi M 97 75) = 0 then (Zm E YX8_set_2 d M (zargs 0 [vr (some (97, 1, 0)), vi l3, vi (1 : Int32), vi (7 : Int32), vi s0]) 0 [] (zma E YX8_makeFunction (d + 1) [(0, vr (some (97, 1, 0))), (3, vi l3), (4, vi s0)] 78 3 [] Q)) else (Q (.inl none) M)) : Zm E YX8_makeFunction (d + 1) M [(0, vr (some (97, 1, 0))), (3, vi l3)] 61 [vi s0] Q := by
  refine Zm.l (fun _ _ k_ => z_ist dX8_makeFunction_61 (by decide) (lv' := [(0, vr (some (97, 1, 0))), (3, vi l3), (4, vi s0)]) rfl k_) ?_
  refine Zm.l (fun _ _ k_ => z_aload_n dX8_makeFunction_63 rfl rfl k_) ?_
  refine zm_geti dX8_makeFunction_64 fsX8_794_1 (by decide) (by decide) ?_
  refine Zm.br (fun _ _ k1_ k2_ => z_if_eq (tgt := 71) dX8_makeFunction_67 rfl k1_ k2_) (fun h_ => ?_) (fun h_ => ?_)
  · have k := zit h_ k
    refine Zm.l (fun _ _ k_ => z_aload_n dX8_makeFunction_71 rfl rfl k_) ?_
    refine Zm.l (fun _ _ k_ => z_iload_n dX8_makeFunction_72 rfl rfl k_) ?_
    refine Zm.l (fun _ _ k_ => z_iconst (v := 1) dX8_makeFunction_73 rfl k_) ?_
    refine Zm.l (fun _ _ k_ => z_bipush (v := 7) dX8_makeFunction_74 rfl k_) ?_
    refine Zm.l (fun _ _ k_ => z_iload dX8_makeFunction_76 rfl k_) ?_
    exact zm_callV (as := [vi l3, vi (1 : Int32), vi (7 : Int32), vi s0]) (st := []) dX8_makeFunction_78 vsX8_870_1 (Nat.le_refl _) (Nat.le_of_ble_eq_true rfl) (Nat.le_of_ble_eq_true rfl) rfl k
  · have k := zif h_ k
    exact zm_vret dX8_makeFunction_70 rfl k
theorem sX8_makeFunction_81 {E : zE} {d : Nat} {Q : zO → zM → Prop} (M : zM) (l3 : Int32) (l4 : Int32) (k : if (gi M 97 75) = 0 then (Zm E YX8_set_2 d M (zargs 0 [vr (some (97, 1, 0)), vi l4, vi (2 : Int32), vi (7 : Int32), vi l3]) 0 [] (zma E YX8_makeFunction (d + 1) [(0, vr (some (97, 1, 0))), (3, vi l3)] 96 3 [] Q)) else (Q (.inl none) M)) : Zm E YX8_makeFunction (d + 1) M [(0, vr (some (97, 1, 0))), (3, vi l3), (4, vi l4)] 81 [] Q := by
  refine Zm.l (fun _ _ k_ => z_aload_n dX8_makeFunction_81 rfl rfl k_) ?_
  refine zm_geti dX8_makeFunction_82 fsX8_794_1 (by decide) (by decide) ?_
  refine Zm.br (fun _ _ k1_ k2_ => z_if_eq (tgt := 89) dX8_makeFunction_85 rfl k1_ k2_) (fun h_ => ?_) (fun h_ => ?_)
  · have k := zit h_ k
    refine Zm.l (fun _ _ k_ => z_aload_n dX8_makeFunction_89 rfl rfl k_) ?_
    refine Zm.l (fun _ _ k_ => z_iload dX8_makeFunction_90 rfl k_) ?_
    refine Zm.l (fun _ _ k_ => z_iconst (v := 2) dX8_makeFunction_92 rfl k_) ?_
    refine Zm.l (fun _ _ k_ => z_bipush (v := 7) dX8_makeFunction_93 rfl k_) ?_
    refine Zm.l (fun _ _ k_ => z_iload_n dX8_makeFunction_95 rfl rfl k_) ?_
    refine Zm.pick [0, 1] rfl ?_
    exact zm_callV (as := [vi l4, vi (2 : Int32), vi (7 : Int32), vi l3]) (st := []) dX8_makeFunction_96 vsX8_870_1 (Nat.le_refl _) (Nat.le_of_ble_eq_true rfl) (Nat.le_of_ble_eq_true rfl) rfl k
  · have k := zif h_ k
    exact zm_vret dX8_makeFunction_88 rfl k
theorem sX8_makeFunction_99 {E : zE} {d : Nat} {Q : zO → zM → Prop} (M : zM) (l3 : Int32) (k : Zm E YX8_give_2 d M (zargs 0 [vr (some (97, 1, 0)), vi (7 : Int32), vi l3]) 0 [] (zma E YX8_makeFunction (d + 1) [(0, vr (some (97, 1, 0)))] 103 3 [] Q)) : Zm E YX8_makeFunction (d + 1) M [(0, vr (some (97, 1, 0))), (3, vi l3)] 99 [] Q := by
  refine Zm.l (fun _ _ k_ => z_aload_n dX8_makeFunction_99 rfl rfl k_) ?_
  refine Zm.l (fun _ _ k_ => z_bipush (v := 7) dX8_makeFunction_100 rfl k_) ?_
  refine Zm.l (fun _ _ k_ => z_iload_n dX8_makeFunction_102 rfl rfl k_) ?_
  refine Zm.pick [0] rfl ?_
  exact zm_callV (as := [vi (7 : Int32), vi l3]) (st := []) dX8_makeFunction_103 vsX8_822_1 (Nat.le_refl _) (Nat.le_of_ble_eq_true rfl) (Nat.le_of_ble_eq_true rfl) rfl k
theorem sX8_makeFunction_106 {E : zE} {d : Nat} {Q : zO → zM → Prop} (M : zM)  (k : Zm E YX8_gives d M (zargs 0 [vr (some (97, 1, 0)), vi (0 : Int32)]) 0 [] (zma E YX8_makeFunction (d + 1) [] 108 3 [] Q)) : Zm E YX8_makeFunction (d + 1) M [(0, vr (some (97, 1, 0)))] 106 [] Q := by
  refine Zm.l (fun _ _ k_ => z_aload_n dX8_makeFunction_106 rfl rfl k_) ?_
  refine Zm.l (fun _ _ k_ => z_iconst (v := 0) dX8_makeFunction_107 rfl k_) ?_
  refine Zm.pick [] rfl ?_
  exact zm_callV (as := [vi (0 : Int32)]) (st := []) dX8_makeFunction_108 vsX8_904_1 (Nat.le_refl _) (Nat.le_of_ble_eq_true rfl) (Nat.le_of_ble_eq_true rfl) rfl k
theorem sX8_makeFunction_111 {E : zE} {d : Nat} {Q : zO → zM → Prop} (M : zM)  (k : Q (.inl none) M) : Zm E YX8_makeFunction (d + 1) M [] 111 [] Q := by
  exact zm_vret dX8_makeFunction_111 rfl k
/-! ScriptTypesModel.get()V -/
theorem bX8_get_2_0 : zdec cX8_get_2 0 [(0, .aload_n 0, 1), (1, .iconst 1, 1), (2, .invokevirtual 910, 3), (5, .istore_n 1, 1), (6, .aload_n 0, 1), (7, .iconst 1, 1), (8, .invokevirtual 913, 3), (11, .istore_n 2, 1), (12, .aload_n 0, 1), (13, .aload_n 0, 1), (14, .iconst 0, 1), (15, .invokevirtual 910, 3), (18, .aload_n 0, 1), (19, .iconst 0, 1), (20, .invokevirtual 913, 3), (23, .invokevirtual 969, 3)] = true := by decide +kernel
theorem dX8_get_2_0 : decode cX8_get_2 0 = .ok (.aload_n 0, 1) := zdec_at bX8_get_2_0 0 rfl
theorem dX8_get_2_1 : decode cX8_get_2 1 = .ok (.iconst 1, 1) := zdec_at bX8_get_2_0 1 rfl
theorem dX8_get_2_2 : decode cX8_get_2 2 = .ok (.invokevirtual 910, 3) := zdec_at bX8_get_2_0 2 rfl
theorem dX8_get_2_5 : decode cX8_get_2 5 = .ok (.istore_n 1, 1) := zdec_at bX8_get_2_0 3 rfl
theorem dX8_get_2_6 : decode cX8_get_2 6 = .ok (.aload_n 0, 1) := zdec_at bX8_get_2_0 4 rfl
theorem dX8_get_2_7 : decode cX8_get_2 7 = .ok (.iconst 1, 1) := zdec_at bX8_get_2_0 5 rfl
theorem dX8_get_2_8 : decode cX8_get_2 8 = .ok (.invokevirtual 913, 3) := zdec_at bX8_get_2_0 6 rfl
theorem dX8_get_2_11 : decode cX8_get_2 11 = .ok (.istore_n 2, 1) := zdec_at bX8_get_2_0 7 rfl
theorem dX8_get_2_12 : decode cX8_get_2 12 = .ok (.aload_n 0, 1) := zdec_at bX8_get_2_0 8 rfl
theorem dX8_get_2_13 : decode cX8_get_2 13 = .ok (.aload_n 0, 1) := zdec_at bX8_get_2_0 9 rfl
theorem dX8_get_2_14 : decode cX8_get_2 14 = .ok (.iconst 0, 1) := zdec_at bX8_get_2_0 10 rfl
theorem dX8_get_2_15 : decode cX8_get_2 15 = .ok (.invokevirtual 910, 3) := zdec_at bX8_get_2_0 11 rfl
theorem dX8_get_2_18 : decode cX8_get_2 18 = .ok (.aload_n 0, 1) := zdec_at bX8_get_2_0 12 rfl
theorem dX8_get_2_19 : decode cX8_get_2 19 = .ok (.iconst 0, 1) := zdec_at bX8_get_2_0 13 rfl
theorem dX8_get_2_20 : decode cX8_get_2 20 = .ok (.invokevirtual 913, 3) := zdec_at bX8_get_2_0 14 rfl
theorem dX8_get_2_23 : decode cX8_get_2 23 = .ok (.invokevirtual 969, 3) := zdec_at bX8_get_2_0 15 rfl
theorem bX8_get_2_26 : zdec cX8_get_2 26 [(26, .istore_n 3, 1), (27, .aload_n 0, 1), (28, .getfield 794, 3), (31, .ifCond .eq 4, 3), (34, .return_, 1), (35, .iload_n 1, 1), (36, .iconst 1, 1), (37, .if_icmp .gt 10, 3), (40, .aload_n 0, 1), (41, .bipush 6, 2), (43, .invokevirtual 966, 3), (46, .return_, 1), (47, .iconst 0, 1), (48, .istore 4, 2), (50, .iload_n 1, 1), (51, .bipush 7, 2)] = true := by decide +kernel
theorem dX8_get_2_26 : decode cX8_get_2 26 = .ok (.istore_n 3, 1) := zdec_at bX8_get_2_26 0 rfl
theorem dX8_get_2_27 : decode cX8_get_2 27 = .ok (.aload_n 0, 1) := zdec_at bX8_get_2_26 1 rfl
theorem dX8_get_2_28 : decode cX8_get_2 28 = .ok (.getfield 794, 3) := zdec_at bX8_get_2_26 2 rfl
theorem dX8_get_2_31 : decode cX8_get_2 31 = .ok (.ifCond .eq 4, 3) := zdec_at bX8_get_2_26 3 rfl
theorem dX8_get_2_34 : decode cX8_get_2 34 = .ok (.return_, 1) := zdec_at bX8_get_2_26 4 rfl
theorem dX8_get_2_35 : decode cX8_get_2 35 = .ok (.iload_n 1, 1) := zdec_at bX8_get_2_26 5 rfl
theorem dX8_get_2_36 : decode cX8_get_2 36 = .ok (.iconst 1, 1) := zdec_at bX8_get_2_26 6 rfl
theorem dX8_get_2_37 : decode cX8_get_2 37 = .ok (.if_icmp .gt 10, 3) := zdec_at bX8_get_2_26 7 rfl
theorem dX8_get_2_40 : decode cX8_get_2 40 = .ok (.aload_n 0, 1) := zdec_at bX8_get_2_26 8 rfl
theorem dX8_get_2_41 : decode cX8_get_2 41 = .ok (.bipush 6, 2) := zdec_at bX8_get_2_26 9 rfl
theorem dX8_get_2_43 : decode cX8_get_2 43 = .ok (.invokevirtual 966, 3) := zdec_at bX8_get_2_26 10 rfl
theorem dX8_get_2_46 : decode cX8_get_2 46 = .ok (.return_, 1) := zdec_at bX8_get_2_26 11 rfl
theorem dX8_get_2_47 : decode cX8_get_2 47 = .ok (.iconst 0, 1) := zdec_at bX8_get_2_26 12 rfl
theorem dX8_get_2_48 : decode cX8_get_2 48 = .ok (.istore 4, 2) := zdec_at bX8_get_2_26 13 rfl
theorem dX8_get_2_50 : decode cX8_get_2 50 = .ok (.iload_n 1, 1) := zdec_at bX8_get_2_26 14 rfl
theorem dX8_get_2_51 : decode cX8_get_2 51 = .ok (.bipush 7, 2) := zdec_at bX8_get_2_26 15 rfl
theorem bX8_get_2_53 : zdec cX8_get_2 53 [(53, .if_icmp .ne 14, 3), (56, .aload_n 0, 1), (57, .iload_n 2, 1), (58, .iload_n 3, 1), (59, .invokevirtual 972, 3), (62, .istore 4, 2), (64, .goto 44, 3), (67, .iload_n 1, 1), (68, .bipush 6, 2), (70, .if_icmp .eq 12, 3), (73, .aload_n 0, 1), (74, .iconst 0, 1), (75, .iconst 0, 1), (76, .invokevirtual 822, 3), (79, .goto 29, 3), (82, .iload_n 3, 1)] = true := by decide +kernel
theorem dX8_get_2_53 : decode cX8_get_2 53 = .ok (.if_icmp .ne 14, 3) := zdec_at bX8_get_2_53 0 rfl
theorem dX8_get_2_56 : decode cX8_get_2 56 = .ok (.aload_n 0, 1) := zdec_at bX8_get_2_53 1 rfl
theorem dX8_get_2_57 : decode cX8_get_2 57 = .ok (.iload_n 2, 1) := zdec_at bX8_get_2_53 2 rfl
theorem dX8_get_2_58 : decode cX8_get_2 58 = .ok (.iload_n 3, 1) := zdec_at bX8_get_2_53 3 rfl
theorem dX8_get_2_59 : decode cX8_get_2 59 = .ok (.invokevirtual 972, 3) := zdec_at bX8_get_2_53 4 rfl
theorem dX8_get_2_62 : decode cX8_get_2 62 = .ok (.istore 4, 2) := zdec_at bX8_get_2_53 5 rfl
theorem dX8_get_2_64 : decode cX8_get_2 64 = .ok (.goto 44, 3) := zdec_at bX8_get_2_53 6 rfl
theorem dX8_get_2_67 : decode cX8_get_2 67 = .ok (.iload_n 1, 1) := zdec_at bX8_get_2_53 7 rfl
theorem dX8_get_2_68 : decode cX8_get_2 68 = .ok (.bipush 6, 2) := zdec_at bX8_get_2_53 8 rfl
theorem dX8_get_2_70 : decode cX8_get_2 70 = .ok (.if_icmp .eq 12, 3) := zdec_at bX8_get_2_53 9 rfl
theorem dX8_get_2_73 : decode cX8_get_2 73 = .ok (.aload_n 0, 1) := zdec_at bX8_get_2_53 10 rfl
theorem dX8_get_2_74 : decode cX8_get_2 74 = .ok (.iconst 0, 1) := zdec_at bX8_get_2_53 11 rfl
theorem dX8_get_2_75 : decode cX8_get_2 75 = .ok (.iconst 0, 1) := zdec_at bX8_get_2_53 12 rfl
theorem dX8_get_2_76 : decode cX8_get_2 76 = .ok (.invokevirtual 822, 3) := zdec_at bX8_get_2_53 13 rfl
theorem dX8_get_2_79 : decode cX8_get_2 79 = .ok (.goto 29, 3) := zdec_at bX8_get_2_53 14 rfl
theorem dX8_get_2_82 : decode cX8_get_2 82 = .ok (.iload_n 3, 1) := zdec_at bX8_get_2_53 15 rfl
theorem bX8_get_2_83 : zdec cX8_get_2 83 [(83, .ifCond .ne 17, 3), (86, .aload_n 0, 1), (87, .iconst 5, 1), (88, .aload_n 0, 1), (89, .getfield 20, 3), (92, .iload_n 2, 1), (93, .iaload, 1), (94, .invokevirtual 822, 3), (97, .goto 11, 3), (100, .aload_n 0, 1), (101, .iconst 4, 1), (102, .iload_n 3, 1), (103, .invokevirtual 972, 3), (106, .istore 4, 2), (108, .aload_n 0, 1), (109, .iconst 2, 1)] = true := by decide +kernel
theorem dX8_get_2_83 : decode cX8_get_2 83 = .ok (.ifCond .ne 17, 3) := zdec_at bX8_get_2_83 0 rfl
theorem dX8_get_2_86 : decode cX8_get_2 86 = .ok (.aload_n 0, 1) := zdec_at bX8_get_2_83 1 rfl
theorem dX8_get_2_87 : decode cX8_get_2 87 = .ok (.iconst 5, 1) := zdec_at bX8_get_2_83 2 rfl
theorem dX8_get_2_88 : decode cX8_get_2 88 = .ok (.aload_n 0, 1) := zdec_at bX8_get_2_83 3 rfl
theorem dX8_get_2_89 : decode cX8_get_2 89 = .ok (.getfield 20, 3) := zdec_at bX8_get_2_83 4 rfl
theorem dX8_get_2_92 : decode cX8_get_2 92 = .ok (.iload_n 2, 1) := zdec_at bX8_get_2_83 5 rfl
theorem dX8_get_2_93 : decode cX8_get_2 93 = .ok (.iaload, 1) := zdec_at bX8_get_2_83 6 rfl
theorem dX8_get_2_94 : decode cX8_get_2 94 = .ok (.invokevirtual 822, 3) := zdec_at bX8_get_2_83 7 rfl
theorem dX8_get_2_97 : decode cX8_get_2 97 = .ok (.goto 11, 3) := zdec_at bX8_get_2_83 8 rfl
theorem dX8_get_2_100 : decode cX8_get_2 100 = .ok (.aload_n 0, 1) := zdec_at bX8_get_2_83 9 rfl
theorem dX8_get_2_101 : decode cX8_get_2 101 = .ok (.iconst 4, 1) := zdec_at bX8_get_2_83 10 rfl
theorem dX8_get_2_102 : decode cX8_get_2 102 = .ok (.iload_n 3, 1) := zdec_at bX8_get_2_83 11 rfl
theorem dX8_get_2_103 : decode cX8_get_2 103 = .ok (.invokevirtual 972, 3) := zdec_at bX8_get_2_83 12 rfl
theorem dX8_get_2_106 : decode cX8_get_2 106 = .ok (.istore 4, 2) := zdec_at bX8_get_2_83 13 rfl
theorem dX8_get_2_108 : decode cX8_get_2 108 = .ok (.aload_n 0, 1) := zdec_at bX8_get_2_83 14 rfl
theorem dX8_get_2_109 : decode cX8_get_2 109 = .ok (.iconst 2, 1) := zdec_at bX8_get_2_83 15 rfl
theorem bX8_get_2_110 : zdec cX8_get_2 110 [(110, .invokevirtual 904, 3), (113, .return_, 1)] = true := by decide +kernel
theorem dX8_get_2_110 : decode cX8_get_2 110 = .ok (.invokevirtual 904, 3) := zdec_at bX8_get_2_110 0 rfl
theorem dX8_get_2_113 : decode cX8_get_2 113 = .ok (.return_, 1) := zdec_at bX8_get_2_110 1 rfl
theorem sX8_get_2_0 {E : zE} {d : Nat} {Q : zO → zM → Prop} (M : zM)  (k : Zm E YX8_sortAt d M (zargs 0 [vr (some (97, 1, 0)), vi (1 : Int32)]) 0 [] (zma E YX8_get_2 (d + 1) [(0, vr (some (97, 1, 0)))] 2 3 [] Q)) : Zm E YX8_get_2 (d + 1) M [(0, vr (some (97, 1, 0)))] 0 [] Q := by
  refine Zm.l (fun _ _ k_ => z_aload_n dX8_get_2_0 rfl rfl k_) ?_
  refine Zm.l (fun _ _ k_ => z_iconst (v := 1) dX8_get_2_1 rfl k_) ?_
  exact zm_callV (as := [vi (1 : Int32)]) (st := []) dX8_get_2_2 vsX8_910_1 (Nat.le_refl _) (Nat.le_of_ble_eq_true rfl) (Nat.le_of_ble_eq_true rfl) rfl k
theorem sX8_get_2_5 {E : zE} {d : Nat} {Q : zO → zM → Prop} (M : zM) (s0 : Int32) (k : Zm E YX8_valueAt d M (zargs 0 [vr (some (97, 1, 0)), vi (1 : Int32)]) 0 [] (zma E YX8_get_2 (d + 1) [(0, vr (some (97, 1, 0))), (1, vi s0)] 8 3 [] Q)) : Zm E YX8_get_2 (d + 1) M [(0, vr (some (97, 1, 0)))] 5 [vi s0] Q := by
  refine Zm.l (fun _ _ k_ => z_ist_n dX8_get_2_5 rfl (by decide) (lv' := [(0, vr (some (97, 1, 0))), (1, vi s0)]) rfl k_) ?_
  refine Zm.l (fun _ _ k_ => z_aload_n dX8_get_2_6 rfl rfl k_) ?_
  refine Zm.l (fun _ _ k_ => z_iconst (v := 1) dX8_get_2_7 rfl k_) ?_
  exact zm_callV (as := [vi (1 : Int32)]) (st := []) dX8_get_2_8 vsX8_913_1 (Nat.le_refl _) (Nat.le_of_ble_eq_true rfl) (Nat.le_of_ble_eq_true rfl) rfl k
theorem sX8_get_2_11 {E : zE} {d : Nat} {Q : zO → zM → Prop} (M : zM) (l1 : Int32) (s0 : Int32) (k : Zm E YX8_sortAt d M (zargs 0 [vr (some (97, 1, 0)), vi (0 : Int32)]) 0 [] (zma E YX8_get_2 (d + 1) [(0, vr (some (97, 1, 0))), (1, vi l1), (2, vi s0)] 15 3 [vr (some (97, 1, 0))] Q)) : Zm E YX8_get_2 (d + 1) M [(0, vr (some (97, 1, 0))), (1, vi l1)] 11 [vi s0] Q := by
  refine Zm.l (fun _ _ k_ => z_ist_n dX8_get_2_11 rfl (by decide) (lv' := [(0, vr (some (97, 1, 0))), (1, vi l1), (2, vi s0)]) rfl k_) ?_
  refine Zm.l (fun _ _ k_ => z_aload_n dX8_get_2_12 rfl rfl k_) ?_
  refine Zm.l (fun _ _ k_ => z_aload_n dX8_get_2_13 rfl rfl k_) ?_
  refine Zm.l (fun _ _ k_ => z_iconst (v := 0) dX8_get_2_14 rfl k_) ?_
  exact zm_callV (as := [vi (0 : Int32)]) (st := [vr (some (97, 1, 0))]) dX8_get_2_15 vsX8_910_1 (Nat.le_refl _) (Nat.le_of_ble_eq_true rfl) (Nat.le_of_ble_eq_true rfl) rfl k
theorem sX8_get_2_18 {E : zE} {d : Nat} {Q : zO → zM → Prop} (M : zM) (l1 : Int32) (l2 : Int32) (s0 : Int32) (k : Zm E YX8_valueAt d M (zargs 0 [vr (some (97, 1, 0)), vi (0 : Int32)]) 0 [] (zma E YX8_get_2 (d + 1) [(0, vr (some (97, 1, 0))), (1, vi l1), (2, vi l2)] 20 3 [vi s0, vr (some (97, 1, 0))] Q)) : Zm E YX8_get_2 (d + 1) M [(0, vr (some (97, 1, 0))), (1, vi l1), (2, vi l2)] 18 [vi s0, vr (some (97, 1, 0))] Q := by
  refine Zm.l (fun _ _ k_ => z_aload_n dX8_get_2_18 rfl rfl k_) ?_
  refine Zm.l (fun _ _ k_ => z_iconst (v := 0) dX8_get_2_19 rfl k_) ?_
  exact zm_callV (as := [vi (0 : Int32)]) (st := [vi s0, vr (some (97, 1, 0))]) dX8_get_2_20 vsX8_913_1 (Nat.le_refl _) (Nat.le_of_ble_eq_true rfl) (Nat.le_of_ble_eq_true rfl) rfl k
theorem sX8_get_2_23 {E : zE} {d : Nat} {Q : zO → zM → Prop} (M : zM) (l1 : Int32) (l2 : Int32) (s0 : Int32) (s1 : Int32) (k : Zm E YX8_textOf d M (zargs 0 [vr (some (97, 1, 0)), vi s1, vi s0]) 0 [] (zma E YX8_get_2 (d + 1) [(0, vr (some (97, 1, 0))), (1, vi l1), (2, vi l2)] 23 3 [] Q)) : Zm E YX8_get_2 (d + 1) M [(0, vr (some (97, 1, 0))), (1, vi l1), (2, vi l2)] 23 [vi s0, vi s1, vr (some (97, 1, 0))] Q := by
  exact zm_callV (as := [vi s1, vi s0]) (st := []) dX8_get_2_23 vsX8_969_1 (Nat.le_refl _) (Nat.le_of_ble_eq_true rfl) (Nat.le_of_ble_eq_true rfl) rfl k
theorem sX8_get_2_26 {E : zE} {d : Nat} {Q : zO → zM → Prop} (M : zM) (l1 : Int32) (l2 : Int32) (s0 : Int32) (k : if (gi M 97 75) = 0 then (if (1 : Int32) < l1 then (if l1 = (7 : Int32) then (Zm E YX8_read_2 d M (zargs 0 [vr (some (97, 1, 0)), vi l2, vi s0]) 0 [] (zma E YX8_get_2 (d + 1) [(0, vr (some (97, 1, 0)))] 59 3 [] Q)) else (if l1 = (6 : Int32) then (if s0 = 0 then (vp_in l2 400 ∧ (Zm E YX8_give_2 d M (zargs 0 [vr (some (97, 1, 0)), vi (5 : Int32), vi (gi M 101 (l2).toNatClampNeg)]) 0 [] (zma E YX8_get_2 (d + 1) [(0, vr (some (97, 1, 0)))] 94 3 [] Q))) else (Zm E YX8_read_2 d M (zargs 0 [vr (some (97, 1, 0)), vi (4 : Int32), vi s0]) 0 [] (zma E YX8_get_2 (d + 1) [(0, vr (some (97, 1, 0)))] 103 3 [] Q))) else (Zm E YX8_give_2 d M (zargs 0 [vr (some (97, 1, 0)), vi (0 : Int32), vi (0 : Int32)]) 0 [] (zma E YX8_get_2 (d + 1) [(0, vr (some (97, 1, 0)))] 76 3 [] Q)))) else (Zm E YX8_error d M (zargs 0 [vr (some (97, 1, 0)), vi (6 : Int32)]) 0 [] (zma E YX8_get_2 (d + 1) [] 43 3 [] Q))) else (Q (.inl none) M)) : Zm E YX8_get_2 (d + 1) M [(0, vr (some (97, 1, 0))), (1, vi l1), (2, vi l2)] 26 [vi s0] Q := by
  refine Zm.l (fun _ _ k_ => z_ist_n dX8_get_2_26 rfl (by decide) (lv' := [(0, vr (some (97, 1, 0))), (1, vi l1), (2, vi l2), (3, vi s0)]) rfl k_) ?_
  refine Zm.l (fun _ _ k_ => z_aload_n dX8_get_2_27 rfl rfl k_) ?_
  refine zm_geti dX8_get_2_28 fsX8_794_1 (by decide) (by decide) ?_
  refine Zm.br (fun _ _ k1_ k2_ => z_if_eq (tgt := 35) dX8_get_2_31 rfl k1_ k2_) (fun h_ => ?_) (fun h_ => ?_)
  · have k := zit h_ k
    refine Zm.l (fun _ _ k_ => z_iload_n dX8_get_2_35 rfl rfl k_) ?_
    refine Zm.l (fun _ _ k_ => z_iconst (v := 1) dX8_get_2_36 rfl k_) ?_
    refine Zm.br (fun _ _ k1_ k2_ => z_icmp_gt (tgt := 47) dX8_get_2_37 rfl k1_ k2_) (fun h_ => ?_) (fun h_ => ?_)
    · have k := zit h_ k
      refine Zm.l (fun _ _ k_ => z_iconst (v := 0) dX8_get_2_47 rfl k_) ?_
      refine Zm.l (fun _ _ k_ => z_ist dX8_get_2_48 (by decide) (lv' := [(0, vr (some (97, 1, 0))), (1, vi l1), (2, vi l2), (3, vi s0), (4, vi (0 : Int32))]) rfl k_) ?_
      refine Zm.l (fun _ _ k_ => z_iload_n dX8_get_2_50 rfl rfl k_) ?_
      refine Zm.l (fun _ _ k_ => z_bipush (v := 7) dX8_get_2_51 rfl k_) ?_
      refine Zm.brn (fun _ _ k1_ k2_ => z_icmp_ne (tgt := 67) dX8_get_2_53 rfl k1_ k2_) (fun h_ => ?_) (fun h_ => ?_)
      · have k := zif h_ k
        refine Zm.l (fun _ _ k_ => z_iload_n dX8_get_2_67 rfl rfl k_) ?_
        refine Zm.l (fun _ _ k_ => z_bipush (v := 6) dX8_get_2_68 rfl k_) ?_
        refine Zm.br (fun _ _ k1_ k2_ => z_icmp_eq (tgt := 82) dX8_get_2_70 rfl k1_ k2_) (fun h_ => ?_) (fun h_ => ?_)
        · have k := zit h_ k
          refine Zm.l (fun _ _ k_ => z_iload_n dX8_get_2_82 rfl rfl k_) ?_
          refine Zm.brn (fun _ _ k1_ k2_ => z_if_ne (tgt := 100) dX8_get_2_83 rfl k1_ k2_) (fun h_ => ?_) (fun h_ => ?_)
          · have k := zif h_ k
            refine Zm.l (fun _ _ k_ => z_aload_n dX8_get_2_100 rfl rfl k_) ?_
            refine Zm.l (fun _ _ k_ => z_iconst (v := 4) dX8_get_2_101 rfl k_) ?_
            refine Zm.l (fun _ _ k_ => z_iload_n dX8_get_2_102 rfl rfl k_) ?_
            refine Zm.pick [0] rfl ?_
            exact zm_callV (as := [vi (4 : Int32), vi s0]) (st := []) dX8_get_2_103 vsX8_972_1 (Nat.le_refl _) (Nat.le_of_ble_eq_true rfl) (Nat.le_of_ble_eq_true rfl) rfl k
          · have k := zit h_ k
            refine Zm.l (fun _ _ k_ => z_aload_n dX8_get_2_86 rfl rfl k_) ?_
            refine Zm.l (fun _ _ k_ => z_iconst (v := 5) dX8_get_2_87 rfl k_) ?_
            refine Zm.l (fun _ _ k_ => z_aload_n dX8_get_2_88 rfl rfl k_) ?_
            refine zm_getr 3 dX8_get_2_89 fsX8_20_1 rfl ?_
            refine Zm.l (fun _ _ k_ => z_iload_n dX8_get_2_92 rfl rfl k_) ?_
            obtain ⟨b_, k⟩ := k
            refine zm_iald dX8_get_2_93 b_ (by decide) (by decide) ?_
            refine Zm.pick [0] rfl ?_
            exact zm_callV (as := [vi (5 : Int32), vi (gi M 101 (l2).toNatClampNeg)]) (st := []) dX8_get_2_94 vsX8_822_1 (Nat.le_refl _) (Nat.le_of_ble_eq_true rfl) (Nat.le_of_ble_eq_true rfl) rfl k
        · have k := zif h_ k
          refine Zm.l (fun _ _ k_ => z_aload_n dX8_get_2_73 rfl rfl k_) ?_
          refine Zm.l (fun _ _ k_ => z_iconst (v := 0) dX8_get_2_74 rfl k_) ?_
          refine Zm.l (fun _ _ k_ => z_iconst (v := 0) dX8_get_2_75 rfl k_) ?_
          refine Zm.pick [0] rfl ?_
          exact zm_callV (as := [vi (0 : Int32), vi (0 : Int32)]) (st := []) dX8_get_2_76 vsX8_822_1 (Nat.le_refl _) (Nat.le_of_ble_eq_true rfl) (Nat.le_of_ble_eq_true rfl) rfl k
      · have k := zit h_ k
        refine Zm.l (fun _ _ k_ => z_aload_n dX8_get_2_56 rfl rfl k_) ?_
        refine Zm.l (fun _ _ k_ => z_iload_n dX8_get_2_57 rfl rfl k_) ?_
        refine Zm.l (fun _ _ k_ => z_iload_n dX8_get_2_58 rfl rfl k_) ?_
        refine Zm.pick [0] rfl ?_
        exact zm_callV (as := [vi l2, vi s0]) (st := []) dX8_get_2_59 vsX8_972_1 (Nat.le_refl _) (Nat.le_of_ble_eq_true rfl) (Nat.le_of_ble_eq_true rfl) rfl k
    · have k := zif h_ k
      refine Zm.l (fun _ _ k_ => z_aload_n dX8_get_2_40 rfl rfl k_) ?_
      refine Zm.l (fun _ _ k_ => z_bipush (v := 6) dX8_get_2_41 rfl k_) ?_
      refine Zm.pick [] rfl ?_
      exact zm_callV (as := [vi (6 : Int32)]) (st := []) dX8_get_2_43 vsX8_966_1 (Nat.le_refl _) (Nat.le_of_ble_eq_true rfl) (Nat.le_of_ble_eq_true rfl) rfl k
  · have k := zif h_ k
    exact zm_vret dX8_get_2_34 rfl k
theorem sX8_get_2_46 {E : zE} {d : Nat} {Q : zO → zM → Prop} (M : zM)  (k : Q (.inl none) M) : Zm E YX8_get_2 (d + 1) M [] 46 [] Q := by
  exact zm_vret dX8_get_2_46 rfl k
theorem sX8_get_2_62 {E : zE} {d : Nat} {Q : zO → zM → Prop} (M : zM) (s0 : Int32) (k : Zm E YX8_gives d M (zargs 0 [vr (some (97, 1, 0)), vi (2 : Int32)]) 0 [] (zma E YX8_get_2 (d + 1) [] 110 3 [] Q)) : Zm E YX8_get_2 (d + 1) M [(0, vr (some (97, 1, 0)))] 62 [vi s0] Q := by
  refine Zm.l (fun _ _ k_ => z_ist dX8_get_2_62 (by decide) (lv' := [(0, vr (some (97, 1, 0))), (4, vi s0)]) rfl k_) ?_
  refine Zm.l (fun _ _ k_ => z_goto (tgt := 108) dX8_get_2_64 rfl k_) ?_
  refine Zm.l (fun _ _ k_ => z_aload_n dX8_get_2_108 rfl rfl k_) ?_
  refine Zm.l (fun _ _ k_ => z_iconst (v := 2) dX8_get_2_109 rfl k_) ?_
  refine Zm.pick [] rfl ?_
  exact zm_callV (as := [vi (2 : Int32)]) (st := []) dX8_get_2_110 vsX8_904_1 (Nat.le_refl _) (Nat.le_of_ble_eq_true rfl) (Nat.le_of_ble_eq_true rfl) rfl k
theorem sX8_get_2_79 {E : zE} {d : Nat} {Q : zO → zM → Prop} (M : zM)  (k : Zm E YX8_gives d M (zargs 0 [vr (some (97, 1, 0)), vi (2 : Int32)]) 0 [] (zma E YX8_get_2 (d + 1) [] 110 3 [] Q)) : Zm E YX8_get_2 (d + 1) M [(0, vr (some (97, 1, 0)))] 79 [] Q := by
  refine Zm.l (fun _ _ k_ => z_goto (tgt := 108) dX8_get_2_79 rfl k_) ?_
  refine Zm.l (fun _ _ k_ => z_aload_n dX8_get_2_108 rfl rfl k_) ?_
  refine Zm.l (fun _ _ k_ => z_iconst (v := 2) dX8_get_2_109 rfl k_) ?_
  refine Zm.pick [] rfl ?_
  exact zm_callV (as := [vi (2 : Int32)]) (st := []) dX8_get_2_110 vsX8_904_1 (Nat.le_refl _) (Nat.le_of_ble_eq_true rfl) (Nat.le_of_ble_eq_true rfl) rfl k
theorem sX8_get_2_97 {E : zE} {d : Nat} {Q : zO → zM → Prop} (M : zM)  (k : Zm E YX8_gives d M (zargs 0 [vr (some (97, 1, 0)), vi (2 : Int32)]) 0 [] (zma E YX8_get_2 (d + 1) [] 110 3 [] Q)) : Zm E YX8_get_2 (d + 1) M [(0, vr (some (97, 1, 0)))] 97 [] Q := by
  refine Zm.l (fun _ _ k_ => z_goto (tgt := 108) dX8_get_2_97 rfl k_) ?_
  refine Zm.l (fun _ _ k_ => z_aload_n dX8_get_2_108 rfl rfl k_) ?_
  refine Zm.l (fun _ _ k_ => z_iconst (v := 2) dX8_get_2_109 rfl k_) ?_
  refine Zm.pick [] rfl ?_
  exact zm_callV (as := [vi (2 : Int32)]) (st := []) dX8_get_2_110 vsX8_904_1 (Nat.le_refl _) (Nat.le_of_ble_eq_true rfl) (Nat.le_of_ble_eq_true rfl) rfl k
theorem sX8_get_2_106 {E : zE} {d : Nat} {Q : zO → zM → Prop} (M : zM) (s0 : Int32) (k : Zm E YX8_gives d M (zargs 0 [vr (some (97, 1, 0)), vi (2 : Int32)]) 0 [] (zma E YX8_get_2 (d + 1) [] 110 3 [] Q)) : Zm E YX8_get_2 (d + 1) M [(0, vr (some (97, 1, 0)))] 106 [vi s0] Q := by
  refine Zm.l (fun _ _ k_ => z_ist dX8_get_2_106 (by decide) (lv' := [(0, vr (some (97, 1, 0))), (4, vi s0)]) rfl k_) ?_
  refine Zm.l (fun _ _ k_ => z_aload_n dX8_get_2_108 rfl rfl k_) ?_
  refine Zm.l (fun _ _ k_ => z_iconst (v := 2) dX8_get_2_109 rfl k_) ?_
  refine Zm.pick [] rfl ?_
  exact zm_callV (as := [vi (2 : Int32)]) (st := []) dX8_get_2_110 vsX8_904_1 (Nat.le_refl _) (Nat.le_of_ble_eq_true rfl) (Nat.le_of_ble_eq_true rfl) rfl k
theorem sX8_get_2_113 {E : zE} {d : Nat} {Q : zO → zM → Prop} (M : zM)  (k : Q (.inl none) M) : Zm E YX8_get_2 (d + 1) M [] 113 [] Q := by
  exact zm_vret dX8_get_2_113 rfl k
/-! ScriptTypesModel.textOf(II)I -/
theorem bX8_textOf_0 : zdec cX8_textOf 0 [(0, .iload_n 1, 1), (1, .bipush 6, 2), (3, .if_icmp .ne 5, 3), (6, .iload_n 2, 1), (7, .ireturn, 1), (8, .aload_n 0, 1), (9, .iconst 0, 1), (10, .putfield 299, 3), (13, .aload_n 0, 1), (14, .iload_n 1, 1), (15, .iload_n 2, 1), (16, .invokevirtual 800, 3), (19, .aload_n 0, 1), (20, .invokevirtual 803, 3), (23, .ireturn, 1)] = true := by decide +kernel
theorem dX8_textOf_0 : decode cX8_textOf 0 = .ok (.iload_n 1, 1) := zdec_at bX8_textOf_0 0 rfl
theorem dX8_textOf_1 : decode cX8_textOf 1 = .ok (.bipush 6, 2) := zdec_at bX8_textOf_0 1 rfl
theorem dX8_textOf_3 : decode cX8_textOf 3 = .ok (.if_icmp .ne 5, 3) := zdec_at bX8_textOf_0 2 rfl
theorem dX8_textOf_6 : decode cX8_textOf 6 = .ok (.iload_n 2, 1) := zdec_at bX8_textOf_0 3 rfl
theorem dX8_textOf_7 : decode cX8_textOf 7 = .ok (.ireturn, 1) := zdec_at bX8_textOf_0 4 rfl
theorem dX8_textOf_8 : decode cX8_textOf 8 = .ok (.aload_n 0, 1) := zdec_at bX8_textOf_0 5 rfl
theorem dX8_textOf_9 : decode cX8_textOf 9 = .ok (.iconst 0, 1) := zdec_at bX8_textOf_0 6 rfl
theorem dX8_textOf_10 : decode cX8_textOf 10 = .ok (.putfield 299, 3) := zdec_at bX8_textOf_0 7 rfl
theorem dX8_textOf_13 : decode cX8_textOf 13 = .ok (.aload_n 0, 1) := zdec_at bX8_textOf_0 8 rfl
theorem dX8_textOf_14 : decode cX8_textOf 14 = .ok (.iload_n 1, 1) := zdec_at bX8_textOf_0 9 rfl
theorem dX8_textOf_15 : decode cX8_textOf 15 = .ok (.iload_n 2, 1) := zdec_at bX8_textOf_0 10 rfl
theorem dX8_textOf_16 : decode cX8_textOf 16 = .ok (.invokevirtual 800, 3) := zdec_at bX8_textOf_0 11 rfl
theorem dX8_textOf_19 : decode cX8_textOf 19 = .ok (.aload_n 0, 1) := zdec_at bX8_textOf_0 12 rfl
theorem dX8_textOf_20 : decode cX8_textOf 20 = .ok (.invokevirtual 803, 3) := zdec_at bX8_textOf_0 13 rfl
theorem dX8_textOf_23 : decode cX8_textOf 23 = .ok (.ireturn, 1) := zdec_at bX8_textOf_0 14 rfl
theorem sX8_textOf_0 {E : zE} {d : Nat} {Q : zO → zM → Prop} (M : zM) (l1 : Int32) (l2 : Int32) (k : if l1 = (6 : Int32) then (Q (.inl (some (vi l2))) M) else (Zm E YX8_putText d (si M 97 11 (0 : Int32)) (zargs 0 [vr (some (97, 1, 0)), vi l1, vi l2]) 0 [] (zma E YX8_textOf (d + 1) [(0, vr (some (97, 1, 0)))] 16 3 [] Q))) : Zm E YX8_textOf (d + 1) M [(0, vr (some (97, 1, 0))), (1, vi l1), (2, vi l2)] 0 [] Q := by
  refine Zm.l (fun _ _ k_ => z_iload_n dX8_textOf_0 rfl rfl k_) ?_
  refine Zm.l (fun _ _ k_ => z_bipush (v := 6) dX8_textOf_1 rfl k_) ?_
  refine Zm.brn (fun _ _ k1_ k2_ => z_icmp_ne (tgt := 8) dX8_textOf_3 rfl k1_ k2_) (fun h_ => ?_) (fun h_ => ?_)
  · have k := zif h_ k
    refine Zm.l (fun _ _ k_ => z_aload_n dX8_textOf_8 rfl rfl k_) ?_
    refine Zm.l (fun _ _ k_ => z_iconst (v := 0) dX8_textOf_9 rfl k_) ?_
    refine zm_puti (by decide) (by decide) dX8_textOf_10 (zfwN.w fwX8_299_1) rfl ⟨rfl, rfl⟩ ?_
    refine Zm.l (fun _ _ k_ => z_aload_n dX8_textOf_13 rfl rfl k_) ?_
    refine Zm.l (fun _ _ k_ => z_iload_n dX8_textOf_14 rfl rfl k_) ?_
    refine Zm.l (fun _ _ k_ => z_iload_n dX8_textOf_15 rfl rfl k_) ?_
    refine Zm.pick [0] rfl ?_
    exact zm_callV (as := [vi l1, vi l2]) (st := []) dX8_textOf_16 vsX8_800_1 (Nat.le_refl _) (Nat.le_of_ble_eq_true rfl) (Nat.le_of_ble_eq_true rfl) rfl k
  · have k := zit h_ k
    refine Zm.l (fun _ _ k_ => z_iload_n dX8_textOf_6 rfl rfl k_) ?_
    exact zm_iret dX8_textOf_7 rfl rfl k
theorem sX8_textOf_19 {E : zE} {d : Nat} {Q : zO → zM → Prop} (M : zM)  (k : Zm E YX8_made d M (zargs 0 [vr (some (97, 1, 0))]) 0 [] (zma E YX8_textOf (d + 1) [] 20 3 [] Q)) : Zm E YX8_textOf (d + 1) M [(0, vr (some (97, 1, 0)))] 19 [] Q := by
  refine Zm.l (fun _ _ k_ => z_aload_n dX8_textOf_19 rfl rfl k_) ?_
  refine Zm.pick [] rfl ?_
  exact zm_callV (as := []) (st := []) dX8_textOf_20 vsX8_803_1 (Nat.le_refl _) (Nat.le_of_ble_eq_true rfl) (Nat.le_of_ble_eq_true rfl) rfl k
theorem sX8_textOf_23 {E : zE} {d : Nat} {Q : zO → zM → Prop} (M : zM) (s0 : Int32) (k : Q (.inl (some (vi s0))) M) : Zm E YX8_textOf (d + 1) M [] 23 [vi s0] Q := by
  exact zm_iret dX8_textOf_23 rfl rfl k
/-! ScriptTypesModel.putText(II)V -/
theorem bX8_putText_0 : zdec cX8_putText 0 [(0, .iload_n 1, 1)] = true := by decide +kernel
theorem dX8_putText_0 : decode cX8_putText 0 = .ok (.iload_n 1, 1) := zdec_at bX8_putText_0 0 rfl
theorem dX8_putText_1 : decode cX8_putText 1 = .ok (.tableswitch 104 0 6 #[43, 52, 61, 70, 79, 88, 96], 43) := by decide +kernel
theorem bX8_putText_44 : zdec cX8_putText 44 [(44, .aload_n 0, 1), (45, .bipush 19, 2), (47, .invokevirtual 797, 3), (50, .goto 61, 3), (53, .aload_n 0, 1), (54, .bipush 25, 2), (56, .invokevirtual 797, 3), (59, .goto 52, 3), (62, .aload_n 0, 1), (63, .bipush 26, 2), (65, .invokevirtual 797, 3), (68, .goto 43, 3), (71, .aload_n 0, 1), (72, .bipush 27, 2), (74, .invokevirtual 797, 3), (77, .goto 34, 3)] = true := by decide +kernel
theorem dX8_putText_44 : decode cX8_putText 44 = .ok (.aload_n 0, 1) := zdec_at bX8_putText_44 0 rfl
theorem dX8_putText_45 : decode cX8_putText 45 = .ok (.bipush 19, 2) := zdec_at bX8_putText_44 1 rfl
theorem dX8_putText_47 : decode cX8_putText 47 = .ok (.invokevirtual 797, 3) := zdec_at bX8_putText_44 2 rfl
theorem dX8_putText_50 : decode cX8_putText 50 = .ok (.goto 61, 3) := zdec_at bX8_putText_44 3 rfl
theorem dX8_putText_53 : decode cX8_putText 53 = .ok (.aload_n 0, 1) := zdec_at bX8_putText_44 4 rfl
theorem dX8_putText_54 : decode cX8_putText 54 = .ok (.bipush 25, 2) := zdec_at bX8_putText_44 5 rfl
theorem dX8_putText_56 : decode cX8_putText 56 = .ok (.invokevirtual 797, 3) := zdec_at bX8_putText_44 6 rfl
theorem dX8_putText_59 : decode cX8_putText 59 = .ok (.goto 52, 3) := zdec_at bX8_putText_44 7 rfl
theorem dX8_putText_62 : decode cX8_putText 62 = .ok (.aload_n 0, 1) := zdec_at bX8_putText_44 8 rfl
theorem dX8_putText_63 : decode cX8_putText 63 = .ok (.bipush 26, 2) := zdec_at bX8_putText_44 9 rfl
theorem dX8_putText_65 : decode cX8_putText 65 = .ok (.invokevirtual 797, 3) := zdec_at bX8_putText_44 10 rfl
theorem dX8_putText_68 : decode cX8_putText 68 = .ok (.goto 43, 3) := zdec_at bX8_putText_44 11 rfl
theorem dX8_putText_71 : decode cX8_putText 71 = .ok (.aload_n 0, 1) := zdec_at bX8_putText_44 12 rfl
theorem dX8_putText_72 : decode cX8_putText 72 = .ok (.bipush 27, 2) := zdec_at bX8_putText_44 13 rfl
theorem dX8_putText_74 : decode cX8_putText 74 = .ok (.invokevirtual 797, 3) := zdec_at bX8_putText_44 14 rfl
theorem dX8_putText_77 : decode cX8_putText 77 = .ok (.goto 34, 3) := zdec_at bX8_putText_44 15 rfl
theorem bX8_putText_80 : zdec cX8_putText 80 [(80, .aload_n 0, 1), (81, .bipush 28, 2), (83, .invokevirtual 797, 3), (86, .goto 25, 3), (89, .aload_n 0, 1), (90, .iload_n 2, 1), (91, .invokevirtual 410, 3), (94, .goto 17, 3), (97, .aload_n 0, 1), (98, .iload_n 2, 1), (99, .invokevirtual 797, 3), (102, .goto 9, 3), (105, .aload_n 0, 1), (106, .bipush 29, 2), (108, .invokevirtual 797, 3), (111, .return_, 1)] = true := by decide +kernel
theorem dX8_putText_80 : decode cX8_putText 80 = .ok (.aload_n 0, 1) := zdec_at bX8_putText_80 0 rfl
theorem dX8_putText_81 : decode cX8_putText 81 = .ok (.bipush 28, 2) := zdec_at bX8_putText_80 1 rfl
theorem dX8_putText_83 : decode cX8_putText 83 = .ok (.invokevirtual 797, 3) := zdec_at bX8_putText_80 2 rfl
theorem dX8_putText_86 : decode cX8_putText 86 = .ok (.goto 25, 3) := zdec_at bX8_putText_80 3 rfl
theorem dX8_putText_89 : decode cX8_putText 89 = .ok (.aload_n 0, 1) := zdec_at bX8_putText_80 4 rfl
theorem dX8_putText_90 : decode cX8_putText 90 = .ok (.iload_n 2, 1) := zdec_at bX8_putText_80 5 rfl
theorem dX8_putText_91 : decode cX8_putText 91 = .ok (.invokevirtual 410, 3) := zdec_at bX8_putText_80 6 rfl
theorem dX8_putText_94 : decode cX8_putText 94 = .ok (.goto 17, 3) := zdec_at bX8_putText_80 7 rfl
theorem dX8_putText_97 : decode cX8_putText 97 = .ok (.aload_n 0, 1) := zdec_at bX8_putText_80 8 rfl
theorem dX8_putText_98 : decode cX8_putText 98 = .ok (.iload_n 2, 1) := zdec_at bX8_putText_80 9 rfl
theorem dX8_putText_99 : decode cX8_putText 99 = .ok (.invokevirtual 797, 3) := zdec_at bX8_putText_80 10 rfl
theorem dX8_putText_102 : decode cX8_putText 102 = .ok (.goto 9, 3) := zdec_at bX8_putText_80 11 rfl
theorem dX8_putText_105 : decode cX8_putText 105 = .ok (.aload_n 0, 1) := zdec_at bX8_putText_80 12 rfl
theorem dX8_putText_106 : decode cX8_putText 106 = .ok (.bipush 29, 2) := zdec_at bX8_putText_80 13 rfl
theorem dX8_putText_108 : decode cX8_putText 108 = .ok (.invokevirtual 797, 3) := zdec_at bX8_putText_80 14 rfl
theorem dX8_putText_111 : decode cX8_putText 111 = .ok (.return_, 1) := zdec_at bX8_putText_80 15 rfl
theorem sX8_putText_0 {E : zE} {d : Nat} {Q : zO → zM → Prop} (M : zM) (l1 : Int32) (l2 : Int32) (k : if l1 = 0 then (Zm E YX8_putString d M (zargs 0 [vr (some (97, 1, 0)), vi (19 : Int32)]) 0 [] (zma E YX8_putText (d + 1) [] 47 3 [] Q)) else (if l1 = 1 then (Zm E YX8_putString d M (zargs 0 [vr (some (97, 1, 0)), vi (25 : Int32)]) 0 [] (zma E YX8_putText (d + 1) [] 56 3 [] Q)) else (if l1 = 2 then (Zm E YX8_putString d M (zargs 0 [vr (some (97, 1, 0)), vi (26 : Int32)]) 0 [] (zma E YX8_putText (d + 1) [] 65 3 [] Q)) else (if l1 = 3 then (Zm E YX8_putString d M (zargs 0 [vr (some (97, 1, 0)), vi (27 : Int32)]) 0 [] (zma E YX8_putText (d + 1) [] 74 3 [] Q)) else (if l1 = 4 then (Zm E YX8_putString d M (zargs 0 [vr (some (97, 1, 0)), vi (28 : Int32)]) 0 [] (zma E YX8_putText (d + 1) [] 83 3 [] Q)) else (if l1 = 5 then (Zm E YX8_putNumber d M (zargs 0 [vr (some (97, 1, 0)), vi l2]) 0 [] (zma E YX8_putText (d + 1) [] 91 3 [] Q)) else (if l1 = 6 then (Zm E YX8_putString d M (zargs 0 [vr (some (97, 1, 0)), vi l2]) 0 [] (zma E YX8_putText (d + 1) [] 99 3 [] Q)) else (Zm E YX8_putString d M (zargs 0 [vr (some (97, 1, 0)), vi (29 : Int32)]) 0 [] (zma E YX8_putText (d + 1) [] 108 3 [] Q))))))))) : Zm E YX8_putText (d + 1) M [(0, vr (some (97, 1, 0))), (1, vi l1), (2, vi l2)] 0 [] Q := by
  refine Zm.l (fun _ _ k_ => z_iload_n dX8_putText_0 rfl rfl k_) ?_
  by_cases h0_ : l1 = 0
  · have k := zit h0_ k
    refine Zm.l (fun _ _ k_ => z_tableIn (off := 43) (tgt := 44) dX8_putText_1 (by rw [h0_]; decide) (by rw [h0_]; decide) (by rw [h0_]; rfl) rfl k_) ?_
    refine Zm.l (fun _ _ k_ => z_aload_n dX8_putText_44 rfl rfl k_) ?_
    refine Zm.l (fun _ _ k_ => z_bipush (v := 19) dX8_putText_45 rfl k_) ?_
    refine Zm.pick [] rfl ?_
    exact zm_callV (as := [vi (19 : Int32)]) (st := []) dX8_putText_47 vsX8_797_1 (Nat.le_refl _) (Nat.le_of_ble_eq_true rfl) (Nat.le_of_ble_eq_true rfl) rfl k
  · have k := zif h0_ k
    by_cases h1_ : l1 = 1
    · have k := zit h1_ k
      refine Zm.l (fun _ _ k_ => z_tableIn (off := 52) (tgt := 53) dX8_putText_1 (by rw [h1_]; decide) (by rw [h1_]; decide) (by rw [h1_]; rfl) rfl k_) ?_
      refine Zm.l (fun _ _ k_ => z_aload_n dX8_putText_53 rfl rfl k_) ?_
      refine Zm.l (fun _ _ k_ => z_bipush (v := 25) dX8_putText_54 rfl k_) ?_
      refine Zm.pick [] rfl ?_
      exact zm_callV (as := [vi (25 : Int32)]) (st := []) dX8_putText_56 vsX8_797_1 (Nat.le_refl _) (Nat.le_of_ble_eq_true rfl) (Nat.le_of_ble_eq_true rfl) rfl k
    · have k := zif h1_ k
      by_cases h2_ : l1 = 2
      · have k := zit h2_ k
        refine Zm.l (fun _ _ k_ => z_tableIn (off := 61) (tgt := 62) dX8_putText_1 (by rw [h2_]; decide) (by rw [h2_]; decide) (by rw [h2_]; rfl) rfl k_) ?_
        refine Zm.l (fun _ _ k_ => z_aload_n dX8_putText_62 rfl rfl k_) ?_
        refine Zm.l (fun _ _ k_ => z_bipush (v := 26) dX8_putText_63 rfl k_) ?_
        refine Zm.pick [] rfl ?_
        exact zm_callV (as := [vi (26 : Int32)]) (st := []) dX8_putText_65 vsX8_797_1 (Nat.le_refl _) (Nat.le_of_ble_eq_true rfl) (Nat.le_of_ble_eq_true rfl) rfl k
      · have k := zif h2_ k
        by_cases h3_ : l1 = 3
        · have k := zit h3_ k
          refine Zm.l (fun _ _ k_ => z_tableIn (off := 70) (tgt := 71) dX8_putText_1 (by rw [h3_]; decide) (by rw [h3_]; decide) (by rw [h3_]; rfl) rfl k_) ?_
          refine Zm.l (fun _ _ k_ => z_aload_n dX8_putText_71 rfl rfl k_) ?_
          refine Zm.l (fun _ _ k_ => z_bipush (v := 27) dX8_putText_72 rfl k_) ?_
          refine Zm.pick [] rfl ?_
          exact zm_callV (as := [vi (27 : Int32)]) (st := []) dX8_putText_74 vsX8_797_1 (Nat.le_refl _) (Nat.le_of_ble_eq_true rfl) (Nat.le_of_ble_eq_true rfl) rfl k
        · have k := zif h3_ k
          by_cases h4_ : l1 = 4
          · have k := zit h4_ k
            refine Zm.l (fun _ _ k_ => z_tableIn (off := 79) (tgt := 80) dX8_putText_1 (by rw [h4_]; decide) (by rw [h4_]; decide) (by rw [h4_]; rfl) rfl k_) ?_
            refine Zm.l (fun _ _ k_ => z_aload_n dX8_putText_80 rfl rfl k_) ?_
            refine Zm.l (fun _ _ k_ => z_bipush (v := 28) dX8_putText_81 rfl k_) ?_
            refine Zm.pick [] rfl ?_
            exact zm_callV (as := [vi (28 : Int32)]) (st := []) dX8_putText_83 vsX8_797_1 (Nat.le_refl _) (Nat.le_of_ble_eq_true rfl) (Nat.le_of_ble_eq_true rfl) rfl k
          · have k := zif h4_ k
            by_cases h5_ : l1 = 5
            · have k := zit h5_ k
              refine Zm.l (fun _ _ k_ => z_tableIn (off := 88) (tgt := 89) dX8_putText_1 (by rw [h5_]; decide) (by rw [h5_]; decide) (by rw [h5_]; rfl) rfl k_) ?_
              refine Zm.l (fun _ _ k_ => z_aload_n dX8_putText_89 rfl rfl k_) ?_
              refine Zm.l (fun _ _ k_ => z_iload_n dX8_putText_90 rfl rfl k_) ?_
              refine Zm.pick [] rfl ?_
              exact zm_callV (as := [vi l2]) (st := []) dX8_putText_91 vsX8_410_1 (Nat.le_refl _) (Nat.le_of_ble_eq_true rfl) (Nat.le_of_ble_eq_true rfl) rfl k
            · have k := zif h5_ k
              by_cases h6_ : l1 = 6
              · have k := zit h6_ k
                refine Zm.l (fun _ _ k_ => z_tableIn (off := 96) (tgt := 97) dX8_putText_1 (by rw [h6_]; decide) (by rw [h6_]; decide) (by rw [h6_]; rfl) rfl k_) ?_
                refine Zm.l (fun _ _ k_ => z_aload_n dX8_putText_97 rfl rfl k_) ?_
                refine Zm.l (fun _ _ k_ => z_iload_n dX8_putText_98 rfl rfl k_) ?_
                refine Zm.pick [] rfl ?_
                exact zm_callV (as := [vi l2]) (st := []) dX8_putText_99 vsX8_797_1 (Nat.le_refl _) (Nat.le_of_ble_eq_true rfl) (Nat.le_of_ble_eq_true rfl) rfl k
              · have k := zif h6_ k
                refine Zm.l (fun _ _ k_ => z_tout (tgt := 105) [0, 1, 2, 3, 4, 5, 6] (by decide) dX8_putText_1 (zall_1 h0_ (zall_1 h1_ (zall_1 h2_ (zall_1 h3_ (zall_1 h4_ (zall_1 h5_ (zall_1 h6_ zall_0))))))) rfl k_) ?_
                refine Zm.l (fun _ _ k_ => z_aload_n dX8_putText_105 rfl rfl k_) ?_
                refine Zm.l (fun _ _ k_ => z_bipush (v := 29) dX8_putText_106 rfl k_) ?_
                refine Zm.pick [] rfl ?_
                exact zm_callV (as := [vi (29 : Int32)]) (st := []) dX8_putText_108 vsX8_797_1 (Nat.le_refl _) (Nat.le_of_ble_eq_true rfl) (Nat.le_of_ble_eq_true rfl) rfl k
theorem sX8_putText_50 {E : zE} {d : Nat} {Q : zO → zM → Prop} (M : zM)  (k : Zm E YX8_putText (d + 1) M [] 111 [] Q) : Zm E YX8_putText (d + 1) M [] 50 [] Q := by
  refine Zm.l (fun _ _ k_ => z_goto (tgt := 111) dX8_putText_50 rfl k_) ?_
  exact k
theorem sX8_putText_59 {E : zE} {d : Nat} {Q : zO → zM → Prop} (M : zM)  (k : Zm E YX8_putText (d + 1) M [] 111 [] Q) : Zm E YX8_putText (d + 1) M [] 59 [] Q := by
  refine Zm.l (fun _ _ k_ => z_goto (tgt := 111) dX8_putText_59 rfl k_) ?_
  exact k
theorem sX8_putText_68 {E : zE} {d : Nat} {Q : zO → zM → Prop} (M : zM)  (k : Zm E YX8_putText (d + 1) M [] 111 [] Q) : Zm E YX8_putText (d + 1) M [] 68 [] Q := by
  refine Zm.l (fun _ _ k_ => z_goto (tgt := 111) dX8_putText_68 rfl k_) ?_
  exact k
theorem sX8_putText_77 {E : zE} {d : Nat} {Q : zO → zM → Prop} (M : zM)  (k : Zm E YX8_putText (d + 1) M [] 111 [] Q) : Zm E YX8_putText (d + 1) M [] 77 [] Q := by
  refine Zm.l (fun _ _ k_ => z_goto (tgt := 111) dX8_putText_77 rfl k_) ?_
  exact k
theorem sX8_putText_86 {E : zE} {d : Nat} {Q : zO → zM → Prop} (M : zM)  (k : Zm E YX8_putText (d + 1) M [] 111 [] Q) : Zm E YX8_putText (d + 1) M [] 86 [] Q := by
  refine Zm.l (fun _ _ k_ => z_goto (tgt := 111) dX8_putText_86 rfl k_) ?_
  exact k
theorem sX8_putText_94 {E : zE} {d : Nat} {Q : zO → zM → Prop} (M : zM)  (k : Zm E YX8_putText (d + 1) M [] 111 [] Q) : Zm E YX8_putText (d + 1) M [] 94 [] Q := by
  refine Zm.l (fun _ _ k_ => z_goto (tgt := 111) dX8_putText_94 rfl k_) ?_
  exact k
theorem sX8_putText_102 {E : zE} {d : Nat} {Q : zO → zM → Prop} (M : zM)  (k : Zm E YX8_putText (d + 1) M [] 111 [] Q) : Zm E YX8_putText (d + 1) M [] 102 [] Q := by
  refine Zm.l (fun _ _ k_ => z_goto (tgt := 111) dX8_putText_102 rfl k_) ?_
  exact k
theorem sX8_putText_111 {E : zE} {d : Nat} {Q : zO → zM → Prop} (M : zM)  (k : Q (.inl none) M) : Zm E YX8_putText (d + 1) M [] 111 [] Q := by
  exact zm_vret dX8_putText_111 rfl k
/-! ScriptTypesModel.putString(I)V -/
theorem bX8_putString_0 : zdec cX8_putString 0 [(0, .iconst 0, 1), (1, .istore_n 2, 1), (2, .iload_n 2, 1), (3, .aload_n 0, 1), (4, .getfield 20, 3), (7, .iload_n 1, 1), (8, .iaload, 1), (9, .if_icmp .ge 24, 3), (12, .aload_n 0, 1), (13, .aload_n 0, 1), (14, .getfield 16, 3), (17, .bipush 60, 2), (19, .iload_n 1, 1), (20, .imul, 1), (21, .iload_n 2, 1), (22, .iadd, 1)] = true := by decide +kernel
theorem dX8_putString_0 : decode cX8_putString 0 = .ok (.iconst 0, 1) := zdec_at bX8_putString_0 0 rfl
theorem dX8_putString_1 : decode cX8_putString 1 = .ok (.istore_n 2, 1) := zdec_at bX8_putString_0 1 rfl
theorem dX8_putString_2 : decode cX8_putString 2 = .ok (.iload_n 2, 1) := zdec_at bX8_putString_0 2 rfl
theorem dX8_putString_3 : decode cX8_putString 3 = .ok (.aload_n 0, 1) := zdec_at bX8_putString_0 3 rfl
theorem dX8_putString_4 : decode cX8_putString 4 = .ok (.getfield 20, 3) := zdec_at bX8_putString_0 4 rfl
theorem dX8_putString_7 : decode cX8_putString 7 = .ok (.iload_n 1, 1) := zdec_at bX8_putString_0 5 rfl
theorem dX8_putString_8 : decode cX8_putString 8 = .ok (.iaload, 1) := zdec_at bX8_putString_0 6 rfl
theorem dX8_putString_9 : decode cX8_putString 9 = .ok (.if_icmp .ge 24, 3) := zdec_at bX8_putString_0 7 rfl
theorem dX8_putString_12 : decode cX8_putString 12 = .ok (.aload_n 0, 1) := zdec_at bX8_putString_0 8 rfl
theorem dX8_putString_13 : decode cX8_putString 13 = .ok (.aload_n 0, 1) := zdec_at bX8_putString_0 9 rfl
theorem dX8_putString_14 : decode cX8_putString 14 = .ok (.getfield 16, 3) := zdec_at bX8_putString_0 10 rfl
theorem dX8_putString_17 : decode cX8_putString 17 = .ok (.bipush 60, 2) := zdec_at bX8_putString_0 11 rfl
theorem dX8_putString_19 : decode cX8_putString 19 = .ok (.iload_n 1, 1) := zdec_at bX8_putString_0 12 rfl
theorem dX8_putString_20 : decode cX8_putString 20 = .ok (.imul, 1) := zdec_at bX8_putString_0 13 rfl
theorem dX8_putString_21 : decode cX8_putString 21 = .ok (.iload_n 2, 1) := zdec_at bX8_putString_0 14 rfl
theorem dX8_putString_22 : decode cX8_putString 22 = .ok (.iadd, 1) := zdec_at bX8_putString_0 15 rfl
theorem bX8_putString_23 : zdec cX8_putString 23 [(23, .caload, 1), (24, .invokevirtual 324, 3), (27, .iinc 2 1, 3), (30, .goto (-28), 3), (33, .return_, 1)] = true := by decide +kernel
theorem dX8_putString_23 : decode cX8_putString 23 = .ok (.caload, 1) := zdec_at bX8_putString_23 0 rfl
theorem dX8_putString_24 : decode cX8_putString 24 = .ok (.invokevirtual 324, 3) := zdec_at bX8_putString_23 1 rfl
theorem dX8_putString_27 : decode cX8_putString 27 = .ok (.iinc 2 1, 3) := zdec_at bX8_putString_23 2 rfl
theorem dX8_putString_30 : decode cX8_putString 30 = .ok (.goto (-28), 3) := zdec_at bX8_putString_23 3 rfl
theorem dX8_putString_33 : decode cX8_putString 33 = .ok (.return_, 1) := zdec_at bX8_putString_23 4 rfl
theorem sX8_putString_0 {E : zE} {d : Nat} {Q : zO → zM → Prop} (M : zM) (l1 : Int32) (k : Zm E YX8_putString (d + 1) M [(0, vr (some (97, 1, 0))), (1, vi l1), (2, vi (0 : Int32))] 2 [] Q) : Zm E YX8_putString (d + 1) M [(0, vr (some (97, 1, 0))), (1, vi l1)] 0 [] Q := by
  refine Zm.l (fun _ _ k_ => z_iconst (v := 0) dX8_putString_0 rfl k_) ?_
  refine Zm.l (fun _ _ k_ => z_ist_n dX8_putString_1 rfl (by decide) (lv' := [(0, vr (some (97, 1, 0))), (1, vi l1), (2, vi (0 : Int32))]) rfl k_) ?_
  exact k
theorem sX8_putString_2 {E : zE} {d : Nat} {Q : zO → zM → Prop} (M : zM) (l1 : Int32) (l2 : Int32) (k : vp_in l1 400 ∧ (if (gi M 101 (l1).toNatClampNeg) ≤ l2 then (Q (.inl none) M) else (vp_in (((60 : Int32) * l1) + l2) 24000 ∧ (Zm E YX8_put d M (zargs 0 [vr (some (97, 1, 0)), vi (gi M 100 ((((60 : Int32) * l1) + l2)).toNatClampNeg)]) 0 [] (zma E YX8_putString (d + 1) [(0, vr (some (97, 1, 0))), (1, vi l1), (2, vi l2)] 24 3 [] Q))))) : Zm E YX8_putString (d + 1) M [(0, vr (some (97, 1, 0))), (1, vi l1), (2, vi l2)] 2 [] Q := by
  refine Zm.l (fun _ _ k_ => z_iload_n dX8_putString_2 rfl rfl k_) ?_
  refine Zm.l (fun _ _ k_ => z_aload_n dX8_putString_3 rfl rfl k_) ?_
  refine zm_getr 3 dX8_putString_4 fsX8_20_1 rfl ?_
  refine Zm.l (fun _ _ k_ => z_iload_n dX8_putString_7 rfl rfl k_) ?_
  obtain ⟨b_, k⟩ := k
  refine zm_iald dX8_putString_8 b_ (by decide) (by decide) ?_
  refine Zm.br (fun _ _ k1_ k2_ => z_icmp_ge (tgt := 33) dX8_putString_9 rfl k1_ k2_) (fun h_ => ?_) (fun h_ => ?_)
  · have k := zit h_ k
    exact zm_vret dX8_putString_33 rfl k
  · have k := zif h_ k
    refine Zm.l (fun _ _ k_ => z_aload_n dX8_putString_12 rfl rfl k_) ?_
    refine Zm.l (fun _ _ k_ => z_aload_n dX8_putString_13 rfl rfl k_) ?_
    refine zm_getr 2 dX8_putString_14 fsX8_16_1 rfl ?_
    refine Zm.l (fun _ _ k_ => z_bipush (v := 60) dX8_putString_17 rfl k_) ?_
    refine Zm.l (fun _ _ k_ => z_iload_n dX8_putString_19 rfl rfl k_) ?_
    refine Zm.l (fun _ _ k_ => z_imul dX8_putString_20 k_) ?_
    refine Zm.l (fun _ _ k_ => z_iload_n dX8_putString_21 rfl rfl k_) ?_
    refine Zm.l (fun _ _ k_ => z_iadd dX8_putString_22 k_) ?_
    obtain ⟨b_, k⟩ := k
    refine zm_cald dX8_putString_23 b_ (by decide) (by decide) ?_
    exact zm_callV (as := [vi (gi M 100 ((((60 : Int32) * l1) + l2)).toNatClampNeg)]) (st := []) dX8_putString_24 vsX8_324_1 (Nat.le_refl _) (Nat.le_of_ble_eq_true rfl) (Nat.le_of_ble_eq_true rfl) rfl k
theorem sX8_putString_27 {E : zE} {d : Nat} {Q : zO → zM → Prop} (M : zM) (l1 : Int32) (l2 : Int32) (k : Zm E YX8_putString (d + 1) M [(0, vr (some (97, 1, 0))), (1, vi l1), (2, vi (l2 + (1 : Int32)))] 2 [] Q) : Zm E YX8_putString (d + 1) M [(0, vr (some (97, 1, 0))), (1, vi l1), (2, vi l2)] 27 [] Q := by
  refine Zm.l (fun _ _ k_ => z_inc (v := (l2 + (1 : Int32))) dX8_putString_27 rfl rfl (by decide) (lv' := [(0, vr (some (97, 1, 0))), (1, vi l1), (2, vi (l2 + (1 : Int32)))]) rfl k_) ?_
  refine Zm.l (fun _ _ k_ => z_goto (tgt := 2) dX8_putString_30 rfl k_) ?_
  exact k
/-! ScriptTypesModel.made()I -/
theorem bX8_made_0 : zdec cX8_made 0 [(0, .aload_n 0, 1), (1, .aload_n 0, 1), (2, .getfield 299, 3), (5, .bipush 60, 2), (7, .if_icmp .le 8, 3), (10, .bipush 60, 2), (12, .goto 7, 3), (15, .aload_n 0, 1), (16, .getfield 299, 3), (19, .putfield 299, 3), (22, .aload_n 0, 1), (23, .invokevirtual 302, 3), (26, .istore_n 1, 1), (27, .iload_n 1, 1), (28, .iconst (-1), 1), (29, .if_icmp .eq 5, 3)] = true := by decide +kernel
theorem dX8_made_0 : decode cX8_made 0 = .ok (.aload_n 0, 1) := zdec_at bX8_made_0 0 rfl
theorem dX8_made_1 : decode cX8_made 1 = .ok (.aload_n 0, 1) := zdec_at bX8_made_0 1 rfl
theorem dX8_made_2 : decode cX8_made 2 = .ok (.getfield 299, 3) := zdec_at bX8_made_0 2 rfl
theorem dX8_made_5 : decode cX8_made 5 = .ok (.bipush 60, 2) := zdec_at bX8_made_0 3 rfl
theorem dX8_made_7 : decode cX8_made 7 = .ok (.if_icmp .le 8, 3) := zdec_at bX8_made_0 4 rfl
theorem dX8_made_10 : decode cX8_made 10 = .ok (.bipush 60, 2) := zdec_at bX8_made_0 5 rfl
theorem dX8_made_12 : decode cX8_made 12 = .ok (.goto 7, 3) := zdec_at bX8_made_0 6 rfl
theorem dX8_made_15 : decode cX8_made 15 = .ok (.aload_n 0, 1) := zdec_at bX8_made_0 7 rfl
theorem dX8_made_16 : decode cX8_made 16 = .ok (.getfield 299, 3) := zdec_at bX8_made_0 8 rfl
theorem dX8_made_19 : decode cX8_made 19 = .ok (.putfield 299, 3) := zdec_at bX8_made_0 9 rfl
theorem dX8_made_22 : decode cX8_made 22 = .ok (.aload_n 0, 1) := zdec_at bX8_made_0 10 rfl
theorem dX8_made_23 : decode cX8_made 23 = .ok (.invokevirtual 302, 3) := zdec_at bX8_made_0 11 rfl
theorem dX8_made_26 : decode cX8_made 26 = .ok (.istore_n 1, 1) := zdec_at bX8_made_0 12 rfl
theorem dX8_made_27 : decode cX8_made 27 = .ok (.iload_n 1, 1) := zdec_at bX8_made_0 13 rfl
theorem dX8_made_28 : decode cX8_made 28 = .ok (.iconst (-1), 1) := zdec_at bX8_made_0 14 rfl
theorem dX8_made_29 : decode cX8_made 29 = .ok (.if_icmp .eq 5, 3) := zdec_at bX8_made_0 15 rfl
theorem bX8_made_32 : zdec cX8_made 32 [(32, .iload_n 1, 1), (33, .ireturn, 1), (34, .aload_n 0, 1), (35, .getfield 296, 3), (38, .sipush 400, 3), (41, .if_icmp .ne 10, 3), (44, .aload_n 0, 1), (45, .iconst 1, 1), (46, .putfield 794, 3), (49, .iconst 0, 1), (50, .ireturn, 1), (51, .aload_n 0, 1), (52, .invokevirtual 310, 3), (55, .ireturn, 1)] = true := by decide +kernel
theorem dX8_made_32 : decode cX8_made 32 = .ok (.iload_n 1, 1) := zdec_at bX8_made_32 0 rfl
theorem dX8_made_33 : decode cX8_made 33 = .ok (.ireturn, 1) := zdec_at bX8_made_32 1 rfl
theorem dX8_made_34 : decode cX8_made 34 = .ok (.aload_n 0, 1) := zdec_at bX8_made_32 2 rfl
theorem dX8_made_35 : decode cX8_made 35 = .ok (.getfield 296, 3) := zdec_at bX8_made_32 3 rfl
theorem dX8_made_38 : decode cX8_made 38 = .ok (.sipush 400, 3) := zdec_at bX8_made_32 4 rfl
theorem dX8_made_41 : decode cX8_made 41 = .ok (.if_icmp .ne 10, 3) := zdec_at bX8_made_32 5 rfl
theorem dX8_made_44 : decode cX8_made 44 = .ok (.aload_n 0, 1) := zdec_at bX8_made_32 6 rfl
theorem dX8_made_45 : decode cX8_made 45 = .ok (.iconst 1, 1) := zdec_at bX8_made_32 7 rfl
theorem dX8_made_46 : decode cX8_made 46 = .ok (.putfield 794, 3) := zdec_at bX8_made_32 8 rfl
theorem dX8_made_49 : decode cX8_made 49 = .ok (.iconst 0, 1) := zdec_at bX8_made_32 9 rfl
theorem dX8_made_50 : decode cX8_made 50 = .ok (.ireturn, 1) := zdec_at bX8_made_32 10 rfl
theorem dX8_made_51 : decode cX8_made 51 = .ok (.aload_n 0, 1) := zdec_at bX8_made_32 11 rfl
theorem dX8_made_52 : decode cX8_made 52 = .ok (.invokevirtual 310, 3) := zdec_at bX8_made_32 12 rfl
theorem dX8_made_55 : decode cX8_made 55 = .ok (.ireturn, 1) := zdec_at bX8_made_32 13 rfl
theorem sX8_made_0 {E : zE} {d : Nat} {Q : zO → zM → Prop} (M : zM)  (k : if (gi M 97 11) ≤ (60 : Int32) then (Zm E YX8_findText d (si M 97 11 (gi M 97 11)) (zargs 0 [vr (some (97, 1, 0))]) 0 [] (zma E YX8_made (d + 1) [(0, vr (some (97, 1, 0)))] 23 3 [] Q)) else (Zm E YX8_findText d (si M 97 11 (60 : Int32)) (zargs 0 [vr (some (97, 1, 0))]) 0 [] (zma E YX8_made (d + 1) [(0, vr (some (97, 1, 0)))] 23 3 [] Q))) : Zm E YX8_made (d + 1) M [(0, vr (some (97, 1, 0)))] 0 [] Q := by
  refine Zm.l (fun _ _ k_ => z_aload_n dX8_made_0 rfl rfl k_) ?_
  refine Zm.l (fun _ _ k_ => z_aload_n dX8_made_1 rfl rfl k_) ?_
  refine zm_geti dX8_made_2 fsX8_299_1 (by decide) (by decide) ?_
  refine Zm.l (fun _ _ k_ => z_bipush (v := 60) dX8_made_5 rfl k_) ?_
  refine Zm.br (fun _ _ k1_ k2_ => z_icmp_le (tgt := 15) dX8_made_7 rfl k1_ k2_) (fun h_ => ?_) (fun h_ => ?_)
  · have k := zit h_ k
    refine Zm.l (fun _ _ k_ => z_aload_n dX8_made_15 rfl rfl k_) ?_
    refine zm_geti dX8_made_16 fsX8_299_1 (by decide) (by decide) ?_
    refine zm_puti (by decide) (by decide) dX8_made_19 (zfwN.w fwX8_299_1) rfl ⟨rfl, rfl⟩ ?_
    refine Zm.l (fun _ _ k_ => z_aload_n dX8_made_22 rfl rfl k_) ?_
    exact zm_callV (as := []) (st := []) dX8_made_23 vsX8_302_1 (Nat.le_refl _) (Nat.le_of_ble_eq_true rfl) (Nat.le_of_ble_eq_true rfl) rfl k
  · have k := zif h_ k
    refine Zm.l (fun _ _ k_ => z_bipush (v := 60) dX8_made_10 rfl k_) ?_
    refine Zm.l (fun _ _ k_ => z_goto (tgt := 19) dX8_made_12 rfl k_) ?_
    refine zm_puti (by decide) (by decide) dX8_made_19 (zfwN.w fwX8_299_1) rfl ⟨rfl, rfl⟩ ?_
    refine Zm.l (fun _ _ k_ => z_aload_n dX8_made_22 rfl rfl k_) ?_
    exact zm_callV (as := []) (st := []) dX8_made_23 vsX8_302_1 (Nat.le_refl _) (Nat.le_of_ble_eq_true rfl) (Nat.le_of_ble_eq_true rfl) rfl k
theorem sX8_made_26 {E : zE} {d : Nat} {Q : zO → zM → Prop} (M : zM) (s0 : Int32) (k : if s0 = (-1 : Int32) then (if (gi M 97 7) = (400 : Int32) then (Q (.inl (some (vi (0 : Int32)))) (si M 97 75 (1 : Int32))) else (Zm E YX8_addText d M (zargs 0 [vr (some (97, 1, 0))]) 0 [] (zma E YX8_made (d + 1) [] 52 3 [] Q))) else (Q (.inl (some (vi s0))) M)) : Zm E YX8_made (d + 1) M [(0, vr (some (97, 1, 0)))] 26 [vi s0] Q := by
  refine Zm.l (fun _ _ k_ => z_ist_n dX8_made_26 rfl (by decide) (lv' := [(0, vr (some (97, 1, 0))), (1, vi s0)]) rfl k_) ?_
  refine Zm.l (fun _ _ k_ => z_iload_n dX8_made_27 rfl rfl k_) ?_
  refine Zm.l (fun _ _ k_ => z_iconst (v := -1) dX8_made_28 rfl k_) ?_
  refine Zm.br (fun _ _ k1_ k2_ => z_icmp_eq (tgt := 34) dX8_made_29 rfl k1_ k2_) (fun h_ => ?_) (fun h_ => ?_)
  · have k := zit h_ k
    refine Zm.l (fun _ _ k_ => z_aload_n dX8_made_34 rfl rfl k_) ?_
    refine zm_geti dX8_made_35 fsX8_296_1 (by decide) (by decide) ?_
    refine Zm.l (fun _ _ k_ => z_sipush (v := 400) dX8_made_38 rfl k_) ?_
    refine Zm.brn (fun _ _ k1_ k2_ => z_icmp_ne (tgt := 51) dX8_made_41 rfl k1_ k2_) (fun h_ => ?_) (fun h_ => ?_)
    · have k := zif h_ k
      refine Zm.l (fun _ _ k_ => z_aload_n dX8_made_51 rfl rfl k_) ?_
      refine Zm.pick [] rfl ?_
      exact zm_callV (as := []) (st := []) dX8_made_52 vsX8_310_1 (Nat.le_refl _) (Nat.le_of_ble_eq_true rfl) (Nat.le_of_ble_eq_true rfl) rfl k
    · have k := zit h_ k
      refine Zm.l (fun _ _ k_ => z_aload_n dX8_made_44 rfl rfl k_) ?_
      refine Zm.l (fun _ _ k_ => z_iconst (v := 1) dX8_made_45 rfl k_) ?_
      refine zm_puti (by decide) (by decide) dX8_made_46 (zfwN.w fwX8_794_1) rfl ⟨by decide, by decide⟩ ?_
      refine Zm.l (fun _ _ k_ => z_iconst (v := 0) dX8_made_49 rfl k_) ?_
      exact zm_iret dX8_made_50 rfl rfl k
  · have k := zif h_ k
    refine Zm.l (fun _ _ k_ => z_iload_n dX8_made_32 rfl rfl k_) ?_
    exact zm_iret dX8_made_33 rfl rfl k
theorem sX8_made_55 {E : zE} {d : Nat} {Q : zO → zM → Prop} (M : zM) (s0 : Int32) (k : Q (.inl (some (vi s0))) M) : Zm E YX8_made (d + 1) M [] 55 [vi s0] Q := by
  exact zm_iret dX8_made_55 rfl rfl k
/-! ScriptTypesModel.read(II)Z -/
theorem bX8_read_2_0 : zdec cX8_read_2 0 [(0, .iload_n 1, 1), (1, .istore_n 3, 1), (2, .iload_n 3, 1), (3, .iconst (-1), 1), (4, .if_icmp .eq 47, 3), (7, .aload_n 0, 1), (8, .iload_n 3, 1), (9, .iload_n 2, 1), (10, .invokevirtual 846, 3), (13, .istore 4, 2), (15, .iload 4, 2), (17, .iconst (-1), 1), (18, .if_icmp .eq 23, 3), (21, .aload_n 0, 1), (22, .aload_n 0, 1), (23, .getfield 158, 3)] = true := by decide +kernel
theorem dX8_read_2_0 : decode cX8_read_2 0 = .ok (.iload_n 1, 1) := zdec_at bX8_read_2_0 0 rfl
theorem dX8_read_2_1 : decode cX8_read_2 1 = .ok (.istore_n 3, 1) := zdec_at bX8_read_2_0 1 rfl
theorem dX8_read_2_2 : decode cX8_read_2 2 = .ok (.iload_n 3, 1) := zdec_at bX8_read_2_0 2 rfl
theorem dX8_read_2_3 : decode cX8_read_2 3 = .ok (.iconst (-1), 1) := zdec_at bX8_read_2_0 3 rfl
theorem dX8_read_2_4 : decode cX8_read_2 4 = .ok (.if_icmp .eq 47, 3) := zdec_at bX8_read_2_0 4 rfl
theorem dX8_read_2_7 : decode cX8_read_2 7 = .ok (.aload_n 0, 1) := zdec_at bX8_read_2_0 5 rfl
theorem dX8_read_2_8 : decode cX8_read_2 8 = .ok (.iload_n 3, 1) := zdec_at bX8_read_2_0 6 rfl
theorem dX8_read_2_9 : decode cX8_read_2 9 = .ok (.iload_n 2, 1) := zdec_at bX8_read_2_0 7 rfl
theorem dX8_read_2_10 : decode cX8_read_2 10 = .ok (.invokevirtual 846, 3) := zdec_at bX8_read_2_0 8 rfl
theorem dX8_read_2_13 : decode cX8_read_2 13 = .ok (.istore 4, 2) := zdec_at bX8_read_2_0 9 rfl
theorem dX8_read_2_15 : decode cX8_read_2 15 = .ok (.iload 4, 2) := zdec_at bX8_read_2_0 10 rfl
theorem dX8_read_2_17 : decode cX8_read_2 17 = .ok (.iconst (-1), 1) := zdec_at bX8_read_2_0 11 rfl
theorem dX8_read_2_18 : decode cX8_read_2 18 = .ok (.if_icmp .eq 23, 3) := zdec_at bX8_read_2_0 12 rfl
theorem dX8_read_2_21 : decode cX8_read_2 21 = .ok (.aload_n 0, 1) := zdec_at bX8_read_2_0 13 rfl
theorem dX8_read_2_22 : decode cX8_read_2 22 = .ok (.aload_n 0, 1) := zdec_at bX8_read_2_0 14 rfl
theorem dX8_read_2_23 : decode cX8_read_2 23 = .ok (.getfield 158, 3) := zdec_at bX8_read_2_0 15 rfl
theorem bX8_read_2_26 : zdec cX8_read_2 26 [(26, .iload 4, 2), (28, .iaload, 1), (29, .aload_n 0, 1), (30, .getfield 161, 3), (33, .iload 4, 2), (35, .iaload, 1), (36, .invokevirtual 822, 3), (39, .iconst 1, 1), (40, .ireturn, 1), (41, .aload_n 0, 1), (42, .getfield 137, 3), (45, .iload_n 3, 1), (46, .iaload, 1), (47, .istore_n 3, 1), (48, .goto (-46), 3), (51, .aload_n 0, 1)] = true := by decide +kernel
theorem dX8_read_2_26 : decode cX8_read_2 26 = .ok (.iload 4, 2) := zdec_at bX8_read_2_26 0 rfl
theorem dX8_read_2_28 : decode cX8_read_2 28 = .ok (.iaload, 1) := zdec_at bX8_read_2_26 1 rfl
theorem dX8_read_2_29 : decode cX8_read_2 29 = .ok (.aload_n 0, 1) := zdec_at bX8_read_2_26 2 rfl
theorem dX8_read_2_30 : decode cX8_read_2 30 = .ok (.getfield 161, 3) := zdec_at bX8_read_2_26 3 rfl
theorem dX8_read_2_33 : decode cX8_read_2 33 = .ok (.iload 4, 2) := zdec_at bX8_read_2_26 4 rfl
theorem dX8_read_2_35 : decode cX8_read_2 35 = .ok (.iaload, 1) := zdec_at bX8_read_2_26 5 rfl
theorem dX8_read_2_36 : decode cX8_read_2 36 = .ok (.invokevirtual 822, 3) := zdec_at bX8_read_2_26 6 rfl
theorem dX8_read_2_39 : decode cX8_read_2 39 = .ok (.iconst 1, 1) := zdec_at bX8_read_2_26 7 rfl
theorem dX8_read_2_40 : decode cX8_read_2 40 = .ok (.ireturn, 1) := zdec_at bX8_read_2_26 8 rfl
theorem dX8_read_2_41 : decode cX8_read_2 41 = .ok (.aload_n 0, 1) := zdec_at bX8_read_2_26 9 rfl
theorem dX8_read_2_42 : decode cX8_read_2 42 = .ok (.getfield 137, 3) := zdec_at bX8_read_2_26 10 rfl
theorem dX8_read_2_45 : decode cX8_read_2 45 = .ok (.iload_n 3, 1) := zdec_at bX8_read_2_26 11 rfl
theorem dX8_read_2_46 : decode cX8_read_2 46 = .ok (.iaload, 1) := zdec_at bX8_read_2_26 12 rfl
theorem dX8_read_2_47 : decode cX8_read_2 47 = .ok (.istore_n 3, 1) := zdec_at bX8_read_2_26 13 rfl
theorem dX8_read_2_48 : decode cX8_read_2 48 = .ok (.goto (-46), 3) := zdec_at bX8_read_2_26 14 rfl
theorem dX8_read_2_51 : decode cX8_read_2 51 = .ok (.aload_n 0, 1) := zdec_at bX8_read_2_26 15 rfl
theorem bX8_read_2_52 : zdec cX8_read_2 52 [(52, .iconst 0, 1), (53, .iconst 0, 1), (54, .invokevirtual 822, 3), (57, .iconst 0, 1), (58, .ireturn, 1)] = true := by decide +kernel
theorem dX8_read_2_52 : decode cX8_read_2 52 = .ok (.iconst 0, 1) := zdec_at bX8_read_2_52 0 rfl
theorem dX8_read_2_53 : decode cX8_read_2 53 = .ok (.iconst 0, 1) := zdec_at bX8_read_2_52 1 rfl
theorem dX8_read_2_54 : decode cX8_read_2 54 = .ok (.invokevirtual 822, 3) := zdec_at bX8_read_2_52 2 rfl
theorem dX8_read_2_57 : decode cX8_read_2 57 = .ok (.iconst 0, 1) := zdec_at bX8_read_2_52 3 rfl
theorem dX8_read_2_58 : decode cX8_read_2 58 = .ok (.ireturn, 1) := zdec_at bX8_read_2_52 4 rfl
theorem sX8_read_2_0 {E : zE} {d : Nat} {Q : zO → zM → Prop} (M : zM) (l1 : Int32) (l2 : Int32) (k : Zm E YX8_read_2 (d + 1) M [(0, vr (some (97, 1, 0))), (2, vi l2), (3, vi l1)] 2 [] Q) : Zm E YX8_read_2 (d + 1) M [(0, vr (some (97, 1, 0))), (1, vi l1), (2, vi l2)] 0 [] Q := by
  refine Zm.l (fun _ _ k_ => z_iload_n dX8_read_2_0 rfl rfl k_) ?_
  refine Zm.l (fun _ _ k_ => z_ist_n dX8_read_2_1 rfl (by decide) (lv' := [(0, vr (some (97, 1, 0))), (1, vi l1), (2, vi l2), (3, vi l1)]) rfl k_) ?_
  refine Zm.pick [0, 2, 3] rfl ?_
  exact k
theorem sX8_read_2_2 {E : zE} {d : Nat} {Q : zO → zM → Prop} (M : zM) (l2 : Int32) (l3 : Int32) (k : if l3 = (-1 : Int32) then (Zm E YX8_give_2 d M (zargs 0 [vr (some (97, 1, 0)), vi (0 : Int32), vi (0 : Int32)]) 0 [] (zma E YX8_read_2 (d + 1) [] 54 3 [] Q)) else (Zm E YX8_findProperty d M (zargs 0 [vr (some (97, 1, 0)), vi l3, vi l2]) 0 [] (zma E YX8_read_2 (d + 1) [(0, vr (some (97, 1, 0))), (2, vi l2), (3, vi l3)] 10 3 [] Q))) : Zm E YX8_read_2 (d + 1) M [(0, vr (some (97, 1, 0))), (2, vi l2), (3, vi l3)] 2 [] Q := by
  refine Zm.l (fun _ _ k_ => z_iload_n dX8_read_2_2 rfl rfl k_) ?_
  refine Zm.l (fun _ _ k_ => z_iconst (v := -1) dX8_read_2_3 rfl k_) ?_
  refine Zm.br (fun _ _ k1_ k2_ => z_icmp_eq (tgt := 51) dX8_read_2_4 rfl k1_ k2_) (fun h_ => ?_) (fun h_ => ?_)
  · have k := zit h_ k
    refine Zm.l (fun _ _ k_ => z_aload_n dX8_read_2_51 rfl rfl k_) ?_
    refine Zm.l (fun _ _ k_ => z_iconst (v := 0) dX8_read_2_52 rfl k_) ?_
    refine Zm.l (fun _ _ k_ => z_iconst (v := 0) dX8_read_2_53 rfl k_) ?_
    refine Zm.pick [] rfl ?_
    exact zm_callV (as := [vi (0 : Int32), vi (0 : Int32)]) (st := []) dX8_read_2_54 vsX8_822_1 (Nat.le_refl _) (Nat.le_of_ble_eq_true rfl) (Nat.le_of_ble_eq_true rfl) rfl k
  · have k := zif h_ k
    refine Zm.l (fun _ _ k_ => z_aload_n dX8_read_2_7 rfl rfl k_) ?_
    refine Zm.l (fun _ _ k_ => z_iload_n dX8_read_2_8 rfl rfl k_) ?_
    refine Zm.l (fun _ _ k_ => z_iload_n dX8_read_2_9 rfl rfl k_) ?_
    exact zm_callV (as := [vi l3, vi l2]) (st := []) dX8_read_2_10 vsX8_846_1 (Nat.le_refl _) (Nat.le_of_ble_eq_true rfl) (Nat.le_of_ble_eq_true rfl) rfl k
theorem sX8_read_2_13 {E : zE} {d : Nat} {Q : zO → zM → Prop} (M : zM) (l2 : Int32) (l3 : Int32) (s0 : Int32) (k : if s0 = (-1 : Int32) then (vp_in l3 300 ∧ (Zm E YX8_read_2 (d + 1) M [(0, vr (some (97, 1, 0))), (2, vi l2), (3, vi (gi M 139 (l3).toNatClampNeg))] 2 [] Q)) else (vp_in s0 3000 ∧ (vp_in s0 3000 ∧ (Zm E YX8_give_2 d M (zargs 0 [vr (some (97, 1, 0)), vi (gi M 146 (s0).toNatClampNeg), vi (gi M 147 (s0).toNatClampNeg)]) 0 [] (zma E YX8_read_2 (d + 1) [] 36 3 [] Q))))) : Zm E YX8_read_2 (d + 1) M [(0, vr (some (97, 1, 0))), (2, vi l2), (3, vi l3)] 13 [vi s0] Q := by
  refine Zm.l (fun _ _ k_ => z_ist dX8_read_2_13 (by decide) (lv' := [(0, vr (some (97, 1, 0))), (2, vi l2), (3, vi l3), (4, vi s0)]) rfl k_) ?_
  refine Zm.l (fun _ _ k_ => z_iload dX8_read_2_15 rfl k_) ?_
  refine Zm.l (fun _ _ k_ => z_iconst (v := -1) dX8_read_2_17 rfl k_) ?_
  refine Zm.br (fun _ _ k1_ k2_ => z_icmp_eq (tgt := 41) dX8_read_2_18 rfl k1_ k2_) (fun h_ => ?_) (fun h_ => ?_)
  · have k := zit h_ k
    refine Zm.l (fun _ _ k_ => z_aload_n dX8_read_2_41 rfl rfl k_) ?_
    refine zm_getr 36 dX8_read_2_42 fsX8_137_1 rfl ?_
    refine Zm.l (fun _ _ k_ => z_iload_n dX8_read_2_45 rfl rfl k_) ?_
    obtain ⟨b_, k⟩ := k
    refine zm_iald dX8_read_2_46 b_ (by decide) (by decide) ?_
    refine Zm.l (fun _ _ k_ => z_ist_n dX8_read_2_47 rfl (by decide) (lv' := [(0, vr (some (97, 1, 0))), (2, vi l2), (3, vi (gi M 139 (l3).toNatClampNeg)), (4, vi s0)]) rfl k_) ?_
    refine Zm.l (fun _ _ k_ => z_goto (tgt := 2) dX8_read_2_48 rfl k_) ?_
    refine Zm.pick [0, 1, 2] rfl ?_
    exact k
  · have k := zif h_ k
    refine Zm.l (fun _ _ k_ => z_aload_n dX8_read_2_21 rfl rfl k_) ?_
    refine Zm.l (fun _ _ k_ => z_aload_n dX8_read_2_22 rfl rfl k_) ?_
    refine zm_getr 43 dX8_read_2_23 fsX8_158_1 rfl ?_
    refine Zm.l (fun _ _ k_ => z_iload dX8_read_2_26 rfl k_) ?_
    obtain ⟨b_, k⟩ := k
    refine zm_iald dX8_read_2_28 b_ (by decide) (by decide) ?_
    refine Zm.l (fun _ _ k_ => z_aload_n dX8_read_2_29 rfl rfl k_) ?_
    refine zm_getr 44 dX8_read_2_30 fsX8_161_1 rfl ?_
    refine Zm.l (fun _ _ k_ => z_iload dX8_read_2_33 rfl k_) ?_
    obtain ⟨b_, k⟩ := k
    refine zm_iald dX8_read_2_35 b_ (by decide) (by decide) ?_
    refine Zm.pick [] rfl ?_
    exact zm_callV (as := [vi (gi M 146 (s0).toNatClampNeg), vi (gi M 147 (s0).toNatClampNeg)]) (st := []) dX8_read_2_36 vsX8_822_1 (Nat.le_refl _) (Nat.le_of_ble_eq_true rfl) (Nat.le_of_ble_eq_true rfl) rfl k
theorem sX8_read_2_39 {E : zE} {d : Nat} {Q : zO → zM → Prop} (M : zM)  (k : Q (.inl (some (vi (1 : Int32)))) M) : Zm E YX8_read_2 (d + 1) M [] 39 [] Q := by
  refine Zm.l (fun _ _ k_ => z_iconst (v := 1) dX8_read_2_39 rfl k_) ?_
  exact zm_iret dX8_read_2_40 rfl (by decide) k
theorem sX8_read_2_57 {E : zE} {d : Nat} {Q : zO → zM → Prop} (M : zM)  (k : Q (.inl (some (vi (0 : Int32)))) M) : Zm E YX8_read_2 (d + 1) M [] 57 [] Q := by
  refine Zm.l (fun _ _ k_ => z_iconst (v := 0) dX8_read_2_57 rfl k_) ?_
  exact zm_iret dX8_read_2_58 rfl (by decide) k
/-! ScriptTypesModel.putInto()V -/
theorem bX8_putInto_0 : zdec cX8_putInto 0 [(0, .aload_n 0, 1), (1, .iconst 2, 1), (2, .invokevirtual 910, 3), (5, .istore_n 1, 1), (6, .aload_n 0, 1), (7, .iconst 2, 1), (8, .invokevirtual 913, 3), (11, .istore_n 2, 1), (12, .aload_n 0, 1), (13, .aload_n 0, 1), (14, .iconst 1, 1), (15, .invokevirtual 910, 3), (18, .aload_n 0, 1), (19, .iconst 1, 1), (20, .invokevirtual 913, 3), (23, .invokevirtual 969, 3)] = true := by decide +kernel
theorem dX8_putInto_0 : decode cX8_putInto 0 = .ok (.aload_n 0, 1) := zdec_at bX8_putInto_0 0 rfl
theorem dX8_putInto_1 : decode cX8_putInto 1 = .ok (.iconst 2, 1) := zdec_at bX8_putInto_0 1 rfl
theorem dX8_putInto_2 : decode cX8_putInto 2 = .ok (.invokevirtual 910, 3) := zdec_at bX8_putInto_0 2 rfl
theorem dX8_putInto_5 : decode cX8_putInto 5 = .ok (.istore_n 1, 1) := zdec_at bX8_putInto_0 3 rfl
theorem dX8_putInto_6 : decode cX8_putInto 6 = .ok (.aload_n 0, 1) := zdec_at bX8_putInto_0 4 rfl
theorem dX8_putInto_7 : decode cX8_putInto 7 = .ok (.iconst 2, 1) := zdec_at bX8_putInto_0 5 rfl
theorem dX8_putInto_8 : decode cX8_putInto 8 = .ok (.invokevirtual 913, 3) := zdec_at bX8_putInto_0 6 rfl
theorem dX8_putInto_11 : decode cX8_putInto 11 = .ok (.istore_n 2, 1) := zdec_at bX8_putInto_0 7 rfl
theorem dX8_putInto_12 : decode cX8_putInto 12 = .ok (.aload_n 0, 1) := zdec_at bX8_putInto_0 8 rfl
theorem dX8_putInto_13 : decode cX8_putInto 13 = .ok (.aload_n 0, 1) := zdec_at bX8_putInto_0 9 rfl
theorem dX8_putInto_14 : decode cX8_putInto 14 = .ok (.iconst 1, 1) := zdec_at bX8_putInto_0 10 rfl
theorem dX8_putInto_15 : decode cX8_putInto 15 = .ok (.invokevirtual 910, 3) := zdec_at bX8_putInto_0 11 rfl
theorem dX8_putInto_18 : decode cX8_putInto 18 = .ok (.aload_n 0, 1) := zdec_at bX8_putInto_0 12 rfl
theorem dX8_putInto_19 : decode cX8_putInto 19 = .ok (.iconst 1, 1) := zdec_at bX8_putInto_0 13 rfl
theorem dX8_putInto_20 : decode cX8_putInto 20 = .ok (.invokevirtual 913, 3) := zdec_at bX8_putInto_0 14 rfl
theorem dX8_putInto_23 : decode cX8_putInto 23 = .ok (.invokevirtual 969, 3) := zdec_at bX8_putInto_0 15 rfl
theorem bX8_putInto_26 : zdec cX8_putInto 26 [(26, .istore_n 3, 1), (27, .aload_n 0, 1), (28, .getfield 794, 3), (31, .ifCond .eq 4, 3), (34, .return_, 1), (35, .iload_n 1, 1), (36, .iconst 1, 1), (37, .if_icmp .gt 10, 3), (40, .aload_n 0, 1), (41, .bipush 6, 2), (43, .invokevirtual 966, 3), (46, .return_, 1), (47, .iload_n 1, 1), (48, .bipush 7, 2), (50, .if_icmp .ne 21, 3), (53, .aload_n 0, 1)] = true := by decide +kernel
theorem dX8_putInto_26 : decode cX8_putInto 26 = .ok (.istore_n 3, 1) := zdec_at bX8_putInto_26 0 rfl
theorem dX8_putInto_27 : decode cX8_putInto 27 = .ok (.aload_n 0, 1) := zdec_at bX8_putInto_26 1 rfl
theorem dX8_putInto_28 : decode cX8_putInto 28 = .ok (.getfield 794, 3) := zdec_at bX8_putInto_26 2 rfl
theorem dX8_putInto_31 : decode cX8_putInto 31 = .ok (.ifCond .eq 4, 3) := zdec_at bX8_putInto_26 3 rfl
theorem dX8_putInto_34 : decode cX8_putInto 34 = .ok (.return_, 1) := zdec_at bX8_putInto_26 4 rfl
theorem dX8_putInto_35 : decode cX8_putInto 35 = .ok (.iload_n 1, 1) := zdec_at bX8_putInto_26 5 rfl
theorem dX8_putInto_36 : decode cX8_putInto 36 = .ok (.iconst 1, 1) := zdec_at bX8_putInto_26 6 rfl
theorem dX8_putInto_37 : decode cX8_putInto 37 = .ok (.if_icmp .gt 10, 3) := zdec_at bX8_putInto_26 7 rfl
theorem dX8_putInto_40 : decode cX8_putInto 40 = .ok (.aload_n 0, 1) := zdec_at bX8_putInto_26 8 rfl
theorem dX8_putInto_41 : decode cX8_putInto 41 = .ok (.bipush 6, 2) := zdec_at bX8_putInto_26 9 rfl
theorem dX8_putInto_43 : decode cX8_putInto 43 = .ok (.invokevirtual 966, 3) := zdec_at bX8_putInto_26 10 rfl
theorem dX8_putInto_46 : decode cX8_putInto 46 = .ok (.return_, 1) := zdec_at bX8_putInto_26 11 rfl
theorem dX8_putInto_47 : decode cX8_putInto 47 = .ok (.iload_n 1, 1) := zdec_at bX8_putInto_26 12 rfl
theorem dX8_putInto_48 : decode cX8_putInto 48 = .ok (.bipush 7, 2) := zdec_at bX8_putInto_26 13 rfl
theorem dX8_putInto_50 : decode cX8_putInto 50 = .ok (.if_icmp .ne 21, 3) := zdec_at bX8_putInto_26 14 rfl
theorem dX8_putInto_53 : decode cX8_putInto 53 = .ok (.aload_n 0, 1) := zdec_at bX8_putInto_26 15 rfl
theorem bX8_putInto_54 : zdec cX8_putInto 54 [(54, .getfield 143, 3), (57, .iload_n 2, 1), (58, .iaload, 1), (59, .iconst 2, 1), (60, .if_icmp .ne 11, 3), (63, .iload_n 3, 1), (64, .ifCond .ne 7, 3), (67, .iconst 1, 1), (68, .goto 4, 3), (71, .iconst 0, 1), (72, .istore 4, 2), (74, .iload_n 1, 1), (75, .bipush 7, 2), (77, .if_icmp .ne 78, 3), (80, .iload 4, 2), (82, .ifCond .ne 73, 3)] = true := by decide +kernel
theorem dX8_putInto_54 : decode cX8_putInto 54 = .ok (.getfield 143, 3) := zdec_at bX8_putInto_54 0 rfl
theorem dX8_putInto_57 : decode cX8_putInto 57 = .ok (.iload_n 2, 1) := zdec_at bX8_putInto_54 1 rfl
theorem dX8_putInto_58 : decode cX8_putInto 58 = .ok (.iaload, 1) := zdec_at bX8_putInto_54 2 rfl
theorem dX8_putInto_59 : decode cX8_putInto 59 = .ok (.iconst 2, 1) := zdec_at bX8_putInto_54 3 rfl
theorem dX8_putInto_60 : decode cX8_putInto 60 = .ok (.if_icmp .ne 11, 3) := zdec_at bX8_putInto_54 4 rfl
theorem dX8_putInto_63 : decode cX8_putInto 63 = .ok (.iload_n 3, 1) := zdec_at bX8_putInto_54 5 rfl
theorem dX8_putInto_64 : decode cX8_putInto 64 = .ok (.ifCond .ne 7, 3) := zdec_at bX8_putInto_54 6 rfl
theorem dX8_putInto_67 : decode cX8_putInto 67 = .ok (.iconst 1, 1) := zdec_at bX8_putInto_54 7 rfl
theorem dX8_putInto_68 : decode cX8_putInto 68 = .ok (.goto 4, 3) := zdec_at bX8_putInto_54 8 rfl
theorem dX8_putInto_71 : decode cX8_putInto 71 = .ok (.iconst 0, 1) := zdec_at bX8_putInto_54 9 rfl
theorem dX8_putInto_72 : decode cX8_putInto 72 = .ok (.istore 4, 2) := zdec_at bX8_putInto_54 10 rfl
theorem dX8_putInto_74 : decode cX8_putInto 74 = .ok (.iload_n 1, 1) := zdec_at bX8_putInto_54 11 rfl
theorem dX8_putInto_75 : decode cX8_putInto 75 = .ok (.bipush 7, 2) := zdec_at bX8_putInto_54 12 rfl
theorem dX8_putInto_77 : decode cX8_putInto 77 = .ok (.if_icmp .ne 78, 3) := zdec_at bX8_putInto_54 13 rfl
theorem dX8_putInto_80 : decode cX8_putInto 80 = .ok (.iload 4, 2) := zdec_at bX8_putInto_54 14 rfl
theorem dX8_putInto_82 : decode cX8_putInto 82 = .ok (.ifCond .ne 73, 3) := zdec_at bX8_putInto_54 15 rfl
theorem bX8_putInto_85 : zdec cX8_putInto 85 [(85, .aload_n 0, 1), (86, .iload_n 2, 1), (87, .iload_n 3, 1), (88, .aload_n 0, 1), (89, .iconst 0, 1), (90, .invokevirtual 910, 3), (93, .aload_n 0, 1), (94, .iconst 0, 1), (95, .invokevirtual 913, 3), (98, .invokevirtual 870, 3), (101, .aload_n 0, 1), (102, .getfield 143, 3), (105, .iload_n 2, 1), (106, .iaload, 1), (107, .iconst 2, 1), (108, .if_icmp .ne 11, 3)] = true := by decide +kernel
theorem dX8_putInto_85 : decode cX8_putInto 85 = .ok (.aload_n 0, 1) := zdec_at bX8_putInto_85 0 rfl
theorem dX8_putInto_86 : decode cX8_putInto 86 = .ok (.iload_n 2, 1) := zdec_at bX8_putInto_85 1 rfl
theorem dX8_putInto_87 : decode cX8_putInto 87 = .ok (.iload_n 3, 1) := zdec_at bX8_putInto_85 2 rfl
theorem dX8_putInto_88 : decode cX8_putInto 88 = .ok (.aload_n 0, 1) := zdec_at bX8_putInto_85 3 rfl
theorem dX8_putInto_89 : decode cX8_putInto 89 = .ok (.iconst 0, 1) := zdec_at bX8_putInto_85 4 rfl
theorem dX8_putInto_90 : decode cX8_putInto 90 = .ok (.invokevirtual 910, 3) := zdec_at bX8_putInto_85 5 rfl
theorem dX8_putInto_93 : decode cX8_putInto 93 = .ok (.aload_n 0, 1) := zdec_at bX8_putInto_85 6 rfl
theorem dX8_putInto_94 : decode cX8_putInto 94 = .ok (.iconst 0, 1) := zdec_at bX8_putInto_85 7 rfl
theorem dX8_putInto_95 : decode cX8_putInto 95 = .ok (.invokevirtual 913, 3) := zdec_at bX8_putInto_85 8 rfl
theorem dX8_putInto_98 : decode cX8_putInto 98 = .ok (.invokevirtual 870, 3) := zdec_at bX8_putInto_85 9 rfl
theorem dX8_putInto_101 : decode cX8_putInto 101 = .ok (.aload_n 0, 1) := zdec_at bX8_putInto_85 10 rfl
theorem dX8_putInto_102 : decode cX8_putInto 102 = .ok (.getfield 143, 3) := zdec_at bX8_putInto_85 11 rfl
theorem dX8_putInto_105 : decode cX8_putInto 105 = .ok (.iload_n 2, 1) := zdec_at bX8_putInto_85 12 rfl
theorem dX8_putInto_106 : decode cX8_putInto 106 = .ok (.iaload, 1) := zdec_at bX8_putInto_85 13 rfl
theorem dX8_putInto_107 : decode cX8_putInto 107 = .ok (.iconst 2, 1) := zdec_at bX8_putInto_85 14 rfl
theorem dX8_putInto_108 : decode cX8_putInto 108 = .ok (.if_icmp .ne 11, 3) := zdec_at bX8_putInto_85 15 rfl
theorem bX8_putInto_111 : zdec cX8_putInto 111 [(111, .aload_n 0, 1), (112, .iload_n 3, 1), (113, .invokevirtual 975, 3), (116, .goto 4, 3), (119, .iconst (-1), 1), (120, .istore 5, 2), (122, .aload_n 0, 1), (123, .getfield 794, 3), (126, .ifCond .ne 29, 3), (129, .iload 5, 2), (131, .ifCond .lt 24, 3), (134, .iload 5, 2), (136, .aload_n 0, 1), (137, .iload_n 2, 1), (138, .invokevirtual 978, 3), (141, .if_icmp .lt 14, 3)] = true := by decide +kernel
theorem dX8_putInto_111 : decode cX8_putInto 111 = .ok (.aload_n 0, 1) := zdec_at bX8_putInto_111 0 rfl
theorem dX8_putInto_112 : decode cX8_putInto 112 = .ok (.iload_n 3, 1) := zdec_at bX8_putInto_111 1 rfl
theorem dX8_putInto_113 : decode cX8_putInto 113 = .ok (.invokevirtual 975, 3) := zdec_at bX8_putInto_111 2 rfl
theorem dX8_putInto_116 : decode cX8_putInto 116 = .ok (.goto 4, 3) := zdec_at bX8_putInto_111 3 rfl
theorem dX8_putInto_119 : decode cX8_putInto 119 = .ok (.iconst (-1), 1) := zdec_at bX8_putInto_111 4 rfl
theorem dX8_putInto_120 : decode cX8_putInto 120 = .ok (.istore 5, 2) := zdec_at bX8_putInto_111 5 rfl
theorem dX8_putInto_122 : decode cX8_putInto 122 = .ok (.aload_n 0, 1) := zdec_at bX8_putInto_111 6 rfl
theorem dX8_putInto_123 : decode cX8_putInto 123 = .ok (.getfield 794, 3) := zdec_at bX8_putInto_111 7 rfl
theorem dX8_putInto_126 : decode cX8_putInto 126 = .ok (.ifCond .ne 29, 3) := zdec_at bX8_putInto_111 8 rfl
theorem dX8_putInto_129 : decode cX8_putInto 129 = .ok (.iload 5, 2) := zdec_at bX8_putInto_111 9 rfl
theorem dX8_putInto_131 : decode cX8_putInto 131 = .ok (.ifCond .lt 24, 3) := zdec_at bX8_putInto_111 10 rfl
theorem dX8_putInto_134 : decode cX8_putInto 134 = .ok (.iload 5, 2) := zdec_at bX8_putInto_111 11 rfl
theorem dX8_putInto_136 : decode cX8_putInto 136 = .ok (.aload_n 0, 1) := zdec_at bX8_putInto_111 12 rfl
theorem dX8_putInto_137 : decode cX8_putInto 137 = .ok (.iload_n 2, 1) := zdec_at bX8_putInto_111 13 rfl
theorem dX8_putInto_138 : decode cX8_putInto 138 = .ok (.invokevirtual 978, 3) := zdec_at bX8_putInto_111 14 rfl
theorem dX8_putInto_141 : decode cX8_putInto 141 = .ok (.if_icmp .lt 14, 3) := zdec_at bX8_putInto_111 15 rfl
theorem bX8_putInto_144 : zdec cX8_putInto 144 [(144, .aload_n 0, 1), (145, .iload_n 2, 1), (146, .iconst 0, 1), (147, .iconst 5, 1), (148, .iload 5, 2), (150, .iconst 1, 1), (151, .iadd, 1), (152, .invokevirtual 870, 3), (155, .aload_n 0, 1), (156, .aload_n 0, 1), (157, .iconst 0, 1), (158, .invokevirtual 910, 3), (161, .aload_n 0, 1), (162, .iconst 0, 1), (163, .invokevirtual 913, 3), (166, .invokevirtual 822, 3)] = true := by decide +kernel
theorem dX8_putInto_144 : decode cX8_putInto 144 = .ok (.aload_n 0, 1) := zdec_at bX8_putInto_144 0 rfl
theorem dX8_putInto_145 : decode cX8_putInto 145 = .ok (.iload_n 2, 1) := zdec_at bX8_putInto_144 1 rfl
theorem dX8_putInto_146 : decode cX8_putInto 146 = .ok (.iconst 0, 1) := zdec_at bX8_putInto_144 2 rfl
theorem dX8_putInto_147 : decode cX8_putInto 147 = .ok (.iconst 5, 1) := zdec_at bX8_putInto_144 3 rfl
theorem dX8_putInto_148 : decode cX8_putInto 148 = .ok (.iload 5, 2) := zdec_at bX8_putInto_144 4 rfl
theorem dX8_putInto_150 : decode cX8_putInto 150 = .ok (.iconst 1, 1) := zdec_at bX8_putInto_144 5 rfl
theorem dX8_putInto_151 : decode cX8_putInto 151 = .ok (.iadd, 1) := zdec_at bX8_putInto_144 6 rfl
theorem dX8_putInto_152 : decode cX8_putInto 152 = .ok (.invokevirtual 870, 3) := zdec_at bX8_putInto_144 7 rfl
theorem dX8_putInto_155 : decode cX8_putInto 155 = .ok (.aload_n 0, 1) := zdec_at bX8_putInto_144 8 rfl
theorem dX8_putInto_156 : decode cX8_putInto 156 = .ok (.aload_n 0, 1) := zdec_at bX8_putInto_144 9 rfl
theorem dX8_putInto_157 : decode cX8_putInto 157 = .ok (.iconst 0, 1) := zdec_at bX8_putInto_144 10 rfl
theorem dX8_putInto_158 : decode cX8_putInto 158 = .ok (.invokevirtual 910, 3) := zdec_at bX8_putInto_144 11 rfl
theorem dX8_putInto_161 : decode cX8_putInto 161 = .ok (.aload_n 0, 1) := zdec_at bX8_putInto_144 12 rfl
theorem dX8_putInto_162 : decode cX8_putInto 162 = .ok (.iconst 0, 1) := zdec_at bX8_putInto_144 13 rfl
theorem dX8_putInto_163 : decode cX8_putInto 163 = .ok (.invokevirtual 913, 3) := zdec_at bX8_putInto_144 14 rfl
theorem dX8_putInto_166 : decode cX8_putInto 166 = .ok (.invokevirtual 822, 3) := zdec_at bX8_putInto_144 15 rfl
theorem bX8_putInto_169 : zdec cX8_putInto 169 [(169, .aload_n 0, 1), (170, .iconst 3, 1), (171, .invokevirtual 904, 3), (174, .return_, 1)] = true := by decide +kernel
theorem dX8_putInto_169 : decode cX8_putInto 169 = .ok (.aload_n 0, 1) := zdec_at bX8_putInto_169 0 rfl
theorem dX8_putInto_170 : decode cX8_putInto 170 = .ok (.iconst 3, 1) := zdec_at bX8_putInto_169 1 rfl
theorem dX8_putInto_171 : decode cX8_putInto 171 = .ok (.invokevirtual 904, 3) := zdec_at bX8_putInto_169 2 rfl
theorem dX8_putInto_174 : decode cX8_putInto 174 = .ok (.return_, 1) := zdec_at bX8_putInto_169 3 rfl
theorem sX8_putInto_0 {E : zE} {d : Nat} {Q : zO → zM → Prop} (M : zM)  (k : Zm E YX8_sortAt d M (zargs 0 [vr (some (97, 1, 0)), vi (2 : Int32)]) 0 [] (zma E YX8_putInto (d + 1) [(0, vr (some (97, 1, 0)))] 2 3 [] Q)) : Zm E YX8_putInto (d + 1) M [(0, vr (some (97, 1, 0)))] 0 [] Q := by
  refine Zm.l (fun _ _ k_ => z_aload_n dX8_putInto_0 rfl rfl k_) ?_
  refine Zm.l (fun _ _ k_ => z_iconst (v := 2) dX8_putInto_1 rfl k_) ?_
  exact zm_callV (as := [vi (2 : Int32)]) (st := []) dX8_putInto_2 vsX8_910_1 (Nat.le_refl _) (Nat.le_of_ble_eq_true rfl) (Nat.le_of_ble_eq_true rfl) rfl k
theorem sX8_putInto_5 {E : zE} {d : Nat} {Q : zO → zM → Prop} (M : zM) (s0 : Int32) (k : Zm E YX8_valueAt d M (zargs 0 [vr (some (97, 1, 0)), vi (2 : Int32)]) 0 [] (zma E YX8_putInto (d + 1) [(0, vr (some (97, 1, 0))), (1, vi s0)] 8 3 [] Q)) : Zm E YX8_putInto (d + 1) M [(0, vr (some (97, 1, 0)))] 5 [vi s0] Q := by
  refine Zm.l (fun _ _ k_ => z_ist_n dX8_putInto_5 rfl (by decide) (lv' := [(0, vr (some (97, 1, 0))), (1, vi s0)]) rfl k_) ?_
  refine Zm.l (fun _ _ k_ => z_aload_n dX8_putInto_6 rfl rfl k_) ?_
  refine Zm.l (fun _ _ k_ => z_iconst (v := 2) dX8_putInto_7 rfl k_) ?_
  exact zm_callV (as := [vi (2 : Int32)]) (st := []) dX8_putInto_8 vsX8_913_1 (Nat.le_refl _) (Nat.le_of_ble_eq_true rfl) (Nat.le_of_ble_eq_true rfl) rfl k
theorem sX8_putInto_11 {E : zE} {d : Nat} {Q : zO → zM → Prop} (M : zM) (l1 : Int32) (s0 : Int32) (k : Zm E YX8_sortAt d M (zargs 0 [vr (some (97, 1, 0)), vi (1 : Int32)]) 0 [] (zma E YX8_putInto (d + 1) [(0, vr (some (97, 1, 0))), (1, vi l1), (2, vi s0)] 15 3 [vr (some (97, 1, 0))] Q)) : Zm E YX8_putInto (d + 1) M [(0, vr (some (97, 1, 0))), (1, vi l1)] 11 [vi s0] Q := by
  refine Zm.l (fun _ _ k_ => z_ist_n dX8_putInto_11 rfl (by decide) (lv' := [(0, vr (some (97, 1, 0))), (1, vi l1), (2, vi s0)]) rfl k_) ?_
  refine Zm.l (fun _ _ k_ => z_aload_n dX8_putInto_12 rfl rfl k_) ?_
  refine Zm.l (fun _ _ k_ => z_aload_n dX8_putInto_13 rfl rfl k_) ?_
  refine Zm.l (fun _ _ k_ => z_iconst (v := 1) dX8_putInto_14 rfl k_) ?_
  exact zm_callV (as := [vi (1 : Int32)]) (st := [vr (some (97, 1, 0))]) dX8_putInto_15 vsX8_910_1 (Nat.le_refl _) (Nat.le_of_ble_eq_true rfl) (Nat.le_of_ble_eq_true rfl) rfl k
theorem sX8_putInto_18 {E : zE} {d : Nat} {Q : zO → zM → Prop} (M : zM) (l1 : Int32) (l2 : Int32) (s0 : Int32) (k : Zm E YX8_valueAt d M (zargs 0 [vr (some (97, 1, 0)), vi (1 : Int32)]) 0 [] (zma E YX8_putInto (d + 1) [(0, vr (some (97, 1, 0))), (1, vi l1), (2, vi l2)] 20 3 [vi s0, vr (some (97, 1, 0))] Q)) : Zm E YX8_putInto (d + 1) M [(0, vr (some (97, 1, 0))), (1, vi l1), (2, vi l2)] 18 [vi s0, vr (some (97, 1, 0))] Q := by
  refine Zm.l (fun _ _ k_ => z_aload_n dX8_putInto_18 rfl rfl k_) ?_
  refine Zm.l (fun _ _ k_ => z_iconst (v := 1) dX8_putInto_19 rfl k_) ?_
  exact zm_callV (as := [vi (1 : Int32)]) (st := [vi s0, vr (some (97, 1, 0))]) dX8_putInto_20 vsX8_913_1 (Nat.le_refl _) (Nat.le_of_ble_eq_true rfl) (Nat.le_of_ble_eq_true rfl) rfl k
theorem sX8_putInto_23 {E : zE} {d : Nat} {Q : zO → zM → Prop} (M : zM) (l1 : Int32) (l2 : Int32) (s0 : Int32) (s1 : Int32) (k : Zm E YX8_textOf d M (zargs 0 [vr (some (97, 1, 0)), vi s1, vi s0]) 0 [] (zma E YX8_putInto (d + 1) [(0, vr (some (97, 1, 0))), (1, vi l1), (2, vi l2)] 23 3 [] Q)) : Zm E YX8_putInto (d + 1) M [(0, vr (some (97, 1, 0))), (1, vi l1), (2, vi l2)] 23 [vi s0, vi s1, vr (some (97, 1, 0))] Q := by
  exact zm_callV (as := [vi s1, vi s0]) (st := []) dX8_putInto_23 vsX8_969_1 (Nat.le_refl _) (Nat.le_of_ble_eq_true rfl) (Nat.le_of_ble_eq_true rfl) rfl k
theorem sX8_putInto_26 {E : zE} {d : Nat} {Q : zO → zM → Prop} (M : zM) (l1 : Int32) (l2 : Int32) (s0 : Int32) (k : if (gi M 97 75) = 0 then (if (1 : Int32) < l1 then (if l1 = (7 : Int32) then (vp_in l2 300 ∧ (if (gi M 141 (l2).toNatClampNeg) = (2 : Int32) then (if s0 = 0 then (Zm E YX8_putInto (d + 1) M [(0, vr (some (97, 1, 0))), (1, vi l1), (2, vi l2), (3, vi s0)] 72 [vi (1 : Int32)] Q) else (Zm E YX8_putInto (d + 1) M [(0, vr (some (97, 1, 0))), (1, vi l1), (2, vi l2), (3, vi s0)] 72 [vi (0 : Int32)] Q)) else (Zm E YX8_putInto (d + 1) M [(0, vr (some (97, 1, 0))), (1, vi l1), (2, vi l2), (3, vi s0)] 72 [vi (0 : Int32)] Q))) else (Zm E YX8_putInto (d + 1) M [(0, vr (some (97, 1, 0))), (1, vi l1), (2, vi l2), (3, vi s0)] 72 [vi (0 : Int32)] Q)) else (Zm E YX8_error d M (zargs 0 [vr (some (97, 1, 0)), vi (6 : Int32)]) 0 [] (zma E YX8_putInto (d + 1) [] 43 3 [] Q))) else (Q (.inl none) M)) : Zm E YX8_putInto (d + 1) M [(0, vr (some (97, 1, 0))), (1, vi l1), (2, vi l2)] 26 [vi s0] Q := by
  refine Zm.l (fun _ _ k_ => z_ist_n dX8_putInto_26 rfl (by decide) (lv' := [(0, vr (some (97, 1, 0))), (1, vi l1), (2, vi l2), (3, vi s0)]) rfl k_) ?_
  refine Zm.l (fun _ _ k_ => z_aload_n dX8_putInto_27 rfl rfl k_) ?_
  refine zm_geti dX8_putInto_28 fsX8_794_1 (by decide) (by decide) ?_
  refine Zm.br (fun _ _ k1_ k2_ => z_if_eq (tgt := 35) dX8_putInto_31 rfl k1_ k2_) (fun h_ => ?_) (fun h_ => ?_)
  · have k := zit h_ k
    refine Zm.l (fun _ _ k_ => z_iload_n dX8_putInto_35 rfl rfl k_) ?_
    refine Zm.l (fun _ _ k_ => z_iconst (v := 1) dX8_putInto_36 rfl k_) ?_
    refine Zm.br (fun _ _ k1_ k2_ => z_icmp_gt (tgt := 47) dX8_putInto_37 rfl k1_ k2_) (fun h_ => ?_) (fun h_ => ?_)
    · have k := zit h_ k
      refine Zm.l (fun _ _ k_ => z_iload_n dX8_putInto_47 rfl rfl k_) ?_
      refine Zm.l (fun _ _ k_ => z_bipush (v := 7) dX8_putInto_48 rfl k_) ?_
      refine Zm.brn (fun _ _ k1_ k2_ => z_icmp_ne (tgt := 71) dX8_putInto_50 rfl k1_ k2_) (fun h_ => ?_) (fun h_ => ?_)
      · have k := zif h_ k
        refine Zm.l (fun _ _ k_ => z_iconst (v := 0) dX8_putInto_71 rfl k_) ?_
        exact k
      · have k := zit h_ k
        refine Zm.l (fun _ _ k_ => z_aload_n dX8_putInto_53 rfl rfl k_) ?_
        refine zm_getr 38 dX8_putInto_54 fsX8_143_1 rfl ?_
        refine Zm.l (fun _ _ k_ => z_iload_n dX8_putInto_57 rfl rfl k_) ?_
        obtain ⟨b_, k⟩ := k
        refine zm_iald dX8_putInto_58 b_ (by decide) (by decide) ?_
        refine Zm.l (fun _ _ k_ => z_iconst (v := 2) dX8_putInto_59 rfl k_) ?_
        refine Zm.brn (fun _ _ k1_ k2_ => z_icmp_ne (tgt := 71) dX8_putInto_60 rfl k1_ k2_) (fun h_ => ?_) (fun h_ => ?_)
        · have k := zif h_ k
          refine Zm.l (fun _ _ k_ => z_iconst (v := 0) dX8_putInto_71 rfl k_) ?_
          exact k
        · have k := zit h_ k
          refine Zm.l (fun _ _ k_ => z_iload_n dX8_putInto_63 rfl rfl k_) ?_
          refine Zm.brn (fun _ _ k1_ k2_ => z_if_ne (tgt := 71) dX8_putInto_64 rfl k1_ k2_) (fun h_ => ?_) (fun h_ => ?_)
          · have k := zif h_ k
            refine Zm.l (fun _ _ k_ => z_iconst (v := 0) dX8_putInto_71 rfl k_) ?_
            exact k
          · have k := zit h_ k
            refine Zm.l (fun _ _ k_ => z_iconst (v := 1) dX8_putInto_67 rfl k_) ?_
            refine Zm.l (fun _ _ k_ => z_goto (tgt := 72) dX8_putInto_68 rfl k_) ?_
            exact k
    · have k := zif h_ k
      refine Zm.l (fun _ _ k_ => z_aload_n dX8_putInto_40 rfl rfl k_) ?_
      refine Zm.l (fun _ _ k_ => z_bipush (v := 6) dX8_putInto_41 rfl k_) ?_
      refine Zm.pick [] rfl ?_
      exact zm_callV (as := [vi (6 : Int32)]) (st := []) dX8_putInto_43 vsX8_966_1 (Nat.le_refl _) (Nat.le_of_ble_eq_true rfl) (Nat.le_of_ble_eq_true rfl) rfl k
  · have k := zif h_ k
    exact zm_vret dX8_putInto_34 rfl k
theorem sX8_putInto_46 {E : zE} {d : Nat} {Q : zO → zM → Prop} (M : zM)  (k : Q (.inl none) M) : Zm E YX8_putInto (d + 1) M [] 46 [] Q := by
  exact zm_vret dX8_putInto_46 rfl k
theorem sX8_putInto_72 {E : zE} {d : Nat} {Q : zO → zM → Prop} (M : zM) (l1 : Int32) (l2 : Int32) (l3 : Int32) (s0 : Int32) (k : if l1 = (7 : Int32) then (if s0 = 0 then (Zm E YX8_sortAt d M (zargs 0 [vr (some (97, 1, 0)), vi (0 : Int32)]) 0 [] (zma E YX8_putInto (d + 1) [(0, vr (some (97, 1, 0))), (2, vi l2), (3, vi l3)] 90 3 [vi l3, vi l2, vr (some (97, 1, 0))] Q)) else (Zm E YX8_putInto (d + 1) M [(0, vr (some (97, 1, 0)))] 155 [] Q)) else (Zm E YX8_putInto (d + 1) M [(0, vr (some (97, 1, 0)))] 155 [] Q)) : Zm E YX8_putInto (d + 1) M [(0, vr (some (97, 1, 0))), (1, vi l1), (2, vi l2), (3, vi l3)] 72 [vi s0] Q := by
  refine Zm.l (fun _ _ k_ => z_ist dX8_putInto_72 (by decide) (lv' := [(0, vr (some (97, 1, 0))), (1, vi l1), (2, vi l2), (3, vi l3), (4, vi s0)]) rfl k_) ?_
  refine Zm.l (fun _ _ k_ => z_iload_n dX8_putInto_74 rfl rfl k_) ?_
  refine Zm.l (fun _ _ k_ => z_bipush (v := 7) dX8_putInto_75 rfl k_) ?_
  refine Zm.brn (fun _ _ k1_ k2_ => z_icmp_ne (tgt := 155) dX8_putInto_77 rfl k1_ k2_) (fun h_ => ?_) (fun h_ => ?_)
  · have k := zif h_ k
    refine Zm.pick [0] rfl ?_
    exact k
  · have k := zit h_ k
    refine Zm.l (fun _ _ k_ => z_iload dX8_putInto_80 rfl k_) ?_
    refine Zm.brn (fun _ _ k1_ k2_ => z_if_ne (tgt := 155) dX8_putInto_82 rfl k1_ k2_) (fun h_ => ?_) (fun h_ => ?_)
    · have k := zif h_ k
      refine Zm.pick [0] rfl ?_
      exact k
    · have k := zit h_ k
      refine Zm.l (fun _ _ k_ => z_aload_n dX8_putInto_85 rfl rfl k_) ?_
      refine Zm.l (fun _ _ k_ => z_iload_n dX8_putInto_86 rfl rfl k_) ?_
      refine Zm.l (fun _ _ k_ => z_iload_n dX8_putInto_87 rfl rfl k_) ?_
      refine Zm.l (fun _ _ k_ => z_aload_n dX8_putInto_88 rfl rfl k_) ?_
      refine Zm.l (fun _ _ k_ => z_iconst (v := 0) dX8_putInto_89 rfl k_) ?_
      refine Zm.pick [0, 2, 3] rfl ?_
      exact zm_callV (as := [vi (0 : Int32)]) (st := [vi l3, vi l2, vr (some (97, 1, 0))]) dX8_putInto_90 vsX8_910_1 (Nat.le_refl _) (Nat.le_of_ble_eq_true rfl) (Nat.le_of_ble_eq_true rfl) rfl k
theorem sX8_putInto_93 {E : zE} {d : Nat} {Q : zO → zM → Prop} (M : zM) (l2 : Int32) (l3 : Int32) (s0 : Int32) (s1 : Int32) (s2 : Int32) (k : Zm E YX8_valueAt d M (zargs 0 [vr (some (97, 1, 0)), vi (0 : Int32)]) 0 [] (zma E YX8_putInto (d + 1) [(0, vr (some (97, 1, 0))), (2, vi l2), (3, vi l3)] 95 3 [vi s0, vi s1, vi s2, vr (some (97, 1, 0))] Q)) : Zm E YX8_putInto (d + 1) M [(0, vr (some (97, 1, 0))), (2, vi l2), (3, vi l3)] 93 [vi s0, vi s1, vi s2, vr (some (97, 1, 0))] Q := by
  refine Zm.l (fun _ _ k_ => z_aload_n dX8_putInto_93 rfl rfl k_) ?_
  refine Zm.l (fun _ _ k_ => z_iconst (v := 0) dX8_putInto_94 rfl k_) ?_
  exact zm_callV (as := [vi (0 : Int32)]) (st := [vi s0, vi s1, vi s2, vr (some (97, 1, 0))]) dX8_putInto_95 vsX8_913_1 (Nat.le_refl _) (Nat.le_of_ble_eq_true rfl) (Nat.le_of_ble_eq_true rfl) rfl k
theorem sX8_putInto_98 {E : zE} {d : Nat} {Q : zO → zM → Prop} (M : zM) (l2 : Int32) (l3 : Int32) (s0 : Int32) (s1 : Int32) (s2 : Int32) (s3 : Int32) (k : Zm E YX8_set_2 d M (zargs 0 [vr (some (97, 1, 0)), vi s3, vi s2, vi s1, vi s0]) 0 [] (zma E YX8_putInto (d + 1) [(0, vr (some (97, 1, 0))), (2, vi l2), (3, vi l3)] 98 3 [] Q)) : Zm E YX8_putInto (d + 1) M [(0, vr (some (97, 1, 0))), (2, vi l2), (3, vi l3)] 98 [vi s0, vi s1, vi s2, vi s3, vr (some (97, 1, 0))] Q := by
  exact zm_callV (as := [vi s3, vi s2, vi s1, vi s0]) (st := []) dX8_putInto_98 vsX8_870_1 (Nat.le_refl _) (Nat.le_of_ble_eq_true rfl) (Nat.le_of_ble_eq_true rfl) rfl k
theorem sX8_putInto_101 {E : zE} {d : Nat} {Q : zO → zM → Prop} (M : zM) (l2 : Int32) (l3 : Int32) (k : vp_in l2 300 ∧ (if (gi M 141 (l2).toNatClampNeg) = (2 : Int32) then (Zm E YX8_indexOf d M (zargs 0 [vr (some (97, 1, 0)), vi l3]) 0 [] (zma E YX8_putInto (d + 1) [(0, vr (some (97, 1, 0))), (2, vi l2)] 113 3 [] Q)) else (Zm E YX8_putInto (d + 1) M [(0, vr (some (97, 1, 0))), (2, vi l2)] 120 [vi (-1 : Int32)] Q))) : Zm E YX8_putInto (d + 1) M [(0, vr (some (97, 1, 0))), (2, vi l2), (3, vi l3)] 101 [] Q := by
  refine Zm.l (fun _ _ k_ => z_aload_n dX8_putInto_101 rfl rfl k_) ?_
  refine zm_getr 38 dX8_putInto_102 fsX8_143_1 rfl ?_
  refine Zm.l (fun _ _ k_ => z_iload_n dX8_putInto_105 rfl rfl k_) ?_
  obtain ⟨b_, k⟩ := k
  refine zm_iald dX8_putInto_106 b_ (by decide) (by decide) ?_
  refine Zm.l (fun _ _ k_ => z_iconst (v := 2) dX8_putInto_107 rfl k_) ?_
  refine Zm.brn (fun _ _ k1_ k2_ => z_icmp_ne (tgt := 119) dX8_putInto_108 rfl k1_ k2_) (fun h_ => ?_) (fun h_ => ?_)
  · have k := zif h_ k
    refine Zm.l (fun _ _ k_ => z_iconst (v := -1) dX8_putInto_119 rfl k_) ?_
    refine Zm.pick [0, 1] rfl ?_
    exact k
  · have k := zit h_ k
    refine Zm.l (fun _ _ k_ => z_aload_n dX8_putInto_111 rfl rfl k_) ?_
    refine Zm.l (fun _ _ k_ => z_iload_n dX8_putInto_112 rfl rfl k_) ?_
    refine Zm.pick [0, 1] rfl ?_
    exact zm_callV (as := [vi l3]) (st := []) dX8_putInto_113 vsX8_975_1 (Nat.le_refl _) (Nat.le_of_ble_eq_true rfl) (Nat.le_of_ble_eq_true rfl) rfl k
theorem sX8_putInto_116 {E : zE} {d : Nat} {Q : zO → zM → Prop} (M : zM) (l2 : Int32) (s0 : Int32) (k : Zm E YX8_putInto (d + 1) M [(0, vr (some (97, 1, 0))), (2, vi l2)] 120 [vi s0] Q) : Zm E YX8_putInto (d + 1) M [(0, vr (some (97, 1, 0))), (2, vi l2)] 116 [vi s0] Q := by
  refine Zm.l (fun _ _ k_ => z_goto (tgt := 120) dX8_putInto_116 rfl k_) ?_
  exact k
theorem sX8_putInto_120 {E : zE} {d : Nat} {Q : zO → zM → Prop} (M : zM) (l2 : Int32) (s0 : Int32) (k : if (gi M 97 75) = 0 then (if s0 < 0 then (Zm E YX8_putInto (d + 1) M [(0, vr (some (97, 1, 0)))] 155 [] Q) else (Zm E YX8_lengthOf d M (zargs 0 [vr (some (97, 1, 0)), vi l2]) 0 [] (zma E YX8_putInto (d + 1) [(0, vr (some (97, 1, 0))), (2, vi l2), (5, vi s0)] 138 3 [vi s0] Q))) else (Zm E YX8_putInto (d + 1) M [(0, vr (some (97, 1, 0)))] 155 [] Q)) : Zm E YX8_putInto (d + 1) M [(0, vr (some (97, 1, 0))), (2, vi l2)] 120 [vi s0] Q := by
  refine Zm.l (fun _ _ k_ => z_ist dX8_putInto_120 (by decide) (lv' := [(0, vr (some (97, 1, 0))), (2, vi l2), (5, vi s0)]) rfl k_) ?_
  refine Zm.l (fun _ _ k_ => z_aload_n dX8_putInto_122 rfl rfl k_) ?_
  refine zm_geti dX8_putInto_123 fsX8_794_1 (by decide) (by decide) ?_
  refine Zm.brn (fun _ _ k1_ k2_ => z_if_ne (tgt := 155) dX8_putInto_126 rfl k1_ k2_) (fun h_ => ?_) (fun h_ => ?_)
  · have k := zif h_ k
    refine Zm.pick [0] rfl ?_
    exact k
  · have k := zit h_ k
    refine Zm.l (fun _ _ k_ => z_iload dX8_putInto_129 rfl k_) ?_
    refine Zm.br (fun _ _ k1_ k2_ => z_if_lt (tgt := 155) dX8_putInto_131 rfl k1_ k2_) (fun h_ => ?_) (fun h_ => ?_)
    · have k := zit h_ k
      refine Zm.pick [0] rfl ?_
      exact k
    · have k := zif h_ k
      refine Zm.l (fun _ _ k_ => z_iload dX8_putInto_134 rfl k_) ?_
      refine Zm.l (fun _ _ k_ => z_aload_n dX8_putInto_136 rfl rfl k_) ?_
      refine Zm.l (fun _ _ k_ => z_iload_n dX8_putInto_137 rfl rfl k_) ?_
      exact zm_callV (as := [vi l2]) (st := [vi s0]) dX8_putInto_138 vsX8_978_1 (Nat.le_refl _) (Nat.le_of_ble_eq_true rfl) (Nat.le_of_ble_eq_true rfl) rfl k
theorem sX8_putInto_141 {E : zE} {d : Nat} {Q : zO → zM → Prop} (M : zM) (l2 : Int32) (l5 : Int32) (s0 : Int32) (s1 : Int32) (k : if s1 < s0 then (Zm E YX8_putInto (d + 1) M [(0, vr (some (97, 1, 0)))] 155 [] Q) else (Zm E YX8_set_2 d M (zargs 0 [vr (some (97, 1, 0)), vi l2, vi (0 : Int32), vi (5 : Int32), vi (l5 + (1 : Int32))]) 0 [] (zma E YX8_putInto (d + 1) [(0, vr (some (97, 1, 0)))] 152 3 [] Q))) : Zm E YX8_putInto (d + 1) M [(0, vr (some (97, 1, 0))), (2, vi l2), (5, vi l5)] 141 [vi s0, vi s1] Q := by
  refine Zm.br (fun _ _ k1_ k2_ => z_icmp_lt (tgt := 155) dX8_putInto_141 rfl k1_ k2_) (fun h_ => ?_) (fun h_ => ?_)
  · have k := zit h_ k
    refine Zm.pick [0] rfl ?_
    exact k
  · have k := zif h_ k
    refine Zm.l (fun _ _ k_ => z_aload_n dX8_putInto_144 rfl rfl k_) ?_
    refine Zm.l (fun _ _ k_ => z_iload_n dX8_putInto_145 rfl rfl k_) ?_
    refine Zm.l (fun _ _ k_ => z_iconst (v := 0) dX8_putInto_146 rfl k_) ?_
    refine Zm.l (fun _ _ k_ => z_iconst (v := 5) dX8_putInto_147 rfl k_) ?_
    refine Zm.l (fun _ _ k_ => z_iload dX8_putInto_148 rfl k_) ?_
    refine Zm.l (fun _ _ k_ => z_iconst (v := 1) dX8_putInto_150 rfl k_) ?_
    refine Zm.l (fun _ _ k_ => z_iadd dX8_putInto_151 k_) ?_
    refine Zm.pick [0] rfl ?_
    exact zm_callV (as := [vi l2, vi (0 : Int32), vi (5 : Int32), vi (l5 + (1 : Int32))]) (st := []) dX8_putInto_152 vsX8_870_1 (Nat.le_refl _) (Nat.le_of_ble_eq_true rfl) (Nat.le_of_ble_eq_true rfl) rfl k
theorem sX8_putInto_155 {E : zE} {d : Nat} {Q : zO → zM → Prop} (M : zM)  (k : Zm E YX8_sortAt d M (zargs 0 [vr (some (97, 1, 0)), vi (0 : Int32)]) 0 [] (zma E YX8_putInto (d + 1) [(0, vr (some (97, 1, 0)))] 158 3 [vr (some (97, 1, 0))] Q)) : Zm E YX8_putInto (d + 1) M [(0, vr (some (97, 1, 0)))] 155 [] Q := by
  refine Zm.l (fun _ _ k_ => z_aload_n dX8_putInto_155 rfl rfl k_) ?_
  refine Zm.l (fun _ _ k_ => z_aload_n dX8_putInto_156 rfl rfl k_) ?_
  refine Zm.l (fun _ _ k_ => z_iconst (v := 0) dX8_putInto_157 rfl k_) ?_
  exact zm_callV (as := [vi (0 : Int32)]) (st := [vr (some (97, 1, 0))]) dX8_putInto_158 vsX8_910_1 (Nat.le_refl _) (Nat.le_of_ble_eq_true rfl) (Nat.le_of_ble_eq_true rfl) rfl k
theorem sX8_putInto_161 {E : zE} {d : Nat} {Q : zO → zM → Prop} (M : zM) (s0 : Int32) (k : Zm E YX8_valueAt d M (zargs 0 [vr (some (97, 1, 0)), vi (0 : Int32)]) 0 [] (zma E YX8_putInto (d + 1) [(0, vr (some (97, 1, 0)))] 163 3 [vi s0, vr (some (97, 1, 0))] Q)) : Zm E YX8_putInto (d + 1) M [(0, vr (some (97, 1, 0)))] 161 [vi s0, vr (some (97, 1, 0))] Q := by
  refine Zm.l (fun _ _ k_ => z_aload_n dX8_putInto_161 rfl rfl k_) ?_
  refine Zm.l (fun _ _ k_ => z_iconst (v := 0) dX8_putInto_162 rfl k_) ?_
  exact zm_callV (as := [vi (0 : Int32)]) (st := [vi s0, vr (some (97, 1, 0))]) dX8_putInto_163 vsX8_913_1 (Nat.le_refl _) (Nat.le_of_ble_eq_true rfl) (Nat.le_of_ble_eq_true rfl) rfl k
theorem sX8_putInto_166 {E : zE} {d : Nat} {Q : zO → zM → Prop} (M : zM) (s0 : Int32) (s1 : Int32) (k : Zm E YX8_give_2 d M (zargs 0 [vr (some (97, 1, 0)), vi s1, vi s0]) 0 [] (zma E YX8_putInto (d + 1) [(0, vr (some (97, 1, 0)))] 166 3 [] Q)) : Zm E YX8_putInto (d + 1) M [(0, vr (some (97, 1, 0)))] 166 [vi s0, vi s1, vr (some (97, 1, 0))] Q := by
  exact zm_callV (as := [vi s1, vi s0]) (st := []) dX8_putInto_166 vsX8_822_1 (Nat.le_refl _) (Nat.le_of_ble_eq_true rfl) (Nat.le_of_ble_eq_true rfl) rfl k
theorem sX8_putInto_169 {E : zE} {d : Nat} {Q : zO → zM → Prop} (M : zM)  (k : Zm E YX8_gives d M (zargs 0 [vr (some (97, 1, 0)), vi (3 : Int32)]) 0 [] (zma E YX8_putInto (d + 1) [] 171 3 [] Q)) : Zm E YX8_putInto (d + 1) M [(0, vr (some (97, 1, 0)))] 169 [] Q := by
  refine Zm.l (fun _ _ k_ => z_aload_n dX8_putInto_169 rfl rfl k_) ?_
  refine Zm.l (fun _ _ k_ => z_iconst (v := 3) dX8_putInto_170 rfl k_) ?_
  refine Zm.pick [] rfl ?_
  exact zm_callV (as := [vi (3 : Int32)]) (st := []) dX8_putInto_171 vsX8_904_1 (Nat.le_refl _) (Nat.le_of_ble_eq_true rfl) (Nat.le_of_ble_eq_true rfl) rfl k
theorem sX8_putInto_174 {E : zE} {d : Nat} {Q : zO → zM → Prop} (M : zM)  (k : Q (.inl none) M) : Zm E YX8_putInto (d + 1) M [] 174 [] Q := by
  exact zm_vret dX8_putInto_174 rfl k
