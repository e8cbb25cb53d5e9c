/-! ScriptTypesModel.prepare(JJI)V -/
theorem bX8_prepare_0 : zdec cX8_prepare 0 [(0, .aload_n 0, 1), (1, .aload_n 0, 1), (2, .getfield 1188, 3), (5, .invokevirtual 1211, 3), (8, .iload 5, 2), (10, .iconst (-1), 1), (11, .if_icmp .ne 4, 3), (14, .return_, 1), (15, .lconst 0, 1), (16, .lstore 6, 2), (18, .lconst 0, 1), (19, .lstore 8, 2), (21, .iconst 0, 1), (22, .istore 10, 2), (24, .iload 10, 2), (26, .aload_n 0, 1)] = true := by decide +kernel
theorem dX8_prepare_0 : decode cX8_prepare 0 = .ok (.aload_n 0, 1) := zdec_at bX8_prepare_0 0 rfl
theorem dX8_prepare_1 : decode cX8_prepare 1 = .ok (.aload_n 0, 1) := zdec_at bX8_prepare_0 1 rfl
theorem dX8_prepare_2 : decode cX8_prepare 2 = .ok (.getfield 1188, 3) := zdec_at bX8_prepare_0 2 rfl
theorem dX8_prepare_5 : decode cX8_prepare 5 = .ok (.invokevirtual 1211, 3) := zdec_at bX8_prepare_0 3 rfl
theorem dX8_prepare_8 : decode cX8_prepare 8 = .ok (.iload 5, 2) := zdec_at bX8_prepare_0 4 rfl
theorem dX8_prepare_10 : decode cX8_prepare 10 = .ok (.iconst (-1), 1) := zdec_at bX8_prepare_0 5 rfl
theorem dX8_prepare_11 : decode cX8_prepare 11 = .ok (.if_icmp .ne 4, 3) := zdec_at bX8_prepare_0 6 rfl
theorem dX8_prepare_14 : decode cX8_prepare 14 = .ok (.return_, 1) := zdec_at bX8_prepare_0 7 rfl
theorem dX8_prepare_15 : decode cX8_prepare 15 = .ok (.lconst 0, 1) := zdec_at bX8_prepare_0 8 rfl
theorem dX8_prepare_16 : decode cX8_prepare 16 = .ok (.lstore 6, 2) := zdec_at bX8_prepare_0 9 rfl
theorem dX8_prepare_18 : decode cX8_prepare 18 = .ok (.lconst 0, 1) := zdec_at bX8_prepare_0 10 rfl
theorem dX8_prepare_19 : decode cX8_prepare 19 = .ok (.lstore 8, 2) := zdec_at bX8_prepare_0 11 rfl
theorem dX8_prepare_21 : decode cX8_prepare 21 = .ok (.iconst 0, 1) := zdec_at bX8_prepare_0 12 rfl
theorem dX8_prepare_22 : decode cX8_prepare 22 = .ok (.istore 10, 2) := zdec_at bX8_prepare_0 13 rfl
theorem dX8_prepare_24 : decode cX8_prepare 24 = .ok (.iload 10, 2) := zdec_at bX8_prepare_0 14 rfl
theorem dX8_prepare_26 : decode cX8_prepare 26 = .ok (.aload_n 0, 1) := zdec_at bX8_prepare_0 15 rfl
theorem bX8_prepare_27 : zdec cX8_prepare 27 [(27, .getfield 765, 3), (30, .if_icmp .ge 62, 3), (33, .lload_n 1, 1), (34, .lload_n 3, 1), (35, .iload 10, 2), (37, .invokestatic 1125, 3), (40, .ifCond .eq 46, 3), (43, .aload_n 0, 1), (44, .iload 10, 2), (46, .invokevirtual 1326, 3), (49, .ifCond .ne 6, 3), (52, .goto 34, 3), (55, .iload 10, 2), (57, .bipush 64, 2), (59, .if_icmp .ge 15, 3), (62, .lload 6, 2)] = true := by decide +kernel
theorem dX8_prepare_27 : decode cX8_prepare 27 = .ok (.getfield 765, 3) := zdec_at bX8_prepare_27 0 rfl
theorem dX8_prepare_30 : decode cX8_prepare 30 = .ok (.if_icmp .ge 62, 3) := zdec_at bX8_prepare_27 1 rfl
theorem dX8_prepare_33 : decode cX8_prepare 33 = .ok (.lload_n 1, 1) := zdec_at bX8_prepare_27 2 rfl
theorem dX8_prepare_34 : decode cX8_prepare 34 = .ok (.lload_n 3, 1) := zdec_at bX8_prepare_27 3 rfl
theorem dX8_prepare_35 : decode cX8_prepare 35 = .ok (.iload 10, 2) := zdec_at bX8_prepare_27 4 rfl
theorem dX8_prepare_37 : decode cX8_prepare 37 = .ok (.invokestatic 1125, 3) := zdec_at bX8_prepare_27 5 rfl
theorem dX8_prepare_40 : decode cX8_prepare 40 = .ok (.ifCond .eq 46, 3) := zdec_at bX8_prepare_27 6 rfl
theorem dX8_prepare_43 : decode cX8_prepare 43 = .ok (.aload_n 0, 1) := zdec_at bX8_prepare_27 7 rfl
theorem dX8_prepare_44 : decode cX8_prepare 44 = .ok (.iload 10, 2) := zdec_at bX8_prepare_27 8 rfl
theorem dX8_prepare_46 : decode cX8_prepare 46 = .ok (.invokevirtual 1326, 3) := zdec_at bX8_prepare_27 9 rfl
theorem dX8_prepare_49 : decode cX8_prepare 49 = .ok (.ifCond .ne 6, 3) := zdec_at bX8_prepare_27 10 rfl
theorem dX8_prepare_52 : decode cX8_prepare 52 = .ok (.goto 34, 3) := zdec_at bX8_prepare_27 11 rfl
theorem dX8_prepare_55 : decode cX8_prepare 55 = .ok (.iload 10, 2) := zdec_at bX8_prepare_27 12 rfl
theorem dX8_prepare_57 : decode cX8_prepare 57 = .ok (.bipush 64, 2) := zdec_at bX8_prepare_27 13 rfl
theorem dX8_prepare_59 : decode cX8_prepare 59 = .ok (.if_icmp .ge 15, 3) := zdec_at bX8_prepare_27 14 rfl
theorem dX8_prepare_62 : decode cX8_prepare 62 = .ok (.lload 6, 2) := zdec_at bX8_prepare_27 15 rfl
theorem bX8_prepare_64 : zdec cX8_prepare 64 [(64, .lconst 1, 1), (65, .iload 10, 2), (67, .lshl, 1), (68, .lor, 1), (69, .lstore 6, 2), (71, .goto 15, 3), (74, .lload 8, 2), (76, .lconst 1, 1), (77, .iload 10, 2), (79, .bipush 64, 2), (81, .isub, 1), (82, .lshl, 1), (83, .lor, 1), (84, .lstore 8, 2), (86, .iinc 10 1, 3), (89, .goto (-65), 3)] = true := by decide +kernel
theorem dX8_prepare_64 : decode cX8_prepare 64 = .ok (.lconst 1, 1) := zdec_at bX8_prepare_64 0 rfl
theorem dX8_prepare_65 : decode cX8_prepare 65 = .ok (.iload 10, 2) := zdec_at bX8_prepare_64 1 rfl
theorem dX8_prepare_67 : decode cX8_prepare 67 = .ok (.lshl, 1) := zdec_at bX8_prepare_64 2 rfl
theorem dX8_prepare_68 : decode cX8_prepare 68 = .ok (.lor, 1) := zdec_at bX8_prepare_64 3 rfl
theorem dX8_prepare_69 : decode cX8_prepare 69 = .ok (.lstore 6, 2) := zdec_at bX8_prepare_64 4 rfl
theorem dX8_prepare_71 : decode cX8_prepare 71 = .ok (.goto 15, 3) := zdec_at bX8_prepare_64 5 rfl
theorem dX8_prepare_74 : decode cX8_prepare 74 = .ok (.lload 8, 2) := zdec_at bX8_prepare_64 6 rfl
theorem dX8_prepare_76 : decode cX8_prepare 76 = .ok (.lconst 1, 1) := zdec_at bX8_prepare_64 7 rfl
theorem dX8_prepare_77 : decode cX8_prepare 77 = .ok (.iload 10, 2) := zdec_at bX8_prepare_64 8 rfl
theorem dX8_prepare_79 : decode cX8_prepare 79 = .ok (.bipush 64, 2) := zdec_at bX8_prepare_64 9 rfl
theorem dX8_prepare_81 : decode cX8_prepare 81 = .ok (.isub, 1) := zdec_at bX8_prepare_64 10 rfl
theorem dX8_prepare_82 : decode cX8_prepare 82 = .ok (.lshl, 1) := zdec_at bX8_prepare_64 11 rfl
theorem dX8_prepare_83 : decode cX8_prepare 83 = .ok (.lor, 1) := zdec_at bX8_prepare_64 12 rfl
theorem dX8_prepare_84 : decode cX8_prepare 84 = .ok (.lstore 8, 2) := zdec_at bX8_prepare_64 13 rfl
theorem dX8_prepare_86 : decode cX8_prepare 86 = .ok (.iinc 10 1, 3) := zdec_at bX8_prepare_64 14 rfl
theorem dX8_prepare_89 : decode cX8_prepare 89 = .ok (.goto (-65), 3) := zdec_at bX8_prepare_64 15 rfl
theorem bX8_prepare_92 : zdec cX8_prepare 92 [(92, .ldc_w 1339, 3), (95, .istore 10, 2), (97, .aload_n 0, 1), (98, .invokevirtual 1135, 3), (101, .aload_n 0, 1), (102, .iconst 1, 1), (103, .invokevirtual 1138, 3), (106, .aload_n 0, 1), (107, .lload 6, 2), (109, .lload 8, 2), (111, .iload 10, 2), (113, .invokevirtual 1306, 3), (116, .aload_n 0, 1), (117, .getfield 1156, 3), (120, .ifCond .ne 12, 3), (123, .aload_n 0, 1)] = true := by decide +kernel
theorem dX8_prepare_92 : decode cX8_prepare 92 = .ok (.ldc_w 1339, 3) := zdec_at bX8_prepare_92 0 rfl
theorem dX8_prepare_95 : decode cX8_prepare 95 = .ok (.istore 10, 2) := zdec_at bX8_prepare_92 1 rfl
theorem dX8_prepare_97 : decode cX8_prepare 97 = .ok (.aload_n 0, 1) := zdec_at bX8_prepare_92 2 rfl
theorem dX8_prepare_98 : decode cX8_prepare 98 = .ok (.invokevirtual 1135, 3) := zdec_at bX8_prepare_92 3 rfl
theorem dX8_prepare_101 : decode cX8_prepare 101 = .ok (.aload_n 0, 1) := zdec_at bX8_prepare_92 4 rfl
theorem dX8_prepare_102 : decode cX8_prepare 102 = .ok (.iconst 1, 1) := zdec_at bX8_prepare_92 5 rfl
theorem dX8_prepare_103 : decode cX8_prepare 103 = .ok (.invokevirtual 1138, 3) := zdec_at bX8_prepare_92 6 rfl
theorem dX8_prepare_106 : decode cX8_prepare 106 = .ok (.aload_n 0, 1) := zdec_at bX8_prepare_92 7 rfl
theorem dX8_prepare_107 : decode cX8_prepare 107 = .ok (.lload 6, 2) := zdec_at bX8_prepare_92 8 rfl
theorem dX8_prepare_109 : decode cX8_prepare 109 = .ok (.lload 8, 2) := zdec_at bX8_prepare_92 9 rfl
theorem dX8_prepare_111 : decode cX8_prepare 111 = .ok (.iload 10, 2) := zdec_at bX8_prepare_92 10 rfl
theorem dX8_prepare_113 : decode cX8_prepare 113 = .ok (.invokevirtual 1306, 3) := zdec_at bX8_prepare_92 11 rfl
theorem dX8_prepare_116 : decode cX8_prepare 116 = .ok (.aload_n 0, 1) := zdec_at bX8_prepare_92 12 rfl
theorem dX8_prepare_117 : decode cX8_prepare 117 = .ok (.getfield 1156, 3) := zdec_at bX8_prepare_92 13 rfl
theorem dX8_prepare_120 : decode cX8_prepare 120 = .ok (.ifCond .ne 12, 3) := zdec_at bX8_prepare_92 14 rfl
theorem dX8_prepare_123 : decode cX8_prepare 123 = .ok (.aload_n 0, 1) := zdec_at bX8_prepare_92 15 rfl
theorem bX8_prepare_124 : zdec cX8_prepare 124 [(124, .iload 10, 2), (126, .invokevirtual 1059, 3), (129, .ifCond .eq 7, 3), (132, .iconst 1, 1), (133, .goto 4, 3), (136, .iconst 0, 1), (137, .istore 11, 2), (139, .aload_n 0, 1), (140, .getfield 286, 3), (143, .iconst 0, 1), (144, .iload 10, 2), (146, .iastore, 1), (147, .aload_n 0, 1), (148, .iconst 1, 1), (149, .putfield 1178, 3), (152, .aload_n 0, 1)] = true := by decide +kernel
theorem dX8_prepare_124 : decode cX8_prepare 124 = .ok (.iload 10, 2) := zdec_at bX8_prepare_124 0 rfl
theorem dX8_prepare_126 : decode cX8_prepare 126 = .ok (.invokevirtual 1059, 3) := zdec_at bX8_prepare_124 1 rfl
theorem dX8_prepare_129 : decode cX8_prepare 129 = .ok (.ifCond .eq 7, 3) := zdec_at bX8_prepare_124 2 rfl
theorem dX8_prepare_132 : decode cX8_prepare 132 = .ok (.iconst 1, 1) := zdec_at bX8_prepare_124 3 rfl
theorem dX8_prepare_133 : decode cX8_prepare 133 = .ok (.goto 4, 3) := zdec_at bX8_prepare_124 4 rfl
theorem dX8_prepare_136 : decode cX8_prepare 136 = .ok (.iconst 0, 1) := zdec_at bX8_prepare_124 5 rfl
theorem dX8_prepare_137 : decode cX8_prepare 137 = .ok (.istore 11, 2) := zdec_at bX8_prepare_124 6 rfl
theorem dX8_prepare_139 : decode cX8_prepare 139 = .ok (.aload_n 0, 1) := zdec_at bX8_prepare_124 7 rfl
theorem dX8_prepare_140 : decode cX8_prepare 140 = .ok (.getfield 286, 3) := zdec_at bX8_prepare_124 8 rfl
theorem dX8_prepare_143 : decode cX8_prepare 143 = .ok (.iconst 0, 1) := zdec_at bX8_prepare_124 9 rfl
theorem dX8_prepare_144 : decode cX8_prepare 144 = .ok (.iload 10, 2) := zdec_at bX8_prepare_124 10 rfl
theorem dX8_prepare_146 : decode cX8_prepare 146 = .ok (.iastore, 1) := zdec_at bX8_prepare_124 11 rfl
theorem dX8_prepare_147 : decode cX8_prepare 147 = .ok (.aload_n 0, 1) := zdec_at bX8_prepare_124 12 rfl
theorem dX8_prepare_148 : decode cX8_prepare 148 = .ok (.iconst 1, 1) := zdec_at bX8_prepare_124 13 rfl
theorem dX8_prepare_149 : decode cX8_prepare 149 = .ok (.putfield 1178, 3) := zdec_at bX8_prepare_124 14 rfl
theorem dX8_prepare_152 : decode cX8_prepare 152 = .ok (.aload_n 0, 1) := zdec_at bX8_prepare_124 15 rfl
theorem bX8_prepare_153 : zdec cX8_prepare 153 [(153, .aload_n 0, 1), (154, .iload 5, 2), (156, .invokevirtual 920, 3), (159, .iconst 1, 1), (160, .invokevirtual 1241, 3), (163, .aload_n 0, 1), (164, .iconst 0, 1), (165, .putfield 1178, 3), (168, .aload_n 0, 1), (169, .sipush 639, 3), (172, .aload_n 0, 1), (173, .iload 5, 2), (175, .invokevirtual 920, 3), (178, .invokevirtual 1101, 3), (181, .istore 12, 2), (183, .aload_n 0, 1)] = true := by decide +kernel
theorem dX8_prepare_153 : decode cX8_prepare 153 = .ok (.aload_n 0, 1) := zdec_at bX8_prepare_153 0 rfl
theorem dX8_prepare_154 : decode cX8_prepare 154 = .ok (.iload 5, 2) := zdec_at bX8_prepare_153 1 rfl
theorem dX8_prepare_156 : decode cX8_prepare 156 = .ok (.invokevirtual 920, 3) := zdec_at bX8_prepare_153 2 rfl
theorem dX8_prepare_159 : decode cX8_prepare 159 = .ok (.iconst 1, 1) := zdec_at bX8_prepare_153 3 rfl
theorem dX8_prepare_160 : decode cX8_prepare 160 = .ok (.invokevirtual 1241, 3) := zdec_at bX8_prepare_153 4 rfl
theorem dX8_prepare_163 : decode cX8_prepare 163 = .ok (.aload_n 0, 1) := zdec_at bX8_prepare_153 5 rfl
theorem dX8_prepare_164 : decode cX8_prepare 164 = .ok (.iconst 0, 1) := zdec_at bX8_prepare_153 6 rfl
theorem dX8_prepare_165 : decode cX8_prepare 165 = .ok (.putfield 1178, 3) := zdec_at bX8_prepare_153 7 rfl
theorem dX8_prepare_168 : decode cX8_prepare 168 = .ok (.aload_n 0, 1) := zdec_at bX8_prepare_153 8 rfl
theorem dX8_prepare_169 : decode cX8_prepare 169 = .ok (.sipush 639, 3) := zdec_at bX8_prepare_153 9 rfl
theorem dX8_prepare_172 : decode cX8_prepare 172 = .ok (.aload_n 0, 1) := zdec_at bX8_prepare_153 10 rfl
theorem dX8_prepare_173 : decode cX8_prepare 173 = .ok (.iload 5, 2) := zdec_at bX8_prepare_153 11 rfl
theorem dX8_prepare_175 : decode cX8_prepare 175 = .ok (.invokevirtual 920, 3) := zdec_at bX8_prepare_153 12 rfl
theorem dX8_prepare_178 : decode cX8_prepare 178 = .ok (.invokevirtual 1101, 3) := zdec_at bX8_prepare_153 13 rfl
theorem dX8_prepare_181 : decode cX8_prepare 181 = .ok (.istore 12, 2) := zdec_at bX8_prepare_153 14 rfl
theorem dX8_prepare_183 : decode cX8_prepare 183 = .ok (.aload_n 0, 1) := zdec_at bX8_prepare_153 15 rfl
theorem bX8_prepare_184 : zdec cX8_prepare 184 [(184, .getfield 262, 3), (187, .iload 12, 2), (189, .aload_n 0, 1), (190, .getfield 220, 3), (193, .iload 10, 2), (195, .laload, 1), (196, .iload 11, 2), (198, .ifCond .eq 9, 3), (201, .ldc2_w 1340, 3), (204, .goto 4, 3), (207, .lconst 0, 1), (208, .lor, 1), (209, .lastore, 1), (210, .aload_n 0, 1), (211, .getfield 265, 3), (214, .iload 12, 2)] = true := by decide +kernel
theorem dX8_prepare_184 : decode cX8_prepare 184 = .ok (.getfield 262, 3) := zdec_at bX8_prepare_184 0 rfl
theorem dX8_prepare_187 : decode cX8_prepare 187 = .ok (.iload 12, 2) := zdec_at bX8_prepare_184 1 rfl
theorem dX8_prepare_189 : decode cX8_prepare 189 = .ok (.aload_n 0, 1) := zdec_at bX8_prepare_184 2 rfl
theorem dX8_prepare_190 : decode cX8_prepare 190 = .ok (.getfield 220, 3) := zdec_at bX8_prepare_184 3 rfl
theorem dX8_prepare_193 : decode cX8_prepare 193 = .ok (.iload 10, 2) := zdec_at bX8_prepare_184 4 rfl
theorem dX8_prepare_195 : decode cX8_prepare 195 = .ok (.laload, 1) := zdec_at bX8_prepare_184 5 rfl
theorem dX8_prepare_196 : decode cX8_prepare 196 = .ok (.iload 11, 2) := zdec_at bX8_prepare_184 6 rfl
theorem dX8_prepare_198 : decode cX8_prepare 198 = .ok (.ifCond .eq 9, 3) := zdec_at bX8_prepare_184 7 rfl
theorem dX8_prepare_201 : decode cX8_prepare 201 = .ok (.ldc2_w 1340, 3) := zdec_at bX8_prepare_184 8 rfl
theorem dX8_prepare_204 : decode cX8_prepare 204 = .ok (.goto 4, 3) := zdec_at bX8_prepare_184 9 rfl
theorem dX8_prepare_207 : decode cX8_prepare 207 = .ok (.lconst 0, 1) := zdec_at bX8_prepare_184 10 rfl
theorem dX8_prepare_208 : decode cX8_prepare 208 = .ok (.lor, 1) := zdec_at bX8_prepare_184 11 rfl
theorem dX8_prepare_209 : decode cX8_prepare 209 = .ok (.lastore, 1) := zdec_at bX8_prepare_184 12 rfl
theorem dX8_prepare_210 : decode cX8_prepare 210 = .ok (.aload_n 0, 1) := zdec_at bX8_prepare_184 13 rfl
theorem dX8_prepare_211 : decode cX8_prepare 211 = .ok (.getfield 265, 3) := zdec_at bX8_prepare_184 14 rfl
theorem dX8_prepare_214 : decode cX8_prepare 214 = .ok (.iload 12, 2) := zdec_at bX8_prepare_184 15 rfl
theorem bX8_prepare_216 : zdec cX8_prepare 216 [(216, .aload_n 0, 1), (217, .getfield 223, 3), (220, .iload 10, 2), (222, .laload, 1), (223, .lastore, 1), (224, .return_, 1)] = true := by decide +kernel
theorem dX8_prepare_216 : decode cX8_prepare 216 = .ok (.aload_n 0, 1) := zdec_at bX8_prepare_216 0 rfl
theorem dX8_prepare_217 : decode cX8_prepare 217 = .ok (.getfield 223, 3) := zdec_at bX8_prepare_216 1 rfl
theorem dX8_prepare_220 : decode cX8_prepare 220 = .ok (.iload 10, 2) := zdec_at bX8_prepare_216 2 rfl
theorem dX8_prepare_222 : decode cX8_prepare 222 = .ok (.laload, 1) := zdec_at bX8_prepare_216 3 rfl
theorem dX8_prepare_223 : decode cX8_prepare 223 = .ok (.lastore, 1) := zdec_at bX8_prepare_216 4 rfl
theorem dX8_prepare_224 : decode cX8_prepare 224 = .ok (.return_, 1) := zdec_at bX8_prepare_216 5 rfl
theorem sX8_prepare_0 {E : zE} {d : Nat} {Q : zO → zM → Prop} (M : zM) (l1 : Int64) (l3 : Int64) (l5 : Int32) (k : Zm E YX8_load d M (zargs 0 [vr (some (97, 1, 0)), vi (gi M 97 148)]) 0 [] (zma E YX8_prepare (d + 1) [(0, vr (some (97, 1, 0))), (1, vl l1), (3, vl l3), (5, vi l5)] 5 3 [] Q)) : Zm E YX8_prepare (d + 1) M [(0, vr (some (97, 1, 0))), (1, vl l1), (3, vl l3), (5, vi l5)] 0 [] Q := by
  refine Zm.l (fun _ _ k_ => z_aload_n dX8_prepare_0 rfl rfl k_) ?_
  refine Zm.l (fun _ _ k_ => z_aload_n dX8_prepare_1 rfl rfl k_) ?_
  refine zm_geti dX8_prepare_2 fsX8_1188_1 (by decide) (by decide) ?_
  exact zm_callV (as := [vi (gi M 97 148)]) (st := []) dX8_prepare_5 vsX8_1211_1 (Nat.le_refl _) (Nat.le_of_ble_eq_true rfl) (Nat.le_of_ble_eq_true rfl) rfl k
theorem sX8_prepare_8 {E : zE} {d : Nat} {Q : zO → zM → Prop} (M : zM) (l1 : Int64) (l3 : Int64) (l5 : Int32) (k : if l5 = (-1 : Int32) then (Q (.inl none) M) else (Zm E YX8_prepare (d + 1) M [(0, vr (some (97, 1, 0))), (1, vl l1), (3, vl l3), (5, vi l5), (6, vl (0 : Int64)), (8, vl (0 : Int64)), (10, vi (0 : Int32))] 24 [] Q)) : Zm E YX8_prepare (d + 1) M [(0, vr (some (97, 1, 0))), (1, vl l1), (3, vl l3), (5, vi l5)] 8 [] Q := by
  refine Zm.l (fun _ _ k_ => z_iload dX8_prepare_8 rfl k_) ?_
  refine Zm.l (fun _ _ k_ => z_iconst (v := -1) dX8_prepare_10 rfl k_) ?_
  refine Zm.brn (fun _ _ k1_ k2_ => z_icmp_ne (tgt := 15) dX8_prepare_11 rfl k1_ k2_) (fun h_ => ?_) (fun h_ => ?_)
  · have k := zif h_ k
    refine Zm.l (fun _ _ k_ => z_lconst (v := 0) dX8_prepare_15 rfl k_) ?_
    refine Zm.l (fun _ _ k_ => z_lst dX8_prepare_16 (by decide) (lv' := [(0, vr (some (97, 1, 0))), (1, vl l1), (3, vl l3), (5, vi l5), (6, vl (0 : Int64))]) rfl k_) ?_
    refine Zm.l (fun _ _ k_ => z_lconst (v := 0) dX8_prepare_18 rfl k_) ?_
    refine Zm.l (fun _ _ k_ => z_lst dX8_prepare_19 (by decide) (lv' := [(0, vr (some (97, 1, 0))), (1, vl l1), (3, vl l3), (5, vi l5), (6, vl (0 : Int64)), (8, vl (0 : Int64))]) rfl k_) ?_
    refine Zm.l (fun _ _ k_ => z_iconst (v := 0) dX8_prepare_21 rfl k_) ?_
    refine Zm.l (fun _ _ k_ => z_ist dX8_prepare_22 (by decide) (lv' := [(0, vr (some (97, 1, 0))), (1, vl l1), (3, vl l3), (5, vi l5), (6, vl (0 : Int64)), (8, vl (0 : Int64)), (10, vi (0 : Int32))]) rfl k_) ?_
    exact k
  · have k := zit h_ k
    exact zm_vret dX8_prepare_14 rfl k
theorem sX8_prepare_24 {E : zE} {d : Nat} {Q : zO → zM → Prop} (M : zM) (l1 : Int64) (l3 : Int64) (l5 : Int32) (l6 : Int64) (l8 : Int64) (l10 : Int32) (k : if (gi M 97 71) ≤ l10 then (Zm E YX8_noKeys d M (zargs 0 [vr (some (97, 1, 0))]) 0 [] (zma E YX8_prepare (d + 1) [(0, vr (some (97, 1, 0))), (5, vi l5), (6, vl l6), (8, vl l8), (10, vi (647750 : Int32))] 98 3 [] Q)) else (Zm E YX8_isIn d M (zargs 0 [vl l1, vl l3, vi l10]) 0 [] (zma E YX8_prepare (d + 1) [(0, vr (some (97, 1, 0))), (1, vl l1), (3, vl l3), (5, vi l5), (6, vl l6), (8, vl l8), (10, vi l10)] 37 3 [] Q))) : Zm E YX8_prepare (d + 1) M [(0, vr (some (97, 1, 0))), (1, vl l1), (3, vl l3), (5, vi l5), (6, vl l6), (8, vl l8), (10, vi l10)] 24 [] Q := by
  refine Zm.l (fun _ _ k_ => z_iload dX8_prepare_24 rfl k_) ?_
  refine Zm.l (fun _ _ k_ => z_aload_n dX8_prepare_26 rfl rfl k_) ?_
  refine zm_geti dX8_prepare_27 fsX8_765_1 (by decide) (by decide) ?_
  refine Zm.br (fun _ _ k1_ k2_ => z_icmp_ge (tgt := 92) dX8_prepare_30 rfl k1_ k2_) (fun h_ => ?_) (fun h_ => ?_)
  · have k := zit h_ k
    refine Zm.l (fun _ _ k_ => z_ldcw (v := 647750) dX8_prepare_92 q5117 k_) ?_
    refine Zm.l (fun _ _ k_ => z_ist dX8_prepare_95 (by decide) (lv' := [(0, vr (some (97, 1, 0))), (1, vl l1), (3, vl l3), (5, vi l5), (6, vl l6), (8, vl l8), (10, vi (647750 : Int32))]) rfl k_) ?_
    refine Zm.l (fun _ _ k_ => z_aload_n dX8_prepare_97 rfl rfl k_) ?_
    refine Zm.pick [0, 3, 4, 5, 6] rfl ?_
    exact zm_callV (as := []) (st := []) dX8_prepare_98 vsX8_1135_1 (Nat.le_refl _) (Nat.le_of_ble_eq_true rfl) (Nat.le_of_ble_eq_true rfl) rfl k
  · have k := zif h_ k
    refine Zm.l (fun _ _ k_ => z_lload_n dX8_prepare_33 rfl rfl k_) ?_
    refine Zm.l (fun _ _ k_ => z_lload_n dX8_prepare_34 rfl rfl k_) ?_
    refine Zm.l (fun _ _ k_ => z_iload dX8_prepare_35 rfl k_) ?_
    exact zm_callS (as := [vl l1, vl l3, vi l10]) (st := []) dX8_prepare_37 ssX8_1125 (Nat.le_refl _) (Nat.le_of_ble_eq_true rfl) (Nat.le_of_ble_eq_true rfl) rfl k
theorem sX8_prepare_40 {E : zE} {d : Nat} {Q : zO → zM → Prop} (M : zM) (l1 : Int64) (l3 : Int64) (l5 : Int32) (l6 : Int64) (l8 : Int64) (l10 : Int32) (s0 : Int32) (k : if s0 = 0 then (Zm E YX8_prepare (d + 1) M [(0, vr (some (97, 1, 0))), (1, vl l1), (3, vl l3), (5, vi l5), (6, vl l6), (8, vl l8), (10, vi (l10 + (1 : Int32)))] 24 [] Q) else (Zm E YX8_codeOfLabel d M (zargs 0 [vr (some (97, 1, 0)), vi l10]) 0 [] (zma E YX8_prepare (d + 1) [(0, vr (some (97, 1, 0))), (1, vl l1), (3, vl l3), (5, vi l5), (6, vl l6), (8, vl l8), (10, vi l10)] 46 3 [] Q))) : Zm E YX8_prepare (d + 1) M [(0, vr (some (97, 1, 0))), (1, vl l1), (3, vl l3), (5, vi l5), (6, vl l6), (8, vl l8), (10, vi l10)] 40 [vi s0] Q := by
  refine Zm.br (fun _ _ k1_ k2_ => z_if_eq (tgt := 86) dX8_prepare_40 rfl k1_ k2_) (fun h_ => ?_) (fun h_ => ?_)
  · have k := zit h_ k
    refine Zm.l (fun _ _ k_ => z_inc (v := (l10 + (1 : Int32))) dX8_prepare_86 rfl rfl (by decide) (lv' := [(0, vr (some (97, 1, 0))), (1, vl l1), (3, vl l3), (5, vi l5), (6, vl l6), (8, vl l8), (10, vi (l10 + (1 : Int32)))]) rfl k_) ?_
    refine Zm.l (fun _ _ k_ => z_goto (tgt := 24) dX8_prepare_89 rfl k_) ?_
    exact k
  · have k := zif h_ k
    refine Zm.l (fun _ _ k_ => z_aload_n dX8_prepare_43 rfl rfl k_) ?_
    refine Zm.l (fun _ _ k_ => z_iload dX8_prepare_44 rfl k_) ?_
    exact zm_callV (as := [vi l10]) (st := []) dX8_prepare_46 vsX8_1326_1 (Nat.le_refl _) (Nat.le_of_ble_eq_true rfl) (Nat.le_of_ble_eq_true rfl) rfl k
theorem sX8_prepare_49 {E : zE} {d : Nat} {Q : zO → zM → Prop} (M : zM) (l1 : Int64) (l3 : Int64) (l5 : Int32) (l6 : Int64) (l8 : Int64) (l10 : Int32) (s0 : Int32) (k : if s0 = 0 then (Zm E YX8_prepare (d + 1) M [(0, vr (some (97, 1, 0))), (1, vl l1), (3, vl l3), (5, vi l5), (6, vl l6), (8, vl l8), (10, vi (l10 + (1 : Int32)))] 24 [] Q) else (if (64 : Int32) ≤ l10 then (Zm E YX8_prepare (d + 1) M [(0, vr (some (97, 1, 0))), (1, vl l1), (3, vl l3), (5, vi l5), (6, vl l6), (8, vl (l8 ||| (zls (1 : Int64) (l10 - (64 : Int32))))), (10, vi (l10 + (1 : Int32)))] 24 [] Q) else (Zm E YX8_prepare (d + 1) M [(0, vr (some (97, 1, 0))), (1, vl l1), (3, vl l3), (5, vi l5), (6, vl (l6 ||| (zls (1 : Int64) l10))), (8, vl l8), (10, vi (l10 + (1 : Int32)))] 24 [] Q))) : Zm E YX8_prepare (d + 1) M [(0, vr (some (97, 1, 0))), (1, vl l1), (3, vl l3), (5, vi l5), (6, vl l6), (8, vl l8), (10, vi l10)] 49 [vi s0] Q := by
  refine Zm.brn (fun _ _ k1_ k2_ => z_if_ne (tgt := 55) dX8_prepare_49 rfl k1_ k2_) (fun h_ => ?_) (fun h_ => ?_)
  · have k := zif h_ k
    refine Zm.l (fun _ _ k_ => z_iload dX8_prepare_55 rfl k_) ?_
    refine Zm.l (fun _ _ k_ => z_bipush (v := 64) dX8_prepare_57 rfl k_) ?_
    refine Zm.br (fun _ _ k1_ k2_ => z_icmp_ge (tgt := 74) dX8_prepare_59 rfl k1_ k2_) (fun h_ => ?_) (fun h_ => ?_)
    · have k := zit h_ k
      refine Zm.l (fun _ _ k_ => z_lload dX8_prepare_74 rfl k_) ?_
      refine Zm.l (fun _ _ k_ => z_lconst (v := 1) dX8_prepare_76 rfl k_) ?_
      refine Zm.l (fun _ _ k_ => z_iload dX8_prepare_77 rfl k_) ?_
      refine Zm.l (fun _ _ k_ => z_bipush (v := 64) dX8_prepare_79 rfl k_) ?_
      refine Zm.l (fun _ _ k_ => z_isub dX8_prepare_81 k_) ?_
      refine Zm.l (fun _ _ k_ => z_lshl dX8_prepare_82 k_) ?_
      refine Zm.l (fun _ _ k_ => z_lor dX8_prepare_83 k_) ?_
      refine Zm.l (fun _ _ k_ => z_lst dX8_prepare_84 (by decide) (lv' := [(0, vr (some (97, 1, 0))), (1, vl l1), (3, vl l3), (5, vi l5), (6, vl l6), (8, vl (l8 ||| (zls (1 : Int64) (l10 - (64 : Int32))))), (10, vi l10)]) rfl k_) ?_
      refine Zm.l (fun _ _ k_ => z_inc (v := (l10 + (1 : Int32))) dX8_prepare_86 rfl rfl (by decide) (lv' := [(0, vr (some (97, 1, 0))), (1, vl l1), (3, vl l3), (5, vi l5), (6, vl l6), (8, vl (l8 ||| (zls (1 : Int64) (l10 - (64 : Int32))))), (10, vi (l10 + (1 : Int32)))]) rfl k_) ?_
      refine Zm.l (fun _ _ k_ => z_goto (tgt := 24) dX8_prepare_89 rfl k_) ?_
      exact k
    · have k := zif h_ k
      refine Zm.l (fun _ _ k_ => z_lload dX8_prepare_62 rfl k_) ?_
      refine Zm.l (fun _ _ k_ => z_lconst (v := 1) dX8_prepare_64 rfl k_) ?_
      refine Zm.l (fun _ _ k_ => z_iload dX8_prepare_65 rfl k_) ?_
      refine Zm.l (fun _ _ k_ => z_lshl dX8_prepare_67 k_) ?_
      refine Zm.l (fun _ _ k_ => z_lor dX8_prepare_68 k_) ?_
      refine Zm.l (fun _ _ k_ => z_lst dX8_prepare_69 (by decide) (lv' := [(0, vr (some (97, 1, 0))), (1, vl l1), (3, vl l3), (5, vi l5), (6, vl (l6 ||| (zls (1 : Int64) l10))), (8, vl l8), (10, vi l10)]) rfl k_) ?_
      refine Zm.l (fun _ _ k_ => z_goto (tgt := 86) dX8_prepare_71 rfl k_) ?_
      refine Zm.l (fun _ _ k_ => z_inc (v := (l10 + (1 : Int32))) dX8_prepare_86 rfl rfl (by decide) (lv' := [(0, vr (some (97, 1, 0))), (1, vl l1), (3, vl l3), (5, vi l5), (6, vl (l6 ||| (zls (1 : Int64) l10))), (8, vl l8), (10, vi (l10 + (1 : Int32)))]) rfl k_) ?_
      refine Zm.l (fun _ _ k_ => z_goto (tgt := 24) dX8_prepare_89 rfl k_) ?_
      exact k
  · have k := zit h_ k
    refine Zm.l (fun _ _ k_ => z_goto (tgt := 86) dX8_prepare_52 rfl k_) ?_
    refine Zm.l (fun _ _ k_ => z_inc (v := (l10 + (1 : Int32))) dX8_prepare_86 rfl rfl (by decide) (lv' := [(0, vr (some (97, 1, 0))), (1, vl l1), (3, vl l3), (5, vi l5), (6, vl l6), (8, vl l8), (10, vi (l10 + (1 : Int32)))]) rfl k_) ?_
    refine Zm.l (fun _ _ k_ => z_goto (tgt := 24) dX8_prepare_89 rfl k_) ?_
    exact k
theorem sX8_prepare_101 {E : zE} {d : Nat} {Q : zO → zM → Prop} (M : zM) (l5 : Int32) (l6 : Int64) (l8 : Int64) (l10 : Int32) (k : Zm E YX8_addKey d M (zargs 0 [vr (some (97, 1, 0)), vi (1 : Int32)]) 0 [] (zma E YX8_prepare (d + 1) [(0, vr (some (97, 1, 0))), (5, vi l5), (6, vl l6), (8, vl l8), (10, vi l10)] 103 3 [] Q)) : Zm E YX8_prepare (d + 1) M [(0, vr (some (97, 1, 0))), (5, vi l5), (6, vl l6), (8, vl l8), (10, vi l10)] 101 [] Q := by
  refine Zm.l (fun _ _ k_ => z_aload_n dX8_prepare_101 rfl rfl k_) ?_
  refine Zm.l (fun _ _ k_ => z_iconst (v := 1) dX8_prepare_102 rfl k_) ?_
  exact zm_callV (as := [vi (1 : Int32)]) (st := []) dX8_prepare_103 vsX8_1138_1 (Nat.le_refl _) (Nat.le_of_ble_eq_true rfl) (Nat.le_of_ble_eq_true rfl) rfl k
theorem sX8_prepare_106 {E : zE} {d : Nat} {Q : zO → zM → Prop} (M : zM) (l5 : Int32) (l6 : Int64) (l8 : Int64) (l10 : Int32) (k : Zm E YX8_readFrom d M (zargs 0 [vr (some (97, 1, 0)), vl l6, vl l8, vi l10]) 0 [] (zma E YX8_prepare (d + 1) [(0, vr (some (97, 1, 0))), (5, vi l5), (10, vi l10)] 113 3 [] Q)) : Zm E YX8_prepare (d + 1) M [(0, vr (some (97, 1, 0))), (5, vi l5), (6, vl l6), (8, vl l8), (10, vi l10)] 106 [] Q := by
  refine Zm.l (fun _ _ k_ => z_aload_n dX8_prepare_106 rfl rfl k_) ?_
  refine Zm.l (fun _ _ k_ => z_lload dX8_prepare_107 rfl k_) ?_
  refine Zm.l (fun _ _ k_ => z_lload dX8_prepare_109 rfl k_) ?_
  refine Zm.l (fun _ _ k_ => z_iload dX8_prepare_111 rfl k_) ?_
  refine Zm.pick [0, 1, 4] rfl ?_
  exact zm_callV (as := [vl l6, vl l8, vi l10]) (st := []) dX8_prepare_113 vsX8_1306_1 (Nat.le_refl _) (Nat.le_of_ble_eq_true rfl) (Nat.le_of_ble_eq_true rfl) rfl k
theorem sX8_prepare_116 {E : zE} {d : Nat} {Q : zO → zM → Prop} (M : zM) (l5 : Int32) (l10 : Int32) (k : if (gi M 97 145) = 0 then (Zm E YX8_plainly d M (zargs 0 [vr (some (97, 1, 0)), vi l10]) 0 [] (zma E YX8_prepare (d + 1) [(0, vr (some (97, 1, 0))), (5, vi l5), (10, vi l10)] 126 3 [] Q)) else (Zm E YX8_prepare (d + 1) M [(0, vr (some (97, 1, 0))), (5, vi l5), (10, vi l10)] 137 [vi (1 : Int32)] Q)) : Zm E YX8_prepare (d + 1) M [(0, vr (some (97, 1, 0))), (5, vi l5), (10, vi l10)] 116 [] Q := by
  refine Zm.l (fun _ _ k_ => z_aload_n dX8_prepare_116 rfl rfl k_) ?_
  refine zm_geti dX8_prepare_117 fsX8_1156_1 (by decide) (by decide) ?_
  refine Zm.brn (fun _ _ k1_ k2_ => z_if_ne (tgt := 132) dX8_prepare_120 rfl k1_ k2_) (fun h_ => ?_) (fun h_ => ?_)
  · have k := zif h_ k
    refine Zm.l (fun _ _ k_ => z_iconst (v := 1) dX8_prepare_132 rfl k_) ?_
    refine Zm.l (fun _ _ k_ => z_goto (tgt := 137) dX8_prepare_133 rfl k_) ?_
    exact k
  · have k := zit h_ k
    refine Zm.l (fun _ _ k_ => z_aload_n dX8_prepare_123 rfl rfl k_) ?_
    refine Zm.l (fun _ _ k_ => z_iload dX8_prepare_124 rfl k_) ?_
    exact zm_callV (as := [vi l10]) (st := []) dX8_prepare_126 vsX8_1059_1 (Nat.le_refl _) (Nat.le_of_ble_eq_true rfl) (Nat.le_of_ble_eq_true rfl) rfl k
theorem sX8_prepare_129 {E : zE} {d : Nat} {Q : zO → zM → Prop} (M : zM) (l5 : Int32) (l10 : Int32) (s0 : Int32) (k : if s0 = 0 then (Zm E YX8_prepare (d + 1) M [(0, vr (some (97, 1, 0))), (5, vi l5), (10, vi l10)] 137 [vi (0 : Int32)] Q) else (Zm E YX8_prepare (d + 1) M [(0, vr (some (97, 1, 0))), (5, vi l5), (10, vi l10)] 137 [vi (1 : Int32)] Q)) : Zm E YX8_prepare (d + 1) M [(0, vr (some (97, 1, 0))), (5, vi l5), (10, vi l10)] 129 [vi s0] Q := by
  refine Zm.br (fun _ _ k1_ k2_ => z_if_eq (tgt := 136) dX8_prepare_129 rfl k1_ k2_) (fun h_ => ?_) (fun h_ => ?_)
  · have k := zit h_ k
    refine Zm.l (fun _ _ k_ => z_iconst (v := 0) dX8_prepare_136 rfl k_) ?_
    exact k
  · have k := zif h_ k
    refine Zm.l (fun _ _ k_ => z_iconst (v := 1) dX8_prepare_132 rfl k_) ?_
    refine Zm.l (fun _ _ k_ => z_goto (tgt := 137) dX8_prepare_133 rfl k_) ?_
    exact k
theorem sX8_prepare_137 {E : zE} {d : Nat} {Q : zO → zM → Prop} (M : zM) (l5 : Int32) (l10 : Int32) (s0 : Int32) (k : vp_in (0 : Int32) 12 ∧ (Zm E YX8_siteLabel d (si (si M 188 ((0 : Int32)).toNatClampNeg l10) 97 147 (1 : Int32)) (zargs 0 [vr (some (97, 1, 0)), vi l5]) 0 [] (zma E YX8_prepare (d + 1) [(0, vr (some (97, 1, 0))), (5, vi l5), (10, vi l10), (11, vi s0)] 156 3 [vr (some (97, 1, 0))] Q))) : Zm E YX8_prepare (d + 1) M [(0, vr (some (97, 1, 0))), (5, vi l5), (10, vi l10)] 137 [vi s0] Q := by
  refine Zm.l (fun _ _ k_ => z_ist dX8_prepare_137 (by decide) (lv' := [(0, vr (some (97, 1, 0))), (5, vi l5), (10, vi l10), (11, vi s0)]) rfl k_) ?_
  refine Zm.l (fun _ _ k_ => z_aload_n dX8_prepare_139 rfl rfl k_) ?_
  refine zm_getr 85 dX8_prepare_140 fsX8_286_1 rfl ?_
  refine Zm.l (fun _ _ k_ => z_iconst (v := 0) dX8_prepare_143 rfl k_) ?_
  refine Zm.l (fun _ _ k_ => z_iload dX8_prepare_144 rfl k_) ?_
  obtain ⟨b_, k⟩ := k
  refine zm_iast dX8_prepare_146 b_ (by decide) (by decide) ?_
  refine Zm.l (fun _ _ k_ => z_aload_n dX8_prepare_147 rfl rfl k_) ?_
  refine Zm.l (fun _ _ k_ => z_iconst (v := 1) dX8_prepare_148 rfl k_) ?_
  refine zm_puti (by decide) (by decide) dX8_prepare_149 (zfwN.w fwX8_1178_1) rfl ⟨rfl, rfl⟩ ?_
  refine Zm.l (fun _ _ k_ => z_aload_n dX8_prepare_152 rfl rfl k_) ?_
  refine Zm.l (fun _ _ k_ => z_aload_n dX8_prepare_153 rfl rfl k_) ?_
  refine Zm.l (fun _ _ k_ => z_iload dX8_prepare_154 rfl k_) ?_
  exact zm_callV (as := [vi l5]) (st := [vr (some (97, 1, 0))]) dX8_prepare_156 vsX8_920_1 (Nat.le_refl _) (Nat.le_of_ble_eq_true rfl) (Nat.le_of_ble_eq_true rfl) rfl k
theorem sX8_prepare_159 {E : zE} {d : Nat} {Q : zO → zM → Prop} (M : zM) (l5 : Int32) (l10 : Int32) (l11 : Int32) (s0 : Int32) (k : Zm E YX8_make d M (zargs 0 [vr (some (97, 1, 0)), vi s0, vi (1 : Int32)]) 0 [] (zma E YX8_prepare (d + 1) [(0, vr (some (97, 1, 0))), (5, vi l5), (10, vi l10), (11, vi l11)] 160 3 [] Q)) : Zm E YX8_prepare (d + 1) M [(0, vr (some (97, 1, 0))), (5, vi l5), (10, vi l10), (11, vi l11)] 159 [vi s0, vr (some (97, 1, 0))] Q := by
  refine Zm.l (fun _ _ k_ => z_iconst (v := 1) dX8_prepare_159 rfl k_) ?_
  exact zm_callV (as := [vi s0, vi (1 : Int32)]) (st := []) dX8_prepare_160 vsX8_1241_1 (Nat.le_refl _) (Nat.le_of_ble_eq_true rfl) (Nat.le_of_ble_eq_true rfl) rfl k
theorem sX8_prepare_163 {E : zE} {d : Nat} {Q : zO → zM → Prop} (M : zM) (l5 : Int32) (l10 : Int32) (l11 : Int32) (k : Zm E YX8_siteLabel d (si M 97 147 (0 : Int32)) (zargs 0 [vr (some (97, 1, 0)), vi l5]) 0 [] (zma E YX8_prepare (d + 1) [(0, vr (some (97, 1, 0))), (10, vi l10), (11, vi l11)] 175 3 [vi (639 : Int32), vr (some (97, 1, 0))] Q)) : Zm E YX8_prepare (d + 1) M [(0, vr (some (97, 1, 0))), (5, vi l5), (10, vi l10), (11, vi l11)] 163 [] Q := by
  refine Zm.l (fun _ _ k_ => z_aload_n dX8_prepare_163 rfl rfl k_) ?_
  refine Zm.l (fun _ _ k_ => z_iconst (v := 0) dX8_prepare_164 rfl k_) ?_
  refine zm_puti (by decide) (by decide) dX8_prepare_165 (zfwN.w fwX8_1178_1) rfl ⟨rfl, rfl⟩ ?_
  refine Zm.l (fun _ _ k_ => z_aload_n dX8_prepare_168 rfl rfl k_) ?_
  refine Zm.l (fun _ _ k_ => z_sipush (v := 639) dX8_prepare_169 rfl k_) ?_
  refine Zm.l (fun _ _ k_ => z_aload_n dX8_prepare_172 rfl rfl k_) ?_
  refine Zm.l (fun _ _ k_ => z_iload dX8_prepare_173 rfl k_) ?_
  refine Zm.pick [0, 2, 3] rfl ?_
  exact zm_callV (as := [vi l5]) (st := [vi (639 : Int32), vr (some (97, 1, 0))]) dX8_prepare_175 vsX8_920_1 (Nat.le_refl _) (Nat.le_of_ble_eq_true rfl) (Nat.le_of_ble_eq_true rfl) rfl k
theorem sX8_prepare_178 {E : zE} {d : Nat} {Q : zO → zM → Prop} (M : zM) (l10 : Int32) (l11 : Int32) (s0 : Int32) (s1 : Int32) (k : Zm E YX8_of d M (zargs 0 [vr (some (97, 1, 0)), vi s1, vi s0]) 0 [] (zma E YX8_prepare (d + 1) [(0, vr (some (97, 1, 0))), (10, vi l10), (11, vi l11)] 178 3 [] Q)) : Zm E YX8_prepare (d + 1) M [(0, vr (some (97, 1, 0))), (10, vi l10), (11, vi l11)] 178 [vi s0, vi s1, vr (some (97, 1, 0))] Q := by
  exact zm_callV (as := [vi s1, vi s0]) (st := []) dX8_prepare_178 vsX8_1101_1 (Nat.le_refl _) (Nat.le_of_ble_eq_true rfl) (Nat.le_of_ble_eq_true rfl) rfl k
theorem sX8_prepare_181 {E : zE} {d : Nat} {Q : zO → zM → Prop} (M : zM) (l10 : Int32) (l11 : Int32) (s0 : Int32) (k : vp_in l10 647800 ∧ (if l11 = 0 then (Zm E YX8_prepare (d + 1) M [(0, vr (some (97, 1, 0))), (10, vi l10), (12, vi s0)] 208 [vl (0 : Int64), vl (gl M 166 (l10).toNatClampNeg), vi s0, vr (some (180, 105, 15128))] Q) else (Zm E YX8_prepare (d + 1) M [(0, vr (some (97, 1, 0))), (10, vi l10), (12, vi s0)] 208 [vl (2 : Int64), vl (gl M 166 (l10).toNatClampNeg), vi s0, vr (some (180, 105, 15128))] Q))) : Zm E YX8_prepare (d + 1) M [(0, vr (some (97, 1, 0))), (10, vi l10), (11, vi l11)] 181 [vi s0] Q := by
  refine Zm.l (fun _ _ k_ => z_ist dX8_prepare_181 (by decide) (lv' := [(0, vr (some (97, 1, 0))), (10, vi l10), (11, vi l11), (12, vi s0)]) rfl k_) ?_
  refine Zm.l (fun _ _ k_ => z_aload_n dX8_prepare_183 rfl rfl k_) ?_
  refine zm_getr 77 dX8_prepare_184 fsX8_262_1 rfl ?_
  refine Zm.l (fun _ _ k_ => z_iload dX8_prepare_187 rfl k_) ?_
  refine Zm.l (fun _ _ k_ => z_aload_n dX8_prepare_189 rfl rfl k_) ?_
  refine zm_getr 63 dX8_prepare_190 fsX8_220_1 rfl ?_
  refine Zm.l (fun _ _ k_ => z_iload dX8_prepare_193 rfl k_) ?_
  obtain ⟨b_, k⟩ := k
  refine zm_lald dX8_prepare_195 b_ (by decide) (by decide) ?_
  refine Zm.l (fun _ _ k_ => z_iload dX8_prepare_196 rfl k_) ?_
  refine Zm.br (fun _ _ k1_ k2_ => z_if_eq (tgt := 207) dX8_prepare_198 rfl k1_ k2_) (fun h_ => ?_) (fun h_ => ?_)
  · have k := zit h_ k
    refine Zm.l (fun _ _ k_ => z_lconst (v := 0) dX8_prepare_207 rfl k_) ?_
    refine Zm.pick [0, 1, 3] rfl ?_
    exact k
  · have k := zif h_ k
    refine Zm.l (fun _ _ k_ => z_ldc2 (v := 2) dX8_prepare_201 q5118 k_) ?_
    refine Zm.l (fun _ _ k_ => z_goto (tgt := 208) dX8_prepare_204 rfl k_) ?_
    refine Zm.pick [0, 1, 3] rfl ?_
    exact k
theorem sX8_prepare_208 {E : zE} {d : Nat} {Q : zO → zM → Prop} (M : zM) (l10 : Int32) (l12 : Int32) (s0 : Int64) (s1 : Int64) (s2 : Int32) (k : vp_in s2 15128 ∧ (vp_in l10 647800 ∧ (vp_in l12 15128 ∧ (Q (.inl none) (sl (sl M 180 (s2).toNatClampNeg (s1 ||| s0)) 181 (l12).toNatClampNeg (gl M 167 (l10).toNatClampNeg)))))) : Zm E YX8_prepare (d + 1) M [(0, vr (some (97, 1, 0))), (10, vi l10), (12, vi l12)] 208 [vl s0, vl s1, vi s2, vr (some (180, 105, 15128))] Q := by
  refine Zm.l (fun _ _ k_ => z_lor dX8_prepare_208 k_) ?_
  obtain ⟨b_, k⟩ := k
  refine zm_last dX8_prepare_209 b_ (by decide) (by decide) ?_
  refine Zm.l (fun _ _ k_ => z_aload_n dX8_prepare_210 rfl rfl k_) ?_
  refine zm_getr 78 dX8_prepare_211 fsX8_265_1 rfl ?_
  refine Zm.l (fun _ _ k_ => z_iload dX8_prepare_214 rfl k_) ?_
  refine Zm.l (fun _ _ k_ => z_aload_n dX8_prepare_216 rfl rfl k_) ?_
  refine zm_getr 64 dX8_prepare_217 fsX8_223_1 rfl ?_
  refine Zm.l (fun _ _ k_ => z_iload dX8_prepare_220 rfl k_) ?_
  obtain ⟨b_, k⟩ := k
  refine zm_lald dX8_prepare_222 b_ (by decide) (by decide) ?_
  obtain ⟨b_, k⟩ := k
  refine zm_last dX8_prepare_223 b_ (by decide) (by decide) ?_
  exact zm_vret dX8_prepare_224 rfl k
/-! ScriptTypesModel.enterCode(IZZIIII)V -/
theorem bX8_enterCode_0 : zdec cX8_enterCode 0 [(0, .bipush 29, 2), (2, .bipush 6, 2), (4, .iload_n 1, 1), (5, .iconst 1, 1), (6, .isub, 1), (7, .imul, 1), (8, .iadd, 1), (9, .iconst 2, 1), (10, .iadd, 1), (11, .istore 8, 2), (13, .iload 8, 2), (15, .iconst 2, 1), (16, .isub, 1), (17, .istore 9, 2), (19, .aload_n 0, 1), (20, .iload 9, 2)] = true := by decide +kernel
theorem dX8_enterCode_0 : decode cX8_enterCode 0 = .ok (.bipush 29, 2) := zdec_at bX8_enterCode_0 0 rfl
theorem dX8_enterCode_2 : decode cX8_enterCode 2 = .ok (.bipush 6, 2) := zdec_at bX8_enterCode_0 1 rfl
theorem dX8_enterCode_4 : decode cX8_enterCode 4 = .ok (.iload_n 1, 1) := zdec_at bX8_enterCode_0 2 rfl
theorem dX8_enterCode_5 : decode cX8_enterCode 5 = .ok (.iconst 1, 1) := zdec_at bX8_enterCode_0 3 rfl
theorem dX8_enterCode_6 : decode cX8_enterCode 6 = .ok (.isub, 1) := zdec_at bX8_enterCode_0 4 rfl
theorem dX8_enterCode_7 : decode cX8_enterCode 7 = .ok (.imul, 1) := zdec_at bX8_enterCode_0 5 rfl
theorem dX8_enterCode_8 : decode cX8_enterCode 8 = .ok (.iadd, 1) := zdec_at bX8_enterCode_0 6 rfl
theorem dX8_enterCode_9 : decode cX8_enterCode 9 = .ok (.iconst 2, 1) := zdec_at bX8_enterCode_0 7 rfl
theorem dX8_enterCode_10 : decode cX8_enterCode 10 = .ok (.iadd, 1) := zdec_at bX8_enterCode_0 8 rfl
theorem dX8_enterCode_11 : decode cX8_enterCode 11 = .ok (.istore 8, 2) := zdec_at bX8_enterCode_0 9 rfl
theorem dX8_enterCode_13 : decode cX8_enterCode 13 = .ok (.iload 8, 2) := zdec_at bX8_enterCode_0 10 rfl
theorem dX8_enterCode_15 : decode cX8_enterCode 15 = .ok (.iconst 2, 1) := zdec_at bX8_enterCode_0 11 rfl
theorem dX8_enterCode_16 : decode cX8_enterCode 16 = .ok (.isub, 1) := zdec_at bX8_enterCode_0 12 rfl
theorem dX8_enterCode_17 : decode cX8_enterCode 17 = .ok (.istore 9, 2) := zdec_at bX8_enterCode_0 13 rfl
theorem dX8_enterCode_19 : decode cX8_enterCode 19 = .ok (.aload_n 0, 1) := zdec_at bX8_enterCode_0 14 rfl
theorem dX8_enterCode_20 : decode cX8_enterCode 20 = .ok (.iload 9, 2) := zdec_at bX8_enterCode_0 15 rfl
theorem bX8_enterCode_22 : zdec cX8_enterCode 22 [(22, .iconst (-1), 1), (23, .invokevirtual 1241, 3), (26, .aload_n 0, 1), (27, .sipush 639, 3), (30, .iload 9, 2), (32, .invokevirtual 1101, 3), (35, .istore 10, 2), (37, .iload 8, 2), (39, .istore 11, 2), (41, .iload 11, 2), (43, .iload 8, 2), (45, .iconst 2, 1), (46, .iadd, 1), (47, .if_icmp .ge 88, 3), (50, .iload 11, 2), (52, .iload 8, 2)] = true := by decide +kernel
theorem dX8_enterCode_22 : decode cX8_enterCode 22 = .ok (.iconst (-1), 1) := zdec_at bX8_enterCode_22 0 rfl
theorem dX8_enterCode_23 : decode cX8_enterCode 23 = .ok (.invokevirtual 1241, 3) := zdec_at bX8_enterCode_22 1 rfl
theorem dX8_enterCode_26 : decode cX8_enterCode 26 = .ok (.aload_n 0, 1) := zdec_at bX8_enterCode_22 2 rfl
theorem dX8_enterCode_27 : decode cX8_enterCode 27 = .ok (.sipush 639, 3) := zdec_at bX8_enterCode_22 3 rfl
theorem dX8_enterCode_30 : decode cX8_enterCode 30 = .ok (.iload 9, 2) := zdec_at bX8_enterCode_22 4 rfl
theorem dX8_enterCode_32 : decode cX8_enterCode 32 = .ok (.invokevirtual 1101, 3) := zdec_at bX8_enterCode_22 5 rfl
theorem dX8_enterCode_35 : decode cX8_enterCode 35 = .ok (.istore 10, 2) := zdec_at bX8_enterCode_22 6 rfl
theorem dX8_enterCode_37 : decode cX8_enterCode 37 = .ok (.iload 8, 2) := zdec_at bX8_enterCode_22 7 rfl
theorem dX8_enterCode_39 : decode cX8_enterCode 39 = .ok (.istore 11, 2) := zdec_at bX8_enterCode_22 8 rfl
theorem dX8_enterCode_41 : decode cX8_enterCode 41 = .ok (.iload 11, 2) := zdec_at bX8_enterCode_22 9 rfl
theorem dX8_enterCode_43 : decode cX8_enterCode 43 = .ok (.iload 8, 2) := zdec_at bX8_enterCode_22 10 rfl
theorem dX8_enterCode_45 : decode cX8_enterCode 45 = .ok (.iconst 2, 1) := zdec_at bX8_enterCode_22 11 rfl
theorem dX8_enterCode_46 : decode cX8_enterCode 46 = .ok (.iadd, 1) := zdec_at bX8_enterCode_22 12 rfl
theorem dX8_enterCode_47 : decode cX8_enterCode 47 = .ok (.if_icmp .ge 88, 3) := zdec_at bX8_enterCode_22 13 rfl
theorem dX8_enterCode_50 : decode cX8_enterCode 50 = .ok (.iload 11, 2) := zdec_at bX8_enterCode_22 14 rfl
theorem dX8_enterCode_52 : decode cX8_enterCode 52 = .ok (.iload 8, 2) := zdec_at bX8_enterCode_22 15 rfl
theorem bX8_enterCode_54 : zdec cX8_enterCode 54 [(54, .if_icmp .ne 10, 3), (57, .iload_n 2, 1), (58, .ifCond .ne 13, 3), (61, .goto 68, 3), (64, .iload_n 3, 1), (65, .ifCond .ne 6, 3), (68, .goto 61, 3), (71, .aload_n 0, 1), (72, .getfield 268, 3), (75, .iload 10, 2), (77, .aload_n 0, 1), (78, .getfield 268, 3), (81, .iload 10, 2), (83, .laload, 1), (84, .aload_n 0, 1), (85, .getfield 268, 3)] = true := by decide +kernel
theorem dX8_enterCode_54 : decode cX8_enterCode 54 = .ok (.if_icmp .ne 10, 3) := zdec_at bX8_enterCode_54 0 rfl
theorem dX8_enterCode_57 : decode cX8_enterCode 57 = .ok (.iload_n 2, 1) := zdec_at bX8_enterCode_54 1 rfl
theorem dX8_enterCode_58 : decode cX8_enterCode 58 = .ok (.ifCond .ne 13, 3) := zdec_at bX8_enterCode_54 2 rfl
theorem dX8_enterCode_61 : decode cX8_enterCode 61 = .ok (.goto 68, 3) := zdec_at bX8_enterCode_54 3 rfl
theorem dX8_enterCode_64 : decode cX8_enterCode 64 = .ok (.iload_n 3, 1) := zdec_at bX8_enterCode_54 4 rfl
theorem dX8_enterCode_65 : decode cX8_enterCode 65 = .ok (.ifCond .ne 6, 3) := zdec_at bX8_enterCode_54 5 rfl
theorem dX8_enterCode_68 : decode cX8_enterCode 68 = .ok (.goto 61, 3) := zdec_at bX8_enterCode_54 6 rfl
theorem dX8_enterCode_71 : decode cX8_enterCode 71 = .ok (.aload_n 0, 1) := zdec_at bX8_enterCode_54 7 rfl
theorem dX8_enterCode_72 : decode cX8_enterCode 72 = .ok (.getfield 268, 3) := zdec_at bX8_enterCode_54 8 rfl
theorem dX8_enterCode_75 : decode cX8_enterCode 75 = .ok (.iload 10, 2) := zdec_at bX8_enterCode_54 9 rfl
theorem dX8_enterCode_77 : decode cX8_enterCode 77 = .ok (.aload_n 0, 1) := zdec_at bX8_enterCode_54 10 rfl
theorem dX8_enterCode_78 : decode cX8_enterCode 78 = .ok (.getfield 268, 3) := zdec_at bX8_enterCode_54 11 rfl
theorem dX8_enterCode_81 : decode cX8_enterCode 81 = .ok (.iload 10, 2) := zdec_at bX8_enterCode_54 12 rfl
theorem dX8_enterCode_83 : decode cX8_enterCode 83 = .ok (.laload, 1) := zdec_at bX8_enterCode_54 13 rfl
theorem dX8_enterCode_84 : decode cX8_enterCode 84 = .ok (.aload_n 0, 1) := zdec_at bX8_enterCode_54 14 rfl
theorem dX8_enterCode_85 : decode cX8_enterCode 85 = .ok (.getfield 268, 3) := zdec_at bX8_enterCode_54 15 rfl
theorem bX8_enterCode_88 : zdec cX8_enterCode 88 [(88, .aload_n 0, 1), (89, .sipush 639, 3), (92, .iload 11, 2), (94, .invokevirtual 1101, 3), (97, .laload, 1), (98, .lor, 1), (99, .lastore, 1), (100, .aload_n 0, 1), (101, .getfield 271, 3), (104, .iload 10, 2), (106, .aload_n 0, 1), (107, .getfield 271, 3), (110, .iload 10, 2), (112, .laload, 1), (113, .aload_n 0, 1), (114, .getfield 271, 3)] = true := by decide +kernel
theorem dX8_enterCode_88 : decode cX8_enterCode 88 = .ok (.aload_n 0, 1) := zdec_at bX8_enterCode_88 0 rfl
theorem dX8_enterCode_89 : decode cX8_enterCode 89 = .ok (.sipush 639, 3) := zdec_at bX8_enterCode_88 1 rfl
theorem dX8_enterCode_92 : decode cX8_enterCode 92 = .ok (.iload 11, 2) := zdec_at bX8_enterCode_88 2 rfl
theorem dX8_enterCode_94 : decode cX8_enterCode 94 = .ok (.invokevirtual 1101, 3) := zdec_at bX8_enterCode_88 3 rfl
theorem dX8_enterCode_97 : decode cX8_enterCode 97 = .ok (.laload, 1) := zdec_at bX8_enterCode_88 4 rfl
theorem dX8_enterCode_98 : decode cX8_enterCode 98 = .ok (.lor, 1) := zdec_at bX8_enterCode_88 5 rfl
theorem dX8_enterCode_99 : decode cX8_enterCode 99 = .ok (.lastore, 1) := zdec_at bX8_enterCode_88 6 rfl
theorem dX8_enterCode_100 : decode cX8_enterCode 100 = .ok (.aload_n 0, 1) := zdec_at bX8_enterCode_88 7 rfl
theorem dX8_enterCode_101 : decode cX8_enterCode 101 = .ok (.getfield 271, 3) := zdec_at bX8_enterCode_88 8 rfl
theorem dX8_enterCode_104 : decode cX8_enterCode 104 = .ok (.iload 10, 2) := zdec_at bX8_enterCode_88 9 rfl
theorem dX8_enterCode_106 : decode cX8_enterCode 106 = .ok (.aload_n 0, 1) := zdec_at bX8_enterCode_88 10 rfl
theorem dX8_enterCode_107 : decode cX8_enterCode 107 = .ok (.getfield 271, 3) := zdec_at bX8_enterCode_88 11 rfl
theorem dX8_enterCode_110 : decode cX8_enterCode 110 = .ok (.iload 10, 2) := zdec_at bX8_enterCode_88 12 rfl
theorem dX8_enterCode_112 : decode cX8_enterCode 112 = .ok (.laload, 1) := zdec_at bX8_enterCode_88 13 rfl
theorem dX8_enterCode_113 : decode cX8_enterCode 113 = .ok (.aload_n 0, 1) := zdec_at bX8_enterCode_88 14 rfl
theorem dX8_enterCode_114 : decode cX8_enterCode 114 = .ok (.getfield 271, 3) := zdec_at bX8_enterCode_88 15 rfl
theorem bX8_enterCode_117 : zdec cX8_enterCode 117 [(117, .aload_n 0, 1), (118, .sipush 639, 3), (121, .iload 11, 2), (123, .invokevirtual 1101, 3), (126, .laload, 1), (127, .lor, 1), (128, .lastore, 1), (129, .iinc 11 1, 3), (132, .goto (-91), 3), (135, .iconst 0, 1), (136, .istore 11, 2), (138, .iload 11, 2), (140, .aload_n 0, 1), (141, .getfield 110, 3), (144, .iload_n 1, 1), (145, .iaload, 1)] = true := by decide +kernel
theorem dX8_enterCode_117 : decode cX8_enterCode 117 = .ok (.aload_n 0, 1) := zdec_at bX8_enterCode_117 0 rfl
theorem dX8_enterCode_118 : decode cX8_enterCode 118 = .ok (.sipush 639, 3) := zdec_at bX8_enterCode_117 1 rfl
theorem dX8_enterCode_121 : decode cX8_enterCode 121 = .ok (.iload 11, 2) := zdec_at bX8_enterCode_117 2 rfl
theorem dX8_enterCode_123 : decode cX8_enterCode 123 = .ok (.invokevirtual 1101, 3) := zdec_at bX8_enterCode_117 3 rfl
theorem dX8_enterCode_126 : decode cX8_enterCode 126 = .ok (.laload, 1) := zdec_at bX8_enterCode_117 4 rfl
theorem dX8_enterCode_127 : decode cX8_enterCode 127 = .ok (.lor, 1) := zdec_at bX8_enterCode_117 5 rfl
theorem dX8_enterCode_128 : decode cX8_enterCode 128 = .ok (.lastore, 1) := zdec_at bX8_enterCode_117 6 rfl
theorem dX8_enterCode_129 : decode cX8_enterCode 129 = .ok (.iinc 11 1, 3) := zdec_at bX8_enterCode_117 7 rfl
theorem dX8_enterCode_132 : decode cX8_enterCode 132 = .ok (.goto (-91), 3) := zdec_at bX8_enterCode_117 8 rfl
theorem dX8_enterCode_135 : decode cX8_enterCode 135 = .ok (.iconst 0, 1) := zdec_at bX8_enterCode_117 9 rfl
theorem dX8_enterCode_136 : decode cX8_enterCode 136 = .ok (.istore 11, 2) := zdec_at bX8_enterCode_117 10 rfl
theorem dX8_enterCode_138 : decode cX8_enterCode 138 = .ok (.iload 11, 2) := zdec_at bX8_enterCode_117 11 rfl
theorem dX8_enterCode_140 : decode cX8_enterCode 140 = .ok (.aload_n 0, 1) := zdec_at bX8_enterCode_117 12 rfl
theorem dX8_enterCode_141 : decode cX8_enterCode 141 = .ok (.getfield 110, 3) := zdec_at bX8_enterCode_117 13 rfl
theorem dX8_enterCode_144 : decode cX8_enterCode 144 = .ok (.iload_n 1, 1) := zdec_at bX8_enterCode_117 14 rfl
theorem dX8_enterCode_145 : decode cX8_enterCode 145 = .ok (.iaload, 1) := zdec_at bX8_enterCode_117 15 rfl
theorem bX8_enterCode_146 : zdec cX8_enterCode 146 [(146, .if_icmp .ge 157, 3), (149, .aload_n 0, 1), (150, .iload 9, 2), (152, .aload_n 0, 1), (153, .getfield 107, 3), (156, .bipush 100, 2), (158, .iload_n 1, 1), (159, .imul, 1), (160, .iload 11, 2), (162, .iadd, 1), (163, .iaload, 1), (164, .invokevirtual 1244, 3), (167, .istore 12, 2), (169, .iload 11, 2), (171, .aload_n 0, 1), (172, .getfield 71, 3)] = true := by decide +kernel
theorem dX8_enterCode_146 : decode cX8_enterCode 146 = .ok (.if_icmp .ge 157, 3) := zdec_at bX8_enterCode_146 0 rfl
theorem dX8_enterCode_149 : decode cX8_enterCode 149 = .ok (.aload_n 0, 1) := zdec_at bX8_enterCode_146 1 rfl
theorem dX8_enterCode_150 : decode cX8_enterCode 150 = .ok (.iload 9, 2) := zdec_at bX8_enterCode_146 2 rfl
theorem dX8_enterCode_152 : decode cX8_enterCode 152 = .ok (.aload_n 0, 1) := zdec_at bX8_enterCode_146 3 rfl
theorem dX8_enterCode_153 : decode cX8_enterCode 153 = .ok (.getfield 107, 3) := zdec_at bX8_enterCode_146 4 rfl
theorem dX8_enterCode_156 : decode cX8_enterCode 156 = .ok (.bipush 100, 2) := zdec_at bX8_enterCode_146 5 rfl
theorem dX8_enterCode_158 : decode cX8_enterCode 158 = .ok (.iload_n 1, 1) := zdec_at bX8_enterCode_146 6 rfl
theorem dX8_enterCode_159 : decode cX8_enterCode 159 = .ok (.imul, 1) := zdec_at bX8_enterCode_146 7 rfl
theorem dX8_enterCode_160 : decode cX8_enterCode 160 = .ok (.iload 11, 2) := zdec_at bX8_enterCode_146 8 rfl
theorem dX8_enterCode_162 : decode cX8_enterCode 162 = .ok (.iadd, 1) := zdec_at bX8_enterCode_146 9 rfl
theorem dX8_enterCode_163 : decode cX8_enterCode 163 = .ok (.iaload, 1) := zdec_at bX8_enterCode_146 10 rfl
theorem dX8_enterCode_164 : decode cX8_enterCode 164 = .ok (.invokevirtual 1244, 3) := zdec_at bX8_enterCode_146 11 rfl
theorem dX8_enterCode_167 : decode cX8_enterCode 167 = .ok (.istore 12, 2) := zdec_at bX8_enterCode_146 12 rfl
theorem dX8_enterCode_169 : decode cX8_enterCode 169 = .ok (.iload 11, 2) := zdec_at bX8_enterCode_146 13 rfl
theorem dX8_enterCode_171 : decode cX8_enterCode 171 = .ok (.aload_n 0, 1) := zdec_at bX8_enterCode_146 14 rfl
theorem dX8_enterCode_172 : decode cX8_enterCode 172 = .ok (.getfield 71, 3) := zdec_at bX8_enterCode_146 15 rfl
theorem bX8_enterCode_175 : zdec cX8_enterCode 175 [(175, .iload_n 1, 1), (176, .iaload, 1), (177, .if_icmp .lt 37, 3), (180, .aload_n 0, 1), (181, .getfield 65, 3), (184, .iload_n 1, 1), (185, .baload, 1), (186, .ifCond .ne 28, 3), (189, .aload_n 0, 1), (190, .getfield 107, 3), (193, .bipush 100, 2), (195, .iload_n 1, 1), (196, .imul, 1), (197, .iload 11, 2), (199, .iadd, 1), (200, .iaload, 1)] = true := by decide +kernel
theorem dX8_enterCode_175 : decode cX8_enterCode 175 = .ok (.iload_n 1, 1) := zdec_at bX8_enterCode_175 0 rfl
theorem dX8_enterCode_176 : decode cX8_enterCode 176 = .ok (.iaload, 1) := zdec_at bX8_enterCode_175 1 rfl
theorem dX8_enterCode_177 : decode cX8_enterCode 177 = .ok (.if_icmp .lt 37, 3) := zdec_at bX8_enterCode_175 2 rfl
theorem dX8_enterCode_180 : decode cX8_enterCode 180 = .ok (.aload_n 0, 1) := zdec_at bX8_enterCode_175 3 rfl
theorem dX8_enterCode_181 : decode cX8_enterCode 181 = .ok (.getfield 65, 3) := zdec_at bX8_enterCode_175 4 rfl
theorem dX8_enterCode_184 : decode cX8_enterCode 184 = .ok (.iload_n 1, 1) := zdec_at bX8_enterCode_175 5 rfl
theorem dX8_enterCode_185 : decode cX8_enterCode 185 = .ok (.baload, 1) := zdec_at bX8_enterCode_175 6 rfl
theorem dX8_enterCode_186 : decode cX8_enterCode 186 = .ok (.ifCond .ne 28, 3) := zdec_at bX8_enterCode_175 7 rfl
theorem dX8_enterCode_189 : decode cX8_enterCode 189 = .ok (.aload_n 0, 1) := zdec_at bX8_enterCode_175 8 rfl
theorem dX8_enterCode_190 : decode cX8_enterCode 190 = .ok (.getfield 107, 3) := zdec_at bX8_enterCode_175 9 rfl
theorem dX8_enterCode_193 : decode cX8_enterCode 193 = .ok (.bipush 100, 2) := zdec_at bX8_enterCode_175 10 rfl
theorem dX8_enterCode_195 : decode cX8_enterCode 195 = .ok (.iload_n 1, 1) := zdec_at bX8_enterCode_175 11 rfl
theorem dX8_enterCode_196 : decode cX8_enterCode 196 = .ok (.imul, 1) := zdec_at bX8_enterCode_175 12 rfl
theorem dX8_enterCode_197 : decode cX8_enterCode 197 = .ok (.iload 11, 2) := zdec_at bX8_enterCode_175 13 rfl
theorem dX8_enterCode_199 : decode cX8_enterCode 199 = .ok (.iadd, 1) := zdec_at bX8_enterCode_175 14 rfl
theorem dX8_enterCode_200 : decode cX8_enterCode 200 = .ok (.iaload, 1) := zdec_at bX8_enterCode_175 15 rfl
theorem bX8_enterCode_201 : zdec cX8_enterCode 201 [(201, .aload_n 0, 1), (202, .getfield 62, 3), (205, .iload_n 1, 1), (206, .iaload, 1), (207, .if_icmp .ne 7, 3), (210, .iconst 1, 1), (211, .goto 4, 3), (214, .iconst 0, 1), (215, .istore 13, 2), (217, .iload 11, 2), (219, .aload_n 0, 1), (220, .getfield 71, 3), (223, .iload_n 1, 1), (224, .iaload, 1), (225, .if_icmp .ge 31, 3), (228, .iload 11, 2)] = true := by decide +kernel
theorem dX8_enterCode_201 : decode cX8_enterCode 201 = .ok (.aload_n 0, 1) := zdec_at bX8_enterCode_201 0 rfl
theorem dX8_enterCode_202 : decode cX8_enterCode 202 = .ok (.getfield 62, 3) := zdec_at bX8_enterCode_201 1 rfl
theorem dX8_enterCode_205 : decode cX8_enterCode 205 = .ok (.iload_n 1, 1) := zdec_at bX8_enterCode_201 2 rfl
theorem dX8_enterCode_206 : decode cX8_enterCode 206 = .ok (.iaload, 1) := zdec_at bX8_enterCode_201 3 rfl
theorem dX8_enterCode_207 : decode cX8_enterCode 207 = .ok (.if_icmp .ne 7, 3) := zdec_at bX8_enterCode_201 4 rfl
theorem dX8_enterCode_210 : decode cX8_enterCode 210 = .ok (.iconst 1, 1) := zdec_at bX8_enterCode_201 5 rfl
theorem dX8_enterCode_211 : decode cX8_enterCode 211 = .ok (.goto 4, 3) := zdec_at bX8_enterCode_201 6 rfl
theorem dX8_enterCode_214 : decode cX8_enterCode 214 = .ok (.iconst 0, 1) := zdec_at bX8_enterCode_201 7 rfl
theorem dX8_enterCode_215 : decode cX8_enterCode 215 = .ok (.istore 13, 2) := zdec_at bX8_enterCode_201 8 rfl
theorem dX8_enterCode_217 : decode cX8_enterCode 217 = .ok (.iload 11, 2) := zdec_at bX8_enterCode_201 9 rfl
theorem dX8_enterCode_219 : decode cX8_enterCode 219 = .ok (.aload_n 0, 1) := zdec_at bX8_enterCode_201 10 rfl
theorem dX8_enterCode_220 : decode cX8_enterCode 220 = .ok (.getfield 71, 3) := zdec_at bX8_enterCode_201 11 rfl
theorem dX8_enterCode_223 : decode cX8_enterCode 223 = .ok (.iload_n 1, 1) := zdec_at bX8_enterCode_201 12 rfl
theorem dX8_enterCode_224 : decode cX8_enterCode 224 = .ok (.iaload, 1) := zdec_at bX8_enterCode_201 13 rfl
theorem dX8_enterCode_225 : decode cX8_enterCode 225 = .ok (.if_icmp .ge 31, 3) := zdec_at bX8_enterCode_201 14 rfl
theorem dX8_enterCode_228 : decode cX8_enterCode 228 = .ok (.iload 11, 2) := zdec_at bX8_enterCode_201 15 rfl
theorem bX8_enterCode_230 : zdec cX8_enterCode 230 [(230, .iload 6, 2), (232, .if_icmp .ge 24, 3), (235, .aload_n 0, 1), (236, .aload_n 0, 1), (237, .sipush 639, 3), (240, .iload 5, 2), (242, .iload 11, 2), (244, .iadd, 1), (245, .invokevirtual 1323, 3), (248, .iload 12, 2), (250, .invokevirtual 1092, 3), (253, .goto 44, 3), (256, .iload 13, 2), (258, .ifCond .eq 32, 3), (261, .iload_n 2, 1), (262, .ifCond .eq 11, 3)] = true := by decide +kernel
theorem dX8_enterCode_230 : decode cX8_enterCode 230 = .ok (.iload 6, 2) := zdec_at bX8_enterCode_230 0 rfl
theorem dX8_enterCode_232 : decode cX8_enterCode 232 = .ok (.if_icmp .ge 24, 3) := zdec_at bX8_enterCode_230 1 rfl
theorem dX8_enterCode_235 : decode cX8_enterCode 235 = .ok (.aload_n 0, 1) := zdec_at bX8_enterCode_230 2 rfl
theorem dX8_enterCode_236 : decode cX8_enterCode 236 = .ok (.aload_n 0, 1) := zdec_at bX8_enterCode_230 3 rfl
theorem dX8_enterCode_237 : decode cX8_enterCode 237 = .ok (.sipush 639, 3) := zdec_at bX8_enterCode_230 4 rfl
theorem dX8_enterCode_240 : decode cX8_enterCode 240 = .ok (.iload 5, 2) := zdec_at bX8_enterCode_230 5 rfl
theorem dX8_enterCode_242 : decode cX8_enterCode 242 = .ok (.iload 11, 2) := zdec_at bX8_enterCode_230 6 rfl
theorem dX8_enterCode_244 : decode cX8_enterCode 244 = .ok (.iadd, 1) := zdec_at bX8_enterCode_230 7 rfl
theorem dX8_enterCode_245 : decode cX8_enterCode 245 = .ok (.invokevirtual 1323, 3) := zdec_at bX8_enterCode_230 8 rfl
theorem dX8_enterCode_248 : decode cX8_enterCode 248 = .ok (.iload 12, 2) := zdec_at bX8_enterCode_230 9 rfl
theorem dX8_enterCode_250 : decode cX8_enterCode 250 = .ok (.invokevirtual 1092, 3) := zdec_at bX8_enterCode_230 10 rfl
theorem dX8_enterCode_253 : decode cX8_enterCode 253 = .ok (.goto 44, 3) := zdec_at bX8_enterCode_230 11 rfl
theorem dX8_enterCode_256 : decode cX8_enterCode 256 = .ok (.iload 13, 2) := zdec_at bX8_enterCode_230 12 rfl
theorem dX8_enterCode_258 : decode cX8_enterCode 258 = .ok (.ifCond .eq 32, 3) := zdec_at bX8_enterCode_230 13 rfl
theorem dX8_enterCode_261 : decode cX8_enterCode 261 = .ok (.iload_n 2, 1) := zdec_at bX8_enterCode_230 14 rfl
theorem dX8_enterCode_262 : decode cX8_enterCode 262 = .ok (.ifCond .eq 11, 3) := zdec_at bX8_enterCode_230 15 rfl
theorem bX8_enterCode_265 : zdec cX8_enterCode 265 [(265, .aload_n 0, 1), (266, .iload 12, 2), (268, .iload 8, 2), (270, .invokevirtual 1081, 3), (273, .iload_n 3, 1), (274, .ifCond .eq 23, 3), (277, .aload_n 0, 1), (278, .iload 12, 2), (280, .iload 8, 2), (282, .iconst 1, 1), (283, .iadd, 1), (284, .invokevirtual 1081, 3), (287, .goto 10, 3), (290, .aload_n 0, 1), (291, .iload 12, 2), (293, .iconst 1, 1)] = true := by decide +kernel
theorem dX8_enterCode_265 : decode cX8_enterCode 265 = .ok (.aload_n 0, 1) := zdec_at bX8_enterCode_265 0 rfl
theorem dX8_enterCode_266 : decode cX8_enterCode 266 = .ok (.iload 12, 2) := zdec_at bX8_enterCode_265 1 rfl
theorem dX8_enterCode_268 : decode cX8_enterCode 268 = .ok (.iload 8, 2) := zdec_at bX8_enterCode_265 2 rfl
theorem dX8_enterCode_270 : decode cX8_enterCode 270 = .ok (.invokevirtual 1081, 3) := zdec_at bX8_enterCode_265 3 rfl
theorem dX8_enterCode_273 : decode cX8_enterCode 273 = .ok (.iload_n 3, 1) := zdec_at bX8_enterCode_265 4 rfl
theorem dX8_enterCode_274 : decode cX8_enterCode 274 = .ok (.ifCond .eq 23, 3) := zdec_at bX8_enterCode_265 5 rfl
theorem dX8_enterCode_277 : decode cX8_enterCode 277 = .ok (.aload_n 0, 1) := zdec_at bX8_enterCode_265 6 rfl
theorem dX8_enterCode_278 : decode cX8_enterCode 278 = .ok (.iload 12, 2) := zdec_at bX8_enterCode_265 7 rfl
theorem dX8_enterCode_280 : decode cX8_enterCode 280 = .ok (.iload 8, 2) := zdec_at bX8_enterCode_265 8 rfl
theorem dX8_enterCode_282 : decode cX8_enterCode 282 = .ok (.iconst 1, 1) := zdec_at bX8_enterCode_265 9 rfl
theorem dX8_enterCode_283 : decode cX8_enterCode 283 = .ok (.iadd, 1) := zdec_at bX8_enterCode_265 10 rfl
theorem dX8_enterCode_284 : decode cX8_enterCode 284 = .ok (.invokevirtual 1081, 3) := zdec_at bX8_enterCode_265 11 rfl
theorem dX8_enterCode_287 : decode cX8_enterCode 287 = .ok (.goto 10, 3) := zdec_at bX8_enterCode_265 12 rfl
theorem dX8_enterCode_290 : decode cX8_enterCode 290 = .ok (.aload_n 0, 1) := zdec_at bX8_enterCode_265 13 rfl
theorem dX8_enterCode_291 : decode cX8_enterCode 291 = .ok (.iload 12, 2) := zdec_at bX8_enterCode_265 14 rfl
theorem dX8_enterCode_293 : decode cX8_enterCode 293 = .ok (.iconst 1, 1) := zdec_at bX8_enterCode_265 15 rfl
theorem bX8_enterCode_294 : zdec cX8_enterCode 294 [(294, .invokevirtual 1072, 3), (297, .iinc 11 1, 3), (300, .goto (-162), 3), (303, .ldc_w 1357, 3), (306, .istore 11, 2), (308, .aload_n 0, 1), (309, .iload 11, 2), (311, .invokevirtual 1066, 3), (314, .iload 7, 2), (316, .iconst (-1), 1), (317, .if_icmp .eq 18, 3), (320, .aload_n 0, 1), (321, .iload 11, 2), (323, .aload_n 0, 1), (324, .iload 7, 2), (326, .invokevirtual 920, 3)] = true := by decide +kernel
theorem dX8_enterCode_294 : decode cX8_enterCode 294 = .ok (.invokevirtual 1072, 3) := zdec_at bX8_enterCode_294 0 rfl
theorem dX8_enterCode_297 : decode cX8_enterCode 297 = .ok (.iinc 11 1, 3) := zdec_at bX8_enterCode_294 1 rfl
theorem dX8_enterCode_300 : decode cX8_enterCode 300 = .ok (.goto (-162), 3) := zdec_at bX8_enterCode_294 2 rfl
theorem dX8_enterCode_303 : decode cX8_enterCode 303 = .ok (.ldc_w 1357, 3) := zdec_at bX8_enterCode_294 3 rfl
theorem dX8_enterCode_306 : decode cX8_enterCode 306 = .ok (.istore 11, 2) := zdec_at bX8_enterCode_294 4 rfl
theorem dX8_enterCode_308 : decode cX8_enterCode 308 = .ok (.aload_n 0, 1) := zdec_at bX8_enterCode_294 5 rfl
theorem dX8_enterCode_309 : decode cX8_enterCode 309 = .ok (.iload 11, 2) := zdec_at bX8_enterCode_294 6 rfl
theorem dX8_enterCode_311 : decode cX8_enterCode 311 = .ok (.invokevirtual 1066, 3) := zdec_at bX8_enterCode_294 7 rfl
theorem dX8_enterCode_314 : decode cX8_enterCode 314 = .ok (.iload 7, 2) := zdec_at bX8_enterCode_294 8 rfl
theorem dX8_enterCode_316 : decode cX8_enterCode 316 = .ok (.iconst (-1), 1) := zdec_at bX8_enterCode_294 9 rfl
theorem dX8_enterCode_317 : decode cX8_enterCode 317 = .ok (.if_icmp .eq 18, 3) := zdec_at bX8_enterCode_294 10 rfl
theorem dX8_enterCode_320 : decode cX8_enterCode 320 = .ok (.aload_n 0, 1) := zdec_at bX8_enterCode_294 11 rfl
theorem dX8_enterCode_321 : decode cX8_enterCode 321 = .ok (.iload 11, 2) := zdec_at bX8_enterCode_294 12 rfl
theorem dX8_enterCode_323 : decode cX8_enterCode 323 = .ok (.aload_n 0, 1) := zdec_at bX8_enterCode_294 13 rfl
theorem dX8_enterCode_324 : decode cX8_enterCode 324 = .ok (.iload 7, 2) := zdec_at bX8_enterCode_294 14 rfl
theorem dX8_enterCode_326 : decode cX8_enterCode 326 = .ok (.invokevirtual 920, 3) := zdec_at bX8_enterCode_294 15 rfl
theorem bX8_enterCode_329 : zdec cX8_enterCode 329 [(329, .invokevirtual 1081, 3), (332, .goto 34, 3), (335, .iload 4, 2), (337, .iconst (-1), 1), (338, .if_icmp .ne 13, 3), (341, .aload_n 0, 1), (342, .iload 11, 2), (344, .iconst 1, 1), (345, .invokevirtual 1072, 3), (348, .goto 18, 3), (351, .aload_n 0, 1), (352, .aload_n 0, 1), (353, .sipush 639, 3), (356, .iload 4, 2), (358, .invokevirtual 1323, 3), (361, .iload 11, 2)] = true := by decide +kernel
theorem dX8_enterCode_329 : decode cX8_enterCode 329 = .ok (.invokevirtual 1081, 3) := zdec_at bX8_enterCode_329 0 rfl
theorem dX8_enterCode_332 : decode cX8_enterCode 332 = .ok (.goto 34, 3) := zdec_at bX8_enterCode_329 1 rfl
theorem dX8_enterCode_335 : decode cX8_enterCode 335 = .ok (.iload 4, 2) := zdec_at bX8_enterCode_329 2 rfl
theorem dX8_enterCode_337 : decode cX8_enterCode 337 = .ok (.iconst (-1), 1) := zdec_at bX8_enterCode_329 3 rfl
theorem dX8_enterCode_338 : decode cX8_enterCode 338 = .ok (.if_icmp .ne 13, 3) := zdec_at bX8_enterCode_329 4 rfl
theorem dX8_enterCode_341 : decode cX8_enterCode 341 = .ok (.aload_n 0, 1) := zdec_at bX8_enterCode_329 5 rfl
theorem dX8_enterCode_342 : decode cX8_enterCode 342 = .ok (.iload 11, 2) := zdec_at bX8_enterCode_329 6 rfl
theorem dX8_enterCode_344 : decode cX8_enterCode 344 = .ok (.iconst 1, 1) := zdec_at bX8_enterCode_329 7 rfl
theorem dX8_enterCode_345 : decode cX8_enterCode 345 = .ok (.invokevirtual 1072, 3) := zdec_at bX8_enterCode_329 8 rfl
theorem dX8_enterCode_348 : decode cX8_enterCode 348 = .ok (.goto 18, 3) := zdec_at bX8_enterCode_329 9 rfl
theorem dX8_enterCode_351 : decode cX8_enterCode 351 = .ok (.aload_n 0, 1) := zdec_at bX8_enterCode_329 10 rfl
theorem dX8_enterCode_352 : decode cX8_enterCode 352 = .ok (.aload_n 0, 1) := zdec_at bX8_enterCode_329 11 rfl
theorem dX8_enterCode_353 : decode cX8_enterCode 353 = .ok (.sipush 639, 3) := zdec_at bX8_enterCode_329 12 rfl
theorem dX8_enterCode_356 : decode cX8_enterCode 356 = .ok (.iload 4, 2) := zdec_at bX8_enterCode_329 13 rfl
theorem dX8_enterCode_358 : decode cX8_enterCode 358 = .ok (.invokevirtual 1323, 3) := zdec_at bX8_enterCode_329 14 rfl
theorem dX8_enterCode_361 : decode cX8_enterCode 361 = .ok (.iload 11, 2) := zdec_at bX8_enterCode_329 15 rfl
theorem bX8_enterCode_363 : zdec cX8_enterCode 363 [(363, .invokevirtual 1092, 3), (366, .aload_n 0, 1), (367, .iload 11, 2), (369, .aload_n 0, 1), (370, .sipush 639, 3), (373, .invokevirtual 1098, 3), (376, .invokevirtual 1092, 3), (379, .aload_n 0, 1), (380, .getfield 235, 3), (383, .sipush 639, 3), (386, .iconst 0, 1), (387, .iastore, 1), (388, .aload_n 0, 1), (389, .getfield 247, 3), (392, .sipush 639, 3), (395, .iconst 0, 1)] = true := by decide +kernel
theorem dX8_enterCode_363 : decode cX8_enterCode 363 = .ok (.invokevirtual 1092, 3) := zdec_at bX8_enterCode_363 0 rfl
theorem dX8_enterCode_366 : decode cX8_enterCode 366 = .ok (.aload_n 0, 1) := zdec_at bX8_enterCode_363 1 rfl
theorem dX8_enterCode_367 : decode cX8_enterCode 367 = .ok (.iload 11, 2) := zdec_at bX8_enterCode_363 2 rfl
theorem dX8_enterCode_369 : decode cX8_enterCode 369 = .ok (.aload_n 0, 1) := zdec_at bX8_enterCode_363 3 rfl
theorem dX8_enterCode_370 : decode cX8_enterCode 370 = .ok (.sipush 639, 3) := zdec_at bX8_enterCode_363 4 rfl
theorem dX8_enterCode_373 : decode cX8_enterCode 373 = .ok (.invokevirtual 1098, 3) := zdec_at bX8_enterCode_363 5 rfl
theorem dX8_enterCode_376 : decode cX8_enterCode 376 = .ok (.invokevirtual 1092, 3) := zdec_at bX8_enterCode_363 6 rfl
theorem dX8_enterCode_379 : decode cX8_enterCode 379 = .ok (.aload_n 0, 1) := zdec_at bX8_enterCode_363 7 rfl
theorem dX8_enterCode_380 : decode cX8_enterCode 380 = .ok (.getfield 235, 3) := zdec_at bX8_enterCode_363 8 rfl
theorem dX8_enterCode_383 : decode cX8_enterCode 383 = .ok (.sipush 639, 3) := zdec_at bX8_enterCode_363 9 rfl
theorem dX8_enterCode_386 : decode cX8_enterCode 386 = .ok (.iconst 0, 1) := zdec_at bX8_enterCode_363 10 rfl
theorem dX8_enterCode_387 : decode cX8_enterCode 387 = .ok (.iastore, 1) := zdec_at bX8_enterCode_363 11 rfl
theorem dX8_enterCode_388 : decode cX8_enterCode 388 = .ok (.aload_n 0, 1) := zdec_at bX8_enterCode_363 12 rfl
theorem dX8_enterCode_389 : decode cX8_enterCode 389 = .ok (.getfield 247, 3) := zdec_at bX8_enterCode_363 13 rfl
theorem dX8_enterCode_392 : decode cX8_enterCode 392 = .ok (.sipush 639, 3) := zdec_at bX8_enterCode_363 14 rfl
theorem dX8_enterCode_395 : decode cX8_enterCode 395 = .ok (.iconst 0, 1) := zdec_at bX8_enterCode_363 15 rfl
theorem bX8_enterCode_396 : zdec cX8_enterCode 396 [(396, .iastore, 1), (397, .aload_n 0, 1), (398, .getfield 241, 3), (401, .sipush 639, 3), (404, .lconst 0, 1), (405, .lastore, 1), (406, .aload_n 0, 1), (407, .getfield 244, 3), (410, .sipush 639, 3), (413, .lconst 0, 1), (414, .lastore, 1), (415, .iload 9, 2), (417, .bipush 64, 2), (419, .if_icmp .ge 18, 3), (422, .aload_n 0, 1), (423, .getfield 241, 3)] = true := by decide +kernel
theorem dX8_enterCode_396 : decode cX8_enterCode 396 = .ok (.iastore, 1) := zdec_at bX8_enterCode_396 0 rfl
theorem dX8_enterCode_397 : decode cX8_enterCode 397 = .ok (.aload_n 0, 1) := zdec_at bX8_enterCode_396 1 rfl
theorem dX8_enterCode_398 : decode cX8_enterCode 398 = .ok (.getfield 241, 3) := zdec_at bX8_enterCode_396 2 rfl
theorem dX8_enterCode_401 : decode cX8_enterCode 401 = .ok (.sipush 639, 3) := zdec_at bX8_enterCode_396 3 rfl
theorem dX8_enterCode_404 : decode cX8_enterCode 404 = .ok (.lconst 0, 1) := zdec_at bX8_enterCode_396 4 rfl
theorem dX8_enterCode_405 : decode cX8_enterCode 405 = .ok (.lastore, 1) := zdec_at bX8_enterCode_396 5 rfl
theorem dX8_enterCode_406 : decode cX8_enterCode 406 = .ok (.aload_n 0, 1) := zdec_at bX8_enterCode_396 6 rfl
theorem dX8_enterCode_407 : decode cX8_enterCode 407 = .ok (.getfield 244, 3) := zdec_at bX8_enterCode_396 7 rfl
theorem dX8_enterCode_410 : decode cX8_enterCode 410 = .ok (.sipush 639, 3) := zdec_at bX8_enterCode_396 8 rfl
theorem dX8_enterCode_413 : decode cX8_enterCode 413 = .ok (.lconst 0, 1) := zdec_at bX8_enterCode_396 9 rfl
theorem dX8_enterCode_414 : decode cX8_enterCode 414 = .ok (.lastore, 1) := zdec_at bX8_enterCode_396 10 rfl
theorem dX8_enterCode_415 : decode cX8_enterCode 415 = .ok (.iload 9, 2) := zdec_at bX8_enterCode_396 11 rfl
theorem dX8_enterCode_417 : decode cX8_enterCode 417 = .ok (.bipush 64, 2) := zdec_at bX8_enterCode_396 12 rfl
theorem dX8_enterCode_419 : decode cX8_enterCode 419 = .ok (.if_icmp .ge 18, 3) := zdec_at bX8_enterCode_396 13 rfl
theorem dX8_enterCode_422 : decode cX8_enterCode 422 = .ok (.aload_n 0, 1) := zdec_at bX8_enterCode_396 14 rfl
theorem dX8_enterCode_423 : decode cX8_enterCode 423 = .ok (.getfield 241, 3) := zdec_at bX8_enterCode_396 15 rfl
theorem bX8_enterCode_426 : zdec cX8_enterCode 426 [(426, .sipush 639, 3), (429, .lconst 1, 1), (430, .iload 9, 2), (432, .lshl, 1), (433, .lastore, 1), (434, .goto 18, 3), (437, .aload_n 0, 1), (438, .getfield 244, 3), (441, .sipush 639, 3), (444, .lconst 1, 1), (445, .iload 9, 2), (447, .bipush 64, 2), (449, .isub, 1), (450, .lshl, 1), (451, .lastore, 1), (452, .aload_n 0, 1)] = true := by decide +kernel
theorem dX8_enterCode_426 : decode cX8_enterCode 426 = .ok (.sipush 639, 3) := zdec_at bX8_enterCode_426 0 rfl
theorem dX8_enterCode_429 : decode cX8_enterCode 429 = .ok (.lconst 1, 1) := zdec_at bX8_enterCode_426 1 rfl
theorem dX8_enterCode_430 : decode cX8_enterCode 430 = .ok (.iload 9, 2) := zdec_at bX8_enterCode_426 2 rfl
theorem dX8_enterCode_432 : decode cX8_enterCode 432 = .ok (.lshl, 1) := zdec_at bX8_enterCode_426 3 rfl
theorem dX8_enterCode_433 : decode cX8_enterCode 433 = .ok (.lastore, 1) := zdec_at bX8_enterCode_426 4 rfl
theorem dX8_enterCode_434 : decode cX8_enterCode 434 = .ok (.goto 18, 3) := zdec_at bX8_enterCode_426 5 rfl
theorem dX8_enterCode_437 : decode cX8_enterCode 437 = .ok (.aload_n 0, 1) := zdec_at bX8_enterCode_426 6 rfl
theorem dX8_enterCode_438 : decode cX8_enterCode 438 = .ok (.getfield 244, 3) := zdec_at bX8_enterCode_426 7 rfl
theorem dX8_enterCode_441 : decode cX8_enterCode 441 = .ok (.sipush 639, 3) := zdec_at bX8_enterCode_426 8 rfl
theorem dX8_enterCode_444 : decode cX8_enterCode 444 = .ok (.lconst 1, 1) := zdec_at bX8_enterCode_426 9 rfl
theorem dX8_enterCode_445 : decode cX8_enterCode 445 = .ok (.iload 9, 2) := zdec_at bX8_enterCode_426 10 rfl
theorem dX8_enterCode_447 : decode cX8_enterCode 447 = .ok (.bipush 64, 2) := zdec_at bX8_enterCode_426 11 rfl
theorem dX8_enterCode_449 : decode cX8_enterCode 449 = .ok (.isub, 1) := zdec_at bX8_enterCode_426 12 rfl
theorem dX8_enterCode_450 : decode cX8_enterCode 450 = .ok (.lshl, 1) := zdec_at bX8_enterCode_426 13 rfl
theorem dX8_enterCode_451 : decode cX8_enterCode 451 = .ok (.lastore, 1) := zdec_at bX8_enterCode_426 14 rfl
theorem dX8_enterCode_452 : decode cX8_enterCode 452 = .ok (.aload_n 0, 1) := zdec_at bX8_enterCode_426 15 rfl
theorem bX8_enterCode_453 : zdec cX8_enterCode 453 [(453, .aload_n 0, 1), (454, .getfield 101, 3), (457, .iload_n 1, 1), (458, .iaload, 1), (459, .invokevirtual 1191, 3), (462, .return_, 1)] = true := by decide +kernel
theorem dX8_enterCode_453 : decode cX8_enterCode 453 = .ok (.aload_n 0, 1) := zdec_at bX8_enterCode_453 0 rfl
theorem dX8_enterCode_454 : decode cX8_enterCode 454 = .ok (.getfield 101, 3) := zdec_at bX8_enterCode_453 1 rfl
theorem dX8_enterCode_457 : decode cX8_enterCode 457 = .ok (.iload_n 1, 1) := zdec_at bX8_enterCode_453 2 rfl
theorem dX8_enterCode_458 : decode cX8_enterCode 458 = .ok (.iaload, 1) := zdec_at bX8_enterCode_453 3 rfl
theorem dX8_enterCode_459 : decode cX8_enterCode 459 = .ok (.invokevirtual 1191, 3) := zdec_at bX8_enterCode_453 4 rfl
theorem dX8_enterCode_462 : decode cX8_enterCode 462 = .ok (.return_, 1) := zdec_at bX8_enterCode_453 5 rfl
theorem sX8_enterCode_0 {E : zE} {d : Nat} {Q : zO → zM → Prop} (M : zM) (l1 : Int32) (l2 : Int32) (l3 : Int32) (l4 : Int32) (l5 : Int32) (l6 : Int32) (l7 : Int32) (k : Zm E YX8_make d M (zargs 0 [vr (some (97, 1, 0)), vi ((((29 : Int32) + ((6 : Int32) * (l1 - (1 : Int32)))) + (2 : Int32)) - (2 : Int32)), vi (-1 : Int32)]) 0 [] (zma E YX8_enterCode (d + 1) [(0, vr (some (97, 1, 0))), (1, vi l1), (2, vi l2), (3, vi l3), (4, vi l4), (5, vi l5), (6, vi l6), (7, vi l7), (8, vi (((29 : Int32) + ((6 : Int32) * (l1 - (1 : Int32)))) + (2 : Int32))), (9, vi ((((29 : Int32) + ((6 : Int32) * (l1 - (1 : Int32)))) + (2 : Int32)) - (2 : Int32)))] 23 3 [] Q)) : Zm E YX8_enterCode (d + 1) M [(0, vr (some (97, 1, 0))), (1, vi l1), (2, vi l2), (3, vi l3), (4, vi l4), (5, vi l5), (6, vi l6), (7, vi l7)] 0 [] Q := by
  refine Zm.l (fun _ _ k_ => z_bipush (v := 29) dX8_enterCode_0 rfl k_) ?_
  refine Zm.l (fun _ _ k_ => z_bipush (v := 6) dX8_enterCode_2 rfl k_) ?_
  refine Zm.l (fun _ _ k_ => z_iload_n dX8_enterCode_4 rfl rfl k_) ?_
  refine Zm.l (fun _ _ k_ => z_iconst (v := 1) dX8_enterCode_5 rfl k_) ?_
  refine Zm.l (fun _ _ k_ => z_isub dX8_enterCode_6 k_) ?_
  refine Zm.l (fun _ _ k_ => z_imul dX8_enterCode_7 k_) ?_
  refine Zm.l (fun _ _ k_ => z_iadd dX8_enterCode_8 k_) ?_
  refine Zm.l (fun _ _ k_ => z_iconst (v := 2) dX8_enterCode_9 rfl k_) ?_
  refine Zm.l (fun _ _ k_ => z_iadd dX8_enterCode_10 k_) ?_
  refine Zm.l (fun _ _ k_ => z_ist dX8_enterCode_11 (by decide) (lv' := [(0, vr (some (97, 1, 0))), (1, vi l1), (2, vi l2), (3, vi l3), (4, vi l4), (5, vi l5), (6, vi l6), (7, vi l7), (8, vi (((29 : Int32) + ((6 : Int32) * (l1 - (1 : Int32)))) + (2 : Int32)))]) rfl k_) ?_
  refine Zm.l (fun _ _ k_ => z_iload dX8_enterCode_13 rfl k_) ?_
  refine Zm.l (fun _ _ k_ => z_iconst (v := 2) dX8_enterCode_15 rfl k_) ?_
  refine Zm.l (fun _ _ k_ => z_isub dX8_enterCode_16 k_) ?_
  refine Zm.l (fun _ _ k_ => z_ist dX8_enterCode_17 (by decide) (lv' := [(0, vr (some (97, 1, 0))), (1, vi l1), (2, vi l2), (3, vi l3), (4, vi l4), (5, vi l5), (6, vi l6), (7, vi l7), (8, vi (((29 : Int32) + ((6 : Int32) * (l1 - (1 : Int32)))) + (2 : Int32))), (9, vi ((((29 : Int32) + ((6 : Int32) * (l1 - (1 : Int32)))) + (2 : Int32)) - (2 : Int32)))]) rfl k_) ?_
  refine Zm.l (fun _ _ k_ => z_aload_n dX8_enterCode_19 rfl rfl k_) ?_
  refine Zm.l (fun _ _ k_ => z_iload dX8_enterCode_20 rfl k_) ?_
  refine Zm.l (fun _ _ k_ => z_iconst (v := -1) dX8_enterCode_22 rfl k_) ?_
  exact zm_callV (as := [vi ((((29 : Int32) + ((6 : Int32) * (l1 - (1 : Int32)))) + (2 : Int32)) - (2 : Int32)), vi (-1 : Int32)]) (st := []) dX8_enterCode_23 vsX8_1241_1 (Nat.le_refl _) (Nat.le_of_ble_eq_true rfl) (Nat.le_of_ble_eq_true rfl) rfl k
theorem sX8_enterCode_26 {E : zE} {d : Nat} {Q : zO → zM → Prop} (M : zM) (l1 : Int32) (l2 : Int32) (l3 : Int32) (l4 : Int32) (l5 : Int32) (l6 : Int32) (l7 : Int32) (l8 : Int32) (l9 : Int32) (k : Zm E YX8_of d M (zargs 0 [vr (some (97, 1, 0)), vi (639 : Int32), vi l9]) 0 [] (zma E YX8_enterCode (d + 1) [(0, vr (some (97, 1, 0))), (1, vi l1), (2, vi l2), (3, vi l3), (4, vi l4), (5, vi l5), (6, vi l6), (7, vi l7), (8, vi l8), (9, vi l9)] 32 3 [] Q)) : Zm E YX8_enterCode (d + 1) M [(0, vr (some (97, 1, 0))), (1, vi l1), (2, vi l2), (3, vi l3), (4, vi l4), (5, vi l5), (6, vi l6), (7, vi l7), (8, vi l8), (9, vi l9)] 26 [] Q := by
  refine Zm.l (fun _ _ k_ => z_aload_n dX8_enterCode_26 rfl rfl k_) ?_
  refine Zm.l (fun _ _ k_ => z_sipush (v := 639) dX8_enterCode_27 rfl k_) ?_
  refine Zm.l (fun _ _ k_ => z_iload dX8_enterCode_30 rfl k_) ?_
  exact zm_callV (as := [vi (639 : Int32), vi l9]) (st := []) dX8_enterCode_32 vsX8_1101_1 (Nat.le_refl _) (Nat.le_of_ble_eq_true rfl) (Nat.le_of_ble_eq_true rfl) rfl k
theorem sX8_enterCode_35 {E : zE} {d : Nat} {Q : zO → zM → Prop} (M : zM) (l1 : Int32) (l2 : Int32) (l3 : Int32) (l4 : Int32) (l5 : Int32) (l6 : Int32) (l7 : Int32) (l8 : Int32) (l9 : Int32) (s0 : Int32) (k : Zm E YX8_enterCode (d + 1) M [(0, vr (some (97, 1, 0))), (1, vi l1), (2, vi l2), (3, vi l3), (4, vi l4), (5, vi l5), (6, vi l6), (7, vi l7), (8, vi l8), (9, vi l9), (10, vi s0), (11, vi l8)] 41 [] Q) : Zm E YX8_enterCode (d + 1) M [(0, vr (some (97, 1, 0))), (1, vi l1), (2, vi l2), (3, vi l3), (4, vi l4), (5, vi l5), (6, vi l6), (7, vi l7), (8, vi l8), (9, vi l9)] 35 [vi s0] Q := by
  refine Zm.l (fun _ _ k_ => z_ist dX8_enterCode_35 (by decide) (lv' := [(0, vr (some (97, 1, 0))), (1, vi l1), (2, vi l2), (3, vi l3), (4, vi l4), (5, vi l5), (6, vi l6), (7, vi l7), (8, vi l8), (9, vi l9), (10, vi s0)]) rfl k_) ?_
  refine Zm.l (fun _ _ k_ => z_iload dX8_enterCode_37 rfl k_) ?_
  refine Zm.l (fun _ _ k_ => z_ist dX8_enterCode_39 (by decide) (lv' := [(0, vr (some (97, 1, 0))), (1, vi l1), (2, vi l2), (3, vi l3), (4, vi l4), (5, vi l5), (6, vi l6), (7, vi l7), (8, vi l8), (9, vi l9), (10, vi s0), (11, vi l8)]) rfl k_) ?_
  exact k
theorem sX8_enterCode_41 {E : zE} {d : Nat} {Q : zO → zM → Prop} (M : zM) (l1 : Int32) (l2 : Int32) (l3 : Int32) (l4 : Int32) (l5 : Int32) (l6 : Int32) (l7 : Int32) (l8 : Int32) (l9 : Int32) (l10 : Int32) (l11 : Int32) (k : if (l8 + (2 : Int32)) ≤ l11 then (Zm E YX8_enterCode (d + 1) M [(0, vr (some (97, 1, 0))), (1, vi l1), (2, vi l2), (3, vi l3), (4, vi l4), (5, vi l5), (6, vi l6), (7, vi l7), (8, vi l8), (9, vi l9), (11, vi (0 : Int32))] 138 [] Q) else (if l11 = l8 then (if l2 = 0 then (Zm E YX8_enterCode (d + 1) M [(0, vr (some (97, 1, 0))), (1, vi l1), (2, vi l2), (3, vi l3), (4, vi l4), (5, vi l5), (6, vi l6), (7, vi l7), (8, vi l8), (9, vi l9), (10, vi l10), (11, vi (l11 + (1 : Int32)))] 41 [] Q) else (Zm E YX8_enterCode (d + 1) M [(0, vr (some (97, 1, 0))), (1, vi l1), (2, vi l2), (3, vi l3), (4, vi l4), (5, vi l5), (6, vi l6), (7, vi l7), (8, vi l8), (9, vi l9), (10, vi l10), (11, vi l11)] 71 [] Q)) else (if l3 = 0 then (Zm E YX8_enterCode (d + 1) M [(0, vr (some (97, 1, 0))), (1, vi l1), (2, vi l2), (3, vi l3), (4, vi l4), (5, vi l5), (6, vi l6), (7, vi l7), (8, vi l8), (9, vi l9), (10, vi l10), (11, vi (l11 + (1 : Int32)))] 41 [] Q) else (Zm E YX8_enterCode (d + 1) M [(0, vr (some (97, 1, 0))), (1, vi l1), (2, vi l2), (3, vi l3), (4, vi l4), (5, vi l5), (6, vi l6), (7, vi l7), (8, vi l8), (9, vi l9), (10, vi l10), (11, vi l11)] 71 [] Q)))) : Zm E YX8_enterCode (d + 1) M [(0, vr (some (97, 1, 0))), (1, vi l1), (2, vi l2), (3, vi l3), (4, vi l4), (5, vi l5), (6, vi l6), (7, vi l7), (8, vi l8), (9, vi l9), (10, vi l10), (11, vi l11)] 41 [] Q := by
  refine Zm.l (fun _ _ k_ => z_iload dX8_enterCode_41 rfl k_) ?_
  refine Zm.l (fun _ _ k_ => z_iload dX8_enterCode_43 rfl k_) ?_
  refine Zm.l (fun _ _ k_ => z_iconst (v := 2) dX8_enterCode_45 rfl k_) ?_
  refine Zm.l (fun _ _ k_ => z_iadd dX8_enterCode_46 k_) ?_
  refine Zm.br (fun _ _ k1_ k2_ => z_icmp_ge (tgt := 135) dX8_enterCode_47 rfl k1_ k2_) (fun h_ => ?_) (fun h_ => ?_)
  · have k := zit h_ k
    refine Zm.l (fun _ _ k_ => z_iconst (v := 0) dX8_enterCode_135 rfl k_) ?_
    refine Zm.l (fun _ _ k_ => z_ist dX8_enterCode_136 (by decide) (lv' := [(0, vr (some (97, 1, 0))), (1, vi l1), (2, vi l2), (3, vi l3), (4, vi l4), (5, vi l5), (6, vi l6), (7, vi l7), (8, vi l8), (9, vi l9), (10, vi l10), (11, vi (0 : Int32))]) rfl k_) ?_
    refine Zm.pick [0, 1, 2, 3, 4, 5, 6, 7, 8, 9, 11] rfl ?_
    exact k
  · have k := zif h_ k
    refine Zm.l (fun _ _ k_ => z_iload dX8_enterCode_50 rfl k_) ?_
    refine Zm.l (fun _ _ k_ => z_iload dX8_enterCode_52 rfl k_) ?_
    refine Zm.brn (fun _ _ k1_ k2_ => z_icmp_ne (tgt := 64) dX8_enterCode_54 rfl k1_ k2_) (fun h_ => ?_) (fun h_ => ?_)
    · have k := zif h_ k
      refine Zm.l (fun _ _ k_ => z_iload_n dX8_enterCode_64 rfl rfl k_) ?_
      refine Zm.brn (fun _ _ k1_ k2_ => z_if_ne (tgt := 71) dX8_enterCode_65 rfl k1_ k2_) (fun h_ => ?_) (fun h_ => ?_)
      · have k := zif h_ k
        exact k
      · have k := zit h_ k
        refine Zm.l (fun _ _ k_ => z_goto (tgt := 129) dX8_enterCode_68 rfl k_) ?_
        refine Zm.l (fun _ _ k_ => z_inc (v := (l11 + (1 : Int32))) dX8_enterCode_129 rfl rfl (by decide) (lv' := [(0, vr (some (97, 1, 0))), (1, vi l1), (2, vi l2), (3, vi l3), (4, vi l4), (5, vi l5), (6, vi l6), (7, vi l7), (8, vi l8), (9, vi l9), (10, vi l10), (11, vi (l11 + (1 : Int32)))]) rfl k_) ?_
        refine Zm.l (fun _ _ k_ => z_goto (tgt := 41) dX8_enterCode_132 rfl k_) ?_
        exact k
    · have k := zit h_ k
      refine Zm.l (fun _ _ k_ => z_iload_n dX8_enterCode_57 rfl rfl k_) ?_
      refine Zm.brn (fun _ _ k1_ k2_ => z_if_ne (tgt := 71) dX8_enterCode_58 rfl k1_ k2_) (fun h_ => ?_) (fun h_ => ?_)
      · have k := zif h_ k
        exact k
      · have k := zit h_ k
        refine Zm.l (fun _ _ k_ => z_goto (tgt := 129) dX8_enterCode_61 rfl k_) ?_
        refine Zm.l (fun _ _ k_ => z_inc (v := (l11 + (1 : Int32))) dX8_enterCode_129 rfl rfl (by decide) (lv' := [(0, vr (some (97, 1, 0))), (1, vi l1), (2, vi l2), (3, vi l3), (4, vi l4), (5, vi l5), (6, vi l6), (7, vi l7), (8, vi l8), (9, vi l9), (10, vi l10), (11, vi (l11 + (1 : Int32)))]) rfl k_) ?_
        refine Zm.l (fun _ _ k_ => z_goto (tgt := 41) dX8_enterCode_132 rfl k_) ?_
        exact k
theorem sX8_enterCode_71 {E : zE} {d : Nat} {Q : zO → zM → Prop} (M : zM) (l1 : Int32) (l2 : Int32) (l3 : Int32) (l4 : Int32) (l5 : Int32) (l6 : Int32) (l7 : Int32) (l8 : Int32) (l9 : Int32) (l10 : Int32) (l11 : Int32) (k : vp_in l10 15128 ∧ (Zm E YX8_of d M (zargs 0 [vr (some (97, 1, 0)), vi (639 : Int32), vi l11]) 0 [] (zma E YX8_enterCode (d + 1) [(0, vr (some (97, 1, 0))), (1, vi l1), (2, vi l2), (3, vi l3), (4, vi l4), (5, vi l5), (6, vi l6), (7, vi l7), (8, vi l8), (9, vi l9), (10, vi l10), (11, vi l11)] 94 3 [vr (some (182, 105, 15128)), vl (gl M 182 (l10).toNatClampNeg), vi l10, vr (some (182, 105, 15128))] Q))) : Zm E YX8_enterCode (d + 1) M [(0, vr (some (97, 1, 0))), (1, vi l1), (2, vi l2), (3, vi l3), (4, vi l4), (5, vi l5), (6, vi l6), (7, vi l7), (8, vi l8), (9, vi l9), (10, vi l10), (11, vi l11)] 71 [] Q := by
  refine Zm.l (fun _ _ k_ => z_aload_n dX8_enterCode_71 rfl rfl k_) ?_
  refine zm_getr 79 dX8_enterCode_72 fsX8_268_1 rfl ?_
  refine Zm.l (fun _ _ k_ => z_iload dX8_enterCode_75 rfl k_) ?_
  refine Zm.l (fun _ _ k_ => z_aload_n dX8_enterCode_77 rfl rfl k_) ?_
  refine zm_getr 79 dX8_enterCode_78 fsX8_268_1 rfl ?_
  refine Zm.l (fun _ _ k_ => z_iload dX8_enterCode_81 rfl k_) ?_
  obtain ⟨b_, k⟩ := k
  refine zm_lald dX8_enterCode_83 b_ (by decide) (by decide) ?_
  refine Zm.l (fun _ _ k_ => z_aload_n dX8_enterCode_84 rfl rfl k_) ?_
  refine zm_getr 79 dX8_enterCode_85 fsX8_268_1 rfl ?_
  refine Zm.l (fun _ _ k_ => z_aload_n dX8_enterCode_88 rfl rfl k_) ?_
  refine Zm.l (fun _ _ k_ => z_sipush (v := 639) dX8_enterCode_89 rfl k_) ?_
  refine Zm.l (fun _ _ k_ => z_iload dX8_enterCode_92 rfl k_) ?_
  exact zm_callV (as := [vi (639 : Int32), vi l11]) (st := [vr (some (182, 105, 15128)), vl (gl M 182 (l10).toNatClampNeg), vi l10, vr (some (182, 105, 15128))]) dX8_enterCode_94 vsX8_1101_1 (Nat.le_refl _) (Nat.le_of_ble_eq_true rfl) (Nat.le_of_ble_eq_true rfl) rfl k
theorem sX8_enterCode_97 {E : zE} {d : Nat} {Q : zO → zM → Prop} (M : zM) (l1 : Int32) (l2 : Int32) (l3 : Int32) (l4 : Int32) (l5 : Int32) (l6 : Int32) (l7 : Int32) (l8 : Int32) (l9 : Int32) (l10 : Int32) (l11 : Int32) (s0 : Int32) (s2 : Int64) (s3 : Int32) (k : vp_in s0 15128 ∧ (vp_in s3 15128 ∧ (vp_in l10 15128 ∧ (Zm E YX8_of d (sl M 182 (s3).toNatClampNeg (s2 ||| (gl M 182 (s0).toNatClampNeg))) (zargs 0 [vr (some (97, 1, 0)), vi (639 : Int32), vi l11]) 0 [] (zma E YX8_enterCode (d + 1) [(0, vr (some (97, 1, 0))), (1, vi l1), (2, vi l2), (3, vi l3), (4, vi l4), (5, vi l5), (6, vi l6), (7, vi l7), (8, vi l8), (9, vi l9), (10, vi l10), (11, vi l11)] 123 3 [vr (some (183, 105, 15128)), vl (gl M 183 (l10).toNatClampNeg), vi l10, vr (some (183, 105, 15128))] Q))))) : Zm E YX8_enterCode (d + 1) M [(0, vr (some (97, 1, 0))), (1, vi l1), (2, vi l2), (3, vi l3), (4, vi l4), (5, vi l5), (6, vi l6), (7, vi l7), (8, vi l8), (9, vi l9), (10, vi l10), (11, vi l11)] 97 [vi s0, vr (some (182, 105, 15128)), vl s2, vi s3, vr (some (182, 105, 15128))] Q := by
  obtain ⟨b_, k⟩ := k
  refine zm_lald dX8_enterCode_97 b_ (by decide) (by decide) ?_
  refine Zm.l (fun _ _ k_ => z_lor dX8_enterCode_98 k_) ?_
  obtain ⟨b_, k⟩ := k
  refine zm_last dX8_enterCode_99 b_ (by decide) (by decide) ?_
  refine Zm.l (fun _ _ k_ => z_aload_n dX8_enterCode_100 rfl rfl k_) ?_
  refine zm_getr 80 dX8_enterCode_101 fsX8_271_1 rfl ?_
  refine Zm.l (fun _ _ k_ => z_iload dX8_enterCode_104 rfl k_) ?_
  refine Zm.l (fun _ _ k_ => z_aload_n dX8_enterCode_106 rfl rfl k_) ?_
  refine zm_getr 80 dX8_enterCode_107 fsX8_271_1 rfl ?_
  refine Zm.l (fun _ _ k_ => z_iload dX8_enterCode_110 rfl k_) ?_
  obtain ⟨b_, k⟩ := k
  refine zm_lald dX8_enterCode_112 b_ (by decide) (by decide) ?_
  refine Zm.l (fun _ _ k_ => z_aload_n dX8_enterCode_113 rfl rfl k_) ?_
  refine zm_getr 80 dX8_enterCode_114 fsX8_271_1 rfl ?_
  refine Zm.l (fun _ _ k_ => z_aload_n dX8_enterCode_117 rfl rfl k_) ?_
  refine Zm.l (fun _ _ k_ => z_sipush (v := 639) dX8_enterCode_118 rfl k_) ?_
  refine Zm.l (fun _ _ k_ => z_iload dX8_enterCode_121 rfl k_) ?_
  exact zm_callV (as := [vi (639 : Int32), vi l11]) (st := [vr (some (183, 105, 15128)), vl (gl M 183 (l10).toNatClampNeg), vi l10, vr (some (183, 105, 15128))]) dX8_enterCode_123 vsX8_1101_1 (Nat.le_refl _) (Nat.le_of_ble_eq_true rfl) (Nat.le_of_ble_eq_true rfl) rfl k
theorem sX8_enterCode_126 {E : zE} {d : Nat} {Q : zO → zM → Prop} (M : zM) (l1 : Int32) (l2 : Int32) (l3 : Int32) (l4 : Int32) (l5 : Int32) (l6 : Int32) (l7 : Int32) (l8 : Int32) (l9 : Int32) (l10 : Int32) (l11 : Int32) (s0 : Int32) (s2 : Int64) (s3 : Int32) (k : vp_in s0 15128 ∧ (vp_in s3 15128 ∧ (Zm E YX8_enterCode (d + 1) (sl M 183 (s3).toNatClampNeg (s2 ||| (gl M 183 (s0).toNatClampNeg))) [(0, vr (some (97, 1, 0))), (1, vi l1), (2, vi l2), (3, vi l3), (4, vi l4), (5, vi l5), (6, vi l6), (7, vi l7), (8, vi l8), (9, vi l9), (10, vi l10), (11, vi (l11 + (1 : Int32)))] 41 [] Q))) : Zm E YX8_enterCode (d + 1) M [(0, vr (some (97, 1, 0))), (1, vi l1), (2, vi l2), (3, vi l3), (4, vi l4), (5, vi l5), (6, vi l6), (7, vi l7), (8, vi l8), (9, vi l9), (10, vi l10), (11, vi l11)] 126 [vi s0, vr (some (183, 105, 15128)), vl s2, vi s3, vr (some (183, 105, 15128))] Q := by
  obtain ⟨b_, k⟩ := k
  refine zm_lald dX8_enterCode_126 b_ (by decide) (by decide) ?_
  refine Zm.l (fun _ _ k_ => z_lor dX8_enterCode_127 k_) ?_
  obtain ⟨b_, k⟩ := k
  refine zm_last dX8_enterCode_128 b_ (by decide) (by decide) ?_
  refine Zm.l (fun _ _ k_ => z_inc (v := (l11 + (1 : Int32))) dX8_enterCode_129 rfl rfl (by decide) (lv' := [(0, vr (some (97, 1, 0))), (1, vi l1), (2, vi l2), (3, vi l3), (4, vi l4), (5, vi l5), (6, vi l6), (7, vi l7), (8, vi l8), (9, vi l9), (10, vi l10), (11, vi (l11 + (1 : Int32)))]) rfl k_) ?_
  refine Zm.l (fun _ _ k_ => z_goto (tgt := 41) dX8_enterCode_132 rfl k_) ?_
  exact k
theorem sX8_enterCode_138 {E : zE} {d : Nat} {Q : zO → zM → Prop} (M : zM) (l1 : Int32) (l2 : Int32) (l3 : Int32) (l4 : Int32) (l5 : Int32) (l6 : Int32) (l7 : Int32) (l8 : Int32) (l9 : Int32) (l11 : Int32) (k : vp_in l1 12 ∧ (if (gi M 130 (l1).toNatClampNeg) ≤ l11 then (Zm E YX8_empty d M (zargs 0 [vr (some (97, 1, 0)), vi (647753 : Int32)]) 0 [] (zma E YX8_enterCode (d + 1) [(0, vr (some (97, 1, 0))), (1, vi l1), (4, vi l4), (7, vi l7), (9, vi l9), (11, vi (647753 : Int32))] 311 3 [] Q)) else (vp_in (((100 : Int32) * l1) + l11) 1200 ∧ (Zm E YX8_fresh_2 d M (zargs 0 [vr (some (97, 1, 0)), vi l9, vi (gi M 129 ((((100 : Int32) * l1) + l11)).toNatClampNeg)]) 0 [] (zma E YX8_enterCode (d + 1) [(0, vr (some (97, 1, 0))), (1, vi l1), (2, vi l2), (3, vi l3), (4, vi l4), (5, vi l5), (6, vi l6), (7, vi l7), (8, vi l8), (9, vi l9), (11, vi l11)] 164 3 [] Q))))) : Zm E YX8_enterCode (d + 1) M [(0, vr (some (97, 1, 0))), (1, vi l1), (2, vi l2), (3, vi l3), (4, vi l4), (5, vi l5), (6, vi l6), (7, vi l7), (8, vi l8), (9, vi l9), (11, vi l11)] 138 [] Q := by
  refine Zm.l (fun _ _ k_ => z_iload dX8_enterCode_138 rfl k_) ?_
  refine Zm.l (fun _ _ k_ => z_aload_n dX8_enterCode_140 rfl rfl k_) ?_
  refine zm_getr 32 dX8_enterCode_141 fsX8_110_1 rfl ?_
  refine Zm.l (fun _ _ k_ => z_iload_n dX8_enterCode_144 rfl rfl k_) ?_
  obtain ⟨b_, k⟩ := k
  refine zm_iald dX8_enterCode_145 b_ (by decide) (by decide) ?_
  refine Zm.br (fun _ _ k1_ k2_ => z_icmp_ge (tgt := 303) dX8_enterCode_146 rfl k1_ k2_) (fun h_ => ?_) (fun h_ => ?_)
  · have k := zit h_ k
    refine Zm.l (fun _ _ k_ => z_ldcw (v := 647753) dX8_enterCode_303 q5123 k_) ?_
    refine Zm.l (fun _ _ k_ => z_ist dX8_enterCode_306 (by decide) (lv' := [(0, vr (some (97, 1, 0))), (1, vi l1), (2, vi l2), (3, vi l3), (4, vi l4), (5, vi l5), (6, vi l6), (7, vi l7), (8, vi l8), (9, vi l9), (11, vi (647753 : Int32))]) rfl k_) ?_
    refine Zm.l (fun _ _ k_ => z_aload_n dX8_enterCode_308 rfl rfl k_) ?_
    refine Zm.l (fun _ _ k_ => z_iload dX8_enterCode_309 rfl k_) ?_
    refine Zm.pick [0, 1, 4, 7, 9, 10] rfl ?_
    exact zm_callV (as := [vi (647753 : Int32)]) (st := []) dX8_enterCode_311 vsX8_1066_1 (Nat.le_refl _) (Nat.le_of_ble_eq_true rfl) (Nat.le_of_ble_eq_true rfl) rfl k
  · have k := zif h_ k
    refine Zm.l (fun _ _ k_ => z_aload_n dX8_enterCode_149 rfl rfl k_) ?_
    refine Zm.l (fun _ _ k_ => z_iload dX8_enterCode_150 rfl k_) ?_
    refine Zm.l (fun _ _ k_ => z_aload_n dX8_enterCode_152 rfl rfl k_) ?_
    refine zm_getr 31 dX8_enterCode_153 fsX8_107_1 rfl ?_
    refine Zm.l (fun _ _ k_ => z_bipush (v := 100) dX8_enterCode_156 rfl k_) ?_
    refine Zm.l (fun _ _ k_ => z_iload_n dX8_enterCode_158 rfl rfl k_) ?_
    refine Zm.l (fun _ _ k_ => z_imul dX8_enterCode_159 k_) ?_
    refine Zm.l (fun _ _ k_ => z_iload dX8_enterCode_160 rfl k_) ?_
    refine Zm.l (fun _ _ k_ => z_iadd dX8_enterCode_162 k_) ?_
    obtain ⟨b_, k⟩ := k
    refine zm_iald dX8_enterCode_163 b_ (by decide) (by decide) ?_
    exact zm_callV (as := [vi l9, vi (gi M 129 ((((100 : Int32) * l1) + l11)).toNatClampNeg)]) (st := []) dX8_enterCode_164 vsX8_1244_1 (Nat.le_refl _) (Nat.le_of_ble_eq_true rfl) (Nat.le_of_ble_eq_true rfl) rfl k
theorem sX8_enterCode_167 {E : zE} {d : Nat} {Q : zO → zM → Prop} (M : zM) (l1 : Int32) (l2 : Int32) (l3 : Int32) (l4 : Int32) (l5 : Int32) (l6 : Int32) (l7 : Int32) (l8 : Int32) (l9 : Int32) (l11 : Int32) (s0 : Int32) (k : vp_in l1 12 ∧ (if l11 < (gi M 117 (l1).toNatClampNeg) then (Zm E YX8_enterCode (d + 1) M [(0, vr (some (97, 1, 0))), (1, vi l1), (2, vi l2), (3, vi l3), (4, vi l4), (5, vi l5), (6, vi l6), (7, vi l7), (8, vi l8), (9, vi l9), (11, vi l11), (12, vi s0)] 215 [vi (0 : Int32)] Q) else (vp_in l1 12 ∧ (if (gi M 115 (l1).toNatClampNeg) = 0 then (vp_in (((100 : Int32) * l1) + l11) 1200 ∧ (vp_in l1 12 ∧ (if (gi M 129 ((((100 : Int32) * l1) + l11)).toNatClampNeg) = (gi M 114 (l1).toNatClampNeg) then (Zm E YX8_enterCode (d + 1) M [(0, vr (some (97, 1, 0))), (1, vi l1), (2, vi l2), (3, vi l3), (4, vi l4), (5, vi l5), (6, vi l6), (7, vi l7), (8, vi l8), (9, vi l9), (11, vi l11), (12, vi s0)] 215 [vi (1 : Int32)] Q) else (Zm E YX8_enterCode (d + 1) M [(0, vr (some (97, 1, 0))), (1, vi l1), (2, vi l2), (3, vi l3), (4, vi l4), (5, vi l5), (6, vi l6), (7, vi l7), (8, vi l8), (9, vi l9), (11, vi l11), (12, vi s0)] 215 [vi (0 : Int32)] Q)))) else (Zm E YX8_enterCode (d + 1) M [(0, vr (some (97, 1, 0))), (1, vi l1), (2, vi l2), (3, vi l3), (4, vi l4), (5, vi l5), (6, vi l6), (7, vi l7), (8, vi l8), (9, vi l9), (11, vi l11), (12, vi s0)] 215 [vi (0 : Int32)] Q))))) : Zm E YX8_enterCode (d + 1) M [(0, vr (some (97, 1, 0))), (1, vi l1), (2, vi l2), (3, vi l3), (4, vi l4), (5, vi l5), (6, vi l6), (7, vi l7), (8, vi l8), (9, vi l9), (11, vi l11)] 167 [vi s0] Q := by
  refine Zm.l (fun _ _ k_ => z_ist dX8_enterCode_167 (by decide) (lv' := [(0, vr (some (97, 1, 0))), (1, vi l1), (2, vi l2), (3, vi l3), (4, vi l4), (5, vi l5), (6, vi l6), (7, vi l7), (8, vi l8), (9, vi l9), (11, vi l11), (12, vi s0)]) rfl k_) ?_
  refine Zm.l (fun _ _ k_ => z_iload dX8_enterCode_169 rfl k_) ?_
  refine Zm.l (fun _ _ k_ => z_aload_n dX8_enterCode_171 rfl rfl k_) ?_
  refine zm_getr 19 dX8_enterCode_172 fsX8_71_1 rfl ?_
  refine Zm.l (fun _ _ k_ => z_iload_n dX8_enterCode_175 rfl rfl k_) ?_
  obtain ⟨b_, k⟩ := k
  refine zm_iald dX8_enterCode_176 b_ (by decide) (by decide) ?_
  refine Zm.br (fun _ _ k1_ k2_ => z_icmp_lt (tgt := 214) dX8_enterCode_177 rfl k1_ k2_) (fun h_ => ?_) (fun h_ => ?_)
  · have k := zit h_ k
    refine Zm.l (fun _ _ k_ => z_iconst (v := 0) dX8_enterCode_214 rfl k_) ?_
    exact k
  · have k := zif h_ k
    refine Zm.l (fun _ _ k_ => z_aload_n dX8_enterCode_180 rfl rfl k_) ?_
    refine zm_getr 17 dX8_enterCode_181 fsX8_65_1 rfl ?_
    refine Zm.l (fun _ _ k_ => z_iload_n dX8_enterCode_184 rfl rfl k_) ?_
    obtain ⟨b_, k⟩ := k
    refine zm_zald dX8_enterCode_185 b_ (by decide) (by decide) ?_
    refine Zm.brn (fun _ _ k1_ k2_ => z_if_ne (tgt := 214) dX8_enterCode_186 rfl k1_ k2_) (fun h_ => ?_) (fun h_ => ?_)
    · have k := zif h_ k
      refine Zm.l (fun _ _ k_ => z_iconst (v := 0) dX8_enterCode_214 rfl k_) ?_
      exact k
    · have k := zit h_ k
      refine Zm.l (fun _ _ k_ => z_aload_n dX8_enterCode_189 rfl rfl k_) ?_
      refine zm_getr 31 dX8_enterCode_190 fsX8_107_1 rfl ?_
      refine Zm.l (fun _ _ k_ => z_bipush (v := 100) dX8_enterCode_193 rfl k_) ?_
      refine Zm.l (fun _ _ k_ => z_iload_n dX8_enterCode_195 rfl rfl k_) ?_
      refine Zm.l (fun _ _ k_ => z_imul dX8_enterCode_196 k_) ?_
      refine Zm.l (fun _ _ k_ => z_iload dX8_enterCode_197 rfl k_) ?_
      refine Zm.l (fun _ _ k_ => z_iadd dX8_enterCode_199 k_) ?_
      obtain ⟨b_, k⟩ := k
      refine zm_iald dX8_enterCode_200 b_ (by decide) (by decide) ?_
      refine Zm.l (fun _ _ k_ => z_aload_n dX8_enterCode_201 rfl rfl k_) ?_
      refine zm_getr 16 dX8_enterCode_202 fsX8_62_1 rfl ?_
      refine Zm.l (fun _ _ k_ => z_iload_n dX8_enterCode_205 rfl rfl k_) ?_
      obtain ⟨b_, k⟩ := k
      refine zm_iald dX8_enterCode_206 b_ (by decide) (by decide) ?_
      refine Zm.brn (fun _ _ k1_ k2_ => z_icmp_ne (tgt := 214) dX8_enterCode_207 rfl k1_ k2_) (fun h_ => ?_) (fun h_ => ?_)
      · have k := zif h_ k
        refine Zm.l (fun _ _ k_ => z_iconst (v := 0) dX8_enterCode_214 rfl k_) ?_
        exact k
      · have k := zit h_ k
        refine Zm.l (fun _ _ k_ => z_iconst (v := 1) dX8_enterCode_210 rfl k_) ?_
        refine Zm.l (fun _ _ k_ => z_goto (tgt := 215) dX8_enterCode_211 rfl k_) ?_
        exact k
theorem sX8_enterCode_215 {E : zE} {d : Nat} {Q : zO → zM → Prop} (M : zM) (l1 : Int32) (l2 : Int32) (l3 : Int32) (l4 : Int32) (l5 : Int32) (l6 : Int32) (l7 : Int32) (l8 : Int32) (l9 : Int32) (l11 : Int32) (l12 : Int32) (s0 : Int32) (k : vp_in l1 12 ∧ (if (gi M 117 (l1).toNatClampNeg) ≤ l11 then (Zm E YX8_enterCode (d + 1) M [(0, vr (some (97, 1, 0))), (1, vi l1), (2, vi l2), (3, vi l3), (4, vi l4), (5, vi l5), (6, vi l6), (7, vi l7), (8, vi l8), (9, vi l9), (11, vi l11), (12, vi l12), (13, vi s0)] 256 [] Q) else (if l6 ≤ l11 then (Zm E YX8_enterCode (d + 1) M [(0, vr (some (97, 1, 0))), (1, vi l1), (2, vi l2), (3, vi l3), (4, vi l4), (5, vi l5), (6, vi l6), (7, vi l7), (8, vi l8), (9, vi l9), (11, vi l11), (12, vi l12), (13, vi s0)] 256 [] Q) else (Zm E YX8_onStack d M (zargs 0 [vr (some (97, 1, 0)), vi (639 : Int32), vi (l5 + l11)]) 0 [] (zma E YX8_enterCode (d + 1) [(0, vr (some (97, 1, 0))), (1, vi l1), (2, vi l2), (3, vi l3), (4, vi l4), (5, vi l5), (6, vi l6), (7, vi l7), (8, vi l8), (9, vi l9), (11, vi l11), (12, vi l12)] 245 3 [vr (some (97, 1, 0))] Q))))) : Zm E YX8_enterCode (d + 1) M [(0, vr (some (97, 1, 0))), (1, vi l1), (2, vi l2), (3, vi l3), (4, vi l4), (5, vi l5), (6, vi l6), (7, vi l7), (8, vi l8), (9, vi l9), (11, vi l11), (12, vi l12)] 215 [vi s0] Q := by
  refine Zm.l (fun _ _ k_ => z_ist dX8_enterCode_215 (by decide) (lv' := [(0, vr (some (97, 1, 0))), (1, vi l1), (2, vi l2), (3, vi l3), (4, vi l4), (5, vi l5), (6, vi l6), (7, vi l7), (8, vi l8), (9, vi l9), (11, vi l11), (12, vi l12), (13, vi s0)]) rfl k_) ?_
  refine Zm.l (fun _ _ k_ => z_iload dX8_enterCode_217 rfl k_) ?_
  refine Zm.l (fun _ _ k_ => z_aload_n dX8_enterCode_219 rfl rfl k_) ?_
  refine zm_getr 19 dX8_enterCode_220 fsX8_71_1 rfl ?_
  refine Zm.l (fun _ _ k_ => z_iload_n dX8_enterCode_223 rfl rfl k_) ?_
  obtain ⟨b_, k⟩ := k
  refine zm_iald dX8_enterCode_224 b_ (by decide) (by decide) ?_
  refine Zm.br (fun _ _ k1_ k2_ => z_icmp_ge (tgt := 256) dX8_enterCode_225 rfl k1_ k2_) (fun h_ => ?_) (fun h_ => ?_)
  · have k := zit h_ k
    exact k
  · have k := zif h_ k
    refine Zm.l (fun _ _ k_ => z_iload dX8_enterCode_228 rfl k_) ?_
    refine Zm.l (fun _ _ k_ => z_iload dX8_enterCode_230 rfl k_) ?_
    refine Zm.br (fun _ _ k1_ k2_ => z_icmp_ge (tgt := 256) dX8_enterCode_232 rfl k1_ k2_) (fun h_ => ?_) (fun h_ => ?_)
    · have k := zit h_ k
      exact k
    · have k := zif h_ k
      refine Zm.l (fun _ _ k_ => z_aload_n dX8_enterCode_235 rfl rfl k_) ?_
      refine Zm.l (fun _ _ k_ => z_aload_n dX8_enterCode_236 rfl rfl k_) ?_
      refine Zm.l (fun _ _ k_ => z_sipush (v := 639) dX8_enterCode_237 rfl k_) ?_
      refine Zm.l (fun _ _ k_ => z_iload dX8_enterCode_240 rfl k_) ?_
      refine Zm.l (fun _ _ k_ => z_iload dX8_enterCode_242 rfl k_) ?_
      refine Zm.l (fun _ _ k_ => z_iadd dX8_enterCode_244 k_) ?_
      refine Zm.pick [0, 1, 2, 3, 4, 5, 6, 7, 8, 9, 10, 11] rfl ?_
      exact zm_callV (as := [vi (639 : Int32), vi (l5 + l11)]) (st := [vr (some (97, 1, 0))]) dX8_enterCode_245 vsX8_1323_1 (Nat.le_refl _) (Nat.le_of_ble_eq_true rfl) (Nat.le_of_ble_eq_true rfl) rfl k
theorem sX8_enterCode_248 {E : zE} {d : Nat} {Q : zO → zM → Prop} (M : zM) (l1 : Int32) (l2 : Int32) (l3 : Int32) (l4 : Int32) (l5 : Int32) (l6 : Int32) (l7 : Int32) (l8 : Int32) (l9 : Int32) (l11 : Int32) (l12 : Int32) (s0 : Int32) (k : Zm E YX8_copySet d M (zargs 0 [vr (some (97, 1, 0)), vi s0, vi l12]) 0 [] (zma E YX8_enterCode (d + 1) [(0, vr (some (97, 1, 0))), (1, vi l1), (2, vi l2), (3, vi l3), (4, vi l4), (5, vi l5), (6, vi l6), (7, vi l7), (8, vi l8), (9, vi l9), (11, vi l11)] 250 3 [] Q)) : Zm E YX8_enterCode (d + 1) M [(0, vr (some (97, 1, 0))), (1, vi l1), (2, vi l2), (3, vi l3), (4, vi l4), (5, vi l5), (6, vi l6), (7, vi l7), (8, vi l8), (9, vi l9), (11, vi l11), (12, vi l12)] 248 [vi s0, vr (some (97, 1, 0))] Q := by
  refine Zm.l (fun _ _ k_ => z_iload dX8_enterCode_248 rfl k_) ?_
  refine Zm.pick [0, 1, 2, 3, 4, 5, 6, 7, 8, 9, 10] rfl ?_
  exact zm_callV (as := [vi s0, vi l12]) (st := []) dX8_enterCode_250 vsX8_1092_1 (Nat.le_refl _) (Nat.le_of_ble_eq_true rfl) (Nat.le_of_ble_eq_true rfl) rfl k
theorem sX8_enterCode_253 {E : zE} {d : Nat} {Q : zO → zM → Prop} (M : zM) (l1 : Int32) (l2 : Int32) (l3 : Int32) (l4 : Int32) (l5 : Int32) (l6 : Int32) (l7 : Int32) (l8 : Int32) (l9 : Int32) (l11 : Int32) (k : Zm E YX8_enterCode (d + 1) M [(0, vr (some (97, 1, 0))), (1, vi l1), (2, vi l2), (3, vi l3), (4, vi l4), (5, vi l5), (6, vi l6), (7, vi l7), (8, vi l8), (9, vi l9), (11, vi l11)] 297 [] Q) : Zm E YX8_enterCode (d + 1) M [(0, vr (some (97, 1, 0))), (1, vi l1), (2, vi l2), (3, vi l3), (4, vi l4), (5, vi l5), (6, vi l6), (7, vi l7), (8, vi l8), (9, vi l9), (11, vi l11)] 253 [] Q := by
  refine Zm.l (fun _ _ k_ => z_goto (tgt := 297) dX8_enterCode_253 rfl k_) ?_
  exact k
theorem sX8_enterCode_256 {E : zE} {d : Nat} {Q : zO → zM → Prop} (M : zM) (l1 : Int32) (l2 : Int32) (l3 : Int32) (l4 : Int32) (l5 : Int32) (l6 : Int32) (l7 : Int32) (l8 : Int32) (l9 : Int32) (l11 : Int32) (l12 : Int32) (l13 : Int32) (k : if l13 = 0 then (Zm E YX8_addSort d M (zargs 0 [vr (some (97, 1, 0)), vi l12, vi (1 : Int32)]) 0 [] (zma E YX8_enterCode (d + 1) [(0, vr (some (97, 1, 0))), (1, vi l1), (2, vi l2), (3, vi l3), (4, vi l4), (5, vi l5), (6, vi l6), (7, vi l7), (8, vi l8), (9, vi l9), (11, vi l11)] 294 3 [] Q)) else (if l2 = 0 then (Zm E YX8_enterCode (d + 1) M [(0, vr (some (97, 1, 0))), (1, vi l1), (2, vi l2), (3, vi l3), (4, vi l4), (5, vi l5), (6, vi l6), (7, vi l7), (8, vi l8), (9, vi l9), (11, vi l11), (12, vi l12)] 273 [] Q) else (Zm E YX8_addLabel d M (zargs 0 [vr (some (97, 1, 0)), vi l12, vi l8]) 0 [] (zma E YX8_enterCode (d + 1) [(0, vr (some (97, 1, 0))), (1, vi l1), (2, vi l2), (3, vi l3), (4, vi l4), (5, vi l5), (6, vi l6), (7, vi l7), (8, vi l8), (9, vi l9), (11, vi l11), (12, vi l12)] 270 3 [] Q)))) : Zm E YX8_enterCode (d + 1) M [(0, vr (some (97, 1, 0))), (1, vi l1), (2, vi l2), (3, vi l3), (4, vi l4), (5, vi l5), (6, vi l6), (7, vi l7), (8, vi l8), (9, vi l9), (11, vi l11), (12, vi l12), (13, vi l13)] 256 [] Q := by
  refine Zm.l (fun _ _ k_ => z_iload dX8_enterCode_256 rfl k_) ?_
  refine Zm.br (fun _ _ k1_ k2_ => z_if_eq (tgt := 290) dX8_enterCode_258 rfl k1_ k2_) (fun h_ => ?_) (fun h_ => ?_)
  · have k := zit h_ k
    refine Zm.l (fun _ _ k_ => z_aload_n dX8_enterCode_290 rfl rfl k_) ?_
    refine Zm.l (fun _ _ k_ => z_iload dX8_enterCode_291 rfl k_) ?_
    refine Zm.l (fun _ _ k_ => z_iconst (v := 1) dX8_enterCode_293 rfl k_) ?_
    refine Zm.pick [0, 1, 2, 3, 4, 5, 6, 7, 8, 9, 10] rfl ?_
    exact zm_callV (as := [vi l12, vi (1 : Int32)]) (st := []) dX8_enterCode_294 vsX8_1072_1 (Nat.le_refl _) (Nat.le_of_ble_eq_true rfl) (Nat.le_of_ble_eq_true rfl) rfl k
  · have k := zif h_ k
    refine Zm.l (fun _ _ k_ => z_iload_n dX8_enterCode_261 rfl rfl k_) ?_
    refine Zm.br (fun _ _ k1_ k2_ => z_if_eq (tgt := 273) dX8_enterCode_262 rfl k1_ k2_) (fun h_ => ?_) (fun h_ => ?_)
    · have k := zit h_ k
      refine Zm.pick [0, 1, 2, 3, 4, 5, 6, 7, 8, 9, 10, 11] rfl ?_
      exact k
    · have k := zif h_ k
      refine Zm.l (fun _ _ k_ => z_aload_n dX8_enterCode_265 rfl rfl k_) ?_
      refine Zm.l (fun _ _ k_ => z_iload dX8_enterCode_266 rfl k_) ?_
      refine Zm.l (fun _ _ k_ => z_iload dX8_enterCode_268 rfl k_) ?_
      refine Zm.pick [0, 1, 2, 3, 4, 5, 6, 7, 8, 9, 10, 11] rfl ?_
      exact zm_callV (as := [vi l12, vi l8]) (st := []) dX8_enterCode_270 vsX8_1081_1 (Nat.le_refl _) (Nat.le_of_ble_eq_true rfl) (Nat.le_of_ble_eq_true rfl) rfl k
theorem sX8_enterCode_273 {E : zE} {d : Nat} {Q : zO → zM → Prop} (M : zM) (l1 : Int32) (l2 : Int32) (l3 : Int32) (l4 : Int32) (l5 : Int32) (l6 : Int32) (l7 : Int32) (l8 : Int32) (l9 : Int32) (l11 : Int32) (l12 : Int32) (k : if l3 = 0 then (Zm E YX8_enterCode (d + 1) M [(0, vr (some (97, 1, 0))), (1, vi l1), (2, vi l2), (3, vi l3), (4, vi l4), (5, vi l5), (6, vi l6), (7, vi l7), (8, vi l8), (9, vi l9), (11, vi l11)] 297 [] Q) else (Zm E YX8_addLabel d M (zargs 0 [vr (some (97, 1, 0)), vi l12, vi (l8 + (1 : Int32))]) 0 [] (zma E YX8_enterCode (d + 1) [(0, vr (some (97, 1, 0))), (1, vi l1), (2, vi l2), (3, vi l3), (4, vi l4), (5, vi l5), (6, vi l6), (7, vi l7), (8, vi l8), (9, vi l9), (11, vi l11)] 284 3 [] Q))) : Zm E YX8_enterCode (d + 1) M [(0, vr (some (97, 1, 0))), (1, vi l1), (2, vi l2), (3, vi l3), (4, vi l4), (5, vi l5), (6, vi l6), (7, vi l7), (8, vi l8), (9, vi l9), (11, vi l11), (12, vi l12)] 273 [] Q := by
  refine Zm.l (fun _ _ k_ => z_iload_n dX8_enterCode_273 rfl rfl k_) ?_
  refine Zm.br (fun _ _ k1_ k2_ => z_if_eq (tgt := 297) dX8_enterCode_274 rfl k1_ k2_) (fun h_ => ?_) (fun h_ => ?_)
  · have k := zit h_ k
    refine Zm.pick [0, 1, 2, 3, 4, 5, 6, 7, 8, 9, 10] rfl ?_
    exact k
  · have k := zif h_ k
    refine Zm.l (fun _ _ k_ => z_aload_n dX8_enterCode_277 rfl rfl k_) ?_
    refine Zm.l (fun _ _ k_ => z_iload dX8_enterCode_278 rfl k_) ?_
    refine Zm.l (fun _ _ k_ => z_iload dX8_enterCode_280 rfl k_) ?_
    refine Zm.l (fun _ _ k_ => z_iconst (v := 1) dX8_enterCode_282 rfl k_) ?_
    refine Zm.l (fun _ _ k_ => z_iadd dX8_enterCode_283 k_) ?_
    refine Zm.pick [0, 1, 2, 3, 4, 5, 6, 7, 8, 9, 10] rfl ?_
    exact zm_callV (as := [vi l12, vi (l8 + (1 : Int32))]) (st := []) dX8_enterCode_284 vsX8_1081_1 (Nat.le_refl _) (Nat.le_of_ble_eq_true rfl) (Nat.le_of_ble_eq_true rfl) rfl k
theorem sX8_enterCode_287 {E : zE} {d : Nat} {Q : zO → zM → Prop} (M : zM) (l1 : Int32) (l2 : Int32) (l3 : Int32) (l4 : Int32) (l5 : Int32) (l6 : Int32) (l7 : Int32) (l8 : Int32) (l9 : Int32) (l11 : Int32) (k : Zm E YX8_enterCode (d + 1) M [(0, vr (some (97, 1, 0))), (1, vi l1), (2, vi l2), (3, vi l3), (4, vi l4), (5, vi l5), (6, vi l6), (7, vi l7), (8, vi l8), (9, vi l9), (11, vi l11)] 297 [] Q) : Zm E YX8_enterCode (d + 1) M [(0, vr (some (97, 1, 0))), (1, vi l1), (2, vi l2), (3, vi l3), (4, vi l4), (5, vi l5), (6, vi l6), (7, vi l7), (8, vi l8), (9, vi l9), (11, vi l11)] 287 [] Q := by
  refine Zm.l (fun _ _ k_ => z_goto (tgt := 297) dX8_enterCode_287 rfl k_) ?_
  exact k
theorem sX8_enterCode_297 {E : zE} {d : Nat} {Q : zO → zM → Prop} (M : zM) (l1 : Int32) (l2 : Int32) (l3 : Int32) (l4 : Int32) (l5 : Int32) (l6 : Int32) (l7 : Int32) (l8 : Int32) (l9 : Int32) (l11 : Int32) (k : Zm E YX8_enterCode (d + 1) M [(0, vr (some (97, 1, 0))), (1, vi l1), (2, vi l2), (3, vi l3), (4, vi l4), (5, vi l5), (6, vi l6), (7, vi l7), (8, vi l8), (9, vi l9), (11, vi (l11 + (1 : Int32)))] 138 [] Q) : Zm E YX8_enterCode (d + 1) M [(0, vr (some (97, 1, 0))), (1, vi l1), (2, vi l2), (3, vi l3), (4, vi l4), (5, vi l5), (6, vi l6), (7, vi l7), (8, vi l8), (9, vi l9), (11, vi l11)] 297 [] Q := by
  refine Zm.l (fun _ _ k_ => z_inc (v := (l11 + (1 : Int32))) dX8_enterCode_297 rfl rfl (by decide) (lv' := [(0, vr (some (97, 1, 0))), (1, vi l1), (2, vi l2), (3, vi l3), (4, vi l4), (5, vi l5), (6, vi l6), (7, vi l7), (8, vi l8), (9, vi l9), (11, vi (l11 + (1 : Int32)))]) rfl k_) ?_
  refine Zm.l (fun _ _ k_ => z_goto (tgt := 138) dX8_enterCode_300 rfl k_) ?_
  exact k
theorem sX8_enterCode_314 {E : zE} {d : Nat} {Q : zO → zM → Prop} (M : zM) (l1 : Int32) (l4 : Int32) (l7 : Int32) (l9 : Int32) (l11 : Int32) (k : if l7 = (-1 : Int32) then (if l4 = (-1 : Int32) then (Zm E YX8_addSort d M (zargs 0 [vr (some (97, 1, 0)), vi l11, vi (1 : Int32)]) 0 [] (zma E YX8_enterCode (d + 1) [(0, vr (some (97, 1, 0))), (1, vi l1), (9, vi l9), (11, vi l11)] 345 3 [] Q)) else (Zm E YX8_onStack d M (zargs 0 [vr (some (97, 1, 0)), vi (639 : Int32), vi l4]) 0 [] (zma E YX8_enterCode (d + 1) [(0, vr (some (97, 1, 0))), (1, vi l1), (9, vi l9), (11, vi l11)] 358 3 [vr (some (97, 1, 0))] Q))) else (Zm E YX8_siteLabel d M (zargs 0 [vr (some (97, 1, 0)), vi l7]) 0 [] (zma E YX8_enterCode (d + 1) [(0, vr (some (97, 1, 0))), (1, vi l1), (9, vi l9), (11, vi l11)] 326 3 [vi l11, vr (some (97, 1, 0))] Q))) : Zm E YX8_enterCode (d + 1) M [(0, vr (some (97, 1, 0))), (1, vi l1), (4, vi l4), (7, vi l7), (9, vi l9), (11, vi l11)] 314 [] Q := by
  refine Zm.l (fun _ _ k_ => z_iload dX8_enterCode_314 rfl k_) ?_
  refine Zm.l (fun _ _ k_ => z_iconst (v := -1) dX8_enterCode_316 rfl k_) ?_
  refine Zm.br (fun _ _ k1_ k2_ => z_icmp_eq (tgt := 335) dX8_enterCode_317 rfl k1_ k2_) (fun h_ => ?_) (fun h_ => ?_)
  · have k := zit h_ k
    refine Zm.l (fun _ _ k_ => z_iload dX8_enterCode_335 rfl k_) ?_
    refine Zm.l (fun _ _ k_ => z_iconst (v := -1) dX8_enterCode_337 rfl k_) ?_
    refine Zm.brn (fun _ _ k1_ k2_ => z_icmp_ne (tgt := 351) dX8_enterCode_338 rfl k1_ k2_) (fun h_ => ?_) (fun h_ => ?_)
    · have k := zif h_ k
      refine Zm.l (fun _ _ k_ => z_aload_n dX8_enterCode_351 rfl rfl k_) ?_
      refine Zm.l (fun _ _ k_ => z_aload_n dX8_enterCode_352 rfl rfl k_) ?_
      refine Zm.l (fun _ _ k_ => z_sipush (v := 639) dX8_enterCode_353 rfl k_) ?_
      refine Zm.l (fun _ _ k_ => z_iload dX8_enterCode_356 rfl k_) ?_
      refine Zm.pick [0, 1, 4, 5] rfl ?_
      exact zm_callV (as := [vi (639 : Int32), vi l4]) (st := [vr (some (97, 1, 0))]) dX8_enterCode_358 vsX8_1323_1 (Nat.le_refl _) (Nat.le_of_ble_eq_true rfl) (Nat.le_of_ble_eq_true rfl) rfl k
    · have k := zit h_ k
      refine Zm.l (fun _ _ k_ => z_aload_n dX8_enterCode_341 rfl rfl k_) ?_
      refine Zm.l (fun _ _ k_ => z_iload dX8_enterCode_342 rfl k_) ?_
      refine Zm.l (fun _ _ k_ => z_iconst (v := 1) dX8_enterCode_344 rfl k_) ?_
      refine Zm.pick [0, 1, 4, 5] rfl ?_
      exact zm_callV (as := [vi l11, vi (1 : Int32)]) (st := []) dX8_enterCode_345 vsX8_1072_1 (Nat.le_refl _) (Nat.le_of_ble_eq_true rfl) (Nat.le_of_ble_eq_true rfl) rfl k
  · have k := zif h_ k
    refine Zm.l (fun _ _ k_ => z_aload_n dX8_enterCode_320 rfl rfl k_) ?_
    refine Zm.l (fun _ _ k_ => z_iload dX8_enterCode_321 rfl k_) ?_
    refine Zm.l (fun _ _ k_ => z_aload_n dX8_enterCode_323 rfl rfl k_) ?_
    refine Zm.l (fun _ _ k_ => z_iload dX8_enterCode_324 rfl k_) ?_
    refine Zm.pick [0, 1, 4, 5] rfl ?_
    exact zm_callV (as := [vi l7]) (st := [vi l11, vr (some (97, 1, 0))]) dX8_enterCode_326 vsX8_920_1 (Nat.le_refl _) (Nat.le_of_ble_eq_true rfl) (Nat.le_of_ble_eq_true rfl) rfl k
theorem sX8_enterCode_329 {E : zE} {d : Nat} {Q : zO → zM → Prop} (M : zM) (l1 : Int32) (l9 : Int32) (l11 : Int32) (s0 : Int32) (s1 : Int32) (k : Zm E YX8_addLabel d M (zargs 0 [vr (some (97, 1, 0)), vi s1, vi s0]) 0 [] (zma E YX8_enterCode (d + 1) [(0, vr (some (97, 1, 0))), (1, vi l1), (9, vi l9), (11, vi l11)] 329 3 [] Q)) : Zm E YX8_enterCode (d + 1) M [(0, vr (some (97, 1, 0))), (1, vi l1), (9, vi l9), (11, vi l11)] 329 [vi s0, vi s1, vr (some (97, 1, 0))] Q := by
  exact zm_callV (as := [vi s1, vi s0]) (st := []) dX8_enterCode_329 vsX8_1081_1 (Nat.le_refl _) (Nat.le_of_ble_eq_true rfl) (Nat.le_of_ble_eq_true rfl) rfl k
theorem sX8_enterCode_332 {E : zE} {d : Nat} {Q : zO → zM → Prop} (M : zM) (l1 : Int32) (l9 : Int32) (l11 : Int32) (k : Zm E YX8_enterCode (d + 1) M [(0, vr (some (97, 1, 0))), (1, vi l1), (9, vi l9), (11, vi l11)] 366 [] Q) : Zm E YX8_enterCode (d + 1) M [(0, vr (some (97, 1, 0))), (1, vi l1), (9, vi l9), (11, vi l11)] 332 [] Q := by
  refine Zm.l (fun _ _ k_ => z_goto (tgt := 366) dX8_enterCode_332 rfl k_) ?_
  exact k
theorem sX8_enterCode_348 {E : zE} {d : Nat} {Q : zO → zM → Prop} (M : zM) (l1 : Int32) (l9 : Int32) (l11 : Int32) (k : Zm E YX8_enterCode (d + 1) M [(0, vr (some (97, 1, 0))), (1, vi l1), (9, vi l9), (11, vi l11)] 366 [] Q) : Zm E YX8_enterCode (d + 1) M [(0, vr (some (97, 1, 0))), (1, vi l1), (9, vi l9), (11, vi l11)] 348 [] Q := by
  refine Zm.l (fun _ _ k_ => z_goto (tgt := 366) dX8_enterCode_348 rfl k_) ?_
  exact k
theorem sX8_enterCode_361 {E : zE} {d : Nat} {Q : zO → zM → Prop} (M : zM) (l1 : Int32) (l9 : Int32) (l11 : Int32) (s0 : Int32) (k : Zm E YX8_copySet d M (zargs 0 [vr (some (97, 1, 0)), vi s0, vi l11]) 0 [] (zma E YX8_enterCode (d + 1) [(0, vr (some (97, 1, 0))), (1, vi l1), (9, vi l9), (11, vi l11)] 363 3 [] Q)) : Zm E YX8_enterCode (d + 1) M [(0, vr (some (97, 1, 0))), (1, vi l1), (9, vi l9), (11, vi l11)] 361 [vi s0, vr (some (97, 1, 0))] Q := by
  refine Zm.l (fun _ _ k_ => z_iload dX8_enterCode_361 rfl k_) ?_
  exact zm_callV (as := [vi s0, vi l11]) (st := []) dX8_enterCode_363 vsX8_1092_1 (Nat.le_refl _) (Nat.le_of_ble_eq_true rfl) (Nat.le_of_ble_eq_true rfl) rfl k
theorem sX8_enterCode_366 {E : zE} {d : Nat} {Q : zO → zM → Prop} (M : zM) (l1 : Int32) (l9 : Int32) (l11 : Int32) (k : Zm E YX8_thisAt d M (zargs 0 [vr (some (97, 1, 0)), vi (639 : Int32)]) 0 [] (zma E YX8_enterCode (d + 1) [(0, vr (some (97, 1, 0))), (1, vi l1), (9, vi l9)] 373 3 [vi l11, vr (some (97, 1, 0))] Q)) : Zm E YX8_enterCode (d + 1) M [(0, vr (some (97, 1, 0))), (1, vi l1), (9, vi l9), (11, vi l11)] 366 [] Q := by
  refine Zm.l (fun _ _ k_ => z_aload_n dX8_enterCode_366 rfl rfl k_) ?_
  refine Zm.l (fun _ _ k_ => z_iload dX8_enterCode_367 rfl k_) ?_
  refine Zm.l (fun _ _ k_ => z_aload_n dX8_enterCode_369 rfl rfl k_) ?_
  refine Zm.l (fun _ _ k_ => z_sipush (v := 639) dX8_enterCode_370 rfl k_) ?_
  refine Zm.pick [0, 1, 2] rfl ?_
  exact zm_callV (as := [vi (639 : Int32)]) (st := [vi l11, vr (some (97, 1, 0))]) dX8_enterCode_373 vsX8_1098_1 (Nat.le_refl _) (Nat.le_of_ble_eq_true rfl) (Nat.le_of_ble_eq_true rfl) rfl k
theorem sX8_enterCode_376 {E : zE} {d : Nat} {Q : zO → zM → Prop} (M : zM) (l1 : Int32) (l9 : Int32) (s0 : Int32) (s1 : Int32) (k : Zm E YX8_copySet d M (zargs 0 [vr (some (97, 1, 0)), vi s1, vi s0]) 0 [] (zma E YX8_enterCode (d + 1) [(0, vr (some (97, 1, 0))), (1, vi l1), (9, vi l9)] 376 3 [] Q)) : Zm E YX8_enterCode (d + 1) M [(0, vr (some (97, 1, 0))), (1, vi l1), (9, vi l9)] 376 [vi s0, vi s1, vr (some (97, 1, 0))] Q := by
  exact zm_callV (as := [vi s1, vi s0]) (st := []) dX8_enterCode_376 vsX8_1092_1 (Nat.le_refl _) (Nat.le_of_ble_eq_true rfl) (Nat.le_of_ble_eq_true rfl) rfl k
theorem sX8_enterCode_379 {E : zE} {d : Nat} {Q : zO → zM → Prop} (M : zM) (l1 : Int32) (l9 : Int32) (k : vp_in (639 : Int32) 640 ∧ (vp_in (639 : Int32) 640 ∧ (vp_in (639 : Int32) 640 ∧ (vp_in (639 : Int32) 640 ∧ (if (64 : Int32) ≤ l9 then (vp_in (639 : Int32) 640 ∧ (vp_in l1 12 ∧ (Zm E YX8_flow d (sl (sl (sl (si (si M 171 ((639 : Int32)).toNatClampNeg (0 : Int32)) 175 ((639 : Int32)).toNatClampNeg (0 : Int32)) 173 ((639 : Int32)).toNatClampNeg (0 : Int64)) 174 ((639 : Int32)).toNatClampNeg (0 : Int64)) 174 ((639 : Int32)).toNatClampNeg (zls (1 : Int64) (l9 - (64 : Int32)))) (zargs 0 [vr (some (97, 1, 0)), vi (gi M 127 (l1).toNatClampNeg)]) 0 [] (zma E YX8_enterCode (d + 1) [] 459 3 [] Q)))) else (vp_in (639 : Int32) 640 ∧ (vp_in l1 12 ∧ (Zm E YX8_flow d (sl (sl (sl (si (si M 171 ((639 : Int32)).toNatClampNeg (0 : Int32)) 175 ((639 : Int32)).toNatClampNeg (0 : Int32)) 173 ((639 : Int32)).toNatClampNeg (0 : Int64)) 174 ((639 : Int32)).toNatClampNeg (0 : Int64)) 173 ((639 : Int32)).toNatClampNeg (zls (1 : Int64) l9)) (zargs 0 [vr (some (97, 1, 0)), vi (gi M 127 (l1).toNatClampNeg)]) 0 [] (zma E YX8_enterCode (d + 1) [] 459 3 [] Q))))))))) : Zm E YX8_enterCode (d + 1) M [(0, vr (some (97, 1, 0))), (1, vi l1), (9, vi l9)] 379 [] Q := by
  refine Zm.l (fun _ _ k_ => z_aload_n dX8_enterCode_379 rfl rfl k_) ?_
  refine zm_getr 68 dX8_enterCode_380 fsX8_235_1 rfl ?_
  refine Zm.l (fun _ _ k_ => z_sipush (v := 639) dX8_enterCode_383 rfl k_) ?_
  refine Zm.l (fun _ _ k_ => z_iconst (v := 0) dX8_enterCode_386 rfl k_) ?_
  obtain ⟨b_, k⟩ := k
  refine zm_iast dX8_enterCode_387 b_ (by decide) (by decide) ?_
  refine Zm.l (fun _ _ k_ => z_aload_n dX8_enterCode_388 rfl rfl k_) ?_
  refine zm_getr 72 dX8_enterCode_389 fsX8_247_1 rfl ?_
  refine Zm.l (fun _ _ k_ => z_sipush (v := 639) dX8_enterCode_392 rfl k_) ?_
  refine Zm.l (fun _ _ k_ => z_iconst (v := 0) dX8_enterCode_395 rfl k_) ?_
  obtain ⟨b_, k⟩ := k
  refine zm_iast dX8_enterCode_396 b_ (by decide) (by decide) ?_
  refine Zm.l (fun _ _ k_ => z_aload_n dX8_enterCode_397 rfl rfl k_) ?_
  refine zm_getr 70 dX8_enterCode_398 fsX8_241_1 rfl ?_
  refine Zm.l (fun _ _ k_ => z_sipush (v := 639) dX8_enterCode_401 rfl k_) ?_
  refine Zm.l (fun _ _ k_ => z_lconst (v := 0) dX8_enterCode_404 rfl k_) ?_
  obtain ⟨b_, k⟩ := k
  refine zm_last dX8_enterCode_405 b_ (by decide) (by decide) ?_
  refine Zm.l (fun _ _ k_ => z_aload_n dX8_enterCode_406 rfl rfl k_) ?_
  refine zm_getr 71 dX8_enterCode_407 fsX8_244_1 rfl ?_
  refine Zm.l (fun _ _ k_ => z_sipush (v := 639) dX8_enterCode_410 rfl k_) ?_
  refine Zm.l (fun _ _ k_ => z_lconst (v := 0) dX8_enterCode_413 rfl k_) ?_
  obtain ⟨b_, k⟩ := k
  refine zm_last dX8_enterCode_414 b_ (by decide) (by decide) ?_
  refine Zm.l (fun _ _ k_ => z_iload dX8_enterCode_415 rfl k_) ?_
  refine Zm.l (fun _ _ k_ => z_bipush (v := 64) dX8_enterCode_417 rfl k_) ?_
  refine Zm.br (fun _ _ k1_ k2_ => z_icmp_ge (tgt := 437) dX8_enterCode_419 rfl k1_ k2_) (fun h_ => ?_) (fun h_ => ?_)
  · have k := zit h_ k
    refine Zm.l (fun _ _ k_ => z_aload_n dX8_enterCode_437 rfl rfl k_) ?_
    refine zm_getr 71 dX8_enterCode_438 fsX8_244_1 rfl ?_
    refine Zm.l (fun _ _ k_ => z_sipush (v := 639) dX8_enterCode_441 rfl k_) ?_
    refine Zm.l (fun _ _ k_ => z_lconst (v := 1) dX8_enterCode_444 rfl k_) ?_
    refine Zm.l (fun _ _ k_ => z_iload dX8_enterCode_445 rfl k_) ?_
    refine Zm.l (fun _ _ k_ => z_bipush (v := 64) dX8_enterCode_447 rfl k_) ?_
    refine Zm.l (fun _ _ k_ => z_isub dX8_enterCode_449 k_) ?_
    refine Zm.l (fun _ _ k_ => z_lshl dX8_enterCode_450 k_) ?_
    obtain ⟨b_, k⟩ := k
    refine zm_last dX8_enterCode_451 b_ (by decide) (by decide) ?_
    refine Zm.l (fun _ _ k_ => z_aload_n dX8_enterCode_452 rfl rfl k_) ?_
    refine Zm.l (fun _ _ k_ => z_aload_n dX8_enterCode_453 rfl rfl k_) ?_
    refine zm_getr 29 dX8_enterCode_454 fsX8_101_1 rfl ?_
    refine Zm.l (fun _ _ k_ => z_iload_n dX8_enterCode_457 rfl rfl k_) ?_
    obtain ⟨b_, k⟩ := k
    refine zm_iald dX8_enterCode_458 b_ (by decide) (by decide) ?_
    refine Zm.pick [] rfl ?_
    exact zm_callV (as := [vi (gi M 127 (l1).toNatClampNeg)]) (st := []) dX8_enterCode_459 vsX8_1191_1 (Nat.le_refl _) (Nat.le_of_ble_eq_true rfl) (Nat.le_of_ble_eq_true rfl) rfl k
  · have k := zif h_ k
    refine Zm.l (fun _ _ k_ => z_aload_n dX8_enterCode_422 rfl rfl k_) ?_
    refine zm_getr 70 dX8_enterCode_423 fsX8_241_1 rfl ?_
    refine Zm.l (fun _ _ k_ => z_sipush (v := 639) dX8_enterCode_426 rfl k_) ?_
    refine Zm.l (fun _ _ k_ => z_lconst (v := 1) dX8_enterCode_429 rfl k_) ?_
    refine Zm.l (fun _ _ k_ => z_iload dX8_enterCode_430 rfl k_) ?_
    refine Zm.l (fun _ _ k_ => z_lshl dX8_enterCode_432 k_) ?_
    obtain ⟨b_, k⟩ := k
    refine zm_last dX8_enterCode_433 b_ (by decide) (by decide) ?_
    refine Zm.l (fun _ _ k_ => z_goto (tgt := 452) dX8_enterCode_434 rfl k_) ?_
    refine Zm.l (fun _ _ k_ => z_aload_n dX8_enterCode_452 rfl rfl k_) ?_
    refine Zm.l (fun _ _ k_ => z_aload_n dX8_enterCode_453 rfl rfl k_) ?_
    refine zm_getr 29 dX8_enterCode_454 fsX8_101_1 rfl ?_
    refine Zm.l (fun _ _ k_ => z_iload_n dX8_enterCode_457 rfl rfl k_) ?_
    obtain ⟨b_, k⟩ := k
    refine zm_iald dX8_enterCode_458 b_ (by decide) (by decide) ?_
    refine Zm.pick [] rfl ?_
    exact zm_callV (as := [vi (gi M 127 (l1).toNatClampNeg)]) (st := []) dX8_enterCode_459 vsX8_1191_1 (Nat.le_refl _) (Nat.le_of_ble_eq_true rfl) (Nat.le_of_ble_eq_true rfl) rfl k
theorem sX8_enterCode_462 {E : zE} {d : Nat} {Q : zO → zM → Prop} (M : zM)  (k : Q (.inl none) M) : Zm E YX8_enterCode (d + 1) M [] 462 [] Q := by
  exact zm_vret dX8_enterCode_462 rfl k
/-! ScriptTypesModel.comeBack(I)V -/
theorem bX8_comeBack_0 : zdec cX8_comeBack 0 [(0, .iconst 0, 1), (1, .istore_n 2, 1), (2, .iload_n 2, 1), (3, .aload_n 0, 1), (4, .getfield 235, 3), (7, .sipush 639, 3), (10, .iaload, 1), (11, .if_icmp .ge 23, 3), (14, .aload_n 0, 1), (15, .aload_n 0, 1), (16, .getfield 238, 3), (19, .sipush 639, 3), (22, .iaload, 1), (23, .iload_n 2, 1), (24, .iadd, 1), (25, .invokevirtual 1350, 3)] = true := by decide +kernel
theorem dX8_comeBack_0 : decode cX8_comeBack 0 = .ok (.iconst 0, 1) := zdec_at bX8_comeBack_0 0 rfl
theorem dX8_comeBack_1 : decode cX8_comeBack 1 = .ok (.istore_n 2, 1) := zdec_at bX8_comeBack_0 1 rfl
theorem dX8_comeBack_2 : decode cX8_comeBack 2 = .ok (.iload_n 2, 1) := zdec_at bX8_comeBack_0 2 rfl
theorem dX8_comeBack_3 : decode cX8_comeBack 3 = .ok (.aload_n 0, 1) := zdec_at bX8_comeBack_0 3 rfl
theorem dX8_comeBack_4 : decode cX8_comeBack 4 = .ok (.getfield 235, 3) := zdec_at bX8_comeBack_0 4 rfl
theorem dX8_comeBack_7 : decode cX8_comeBack 7 = .ok (.sipush 639, 3) := zdec_at bX8_comeBack_0 5 rfl
theorem dX8_comeBack_10 : decode cX8_comeBack 10 = .ok (.iaload, 1) := zdec_at bX8_comeBack_0 6 rfl
theorem dX8_comeBack_11 : decode cX8_comeBack 11 = .ok (.if_icmp .ge 23, 3) := zdec_at bX8_comeBack_0 7 rfl
theorem dX8_comeBack_14 : decode cX8_comeBack 14 = .ok (.aload_n 0, 1) := zdec_at bX8_comeBack_0 8 rfl
theorem dX8_comeBack_15 : decode cX8_comeBack 15 = .ok (.aload_n 0, 1) := zdec_at bX8_comeBack_0 9 rfl
theorem dX8_comeBack_16 : decode cX8_comeBack 16 = .ok (.getfield 238, 3) := zdec_at bX8_comeBack_0 10 rfl
theorem dX8_comeBack_19 : decode cX8_comeBack 19 = .ok (.sipush 639, 3) := zdec_at bX8_comeBack_0 11 rfl
theorem dX8_comeBack_22 : decode cX8_comeBack 22 = .ok (.iaload, 1) := zdec_at bX8_comeBack_0 12 rfl
theorem dX8_comeBack_23 : decode cX8_comeBack 23 = .ok (.iload_n 2, 1) := zdec_at bX8_comeBack_0 13 rfl
theorem dX8_comeBack_24 : decode cX8_comeBack 24 = .ok (.iadd, 1) := zdec_at bX8_comeBack_0 14 rfl
theorem dX8_comeBack_25 : decode cX8_comeBack 25 = .ok (.invokevirtual 1350, 3) := zdec_at bX8_comeBack_0 15 rfl
theorem bX8_comeBack_28 : zdec cX8_comeBack 28 [(28, .iinc 2 1, 3), (31, .goto (-29), 3), (34, .aload_n 0, 1), (35, .aload_n 0, 1), (36, .sipush 639, 3), (39, .invokevirtual 1098, 3), (42, .invokevirtual 1350, 3), (45, .ldc_w 1353, 3), (48, .istore_n 2, 1), (49, .aload_n 0, 1), (50, .iload_n 2, 1), (51, .invokevirtual 1066, 3), (54, .aload_n 0, 1), (55, .getfield 220, 3), (58, .iload_n 2, 1), (59, .aload_n 0, 1)] = true := by decide +kernel
theorem dX8_comeBack_28 : decode cX8_comeBack 28 = .ok (.iinc 2 1, 3) := zdec_at bX8_comeBack_28 0 rfl
theorem dX8_comeBack_31 : decode cX8_comeBack 31 = .ok (.goto (-29), 3) := zdec_at bX8_comeBack_28 1 rfl
theorem dX8_comeBack_34 : decode cX8_comeBack 34 = .ok (.aload_n 0, 1) := zdec_at bX8_comeBack_28 2 rfl
theorem dX8_comeBack_35 : decode cX8_comeBack 35 = .ok (.aload_n 0, 1) := zdec_at bX8_comeBack_28 3 rfl
theorem dX8_comeBack_36 : decode cX8_comeBack 36 = .ok (.sipush 639, 3) := zdec_at bX8_comeBack_28 4 rfl
theorem dX8_comeBack_39 : decode cX8_comeBack 39 = .ok (.invokevirtual 1098, 3) := zdec_at bX8_comeBack_28 5 rfl
theorem dX8_comeBack_42 : decode cX8_comeBack 42 = .ok (.invokevirtual 1350, 3) := zdec_at bX8_comeBack_28 6 rfl
theorem dX8_comeBack_45 : decode cX8_comeBack 45 = .ok (.ldc_w 1353, 3) := zdec_at bX8_comeBack_28 7 rfl
theorem dX8_comeBack_48 : decode cX8_comeBack 48 = .ok (.istore_n 2, 1) := zdec_at bX8_comeBack_28 8 rfl
theorem dX8_comeBack_49 : decode cX8_comeBack 49 = .ok (.aload_n 0, 1) := zdec_at bX8_comeBack_28 9 rfl
theorem dX8_comeBack_50 : decode cX8_comeBack 50 = .ok (.iload_n 2, 1) := zdec_at bX8_comeBack_28 10 rfl
theorem dX8_comeBack_51 : decode cX8_comeBack 51 = .ok (.invokevirtual 1066, 3) := zdec_at bX8_comeBack_28 11 rfl
theorem dX8_comeBack_54 : decode cX8_comeBack 54 = .ok (.aload_n 0, 1) := zdec_at bX8_comeBack_28 12 rfl
theorem dX8_comeBack_55 : decode cX8_comeBack 55 = .ok (.getfield 220, 3) := zdec_at bX8_comeBack_28 13 rfl
theorem dX8_comeBack_58 : decode cX8_comeBack 58 = .ok (.iload_n 2, 1) := zdec_at bX8_comeBack_28 14 rfl
theorem dX8_comeBack_59 : decode cX8_comeBack 59 = .ok (.aload_n 0, 1) := zdec_at bX8_comeBack_28 15 rfl
theorem bX8_comeBack_60 : zdec cX8_comeBack 60 [(60, .getfield 241, 3), (63, .sipush 639, 3), (66, .laload, 1), (67, .lastore, 1), (68, .aload_n 0, 1), (69, .getfield 223, 3), (72, .iload_n 2, 1), (73, .aload_n 0, 1), (74, .getfield 244, 3), (77, .sipush 639, 3), (80, .laload, 1), (81, .lastore, 1), (82, .aload_n 0, 1), (83, .iload_n 2, 1), (84, .invokevirtual 1350, 3), (87, .aload_n 0, 1)] = true := by decide +kernel
theorem dX8_comeBack_60 : decode cX8_comeBack 60 = .ok (.getfield 241, 3) := zdec_at bX8_comeBack_60 0 rfl
theorem dX8_comeBack_63 : decode cX8_comeBack 63 = .ok (.sipush 639, 3) := zdec_at bX8_comeBack_60 1 rfl
theorem dX8_comeBack_66 : decode cX8_comeBack 66 = .ok (.laload, 1) := zdec_at bX8_comeBack_60 2 rfl
theorem dX8_comeBack_67 : decode cX8_comeBack 67 = .ok (.lastore, 1) := zdec_at bX8_comeBack_60 3 rfl
theorem dX8_comeBack_68 : decode cX8_comeBack 68 = .ok (.aload_n 0, 1) := zdec_at bX8_comeBack_60 4 rfl
theorem dX8_comeBack_69 : decode cX8_comeBack 69 = .ok (.getfield 223, 3) := zdec_at bX8_comeBack_60 5 rfl
theorem dX8_comeBack_72 : decode cX8_comeBack 72 = .ok (.iload_n 2, 1) := zdec_at bX8_comeBack_60 6 rfl
theorem dX8_comeBack_73 : decode cX8_comeBack 73 = .ok (.aload_n 0, 1) := zdec_at bX8_comeBack_60 7 rfl
theorem dX8_comeBack_74 : decode cX8_comeBack 74 = .ok (.getfield 244, 3) := zdec_at bX8_comeBack_60 8 rfl
theorem dX8_comeBack_77 : decode cX8_comeBack 77 = .ok (.sipush 639, 3) := zdec_at bX8_comeBack_60 9 rfl
theorem dX8_comeBack_80 : decode cX8_comeBack 80 = .ok (.laload, 1) := zdec_at bX8_comeBack_60 10 rfl
theorem dX8_comeBack_81 : decode cX8_comeBack 81 = .ok (.lastore, 1) := zdec_at bX8_comeBack_60 11 rfl
theorem dX8_comeBack_82 : decode cX8_comeBack 82 = .ok (.aload_n 0, 1) := zdec_at bX8_comeBack_60 12 rfl
theorem dX8_comeBack_83 : decode cX8_comeBack 83 = .ok (.iload_n 2, 1) := zdec_at bX8_comeBack_60 13 rfl
theorem dX8_comeBack_84 : decode cX8_comeBack 84 = .ok (.invokevirtual 1350, 3) := zdec_at bX8_comeBack_60 14 rfl
theorem dX8_comeBack_87 : decode cX8_comeBack 87 = .ok (.aload_n 0, 1) := zdec_at bX8_comeBack_60 15 rfl
theorem bX8_comeBack_88 : zdec cX8_comeBack 88 [(88, .getfield 241, 3), (91, .sipush 639, 3), (94, .aload_n 0, 1), (95, .getfield 220, 3), (98, .iload_n 2, 1), (99, .laload, 1), (100, .lastore, 1), (101, .aload_n 0, 1), (102, .getfield 244, 3), (105, .sipush 639, 3), (108, .aload_n 0, 1), (109, .getfield 223, 3), (112, .iload_n 2, 1), (113, .laload, 1), (114, .lastore, 1), (115, .aload_n 0, 1)] = true := by decide +kernel
theorem dX8_comeBack_88 : decode cX8_comeBack 88 = .ok (.getfield 241, 3) := zdec_at bX8_comeBack_88 0 rfl
theorem dX8_comeBack_91 : decode cX8_comeBack 91 = .ok (.sipush 639, 3) := zdec_at bX8_comeBack_88 1 rfl
theorem dX8_comeBack_94 : decode cX8_comeBack 94 = .ok (.aload_n 0, 1) := zdec_at bX8_comeBack_88 2 rfl
theorem dX8_comeBack_95 : decode cX8_comeBack 95 = .ok (.getfield 220, 3) := zdec_at bX8_comeBack_88 3 rfl
theorem dX8_comeBack_98 : decode cX8_comeBack 98 = .ok (.iload_n 2, 1) := zdec_at bX8_comeBack_88 4 rfl
theorem dX8_comeBack_99 : decode cX8_comeBack 99 = .ok (.laload, 1) := zdec_at bX8_comeBack_88 5 rfl
theorem dX8_comeBack_100 : decode cX8_comeBack 100 = .ok (.lastore, 1) := zdec_at bX8_comeBack_88 6 rfl
theorem dX8_comeBack_101 : decode cX8_comeBack 101 = .ok (.aload_n 0, 1) := zdec_at bX8_comeBack_88 7 rfl
theorem dX8_comeBack_102 : decode cX8_comeBack 102 = .ok (.getfield 244, 3) := zdec_at bX8_comeBack_88 8 rfl
theorem dX8_comeBack_105 : decode cX8_comeBack 105 = .ok (.sipush 639, 3) := zdec_at bX8_comeBack_88 9 rfl
theorem dX8_comeBack_108 : decode cX8_comeBack 108 = .ok (.aload_n 0, 1) := zdec_at bX8_comeBack_88 10 rfl
theorem dX8_comeBack_109 : decode cX8_comeBack 109 = .ok (.getfield 223, 3) := zdec_at bX8_comeBack_88 11 rfl
theorem dX8_comeBack_112 : decode cX8_comeBack 112 = .ok (.iload_n 2, 1) := zdec_at bX8_comeBack_88 12 rfl
theorem dX8_comeBack_113 : decode cX8_comeBack 113 = .ok (.laload, 1) := zdec_at bX8_comeBack_88 13 rfl
theorem dX8_comeBack_114 : decode cX8_comeBack 114 = .ok (.lastore, 1) := zdec_at bX8_comeBack_88 14 rfl
theorem dX8_comeBack_115 : decode cX8_comeBack 115 = .ok (.aload_n 0, 1) := zdec_at bX8_comeBack_88 15 rfl
theorem bX8_comeBack_116 : zdec cX8_comeBack 116 [(116, .iload_n 1, 1), (117, .invokevirtual 1354, 3), (120, .return_, 1)] = true := by decide +kernel
theorem dX8_comeBack_116 : decode cX8_comeBack 116 = .ok (.iload_n 1, 1) := zdec_at bX8_comeBack_116 0 rfl
theorem dX8_comeBack_117 : decode cX8_comeBack 117 = .ok (.invokevirtual 1354, 3) := zdec_at bX8_comeBack_116 1 rfl
theorem dX8_comeBack_120 : decode cX8_comeBack 120 = .ok (.return_, 1) := zdec_at bX8_comeBack_116 2 rfl
theorem sX8_comeBack_0 {E : zE} {d : Nat} {Q : zO → zM → Prop} (M : zM) (l1 : Int32) (k : Zm E YX8_comeBack (d + 1) M [(0, vr (some (97, 1, 0))), (1, vi l1), (2, vi (0 : Int32))] 2 [] Q) : Zm E YX8_comeBack (d + 1) M [(0, vr (some (97, 1, 0))), (1, vi l1)] 0 [] Q := by
  refine Zm.l (fun _ _ k_ => z_iconst (v := 0) dX8_comeBack_0 rfl k_) ?_
  refine Zm.l (fun _ _ k_ => z_ist_n dX8_comeBack_1 rfl (by decide) (lv' := [(0, vr (some (97, 1, 0))), (1, vi l1), (2, vi (0 : Int32))]) rfl k_) ?_
  exact k
theorem sX8_comeBack_2 {E : zE} {d : Nat} {Q : zO → zM → Prop} (M : zM) (l1 : Int32) (l2 : Int32) (k : vp_in (639 : Int32) 640 ∧ (if (gi M 171 ((639 : Int32)).toNatClampNeg) ≤ l2 then (Zm E YX8_thisAt d M (zargs 0 [vr (some (97, 1, 0)), vi (639 : Int32)]) 0 [] (zma E YX8_comeBack (d + 1) [(0, vr (some (97, 1, 0))), (1, vi l1)] 39 3 [vr (some (97, 1, 0))] Q)) else (vp_in (639 : Int32) 640 ∧ (Zm E YX8_age d M (zargs 0 [vr (some (97, 1, 0)), vi ((gi M 172 ((639 : Int32)).toNatClampNeg) + l2)]) 0 [] (zma E YX8_comeBack (d + 1) [(0, vr (some (97, 1, 0))), (1, vi l1), (2, vi l2)] 25 3 [] Q))))) : Zm E YX8_comeBack (d + 1) M [(0, vr (some (97, 1, 0))), (1, vi l1), (2, vi l2)] 2 [] Q := by
  refine Zm.l (fun _ _ k_ => z_iload_n dX8_comeBack_2 rfl rfl k_) ?_
  refine Zm.l (fun _ _ k_ => z_aload_n dX8_comeBack_3 rfl rfl k_) ?_
  refine zm_getr 68 dX8_comeBack_4 fsX8_235_1 rfl ?_
  refine Zm.l (fun _ _ k_ => z_sipush (v := 639) dX8_comeBack_7 rfl k_) ?_
  obtain ⟨b_, k⟩ := k
  refine zm_iald dX8_comeBack_10 b_ (by decide) (by decide) ?_
  refine Zm.br (fun _ _ k1_ k2_ => z_icmp_ge (tgt := 34) dX8_comeBack_11 rfl k1_ k2_) (fun h_ => ?_) (fun h_ => ?_)
  · have k := zit h_ k
    refine Zm.l (fun _ _ k_ => z_aload_n dX8_comeBack_34 rfl rfl k_) ?_
    refine Zm.l (fun _ _ k_ => z_aload_n dX8_comeBack_35 rfl rfl k_) ?_
    refine Zm.l (fun _ _ k_ => z_sipush (v := 639) dX8_comeBack_36 rfl k_) ?_
    refine Zm.pick [0, 1] rfl ?_
    exact zm_callV (as := [vi (639 : Int32)]) (st := [vr (some (97, 1, 0))]) dX8_comeBack_39 vsX8_1098_1 (Nat.le_refl _) (Nat.le_of_ble_eq_true rfl) (Nat.le_of_ble_eq_true rfl) rfl k
  · have k := zif h_ k
    refine Zm.l (fun _ _ k_ => z_aload_n dX8_comeBack_14 rfl rfl k_) ?_
    refine Zm.l (fun _ _ k_ => z_aload_n dX8_comeBack_15 rfl rfl k_) ?_
    refine zm_getr 69 dX8_comeBack_16 fsX8_238_1 rfl ?_
    refine Zm.l (fun _ _ k_ => z_sipush (v := 639) dX8_comeBack_19 rfl k_) ?_
    obtain ⟨b_, k⟩ := k
    refine zm_iald dX8_comeBack_22 b_ (by decide) (by decide) ?_
    refine Zm.l (fun _ _ k_ => z_iload_n dX8_comeBack_23 rfl rfl k_) ?_
    refine Zm.l (fun _ _ k_ => z_iadd dX8_comeBack_24 k_) ?_
    exact zm_callV (as := [vi ((gi M 172 ((639 : Int32)).toNatClampNeg) + l2)]) (st := []) dX8_comeBack_25 vsX8_1350_1 (Nat.le_refl _) (Nat.le_of_ble_eq_true rfl) (Nat.le_of_ble_eq_true rfl) rfl k
theorem sX8_comeBack_28 {E : zE} {d : Nat} {Q : zO → zM → Prop} (M : zM) (l1 : Int32) (l2 : Int32) (k : Zm E YX8_comeBack (d + 1) M [(0, vr (some (97, 1, 0))), (1, vi l1), (2, vi (l2 + (1 : Int32)))] 2 [] Q) : Zm E YX8_comeBack (d + 1) M [(0, vr (some (97, 1, 0))), (1, vi l1), (2, vi l2)] 28 [] Q := by
  refine Zm.l (fun _ _ k_ => z_inc (v := (l2 + (1 : Int32))) dX8_comeBack_28 rfl rfl (by decide) (lv' := [(0, vr (some (97, 1, 0))), (1, vi l1), (2, vi (l2 + (1 : Int32)))]) rfl k_) ?_
  refine Zm.l (fun _ _ k_ => z_goto (tgt := 2) dX8_comeBack_31 rfl k_) ?_
  exact k
theorem sX8_comeBack_42 {E : zE} {d : Nat} {Q : zO → zM → Prop} (M : zM) (l1 : Int32) (s0 : Int32) (k : Zm E YX8_age d M (zargs 0 [vr (some (97, 1, 0)), vi s0]) 0 [] (zma E YX8_comeBack (d + 1) [(0, vr (some (97, 1, 0))), (1, vi l1)] 42 3 [] Q)) : Zm E YX8_comeBack (d + 1) M [(0, vr (some (97, 1, 0))), (1, vi l1)] 42 [vi s0, vr (some (97, 1, 0))] Q := by
  exact zm_callV (as := [vi s0]) (st := []) dX8_comeBack_42 vsX8_1350_1 (Nat.le_refl _) (Nat.le_of_ble_eq_true rfl) (Nat.le_of_ble_eq_true rfl) rfl k
theorem sX8_comeBack_45 {E : zE} {d : Nat} {Q : zO → zM → Prop} (M : zM) (l1 : Int32) (k : Zm E YX8_empty d M (zargs 0 [vr (some (97, 1, 0)), vi (647752 : Int32)]) 0 [] (zma E YX8_comeBack (d + 1) [(0, vr (some (97, 1, 0))), (1, vi l1), (2, vi (647752 : Int32))] 51 3 [] Q)) : Zm E YX8_comeBack (d + 1) M [(0, vr (some (97, 1, 0))), (1, vi l1)] 45 [] Q := by
  refine Zm.l (fun _ _ k_ => z_ldcw (v := 647752) dX8_comeBack_45 q5132 k_) ?_
  refine Zm.l (fun _ _ k_ => z_ist_n dX8_comeBack_48 rfl (by decide) (lv' := [(0, vr (some (97, 1, 0))), (1, vi l1), (2, vi (647752 : Int32))]) rfl k_) ?_
  refine Zm.l (fun _ _ k_ => z_aload_n dX8_comeBack_49 rfl rfl k_) ?_
  refine Zm.l (fun _ _ k_ => z_iload_n dX8_comeBack_50 rfl rfl k_) ?_
  exact zm_callV (as := [vi (647752 : Int32)]) (st := []) dX8_comeBack_51 vsX8_1066_1 (Nat.le_refl _) (Nat.le_of_ble_eq_true rfl) (Nat.le_of_ble_eq_true rfl) rfl k
theorem sX8_comeBack_54 {E : zE} {d : Nat} {Q : zO → zM → Prop} (M : zM) (l1 : Int32) (l2 : Int32) (k : vp_in (639 : Int32) 640 ∧ (vp_in l2 647800 ∧ (vp_in (639 : Int32) 640 ∧ (vp_in l2 647800 ∧ (Zm E YX8_age d (sl (sl M 166 (l2).toNatClampNeg (gl M 173 ((639 : Int32)).toNatClampNeg)) 167 (l2).toNatClampNeg (gl M 174 ((639 : Int32)).toNatClampNeg)) (zargs 0 [vr (some (97, 1, 0)), vi l2]) 0 [] (zma E YX8_comeBack (d + 1) [(0, vr (some (97, 1, 0))), (1, vi l1), (2, vi l2)] 84 3 [] Q)))))) : Zm E YX8_comeBack (d + 1) M [(0, vr (some (97, 1, 0))), (1, vi l1), (2, vi l2)] 54 [] Q := by
  refine Zm.l (fun _ _ k_ => z_aload_n dX8_comeBack_54 rfl rfl k_) ?_
  refine zm_getr 63 dX8_comeBack_55 fsX8_220_1 rfl ?_
  refine Zm.l (fun _ _ k_ => z_iload_n dX8_comeBack_58 rfl rfl k_) ?_
  refine Zm.l (fun _ _ k_ => z_aload_n dX8_comeBack_59 rfl rfl k_) ?_
  refine zm_getr 70 dX8_comeBack_60 fsX8_241_1 rfl ?_
  refine Zm.l (fun _ _ k_ => z_sipush (v := 639) dX8_comeBack_63 rfl k_) ?_
  obtain ⟨b_, k⟩ := k
  refine zm_lald dX8_comeBack_66 b_ (by decide) (by decide) ?_
  obtain ⟨b_, k⟩ := k
  refine zm_last dX8_comeBack_67 b_ (by decide) (by decide) ?_
  refine Zm.l (fun _ _ k_ => z_aload_n dX8_comeBack_68 rfl rfl k_) ?_
  refine zm_getr 64 dX8_comeBack_69 fsX8_223_1 rfl ?_
  refine Zm.l (fun _ _ k_ => z_iload_n dX8_comeBack_72 rfl rfl k_) ?_
  refine Zm.l (fun _ _ k_ => z_aload_n dX8_comeBack_73 rfl rfl k_) ?_
  refine zm_getr 71 dX8_comeBack_74 fsX8_244_1 rfl ?_
  refine Zm.l (fun _ _ k_ => z_sipush (v := 639) dX8_comeBack_77 rfl k_) ?_
  obtain ⟨b_, k⟩ := k
  refine zm_lald dX8_comeBack_80 b_ (by decide) (by decide) ?_
  obtain ⟨b_, k⟩ := k
  refine zm_last dX8_comeBack_81 b_ (by decide) (by decide) ?_
  refine Zm.l (fun _ _ k_ => z_aload_n dX8_comeBack_82 rfl rfl k_) ?_
  refine Zm.l (fun _ _ k_ => z_iload_n dX8_comeBack_83 rfl rfl k_) ?_
  exact zm_callV (as := [vi l2]) (st := []) dX8_comeBack_84 vsX8_1350_1 (Nat.le_refl _) (Nat.le_of_ble_eq_true rfl) (Nat.le_of_ble_eq_true rfl) rfl k
theorem sX8_comeBack_87 {E : zE} {d : Nat} {Q : zO → zM → Prop} (M : zM) (l1 : Int32) (l2 : Int32) (k : vp_in l2 647800 ∧ (vp_in (639 : Int32) 640 ∧ (vp_in l2 647800 ∧ (vp_in (639 : Int32) 640 ∧ (Zm E YX8_loadLabels d (sl (sl M 173 ((639 : Int32)).toNatClampNeg (gl M 166 (l2).toNatClampNeg)) 174 ((639 : Int32)).toNatClampNeg (gl M 167 (l2).toNatClampNeg)) (zargs 0 [vr (some (97, 1, 0)), vi l1]) 0 [] (zma E YX8_comeBack (d + 1) [] 117 3 [] Q)))))) : Zm E YX8_comeBack (d + 1) M [(0, vr (some (97, 1, 0))), (1, vi l1), (2, vi l2)] 87 [] Q := by
  refine Zm.l (fun _ _ k_ => z_aload_n dX8_comeBack_87 rfl rfl k_) ?_
  refine zm_getr 70 dX8_comeBack_88 fsX8_241_1 rfl ?_
  refine Zm.l (fun _ _ k_ => z_sipush (v := 639) dX8_comeBack_91 rfl k_) ?_
  refine Zm.l (fun _ _ k_ => z_aload_n dX8_comeBack_94 rfl rfl k_) ?_
  refine zm_getr 63 dX8_comeBack_95 fsX8_220_1 rfl ?_
  refine Zm.l (fun _ _ k_ => z_iload_n dX8_comeBack_98 rfl rfl k_) ?_
  obtain ⟨b_, k⟩ := k
  refine zm_lald dX8_comeBack_99 b_ (by decide) (by decide) ?_
  obtain ⟨b_, k⟩ := k
  refine zm_last dX8_comeBack_100 b_ (by decide) (by decide) ?_
  refine Zm.l (fun _ _ k_ => z_aload_n dX8_comeBack_101 rfl rfl k_) ?_
  refine zm_getr 71 dX8_comeBack_102 fsX8_244_1 rfl ?_
  refine Zm.l (fun _ _ k_ => z_sipush (v := 639) dX8_comeBack_105 rfl k_) ?_
  refine Zm.l (fun _ _ k_ => z_aload_n dX8_comeBack_108 rfl rfl k_) ?_
  refine zm_getr 64 dX8_comeBack_109 fsX8_223_1 rfl ?_
  refine Zm.l (fun _ _ k_ => z_iload_n dX8_comeBack_112 rfl rfl k_) ?_
  obtain ⟨b_, k⟩ := k
  refine zm_lald dX8_comeBack_113 b_ (by decide) (by decide) ?_
  obtain ⟨b_, k⟩ := k
  refine zm_last dX8_comeBack_114 b_ (by decide) (by decide) ?_
  refine Zm.l (fun _ _ k_ => z_aload_n dX8_comeBack_115 rfl rfl k_) ?_
  refine Zm.l (fun _ _ k_ => z_iload_n dX8_comeBack_116 rfl rfl k_) ?_
  refine Zm.pick [] rfl ?_
  exact zm_callV (as := [vi l1]) (st := []) dX8_comeBack_117 vsX8_1354_1 (Nat.le_refl _) (Nat.le_of_ble_eq_true rfl) (Nat.le_of_ble_eq_true rfl) rfl k
theorem sX8_comeBack_120 {E : zE} {d : Nat} {Q : zO → zM → Prop} (M : zM)  (k : Q (.inl none) M) : Zm E YX8_comeBack (d + 1) M [] 120 [] Q := by
  exact zm_vret dX8_comeBack_120 rfl k
/-! ScriptTypesModel.age(I)V -/
theorem bX8_age_0 : zdec cX8_age 0 [(0, .bipush 29, 2), (2, .istore_n 2, 1), (3, .iload_n 2, 1), (4, .aload_n 0, 1), (5, .getfield 765, 3), (8, .if_icmp .ge 43, 3), (11, .iload_n 2, 1), (12, .invokestatic 1166, 3), (15, .ifCond .eq 30, 3), (18, .aload_n 0, 1), (19, .getfield 220, 3), (22, .iload_n 1, 1), (23, .laload, 1), (24, .aload_n 0, 1), (25, .getfield 223, 3), (28, .iload_n 1, 1)] = true := by decide +kernel
theorem dX8_age_0 : decode cX8_age 0 = .ok (.bipush 29, 2) := zdec_at bX8_age_0 0 rfl
theorem dX8_age_2 : decode cX8_age 2 = .ok (.istore_n 2, 1) := zdec_at bX8_age_0 1 rfl
theorem dX8_age_3 : decode cX8_age 3 = .ok (.iload_n 2, 1) := zdec_at bX8_age_0 2 rfl
theorem dX8_age_4 : decode cX8_age 4 = .ok (.aload_n 0, 1) := zdec_at bX8_age_0 3 rfl
theorem dX8_age_5 : decode cX8_age 5 = .ok (.getfield 765, 3) := zdec_at bX8_age_0 4 rfl
theorem dX8_age_8 : decode cX8_age 8 = .ok (.if_icmp .ge 43, 3) := zdec_at bX8_age_0 5 rfl
theorem dX8_age_11 : decode cX8_age 11 = .ok (.iload_n 2, 1) := zdec_at bX8_age_0 6 rfl
theorem dX8_age_12 : decode cX8_age 12 = .ok (.invokestatic 1166, 3) := zdec_at bX8_age_0 7 rfl
theorem dX8_age_15 : decode cX8_age 15 = .ok (.ifCond .eq 30, 3) := zdec_at bX8_age_0 8 rfl
theorem dX8_age_18 : decode cX8_age 18 = .ok (.aload_n 0, 1) := zdec_at bX8_age_0 9 rfl
theorem dX8_age_19 : decode cX8_age 19 = .ok (.getfield 220, 3) := zdec_at bX8_age_0 10 rfl
theorem dX8_age_22 : decode cX8_age 22 = .ok (.iload_n 1, 1) := zdec_at bX8_age_0 11 rfl
theorem dX8_age_23 : decode cX8_age 23 = .ok (.laload, 1) := zdec_at bX8_age_0 12 rfl
theorem dX8_age_24 : decode cX8_age 24 = .ok (.aload_n 0, 1) := zdec_at bX8_age_0 13 rfl
theorem dX8_age_25 : decode cX8_age 25 = .ok (.getfield 223, 3) := zdec_at bX8_age_0 14 rfl
theorem dX8_age_28 : decode cX8_age 28 = .ok (.iload_n 1, 1) := zdec_at bX8_age_0 15 rfl
theorem bX8_age_29 : zdec cX8_age 29 [(29, .laload, 1), (30, .iload_n 2, 1), (31, .invokestatic 1125, 3), (34, .ifCond .eq 11, 3), (37, .aload_n 0, 1), (38, .iload_n 1, 1), (39, .iload_n 2, 1), (40, .iconst 1, 1), (41, .iadd, 1), (42, .invokevirtual 1081, 3), (45, .iinc 2 1, 3), (48, .goto (-45), 3), (51, .return_, 1)] = true := by decide +kernel
theorem dX8_age_29 : decode cX8_age 29 = .ok (.laload, 1) := zdec_at bX8_age_29 0 rfl
theorem dX8_age_30 : decode cX8_age 30 = .ok (.iload_n 2, 1) := zdec_at bX8_age_29 1 rfl
theorem dX8_age_31 : decode cX8_age 31 = .ok (.invokestatic 1125, 3) := zdec_at bX8_age_29 2 rfl
theorem dX8_age_34 : decode cX8_age 34 = .ok (.ifCond .eq 11, 3) := zdec_at bX8_age_29 3 rfl
theorem dX8_age_37 : decode cX8_age 37 = .ok (.aload_n 0, 1) := zdec_at bX8_age_29 4 rfl
theorem dX8_age_38 : decode cX8_age 38 = .ok (.iload_n 1, 1) := zdec_at bX8_age_29 5 rfl
theorem dX8_age_39 : decode cX8_age 39 = .ok (.iload_n 2, 1) := zdec_at bX8_age_29 6 rfl
theorem dX8_age_40 : decode cX8_age 40 = .ok (.iconst 1, 1) := zdec_at bX8_age_29 7 rfl
theorem dX8_age_41 : decode cX8_age 41 = .ok (.iadd, 1) := zdec_at bX8_age_29 8 rfl
theorem dX8_age_42 : decode cX8_age 42 = .ok (.invokevirtual 1081, 3) := zdec_at bX8_age_29 9 rfl
theorem dX8_age_45 : decode cX8_age 45 = .ok (.iinc 2 1, 3) := zdec_at bX8_age_29 10 rfl
theorem dX8_age_48 : decode cX8_age 48 = .ok (.goto (-45), 3) := zdec_at bX8_age_29 11 rfl
theorem dX8_age_51 : decode cX8_age 51 = .ok (.return_, 1) := zdec_at bX8_age_29 12 rfl
theorem sX8_age_0 {E : zE} {d : Nat} {Q : zO → zM → Prop} (M : zM) (l1 : Int32) (k : Zm E YX8_age (d + 1) M [(0, vr (some (97, 1, 0))), (1, vi l1), (2, vi (29 : Int32))] 3 [] Q) : Zm E YX8_age (d + 1) M [(0, vr (some (97, 1, 0))), (1, vi l1)] 0 [] Q := by
  refine Zm.l (fun _ _ k_ => z_bipush (v := 29) dX8_age_0 rfl k_) ?_
  refine Zm.l (fun _ _ k_ => z_ist_n dX8_age_2 rfl (by decide) (lv' := [(0, vr (some (97, 1, 0))), (1, vi l1), (2, vi (29 : Int32))]) rfl k_) ?_
  exact k
theorem sX8_age_3 {E : zE} {d : Nat} {Q : zO → zM → Prop} (M : zM) (l1 : Int32) (l2 : Int32) (k : if (gi M 97 71) ≤ l2 then (Q (.inl none) M) else (Zm E YX8_isSingle d M (zargs 0 [vi l2]) 0 [] (zma E YX8_age (d + 1) [(0, vr (some (97, 1, 0))), (1, vi l1), (2, vi l2)] 12 3 [] Q))) : Zm E YX8_age (d + 1) M [(0, vr (some (97, 1, 0))), (1, vi l1), (2, vi l2)] 3 [] Q := by
  refine Zm.l (fun _ _ k_ => z_iload_n dX8_age_3 rfl rfl k_) ?_
  refine Zm.l (fun _ _ k_ => z_aload_n dX8_age_4 rfl rfl k_) ?_
  refine zm_geti dX8_age_5 fsX8_765_1 (by decide) (by decide) ?_
  refine Zm.br (fun _ _ k1_ k2_ => z_icmp_ge (tgt := 51) dX8_age_8 rfl k1_ k2_) (fun h_ => ?_) (fun h_ => ?_)
  · have k := zit h_ k
    exact zm_vret dX8_age_51 rfl k
  · have k := zif h_ k
    refine Zm.l (fun _ _ k_ => z_iload_n dX8_age_11 rfl rfl k_) ?_
    exact zm_callS (as := [vi l2]) (st := []) dX8_age_12 ssX8_1166 (Nat.le_refl _) (Nat.le_of_ble_eq_true rfl) (Nat.le_of_ble_eq_true rfl) rfl k
theorem sX8_age_15 {E : zE} {d : Nat} {Q : zO → zM → Prop} (M : zM) (l1 : Int32) (l2 : Int32) (s0 : Int32) (k : if s0 = 0 then (Zm E YX8_age (d + 1) M [(0, vr (some (97, 1, 0))), (1, vi l1), (2, vi l2)] 45 [] Q) else (vp_in l1 647800 ∧ (vp_in l1 647800 ∧ (Zm E YX8_isIn d M (zargs 0 [vl (gl M 166 (l1).toNatClampNeg), vl (gl M 167 (l1).toNatClampNeg), vi l2]) 0 [] (zma E YX8_age (d + 1) [(0, vr (some (97, 1, 0))), (1, vi l1), (2, vi l2)] 31 3 [] Q))))) : Zm E YX8_age (d + 1) M [(0, vr (some (97, 1, 0))), (1, vi l1), (2, vi l2)] 15 [vi s0] Q := by
  refine Zm.br (fun _ _ k1_ k2_ => z_if_eq (tgt := 45) dX8_age_15 rfl k1_ k2_) (fun h_ => ?_) (fun h_ => ?_)
  · have k := zit h_ k
    exact k
  · have k := zif h_ k
    refine Zm.l (fun _ _ k_ => z_aload_n dX8_age_18 rfl rfl k_) ?_
    refine zm_getr 63 dX8_age_19 fsX8_220_1 rfl ?_
    refine Zm.l (fun _ _ k_ => z_iload_n dX8_age_22 rfl rfl k_) ?_
    obtain ⟨b_, k⟩ := k
    refine zm_lald dX8_age_23 b_ (by decide) (by decide) ?_
    refine Zm.l (fun _ _ k_ => z_aload_n dX8_age_24 rfl rfl k_) ?_
    refine zm_getr 64 dX8_age_25 fsX8_223_1 rfl ?_
    refine Zm.l (fun _ _ k_ => z_iload_n dX8_age_28 rfl rfl k_) ?_
    obtain ⟨b_, k⟩ := k
    refine zm_lald dX8_age_29 b_ (by decide) (by decide) ?_
    refine Zm.l (fun _ _ k_ => z_iload_n dX8_age_30 rfl rfl k_) ?_
    exact zm_callS (as := [vl (gl M 166 (l1).toNatClampNeg), vl (gl M 167 (l1).toNatClampNeg), vi l2]) (st := []) dX8_age_31 ssX8_1125 (Nat.le_refl _) (Nat.le_of_ble_eq_true rfl) (Nat.le_of_ble_eq_true rfl) rfl k
theorem sX8_age_34 {E : zE} {d : Nat} {Q : zO → zM → Prop} (M : zM) (l1 : Int32) (l2 : Int32) (s0 : Int32) (k : if s0 = 0 then (Zm E YX8_age (d + 1) M [(0, vr (some (97, 1, 0))), (1, vi l1), (2, vi l2)] 45 [] Q) else (Zm E YX8_addLabel d M (zargs 0 [vr (some (97, 1, 0)), vi l1, vi (l2 + (1 : Int32))]) 0 [] (zma E YX8_age (d + 1) [(0, vr (some (97, 1, 0))), (1, vi l1), (2, vi l2)] 42 3 [] Q))) : Zm E YX8_age (d + 1) M [(0, vr (some (97, 1, 0))), (1, vi l1), (2, vi l2)] 34 [vi s0] Q := by
  refine Zm.br (fun _ _ k1_ k2_ => z_if_eq (tgt := 45) dX8_age_34 rfl k1_ k2_) (fun h_ => ?_) (fun h_ => ?_)
  · have k := zit h_ k
    exact k
  · have k := zif h_ k
    refine Zm.l (fun _ _ k_ => z_aload_n dX8_age_37 rfl rfl k_) ?_
    refine Zm.l (fun _ _ k_ => z_iload_n dX8_age_38 rfl rfl k_) ?_
    refine Zm.l (fun _ _ k_ => z_iload_n dX8_age_39 rfl rfl k_) ?_
    refine Zm.l (fun _ _ k_ => z_iconst (v := 1) dX8_age_40 rfl k_) ?_
    refine Zm.l (fun _ _ k_ => z_iadd dX8_age_41 k_) ?_
    exact zm_callV (as := [vi l1, vi (l2 + (1 : Int32))]) (st := []) dX8_age_42 vsX8_1081_1 (Nat.le_refl _) (Nat.le_of_ble_eq_true rfl) (Nat.le_of_ble_eq_true rfl) rfl k
theorem sX8_age_45 {E : zE} {d : Nat} {Q : zO → zM → Prop} (M : zM) (l1 : Int32) (l2 : Int32) (k : Zm E YX8_age (d + 1) M [(0, vr (some (97, 1, 0))), (1, vi l1), (2, vi (l2 + (1 : Int32)))] 3 [] Q) : Zm E YX8_age (d + 1) M [(0, vr (some (97, 1, 0))), (1, vi l1), (2, vi l2)] 45 [] Q := by
  refine Zm.l (fun _ _ k_ => z_inc (v := (l2 + (1 : Int32))) dX8_age_45 rfl rfl (by decide) (lv' := [(0, vr (some (97, 1, 0))), (1, vi l1), (2, vi (l2 + (1 : Int32)))]) rfl k_) ?_
  refine Zm.l (fun _ _ k_ => z_goto (tgt := 3) dX8_age_48 rfl k_) ?_
  exact k
/-! ScriptTypesModel.loadLabels(I)V -/
theorem bX8_loadLabels_0 : zdec cX8_loadLabels 0 [(0, .aload_n 0, 1), (1, .iload_n 1, 1), (2, .invokevirtual 1085, 3), (5, .istore_n 2, 1), (6, .iconst 0, 1), (7, .istore_n 3, 1), (8, .iload_n 3, 1), (9, .aload_n 0, 1), (10, .getfield 765, 3), (13, .aload_n 0, 1), (14, .getfield 762, 3), (17, .iconst 1, 1), (18, .iadd, 1), (19, .imul, 1), (20, .if_icmp .ge 21, 3), (23, .aload_n 0, 1)] = true := by decide +kernel
theorem dX8_loadLabels_0 : decode cX8_loadLabels 0 = .ok (.aload_n 0, 1) := zdec_at bX8_loadLabels_0 0 rfl
theorem dX8_loadLabels_1 : decode cX8_loadLabels 1 = .ok (.iload_n 1, 1) := zdec_at bX8_loadLabels_0 1 rfl
theorem dX8_loadLabels_2 : decode cX8_loadLabels 2 = .ok (.invokevirtual 1085, 3) := zdec_at bX8_loadLabels_0 2 rfl
theorem dX8_loadLabels_5 : decode cX8_loadLabels 5 = .ok (.istore_n 2, 1) := zdec_at bX8_loadLabels_0 3 rfl
theorem dX8_loadLabels_6 : decode cX8_loadLabels 6 = .ok (.iconst 0, 1) := zdec_at bX8_loadLabels_0 4 rfl
theorem dX8_loadLabels_7 : decode cX8_loadLabels 7 = .ok (.istore_n 3, 1) := zdec_at bX8_loadLabels_0 5 rfl
theorem dX8_loadLabels_8 : decode cX8_loadLabels 8 = .ok (.iload_n 3, 1) := zdec_at bX8_loadLabels_0 6 rfl
theorem dX8_loadLabels_9 : decode cX8_loadLabels 9 = .ok (.aload_n 0, 1) := zdec_at bX8_loadLabels_0 7 rfl
theorem dX8_loadLabels_10 : decode cX8_loadLabels 10 = .ok (.getfield 765, 3) := zdec_at bX8_loadLabels_0 8 rfl
theorem dX8_loadLabels_13 : decode cX8_loadLabels 13 = .ok (.aload_n 0, 1) := zdec_at bX8_loadLabels_0 9 rfl
theorem dX8_loadLabels_14 : decode cX8_loadLabels 14 = .ok (.getfield 762, 3) := zdec_at bX8_loadLabels_0 10 rfl
theorem dX8_loadLabels_17 : decode cX8_loadLabels 17 = .ok (.iconst 1, 1) := zdec_at bX8_loadLabels_0 11 rfl
theorem dX8_loadLabels_18 : decode cX8_loadLabels 18 = .ok (.iadd, 1) := zdec_at bX8_loadLabels_0 12 rfl
theorem dX8_loadLabels_19 : decode cX8_loadLabels 19 = .ok (.imul, 1) := zdec_at bX8_loadLabels_0 13 rfl
theorem dX8_loadLabels_20 : decode cX8_loadLabels 20 = .ok (.if_icmp .ge 21, 3) := zdec_at bX8_loadLabels_0 14 rfl
theorem dX8_loadLabels_23 : decode cX8_loadLabels 23 = .ok (.aload_n 0, 1) := zdec_at bX8_loadLabels_0 15 rfl
theorem bX8_loadLabels_24 : zdec cX8_loadLabels 24 [(24, .iload_n 2, 1), (25, .iload_n 3, 1), (26, .iadd, 1), (27, .ldc_w 1084, 3), (30, .iload_n 3, 1), (31, .iadd, 1), (32, .invokevirtual 1092, 3), (35, .iinc 3 1, 3), (38, .goto (-30), 3), (41, .aload_n 0, 1), (42, .iload_n 1, 1), (43, .invokevirtual 1095, 3), (46, .return_, 1)] = true := by decide +kernel
theorem dX8_loadLabels_24 : decode cX8_loadLabels 24 = .ok (.iload_n 2, 1) := zdec_at bX8_loadLabels_24 0 rfl
theorem dX8_loadLabels_25 : decode cX8_loadLabels 25 = .ok (.iload_n 3, 1) := zdec_at bX8_loadLabels_24 1 rfl
theorem dX8_loadLabels_26 : decode cX8_loadLabels 26 = .ok (.iadd, 1) := zdec_at bX8_loadLabels_24 2 rfl
theorem dX8_loadLabels_27 : decode cX8_loadLabels 27 = .ok (.ldc_w 1084, 3) := zdec_at bX8_loadLabels_24 3 rfl
theorem dX8_loadLabels_30 : decode cX8_loadLabels 30 = .ok (.iload_n 3, 1) := zdec_at bX8_loadLabels_24 4 rfl
theorem dX8_loadLabels_31 : decode cX8_loadLabels 31 = .ok (.iadd, 1) := zdec_at bX8_loadLabels_24 5 rfl
theorem dX8_loadLabels_32 : decode cX8_loadLabels 32 = .ok (.invokevirtual 1092, 3) := zdec_at bX8_loadLabels_24 6 rfl
theorem dX8_loadLabels_35 : decode cX8_loadLabels 35 = .ok (.iinc 3 1, 3) := zdec_at bX8_loadLabels_24 7 rfl
theorem dX8_loadLabels_38 : decode cX8_loadLabels 38 = .ok (.goto (-30), 3) := zdec_at bX8_loadLabels_24 8 rfl
theorem dX8_loadLabels_41 : decode cX8_loadLabels 41 = .ok (.aload_n 0, 1) := zdec_at bX8_loadLabels_24 9 rfl
theorem dX8_loadLabels_42 : decode cX8_loadLabels 42 = .ok (.iload_n 1, 1) := zdec_at bX8_loadLabels_24 10 rfl
theorem dX8_loadLabels_43 : decode cX8_loadLabels 43 = .ok (.invokevirtual 1095, 3) := zdec_at bX8_loadLabels_24 11 rfl
theorem dX8_loadLabels_46 : decode cX8_loadLabels 46 = .ok (.return_, 1) := zdec_at bX8_loadLabels_24 12 rfl
theorem sX8_loadLabels_0 {E : zE} {d : Nat} {Q : zO → zM → Prop} (M : zM) (l1 : Int32) (k : Zm E YX8_fieldsAt d M (zargs 0 [vr (some (97, 1, 0)), vi l1]) 0 [] (zma E YX8_loadLabels (d + 1) [(0, vr (some (97, 1, 0))), (1, vi l1)] 2 3 [] Q)) : Zm E YX8_loadLabels (d + 1) M [(0, vr (some (97, 1, 0))), (1, vi l1)] 0 [] Q := by
  refine Zm.l (fun _ _ k_ => z_aload_n dX8_loadLabels_0 rfl rfl k_) ?_
  refine Zm.l (fun _ _ k_ => z_iload_n dX8_loadLabels_1 rfl rfl k_) ?_
  exact zm_callV (as := [vi l1]) (st := []) dX8_loadLabels_2 vsX8_1085_1 (Nat.le_refl _) (Nat.le_of_ble_eq_true rfl) (Nat.le_of_ble_eq_true rfl) rfl k
theorem sX8_loadLabels_5 {E : zE} {d : Nat} {Q : zO → zM → Prop} (M : zM) (l1 : Int32) (s0 : Int32) (k : Zm E YX8_loadLabels (d + 1) M [(0, vr (some (97, 1, 0))), (1, vi l1), (2, vi s0), (3, vi (0 : Int32))] 8 [] Q) : Zm E YX8_loadLabels (d + 1) M [(0, vr (some (97, 1, 0))), (1, vi l1)] 5 [vi s0] Q := by
  refine Zm.l (fun _ _ k_ => z_ist_n dX8_loadLabels_5 rfl (by decide) (lv' := [(0, vr (some (97, 1, 0))), (1, vi l1), (2, vi s0)]) rfl k_) ?_
  refine Zm.l (fun _ _ k_ => z_iconst (v := 0) dX8_loadLabels_6 rfl k_) ?_
  refine Zm.l (fun _ _ k_ => z_ist_n dX8_loadLabels_7 rfl (by decide) (lv' := [(0, vr (some (97, 1, 0))), (1, vi l1), (2, vi s0), (3, vi (0 : Int32))]) rfl k_) ?_
  exact k
theorem sX8_loadLabels_8 {E : zE} {d : Nat} {Q : zO → zM → Prop} (M : zM) (l1 : Int32) (l2 : Int32) (l3 : Int32) (k : if ((gi M 97 71) * ((gi M 97 8) + (1 : Int32))) ≤ l3 then (Zm E YX8_loadRest d M (zargs 0 [vr (some (97, 1, 0)), vi l1]) 0 [] (zma E YX8_loadLabels (d + 1) [] 43 3 [] Q)) else (Zm E YX8_copySet d M (zargs 0 [vr (some (97, 1, 0)), vi (l2 + l3), vi ((635640 : Int32) + l3)]) 0 [] (zma E YX8_loadLabels (d + 1) [(0, vr (some (97, 1, 0))), (1, vi l1), (2, vi l2), (3, vi l3)] 32 3 [] Q))) : Zm E YX8_loadLabels (d + 1) M [(0, vr (some (97, 1, 0))), (1, vi l1), (2, vi l2), (3, vi l3)] 8 [] Q := by
  refine Zm.l (fun _ _ k_ => z_iload_n dX8_loadLabels_8 rfl rfl k_) ?_
  refine Zm.l (fun _ _ k_ => z_aload_n dX8_loadLabels_9 rfl rfl k_) ?_
  refine zm_geti dX8_loadLabels_10 fsX8_765_1 (by decide) (by decide) ?_
  refine Zm.l (fun _ _ k_ => z_aload_n dX8_loadLabels_13 rfl rfl k_) ?_
  refine zm_geti dX8_loadLabels_14 fsX8_762_1 (by decide) (by decide) ?_
  refine Zm.l (fun _ _ k_ => z_iconst (v := 1) dX8_loadLabels_17 rfl k_) ?_
  refine Zm.l (fun _ _ k_ => z_iadd dX8_loadLabels_18 k_) ?_
  refine Zm.l (fun _ _ k_ => z_imul dX8_loadLabels_19 k_) ?_
  refine Zm.br (fun _ _ k1_ k2_ => z_icmp_ge (tgt := 41) dX8_loadLabels_20 rfl k1_ k2_) (fun h_ => ?_) (fun h_ => ?_)
  · have k := zit h_ k
    refine Zm.l (fun _ _ k_ => z_aload_n dX8_loadLabels_41 rfl rfl k_) ?_
    refine Zm.l (fun _ _ k_ => z_iload_n dX8_loadLabels_42 rfl rfl k_) ?_
    refine Zm.pick [] rfl ?_
    exact zm_callV (as := [vi l1]) (st := []) dX8_loadLabels_43 vsX8_1095_1 (Nat.le_refl _) (Nat.le_of_ble_eq_true rfl) (Nat.le_of_ble_eq_true rfl) rfl k
  · have k := zif h_ k
    refine Zm.l (fun _ _ k_ => z_aload_n dX8_loadLabels_23 rfl rfl k_) ?_
    refine Zm.l (fun _ _ k_ => z_iload_n dX8_loadLabels_24 rfl rfl k_) ?_
    refine Zm.l (fun _ _ k_ => z_iload_n dX8_loadLabels_25 rfl rfl k_) ?_
    refine Zm.l (fun _ _ k_ => z_iadd dX8_loadLabels_26 k_) ?_
    refine Zm.l (fun _ _ k_ => z_ldcw (v := 635640) dX8_loadLabels_27 q4786 k_) ?_
    refine Zm.l (fun _ _ k_ => z_iload_n dX8_loadLabels_30 rfl rfl k_) ?_
    refine Zm.l (fun _ _ k_ => z_iadd dX8_loadLabels_31 k_) ?_
    exact zm_callV (as := [vi (l2 + l3), vi ((635640 : Int32) + l3)]) (st := []) dX8_loadLabels_32 vsX8_1092_1 (Nat.le_refl _) (Nat.le_of_ble_eq_true rfl) (Nat.le_of_ble_eq_true rfl) rfl k
theorem sX8_loadLabels_35 {E : zE} {d : Nat} {Q : zO → zM → Prop} (M : zM) (l1 : Int32) (l2 : Int32) (l3 : Int32) (k : Zm E YX8_loadLabels (d + 1) M [(0, vr (some (97, 1, 0))), (1, vi l1), (2, vi l2), (3, vi (l3 + (1 : Int32)))] 8 [] Q) : Zm E YX8_loadLabels (d + 1) M [(0, vr (some (97, 1, 0))), (1, vi l1), (2, vi l2), (3, vi l3)] 35 [] Q := by
  refine Zm.l (fun _ _ k_ => z_inc (v := (l3 + (1 : Int32))) dX8_loadLabels_35 rfl rfl (by decide) (lv' := [(0, vr (some (97, 1, 0))), (1, vi l1), (2, vi l2), (3, vi (l3 + (1 : Int32)))]) rfl k_) ?_
  refine Zm.l (fun _ _ k_ => z_goto (tgt := 8) dX8_loadLabels_38 rfl k_) ?_
  exact k
theorem sX8_loadLabels_46 {E : zE} {d : Nat} {Q : zO → zM → Prop} (M : zM)  (k : Q (.inl none) M) : Zm E YX8_loadLabels (d + 1) M [] 46 [] Q := by
  exact zm_vret dX8_loadLabels_46 rfl k
/-! ScriptTypesModel.waysOfNew(II)V -/
theorem bX8_waysOfNew_0 : zdec cX8_waysOfNew 0 [(0, .aload_n 0, 1), (1, .getfield 235, 3), (4, .sipush 639, 3), (7, .iaload, 1), (8, .istore_n 3, 1), (9, .aload_n 0, 1), (10, .iload_n 1, 1), (11, .invokevirtual 1195, 3), (14, .istore 4, 2), (16, .aload_n 0, 1), (17, .getfield 220, 3), (20, .iload 4, 2), (22, .laload, 1), (23, .lstore 5, 2), (25, .aload_n 0, 1), (26, .getfield 223, 3)] = true := by decide +kernel
theorem dX8_waysOfNew_0 : decode cX8_waysOfNew 0 = .ok (.aload_n 0, 1) := zdec_at bX8_waysOfNew_0 0 rfl
theorem dX8_waysOfNew_1 : decode cX8_waysOfNew 1 = .ok (.getfield 235, 3) := zdec_at bX8_waysOfNew_0 1 rfl
theorem dX8_waysOfNew_4 : decode cX8_waysOfNew 4 = .ok (.sipush 639, 3) := zdec_at bX8_waysOfNew_0 2 rfl
theorem dX8_waysOfNew_7 : decode cX8_waysOfNew 7 = .ok (.iaload, 1) := zdec_at bX8_waysOfNew_0 3 rfl
theorem dX8_waysOfNew_8 : decode cX8_waysOfNew 8 = .ok (.istore_n 3, 1) := zdec_at bX8_waysOfNew_0 4 rfl
theorem dX8_waysOfNew_9 : decode cX8_waysOfNew 9 = .ok (.aload_n 0, 1) := zdec_at bX8_waysOfNew_0 5 rfl
theorem dX8_waysOfNew_10 : decode cX8_waysOfNew 10 = .ok (.iload_n 1, 1) := zdec_at bX8_waysOfNew_0 6 rfl
theorem dX8_waysOfNew_11 : decode cX8_waysOfNew 11 = .ok (.invokevirtual 1195, 3) := zdec_at bX8_waysOfNew_0 7 rfl
theorem dX8_waysOfNew_14 : decode cX8_waysOfNew 14 = .ok (.istore 4, 2) := zdec_at bX8_waysOfNew_0 8 rfl
theorem dX8_waysOfNew_16 : decode cX8_waysOfNew 16 = .ok (.aload_n 0, 1) := zdec_at bX8_waysOfNew_0 9 rfl
theorem dX8_waysOfNew_17 : decode cX8_waysOfNew 17 = .ok (.getfield 220, 3) := zdec_at bX8_waysOfNew_0 10 rfl
theorem dX8_waysOfNew_20 : decode cX8_waysOfNew 20 = .ok (.iload 4, 2) := zdec_at bX8_waysOfNew_0 11 rfl
theorem dX8_waysOfNew_22 : decode cX8_waysOfNew 22 = .ok (.laload, 1) := zdec_at bX8_waysOfNew_0 12 rfl
theorem dX8_waysOfNew_23 : decode cX8_waysOfNew 23 = .ok (.lstore 5, 2) := zdec_at bX8_waysOfNew_0 13 rfl
theorem dX8_waysOfNew_25 : decode cX8_waysOfNew 25 = .ok (.aload_n 0, 1) := zdec_at bX8_waysOfNew_0 14 rfl
theorem dX8_waysOfNew_26 : decode cX8_waysOfNew 26 = .ok (.getfield 223, 3) := zdec_at bX8_waysOfNew_0 15 rfl
theorem bX8_waysOfNew_29 : zdec cX8_waysOfNew 29 [(29, .iload 4, 2), (31, .laload, 1), (32, .lstore 7, 2), (34, .aload_n 0, 1), (35, .iload 4, 2), (37, .invokevirtual 1059, 3), (40, .ifCond .eq 7, 3), (43, .iconst 1, 1), (44, .goto 4, 3), (47, .iconst 0, 1), (48, .istore 9, 2), (50, .iconst 0, 1), (51, .istore 10, 2), (53, .iconst 0, 1), (54, .istore 11, 2), (56, .iload 11, 2)] = true := by decide +kernel
theorem dX8_waysOfNew_29 : decode cX8_waysOfNew 29 = .ok (.iload 4, 2) := zdec_at bX8_waysOfNew_29 0 rfl
theorem dX8_waysOfNew_31 : decode cX8_waysOfNew 31 = .ok (.laload, 1) := zdec_at bX8_waysOfNew_29 1 rfl
theorem dX8_waysOfNew_32 : decode cX8_waysOfNew 32 = .ok (.lstore 7, 2) := zdec_at bX8_waysOfNew_29 2 rfl
theorem dX8_waysOfNew_34 : decode cX8_waysOfNew 34 = .ok (.aload_n 0, 1) := zdec_at bX8_waysOfNew_29 3 rfl
theorem dX8_waysOfNew_35 : decode cX8_waysOfNew 35 = .ok (.iload 4, 2) := zdec_at bX8_waysOfNew_29 4 rfl
theorem dX8_waysOfNew_37 : decode cX8_waysOfNew 37 = .ok (.invokevirtual 1059, 3) := zdec_at bX8_waysOfNew_29 5 rfl
theorem dX8_waysOfNew_40 : decode cX8_waysOfNew 40 = .ok (.ifCond .eq 7, 3) := zdec_at bX8_waysOfNew_29 6 rfl
theorem dX8_waysOfNew_43 : decode cX8_waysOfNew 43 = .ok (.iconst 1, 1) := zdec_at bX8_waysOfNew_29 7 rfl
theorem dX8_waysOfNew_44 : decode cX8_waysOfNew 44 = .ok (.goto 4, 3) := zdec_at bX8_waysOfNew_29 8 rfl
theorem dX8_waysOfNew_47 : decode cX8_waysOfNew 47 = .ok (.iconst 0, 1) := zdec_at bX8_waysOfNew_29 9 rfl
theorem dX8_waysOfNew_48 : decode cX8_waysOfNew 48 = .ok (.istore 9, 2) := zdec_at bX8_waysOfNew_29 10 rfl
theorem dX8_waysOfNew_50 : decode cX8_waysOfNew 50 = .ok (.iconst 0, 1) := zdec_at bX8_waysOfNew_29 11 rfl
theorem dX8_waysOfNew_51 : decode cX8_waysOfNew 51 = .ok (.istore 10, 2) := zdec_at bX8_waysOfNew_29 12 rfl
theorem dX8_waysOfNew_53 : decode cX8_waysOfNew 53 = .ok (.iconst 0, 1) := zdec_at bX8_waysOfNew_29 13 rfl
theorem dX8_waysOfNew_54 : decode cX8_waysOfNew 54 = .ok (.istore 11, 2) := zdec_at bX8_waysOfNew_29 14 rfl
theorem dX8_waysOfNew_56 : decode cX8_waysOfNew 56 = .ok (.iload 11, 2) := zdec_at bX8_waysOfNew_29 15 rfl
theorem bX8_waysOfNew_58 : zdec cX8_waysOfNew 58 [(58, .aload_n 0, 1), (59, .getfield 765, 3), (62, .if_icmp .ge 99, 3), (65, .lload 5, 2), (67, .lload 7, 2), (69, .iload 11, 2), (71, .invokestatic 1125, 3), (74, .ifCond .ne 6, 3), (77, .goto 78, 3), (80, .aload_n 0, 1), (81, .iload 11, 2), (83, .invokevirtual 1326, 3), (86, .ifCond .gt 24, 3), (89, .iload 11, 2), (91, .bipush 10, 2), (93, .if_icmp .lt 21, 3)] = true := by decide +kernel
theorem dX8_waysOfNew_58 : decode cX8_waysOfNew 58 = .ok (.aload_n 0, 1) := zdec_at bX8_waysOfNew_58 0 rfl
theorem dX8_waysOfNew_59 : decode cX8_waysOfNew 59 = .ok (.getfield 765, 3) := zdec_at bX8_waysOfNew_58 1 rfl
theorem dX8_waysOfNew_62 : decode cX8_waysOfNew 62 = .ok (.if_icmp .ge 99, 3) := zdec_at bX8_waysOfNew_58 2 rfl
theorem dX8_waysOfNew_65 : decode cX8_waysOfNew 65 = .ok (.lload 5, 2) := zdec_at bX8_waysOfNew_58 3 rfl
theorem dX8_waysOfNew_67 : decode cX8_waysOfNew 67 = .ok (.lload 7, 2) := zdec_at bX8_waysOfNew_58 4 rfl
theorem dX8_waysOfNew_69 : decode cX8_waysOfNew 69 = .ok (.iload 11, 2) := zdec_at bX8_waysOfNew_58 5 rfl
theorem dX8_waysOfNew_71 : decode cX8_waysOfNew 71 = .ok (.invokestatic 1125, 3) := zdec_at bX8_waysOfNew_58 6 rfl
theorem dX8_waysOfNew_74 : decode cX8_waysOfNew 74 = .ok (.ifCond .ne 6, 3) := zdec_at bX8_waysOfNew_58 7 rfl
theorem dX8_waysOfNew_77 : decode cX8_waysOfNew 77 = .ok (.goto 78, 3) := zdec_at bX8_waysOfNew_58 8 rfl
theorem dX8_waysOfNew_80 : decode cX8_waysOfNew 80 = .ok (.aload_n 0, 1) := zdec_at bX8_waysOfNew_58 9 rfl
theorem dX8_waysOfNew_81 : decode cX8_waysOfNew 81 = .ok (.iload 11, 2) := zdec_at bX8_waysOfNew_58 10 rfl
theorem dX8_waysOfNew_83 : decode cX8_waysOfNew 83 = .ok (.invokevirtual 1326, 3) := zdec_at bX8_waysOfNew_58 11 rfl
theorem dX8_waysOfNew_86 : decode cX8_waysOfNew 86 = .ok (.ifCond .gt 24, 3) := zdec_at bX8_waysOfNew_58 12 rfl
theorem dX8_waysOfNew_89 : decode cX8_waysOfNew 89 = .ok (.iload 11, 2) := zdec_at bX8_waysOfNew_58 13 rfl
theorem dX8_waysOfNew_91 : decode cX8_waysOfNew 91 = .ok (.bipush 10, 2) := zdec_at bX8_waysOfNew_58 14 rfl
theorem dX8_waysOfNew_93 : decode cX8_waysOfNew 93 = .ok (.if_icmp .lt 21, 3) := zdec_at bX8_waysOfNew_58 15 rfl
theorem bX8_waysOfNew_96 : zdec cX8_waysOfNew 96 [(96, .iload 11, 2), (98, .bipush 17, 2), (100, .if_icmp .gt 14, 3), (103, .iload 11, 2), (105, .bipush 13, 2), (107, .if_icmp .eq 7, 3), (110, .iconst 1, 1), (111, .goto 4, 3), (114, .iconst 0, 1), (115, .istore 12, 2), (117, .iload 9, 2), (119, .ifCond .ne 8, 3), (122, .iload 12, 2), (124, .ifCond .ne 7, 3), (127, .iconst 1, 1), (128, .goto 4, 3)] = true := by decide +kernel
theorem dX8_waysOfNew_96 : decode cX8_waysOfNew 96 = .ok (.iload 11, 2) := zdec_at bX8_waysOfNew_96 0 rfl
theorem dX8_waysOfNew_98 : decode cX8_waysOfNew 98 = .ok (.bipush 17, 2) := zdec_at bX8_waysOfNew_96 1 rfl
theorem dX8_waysOfNew_100 : decode cX8_waysOfNew 100 = .ok (.if_icmp .gt 14, 3) := zdec_at bX8_waysOfNew_96 2 rfl
theorem dX8_waysOfNew_103 : decode cX8_waysOfNew 103 = .ok (.iload 11, 2) := zdec_at bX8_waysOfNew_96 3 rfl
theorem dX8_waysOfNew_105 : decode cX8_waysOfNew 105 = .ok (.bipush 13, 2) := zdec_at bX8_waysOfNew_96 4 rfl
theorem dX8_waysOfNew_107 : decode cX8_waysOfNew 107 = .ok (.if_icmp .eq 7, 3) := zdec_at bX8_waysOfNew_96 5 rfl
theorem dX8_waysOfNew_110 : decode cX8_waysOfNew 110 = .ok (.iconst 1, 1) := zdec_at bX8_waysOfNew_96 6 rfl
theorem dX8_waysOfNew_111 : decode cX8_waysOfNew 111 = .ok (.goto 4, 3) := zdec_at bX8_waysOfNew_96 7 rfl
theorem dX8_waysOfNew_114 : decode cX8_waysOfNew 114 = .ok (.iconst 0, 1) := zdec_at bX8_waysOfNew_96 8 rfl
theorem dX8_waysOfNew_115 : decode cX8_waysOfNew 115 = .ok (.istore 12, 2) := zdec_at bX8_waysOfNew_96 9 rfl
theorem dX8_waysOfNew_117 : decode cX8_waysOfNew 117 = .ok (.iload 9, 2) := zdec_at bX8_waysOfNew_96 10 rfl
theorem dX8_waysOfNew_119 : decode cX8_waysOfNew 119 = .ok (.ifCond .ne 8, 3) := zdec_at bX8_waysOfNew_96 11 rfl
theorem dX8_waysOfNew_122 : decode cX8_waysOfNew 122 = .ok (.iload 12, 2) := zdec_at bX8_waysOfNew_96 12 rfl
theorem dX8_waysOfNew_124 : decode cX8_waysOfNew 124 = .ok (.ifCond .ne 7, 3) := zdec_at bX8_waysOfNew_96 13 rfl
theorem dX8_waysOfNew_127 : decode cX8_waysOfNew 127 = .ok (.iconst 1, 1) := zdec_at bX8_waysOfNew_96 14 rfl
theorem dX8_waysOfNew_128 : decode cX8_waysOfNew 128 = .ok (.goto 4, 3) := zdec_at bX8_waysOfNew_96 15 rfl
theorem bX8_waysOfNew_131 : zdec cX8_waysOfNew 131 [(131, .iconst 0, 1), (132, .istore 9, 2), (134, .iload 10, 2), (136, .ifCond .ne 12, 3), (139, .aload_n 0, 1), (140, .iload 11, 2), (142, .invokevirtual 1326, 3), (145, .ifCond .le 7, 3), (148, .iconst 1, 1), (149, .goto 4, 3), (152, .iconst 0, 1), (153, .istore 10, 2), (155, .iinc 11 1, 3), (158, .goto (-102), 3), (161, .iload 9, 2), (163, .ifCond .eq 13, 3)] = true := by decide +kernel
theorem dX8_waysOfNew_131 : decode cX8_waysOfNew 131 = .ok (.iconst 0, 1) := zdec_at bX8_waysOfNew_131 0 rfl
theorem dX8_waysOfNew_132 : decode cX8_waysOfNew 132 = .ok (.istore 9, 2) := zdec_at bX8_waysOfNew_131 1 rfl
theorem dX8_waysOfNew_134 : decode cX8_waysOfNew 134 = .ok (.iload 10, 2) := zdec_at bX8_waysOfNew_131 2 rfl
theorem dX8_waysOfNew_136 : decode cX8_waysOfNew 136 = .ok (.ifCond .ne 12, 3) := zdec_at bX8_waysOfNew_131 3 rfl
theorem dX8_waysOfNew_139 : decode cX8_waysOfNew 139 = .ok (.aload_n 0, 1) := zdec_at bX8_waysOfNew_131 4 rfl
theorem dX8_waysOfNew_140 : decode cX8_waysOfNew 140 = .ok (.iload 11, 2) := zdec_at bX8_waysOfNew_131 5 rfl
theorem dX8_waysOfNew_142 : decode cX8_waysOfNew 142 = .ok (.invokevirtual 1326, 3) := zdec_at bX8_waysOfNew_131 6 rfl
theorem dX8_waysOfNew_145 : decode cX8_waysOfNew 145 = .ok (.ifCond .le 7, 3) := zdec_at bX8_waysOfNew_131 7 rfl
theorem dX8_waysOfNew_148 : decode cX8_waysOfNew 148 = .ok (.iconst 1, 1) := zdec_at bX8_waysOfNew_131 8 rfl
theorem dX8_waysOfNew_149 : decode cX8_waysOfNew 149 = .ok (.goto 4, 3) := zdec_at bX8_waysOfNew_131 9 rfl
theorem dX8_waysOfNew_152 : decode cX8_waysOfNew 152 = .ok (.iconst 0, 1) := zdec_at bX8_waysOfNew_131 10 rfl
theorem dX8_waysOfNew_153 : decode cX8_waysOfNew 153 = .ok (.istore 10, 2) := zdec_at bX8_waysOfNew_131 11 rfl
theorem dX8_waysOfNew_155 : decode cX8_waysOfNew 155 = .ok (.iinc 11 1, 3) := zdec_at bX8_waysOfNew_131 12 rfl
theorem dX8_waysOfNew_158 : decode cX8_waysOfNew 158 = .ok (.goto (-102), 3) := zdec_at bX8_waysOfNew_131 13 rfl
theorem dX8_waysOfNew_161 : decode cX8_waysOfNew 161 = .ok (.iload 9, 2) := zdec_at bX8_waysOfNew_131 14 rfl
theorem dX8_waysOfNew_163 : decode cX8_waysOfNew 163 = .ok (.ifCond .eq 13, 3) := zdec_at bX8_waysOfNew_131 15 rfl
theorem bX8_waysOfNew_166 : zdec cX8_waysOfNew 166 [(166, .aload_n 0, 1), (167, .aload_n 0, 1), (168, .getfield 1188, 3), (171, .bipush 6, 2), (173, .invokevirtual 1292, 3), (176, .bipush 10, 2), (178, .istore 11, 2), (180, .iload 11, 2), (182, .bipush 18, 2), (184, .if_icmp .ge 42, 3), (187, .iload 11, 2), (189, .bipush 13, 2), (191, .if_icmp .eq 29, 3), (194, .lload 5, 2), (196, .lload 7, 2), (198, .iload 11, 2)] = true := by decide +kernel
theorem dX8_waysOfNew_166 : decode cX8_waysOfNew 166 = .ok (.aload_n 0, 1) := zdec_at bX8_waysOfNew_166 0 rfl
theorem dX8_waysOfNew_167 : decode cX8_waysOfNew 167 = .ok (.aload_n 0, 1) := zdec_at bX8_waysOfNew_166 1 rfl
theorem dX8_waysOfNew_168 : decode cX8_waysOfNew 168 = .ok (.getfield 1188, 3) := zdec_at bX8_waysOfNew_166 2 rfl
theorem dX8_waysOfNew_171 : decode cX8_waysOfNew 171 = .ok (.bipush 6, 2) := zdec_at bX8_waysOfNew_166 3 rfl
theorem dX8_waysOfNew_173 : decode cX8_waysOfNew 173 = .ok (.invokevirtual 1292, 3) := zdec_at bX8_waysOfNew_166 4 rfl
theorem dX8_waysOfNew_176 : decode cX8_waysOfNew 176 = .ok (.bipush 10, 2) := zdec_at bX8_waysOfNew_166 5 rfl
theorem dX8_waysOfNew_178 : decode cX8_waysOfNew 178 = .ok (.istore 11, 2) := zdec_at bX8_waysOfNew_166 6 rfl
theorem dX8_waysOfNew_180 : decode cX8_waysOfNew 180 = .ok (.iload 11, 2) := zdec_at bX8_waysOfNew_166 7 rfl
theorem dX8_waysOfNew_182 : decode cX8_waysOfNew 182 = .ok (.bipush 18, 2) := zdec_at bX8_waysOfNew_166 8 rfl
theorem dX8_waysOfNew_184 : decode cX8_waysOfNew 184 = .ok (.if_icmp .ge 42, 3) := zdec_at bX8_waysOfNew_166 9 rfl
theorem dX8_waysOfNew_187 : decode cX8_waysOfNew 187 = .ok (.iload 11, 2) := zdec_at bX8_waysOfNew_166 10 rfl
theorem dX8_waysOfNew_189 : decode cX8_waysOfNew 189 = .ok (.bipush 13, 2) := zdec_at bX8_waysOfNew_166 11 rfl
theorem dX8_waysOfNew_191 : decode cX8_waysOfNew 191 = .ok (.if_icmp .eq 29, 3) := zdec_at bX8_waysOfNew_166 12 rfl
theorem dX8_waysOfNew_194 : decode cX8_waysOfNew 194 = .ok (.lload 5, 2) := zdec_at bX8_waysOfNew_166 13 rfl
theorem dX8_waysOfNew_196 : decode cX8_waysOfNew 196 = .ok (.lload 7, 2) := zdec_at bX8_waysOfNew_166 14 rfl
theorem dX8_waysOfNew_198 : decode cX8_waysOfNew 198 = .ok (.iload 11, 2) := zdec_at bX8_waysOfNew_166 15 rfl
theorem bX8_waysOfNew_200 : zdec cX8_waysOfNew 200 [(200, .invokestatic 1125, 3), (203, .ifCond .eq 17, 3), (206, .aload_n 0, 1), (207, .iload 11, 2), (209, .iconst (-1), 1), (210, .iload_n 3, 1), (211, .iload_n 1, 1), (212, .isub, 1), (213, .iload_n 1, 1), (214, .iload_n 1, 1), (215, .iconst 1, 1), (216, .iadd, 1), (217, .invokevirtual 1329, 3), (220, .iinc 11 1, 3), (223, .goto (-43), 3), (226, .iload 10, 2)] = true := by decide +kernel
theorem dX8_waysOfNew_200 : decode cX8_waysOfNew 200 = .ok (.invokestatic 1125, 3) := zdec_at bX8_waysOfNew_200 0 rfl
theorem dX8_waysOfNew_203 : decode cX8_waysOfNew 203 = .ok (.ifCond .eq 17, 3) := zdec_at bX8_waysOfNew_200 1 rfl
theorem dX8_waysOfNew_206 : decode cX8_waysOfNew 206 = .ok (.aload_n 0, 1) := zdec_at bX8_waysOfNew_200 2 rfl
theorem dX8_waysOfNew_207 : decode cX8_waysOfNew 207 = .ok (.iload 11, 2) := zdec_at bX8_waysOfNew_200 3 rfl
theorem dX8_waysOfNew_209 : decode cX8_waysOfNew 209 = .ok (.iconst (-1), 1) := zdec_at bX8_waysOfNew_200 4 rfl
theorem dX8_waysOfNew_210 : decode cX8_waysOfNew 210 = .ok (.iload_n 3, 1) := zdec_at bX8_waysOfNew_200 5 rfl
theorem dX8_waysOfNew_211 : decode cX8_waysOfNew 211 = .ok (.iload_n 1, 1) := zdec_at bX8_waysOfNew_200 6 rfl
theorem dX8_waysOfNew_212 : decode cX8_waysOfNew 212 = .ok (.isub, 1) := zdec_at bX8_waysOfNew_200 7 rfl
theorem dX8_waysOfNew_213 : decode cX8_waysOfNew 213 = .ok (.iload_n 1, 1) := zdec_at bX8_waysOfNew_200 8 rfl
theorem dX8_waysOfNew_214 : decode cX8_waysOfNew 214 = .ok (.iload_n 1, 1) := zdec_at bX8_waysOfNew_200 9 rfl
theorem dX8_waysOfNew_215 : decode cX8_waysOfNew 215 = .ok (.iconst 1, 1) := zdec_at bX8_waysOfNew_200 10 rfl
theorem dX8_waysOfNew_216 : decode cX8_waysOfNew 216 = .ok (.iadd, 1) := zdec_at bX8_waysOfNew_200 11 rfl
theorem dX8_waysOfNew_217 : decode cX8_waysOfNew 217 = .ok (.invokevirtual 1329, 3) := zdec_at bX8_waysOfNew_200 12 rfl
theorem dX8_waysOfNew_220 : decode cX8_waysOfNew 220 = .ok (.iinc 11 1, 3) := zdec_at bX8_waysOfNew_200 13 rfl
theorem dX8_waysOfNew_223 : decode cX8_waysOfNew 223 = .ok (.goto (-43), 3) := zdec_at bX8_waysOfNew_200 14 rfl
theorem dX8_waysOfNew_226 : decode cX8_waysOfNew 226 = .ok (.iload 10, 2) := zdec_at bX8_waysOfNew_200 15 rfl
theorem bX8_waysOfNew_228 : zdec cX8_waysOfNew 228 [(228, .ifCond .eq 18, 3), (231, .aload_n 0, 1), (232, .lload 5, 2), (234, .lload 7, 2), (236, .iload_n 2, 1), (237, .invokevirtual 1336, 3), (240, .aload_n 0, 1), (241, .bipush 8, 2), (243, .invokevirtual 1214, 3), (246, .iconst 1, 1), (247, .istore 11, 2), (249, .iload 11, 2), (251, .aload_n 0, 1), (252, .getfield 527, 3), (255, .if_icmp .ge 28, 3), (258, .aload_n 0, 1)] = true := by decide +kernel
theorem dX8_waysOfNew_228 : decode cX8_waysOfNew 228 = .ok (.ifCond .eq 18, 3) := zdec_at bX8_waysOfNew_228 0 rfl
theorem dX8_waysOfNew_231 : decode cX8_waysOfNew 231 = .ok (.aload_n 0, 1) := zdec_at bX8_waysOfNew_228 1 rfl
theorem dX8_waysOfNew_232 : decode cX8_waysOfNew 232 = .ok (.lload 5, 2) := zdec_at bX8_waysOfNew_228 2 rfl
theorem dX8_waysOfNew_234 : decode cX8_waysOfNew 234 = .ok (.lload 7, 2) := zdec_at bX8_waysOfNew_228 3 rfl
theorem dX8_waysOfNew_236 : decode cX8_waysOfNew 236 = .ok (.iload_n 2, 1) := zdec_at bX8_waysOfNew_228 4 rfl
theorem dX8_waysOfNew_237 : decode cX8_waysOfNew 237 = .ok (.invokevirtual 1336, 3) := zdec_at bX8_waysOfNew_228 5 rfl
theorem dX8_waysOfNew_240 : decode cX8_waysOfNew 240 = .ok (.aload_n 0, 1) := zdec_at bX8_waysOfNew_228 6 rfl
theorem dX8_waysOfNew_241 : decode cX8_waysOfNew 241 = .ok (.bipush 8, 2) := zdec_at bX8_waysOfNew_228 7 rfl
theorem dX8_waysOfNew_243 : decode cX8_waysOfNew 243 = .ok (.invokevirtual 1214, 3) := zdec_at bX8_waysOfNew_228 8 rfl
theorem dX8_waysOfNew_246 : decode cX8_waysOfNew 246 = .ok (.iconst 1, 1) := zdec_at bX8_waysOfNew_228 9 rfl
theorem dX8_waysOfNew_247 : decode cX8_waysOfNew 247 = .ok (.istore 11, 2) := zdec_at bX8_waysOfNew_228 10 rfl
theorem dX8_waysOfNew_249 : decode cX8_waysOfNew 249 = .ok (.iload 11, 2) := zdec_at bX8_waysOfNew_228 11 rfl
theorem dX8_waysOfNew_251 : decode cX8_waysOfNew 251 = .ok (.aload_n 0, 1) := zdec_at bX8_waysOfNew_228 12 rfl
theorem dX8_waysOfNew_252 : decode cX8_waysOfNew 252 = .ok (.getfield 527, 3) := zdec_at bX8_waysOfNew_228 13 rfl
theorem dX8_waysOfNew_255 : decode cX8_waysOfNew 255 = .ok (.if_icmp .ge 28, 3) := zdec_at bX8_waysOfNew_228 14 rfl
theorem dX8_waysOfNew_258 : decode cX8_waysOfNew 258 = .ok (.aload_n 0, 1) := zdec_at bX8_waysOfNew_228 15 rfl
theorem bX8_waysOfNew_259 : zdec cX8_waysOfNew 259 [(259, .iload 11, 2), (261, .lload 5, 2), (263, .lload 7, 2), (265, .iconst (-1), 1), (266, .iload_n 3, 1), (267, .iload_n 1, 1), (268, .isub, 1), (269, .iload_n 1, 1), (270, .iload_n 1, 1), (271, .iconst 1, 1), (272, .iadd, 1), (273, .iload_n 2, 1), (274, .invokevirtual 1332, 3), (277, .iinc 11 1, 3), (280, .goto (-31), 3), (283, .return_, 1)] = true := by decide +kernel
theorem dX8_waysOfNew_259 : decode cX8_waysOfNew 259 = .ok (.iload 11, 2) := zdec_at bX8_waysOfNew_259 0 rfl
theorem dX8_waysOfNew_261 : decode cX8_waysOfNew 261 = .ok (.lload 5, 2) := zdec_at bX8_waysOfNew_259 1 rfl
theorem dX8_waysOfNew_263 : decode cX8_waysOfNew 263 = .ok (.lload 7, 2) := zdec_at bX8_waysOfNew_259 2 rfl
theorem dX8_waysOfNew_265 : decode cX8_waysOfNew 265 = .ok (.iconst (-1), 1) := zdec_at bX8_waysOfNew_259 3 rfl
theorem dX8_waysOfNew_266 : decode cX8_waysOfNew 266 = .ok (.iload_n 3, 1) := zdec_at bX8_waysOfNew_259 4 rfl
theorem dX8_waysOfNew_267 : decode cX8_waysOfNew 267 = .ok (.iload_n 1, 1) := zdec_at bX8_waysOfNew_259 5 rfl
theorem dX8_waysOfNew_268 : decode cX8_waysOfNew 268 = .ok (.isub, 1) := zdec_at bX8_waysOfNew_259 6 rfl
theorem dX8_waysOfNew_269 : decode cX8_waysOfNew 269 = .ok (.iload_n 1, 1) := zdec_at bX8_waysOfNew_259 7 rfl
theorem dX8_waysOfNew_270 : decode cX8_waysOfNew 270 = .ok (.iload_n 1, 1) := zdec_at bX8_waysOfNew_259 8 rfl
theorem dX8_waysOfNew_271 : decode cX8_waysOfNew 271 = .ok (.iconst 1, 1) := zdec_at bX8_waysOfNew_259 9 rfl
theorem dX8_waysOfNew_272 : decode cX8_waysOfNew 272 = .ok (.iadd, 1) := zdec_at bX8_waysOfNew_259 10 rfl
theorem dX8_waysOfNew_273 : decode cX8_waysOfNew 273 = .ok (.iload_n 2, 1) := zdec_at bX8_waysOfNew_259 11 rfl
theorem dX8_waysOfNew_274 : decode cX8_waysOfNew 274 = .ok (.invokevirtual 1332, 3) := zdec_at bX8_waysOfNew_259 12 rfl
theorem dX8_waysOfNew_277 : decode cX8_waysOfNew 277 = .ok (.iinc 11 1, 3) := zdec_at bX8_waysOfNew_259 13 rfl
theorem dX8_waysOfNew_280 : decode cX8_waysOfNew 280 = .ok (.goto (-31), 3) := zdec_at bX8_waysOfNew_259 14 rfl
theorem dX8_waysOfNew_283 : decode cX8_waysOfNew 283 = .ok (.return_, 1) := zdec_at bX8_waysOfNew_259 15 rfl
theorem sX8_waysOfNew_0 {E : zE} {d : Nat} {Q : zO → zM → Prop} (M : zM) (l1 : Int32) (l2 : Int32) (k : vp_in (639 : Int32) 640 ∧ (Zm E YX8_fromTop d M (zargs 0 [vr (some (97, 1, 0)), vi l1]) 0 [] (zma E YX8_waysOfNew (d + 1) [(0, vr (some (97, 1, 0))), (1, vi l1), (2, vi l2), (3, vi (gi M 171 ((639 : Int32)).toNatClampNeg))] 11 3 [] Q))) : Zm E YX8_waysOfNew (d + 1) M [(0, vr (some (97, 1, 0))), (1, vi l1), (2, vi l2)] 0 [] Q := by
  refine Zm.l (fun _ _ k_ => z_aload_n dX8_waysOfNew_0 rfl rfl k_) ?_
  refine zm_getr 68 dX8_waysOfNew_1 fsX8_235_1 rfl ?_
  refine Zm.l (fun _ _ k_ => z_sipush (v := 639) dX8_waysOfNew_4 rfl k_) ?_
  obtain ⟨b_, k⟩ := k
  refine zm_iald dX8_waysOfNew_7 b_ (by decide) (by decide) ?_
  refine Zm.l (fun _ _ k_ => z_ist_n dX8_waysOfNew_8 rfl (by decide) (lv' := [(0, vr (some (97, 1, 0))), (1, vi l1), (2, vi l2), (3, vi (gi M 171 ((639 : Int32)).toNatClampNeg))]) rfl k_) ?_
  refine Zm.l (fun _ _ k_ => z_aload_n dX8_waysOfNew_9 rfl rfl k_) ?_
  refine Zm.l (fun _ _ k_ => z_iload_n dX8_waysOfNew_10 rfl rfl k_) ?_
  exact zm_callV (as := [vi l1]) (st := []) dX8_waysOfNew_11 vsX8_1195_1 (Nat.le_refl _) (Nat.le_of_ble_eq_true rfl) (Nat.le_of_ble_eq_true rfl) rfl k
theorem sX8_waysOfNew_14 {E : zE} {d : Nat} {Q : zO → zM → Prop} (M : zM) (l1 : Int32) (l2 : Int32) (l3 : Int32) (s0 : Int32) (k : vp_in s0 647800 ∧ (vp_in s0 647800 ∧ (Zm E YX8_plainly d M (zargs 0 [vr (some (97, 1, 0)), vi s0]) 0 [] (zma E YX8_waysOfNew (d + 1) [(0, vr (some (97, 1, 0))), (1, vi l1), (2, vi l2), (3, vi l3), (5, vl (gl M 166 (s0).toNatClampNeg)), (7, vl (gl M 167 (s0).toNatClampNeg))] 37 3 [] Q)))) : Zm E YX8_waysOfNew (d + 1) M [(0, vr (some (97, 1, 0))), (1, vi l1), (2, vi l2), (3, vi l3)] 14 [vi s0] Q := by
  refine Zm.l (fun _ _ k_ => z_ist dX8_waysOfNew_14 (by decide) (lv' := [(0, vr (some (97, 1, 0))), (1, vi l1), (2, vi l2), (3, vi l3), (4, vi s0)]) rfl k_) ?_
  refine Zm.l (fun _ _ k_ => z_aload_n dX8_waysOfNew_16 rfl rfl k_) ?_
  refine zm_getr 63 dX8_waysOfNew_17 fsX8_220_1 rfl ?_
  refine Zm.l (fun _ _ k_ => z_iload dX8_waysOfNew_20 rfl k_) ?_
  obtain ⟨b_, k⟩ := k
  refine zm_lald dX8_waysOfNew_22 b_ (by decide) (by decide) ?_
  refine Zm.l (fun _ _ k_ => z_lst dX8_waysOfNew_23 (by decide) (lv' := [(0, vr (some (97, 1, 0))), (1, vi l1), (2, vi l2), (3, vi l3), (4, vi s0), (5, vl (gl M 166 (s0).toNatClampNeg))]) rfl k_) ?_
  refine Zm.l (fun _ _ k_ => z_aload_n dX8_waysOfNew_25 rfl rfl k_) ?_
  refine zm_getr 64 dX8_waysOfNew_26 fsX8_223_1 rfl ?_
  refine Zm.l (fun _ _ k_ => z_iload dX8_waysOfNew_29 rfl k_) ?_
  obtain ⟨b_, k⟩ := k
  refine zm_lald dX8_waysOfNew_31 b_ (by decide) (by decide) ?_
  refine Zm.l (fun _ _ k_ => z_lst dX8_waysOfNew_32 (by decide) (lv' := [(0, vr (some (97, 1, 0))), (1, vi l1), (2, vi l2), (3, vi l3), (4, vi s0), (5, vl (gl M 166 (s0).toNatClampNeg)), (7, vl (gl M 167 (s0).toNatClampNeg))]) rfl k_) ?_
  refine Zm.l (fun _ _ k_ => z_aload_n dX8_waysOfNew_34 rfl rfl k_) ?_
  refine Zm.l (fun _ _ k_ => z_iload dX8_waysOfNew_35 rfl k_) ?_
  refine Zm.pick [0, 1, 2, 3, 5, 6] rfl ?_
  exact zm_callV (as := [vi s0]) (st := []) dX8_waysOfNew_37 vsX8_1059_1 (Nat.le_refl _) (Nat.le_of_ble_eq_true rfl) (Nat.le_of_ble_eq_true rfl) rfl k
theorem sX8_waysOfNew_40 {E : zE} {d : Nat} {Q : zO → zM → Prop} (M : zM) (l1 : Int32) (l2 : Int32) (l3 : Int32) (l5 : Int64) (l7 : Int64) (s0 : Int32) (k : if s0 = 0 then (Zm E YX8_waysOfNew (d + 1) M [(0, vr (some (97, 1, 0))), (1, vi l1), (2, vi l2), (3, vi l3), (5, vl l5), (7, vl l7), (9, vi (0 : Int32)), (10, vi (0 : Int32)), (11, vi (0 : Int32))] 56 [] Q) else (Zm E YX8_waysOfNew (d + 1) M [(0, vr (some (97, 1, 0))), (1, vi l1), (2, vi l2), (3, vi l3), (5, vl l5), (7, vl l7), (9, vi (1 : Int32)), (10, vi (0 : Int32)), (11, vi (0 : Int32))] 56 [] Q)) : Zm E YX8_waysOfNew (d + 1) M [(0, vr (some (97, 1, 0))), (1, vi l1), (2, vi l2), (3, vi l3), (5, vl l5), (7, vl l7)] 40 [vi s0] Q := by
  refine Zm.br (fun _ _ k1_ k2_ => z_if_eq (tgt := 47) dX8_waysOfNew_40 rfl k1_ k2_) (fun h_ => ?_) (fun h_ => ?_)
  · have k := zit h_ k
    refine Zm.l (fun _ _ k_ => z_iconst (v := 0) dX8_waysOfNew_47 rfl k_) ?_
    refine Zm.l (fun _ _ k_ => z_ist dX8_waysOfNew_48 (by decide) (lv' := [(0, vr (some (97, 1, 0))), (1, vi l1), (2, vi l2), (3, vi l3), (5, vl l5), (7, vl l7), (9, vi (0 : Int32))]) rfl k_) ?_
    refine Zm.l (fun _ _ k_ => z_iconst (v := 0) dX8_waysOfNew_50 rfl k_) ?_
    refine Zm.l (fun _ _ k_ => z_ist dX8_waysOfNew_51 (by decide) (lv' := [(0, vr (some (97, 1, 0))), (1, vi l1), (2, vi l2), (3, vi l3), (5, vl l5), (7, vl l7), (9, vi (0 : Int32)), (10, vi (0 : Int32))]) rfl k_) ?_
    refine Zm.l (fun _ _ k_ => z_iconst (v := 0) dX8_waysOfNew_53 rfl k_) ?_
    refine Zm.l (fun _ _ k_ => z_ist dX8_waysOfNew_54 (by decide) (lv' := [(0, vr (some (97, 1, 0))), (1, vi l1), (2, vi l2), (3, vi l3), (5, vl l5), (7, vl l7), (9, vi (0 : Int32)), (10, vi (0 : Int32)), (11, vi (0 : Int32))]) rfl k_) ?_
    exact k
  · have k := zif h_ k
    refine Zm.l (fun _ _ k_ => z_iconst (v := 1) dX8_waysOfNew_43 rfl k_) ?_
    refine Zm.l (fun _ _ k_ => z_goto (tgt := 48) dX8_waysOfNew_44 rfl k_) ?_
    refine Zm.l (fun _ _ k_ => z_ist dX8_waysOfNew_48 (by decide) (lv' := [(0, vr (some (97, 1, 0))), (1, vi l1), (2, vi l2), (3, vi l3), (5, vl l5), (7, vl l7), (9, vi (1 : Int32))]) rfl k_) ?_
    refine Zm.l (fun _ _ k_ => z_iconst (v := 0) dX8_waysOfNew_50 rfl k_) ?_
    refine Zm.l (fun _ _ k_ => z_ist dX8_waysOfNew_51 (by decide) (lv' := [(0, vr (some (97, 1, 0))), (1, vi l1), (2, vi l2), (3, vi l3), (5, vl l5), (7, vl l7), (9, vi (1 : Int32)), (10, vi (0 : Int32))]) rfl k_) ?_
    refine Zm.l (fun _ _ k_ => z_iconst (v := 0) dX8_waysOfNew_53 rfl k_) ?_
    refine Zm.l (fun _ _ k_ => z_ist dX8_waysOfNew_54 (by decide) (lv' := [(0, vr (some (97, 1, 0))), (1, vi l1), (2, vi l2), (3, vi l3), (5, vl l5), (7, vl l7), (9, vi (1 : Int32)), (10, vi (0 : Int32)), (11, vi (0 : Int32))]) rfl k_) ?_
    exact k
theorem sX8_waysOfNew_56 {E : zE} {d : Nat} {Q : zO → zM → Prop} (M : zM) (l1 : Int32) (l2 : Int32) (l3 : Int32) (l5 : Int64) (l7 : Int64) (l9 : Int32) (l10 : Int32) (l11 : Int32) (k : if (gi M 97 71) ≤ l11 then (if l9 = 0 then (Zm E YX8_waysOfNew (d + 1) M [(0, vr (some (97, 1, 0))), (1, vi l1), (2, vi l2), (3, vi l3), (5, vl l5), (7, vl l7), (10, vi l10)] 176 [] Q) else (Zm E YX8_error_2 d M (zargs 0 [vr (some (97, 1, 0)), vi (gi M 97 148), vi (6 : Int32)]) 0 [] (zma E YX8_waysOfNew (d + 1) [(0, vr (some (97, 1, 0))), (1, vi l1), (2, vi l2), (3, vi l3), (5, vl l5), (7, vl l7), (10, vi l10)] 173 3 [] Q))) else (Zm E YX8_isIn d M (zargs 0 [vl l5, vl l7, vi l11]) 0 [] (zma E YX8_waysOfNew (d + 1) [(0, vr (some (97, 1, 0))), (1, vi l1), (2, vi l2), (3, vi l3), (5, vl l5), (7, vl l7), (9, vi l9), (10, vi l10), (11, vi l11)] 71 3 [] Q))) : Zm E YX8_waysOfNew (d + 1) M [(0, vr (some (97, 1, 0))), (1, vi l1), (2, vi l2), (3, vi l3), (5, vl l5), (7, vl l7), (9, vi l9), (10, vi l10), (11, vi l11)] 56 [] Q := by
  refine Zm.l (fun _ _ k_ => z_iload dX8_waysOfNew_56 rfl k_) ?_
  refine Zm.l (fun _ _ k_ => z_aload_n dX8_waysOfNew_58 rfl rfl k_) ?_
  refine zm_geti dX8_waysOfNew_59 fsX8_765_1 (by decide) (by decide) ?_
  refine Zm.br (fun _ _ k1_ k2_ => z_icmp_ge (tgt := 161) dX8_waysOfNew_62 rfl k1_ k2_) (fun h_ => ?_) (fun h_ => ?_)
  · have k := zit h_ k
    refine Zm.l (fun _ _ k_ => z_iload dX8_waysOfNew_161 rfl k_) ?_
    refine Zm.br (fun _ _ k1_ k2_ => z_if_eq (tgt := 176) dX8_waysOfNew_163 rfl k1_ k2_) (fun h_ => ?_) (fun h_ => ?_)
    · have k := zit h_ k
      refine Zm.pick [0, 1, 2, 3, 4, 5, 7] rfl ?_
      exact k
    · have k := zif h_ k
      refine Zm.l (fun _ _ k_ => z_aload_n dX8_waysOfNew_166 rfl rfl k_) ?_
      refine Zm.l (fun _ _ k_ => z_aload_n dX8_waysOfNew_167 rfl rfl k_) ?_
      refine zm_geti dX8_waysOfNew_168 fsX8_1188_1 (by decide) (by decide) ?_
      refine Zm.l (fun _ _ k_ => z_bipush (v := 6) dX8_waysOfNew_171 rfl k_) ?_
      refine Zm.pick [0, 1, 2, 3, 4, 5, 7] rfl ?_
      exact zm_callV (as := [vi (gi M 97 148), vi (6 : Int32)]) (st := []) dX8_waysOfNew_173 vsX8_1292_1 (Nat.le_refl _) (Nat.le_of_ble_eq_true rfl) (Nat.le_of_ble_eq_true rfl) rfl k
  · have k := zif h_ k
    refine Zm.l (fun _ _ k_ => z_lload dX8_waysOfNew_65 rfl k_) ?_
    refine Zm.l (fun _ _ k_ => z_lload dX8_waysOfNew_67 rfl k_) ?_
    refine Zm.l (fun _ _ k_ => z_iload dX8_waysOfNew_69 rfl k_) ?_
    exact zm_callS (as := [vl l5, vl l7, vi l11]) (st := []) dX8_waysOfNew_71 ssX8_1125 (Nat.le_refl _) (Nat.le_of_ble_eq_true rfl) (Nat.le_of_ble_eq_true rfl) rfl k
theorem sX8_waysOfNew_74 {E : zE} {d : Nat} {Q : zO → zM → Prop} (M : zM) (l1 : Int32) (l2 : Int32) (l3 : Int32) (l5 : Int64) (l7 : Int64) (l9 : Int32) (l10 : Int32) (l11 : Int32) (s0 : Int32) (k : if s0 = 0 then (Zm E YX8_waysOfNew (d + 1) M [(0, vr (some (97, 1, 0))), (1, vi l1), (2, vi l2), (3, vi l3), (5, vl l5), (7, vl l7), (9, vi l9), (10, vi l10), (11, vi (l11 + (1 : Int32)))] 56 [] Q) else (Zm E YX8_codeOfLabel d M (zargs 0 [vr (some (97, 1, 0)), vi l11]) 0 [] (zma E YX8_waysOfNew (d + 1) [(0, vr (some (97, 1, 0))), (1, vi l1), (2, vi l2), (3, vi l3), (5, vl l5), (7, vl l7), (9, vi l9), (10, vi l10), (11, vi l11)] 83 3 [] Q))) : Zm E YX8_waysOfNew (d + 1) M [(0, vr (some (97, 1, 0))), (1, vi l1), (2, vi l2), (3, vi l3), (5, vl l5), (7, vl l7), (9, vi l9), (10, vi l10), (11, vi l11)] 74 [vi s0] Q := by
  refine Zm.brn (fun _ _ k1_ k2_ => z_if_ne (tgt := 80) dX8_waysOfNew_74 rfl k1_ k2_) (fun h_ => ?_) (fun h_ => ?_)
  · have k := zif h_ k
    refine Zm.l (fun _ _ k_ => z_aload_n dX8_waysOfNew_80 rfl rfl k_) ?_
    refine Zm.l (fun _ _ k_ => z_iload dX8_waysOfNew_81 rfl k_) ?_
    exact zm_callV (as := [vi l11]) (st := []) dX8_waysOfNew_83 vsX8_1326_1 (Nat.le_refl _) (Nat.le_of_ble_eq_true rfl) (Nat.le_of_ble_eq_true rfl) rfl k
  · have k := zit h_ k
    refine Zm.l (fun _ _ k_ => z_goto (tgt := 155) dX8_waysOfNew_77 rfl k_) ?_
    refine Zm.l (fun _ _ k_ => z_inc (v := (l11 + (1 : Int32))) dX8_waysOfNew_155 rfl rfl (by decide) (lv' := [(0, vr (some (97, 1, 0))), (1, vi l1), (2, vi l2), (3, vi l3), (5, vl l5), (7, vl l7), (9, vi l9), (10, vi l10), (11, vi (l11 + (1 : Int32)))]) rfl k_) ?_
    refine Zm.l (fun _ _ k_ => z_goto (tgt := 56) dX8_waysOfNew_158 rfl k_) ?_
    exact k
theorem sX8_waysOfNew_86 {E : zE} {d : Nat} {Q : zO → zM → Prop} (M : zM) (l1 : Int32) (l2 : Int32) (l3 : Int32) (l5 : Int64) (l7 : Int64) (l9 : Int32) (l10 : Int32) (l11 : Int32) (s0 : Int32) (k : if 0 < s0 then (Zm E YX8_waysOfNew (d + 1) M [(0, vr (some (97, 1, 0))), (1, vi l1), (2, vi l2), (3, vi l3), (5, vl l5), (7, vl l7), (9, vi l9), (10, vi l10), (11, vi l11)] 115 [vi (1 : Int32)] Q) else (if l11 < (10 : Int32) then (Zm E YX8_waysOfNew (d + 1) M [(0, vr (some (97, 1, 0))), (1, vi l1), (2, vi l2), (3, vi l3), (5, vl l5), (7, vl l7), (9, vi l9), (10, vi l10), (11, vi l11)] 115 [vi (0 : Int32)] Q) else (if (17 : Int32) < l11 then (Zm E YX8_waysOfNew (d + 1) M [(0, vr (some (97, 1, 0))), (1, vi l1), (2, vi l2), (3, vi l3), (5, vl l5), (7, vl l7), (9, vi l9), (10, vi l10), (11, vi l11)] 115 [vi (0 : Int32)] Q) else (if l11 = (13 : Int32) then (Zm E YX8_waysOfNew (d + 1) M [(0, vr (some (97, 1, 0))), (1, vi l1), (2, vi l2), (3, vi l3), (5, vl l5), (7, vl l7), (9, vi l9), (10, vi l10), (11, vi l11)] 115 [vi (0 : Int32)] Q) else (Zm E YX8_waysOfNew (d + 1) M [(0, vr (some (97, 1, 0))), (1, vi l1), (2, vi l2), (3, vi l3), (5, vl l5), (7, vl l7), (9, vi l9), (10, vi l10), (11, vi l11)] 115 [vi (1 : Int32)] Q))))) : Zm E YX8_waysOfNew (d + 1) M [(0, vr (some (97, 1, 0))), (1, vi l1), (2, vi l2), (3, vi l3), (5, vl l5), (7, vl l7), (9, vi l9), (10, vi l10), (11, vi l11)] 86 [vi s0] Q := by
  refine Zm.br (fun _ _ k1_ k2_ => z_if_gt (tgt := 110) dX8_waysOfNew_86 rfl k1_ k2_) (fun h_ => ?_) (fun h_ => ?_)
  · have k := zit h_ k
    refine Zm.l (fun _ _ k_ => z_iconst (v := 1) dX8_waysOfNew_110 rfl k_) ?_
    refine Zm.l (fun _ _ k_ => z_goto (tgt := 115) dX8_waysOfNew_111 rfl k_) ?_
    exact k
  · have k := zif h_ k
    refine Zm.l (fun _ _ k_ => z_iload dX8_waysOfNew_89 rfl k_) ?_
    refine Zm.l (fun _ _ k_ => z_bipush (v := 10) dX8_waysOfNew_91 rfl k_) ?_
    refine Zm.br (fun _ _ k1_ k2_ => z_icmp_lt (tgt := 114) dX8_waysOfNew_93 rfl k1_ k2_) (fun h_ => ?_) (fun h_ => ?_)
    · have k := zit h_ k
      refine Zm.l (fun _ _ k_ => z_iconst (v := 0) dX8_waysOfNew_114 rfl k_) ?_
      exact k
    · have k := zif h_ k
      refine Zm.l (fun _ _ k_ => z_iload dX8_waysOfNew_96 rfl k_) ?_
      refine Zm.l (fun _ _ k_ => z_bipush (v := 17) dX8_waysOfNew_98 rfl k_) ?_
      refine Zm.br (fun _ _ k1_ k2_ => z_icmp_gt (tgt := 114) dX8_waysOfNew_100 rfl k1_ k2_) (fun h_ => ?_) (fun h_ => ?_)
      · have k := zit h_ k
        refine Zm.l (fun _ _ k_ => z_iconst (v := 0) dX8_waysOfNew_114 rfl k_) ?_
        exact k
      · have k := zif h_ k
        refine Zm.l (fun _ _ k_ => z_iload dX8_waysOfNew_103 rfl k_) ?_
        refine Zm.l (fun _ _ k_ => z_bipush (v := 13) dX8_waysOfNew_105 rfl k_) ?_
        refine Zm.br (fun _ _ k1_ k2_ => z_icmp_eq (tgt := 114) dX8_waysOfNew_107 rfl k1_ k2_) (fun h_ => ?_) (fun h_ => ?_)
        · have k := zit h_ k
          refine Zm.l (fun _ _ k_ => z_iconst (v := 0) dX8_waysOfNew_114 rfl k_) ?_
          exact k
        · have k := zif h_ k
          refine Zm.l (fun _ _ k_ => z_iconst (v := 1) dX8_waysOfNew_110 rfl k_) ?_
          refine Zm.l (fun _ _ k_ => z_goto (tgt := 115) dX8_waysOfNew_111 rfl k_) ?_
          exact k
theorem sX8_waysOfNew_115 {E : zE} {d : Nat} {Q : zO → zM → Prop} (M : zM) (l1 : Int32) (l2 : Int32) (l3 : Int32) (l5 : Int64) (l7 : Int64) (l9 : Int32) (l10 : Int32) (l11 : Int32) (s0 : Int32) (k : if l9 = 0 then (if s0 = 0 then (Zm E YX8_waysOfNew (d + 1) M [(0, vr (some (97, 1, 0))), (1, vi l1), (2, vi l2), (3, vi l3), (5, vl l5), (7, vl l7), (10, vi l10), (11, vi l11)] 132 [vi (1 : Int32)] Q) else (Zm E YX8_waysOfNew (d + 1) M [(0, vr (some (97, 1, 0))), (1, vi l1), (2, vi l2), (3, vi l3), (5, vl l5), (7, vl l7), (10, vi l10), (11, vi l11)] 132 [vi (0 : Int32)] Q)) else (Zm E YX8_waysOfNew (d + 1) M [(0, vr (some (97, 1, 0))), (1, vi l1), (2, vi l2), (3, vi l3), (5, vl l5), (7, vl l7), (10, vi l10), (11, vi l11)] 132 [vi (1 : Int32)] Q)) : Zm E YX8_waysOfNew (d + 1) M [(0, vr (some (97, 1, 0))), (1, vi l1), (2, vi l2), (3, vi l3), (5, vl l5), (7, vl l7), (9, vi l9), (10, vi l10), (11, vi l11)] 115 [vi s0] Q := by
  refine Zm.l (fun _ _ k_ => z_ist dX8_waysOfNew_115 (by decide) (lv' := [(0, vr (some (97, 1, 0))), (1, vi l1), (2, vi l2), (3, vi l3), (5, vl l5), (7, vl l7), (9, vi l9), (10, vi l10), (11, vi l11), (12, vi s0)]) rfl k_) ?_
  refine Zm.l (fun _ _ k_ => z_iload dX8_waysOfNew_117 rfl k_) ?_
  refine Zm.brn (fun _ _ k1_ k2_ => z_if_ne (tgt := 127) dX8_waysOfNew_119 rfl k1_ k2_) (fun h_ => ?_) (fun h_ => ?_)
  · have k := zif h_ k
    refine Zm.l (fun _ _ k_ => z_iconst (v := 1) dX8_waysOfNew_127 rfl k_) ?_
    refine Zm.l (fun _ _ k_ => z_goto (tgt := 132) dX8_waysOfNew_128 rfl k_) ?_
    refine Zm.pick [0, 1, 2, 3, 4, 5, 7, 8] rfl ?_
    exact k
  · have k := zit h_ k
    refine Zm.l (fun _ _ k_ => z_iload dX8_waysOfNew_122 rfl k_) ?_
    refine Zm.brn (fun _ _ k1_ k2_ => z_if_ne (tgt := 131) dX8_waysOfNew_124 rfl k1_ k2_) (fun h_ => ?_) (fun h_ => ?_)
    · have k := zif h_ k
      refine Zm.l (fun _ _ k_ => z_iconst (v := 0) dX8_waysOfNew_131 rfl k_) ?_
      refine Zm.pick [0, 1, 2, 3, 4, 5, 7, 8] rfl ?_
      exact k
    · have k := zit h_ k
      refine Zm.l (fun _ _ k_ => z_iconst (v := 1) dX8_waysOfNew_127 rfl k_) ?_
      refine Zm.l (fun _ _ k_ => z_goto (tgt := 132) dX8_waysOfNew_128 rfl k_) ?_
      refine Zm.pick [0, 1, 2, 3, 4, 5, 7, 8] rfl ?_
      exact k
theorem sX8_waysOfNew_132 {E : zE} {d : Nat} {Q : zO → zM → Prop} (M : zM) (l1 : Int32) (l2 : Int32) (l3 : Int32) (l5 : Int64) (l7 : Int64) (l10 : Int32) (l11 : Int32) (s0 : Int32) (k : if l10 = 0 then (Zm E YX8_codeOfLabel d M (zargs 0 [vr (some (97, 1, 0)), vi l11]) 0 [] (zma E YX8_waysOfNew (d + 1) [(0, vr (some (97, 1, 0))), (1, vi l1), (2, vi l2), (3, vi l3), (5, vl l5), (7, vl l7), (9, vi s0), (11, vi l11)] 142 3 [] Q)) else (Zm E YX8_waysOfNew (d + 1) M [(0, vr (some (97, 1, 0))), (1, vi l1), (2, vi l2), (3, vi l3), (5, vl l5), (7, vl l7), (9, vi s0), (10, vi (1 : Int32)), (11, vi (l11 + (1 : Int32)))] 56 [] Q)) : Zm E YX8_waysOfNew (d + 1) M [(0, vr (some (97, 1, 0))), (1, vi l1), (2, vi l2), (3, vi l3), (5, vl l5), (7, vl l7), (10, vi l10), (11, vi l11)] 132 [vi s0] Q := by
  refine Zm.l (fun _ _ k_ => z_ist dX8_waysOfNew_132 (by decide) (lv' := [(0, vr (some (97, 1, 0))), (1, vi l1), (2, vi l2), (3, vi l3), (5, vl l5), (7, vl l7), (9, vi s0), (10, vi l10), (11, vi l11)]) rfl k_) ?_
  refine Zm.l (fun _ _ k_ => z_iload dX8_waysOfNew_134 rfl k_) ?_
  refine Zm.brn (fun _ _ k1_ k2_ => z_if_ne (tgt := 148) dX8_waysOfNew_136 rfl k1_ k2_) (fun h_ => ?_) (fun h_ => ?_)
  · have k := zif h_ k
    refine Zm.l (fun _ _ k_ => z_iconst (v := 1) dX8_waysOfNew_148 rfl k_) ?_
    refine Zm.l (fun _ _ k_ => z_goto (tgt := 153) dX8_waysOfNew_149 rfl k_) ?_
    refine Zm.l (fun _ _ k_ => z_ist dX8_waysOfNew_153 (by decide) (lv' := [(0, vr (some (97, 1, 0))), (1, vi l1), (2, vi l2), (3, vi l3), (5, vl l5), (7, vl l7), (9, vi s0), (10, vi (1 : Int32)), (11, vi l11)]) rfl k_) ?_
    refine Zm.l (fun _ _ k_ => z_inc (v := (l11 + (1 : Int32))) dX8_waysOfNew_155 rfl rfl (by decide) (lv' := [(0, vr (some (97, 1, 0))), (1, vi l1), (2, vi l2), (3, vi l3), (5, vl l5), (7, vl l7), (9, vi s0), (10, vi (1 : Int32)), (11, vi (l11 + (1 : Int32)))]) rfl k_) ?_
    refine Zm.l (fun _ _ k_ => z_goto (tgt := 56) dX8_waysOfNew_158 rfl k_) ?_
    exact k
  · have k := zit h_ k
    refine Zm.l (fun _ _ k_ => z_aload_n dX8_waysOfNew_139 rfl rfl k_) ?_
    refine Zm.l (fun _ _ k_ => z_iload dX8_waysOfNew_140 rfl k_) ?_
    refine Zm.pick [0, 1, 2, 3, 4, 5, 6, 8] rfl ?_
    exact zm_callV (as := [vi l11]) (st := []) dX8_waysOfNew_142 vsX8_1326_1 (Nat.le_refl _) (Nat.le_of_ble_eq_true rfl) (Nat.le_of_ble_eq_true rfl) rfl k
theorem sX8_waysOfNew_145 {E : zE} {d : Nat} {Q : zO → zM → Prop} (M : zM) (l1 : Int32) (l2 : Int32) (l3 : Int32) (l5 : Int64) (l7 : Int64) (l9 : Int32) (l11 : Int32) (s0 : Int32) (k : if s0 ≤ 0 then (Zm E YX8_waysOfNew (d + 1) M [(0, vr (some (97, 1, 0))), (1, vi l1), (2, vi l2), (3, vi l3), (5, vl l5), (7, vl l7), (9, vi l9), (10, vi (0 : Int32)), (11, vi (l11 + (1 : Int32)))] 56 [] Q) else (Zm E YX8_waysOfNew (d + 1) M [(0, vr (some (97, 1, 0))), (1, vi l1), (2, vi l2), (3, vi l3), (5, vl l5), (7, vl l7), (9, vi l9), (10, vi (1 : Int32)), (11, vi (l11 + (1 : Int32)))] 56 [] Q)) : Zm E YX8_waysOfNew (d + 1) M [(0, vr (some (97, 1, 0))), (1, vi l1), (2, vi l2), (3, vi l3), (5, vl l5), (7, vl l7), (9, vi l9), (11, vi l11)] 145 [vi s0] Q := by
  refine Zm.br (fun _ _ k1_ k2_ => z_if_le (tgt := 152) dX8_waysOfNew_145 rfl k1_ k2_) (fun h_ => ?_) (fun h_ => ?_)
  · have k := zit h_ k
    refine Zm.l (fun _ _ k_ => z_iconst (v := 0) dX8_waysOfNew_152 rfl k_) ?_
    refine Zm.l (fun _ _ k_ => z_ist dX8_waysOfNew_153 (by decide) (lv' := [(0, vr (some (97, 1, 0))), (1, vi l1), (2, vi l2), (3, vi l3), (5, vl l5), (7, vl l7), (9, vi l9), (10, vi (0 : Int32)), (11, vi l11)]) rfl k_) ?_
    refine Zm.l (fun _ _ k_ => z_inc (v := (l11 + (1 : Int32))) dX8_waysOfNew_155 rfl rfl (by decide) (lv' := [(0, vr (some (97, 1, 0))), (1, vi l1), (2, vi l2), (3, vi l3), (5, vl l5), (7, vl l7), (9, vi l9), (10, vi (0 : Int32)), (11, vi (l11 + (1 : Int32)))]) rfl k_) ?_
    refine Zm.l (fun _ _ k_ => z_goto (tgt := 56) dX8_waysOfNew_158 rfl k_) ?_
    exact k
  · have k := zif h_ k
    refine Zm.l (fun _ _ k_ => z_iconst (v := 1) dX8_waysOfNew_148 rfl k_) ?_
    refine Zm.l (fun _ _ k_ => z_goto (tgt := 153) dX8_waysOfNew_149 rfl k_) ?_
    refine Zm.l (fun _ _ k_ => z_ist dX8_waysOfNew_153 (by decide) (lv' := [(0, vr (some (97, 1, 0))), (1, vi l1), (2, vi l2), (3, vi l3), (5, vl l5), (7, vl l7), (9, vi l9), (10, vi (1 : Int32)), (11, vi l11)]) rfl k_) ?_
    refine Zm.l (fun _ _ k_ => z_inc (v := (l11 + (1 : Int32))) dX8_waysOfNew_155 rfl rfl (by decide) (lv' := [(0, vr (some (97, 1, 0))), (1, vi l1), (2, vi l2), (3, vi l3), (5, vl l5), (7, vl l7), (9, vi l9), (10, vi (1 : Int32)), (11, vi (l11 + (1 : Int32)))]) rfl k_) ?_
    refine Zm.l (fun _ _ k_ => z_goto (tgt := 56) dX8_waysOfNew_158 rfl k_) ?_
    exact k
theorem sX8_waysOfNew_176 {E : zE} {d : Nat} {Q : zO → zM → Prop} (M : zM) (l1 : Int32) (l2 : Int32) (l3 : Int32) (l5 : Int64) (l7 : Int64) (l10 : Int32) (k : Zm E YX8_waysOfNew (d + 1) M [(0, vr (some (97, 1, 0))), (1, vi l1), (2, vi l2), (3, vi l3), (5, vl l5), (7, vl l7), (10, vi l10), (11, vi (10 : Int32))] 180 [] Q) : Zm E YX8_waysOfNew (d + 1) M [(0, vr (some (97, 1, 0))), (1, vi l1), (2, vi l2), (3, vi l3), (5, vl l5), (7, vl l7), (10, vi l10)] 176 [] Q := by
  refine Zm.l (fun _ _ k_ => z_bipush (v := 10) dX8_waysOfNew_176 rfl k_) ?_
  refine Zm.l (fun _ _ k_ => z_ist dX8_waysOfNew_178 (by decide) (lv' := [(0, vr (some (97, 1, 0))), (1, vi l1), (2, vi l2), (3, vi l3), (5, vl l5), (7, vl l7), (10, vi l10), (11, vi (10 : Int32))]) rfl k_) ?_
  exact k
theorem sX8_waysOfNew_180 {E : zE} {d : Nat} {Q : zO → zM → Prop} (M : zM) (l1 : Int32) (l2 : Int32) (l3 : Int32) (l5 : Int64) (l7 : Int64) (l10 : Int32) (l11 : Int32) (k : if (18 : Int32) ≤ l11 then (if l10 = 0 then (Zm E YX8_waysOfNew (d + 1) M [(0, vr (some (97, 1, 0))), (1, vi l1), (2, vi l2), (3, vi l3), (5, vl l5), (7, vl l7)] 246 [] Q) else (Zm E YX8_prepare d M (zargs 0 [vr (some (97, 1, 0)), vl l5, vl l7, vi l2]) 0 [] (zma E YX8_waysOfNew (d + 1) [(0, vr (some (97, 1, 0))), (1, vi l1), (2, vi l2), (3, vi l3), (5, vl l5), (7, vl l7)] 237 3 [] Q))) else (if l11 = (13 : Int32) then (Zm E YX8_waysOfNew (d + 1) M [(0, vr (some (97, 1, 0))), (1, vi l1), (2, vi l2), (3, vi l3), (5, vl l5), (7, vl l7), (10, vi l10), (11, vi l11)] 220 [] Q) else (Zm E YX8_isIn d M (zargs 0 [vl l5, vl l7, vi l11]) 0 [] (zma E YX8_waysOfNew (d + 1) [(0, vr (some (97, 1, 0))), (1, vi l1), (2, vi l2), (3, vi l3), (5, vl l5), (7, vl l7), (10, vi l10), (11, vi l11)] 200 3 [] Q)))) : Zm E YX8_waysOfNew (d + 1) M [(0, vr (some (97, 1, 0))), (1, vi l1), (2, vi l2), (3, vi l3), (5, vl l5), (7, vl l7), (10, vi l10), (11, vi l11)] 180 [] Q := by
  refine Zm.l (fun _ _ k_ => z_iload dX8_waysOfNew_180 rfl k_) ?_
  refine Zm.l (fun _ _ k_ => z_bipush (v := 18) dX8_waysOfNew_182 rfl k_) ?_
  refine Zm.br (fun _ _ k1_ k2_ => z_icmp_ge (tgt := 226) dX8_waysOfNew_184 rfl k1_ k2_) (fun h_ => ?_) (fun h_ => ?_)
  · have k := zit h_ k
    refine Zm.l (fun _ _ k_ => z_iload dX8_waysOfNew_226 rfl k_) ?_
    refine Zm.br (fun _ _ k1_ k2_ => z_if_eq (tgt := 246) dX8_waysOfNew_228 rfl k1_ k2_) (fun h_ => ?_) (fun h_ => ?_)
    · have k := zit h_ k
      refine Zm.pick [0, 1, 2, 3, 4, 5] rfl ?_
      exact k
    · have k := zif h_ k
      refine Zm.l (fun _ _ k_ => z_aload_n dX8_waysOfNew_231 rfl rfl k_) ?_
      refine Zm.l (fun _ _ k_ => z_lload dX8_waysOfNew_232 rfl k_) ?_
      refine Zm.l (fun _ _ k_ => z_lload dX8_waysOfNew_234 rfl k_) ?_
      refine Zm.l (fun _ _ k_ => z_iload_n dX8_waysOfNew_236 rfl rfl k_) ?_
      refine Zm.pick [0, 1, 2, 3, 4, 5] rfl ?_
      exact zm_callV (as := [vl l5, vl l7, vi l2]) (st := []) dX8_waysOfNew_237 vsX8_1336_1 (Nat.le_refl _) (Nat.le_of_ble_eq_true rfl) (Nat.le_of_ble_eq_true rfl) rfl k
  · have k := zif h_ k
    refine Zm.l (fun _ _ k_ => z_iload dX8_waysOfNew_187 rfl k_) ?_
    refine Zm.l (fun _ _ k_ => z_bipush (v := 13) dX8_waysOfNew_189 rfl k_) ?_
    refine Zm.br (fun _ _ k1_ k2_ => z_icmp_eq (tgt := 220) dX8_waysOfNew_191 rfl k1_ k2_) (fun h_ => ?_) (fun h_ => ?_)
    · have k := zit h_ k
      exact k
    · have k := zif h_ k
      refine Zm.l (fun _ _ k_ => z_lload dX8_waysOfNew_194 rfl k_) ?_
      refine Zm.l (fun _ _ k_ => z_lload dX8_waysOfNew_196 rfl k_) ?_
      refine Zm.l (fun _ _ k_ => z_iload dX8_waysOfNew_198 rfl k_) ?_
      exact zm_callS (as := [vl l5, vl l7, vi l11]) (st := []) dX8_waysOfNew_200 ssX8_1125 (Nat.le_refl _) (Nat.le_of_ble_eq_true rfl) (Nat.le_of_ble_eq_true rfl) rfl k
theorem sX8_waysOfNew_203 {E : zE} {d : Nat} {Q : zO → zM → Prop} (M : zM) (l1 : Int32) (l2 : Int32) (l3 : Int32) (l5 : Int64) (l7 : Int64) (l10 : Int32) (l11 : Int32) (s0 : Int32) (k : if s0 = 0 then (Zm E YX8_waysOfNew (d + 1) M [(0, vr (some (97, 1, 0))), (1, vi l1), (2, vi l2), (3, vi l3), (5, vl l5), (7, vl l7), (10, vi l10), (11, vi l11)] 220 [] Q) else (Zm E YX8_nativeWays d M (zargs 0 [vr (some (97, 1, 0)), vi l11, vi (-1 : Int32), vi (l3 - l1), vi l1, vi (l1 + (1 : Int32))]) 0 [] (zma E YX8_waysOfNew (d + 1) [(0, vr (some (97, 1, 0))), (1, vi l1), (2, vi l2), (3, vi l3), (5, vl l5), (7, vl l7), (10, vi l10), (11, vi l11)] 217 3 [] Q))) : Zm E YX8_waysOfNew (d + 1) M [(0, vr (some (97, 1, 0))), (1, vi l1), (2, vi l2), (3, vi l3), (5, vl l5), (7, vl l7), (10, vi l10), (11, vi l11)] 203 [vi s0] Q := by
  refine Zm.br (fun _ _ k1_ k2_ => z_if_eq (tgt := 220) dX8_waysOfNew_203 rfl k1_ k2_) (fun h_ => ?_) (fun h_ => ?_)
  · have k := zit h_ k
    exact k
  · have k := zif h_ k
    refine Zm.l (fun _ _ k_ => z_aload_n dX8_waysOfNew_206 rfl rfl k_) ?_
    refine Zm.l (fun _ _ k_ => z_iload dX8_waysOfNew_207 rfl k_) ?_
    refine Zm.l (fun _ _ k_ => z_iconst (v := -1) dX8_waysOfNew_209 rfl k_) ?_
    refine Zm.l (fun _ _ k_ => z_iload_n dX8_waysOfNew_210 rfl rfl k_) ?_
    refine Zm.l (fun _ _ k_ => z_iload_n dX8_waysOfNew_211 rfl rfl k_) ?_
    refine Zm.l (fun _ _ k_ => z_isub dX8_waysOfNew_212 k_) ?_
    refine Zm.l (fun _ _ k_ => z_iload_n dX8_waysOfNew_213 rfl rfl k_) ?_
    refine Zm.l (fun _ _ k_ => z_iload_n dX8_waysOfNew_214 rfl rfl k_) ?_
    refine Zm.l (fun _ _ k_ => z_iconst (v := 1) dX8_waysOfNew_215 rfl k_) ?_
    refine Zm.l (fun _ _ k_ => z_iadd dX8_waysOfNew_216 k_) ?_
    exact zm_callV (as := [vi l11, vi (-1 : Int32), vi (l3 - l1), vi l1, vi (l1 + (1 : Int32))]) (st := []) dX8_waysOfNew_217 vsX8_1329_1 (Nat.le_refl _) (Nat.le_of_ble_eq_true rfl) (Nat.le_of_ble_eq_true rfl) rfl k
theorem sX8_waysOfNew_220 {E : zE} {d : Nat} {Q : zO → zM → Prop} (M : zM) (l1 : Int32) (l2 : Int32) (l3 : Int32) (l5 : Int64) (l7 : Int64) (l10 : Int32) (l11 : Int32) (k : Zm E YX8_waysOfNew (d + 1) M [(0, vr (some (97, 1, 0))), (1, vi l1), (2, vi l2), (3, vi l3), (5, vl l5), (7, vl l7), (10, vi l10), (11, vi (l11 + (1 : Int32)))] 180 [] Q) : Zm E YX8_waysOfNew (d + 1) M [(0, vr (some (97, 1, 0))), (1, vi l1), (2, vi l2), (3, vi l3), (5, vl l5), (7, vl l7), (10, vi l10), (11, vi l11)] 220 [] Q := by
  refine Zm.l (fun _ _ k_ => z_inc (v := (l11 + (1 : Int32))) dX8_waysOfNew_220 rfl rfl (by decide) (lv' := [(0, vr (some (97, 1, 0))), (1, vi l1), (2, vi l2), (3, vi l3), (5, vl l5), (7, vl l7), (10, vi l10), (11, vi (l11 + (1 : Int32)))]) rfl k_) ?_
  refine Zm.l (fun _ _ k_ => z_goto (tgt := 180) dX8_waysOfNew_223 rfl k_) ?_
  exact k
theorem sX8_waysOfNew_240 {E : zE} {d : Nat} {Q : zO → zM → Prop} (M : zM) (l1 : Int32) (l2 : Int32) (l3 : Int32) (l5 : Int64) (l7 : Int64) (k : Zm E YX8_errorNow d M (zargs 0 [vr (some (97, 1, 0)), vi (8 : Int32)]) 0 [] (zma E YX8_waysOfNew (d + 1) [(0, vr (some (97, 1, 0))), (1, vi l1), (2, vi l2), (3, vi l3), (5, vl l5), (7, vl l7)] 243 3 [] Q)) : Zm E YX8_waysOfNew (d + 1) M [(0, vr (some (97, 1, 0))), (1, vi l1), (2, vi l2), (3, vi l3), (5, vl l5), (7, vl l7)] 240 [] Q := by
  refine Zm.l (fun _ _ k_ => z_aload_n dX8_waysOfNew_240 rfl rfl k_) ?_
  refine Zm.l (fun _ _ k_ => z_bipush (v := 8) dX8_waysOfNew_241 rfl k_) ?_
  exact zm_callV (as := [vi (8 : Int32)]) (st := []) dX8_waysOfNew_243 vsX8_1214_1 (Nat.le_refl _) (Nat.le_of_ble_eq_true rfl) (Nat.le_of_ble_eq_true rfl) rfl k
theorem sX8_waysOfNew_246 {E : zE} {d : Nat} {Q : zO → zM → Prop} (M : zM) (l1 : Int32) (l2 : Int32) (l3 : Int32) (l5 : Int64) (l7 : Int64) (k : Zm E YX8_waysOfNew (d + 1) M [(0, vr (some (97, 1, 0))), (1, vi l1), (2, vi l2), (3, vi l3), (5, vl l5), (7, vl l7), (11, vi (1 : Int32))] 249 [] Q) : Zm E YX8_waysOfNew (d + 1) M [(0, vr (some (97, 1, 0))), (1, vi l1), (2, vi l2), (3, vi l3), (5, vl l5), (7, vl l7)] 246 [] Q := by
  refine Zm.l (fun _ _ k_ => z_iconst (v := 1) dX8_waysOfNew_246 rfl k_) ?_
  refine Zm.l (fun _ _ k_ => z_ist dX8_waysOfNew_247 (by decide) (lv' := [(0, vr (some (97, 1, 0))), (1, vi l1), (2, vi l2), (3, vi l3), (5, vl l5), (7, vl l7), (11, vi (1 : Int32))]) rfl k_) ?_
  exact k
theorem sX8_waysOfNew_249 {E : zE} {d : Nat} {Q : zO → zM → Prop} (M : zM) (l1 : Int32) (l2 : Int32) (l3 : Int32) (l5 : Int64) (l7 : Int64) (l11 : Int32) (k : if (gi M 97 32) ≤ l11 then (Q (.inl none) M) else (Zm E YX8_codeWays d M (zargs 0 [vr (some (97, 1, 0)), vi l11, vl l5, vl l7, vi (-1 : Int32), vi (l3 - l1), vi l1, vi (l1 + (1 : Int32)), vi l2]) 0 [] (zma E YX8_waysOfNew (d + 1) [(0, vr (some (97, 1, 0))), (1, vi l1), (2, vi l2), (3, vi l3), (5, vl l5), (7, vl l7), (11, vi l11)] 274 3 [] Q))) : Zm E YX8_waysOfNew (d + 1) M [(0, vr (some (97, 1, 0))), (1, vi l1), (2, vi l2), (3, vi l3), (5, vl l5), (7, vl l7), (11, vi l11)] 249 [] Q := by
  refine Zm.l (fun _ _ k_ => z_iload dX8_waysOfNew_249 rfl k_) ?_
  refine Zm.l (fun _ _ k_ => z_aload_n dX8_waysOfNew_251 rfl rfl k_) ?_
  refine zm_geti dX8_waysOfNew_252 fsX8_527_1 (by decide) (by decide) ?_
  refine Zm.br (fun _ _ k1_ k2_ => z_icmp_ge (tgt := 283) dX8_waysOfNew_255 rfl k1_ k2_) (fun h_ => ?_) (fun h_ => ?_)
  · have k := zit h_ k
    exact zm_vret dX8_waysOfNew_283 rfl k
  · have k := zif h_ k
    refine Zm.l (fun _ _ k_ => z_aload_n dX8_waysOfNew_258 rfl rfl k_) ?_
    refine Zm.l (fun _ _ k_ => z_iload dX8_waysOfNew_259 rfl k_) ?_
    refine Zm.l (fun _ _ k_ => z_lload dX8_waysOfNew_261 rfl k_) ?_
    refine Zm.l (fun _ _ k_ => z_lload dX8_waysOfNew_263 rfl k_) ?_
    refine Zm.l (fun _ _ k_ => z_iconst (v := -1) dX8_waysOfNew_265 rfl k_) ?_
    refine Zm.l (fun _ _ k_ => z_iload_n dX8_waysOfNew_266 rfl rfl k_) ?_
    refine Zm.l (fun _ _ k_ => z_iload_n dX8_waysOfNew_267 rfl rfl k_) ?_
    refine Zm.l (fun _ _ k_ => z_isub dX8_waysOfNew_268 k_) ?_
    refine Zm.l (fun _ _ k_ => z_iload_n dX8_waysOfNew_269 rfl rfl k_) ?_
    refine Zm.l (fun _ _ k_ => z_iload_n dX8_waysOfNew_270 rfl rfl k_) ?_
    refine Zm.l (fun _ _ k_ => z_iconst (v := 1) dX8_waysOfNew_271 rfl k_) ?_
    refine Zm.l (fun _ _ k_ => z_iadd dX8_waysOfNew_272 k_) ?_
    refine Zm.l (fun _ _ k_ => z_iload_n dX8_waysOfNew_273 rfl rfl k_) ?_
    exact zm_callV (as := [vi l11, vl l5, vl l7, vi (-1 : Int32), vi (l3 - l1), vi l1, vi (l1 + (1 : Int32)), vi l2]) (st := []) dX8_waysOfNew_274 vsX8_1332_1 (Nat.le_refl _) (Nat.le_of_ble_eq_true rfl) (Nat.le_of_ble_eq_true rfl) rfl k
theorem sX8_waysOfNew_277 {E : zE} {d : Nat} {Q : zO → zM → Prop} (M : zM) (l1 : Int32) (l2 : Int32) (l3 : Int32) (l5 : Int64) (l7 : Int64) (l11 : Int32) (k : Zm E YX8_waysOfNew (d + 1) M [(0, vr (some (97, 1, 0))), (1, vi l1), (2, vi l2), (3, vi l3), (5, vl l5), (7, vl l7), (11, vi (l11 + (1 : Int32)))] 249 [] Q) : Zm E YX8_waysOfNew (d + 1) M [(0, vr (some (97, 1, 0))), (1, vi l1), (2, vi l2), (3, vi l3), (5, vl l5), (7, vl l7), (11, vi l11)] 277 [] Q := by
  refine Zm.l (fun _ _ k_ => z_inc (v := (l11 + (1 : Int32))) dX8_waysOfNew_277 rfl rfl (by decide) (lv' := [(0, vr (some (97, 1, 0))), (1, vi l1), (2, vi l2), (3, vi l3), (5, vl l5), (7, vl l7), (11, vi (l11 + (1 : Int32)))]) rfl k_) ?_
  refine Zm.l (fun _ _ k_ => z_goto (tgt := 249) dX8_waysOfNew_280 rfl k_) ?_
  exact k
/-! ScriptTypesModel.waysOfOther(II)V -/
theorem bX8_waysOfOther_0 : zdec cX8_waysOfOther 0 [(0, .ldc_w 1218, 3), (3, .istore_n 3, 1), (4, .aload_n 0, 1), (5, .getfield 235, 3), (8, .sipush 639, 3), (11, .iaload, 1), (12, .ifCond .le 13, 3), (15, .aload_n 0, 1), (16, .aload_n 0, 1), (17, .iconst 0, 1), (18, .invokevirtual 1195, 3), (21, .iload_n 3, 1), (22, .invokevirtual 1092, 3), (25, .iload_n 1, 1)] = true := by decide +kernel
theorem dX8_waysOfOther_0 : decode cX8_waysOfOther 0 = .ok (.ldc_w 1218, 3) := zdec_at bX8_waysOfOther_0 0 rfl
theorem dX8_waysOfOther_3 : decode cX8_waysOfOther 3 = .ok (.istore_n 3, 1) := zdec_at bX8_waysOfOther_0 1 rfl
theorem dX8_waysOfOther_4 : decode cX8_waysOfOther 4 = .ok (.aload_n 0, 1) := zdec_at bX8_waysOfOther_0 2 rfl
theorem dX8_waysOfOther_5 : decode cX8_waysOfOther 5 = .ok (.getfield 235, 3) := zdec_at bX8_waysOfOther_0 3 rfl
theorem dX8_waysOfOther_8 : decode cX8_waysOfOther 8 = .ok (.sipush 639, 3) := zdec_at bX8_waysOfOther_0 4 rfl
theorem dX8_waysOfOther_11 : decode cX8_waysOfOther 11 = .ok (.iaload, 1) := zdec_at bX8_waysOfOther_0 5 rfl
theorem dX8_waysOfOther_12 : decode cX8_waysOfOther 12 = .ok (.ifCond .le 13, 3) := zdec_at bX8_waysOfOther_0 6 rfl
theorem dX8_waysOfOther_15 : decode cX8_waysOfOther 15 = .ok (.aload_n 0, 1) := zdec_at bX8_waysOfOther_0 7 rfl
theorem dX8_waysOfOther_16 : decode cX8_waysOfOther 16 = .ok (.aload_n 0, 1) := zdec_at bX8_waysOfOther_0 8 rfl
theorem dX8_waysOfOther_17 : decode cX8_waysOfOther 17 = .ok (.iconst 0, 1) := zdec_at bX8_waysOfOther_0 9 rfl
theorem dX8_waysOfOther_18 : decode cX8_waysOfOther 18 = .ok (.invokevirtual 1195, 3) := zdec_at bX8_waysOfOther_0 10 rfl
theorem dX8_waysOfOther_21 : decode cX8_waysOfOther 21 = .ok (.iload_n 3, 1) := zdec_at bX8_waysOfOther_0 11 rfl
theorem dX8_waysOfOther_22 : decode cX8_waysOfOther 22 = .ok (.invokevirtual 1092, 3) := zdec_at bX8_waysOfOther_0 12 rfl
theorem dX8_waysOfOther_25 : decode cX8_waysOfOther 25 = .ok (.iload_n 1, 1) := zdec_at bX8_waysOfOther_0 13 rfl
theorem dX8_waysOfOther_26 : decode cX8_waysOfOther 26 = .ok (.tableswitch 343 17 29 #[66, 85, 101, 130, 186, 194, 194, 194, 204, 245, 252, 308, 327], 66) := by decide +kernel
theorem bX8_waysOfOther_92 : zdec cX8_waysOfOther 92 [(92, .aload_n 0, 1), (93, .getfield 235, 3), (96, .sipush 639, 3), (99, .dup2, 1), (100, .iaload, 1), (101, .iconst 1, 1), (102, .isub, 1), (103, .iastore, 1), (104, .aload_n 0, 1), (105, .invokevirtual 1222, 3), (108, .goto 291, 3), (111, .aload_n 0, 1), (112, .iload_n 3, 1), (113, .aload_n 0, 1), (114, .invokevirtual 1201, 3), (117, .invokevirtual 1092, 3)] = true := by decide +kernel
theorem dX8_waysOfOther_92 : decode cX8_waysOfOther 92 = .ok (.aload_n 0, 1) := zdec_at bX8_waysOfOther_92 0 rfl
theorem dX8_waysOfOther_93 : decode cX8_waysOfOther 93 = .ok (.getfield 235, 3) := zdec_at bX8_waysOfOther_92 1 rfl
theorem dX8_waysOfOther_96 : decode cX8_waysOfOther 96 = .ok (.sipush 639, 3) := zdec_at bX8_waysOfOther_92 2 rfl
theorem dX8_waysOfOther_99 : decode cX8_waysOfOther 99 = .ok (.dup2, 1) := zdec_at bX8_waysOfOther_92 3 rfl
theorem dX8_waysOfOther_100 : decode cX8_waysOfOther 100 = .ok (.iaload, 1) := zdec_at bX8_waysOfOther_92 4 rfl
theorem dX8_waysOfOther_101 : decode cX8_waysOfOther 101 = .ok (.iconst 1, 1) := zdec_at bX8_waysOfOther_92 5 rfl
theorem dX8_waysOfOther_102 : decode cX8_waysOfOther 102 = .ok (.isub, 1) := zdec_at bX8_waysOfOther_92 6 rfl
theorem dX8_waysOfOther_103 : decode cX8_waysOfOther 103 = .ok (.iastore, 1) := zdec_at bX8_waysOfOther_92 7 rfl
theorem dX8_waysOfOther_104 : decode cX8_waysOfOther 104 = .ok (.aload_n 0, 1) := zdec_at bX8_waysOfOther_92 8 rfl
theorem dX8_waysOfOther_105 : decode cX8_waysOfOther 105 = .ok (.invokevirtual 1222, 3) := zdec_at bX8_waysOfOther_92 9 rfl
theorem dX8_waysOfOther_108 : decode cX8_waysOfOther 108 = .ok (.goto 291, 3) := zdec_at bX8_waysOfOther_92 10 rfl
theorem dX8_waysOfOther_111 : decode cX8_waysOfOther 111 = .ok (.aload_n 0, 1) := zdec_at bX8_waysOfOther_92 11 rfl
theorem dX8_waysOfOther_112 : decode cX8_waysOfOther 112 = .ok (.iload_n 3, 1) := zdec_at bX8_waysOfOther_92 12 rfl
theorem dX8_waysOfOther_113 : decode cX8_waysOfOther 113 = .ok (.aload_n 0, 1) := zdec_at bX8_waysOfOther_92 13 rfl
theorem dX8_waysOfOther_114 : decode cX8_waysOfOther 114 = .ok (.invokevirtual 1201, 3) := zdec_at bX8_waysOfOther_92 14 rfl
theorem dX8_waysOfOther_117 : decode cX8_waysOfOther 117 = .ok (.invokevirtual 1092, 3) := zdec_at bX8_waysOfOther_92 15 rfl
theorem bX8_waysOfOther_120 : zdec cX8_waysOfOther 120 [(120, .aload_n 0, 1), (121, .invokevirtual 1222, 3), (124, .goto 275, 3), (127, .aload_n 0, 1), (128, .aload_n 0, 1), (129, .iconst 1, 1), (130, .invokevirtual 1195, 3), (133, .aload_n 0, 1), (134, .invokevirtual 1201, 3), (137, .invokevirtual 1092, 3), (140, .aload_n 0, 1), (141, .iload_n 3, 1), (142, .aload_n 0, 1), (143, .invokevirtual 1201, 3), (146, .invokevirtual 1092, 3), (149, .aload_n 0, 1)] = true := by decide +kernel
theorem dX8_waysOfOther_120 : decode cX8_waysOfOther 120 = .ok (.aload_n 0, 1) := zdec_at bX8_waysOfOther_120 0 rfl
theorem dX8_waysOfOther_121 : decode cX8_waysOfOther 121 = .ok (.invokevirtual 1222, 3) := zdec_at bX8_waysOfOther_120 1 rfl
theorem dX8_waysOfOther_124 : decode cX8_waysOfOther 124 = .ok (.goto 275, 3) := zdec_at bX8_waysOfOther_120 2 rfl
theorem dX8_waysOfOther_127 : decode cX8_waysOfOther 127 = .ok (.aload_n 0, 1) := zdec_at bX8_waysOfOther_120 3 rfl
theorem dX8_waysOfOther_128 : decode cX8_waysOfOther 128 = .ok (.aload_n 0, 1) := zdec_at bX8_waysOfOther_120 4 rfl
theorem dX8_waysOfOther_129 : decode cX8_waysOfOther 129 = .ok (.iconst 1, 1) := zdec_at bX8_waysOfOther_120 5 rfl
theorem dX8_waysOfOther_130 : decode cX8_waysOfOther 130 = .ok (.invokevirtual 1195, 3) := zdec_at bX8_waysOfOther_120 6 rfl
theorem dX8_waysOfOther_133 : decode cX8_waysOfOther 133 = .ok (.aload_n 0, 1) := zdec_at bX8_waysOfOther_120 7 rfl
theorem dX8_waysOfOther_134 : decode cX8_waysOfOther 134 = .ok (.invokevirtual 1201, 3) := zdec_at bX8_waysOfOther_120 8 rfl
theorem dX8_waysOfOther_137 : decode cX8_waysOfOther 137 = .ok (.invokevirtual 1092, 3) := zdec_at bX8_waysOfOther_120 9 rfl
theorem dX8_waysOfOther_140 : decode cX8_waysOfOther 140 = .ok (.aload_n 0, 1) := zdec_at bX8_waysOfOther_120 10 rfl
theorem dX8_waysOfOther_141 : decode cX8_waysOfOther 141 = .ok (.iload_n 3, 1) := zdec_at bX8_waysOfOther_120 11 rfl
theorem dX8_waysOfOther_142 : decode cX8_waysOfOther 142 = .ok (.aload_n 0, 1) := zdec_at bX8_waysOfOther_120 12 rfl
theorem dX8_waysOfOther_143 : decode cX8_waysOfOther 143 = .ok (.invokevirtual 1201, 3) := zdec_at bX8_waysOfOther_120 13 rfl
theorem dX8_waysOfOther_146 : decode cX8_waysOfOther 146 = .ok (.invokevirtual 1092, 3) := zdec_at bX8_waysOfOther_120 14 rfl
theorem dX8_waysOfOther_149 : decode cX8_waysOfOther 149 = .ok (.aload_n 0, 1) := zdec_at bX8_waysOfOther_120 15 rfl
theorem bX8_waysOfOther_150 : zdec cX8_waysOfOther 150 [(150, .invokevirtual 1222, 3), (153, .goto 246, 3), (156, .aload_n 0, 1), (157, .invokevirtual 1201, 3), (160, .istore 4, 2), (162, .aload_n 0, 1), (163, .iload 4, 2), (165, .iconst 1, 1), (166, .isub, 1), (167, .iload 4, 2), (169, .invokevirtual 1092, 3), (172, .aload_n 0, 1), (173, .iload 4, 2), (175, .iconst 2, 1), (176, .isub, 1), (177, .iload 4, 2)] = true := by decide +kernel
theorem dX8_waysOfOther_150 : decode cX8_waysOfOther 150 = .ok (.invokevirtual 1222, 3) := zdec_at bX8_waysOfOther_150 0 rfl
theorem dX8_waysOfOther_153 : decode cX8_waysOfOther 153 = .ok (.goto 246, 3) := zdec_at bX8_waysOfOther_150 1 rfl
theorem dX8_waysOfOther_156 : decode cX8_waysOfOther 156 = .ok (.aload_n 0, 1) := zdec_at bX8_waysOfOther_150 2 rfl
theorem dX8_waysOfOther_157 : decode cX8_waysOfOther 157 = .ok (.invokevirtual 1201, 3) := zdec_at bX8_waysOfOther_150 3 rfl
theorem dX8_waysOfOther_160 : decode cX8_waysOfOther 160 = .ok (.istore 4, 2) := zdec_at bX8_waysOfOther_150 4 rfl
theorem dX8_waysOfOther_162 : decode cX8_waysOfOther 162 = .ok (.aload_n 0, 1) := zdec_at bX8_waysOfOther_150 5 rfl
theorem dX8_waysOfOther_163 : decode cX8_waysOfOther 163 = .ok (.iload 4, 2) := zdec_at bX8_waysOfOther_150 6 rfl
theorem dX8_waysOfOther_165 : decode cX8_waysOfOther 165 = .ok (.iconst 1, 1) := zdec_at bX8_waysOfOther_150 7 rfl
theorem dX8_waysOfOther_166 : decode cX8_waysOfOther 166 = .ok (.isub, 1) := zdec_at bX8_waysOfOther_150 8 rfl
theorem dX8_waysOfOther_167 : decode cX8_waysOfOther 167 = .ok (.iload 4, 2) := zdec_at bX8_waysOfOther_150 9 rfl
theorem dX8_waysOfOther_169 : decode cX8_waysOfOther 169 = .ok (.invokevirtual 1092, 3) := zdec_at bX8_waysOfOther_150 10 rfl
theorem dX8_waysOfOther_172 : decode cX8_waysOfOther 172 = .ok (.aload_n 0, 1) := zdec_at bX8_waysOfOther_150 11 rfl
theorem dX8_waysOfOther_173 : decode cX8_waysOfOther 173 = .ok (.iload 4, 2) := zdec_at bX8_waysOfOther_150 12 rfl
theorem dX8_waysOfOther_175 : decode cX8_waysOfOther 175 = .ok (.iconst 2, 1) := zdec_at bX8_waysOfOther_150 13 rfl
theorem dX8_waysOfOther_176 : decode cX8_waysOfOther 176 = .ok (.isub, 1) := zdec_at bX8_waysOfOther_150 14 rfl
theorem dX8_waysOfOther_177 : decode cX8_waysOfOther 177 = .ok (.iload 4, 2) := zdec_at bX8_waysOfOther_150 15 rfl
theorem bX8_waysOfOther_179 : zdec cX8_waysOfOther 179 [(179, .iconst 1, 1), (180, .isub, 1), (181, .invokevirtual 1092, 3), (184, .aload_n 0, 1), (185, .iload 4, 2), (187, .iconst 3, 1), (188, .isub, 1), (189, .iload 4, 2), (191, .iconst 2, 1), (192, .isub, 1), (193, .invokevirtual 1092, 3), (196, .aload_n 0, 1), (197, .iload_n 3, 1), (198, .iload 4, 2), (200, .iconst 3, 1), (201, .isub, 1)] = true := by decide +kernel
theorem dX8_waysOfOther_179 : decode cX8_waysOfOther 179 = .ok (.iconst 1, 1) := zdec_at bX8_waysOfOther_179 0 rfl
theorem dX8_waysOfOther_180 : decode cX8_waysOfOther 180 = .ok (.isub, 1) := zdec_at bX8_waysOfOther_179 1 rfl
theorem dX8_waysOfOther_181 : decode cX8_waysOfOther 181 = .ok (.invokevirtual 1092, 3) := zdec_at bX8_waysOfOther_179 2 rfl
theorem dX8_waysOfOther_184 : decode cX8_waysOfOther 184 = .ok (.aload_n 0, 1) := zdec_at bX8_waysOfOther_179 3 rfl
theorem dX8_waysOfOther_185 : decode cX8_waysOfOther 185 = .ok (.iload 4, 2) := zdec_at bX8_waysOfOther_179 4 rfl
theorem dX8_waysOfOther_187 : decode cX8_waysOfOther 187 = .ok (.iconst 3, 1) := zdec_at bX8_waysOfOther_179 5 rfl
theorem dX8_waysOfOther_188 : decode cX8_waysOfOther 188 = .ok (.isub, 1) := zdec_at bX8_waysOfOther_179 6 rfl
theorem dX8_waysOfOther_189 : decode cX8_waysOfOther 189 = .ok (.iload 4, 2) := zdec_at bX8_waysOfOther_179 7 rfl
theorem dX8_waysOfOther_191 : decode cX8_waysOfOther 191 = .ok (.iconst 2, 1) := zdec_at bX8_waysOfOther_179 8 rfl
theorem dX8_waysOfOther_192 : decode cX8_waysOfOther 192 = .ok (.isub, 1) := zdec_at bX8_waysOfOther_179 9 rfl
theorem dX8_waysOfOther_193 : decode cX8_waysOfOther 193 = .ok (.invokevirtual 1092, 3) := zdec_at bX8_waysOfOther_179 10 rfl
theorem dX8_waysOfOther_196 : decode cX8_waysOfOther 196 = .ok (.aload_n 0, 1) := zdec_at bX8_waysOfOther_179 11 rfl
theorem dX8_waysOfOther_197 : decode cX8_waysOfOther 197 = .ok (.iload_n 3, 1) := zdec_at bX8_waysOfOther_179 12 rfl
theorem dX8_waysOfOther_198 : decode cX8_waysOfOther 198 = .ok (.iload 4, 2) := zdec_at bX8_waysOfOther_179 13 rfl
theorem dX8_waysOfOther_200 : decode cX8_waysOfOther 200 = .ok (.iconst 3, 1) := zdec_at bX8_waysOfOther_179 14 rfl
theorem dX8_waysOfOther_201 : decode cX8_waysOfOther 201 = .ok (.isub, 1) := zdec_at bX8_waysOfOther_179 15 rfl
theorem bX8_waysOfOther_202 : zdec cX8_waysOfOther 202 [(202, .invokevirtual 1092, 3), (205, .aload_n 0, 1), (206, .invokevirtual 1222, 3), (209, .goto 190, 3), (212, .aload_n 0, 1), (213, .iload_n 2, 1), (214, .invokevirtual 1274, 3), (217, .goto 182, 3), (220, .aload_n 0, 1), (221, .iload_n 1, 1), (222, .iload_n 2, 1), (223, .iload_n 3, 1), (224, .invokevirtual 1277, 3), (227, .goto 172, 3), (230, .aload_n 0, 1), (231, .getfield 235, 3)] = true := by decide +kernel
theorem dX8_waysOfOther_202 : decode cX8_waysOfOther 202 = .ok (.invokevirtual 1092, 3) := zdec_at bX8_waysOfOther_202 0 rfl
theorem dX8_waysOfOther_205 : decode cX8_waysOfOther 205 = .ok (.aload_n 0, 1) := zdec_at bX8_waysOfOther_202 1 rfl
theorem dX8_waysOfOther_206 : decode cX8_waysOfOther 206 = .ok (.invokevirtual 1222, 3) := zdec_at bX8_waysOfOther_202 2 rfl
theorem dX8_waysOfOther_209 : decode cX8_waysOfOther 209 = .ok (.goto 190, 3) := zdec_at bX8_waysOfOther_202 3 rfl
theorem dX8_waysOfOther_212 : decode cX8_waysOfOther 212 = .ok (.aload_n 0, 1) := zdec_at bX8_waysOfOther_202 4 rfl
theorem dX8_waysOfOther_213 : decode cX8_waysOfOther 213 = .ok (.iload_n 2, 1) := zdec_at bX8_waysOfOther_202 5 rfl
theorem dX8_waysOfOther_214 : decode cX8_waysOfOther 214 = .ok (.invokevirtual 1274, 3) := zdec_at bX8_waysOfOther_202 6 rfl
theorem dX8_waysOfOther_217 : decode cX8_waysOfOther 217 = .ok (.goto 182, 3) := zdec_at bX8_waysOfOther_202 7 rfl
theorem dX8_waysOfOther_220 : decode cX8_waysOfOther 220 = .ok (.aload_n 0, 1) := zdec_at bX8_waysOfOther_202 8 rfl
theorem dX8_waysOfOther_221 : decode cX8_waysOfOther 221 = .ok (.iload_n 1, 1) := zdec_at bX8_waysOfOther_202 9 rfl
theorem dX8_waysOfOther_222 : decode cX8_waysOfOther 222 = .ok (.iload_n 2, 1) := zdec_at bX8_waysOfOther_202 10 rfl
theorem dX8_waysOfOther_223 : decode cX8_waysOfOther 223 = .ok (.iload_n 3, 1) := zdec_at bX8_waysOfOther_202 11 rfl
theorem dX8_waysOfOther_224 : decode cX8_waysOfOther 224 = .ok (.invokevirtual 1277, 3) := zdec_at bX8_waysOfOther_202 12 rfl
theorem dX8_waysOfOther_227 : decode cX8_waysOfOther 227 = .ok (.goto 172, 3) := zdec_at bX8_waysOfOther_202 13 rfl
theorem dX8_waysOfOther_230 : decode cX8_waysOfOther 230 = .ok (.aload_n 0, 1) := zdec_at bX8_waysOfOther_202 14 rfl
theorem dX8_waysOfOther_231 : decode cX8_waysOfOther 231 = .ok (.getfield 235, 3) := zdec_at bX8_waysOfOther_202 15 rfl
theorem bX8_waysOfOther_234 : zdec cX8_waysOfOther 234 [(234, .sipush 639, 3), (237, .iconst 0, 1), (238, .iastore, 1), (239, .aload_n 0, 1), (240, .iload_n 3, 1), (241, .aload_n 0, 1), (242, .invokevirtual 1201, 3), (245, .invokevirtual 1092, 3), (248, .aload_n 0, 1), (249, .aload_n 0, 1), (250, .getfield 606, 3), (253, .iconst 2, 1), (254, .aload_n 0, 1), (255, .getfield 98, 3), (258, .aload_n 0, 1), (259, .getfield 1188, 3)] = true := by decide +kernel
theorem dX8_waysOfOther_234 : decode cX8_waysOfOther 234 = .ok (.sipush 639, 3) := zdec_at bX8_waysOfOther_234 0 rfl
theorem dX8_waysOfOther_237 : decode cX8_waysOfOther 237 = .ok (.iconst 0, 1) := zdec_at bX8_waysOfOther_234 1 rfl
theorem dX8_waysOfOther_238 : decode cX8_waysOfOther 238 = .ok (.iastore, 1) := zdec_at bX8_waysOfOther_234 2 rfl
theorem dX8_waysOfOther_239 : decode cX8_waysOfOther 239 = .ok (.aload_n 0, 1) := zdec_at bX8_waysOfOther_234 3 rfl
theorem dX8_waysOfOther_240 : decode cX8_waysOfOther 240 = .ok (.iload_n 3, 1) := zdec_at bX8_waysOfOther_234 4 rfl
theorem dX8_waysOfOther_241 : decode cX8_waysOfOther 241 = .ok (.aload_n 0, 1) := zdec_at bX8_waysOfOther_234 5 rfl
theorem dX8_waysOfOther_242 : decode cX8_waysOfOther 242 = .ok (.invokevirtual 1201, 3) := zdec_at bX8_waysOfOther_234 6 rfl
theorem dX8_waysOfOther_245 : decode cX8_waysOfOther 245 = .ok (.invokevirtual 1092, 3) := zdec_at bX8_waysOfOther_234 7 rfl
theorem dX8_waysOfOther_248 : decode cX8_waysOfOther 248 = .ok (.aload_n 0, 1) := zdec_at bX8_waysOfOther_234 8 rfl
theorem dX8_waysOfOther_249 : decode cX8_waysOfOther 249 = .ok (.aload_n 0, 1) := zdec_at bX8_waysOfOther_234 9 rfl
theorem dX8_waysOfOther_250 : decode cX8_waysOfOther 250 = .ok (.getfield 606, 3) := zdec_at bX8_waysOfOther_234 10 rfl
theorem dX8_waysOfOther_253 : decode cX8_waysOfOther 253 = .ok (.iconst 2, 1) := zdec_at bX8_waysOfOther_234 11 rfl
theorem dX8_waysOfOther_254 : decode cX8_waysOfOther 254 = .ok (.aload_n 0, 1) := zdec_at bX8_waysOfOther_234 12 rfl
theorem dX8_waysOfOther_255 : decode cX8_waysOfOther 255 = .ok (.getfield 98, 3) := zdec_at bX8_waysOfOther_234 13 rfl
theorem dX8_waysOfOther_258 : decode cX8_waysOfOther 258 = .ok (.aload_n 0, 1) := zdec_at bX8_waysOfOther_234 14 rfl
theorem dX8_waysOfOther_259 : decode cX8_waysOfOther 259 = .ok (.getfield 1188, 3) := zdec_at bX8_waysOfOther_234 15 rfl
theorem bX8_waysOfOther_262 : zdec cX8_waysOfOther 262 [(262, .iaload, 1), (263, .imul, 1), (264, .iadd, 1), (265, .invokevirtual 1191, 3), (268, .goto 131, 3), (271, .aload_n 0, 1), (272, .invokevirtual 1280, 3), (275, .goto 124, 3), (278, .sipush 25560, 3), (281, .aload_n 0, 1), (282, .getfield 247, 3), (285, .sipush 639, 3), (288, .iaload, 1), (289, .iadd, 1), (290, .istore 4, 2), (292, .aload_n 0, 1)] = true := by decide +kernel
theorem dX8_waysOfOther_262 : decode cX8_waysOfOther 262 = .ok (.iaload, 1) := zdec_at bX8_waysOfOther_262 0 rfl
theorem dX8_waysOfOther_263 : decode cX8_waysOfOther 263 = .ok (.imul, 1) := zdec_at bX8_waysOfOther_262 1 rfl
theorem dX8_waysOfOther_264 : decode cX8_waysOfOther 264 = .ok (.iadd, 1) := zdec_at bX8_waysOfOther_262 2 rfl
theorem dX8_waysOfOther_265 : decode cX8_waysOfOther 265 = .ok (.invokevirtual 1191, 3) := zdec_at bX8_waysOfOther_262 3 rfl
theorem dX8_waysOfOther_268 : decode cX8_waysOfOther 268 = .ok (.goto 131, 3) := zdec_at bX8_waysOfOther_262 4 rfl
theorem dX8_waysOfOther_271 : decode cX8_waysOfOther 271 = .ok (.aload_n 0, 1) := zdec_at bX8_waysOfOther_262 5 rfl
theorem dX8_waysOfOther_272 : decode cX8_waysOfOther 272 = .ok (.invokevirtual 1280, 3) := zdec_at bX8_waysOfOther_262 6 rfl
theorem dX8_waysOfOther_275 : decode cX8_waysOfOther 275 = .ok (.goto 124, 3) := zdec_at bX8_waysOfOther_262 7 rfl
theorem dX8_waysOfOther_278 : decode cX8_waysOfOther 278 = .ok (.sipush 25560, 3) := zdec_at bX8_waysOfOther_262 8 rfl
theorem dX8_waysOfOther_281 : decode cX8_waysOfOther 281 = .ok (.aload_n 0, 1) := zdec_at bX8_waysOfOther_262 9 rfl
theorem dX8_waysOfOther_282 : decode cX8_waysOfOther 282 = .ok (.getfield 247, 3) := zdec_at bX8_waysOfOther_262 10 rfl
theorem dX8_waysOfOther_285 : decode cX8_waysOfOther 285 = .ok (.sipush 639, 3) := zdec_at bX8_waysOfOther_262 11 rfl
theorem dX8_waysOfOther_288 : decode cX8_waysOfOther 288 = .ok (.iaload, 1) := zdec_at bX8_waysOfOther_262 12 rfl
theorem dX8_waysOfOther_289 : decode cX8_waysOfOther 289 = .ok (.iadd, 1) := zdec_at bX8_waysOfOther_262 13 rfl
theorem dX8_waysOfOther_290 : decode cX8_waysOfOther 290 = .ok (.istore 4, 2) := zdec_at bX8_waysOfOther_262 14 rfl
theorem dX8_waysOfOther_292 : decode cX8_waysOfOther 292 = .ok (.aload_n 0, 1) := zdec_at bX8_waysOfOther_262 15 rfl
theorem bX8_waysOfOther_293 : zdec cX8_waysOfOther 293 [(293, .getfield 250, 3), (296, .iload 4, 2), (298, .iload_n 2, 1), (299, .iastore, 1), (300, .aload_n 0, 1), (301, .getfield 253, 3), (304, .iload 4, 2), (306, .aload_n 0, 1), (307, .getfield 235, 3), (310, .sipush 639, 3), (313, .iaload, 1), (314, .iastore, 1), (315, .aload_n 0, 1), (316, .getfield 247, 3), (319, .sipush 639, 3), (322, .dup2, 1)] = true := by decide +kernel
theorem dX8_waysOfOther_293 : decode cX8_waysOfOther 293 = .ok (.getfield 250, 3) := zdec_at bX8_waysOfOther_293 0 rfl
theorem dX8_waysOfOther_296 : decode cX8_waysOfOther 296 = .ok (.iload 4, 2) := zdec_at bX8_waysOfOther_293 1 rfl
theorem dX8_waysOfOther_298 : decode cX8_waysOfOther 298 = .ok (.iload_n 2, 1) := zdec_at bX8_waysOfOther_293 2 rfl
theorem dX8_waysOfOther_299 : decode cX8_waysOfOther 299 = .ok (.iastore, 1) := zdec_at bX8_waysOfOther_293 3 rfl
theorem dX8_waysOfOther_300 : decode cX8_waysOfOther 300 = .ok (.aload_n 0, 1) := zdec_at bX8_waysOfOther_293 4 rfl
theorem dX8_waysOfOther_301 : decode cX8_waysOfOther 301 = .ok (.getfield 253, 3) := zdec_at bX8_waysOfOther_293 5 rfl
theorem dX8_waysOfOther_304 : decode cX8_waysOfOther 304 = .ok (.iload 4, 2) := zdec_at bX8_waysOfOther_293 6 rfl
theorem dX8_waysOfOther_306 : decode cX8_waysOfOther 306 = .ok (.aload_n 0, 1) := zdec_at bX8_waysOfOther_293 7 rfl
theorem dX8_waysOfOther_307 : decode cX8_waysOfOther 307 = .ok (.getfield 235, 3) := zdec_at bX8_waysOfOther_293 8 rfl
theorem dX8_waysOfOther_310 : decode cX8_waysOfOther 310 = .ok (.sipush 639, 3) := zdec_at bX8_waysOfOther_293 9 rfl
theorem dX8_waysOfOther_313 : decode cX8_waysOfOther 313 = .ok (.iaload, 1) := zdec_at bX8_waysOfOther_293 10 rfl
theorem dX8_waysOfOther_314 : decode cX8_waysOfOther 314 = .ok (.iastore, 1) := zdec_at bX8_waysOfOther_293 11 rfl
theorem dX8_waysOfOther_315 : decode cX8_waysOfOther 315 = .ok (.aload_n 0, 1) := zdec_at bX8_waysOfOther_293 12 rfl
theorem dX8_waysOfOther_316 : decode cX8_waysOfOther 316 = .ok (.getfield 247, 3) := zdec_at bX8_waysOfOther_293 13 rfl
theorem dX8_waysOfOther_319 : decode cX8_waysOfOther 319 = .ok (.sipush 639, 3) := zdec_at bX8_waysOfOther_293 14 rfl
theorem dX8_waysOfOther_322 : decode cX8_waysOfOther 322 = .ok (.dup2, 1) := zdec_at bX8_waysOfOther_293 15 rfl
theorem bX8_waysOfOther_323 : zdec cX8_waysOfOther 323 [(323, .iaload, 1), (324, .iconst 1, 1), (325, .iadd, 1), (326, .iastore, 1), (327, .aload_n 0, 1), (328, .invokevirtual 1222, 3), (331, .goto 68, 3), (334, .aload_n 0, 1), (335, .getfield 247, 3), (338, .sipush 639, 3), (341, .dup2, 1), (342, .iaload, 1), (343, .iconst 1, 1), (344, .isub, 1), (345, .iastore, 1), (346, .aload_n 0, 1)] = true := by decide +kernel
theorem dX8_waysOfOther_323 : decode cX8_waysOfOther 323 = .ok (.iaload, 1) := zdec_at bX8_waysOfOther_323 0 rfl
theorem dX8_waysOfOther_324 : decode cX8_waysOfOther 324 = .ok (.iconst 1, 1) := zdec_at bX8_waysOfOther_323 1 rfl
theorem dX8_waysOfOther_325 : decode cX8_waysOfOther 325 = .ok (.iadd, 1) := zdec_at bX8_waysOfOther_323 2 rfl
theorem dX8_waysOfOther_326 : decode cX8_waysOfOther 326 = .ok (.iastore, 1) := zdec_at bX8_waysOfOther_323 3 rfl
theorem dX8_waysOfOther_327 : decode cX8_waysOfOther 327 = .ok (.aload_n 0, 1) := zdec_at bX8_waysOfOther_323 4 rfl
theorem dX8_waysOfOther_328 : decode cX8_waysOfOther 328 = .ok (.invokevirtual 1222, 3) := zdec_at bX8_waysOfOther_323 5 rfl
theorem dX8_waysOfOther_331 : decode cX8_waysOfOther 331 = .ok (.goto 68, 3) := zdec_at bX8_waysOfOther_323 6 rfl
theorem dX8_waysOfOther_334 : decode cX8_waysOfOther 334 = .ok (.aload_n 0, 1) := zdec_at bX8_waysOfOther_323 7 rfl
theorem dX8_waysOfOther_335 : decode cX8_waysOfOther 335 = .ok (.getfield 247, 3) := zdec_at bX8_waysOfOther_323 8 rfl
theorem dX8_waysOfOther_338 : decode cX8_waysOfOther 338 = .ok (.sipush 639, 3) := zdec_at bX8_waysOfOther_323 9 rfl
theorem dX8_waysOfOther_341 : decode cX8_waysOfOther 341 = .ok (.dup2, 1) := zdec_at bX8_waysOfOther_323 10 rfl
theorem dX8_waysOfOther_342 : decode cX8_waysOfOther 342 = .ok (.iaload, 1) := zdec_at bX8_waysOfOther_323 11 rfl
theorem dX8_waysOfOther_343 : decode cX8_waysOfOther 343 = .ok (.iconst 1, 1) := zdec_at bX8_waysOfOther_323 12 rfl
theorem dX8_waysOfOther_344 : decode cX8_waysOfOther 344 = .ok (.isub, 1) := zdec_at bX8_waysOfOther_323 13 rfl
theorem dX8_waysOfOther_345 : decode cX8_waysOfOther 345 = .ok (.iastore, 1) := zdec_at bX8_waysOfOther_323 14 rfl
theorem dX8_waysOfOther_346 : decode cX8_waysOfOther 346 = .ok (.aload_n 0, 1) := zdec_at bX8_waysOfOther_323 15 rfl
theorem bX8_waysOfOther_347 : zdec cX8_waysOfOther 347 [(347, .invokevirtual 1222, 3), (350, .goto 49, 3), (353, .aload_n 0, 1), (354, .aload_n 0, 1), (355, .iconst 0, 1), (356, .invokevirtual 1195, 3), (359, .invokevirtual 1066, 3), (362, .aload_n 0, 1), (363, .invokevirtual 1222, 3), (366, .goto 33, 3), (369, .aload_n 0, 1), (370, .aload_n 0, 1), (371, .invokevirtual 1201, 3), (374, .iconst (-1), 1), (375, .invokevirtual 1078, 3), (378, .aload_n 0, 1)] = true := by decide +kernel
theorem dX8_waysOfOther_347 : decode cX8_waysOfOther 347 = .ok (.invokevirtual 1222, 3) := zdec_at bX8_waysOfOther_347 0 rfl
theorem dX8_waysOfOther_350 : decode cX8_waysOfOther 350 = .ok (.goto 49, 3) := zdec_at bX8_waysOfOther_347 1 rfl
theorem dX8_waysOfOther_353 : decode cX8_waysOfOther 353 = .ok (.aload_n 0, 1) := zdec_at bX8_waysOfOther_347 2 rfl
theorem dX8_waysOfOther_354 : decode cX8_waysOfOther 354 = .ok (.aload_n 0, 1) := zdec_at bX8_waysOfOther_347 3 rfl
theorem dX8_waysOfOther_355 : decode cX8_waysOfOther 355 = .ok (.iconst 0, 1) := zdec_at bX8_waysOfOther_347 4 rfl
theorem dX8_waysOfOther_356 : decode cX8_waysOfOther 356 = .ok (.invokevirtual 1195, 3) := zdec_at bX8_waysOfOther_347 5 rfl
theorem dX8_waysOfOther_359 : decode cX8_waysOfOther 359 = .ok (.invokevirtual 1066, 3) := zdec_at bX8_waysOfOther_347 6 rfl
theorem dX8_waysOfOther_362 : decode cX8_waysOfOther 362 = .ok (.aload_n 0, 1) := zdec_at bX8_waysOfOther_347 7 rfl
theorem dX8_waysOfOther_363 : decode cX8_waysOfOther 363 = .ok (.invokevirtual 1222, 3) := zdec_at bX8_waysOfOther_347 8 rfl
theorem dX8_waysOfOther_366 : decode cX8_waysOfOther 366 = .ok (.goto 33, 3) := zdec_at bX8_waysOfOther_347 9 rfl
theorem dX8_waysOfOther_369 : decode cX8_waysOfOther 369 = .ok (.aload_n 0, 1) := zdec_at bX8_waysOfOther_347 10 rfl
theorem dX8_waysOfOther_370 : decode cX8_waysOfOther 370 = .ok (.aload_n 0, 1) := zdec_at bX8_waysOfOther_347 11 rfl
theorem dX8_waysOfOther_371 : decode cX8_waysOfOther 371 = .ok (.invokevirtual 1201, 3) := zdec_at bX8_waysOfOther_347 12 rfl
theorem dX8_waysOfOther_374 : decode cX8_waysOfOther 374 = .ok (.iconst (-1), 1) := zdec_at bX8_waysOfOther_347 13 rfl
theorem dX8_waysOfOther_375 : decode cX8_waysOfOther 375 = .ok (.invokevirtual 1078, 3) := zdec_at bX8_waysOfOther_347 14 rfl
theorem dX8_waysOfOther_378 : decode cX8_waysOfOther 378 = .ok (.aload_n 0, 1) := zdec_at bX8_waysOfOther_347 15 rfl
theorem bX8_waysOfOther_379 : zdec cX8_waysOfOther 379 [(379, .invokevirtual 1222, 3), (382, .aload_n 0, 1), (383, .getfield 235, 3), (386, .sipush 639, 3), (389, .dup2, 1), (390, .iaload, 1), (391, .iconst 2, 1), (392, .isub, 1), (393, .iastore, 1), (394, .aload_n 0, 1), (395, .iload_n 2, 1), (396, .invokevirtual 1274, 3), (399, .return_, 1)] = true := by decide +kernel
theorem dX8_waysOfOther_379 : decode cX8_waysOfOther 379 = .ok (.invokevirtual 1222, 3) := zdec_at bX8_waysOfOther_379 0 rfl
theorem dX8_waysOfOther_382 : decode cX8_waysOfOther 382 = .ok (.aload_n 0, 1) := zdec_at bX8_waysOfOther_379 1 rfl
theorem dX8_waysOfOther_383 : decode cX8_waysOfOther 383 = .ok (.getfield 235, 3) := zdec_at bX8_waysOfOther_379 2 rfl
theorem dX8_waysOfOther_386 : decode cX8_waysOfOther 386 = .ok (.sipush 639, 3) := zdec_at bX8_waysOfOther_379 3 rfl
theorem dX8_waysOfOther_389 : decode cX8_waysOfOther 389 = .ok (.dup2, 1) := zdec_at bX8_waysOfOther_379 4 rfl
theorem dX8_waysOfOther_390 : decode cX8_waysOfOther 390 = .ok (.iaload, 1) := zdec_at bX8_waysOfOther_379 5 rfl
theorem dX8_waysOfOther_391 : decode cX8_waysOfOther 391 = .ok (.iconst 2, 1) := zdec_at bX8_waysOfOther_379 6 rfl
theorem dX8_waysOfOther_392 : decode cX8_waysOfOther 392 = .ok (.isub, 1) := zdec_at bX8_waysOfOther_379 7 rfl
theorem dX8_waysOfOther_393 : decode cX8_waysOfOther 393 = .ok (.iastore, 1) := zdec_at bX8_waysOfOther_379 8 rfl
theorem dX8_waysOfOther_394 : decode cX8_waysOfOther 394 = .ok (.aload_n 0, 1) := zdec_at bX8_waysOfOther_379 9 rfl
theorem dX8_waysOfOther_395 : decode cX8_waysOfOther 395 = .ok (.iload_n 2, 1) := zdec_at bX8_waysOfOther_379 10 rfl
theorem dX8_waysOfOther_396 : decode cX8_waysOfOther 396 = .ok (.invokevirtual 1274, 3) := zdec_at bX8_waysOfOther_379 11 rfl
theorem dX8_waysOfOther_399 : decode cX8_waysOfOther 399 = .ok (.return_, 1) := zdec_at bX8_waysOfOther_379 12 rfl
theorem sX8_waysOfOther_0 {E : zE} {d : Nat} {Q : zO → zM → Prop} (M : zM) (l1 : Int32) (l2 : Int32) (k : vp_in (639 : Int32) 640 ∧ (if (gi M 171 ((639 : Int32)).toNatClampNeg) ≤ 0 then (Zm E YX8_waysOfOther (d + 1) M [(0, vr (some (97, 1, 0))), (1, vi l1), (2, vi l2), (3, vi (647740 : Int32))] 25 [] Q) else (Zm E YX8_fromTop d M (zargs 0 [vr (some (97, 1, 0)), vi (0 : Int32)]) 0 [] (zma E YX8_waysOfOther (d + 1) [(0, vr (some (97, 1, 0))), (1, vi l1), (2, vi l2), (3, vi (647740 : Int32))] 18 3 [vr (some (97, 1, 0))] Q)))) : Zm E YX8_waysOfOther (d + 1) M [(0, vr (some (97, 1, 0))), (1, vi l1), (2, vi l2)] 0 [] Q := by
  refine Zm.l (fun _ _ k_ => z_ldcw (v := 647740) dX8_waysOfOther_0 q4880 k_) ?_
  refine Zm.l (fun _ _ k_ => z_ist_n dX8_waysOfOther_3 rfl (by decide) (lv' := [(0, vr (some (97, 1, 0))), (1, vi l1), (2, vi l2), (3, vi (647740 : Int32))]) rfl k_) ?_
  refine Zm.l (fun _ _ k_ => z_aload_n dX8_waysOfOther_4 rfl rfl k_) ?_
  refine zm_getr 68 dX8_waysOfOther_5 fsX8_235_1 rfl ?_
  refine Zm.l (fun _ _ k_ => z_sipush (v := 639) dX8_waysOfOther_8 rfl k_) ?_
  obtain ⟨b_, k⟩ := k
  refine zm_iald dX8_waysOfOther_11 b_ (by decide) (by decide) ?_
  refine Zm.br (fun _ _ k1_ k2_ => z_if_le (tgt := 25) dX8_waysOfOther_12 rfl k1_ k2_) (fun h_ => ?_) (fun h_ => ?_)
  · have k := zit h_ k
    exact k
  · have k := zif h_ k
    refine Zm.l (fun _ _ k_ => z_aload_n dX8_waysOfOther_15 rfl rfl k_) ?_
    refine Zm.l (fun _ _ k_ => z_aload_n dX8_waysOfOther_16 rfl rfl k_) ?_
    refine Zm.l (fun _ _ k_ => z_iconst (v := 0) dX8_waysOfOther_17 rfl k_) ?_
    exact zm_callV (as := [vi (0 : Int32)]) (st := [vr (some (97, 1, 0))]) dX8_waysOfOther_18 vsX8_1195_1 (Nat.le_refl _) (Nat.le_of_ble_eq_true rfl) (Nat.le_of_ble_eq_true rfl) rfl k
theorem sX8_waysOfOther_21 {E : zE} {d : Nat} {Q : zO → zM → Prop} (M : zM) (l1 : Int32) (l2 : Int32) (l3 : Int32) (s0 : Int32) (k : Zm E YX8_copySet d M (zargs 0 [vr (some (97, 1, 0)), vi s0, vi l3]) 0 [] (zma E YX8_waysOfOther (d + 1) [(0, vr (some (97, 1, 0))), (1, vi l1), (2, vi l2), (3, vi l3)] 22 3 [] Q)) : Zm E YX8_waysOfOther (d + 1) M [(0, vr (some (97, 1, 0))), (1, vi l1), (2, vi l2), (3, vi l3)] 21 [vi s0, vr (some (97, 1, 0))] Q := by
  refine Zm.l (fun _ _ k_ => z_iload_n dX8_waysOfOther_21 rfl rfl k_) ?_
  exact zm_callV (as := [vi s0, vi l3]) (st := []) dX8_waysOfOther_22 vsX8_1092_1 (Nat.le_refl _) (Nat.le_of_ble_eq_true rfl) (Nat.le_of_ble_eq_true rfl) rfl k
theorem sX8_waysOfOther_25 {E : zE} {d : Nat} {Q : zO → zM → Prop} (M : zM) (l1 : Int32) (l2 : Int32) (l3 : Int32) (k : if l1 = 17 then (vp_in (639 : Int32) 640 ∧ (vp_in (639 : Int32) 640 ∧ (Zm E YX8_on d (si M 171 ((639 : Int32)).toNatClampNeg ((gi M 171 ((639 : Int32)).toNatClampNeg) - (1 : Int32))) (zargs 0 [vr (some (97, 1, 0))]) 0 [] (zma E YX8_waysOfOther (d + 1) [] 105 3 [] Q)))) else (if l1 = 18 then (Zm E YX8_pushSet d M (zargs 0 [vr (some (97, 1, 0))]) 0 [] (zma E YX8_waysOfOther (d + 1) [(0, vr (some (97, 1, 0)))] 114 3 [vi l3, vr (some (97, 1, 0))] Q)) else (if l1 = 19 then (Zm E YX8_fromTop d M (zargs 0 [vr (some (97, 1, 0)), vi (1 : Int32)]) 0 [] (zma E YX8_waysOfOther (d + 1) [(0, vr (some (97, 1, 0))), (3, vi l3)] 130 3 [vr (some (97, 1, 0))] Q)) else (if l1 = 20 then (Zm E YX8_pushSet d M (zargs 0 [vr (some (97, 1, 0))]) 0 [] (zma E YX8_waysOfOther (d + 1) [(0, vr (some (97, 1, 0))), (3, vi l3)] 157 3 [] Q)) else (if l1 = 21 then (Zm E YX8_to d M (zargs 0 [vr (some (97, 1, 0)), vi l2]) 0 [] (zma E YX8_waysOfOther (d + 1) [] 214 3 [] Q)) else (if l1 = 22 then (Zm E YX8_waysOfTest d M (zargs 0 [vr (some (97, 1, 0)), vi l1, vi l2, vi l3]) 0 [] (zma E YX8_waysOfOther (d + 1) [] 224 3 [] Q)) else (if l1 = 23 then (Zm E YX8_waysOfTest d M (zargs 0 [vr (some (97, 1, 0)), vi l1, vi l2, vi l3]) 0 [] (zma E YX8_waysOfOther (d + 1) [] 224 3 [] Q)) else (if l1 = 24 then (Zm E YX8_waysOfTest d M (zargs 0 [vr (some (97, 1, 0)), vi l1, vi l2, vi l3]) 0 [] (zma E YX8_waysOfOther (d + 1) [] 224 3 [] Q)) else (if l1 = 25 then (vp_in (639 : Int32) 640 ∧ (Zm E YX8_pushSet d (si M 171 ((639 : Int32)).toNatClampNeg (0 : Int32)) (zargs 0 [vr (some (97, 1, 0))]) 0 [] (zma E YX8_waysOfOther (d + 1) [(0, vr (some (97, 1, 0)))] 242 3 [vi l3, vr (some (97, 1, 0))] Q))) else (if l1 = 26 then (Zm E YX8_tossTop d M (zargs 0 [vr (some (97, 1, 0))]) 0 [] (zma E YX8_waysOfOther (d + 1) [] 272 3 [] Q)) else (if l1 = 27 then (vp_in (639 : Int32) 640 ∧ (vp_in ((25560 : Int32) + (gi M 175 ((639 : Int32)).toNatClampNeg)) 25600 ∧ (vp_in (639 : Int32) 640 ∧ (vp_in ((25560 : Int32) + (gi M 175 ((639 : Int32)).toNatClampNeg)) 25600 ∧ (vp_in (639 : Int32) 640 ∧ (vp_in (639 : Int32) 640 ∧ (Zm E YX8_on d (si (si (si M 176 (((25560 : Int32) + (gi M 175 ((639 : Int32)).toNatClampNeg))).toNatClampNeg l2) 177 (((25560 : Int32) + (gi M 175 ((639 : Int32)).toNatClampNeg))).toNatClampNeg (gi M 171 ((639 : Int32)).toNatClampNeg)) 175 ((639 : Int32)).toNatClampNeg ((gi M 175 ((639 : Int32)).toNatClampNeg) + (1 : Int32))) (zargs 0 [vr (some (97, 1, 0))]) 0 [] (zma E YX8_waysOfOther (d + 1) [] 328 3 [] Q)))))))) else (if l1 = 28 then (vp_in (639 : Int32) 640 ∧ (vp_in (639 : Int32) 640 ∧ (Zm E YX8_on d (si M 175 ((639 : Int32)).toNatClampNeg ((gi M 175 ((639 : Int32)).toNatClampNeg) - (1 : Int32))) (zargs 0 [vr (some (97, 1, 0))]) 0 [] (zma E YX8_waysOfOther (d + 1) [] 347 3 [] Q)))) else (if l1 = 29 then (Zm E YX8_fromTop d M (zargs 0 [vr (some (97, 1, 0)), vi (0 : Int32)]) 0 [] (zma E YX8_waysOfOther (d + 1) [(0, vr (some (97, 1, 0)))] 356 3 [vr (some (97, 1, 0))] Q)) else (Zm E YX8_pushSet d M (zargs 0 [vr (some (97, 1, 0))]) 0 [] (zma E YX8_waysOfOther (d + 1) [(0, vr (some (97, 1, 0))), (2, vi l2)] 371 3 [vr (some (97, 1, 0))] Q))))))))))))))) : Zm E YX8_waysOfOther (d + 1) M [(0, vr (some (97, 1, 0))), (1, vi l1), (2, vi l2), (3, vi l3)] 25 [] Q := by
  refine Zm.l (fun _ _ k_ => z_iload_n dX8_waysOfOther_25 rfl rfl k_) ?_
  by_cases h0_ : l1 = 17
  · have k := zit h0_ k
    refine Zm.l (fun _ _ k_ => z_tableIn (off := 66) (tgt := 92) dX8_waysOfOther_26 (by rw [h0_]; decide) (by rw [h0_]; decide) (by rw [h0_]; rfl) rfl k_) ?_
    refine Zm.l (fun _ _ k_ => z_aload_n dX8_waysOfOther_92 rfl rfl k_) ?_
    refine zm_getr 68 dX8_waysOfOther_93 fsX8_235_1 rfl ?_
    refine Zm.l (fun _ _ k_ => z_sipush (v := 639) dX8_waysOfOther_96 rfl k_) ?_
    refine Zm.l (fun _ _ k_ => z_dup2 dX8_waysOfOther_99 rfl rfl k_) ?_
    obtain ⟨b_, k⟩ := k
    refine zm_iald dX8_waysOfOther_100 b_ (by decide) (by decide) ?_
    refine Zm.l (fun _ _ k_ => z_iconst (v := 1) dX8_waysOfOther_101 rfl k_) ?_
    refine Zm.l (fun _ _ k_ => z_isub dX8_waysOfOther_102 k_) ?_
    obtain ⟨b_, k⟩ := k
    refine zm_iast dX8_waysOfOther_103 b_ (by decide) (by decide) ?_
    refine Zm.l (fun _ _ k_ => z_aload_n dX8_waysOfOther_104 rfl rfl k_) ?_
    refine Zm.pick [] rfl ?_
    exact zm_callV (as := []) (st := []) dX8_waysOfOther_105 vsX8_1222_1 (Nat.le_refl _) (Nat.le_of_ble_eq_true rfl) (Nat.le_of_ble_eq_true rfl) rfl k
  · have k := zif h0_ k
    by_cases h1_ : l1 = 18
    · have k := zit h1_ k
      refine Zm.l (fun _ _ k_ => z_tableIn (off := 85) (tgt := 111) dX8_waysOfOther_26 (by rw [h1_]; decide) (by rw [h1_]; decide) (by rw [h1_]; rfl) rfl k_) ?_
      refine Zm.l (fun _ _ k_ => z_aload_n dX8_waysOfOther_111 rfl rfl k_) ?_
      refine Zm.l (fun _ _ k_ => z_iload_n dX8_waysOfOther_112 rfl rfl k_) ?_
      refine Zm.l (fun _ _ k_ => z_aload_n dX8_waysOfOther_113 rfl rfl k_) ?_
      refine Zm.pick [0] rfl ?_
      exact zm_callV (as := []) (st := [vi l3, vr (some (97, 1, 0))]) dX8_waysOfOther_114 vsX8_1201_1 (Nat.le_refl _) (Nat.le_of_ble_eq_true rfl) (Nat.le_of_ble_eq_true rfl) rfl k
    · have k := zif h1_ k
      by_cases h2_ : l1 = 19
      · have k := zit h2_ k
        refine Zm.l (fun _ _ k_ => z_tableIn (off := 101) (tgt := 127) dX8_waysOfOther_26 (by rw [h2_]; decide) (by rw [h2_]; decide) (by rw [h2_]; rfl) rfl k_) ?_
        refine Zm.l (fun _ _ k_ => z_aload_n dX8_waysOfOther_127 rfl rfl k_) ?_
        refine Zm.l (fun _ _ k_ => z_aload_n dX8_waysOfOther_128 rfl rfl k_) ?_
        refine Zm.l (fun _ _ k_ => z_iconst (v := 1) dX8_waysOfOther_129 rfl k_) ?_
        refine Zm.pick [0, 3] rfl ?_
        exact zm_callV (as := [vi (1 : Int32)]) (st := [vr (some (97, 1, 0))]) dX8_waysOfOther_130 vsX8_1195_1 (Nat.le_refl _) (Nat.le_of_ble_eq_true rfl) (Nat.le_of_ble_eq_true rfl) rfl k
      · have k := zif h2_ k
        by_cases h3_ : l1 = 20
        · have k := zit h3_ k
          refine Zm.l (fun _ _ k_ => z_tableIn (off := 130) (tgt := 156) dX8_waysOfOther_26 (by rw [h3_]; decide) (by rw [h3_]; decide) (by rw [h3_]; rfl) rfl k_) ?_
          refine Zm.l (fun _ _ k_ => z_aload_n dX8_waysOfOther_156 rfl rfl k_) ?_
          refine Zm.pick [0, 3] rfl ?_
          exact zm_callV (as := []) (st := []) dX8_waysOfOther_157 vsX8_1201_1 (Nat.le_refl _) (Nat.le_of_ble_eq_true rfl) (Nat.le_of_ble_eq_true rfl) rfl k
        · have k := zif h3_ k
          by_cases h4_ : l1 = 21
          · have k := zit h4_ k
            refine Zm.l (fun _ _ k_ => z_tableIn (off := 186) (tgt := 212) dX8_waysOfOther_26 (by rw [h4_]; decide) (by rw [h4_]; decide) (by rw [h4_]; rfl) rfl k_) ?_
            refine Zm.l (fun _ _ k_ => z_aload_n dX8_waysOfOther_212 rfl rfl k_) ?_
            refine Zm.l (fun _ _ k_ => z_iload_n dX8_waysOfOther_213 rfl rfl k_) ?_
            refine Zm.pick [] rfl ?_
            exact zm_callV (as := [vi l2]) (st := []) dX8_waysOfOther_214 vsX8_1274_1 (Nat.le_refl _) (Nat.le_of_ble_eq_true rfl) (Nat.le_of_ble_eq_true rfl) rfl k
          · have k := zif h4_ k
            by_cases h5_ : l1 = 22
            · have k := zit h5_ k
              refine Zm.l (fun _ _ k_ => z_tableIn (off := 194) (tgt := 220) dX8_waysOfOther_26 (by rw [h5_]; decide) (by rw [h5_]; decide) (by rw [h5_]; rfl) rfl k_) ?_
              refine Zm.l (fun _ _ k_ => z_aload_n dX8_waysOfOther_220 rfl rfl k_) ?_
              refine Zm.l (fun _ _ k_ => z_iload_n dX8_waysOfOther_221 rfl rfl k_) ?_
              refine Zm.l (fun _ _ k_ => z_iload_n dX8_waysOfOther_222 rfl rfl k_) ?_
              refine Zm.l (fun _ _ k_ => z_iload_n dX8_waysOfOther_223 rfl rfl k_) ?_
              refine Zm.pick [] rfl ?_
              exact zm_callV (as := [vi l1, vi l2, vi l3]) (st := []) dX8_waysOfOther_224 vsX8_1277_1 (Nat.le_refl _) (Nat.le_of_ble_eq_true rfl) (Nat.le_of_ble_eq_true rfl) rfl k
            · have k := zif h5_ k
              by_cases h6_ : l1 = 23
              · have k := zit h6_ k
                refine Zm.l (fun _ _ k_ => z_tableIn (off := 194) (tgt := 220) dX8_waysOfOther_26 (by rw [h6_]; decide) (by rw [h6_]; decide) (by rw [h6_]; rfl) rfl k_) ?_
                refine Zm.l (fun _ _ k_ => z_aload_n dX8_waysOfOther_220 rfl rfl k_) ?_
                refine Zm.l (fun _ _ k_ => z_iload_n dX8_waysOfOther_221 rfl rfl k_) ?_
                refine Zm.l (fun _ _ k_ => z_iload_n dX8_waysOfOther_222 rfl rfl k_) ?_
                refine Zm.l (fun _ _ k_ => z_iload_n dX8_waysOfOther_223 rfl rfl k_) ?_
                refine Zm.pick [] rfl ?_
                exact zm_callV (as := [vi l1, vi l2, vi l3]) (st := []) dX8_waysOfOther_224 vsX8_1277_1 (Nat.le_refl _) (Nat.le_of_ble_eq_true rfl) (Nat.le_of_ble_eq_true rfl) rfl k
              · have k := zif h6_ k
                by_cases h7_ : l1 = 24
                · have k := zit h7_ k
                  refine Zm.l (fun _ _ k_ => z_tableIn (off := 194) (tgt := 220) dX8_waysOfOther_26 (by rw [h7_]; decide) (by rw [h7_]; decide) (by rw [h7_]; rfl) rfl k_) ?_
                  refine Zm.l (fun _ _ k_ => z_aload_n dX8_waysOfOther_220 rfl rfl k_) ?_
                  refine Zm.l (fun _ _ k_ => z_iload_n dX8_waysOfOther_221 rfl rfl k_) ?_
                  refine Zm.l (fun _ _ k_ => z_iload_n dX8_waysOfOther_222 rfl rfl k_) ?_
                  refine Zm.l (fun _ _ k_ => z_iload_n dX8_waysOfOther_223 rfl rfl k_) ?_
                  refine Zm.pick [] rfl ?_
                  exact zm_callV (as := [vi l1, vi l2, vi l3]) (st := []) dX8_waysOfOther_224 vsX8_1277_1 (Nat.le_refl _) (Nat.le_of_ble_eq_true rfl) (Nat.le_of_ble_eq_true rfl) rfl k
                · have k := zif h7_ k
                  by_cases h8_ : l1 = 25
                  · have k := zit h8_ k
                    refine Zm.l (fun _ _ k_ => z_tableIn (off := 204) (tgt := 230) dX8_waysOfOther_26 (by rw [h8_]; decide) (by rw [h8_]; decide) (by rw [h8_]; rfl) rfl k_) ?_
                    refine Zm.l (fun _ _ k_ => z_aload_n dX8_waysOfOther_230 rfl rfl k_) ?_
                    refine zm_getr 68 dX8_waysOfOther_231 fsX8_235_1 rfl ?_
                    refine Zm.l (fun _ _ k_ => z_sipush (v := 639) dX8_waysOfOther_234 rfl k_) ?_
                    refine Zm.l (fun _ _ k_ => z_iconst (v := 0) dX8_waysOfOther_237 rfl k_) ?_
                    obtain ⟨b_, k⟩ := k
                    refine zm_iast dX8_waysOfOther_238 b_ (by decide) (by decide) ?_
                    refine Zm.l (fun _ _ k_ => z_aload_n dX8_waysOfOther_239 rfl rfl k_) ?_
                    refine Zm.l (fun _ _ k_ => z_iload_n dX8_waysOfOther_240 rfl rfl k_) ?_
                    refine Zm.l (fun _ _ k_ => z_aload_n dX8_waysOfOther_241 rfl rfl k_) ?_
                    refine Zm.pick [0] rfl ?_
                    exact zm_callV (as := []) (st := [vi l3, vr (some (97, 1, 0))]) dX8_waysOfOther_242 vsX8_1201_1 (Nat.le_refl _) (Nat.le_of_ble_eq_true rfl) (Nat.le_of_ble_eq_true rfl) rfl k
                  · have k := zif h8_ k
                    by_cases h9_ : l1 = 26
                    · have k := zit h9_ k
                      refine Zm.l (fun _ _ k_ => z_tableIn (off := 245) (tgt := 271) dX8_waysOfOther_26 (by rw [h9_]; decide) (by rw [h9_]; decide) (by rw [h9_]; rfl) rfl k_) ?_
                      refine Zm.l (fun _ _ k_ => z_aload_n dX8_waysOfOther_271 rfl rfl k_) ?_
                      refine Zm.pick [] rfl ?_
                      exact zm_callV (as := []) (st := []) dX8_waysOfOther_272 vsX8_1280_1 (Nat.le_refl _) (Nat.le_of_ble_eq_true rfl) (Nat.le_of_ble_eq_true rfl) rfl k
                    · have k := zif h9_ k
                      by_cases h10_ : l1 = 27
                      · have k := zit h10_ k
                        refine Zm.l (fun _ _ k_ => z_tableIn (off := 252) (tgt := 278) dX8_waysOfOther_26 (by rw [h10_]; decide) (by rw [h10_]; decide) (by rw [h10_]; rfl) rfl k_) ?_
                        refine Zm.l (fun _ _ k_ => z_sipush (v := 25560) dX8_waysOfOther_278 rfl k_) ?_
                        refine Zm.l (fun _ _ k_ => z_aload_n dX8_waysOfOther_281 rfl rfl k_) ?_
                        refine zm_getr 72 dX8_waysOfOther_282 fsX8_247_1 rfl ?_
                        refine Zm.l (fun _ _ k_ => z_sipush (v := 639) dX8_waysOfOther_285 rfl k_) ?_
                        obtain ⟨b_, k⟩ := k
                        refine zm_iald dX8_waysOfOther_288 b_ (by decide) (by decide) ?_
                        refine Zm.l (fun _ _ k_ => z_iadd dX8_waysOfOther_289 k_) ?_
                        refine Zm.l (fun _ _ k_ => z_ist dX8_waysOfOther_290 (by decide) (lv' := [(0, vr (some (97, 1, 0))), (1, vi l1), (2, vi l2), (3, vi l3), (4, vi ((25560 : Int32) + (gi M 175 ((639 : Int32)).toNatClampNeg)))]) rfl k_) ?_
                        refine Zm.l (fun _ _ k_ => z_aload_n dX8_waysOfOther_292 rfl rfl k_) ?_
                        refine zm_getr 73 dX8_waysOfOther_293 fsX8_250_1 rfl ?_
                        refine Zm.l (fun _ _ k_ => z_iload dX8_waysOfOther_296 rfl k_) ?_
                        refine Zm.l (fun _ _ k_ => z_iload_n dX8_waysOfOther_298 rfl rfl k_) ?_
                        obtain ⟨b_, k⟩ := k
                        refine zm_iast dX8_waysOfOther_299 b_ (by decide) (by decide) ?_
                        refine Zm.l (fun _ _ k_ => z_aload_n dX8_waysOfOther_300 rfl rfl k_) ?_
                        refine zm_getr 74 dX8_waysOfOther_301 fsX8_253_1 rfl ?_
                        refine Zm.l (fun _ _ k_ => z_iload dX8_waysOfOther_304 rfl k_) ?_
                        refine Zm.l (fun _ _ k_ => z_aload_n dX8_waysOfOther_306 rfl rfl k_) ?_
                        refine zm_getr 68 dX8_waysOfOther_307 fsX8_235_1 rfl ?_
                        refine Zm.l (fun _ _ k_ => z_sipush (v := 639) dX8_waysOfOther_310 rfl k_) ?_
                        obtain ⟨b_, k⟩ := k
                        refine zm_iald dX8_waysOfOther_313 b_ (by decide) (by decide) ?_
                        obtain ⟨b_, k⟩ := k
                        refine zm_iast dX8_waysOfOther_314 b_ (by decide) (by decide) ?_
                        refine Zm.l (fun _ _ k_ => z_aload_n dX8_waysOfOther_315 rfl rfl k_) ?_
                        refine zm_getr 72 dX8_waysOfOther_316 fsX8_247_1 rfl ?_
                        refine Zm.l (fun _ _ k_ => z_sipush (v := 639) dX8_waysOfOther_319 rfl k_) ?_
                        refine Zm.l (fun _ _ k_ => z_dup2 dX8_waysOfOther_322 rfl rfl k_) ?_
                        obtain ⟨b_, k⟩ := k
                        refine zm_iald dX8_waysOfOther_323 b_ (by decide) (by decide) ?_
                        refine Zm.l (fun _ _ k_ => z_iconst (v := 1) dX8_waysOfOther_324 rfl k_) ?_
                        refine Zm.l (fun _ _ k_ => z_iadd dX8_waysOfOther_325 k_) ?_
                        obtain ⟨b_, k⟩ := k
                        refine zm_iast dX8_waysOfOther_326 b_ (by decide) (by decide) ?_
                        refine Zm.l (fun _ _ k_ => z_aload_n dX8_waysOfOther_327 rfl rfl k_) ?_
                        refine Zm.pick [] rfl ?_
                        exact zm_callV (as := []) (st := []) dX8_waysOfOther_328 vsX8_1222_1 (Nat.le_refl _) (Nat.le_of_ble_eq_true rfl) (Nat.le_of_ble_eq_true rfl) rfl k
                      · have k := zif h10_ k
                        by_cases h11_ : l1 = 28
                        · have k := zit h11_ k
                          refine Zm.l (fun _ _ k_ => z_tableIn (off := 308) (tgt := 334) dX8_waysOfOther_26 (by rw [h11_]; decide) (by rw [h11_]; decide) (by rw [h11_]; rfl) rfl k_) ?_
                          refine Zm.l (fun _ _ k_ => z_aload_n dX8_waysOfOther_334 rfl rfl k_) ?_
                          refine zm_getr 72 dX8_waysOfOther_335 fsX8_247_1 rfl ?_
                          refine Zm.l (fun _ _ k_ => z_sipush (v := 639) dX8_waysOfOther_338 rfl k_) ?_
                          refine Zm.l (fun _ _ k_ => z_dup2 dX8_waysOfOther_341 rfl rfl k_) ?_
                          obtain ⟨b_, k⟩ := k
                          refine zm_iald dX8_waysOfOther_342 b_ (by decide) (by decide) ?_
                          refine Zm.l (fun _ _ k_ => z_iconst (v := 1) dX8_waysOfOther_343 rfl k_) ?_
                          refine Zm.l (fun _ _ k_ => z_isub dX8_waysOfOther_344 k_) ?_
                          obtain ⟨b_, k⟩ := k
                          refine zm_iast dX8_waysOfOther_345 b_ (by decide) (by decide) ?_
                          refine Zm.l (fun _ _ k_ => z_aload_n dX8_waysOfOther_346 rfl rfl k_) ?_
                          refine Zm.pick [] rfl ?_
                          exact zm_callV (as := []) (st := []) dX8_waysOfOther_347 vsX8_1222_1 (Nat.le_refl _) (Nat.le_of_ble_eq_true rfl) (Nat.le_of_ble_eq_true rfl) rfl k
                        · have k := zif h11_ k
                          by_cases h12_ : l1 = 29
                          · have k := zit h12_ k
                            refine Zm.l (fun _ _ k_ => z_tableIn (off := 327) (tgt := 353) dX8_waysOfOther_26 (by rw [h12_]; decide) (by rw [h12_]; decide) (by rw [h12_]; rfl) rfl k_) ?_
                            refine Zm.l (fun _ _ k_ => z_aload_n dX8_waysOfOther_353 rfl rfl k_) ?_
                            refine Zm.l (fun _ _ k_ => z_aload_n dX8_waysOfOther_354 rfl rfl k_) ?_
                            refine Zm.l (fun _ _ k_ => z_iconst (v := 0) dX8_waysOfOther_355 rfl k_) ?_
                            refine Zm.pick [0] rfl ?_
                            exact zm_callV (as := [vi (0 : Int32)]) (st := [vr (some (97, 1, 0))]) dX8_waysOfOther_356 vsX8_1195_1 (Nat.le_refl _) (Nat.le_of_ble_eq_true rfl) (Nat.le_of_ble_eq_true rfl) rfl k
                          · have k := zif h12_ k
                            refine Zm.l (fun _ _ k_ => z_tout (tgt := 369) [17, 18, 19, 20, 21, 22, 23, 24, 25, 26, 27, 28, 29] (by decide) dX8_waysOfOther_26 (zall_1 h0_ (zall_1 h1_ (zall_1 h2_ (zall_1 h3_ (zall_1 h4_ (zall_1 h5_ (zall_1 h6_ (zall_1 h7_ (zall_1 h8_ (zall_1 h9_ (zall_1 h10_ (zall_1 h11_ (zall_1 h12_ zall_0))))))))))))) rfl k_) ?_
                            refine Zm.l (fun _ _ k_ => z_aload_n dX8_waysOfOther_369 rfl rfl k_) ?_
                            refine Zm.l (fun _ _ k_ => z_aload_n dX8_waysOfOther_370 rfl rfl k_) ?_
                            refine Zm.pick [0, 2] rfl ?_
                            exact zm_callV (as := []) (st := [vr (some (97, 1, 0))]) dX8_waysOfOther_371 vsX8_1201_1 (Nat.le_refl _) (Nat.le_of_ble_eq_true rfl) (Nat.le_of_ble_eq_true rfl) rfl k
theorem sX8_waysOfOther_108 {E : zE} {d : Nat} {Q : zO → zM → Prop} (M : zM)  (k : Zm E YX8_waysOfOther (d + 1) M [] 399 [] Q) : Zm E YX8_waysOfOther (d + 1) M [] 108 [] Q := by
  refine Zm.l (fun _ _ k_ => z_goto (tgt := 399) dX8_waysOfOther_108 rfl k_) ?_
  exact k
theorem sX8_waysOfOther_117 {E : zE} {d : Nat} {Q : zO → zM → Prop} (M : zM) (s0 : Int32) (s1 : Int32) (k : Zm E YX8_copySet d M (zargs 0 [vr (some (97, 1, 0)), vi s1, vi s0]) 0 [] (zma E YX8_waysOfOther (d + 1) [(0, vr (some (97, 1, 0)))] 117 3 [] Q)) : Zm E YX8_waysOfOther (d + 1) M [(0, vr (some (97, 1, 0)))] 117 [vi s0, vi s1, vr (some (97, 1, 0))] Q := by
  exact zm_callV (as := [vi s1, vi s0]) (st := []) dX8_waysOfOther_117 vsX8_1092_1 (Nat.le_refl _) (Nat.le_of_ble_eq_true rfl) (Nat.le_of_ble_eq_true rfl) rfl k
theorem sX8_waysOfOther_120 {E : zE} {d : Nat} {Q : zO → zM → Prop} (M : zM)  (k : Zm E YX8_on d M (zargs 0 [vr (some (97, 1, 0))]) 0 [] (zma E YX8_waysOfOther (d + 1) [] 121 3 [] Q)) : Zm E YX8_waysOfOther (d + 1) M [(0, vr (some (97, 1, 0)))] 120 [] Q := by
  refine Zm.l (fun _ _ k_ => z_aload_n dX8_waysOfOther_120 rfl rfl k_) ?_
  refine Zm.pick [] rfl ?_
  exact zm_callV (as := []) (st := []) dX8_waysOfOther_121 vsX8_1222_1 (Nat.le_refl _) (Nat.le_of_ble_eq_true rfl) (Nat.le_of_ble_eq_true rfl) rfl k
theorem sX8_waysOfOther_124 {E : zE} {d : Nat} {Q : zO → zM → Prop} (M : zM)  (k : Zm E YX8_waysOfOther (d + 1) M [] 399 [] Q) : Zm E YX8_waysOfOther (d + 1) M [] 124 [] Q := by
  refine Zm.l (fun _ _ k_ => z_goto (tgt := 399) dX8_waysOfOther_124 rfl k_) ?_
  exact k
theorem sX8_waysOfOther_133 {E : zE} {d : Nat} {Q : zO → zM → Prop} (M : zM) (l3 : Int32) (s0 : Int32) (k : Zm E YX8_pushSet d M (zargs 0 [vr (some (97, 1, 0))]) 0 [] (zma E YX8_waysOfOther (d + 1) [(0, vr (some (97, 1, 0))), (3, vi l3)] 134 3 [vi s0, vr (some (97, 1, 0))] Q)) : Zm E YX8_waysOfOther (d + 1) M [(0, vr (some (97, 1, 0))), (3, vi l3)] 133 [vi s0, vr (some (97, 1, 0))] Q := by
  refine Zm.l (fun _ _ k_ => z_aload_n dX8_waysOfOther_133 rfl rfl k_) ?_
  exact zm_callV (as := []) (st := [vi s0, vr (some (97, 1, 0))]) dX8_waysOfOther_134 vsX8_1201_1 (Nat.le_refl _) (Nat.le_of_ble_eq_true rfl) (Nat.le_of_ble_eq_true rfl) rfl k
theorem sX8_waysOfOther_137 {E : zE} {d : Nat} {Q : zO → zM → Prop} (M : zM) (l3 : Int32) (s0 : Int32) (s1 : Int32) (k : Zm E YX8_copySet d M (zargs 0 [vr (some (97, 1, 0)), vi s1, vi s0]) 0 [] (zma E YX8_waysOfOther (d + 1) [(0, vr (some (97, 1, 0))), (3, vi l3)] 137 3 [] Q)) : Zm E YX8_waysOfOther (d + 1) M [(0, vr (some (97, 1, 0))), (3, vi l3)] 137 [vi s0, vi s1, vr (some (97, 1, 0))] Q := by
  exact zm_callV (as := [vi s1, vi s0]) (st := []) dX8_waysOfOther_137 vsX8_1092_1 (Nat.le_refl _) (Nat.le_of_ble_eq_true rfl) (Nat.le_of_ble_eq_true rfl) rfl k
theorem sX8_waysOfOther_140 {E : zE} {d : Nat} {Q : zO → zM → Prop} (M : zM) (l3 : Int32) (k : Zm E YX8_pushSet d M (zargs 0 [vr (some (97, 1, 0))]) 0 [] (zma E YX8_waysOfOther (d + 1) [(0, vr (some (97, 1, 0)))] 143 3 [vi l3, vr (some (97, 1, 0))] Q)) : Zm E YX8_waysOfOther (d + 1) M [(0, vr (some (97, 1, 0))), (3, vi l3)] 140 [] Q := by
  refine Zm.l (fun _ _ k_ => z_aload_n dX8_waysOfOther_140 rfl rfl k_) ?_
  refine Zm.l (fun _ _ k_ => z_iload_n dX8_waysOfOther_141 rfl rfl k_) ?_
  refine Zm.l (fun _ _ k_ => z_aload_n dX8_waysOfOther_142 rfl rfl k_) ?_
  refine Zm.pick [0] rfl ?_
  exact zm_callV (as := []) (st := [vi l3, vr (some (97, 1, 0))]) dX8_waysOfOther_143 vsX8_1201_1 (Nat.le_refl _) (Nat.le_of_ble_eq_true rfl) (Nat.le_of_ble_eq_true rfl) rfl k
theorem sX8_waysOfOther_146 {E : zE} {d : Nat} {Q : zO → zM → Prop} (M : zM) (s0 : Int32) (s1 : Int32) (k : Zm E YX8_copySet d M (zargs 0 [vr (some (97, 1, 0)), vi s1, vi s0]) 0 [] (zma E YX8_waysOfOther (d + 1) [(0, vr (some (97, 1, 0)))] 146 3 [] Q)) : Zm E YX8_waysOfOther (d + 1) M [(0, vr (some (97, 1, 0)))] 146 [vi s0, vi s1, vr (some (97, 1, 0))] Q := by
  exact zm_callV (as := [vi s1, vi s0]) (st := []) dX8_waysOfOther_146 vsX8_1092_1 (Nat.le_refl _) (Nat.le_of_ble_eq_true rfl) (Nat.le_of_ble_eq_true rfl) rfl k
theorem sX8_waysOfOther_149 {E : zE} {d : Nat} {Q : zO → zM → Prop} (M : zM)  (k : Zm E YX8_on d M (zargs 0 [vr (some (97, 1, 0))]) 0 [] (zma E YX8_waysOfOther (d + 1) [] 150 3 [] Q)) : Zm E YX8_waysOfOther (d + 1) M [(0, vr (some (97, 1, 0)))] 149 [] Q := by
  refine Zm.l (fun _ _ k_ => z_aload_n dX8_waysOfOther_149 rfl rfl k_) ?_
  refine Zm.pick [] rfl ?_
  exact zm_callV (as := []) (st := []) dX8_waysOfOther_150 vsX8_1222_1 (Nat.le_refl _) (Nat.le_of_ble_eq_true rfl) (Nat.le_of_ble_eq_true rfl) rfl k
theorem sX8_waysOfOther_153 {E : zE} {d : Nat} {Q : zO → zM → Prop} (M : zM)  (k : Zm E YX8_waysOfOther (d + 1) M [] 399 [] Q) : Zm E YX8_waysOfOther (d + 1) M [] 153 [] Q := by
  refine Zm.l (fun _ _ k_ => z_goto (tgt := 399) dX8_waysOfOther_153 rfl k_) ?_
  exact k
theorem sX8_waysOfOther_160 {E : zE} {d : Nat} {Q : zO → zM → Prop} (M : zM) (l3 : Int32) (s0 : Int32) (k : Zm E YX8_copySet d M (zargs 0 [vr (some (97, 1, 0)), vi (s0 - (1 : Int32)), vi s0]) 0 [] (zma E YX8_waysOfOther (d + 1) [(0, vr (some (97, 1, 0))), (3, vi l3), (4, vi s0)] 169 3 [] Q)) : Zm E YX8_waysOfOther (d + 1) M [(0, vr (some (97, 1, 0))), (3, vi l3)] 160 [vi s0] Q := by
  refine Zm.l (fun _ _ k_ => z_ist dX8_waysOfOther_160 (by decide) (lv' := [(0, vr (some (97, 1, 0))), (3, vi l3), (4, vi s0)]) rfl k_) ?_
  refine Zm.l (fun _ _ k_ => z_aload_n dX8_waysOfOther_162 rfl rfl k_) ?_
  refine Zm.l (fun _ _ k_ => z_iload dX8_waysOfOther_163 rfl k_) ?_
  refine Zm.l (fun _ _ k_ => z_iconst (v := 1) dX8_waysOfOther_165 rfl k_) ?_
  refine Zm.l (fun _ _ k_ => z_isub dX8_waysOfOther_166 k_) ?_
  refine Zm.l (fun _ _ k_ => z_iload dX8_waysOfOther_167 rfl k_) ?_
  exact zm_callV (as := [vi (s0 - (1 : Int32)), vi s0]) (st := []) dX8_waysOfOther_169 vsX8_1092_1 (Nat.le_refl _) (Nat.le_of_ble_eq_true rfl) (Nat.le_of_ble_eq_true rfl) rfl k
theorem sX8_waysOfOther_172 {E : zE} {d : Nat} {Q : zO → zM → Prop} (M : zM) (l3 : Int32) (l4 : Int32) (k : Zm E YX8_copySet d M (zargs 0 [vr (some (97, 1, 0)), vi (l4 - (2 : Int32)), vi (l4 - (1 : Int32))]) 0 [] (zma E YX8_waysOfOther (d + 1) [(0, vr (some (97, 1, 0))), (3, vi l3), (4, vi l4)] 181 3 [] Q)) : Zm E YX8_waysOfOther (d + 1) M [(0, vr (some (97, 1, 0))), (3, vi l3), (4, vi l4)] 172 [] Q := by
  refine Zm.l (fun _ _ k_ => z_aload_n dX8_waysOfOther_172 rfl rfl k_) ?_
  refine Zm.l (fun _ _ k_ => z_iload dX8_waysOfOther_173 rfl k_) ?_
  refine Zm.l (fun _ _ k_ => z_iconst (v := 2) dX8_waysOfOther_175 rfl k_) ?_
  refine Zm.l (fun _ _ k_ => z_isub dX8_waysOfOther_176 k_) ?_
  refine Zm.l (fun _ _ k_ => z_iload dX8_waysOfOther_177 rfl k_) ?_
  refine Zm.l (fun _ _ k_ => z_iconst (v := 1) dX8_waysOfOther_179 rfl k_) ?_
  refine Zm.l (fun _ _ k_ => z_isub dX8_waysOfOther_180 k_) ?_
  exact zm_callV (as := [vi (l4 - (2 : Int32)), vi (l4 - (1 : Int32))]) (st := []) dX8_waysOfOther_181 vsX8_1092_1 (Nat.le_refl _) (Nat.le_of_ble_eq_true rfl) (Nat.le_of_ble_eq_true rfl) rfl k
theorem sX8_waysOfOther_184 {E : zE} {d : Nat} {Q : zO → zM → Prop} (M : zM) (l3 : Int32) (l4 : Int32) (k : Zm E YX8_copySet d M (zargs 0 [vr (some (97, 1, 0)), vi (l4 - (3 : Int32)), vi (l4 - (2 : Int32))]) 0 [] (zma E YX8_waysOfOther (d + 1) [(0, vr (some (97, 1, 0))), (3, vi l3), (4, vi l4)] 193 3 [] Q)) : Zm E YX8_waysOfOther (d + 1) M [(0, vr (some (97, 1, 0))), (3, vi l3), (4, vi l4)] 184 [] Q := by
  refine Zm.l (fun _ _ k_ => z_aload_n dX8_waysOfOther_184 rfl rfl k_) ?_
  refine Zm.l (fun _ _ k_ => z_iload dX8_waysOfOther_185 rfl k_) ?_
  refine Zm.l (fun _ _ k_ => z_iconst (v := 3) dX8_waysOfOther_187 rfl k_) ?_
  refine Zm.l (fun _ _ k_ => z_isub dX8_waysOfOther_188 k_) ?_
  refine Zm.l (fun _ _ k_ => z_iload dX8_waysOfOther_189 rfl k_) ?_
  refine Zm.l (fun _ _ k_ => z_iconst (v := 2) dX8_waysOfOther_191 rfl k_) ?_
  refine Zm.l (fun _ _ k_ => z_isub dX8_waysOfOther_192 k_) ?_
  exact zm_callV (as := [vi (l4 - (3 : Int32)), vi (l4 - (2 : Int32))]) (st := []) dX8_waysOfOther_193 vsX8_1092_1 (Nat.le_refl _) (Nat.le_of_ble_eq_true rfl) (Nat.le_of_ble_eq_true rfl) rfl k
theorem sX8_waysOfOther_196 {E : zE} {d : Nat} {Q : zO → zM → Prop} (M : zM) (l3 : Int32) (l4 : Int32) (k : Zm E YX8_copySet d M (zargs 0 [vr (some (97, 1, 0)), vi l3, vi (l4 - (3 : Int32))]) 0 [] (zma E YX8_waysOfOther (d + 1) [(0, vr (some (97, 1, 0)))] 202 3 [] Q)) : Zm E YX8_waysOfOther (d + 1) M [(0, vr (some (97, 1, 0))), (3, vi l3), (4, vi l4)] 196 [] Q := by
  refine Zm.l (fun _ _ k_ => z_aload_n dX8_waysOfOther_196 rfl rfl k_) ?_
  refine Zm.l (fun _ _ k_ => z_iload_n dX8_waysOfOther_197 rfl rfl k_) ?_
  refine Zm.l (fun _ _ k_ => z_iload dX8_waysOfOther_198 rfl k_) ?_
  refine Zm.l (fun _ _ k_ => z_iconst (v := 3) dX8_waysOfOther_200 rfl k_) ?_
  refine Zm.l (fun _ _ k_ => z_isub dX8_waysOfOther_201 k_) ?_
  refine Zm.pick [0] rfl ?_
  exact zm_callV (as := [vi l3, vi (l4 - (3 : Int32))]) (st := []) dX8_waysOfOther_202 vsX8_1092_1 (Nat.le_refl _) (Nat.le_of_ble_eq_true rfl) (Nat.le_of_ble_eq_true rfl) rfl k
theorem sX8_waysOfOther_205 {E : zE} {d : Nat} {Q : zO → zM → Prop} (M : zM)  (k : Zm E YX8_on d M (zargs 0 [vr (some (97, 1, 0))]) 0 [] (zma E YX8_waysOfOther (d + 1) [] 206 3 [] Q)) : Zm E YX8_waysOfOther (d + 1) M [(0, vr (some (97, 1, 0)))] 205 [] Q := by
  refine Zm.l (fun _ _ k_ => z_aload_n dX8_waysOfOther_205 rfl rfl k_) ?_
  refine Zm.pick [] rfl ?_
  exact zm_callV (as := []) (st := []) dX8_waysOfOther_206 vsX8_1222_1 (Nat.le_refl _) (Nat.le_of_ble_eq_true rfl) (Nat.le_of_ble_eq_true rfl) rfl k
theorem sX8_waysOfOther_209 {E : zE} {d : Nat} {Q : zO → zM → Prop} (M : zM)  (k : Zm E YX8_waysOfOther (d + 1) M [] 399 [] Q) : Zm E YX8_waysOfOther (d + 1) M [] 209 [] Q := by
  refine Zm.l (fun _ _ k_ => z_goto (tgt := 399) dX8_waysOfOther_209 rfl k_) ?_
  exact k
theorem sX8_waysOfOther_217 {E : zE} {d : Nat} {Q : zO → zM → Prop} (M : zM)  (k : Zm E YX8_waysOfOther (d + 1) M [] 399 [] Q) : Zm E YX8_waysOfOther (d + 1) M [] 217 [] Q := by
  refine Zm.l (fun _ _ k_ => z_goto (tgt := 399) dX8_waysOfOther_217 rfl k_) ?_
  exact k
theorem sX8_waysOfOther_227 {E : zE} {d : Nat} {Q : zO → zM → Prop} (M : zM)  (k : Zm E YX8_waysOfOther (d + 1) M [] 399 [] Q) : Zm E YX8_waysOfOther (d + 1) M [] 227 [] Q := by
  refine Zm.l (fun _ _ k_ => z_goto (tgt := 399) dX8_waysOfOther_227 rfl k_) ?_
  exact k
theorem sX8_waysOfOther_245 {E : zE} {d : Nat} {Q : zO → zM → Prop} (M : zM) (s0 : Int32) (s1 : Int32) (k : Zm E YX8_copySet d M (zargs 0 [vr (some (97, 1, 0)), vi s1, vi s0]) 0 [] (zma E YX8_waysOfOther (d + 1) [(0, vr (some (97, 1, 0)))] 245 3 [] Q)) : Zm E YX8_waysOfOther (d + 1) M [(0, vr (some (97, 1, 0)))] 245 [vi s0, vi s1, vr (some (97, 1, 0))] Q := by
  exact zm_callV (as := [vi s1, vi s0]) (st := []) dX8_waysOfOther_245 vsX8_1092_1 (Nat.le_refl _) (Nat.le_of_ble_eq_true rfl) (Nat.le_of_ble_eq_true rfl) rfl k
theorem sX8_waysOfOther_248 {E : zE} {d : Nat} {Q : zO → zM → Prop} (M : zM)  (k : vp_in (gi M 97 148) 600 ∧ (Zm E YX8_flow d M (zargs 0 [vr (some (97, 1, 0)), vi ((gi M 97 46) + ((2 : Int32) * (gi M 126 ((gi M 97 148)).toNatClampNeg)))]) 0 [] (zma E YX8_waysOfOther (d + 1) [] 265 3 [] Q))) : Zm E YX8_waysOfOther (d + 1) M [(0, vr (some (97, 1, 0)))] 248 [] Q := by
  refine Zm.l (fun _ _ k_ => z_aload_n dX8_waysOfOther_248 rfl rfl k_) ?_
  refine Zm.l (fun _ _ k_ => z_aload_n dX8_waysOfOther_249 rfl rfl k_) ?_
  refine zm_geti dX8_waysOfOther_250 fsX8_606_1 (by decide) (by decide) ?_
  refine Zm.l (fun _ _ k_ => z_iconst (v := 2) dX8_waysOfOther_253 rfl k_) ?_
  refine Zm.l (fun _ _ k_ => z_aload_n dX8_waysOfOther_254 rfl rfl k_) ?_
  refine zm_getr 28 dX8_waysOfOther_255 fsX8_98_1 rfl ?_
  refine Zm.l (fun _ _ k_ => z_aload_n dX8_waysOfOther_258 rfl rfl k_) ?_
  refine zm_geti dX8_waysOfOther_259 fsX8_1188_1 (by decide) (by decide) ?_
  obtain ⟨b_, k⟩ := k
  refine zm_iald dX8_waysOfOther_262 b_ (by decide) (by decide) ?_
  refine Zm.l (fun _ _ k_ => z_imul dX8_waysOfOther_263 k_) ?_
  refine Zm.l (fun _ _ k_ => z_iadd dX8_waysOfOther_264 k_) ?_
  refine Zm.pick [] rfl ?_
  exact zm_callV (as := [vi ((gi M 97 46) + ((2 : Int32) * (gi M 126 ((gi M 97 148)).toNatClampNeg)))]) (st := []) dX8_waysOfOther_265 vsX8_1191_1 (Nat.le_refl _) (Nat.le_of_ble_eq_true rfl) (Nat.le_of_ble_eq_true rfl) rfl k
theorem sX8_waysOfOther_268 {E : zE} {d : Nat} {Q : zO → zM → Prop} (M : zM)  (k : Zm E YX8_waysOfOther (d + 1) M [] 399 [] Q) : Zm E YX8_waysOfOther (d + 1) M [] 268 [] Q := by
  refine Zm.l (fun _ _ k_ => z_goto (tgt := 399) dX8_waysOfOther_268 rfl k_) ?_
  exact k
theorem sX8_waysOfOther_275 {E : zE} {d : Nat} {Q : zO → zM → Prop} (M : zM)  (k : Zm E YX8_waysOfOther (d + 1) M [] 399 [] Q) : Zm E YX8_waysOfOther (d + 1) M [] 275 [] Q := by
  refine Zm.l (fun _ _ k_ => z_goto (tgt := 399) dX8_waysOfOther_275 rfl k_) ?_
  exact k
theorem sX8_waysOfOther_331 {E : zE} {d : Nat} {Q : zO → zM → Prop} (M : zM)  (k : Zm E YX8_waysOfOther (d + 1) M [] 399 [] Q) : Zm E YX8_waysOfOther (d + 1) M [] 331 [] Q := by
  refine Zm.l (fun _ _ k_ => z_goto (tgt := 399) dX8_waysOfOther_331 rfl k_) ?_
  exact k
theorem sX8_waysOfOther_350 {E : zE} {d : Nat} {Q : zO → zM → Prop} (M : zM)  (k : Zm E YX8_waysOfOther (d + 1) M [] 399 [] Q) : Zm E YX8_waysOfOther (d + 1) M [] 350 [] Q := by
  refine Zm.l (fun _ _ k_ => z_goto (tgt := 399) dX8_waysOfOther_350 rfl k_) ?_
  exact k
theorem sX8_waysOfOther_359 {E : zE} {d : Nat} {Q : zO → zM → Prop} (M : zM) (s0 : Int32) (k : Zm E YX8_empty d M (zargs 0 [vr (some (97, 1, 0)), vi s0]) 0 [] (zma E YX8_waysOfOther (d + 1) [(0, vr (some (97, 1, 0)))] 359 3 [] Q)) : Zm E YX8_waysOfOther (d + 1) M [(0, vr (some (97, 1, 0)))] 359 [vi s0, vr (some (97, 1, 0))] Q := by
  exact zm_callV (as := [vi s0]) (st := []) dX8_waysOfOther_359 vsX8_1066_1 (Nat.le_refl _) (Nat.le_of_ble_eq_true rfl) (Nat.le_of_ble_eq_true rfl) rfl k
theorem sX8_waysOfOther_362 {E : zE} {d : Nat} {Q : zO → zM → Prop} (M : zM)  (k : Zm E YX8_on d M (zargs 0 [vr (some (97, 1, 0))]) 0 [] (zma E YX8_waysOfOther (d + 1) [] 363 3 [] Q)) : Zm E YX8_waysOfOther (d + 1) M [(0, vr (some (97, 1, 0)))] 362 [] Q := by
  refine Zm.l (fun _ _ k_ => z_aload_n dX8_waysOfOther_362 rfl rfl k_) ?_
  refine Zm.pick [] rfl ?_
  exact zm_callV (as := []) (st := []) dX8_waysOfOther_363 vsX8_1222_1 (Nat.le_refl _) (Nat.le_of_ble_eq_true rfl) (Nat.le_of_ble_eq_true rfl) rfl k
theorem sX8_waysOfOther_366 {E : zE} {d : Nat} {Q : zO → zM → Prop} (M : zM)  (k : Zm E YX8_waysOfOther (d + 1) M [] 399 [] Q) : Zm E YX8_waysOfOther (d + 1) M [] 366 [] Q := by
  refine Zm.l (fun _ _ k_ => z_goto (tgt := 399) dX8_waysOfOther_366 rfl k_) ?_
  exact k
theorem sX8_waysOfOther_374 {E : zE} {d : Nat} {Q : zO → zM → Prop} (M : zM) (l2 : Int32) (s0 : Int32) (k : Zm E YX8_addString d M (zargs 0 [vr (some (97, 1, 0)), vi s0, vi (-1 : Int32)]) 0 [] (zma E YX8_waysOfOther (d + 1) [(0, vr (some (97, 1, 0))), (2, vi l2)] 375 3 [] Q)) : Zm E YX8_waysOfOther (d + 1) M [(0, vr (some (97, 1, 0))), (2, vi l2)] 374 [vi s0, vr (some (97, 1, 0))] Q := by
  refine Zm.l (fun _ _ k_ => z_iconst (v := -1) dX8_waysOfOther_374 rfl k_) ?_
  exact zm_callV (as := [vi s0, vi (-1 : Int32)]) (st := []) dX8_waysOfOther_375 vsX8_1078_1 (Nat.le_refl _) (Nat.le_of_ble_eq_true rfl) (Nat.le_of_ble_eq_true rfl) rfl k
theorem sX8_waysOfOther_378 {E : zE} {d : Nat} {Q : zO → zM → Prop} (M : zM) (l2 : Int32) (k : Zm E YX8_on d M (zargs 0 [vr (some (97, 1, 0))]) 0 [] (zma E YX8_waysOfOther (d + 1) [(0, vr (some (97, 1, 0))), (2, vi l2)] 379 3 [] Q)) : Zm E YX8_waysOfOther (d + 1) M [(0, vr (some (97, 1, 0))), (2, vi l2)] 378 [] Q := by
  refine Zm.l (fun _ _ k_ => z_aload_n dX8_waysOfOther_378 rfl rfl k_) ?_
  exact zm_callV (as := []) (st := []) dX8_waysOfOther_379 vsX8_1222_1 (Nat.le_refl _) (Nat.le_of_ble_eq_true rfl) (Nat.le_of_ble_eq_true rfl) rfl k
theorem sX8_waysOfOther_382 {E : zE} {d : Nat} {Q : zO → zM → Prop} (M : zM) (l2 : Int32) (k : vp_in (639 : Int32) 640 ∧ (vp_in (639 : Int32) 640 ∧ (Zm E YX8_to d (si M 171 ((639 : Int32)).toNatClampNeg ((gi M 171 ((639 : Int32)).toNatClampNeg) - (2 : Int32))) (zargs 0 [vr (some (97, 1, 0)), vi l2]) 0 [] (zma E YX8_waysOfOther (d + 1) [] 396 3 [] Q)))) : Zm E YX8_waysOfOther (d + 1) M [(0, vr (some (97, 1, 0))), (2, vi l2)] 382 [] Q := by
  refine Zm.l (fun _ _ k_ => z_aload_n dX8_waysOfOther_382 rfl rfl k_) ?_
  refine zm_getr 68 dX8_waysOfOther_383 fsX8_235_1 rfl ?_
  refine Zm.l (fun _ _ k_ => z_sipush (v := 639) dX8_waysOfOther_386 rfl k_) ?_
  refine Zm.l (fun _ _ k_ => z_dup2 dX8_waysOfOther_389 rfl rfl k_) ?_
  obtain ⟨b_, k⟩ := k
  refine zm_iald dX8_waysOfOther_390 b_ (by decide) (by decide) ?_
  refine Zm.l (fun _ _ k_ => z_iconst (v := 2) dX8_waysOfOther_391 rfl k_) ?_
  refine Zm.l (fun _ _ k_ => z_isub dX8_waysOfOther_392 k_) ?_
  obtain ⟨b_, k⟩ := k
  refine zm_iast dX8_waysOfOther_393 b_ (by decide) (by decide) ?_
  refine Zm.l (fun _ _ k_ => z_aload_n dX8_waysOfOther_394 rfl rfl k_) ?_
  refine Zm.l (fun _ _ k_ => z_iload_n dX8_waysOfOther_395 rfl rfl k_) ?_
  refine Zm.pick [] rfl ?_
  exact zm_callV (as := [vi l2]) (st := []) dX8_waysOfOther_396 vsX8_1274_1 (Nat.le_refl _) (Nat.le_of_ble_eq_true rfl) (Nat.le_of_ble_eq_true rfl) rfl k
theorem sX8_waysOfOther_399 {E : zE} {d : Nat} {Q : zO → zM → Prop} (M : zM)  (k : Q (.inl none) M) : Zm E YX8_waysOfOther (d + 1) M [] 399 [] Q := by
  exact zm_vret dX8_waysOfOther_399 rfl k
/-! ScriptTypesModel.to(I)V -/
theorem bX8_to_0 : zdec cX8_to 0 [(0, .aload_n 0, 1), (1, .iconst 1, 1), (2, .putfield 1185, 3), (5, .aload_n 0, 1), (6, .iload_n 1, 1), (7, .invokevirtual 1191, 3), (10, .return_, 1)] = true := by decide +kernel
theorem dX8_to_0 : decode cX8_to 0 = .ok (.aload_n 0, 1) := zdec_at bX8_to_0 0 rfl
theorem dX8_to_1 : decode cX8_to 1 = .ok (.iconst 1, 1) := zdec_at bX8_to_0 1 rfl
theorem dX8_to_2 : decode cX8_to 2 = .ok (.putfield 1185, 3) := zdec_at bX8_to_0 2 rfl
theorem dX8_to_5 : decode cX8_to 5 = .ok (.aload_n 0, 1) := zdec_at bX8_to_0 3 rfl
theorem dX8_to_6 : decode cX8_to 6 = .ok (.iload_n 1, 1) := zdec_at bX8_to_0 4 rfl
theorem dX8_to_7 : decode cX8_to 7 = .ok (.invokevirtual 1191, 3) := zdec_at bX8_to_0 5 rfl
theorem dX8_to_10 : decode cX8_to 10 = .ok (.return_, 1) := zdec_at bX8_to_0 6 rfl
theorem sX8_to_0 {E : zE} {d : Nat} {Q : zO → zM → Prop} (M : zM) (l1 : Int32) (k : Zm E YX8_flow d (si M 97 150 (1 : Int32)) (zargs 0 [vr (some (97, 1, 0)), vi l1]) 0 [] (zma E YX8_to (d + 1) [] 7 3 [] Q)) : Zm E YX8_to (d + 1) M [(0, vr (some (97, 1, 0))), (1, vi l1)] 0 [] Q := by
  refine Zm.l (fun _ _ k_ => z_aload_n dX8_to_0 rfl rfl k_) ?_
  refine Zm.l (fun _ _ k_ => z_iconst (v := 1) dX8_to_1 rfl k_) ?_
  refine zm_puti (by decide) (by decide) dX8_to_2 (zfwN.w fwX8_1185_1) rfl ⟨by decide, by decide⟩ ?_
  refine Zm.l (fun _ _ k_ => z_aload_n dX8_to_5 rfl rfl k_) ?_
  refine Zm.l (fun _ _ k_ => z_iload_n dX8_to_6 rfl rfl k_) ?_
  refine Zm.pick [] rfl ?_
  exact zm_callV (as := [vi l1]) (st := []) dX8_to_7 vsX8_1191_1 (Nat.le_refl _) (Nat.le_of_ble_eq_true rfl) (Nat.le_of_ble_eq_true rfl) rfl k
theorem sX8_to_10 {E : zE} {d : Nat} {Q : zO → zM → Prop} (M : zM)  (k : Q (.inl none) M) : Zm E YX8_to (d + 1) M [] 10 [] Q := by
  exact zm_vret dX8_to_10 rfl k
/-! ScriptTypesModel.waysOfTest(III)V -/
theorem bX8_waysOfTest_0 : zdec cX8_waysOfTest 0 [(0, .aload_n 0, 1), (1, .iload_n 3, 1), (2, .invokevirtual 1283, 3), (5, .istore 4, 2), (7, .aload_n 0, 1), (8, .iload_n 3, 1), (9, .invokevirtual 1286, 3), (12, .istore 5, 2), (14, .iload_n 1, 1), (15, .bipush 24, 2), (17, .if_icmp .ne 8, 3), (20, .iload 5, 2), (22, .goto 5, 3), (25, .iload 4, 2), (27, .istore 6, 2), (29, .iload_n 1, 1)] = true := by decide +kernel
theorem dX8_waysOfTest_0 : decode cX8_waysOfTest 0 = .ok (.aload_n 0, 1) := zdec_at bX8_waysOfTest_0 0 rfl
theorem dX8_waysOfTest_1 : decode cX8_waysOfTest 1 = .ok (.iload_n 3, 1) := zdec_at bX8_waysOfTest_0 1 rfl
theorem dX8_waysOfTest_2 : decode cX8_waysOfTest 2 = .ok (.invokevirtual 1283, 3) := zdec_at bX8_waysOfTest_0 2 rfl
theorem dX8_waysOfTest_5 : decode cX8_waysOfTest 5 = .ok (.istore 4, 2) := zdec_at bX8_waysOfTest_0 3 rfl
theorem dX8_waysOfTest_7 : decode cX8_waysOfTest 7 = .ok (.aload_n 0, 1) := zdec_at bX8_waysOfTest_0 4 rfl
theorem dX8_waysOfTest_8 : decode cX8_waysOfTest 8 = .ok (.iload_n 3, 1) := zdec_at bX8_waysOfTest_0 5 rfl
theorem dX8_waysOfTest_9 : decode cX8_waysOfTest 9 = .ok (.invokevirtual 1286, 3) := zdec_at bX8_waysOfTest_0 6 rfl
theorem dX8_waysOfTest_12 : decode cX8_waysOfTest 12 = .ok (.istore 5, 2) := zdec_at bX8_waysOfTest_0 7 rfl
theorem dX8_waysOfTest_14 : decode cX8_waysOfTest 14 = .ok (.iload_n 1, 1) := zdec_at bX8_waysOfTest_0 8 rfl
theorem dX8_waysOfTest_15 : decode cX8_waysOfTest 15 = .ok (.bipush 24, 2) := zdec_at bX8_waysOfTest_0 9 rfl
theorem dX8_waysOfTest_17 : decode cX8_waysOfTest 17 = .ok (.if_icmp .ne 8, 3) := zdec_at bX8_waysOfTest_0 10 rfl
theorem dX8_waysOfTest_20 : decode cX8_waysOfTest 20 = .ok (.iload 5, 2) := zdec_at bX8_waysOfTest_0 11 rfl
theorem dX8_waysOfTest_22 : decode cX8_waysOfTest 22 = .ok (.goto 5, 3) := zdec_at bX8_waysOfTest_0 12 rfl
theorem dX8_waysOfTest_25 : decode cX8_waysOfTest 25 = .ok (.iload 4, 2) := zdec_at bX8_waysOfTest_0 13 rfl
theorem dX8_waysOfTest_27 : decode cX8_waysOfTest 27 = .ok (.istore 6, 2) := zdec_at bX8_waysOfTest_0 14 rfl
theorem dX8_waysOfTest_29 : decode cX8_waysOfTest 29 = .ok (.iload_n 1, 1) := zdec_at bX8_waysOfTest_0 15 rfl
theorem bX8_waysOfTest_30 : zdec cX8_waysOfTest 30 [(30, .bipush 24, 2), (32, .if_icmp .ne 8, 3), (35, .iload 4, 2), (37, .goto 5, 3), (40, .iload 5, 2), (42, .istore 7, 2), (44, .iload 7, 2), (46, .ifCond .eq 14, 3), (49, .iload_n 1, 1), (50, .bipush 22, 2), (52, .if_icmp .eq 8, 3), (55, .aload_n 0, 1), (56, .iload_n 2, 1), (57, .invokevirtual 1274, 3), (60, .aload_n 0, 1), (61, .getfield 235, 3)] = true := by decide +kernel
theorem dX8_waysOfTest_30 : decode cX8_waysOfTest 30 = .ok (.bipush 24, 2) := zdec_at bX8_waysOfTest_30 0 rfl
theorem dX8_waysOfTest_32 : decode cX8_waysOfTest 32 = .ok (.if_icmp .ne 8, 3) := zdec_at bX8_waysOfTest_30 1 rfl
theorem dX8_waysOfTest_35 : decode cX8_waysOfTest 35 = .ok (.iload 4, 2) := zdec_at bX8_waysOfTest_30 2 rfl
theorem dX8_waysOfTest_37 : decode cX8_waysOfTest 37 = .ok (.goto 5, 3) := zdec_at bX8_waysOfTest_30 3 rfl
theorem dX8_waysOfTest_40 : decode cX8_waysOfTest 40 = .ok (.iload 5, 2) := zdec_at bX8_waysOfTest_30 4 rfl
theorem dX8_waysOfTest_42 : decode cX8_waysOfTest 42 = .ok (.istore 7, 2) := zdec_at bX8_waysOfTest_30 5 rfl
theorem dX8_waysOfTest_44 : decode cX8_waysOfTest 44 = .ok (.iload 7, 2) := zdec_at bX8_waysOfTest_30 6 rfl
theorem dX8_waysOfTest_46 : decode cX8_waysOfTest 46 = .ok (.ifCond .eq 14, 3) := zdec_at bX8_waysOfTest_30 7 rfl
theorem dX8_waysOfTest_49 : decode cX8_waysOfTest 49 = .ok (.iload_n 1, 1) := zdec_at bX8_waysOfTest_30 8 rfl
theorem dX8_waysOfTest_50 : decode cX8_waysOfTest 50 = .ok (.bipush 22, 2) := zdec_at bX8_waysOfTest_30 9 rfl
theorem dX8_waysOfTest_52 : decode cX8_waysOfTest 52 = .ok (.if_icmp .eq 8, 3) := zdec_at bX8_waysOfTest_30 10 rfl
theorem dX8_waysOfTest_55 : decode cX8_waysOfTest 55 = .ok (.aload_n 0, 1) := zdec_at bX8_waysOfTest_30 11 rfl
theorem dX8_waysOfTest_56 : decode cX8_waysOfTest 56 = .ok (.iload_n 2, 1) := zdec_at bX8_waysOfTest_30 12 rfl
theorem dX8_waysOfTest_57 : decode cX8_waysOfTest 57 = .ok (.invokevirtual 1274, 3) := zdec_at bX8_waysOfTest_30 13 rfl
theorem dX8_waysOfTest_60 : decode cX8_waysOfTest 60 = .ok (.aload_n 0, 1) := zdec_at bX8_waysOfTest_30 14 rfl
theorem dX8_waysOfTest_61 : decode cX8_waysOfTest 61 = .ok (.getfield 235, 3) := zdec_at bX8_waysOfTest_30 15 rfl
theorem bX8_waysOfTest_64 : zdec cX8_waysOfTest 64 [(64, .sipush 639, 3), (67, .dup2, 1), (68, .iaload, 1), (69, .iconst 1, 1), (70, .isub, 1), (71, .iastore, 1), (72, .iload 6, 2), (74, .ifCond .eq 7, 3), (77, .aload_n 0, 1), (78, .invokevirtual 1222, 3), (81, .iload 7, 2), (83, .ifCond .eq 14, 3), (86, .iload_n 1, 1), (87, .bipush 22, 2), (89, .if_icmp .ne 8, 3), (92, .aload_n 0, 1)] = true := by decide +kernel
theorem dX8_waysOfTest_64 : decode cX8_waysOfTest 64 = .ok (.sipush 639, 3) := zdec_at bX8_waysOfTest_64 0 rfl
theorem dX8_waysOfTest_67 : decode cX8_waysOfTest 67 = .ok (.dup2, 1) := zdec_at bX8_waysOfTest_64 1 rfl
theorem dX8_waysOfTest_68 : decode cX8_waysOfTest 68 = .ok (.iaload, 1) := zdec_at bX8_waysOfTest_64 2 rfl
theorem dX8_waysOfTest_69 : decode cX8_waysOfTest 69 = .ok (.iconst 1, 1) := zdec_at bX8_waysOfTest_64 3 rfl
theorem dX8_waysOfTest_70 : decode cX8_waysOfTest 70 = .ok (.isub, 1) := zdec_at bX8_waysOfTest_64 4 rfl
theorem dX8_waysOfTest_71 : decode cX8_waysOfTest 71 = .ok (.iastore, 1) := zdec_at bX8_waysOfTest_64 5 rfl
theorem dX8_waysOfTest_72 : decode cX8_waysOfTest 72 = .ok (.iload 6, 2) := zdec_at bX8_waysOfTest_64 6 rfl
theorem dX8_waysOfTest_74 : decode cX8_waysOfTest 74 = .ok (.ifCond .eq 7, 3) := zdec_at bX8_waysOfTest_64 7 rfl
theorem dX8_waysOfTest_77 : decode cX8_waysOfTest 77 = .ok (.aload_n 0, 1) := zdec_at bX8_waysOfTest_64 8 rfl
theorem dX8_waysOfTest_78 : decode cX8_waysOfTest 78 = .ok (.invokevirtual 1222, 3) := zdec_at bX8_waysOfTest_64 9 rfl
theorem dX8_waysOfTest_81 : decode cX8_waysOfTest 81 = .ok (.iload 7, 2) := zdec_at bX8_waysOfTest_64 10 rfl
theorem dX8_waysOfTest_83 : decode cX8_waysOfTest 83 = .ok (.ifCond .eq 14, 3) := zdec_at bX8_waysOfTest_64 11 rfl
theorem dX8_waysOfTest_86 : decode cX8_waysOfTest 86 = .ok (.iload_n 1, 1) := zdec_at bX8_waysOfTest_64 12 rfl
theorem dX8_waysOfTest_87 : decode cX8_waysOfTest 87 = .ok (.bipush 22, 2) := zdec_at bX8_waysOfTest_64 13 rfl
theorem dX8_waysOfTest_89 : decode cX8_waysOfTest 89 = .ok (.if_icmp .ne 8, 3) := zdec_at bX8_waysOfTest_64 14 rfl
theorem dX8_waysOfTest_92 : decode cX8_waysOfTest 92 = .ok (.aload_n 0, 1) := zdec_at bX8_waysOfTest_64 15 rfl
theorem bX8_waysOfTest_93 : zdec cX8_waysOfTest 93 [(93, .iload_n 2, 1), (94, .invokevirtual 1274, 3), (97, .return_, 1)] = true := by decide +kernel
theorem dX8_waysOfTest_93 : decode cX8_waysOfTest 93 = .ok (.iload_n 2, 1) := zdec_at bX8_waysOfTest_93 0 rfl
theorem dX8_waysOfTest_94 : decode cX8_waysOfTest 94 = .ok (.invokevirtual 1274, 3) := zdec_at bX8_waysOfTest_93 1 rfl
theorem dX8_waysOfTest_97 : decode cX8_waysOfTest 97 = .ok (.return_, 1) := zdec_at bX8_waysOfTest_93 2 rfl
theorem sX8_waysOfTest_0 {E : zE} {d : Nat} {Q : zO → zM → Prop} (M : zM) (l1 : Int32) (l2 : Int32) (l3 : Int32) (k : Zm E YX8_mayBeTrue d M (zargs 0 [vr (some (97, 1, 0)), vi l3]) 0 [] (zma E YX8_waysOfTest (d + 1) [(0, vr (some (97, 1, 0))), (1, vi l1), (2, vi l2), (3, vi l3)] 2 3 [] Q)) : Zm E YX8_waysOfTest (d + 1) M [(0, vr (some (97, 1, 0))), (1, vi l1), (2, vi l2), (3, vi l3)] 0 [] Q := by
  refine Zm.l (fun _ _ k_ => z_aload_n dX8_waysOfTest_0 rfl rfl k_) ?_
  refine Zm.l (fun _ _ k_ => z_iload_n dX8_waysOfTest_1 rfl rfl k_) ?_
  exact zm_callV (as := [vi l3]) (st := []) dX8_waysOfTest_2 vsX8_1283_1 (Nat.le_refl _) (Nat.le_of_ble_eq_true rfl) (Nat.le_of_ble_eq_true rfl) rfl k
theorem sX8_waysOfTest_5 {E : zE} {d : Nat} {Q : zO → zM → Prop} (M : zM) (l1 : Int32) (l2 : Int32) (l3 : Int32) (s0 : Int32) (k : Zm E YX8_mayBeFalse d M (zargs 0 [vr (some (97, 1, 0)), vi l3]) 0 [] (zma E YX8_waysOfTest (d + 1) [(0, vr (some (97, 1, 0))), (1, vi l1), (2, vi l2), (4, vi s0)] 9 3 [] Q)) : Zm E YX8_waysOfTest (d + 1) M [(0, vr (some (97, 1, 0))), (1, vi l1), (2, vi l2), (3, vi l3)] 5 [vi s0] Q := by
  refine Zm.l (fun _ _ k_ => z_ist dX8_waysOfTest_5 (by decide) (lv' := [(0, vr (some (97, 1, 0))), (1, vi l1), (2, vi l2), (3, vi l3), (4, vi s0)]) rfl k_) ?_
  refine Zm.l (fun _ _ k_ => z_aload_n dX8_waysOfTest_7 rfl rfl k_) ?_
  refine Zm.l (fun _ _ k_ => z_iload_n dX8_waysOfTest_8 rfl rfl k_) ?_
  refine Zm.pick [0, 1, 2, 4] rfl ?_
  exact zm_callV (as := [vi l3]) (st := []) dX8_waysOfTest_9 vsX8_1286_1 (Nat.le_refl _) (Nat.le_of_ble_eq_true rfl) (Nat.le_of_ble_eq_true rfl) rfl k
theorem sX8_waysOfTest_12 {E : zE} {d : Nat} {Q : zO → zM → Prop} (M : zM) (l1 : Int32) (l2 : Int32) (l4 : Int32) (s0 : Int32) (k : if l1 = (24 : Int32) then (if l1 = (24 : Int32) then (Zm E YX8_waysOfTest (d + 1) M [(0, vr (some (97, 1, 0))), (1, vi l1), (2, vi l2), (6, vi s0)] 42 [vi l4] Q) else (Zm E YX8_waysOfTest (d + 1) M [(0, vr (some (97, 1, 0))), (1, vi l1), (2, vi l2), (6, vi s0)] 42 [vi s0] Q)) else (if l1 = (24 : Int32) then (Zm E YX8_waysOfTest (d + 1) M [(0, vr (some (97, 1, 0))), (1, vi l1), (2, vi l2), (6, vi l4)] 42 [vi l4] Q) else (Zm E YX8_waysOfTest (d + 1) M [(0, vr (some (97, 1, 0))), (1, vi l1), (2, vi l2), (6, vi l4)] 42 [vi s0] Q))) : Zm E YX8_waysOfTest (d + 1) M [(0, vr (some (97, 1, 0))), (1, vi l1), (2, vi l2), (4, vi l4)] 12 [vi s0] Q := by
  refine Zm.l (fun _ _ k_ => z_ist dX8_waysOfTest_12 (by decide) (lv' := [(0, vr (some (97, 1, 0))), (1, vi l1), (2, vi l2), (4, vi l4), (5, vi s0)]) rfl k_) ?_
  refine Zm.l (fun _ _ k_ => z_iload_n dX8_waysOfTest_14 rfl rfl k_) ?_
  refine Zm.l (fun _ _ k_ => z_bipush (v := 24) dX8_waysOfTest_15 rfl k_) ?_
  refine Zm.brn (fun _ _ k1_ k2_ => z_icmp_ne (tgt := 25) dX8_waysOfTest_17 rfl k1_ k2_) (fun h_ => ?_) (fun h_ => ?_)
  · have k := zif h_ k
    refine Zm.l (fun _ _ k_ => z_iload dX8_waysOfTest_25 rfl k_) ?_
    refine Zm.l (fun _ _ k_ => z_ist dX8_waysOfTest_27 (by decide) (lv' := [(0, vr (some (97, 1, 0))), (1, vi l1), (2, vi l2), (4, vi l4), (5, vi s0), (6, vi l4)]) rfl k_) ?_
    refine Zm.l (fun _ _ k_ => z_iload_n dX8_waysOfTest_29 rfl rfl k_) ?_
    refine Zm.l (fun _ _ k_ => z_bipush (v := 24) dX8_waysOfTest_30 rfl k_) ?_
    refine Zm.brn (fun _ _ k1_ k2_ => z_icmp_ne (tgt := 40) dX8_waysOfTest_32 rfl k1_ k2_) (fun h_ => ?_) (fun h_ => ?_)
    · have k := zif h_ k
      refine Zm.l (fun _ _ k_ => z_iload dX8_waysOfTest_40 rfl k_) ?_
      refine Zm.pick [0, 1, 2, 5] rfl ?_
      exact k
    · have k := zit h_ k
      refine Zm.l (fun _ _ k_ => z_iload dX8_waysOfTest_35 rfl k_) ?_
      refine Zm.l (fun _ _ k_ => z_goto (tgt := 42) dX8_waysOfTest_37 rfl k_) ?_
      refine Zm.pick [0, 1, 2, 5] rfl ?_
      exact k
  · have k := zit h_ k
    refine Zm.l (fun _ _ k_ => z_iload dX8_waysOfTest_20 rfl k_) ?_
    refine Zm.l (fun _ _ k_ => z_goto (tgt := 27) dX8_waysOfTest_22 rfl k_) ?_
    refine Zm.l (fun _ _ k_ => z_ist dX8_waysOfTest_27 (by decide) (lv' := [(0, vr (some (97, 1, 0))), (1, vi l1), (2, vi l2), (4, vi l4), (5, vi s0), (6, vi s0)]) rfl k_) ?_
    refine Zm.l (fun _ _ k_ => z_iload_n dX8_waysOfTest_29 rfl rfl k_) ?_
    refine Zm.l (fun _ _ k_ => z_bipush (v := 24) dX8_waysOfTest_30 rfl k_) ?_
    refine Zm.brn (fun _ _ k1_ k2_ => z_icmp_ne (tgt := 40) dX8_waysOfTest_32 rfl k1_ k2_) (fun h_ => ?_) (fun h_ => ?_)
    · have k := zif h_ k
      refine Zm.l (fun _ _ k_ => z_iload dX8_waysOfTest_40 rfl k_) ?_
      refine Zm.pick [0, 1, 2, 5] rfl ?_
      exact k
    · have k := zit h_ k
      refine Zm.l (fun _ _ k_ => z_iload dX8_waysOfTest_35 rfl k_) ?_
      refine Zm.l (fun _ _ k_ => z_goto (tgt := 42) dX8_waysOfTest_37 rfl k_) ?_
      refine Zm.pick [0, 1, 2, 5] rfl ?_
      exact k
theorem sX8_waysOfTest_42 {E : zE} {d : Nat} {Q : zO → zM → Prop} (M : zM) (l1 : Int32) (l2 : Int32) (l6 : Int32) (s0 : Int32) (k : if s0 = 0 then (Zm E YX8_waysOfTest (d + 1) M [(0, vr (some (97, 1, 0))), (1, vi l1), (2, vi l2), (6, vi l6), (7, vi s0)] 60 [] Q) else (if l1 = (22 : Int32) then (Zm E YX8_waysOfTest (d + 1) M [(0, vr (some (97, 1, 0))), (1, vi l1), (2, vi l2), (6, vi l6), (7, vi s0)] 60 [] Q) else (Zm E YX8_to d M (zargs 0 [vr (some (97, 1, 0)), vi l2]) 0 [] (zma E YX8_waysOfTest (d + 1) [(0, vr (some (97, 1, 0))), (1, vi l1), (2, vi l2), (6, vi l6), (7, vi s0)] 57 3 [] Q)))) : Zm E YX8_waysOfTest (d + 1) M [(0, vr (some (97, 1, 0))), (1, vi l1), (2, vi l2), (6, vi l6)] 42 [vi s0] Q := by
  refine Zm.l (fun _ _ k_ => z_ist dX8_waysOfTest_42 (by decide) (lv' := [(0, vr (some (97, 1, 0))), (1, vi l1), (2, vi l2), (6, vi l6), (7, vi s0)]) rfl k_) ?_
  refine Zm.l (fun _ _ k_ => z_iload dX8_waysOfTest_44 rfl k_) ?_
  refine Zm.br (fun _ _ k1_ k2_ => z_if_eq (tgt := 60) dX8_waysOfTest_46 rfl k1_ k2_) (fun h_ => ?_) (fun h_ => ?_)
  · have k := zit h_ k
    exact k
  · have k := zif h_ k
    refine Zm.l (fun _ _ k_ => z_iload_n dX8_waysOfTest_49 rfl rfl k_) ?_
    refine Zm.l (fun _ _ k_ => z_bipush (v := 22) dX8_waysOfTest_50 rfl k_) ?_
    refine Zm.br (fun _ _ k1_ k2_ => z_icmp_eq (tgt := 60) dX8_waysOfTest_52 rfl k1_ k2_) (fun h_ => ?_) (fun h_ => ?_)
    · have k := zit h_ k
      exact k
    · have k := zif h_ k
      refine Zm.l (fun _ _ k_ => z_aload_n dX8_waysOfTest_55 rfl rfl k_) ?_
      refine Zm.l (fun _ _ k_ => z_iload_n dX8_waysOfTest_56 rfl rfl k_) ?_
      exact zm_callV (as := [vi l2]) (st := []) dX8_waysOfTest_57 vsX8_1274_1 (Nat.le_refl _) (Nat.le_of_ble_eq_true rfl) (Nat.le_of_ble_eq_true rfl) rfl k
theorem sX8_waysOfTest_60 {E : zE} {d : Nat} {Q : zO → zM → Prop} (M : zM) (l1 : Int32) (l2 : Int32) (l6 : Int32) (l7 : Int32) (k : vp_in (639 : Int32) 640 ∧ (vp_in (639 : Int32) 640 ∧ (if l6 = 0 then (Zm E YX8_waysOfTest (d + 1) (si M 171 ((639 : Int32)).toNatClampNeg ((gi M 171 ((639 : Int32)).toNatClampNeg) - (1 : Int32))) [(0, vr (some (97, 1, 0))), (1, vi l1), (2, vi l2), (7, vi l7)] 81 [] Q) else (Zm E YX8_on d (si M 171 ((639 : Int32)).toNatClampNeg ((gi M 171 ((639 : Int32)).toNatClampNeg) - (1 : Int32))) (zargs 0 [vr (some (97, 1, 0))]) 0 [] (zma E YX8_waysOfTest (d + 1) [(0, vr (some (97, 1, 0))), (1, vi l1), (2, vi l2), (7, vi l7)] 78 3 [] Q))))) : Zm E YX8_waysOfTest (d + 1) M [(0, vr (some (97, 1, 0))), (1, vi l1), (2, vi l2), (6, vi l6), (7, vi l7)] 60 [] Q := by
  refine Zm.l (fun _ _ k_ => z_aload_n dX8_waysOfTest_60 rfl rfl k_) ?_
  refine zm_getr 68 dX8_waysOfTest_61 fsX8_235_1 rfl ?_
  refine Zm.l (fun _ _ k_ => z_sipush (v := 639) dX8_waysOfTest_64 rfl k_) ?_
  refine Zm.l (fun _ _ k_ => z_dup2 dX8_waysOfTest_67 rfl rfl k_) ?_
  obtain ⟨b_, k⟩ := k
  refine zm_iald dX8_waysOfTest_68 b_ (by decide) (by decide) ?_
  refine Zm.l (fun _ _ k_ => z_iconst (v := 1) dX8_waysOfTest_69 rfl k_) ?_
  refine Zm.l (fun _ _ k_ => z_isub dX8_waysOfTest_70 k_) ?_
  obtain ⟨b_, k⟩ := k
  refine zm_iast dX8_waysOfTest_71 b_ (by decide) (by decide) ?_
  refine Zm.l (fun _ _ k_ => z_iload dX8_waysOfTest_72 rfl k_) ?_
  refine Zm.br (fun _ _ k1_ k2_ => z_if_eq (tgt := 81) dX8_waysOfTest_74 rfl k1_ k2_) (fun h_ => ?_) (fun h_ => ?_)
  · have k := zit h_ k
    refine Zm.pick [0, 1, 2, 4] rfl ?_
    exact k
  · have k := zif h_ k
    refine Zm.l (fun _ _ k_ => z_aload_n dX8_waysOfTest_77 rfl rfl k_) ?_
    refine Zm.pick [0, 1, 2, 4] rfl ?_
    exact zm_callV (as := []) (st := []) dX8_waysOfTest_78 vsX8_1222_1 (Nat.le_refl _) (Nat.le_of_ble_eq_true rfl) (Nat.le_of_ble_eq_true rfl) rfl k
theorem sX8_waysOfTest_81 {E : zE} {d : Nat} {Q : zO → zM → Prop} (M : zM) (l1 : Int32) (l2 : Int32) (l7 : Int32) (k : if l7 = 0 then (Zm E YX8_waysOfTest (d + 1) M [] 97 [] Q) else (if l1 = (22 : Int32) then (Zm E YX8_to d M (zargs 0 [vr (some (97, 1, 0)), vi l2]) 0 [] (zma E YX8_waysOfTest (d + 1) [] 94 3 [] Q)) else (Zm E YX8_waysOfTest (d + 1) M [] 97 [] Q))) : Zm E YX8_waysOfTest (d + 1) M [(0, vr (some (97, 1, 0))), (1, vi l1), (2, vi l2), (7, vi l7)] 81 [] Q := by
  refine Zm.l (fun _ _ k_ => z_iload dX8_waysOfTest_81 rfl k_) ?_
  refine Zm.br (fun _ _ k1_ k2_ => z_if_eq (tgt := 97) dX8_waysOfTest_83 rfl k1_ k2_) (fun h_ => ?_) (fun h_ => ?_)
  · have k := zit h_ k
    refine Zm.pick [] rfl ?_
    exact k
  · have k := zif h_ k
    refine Zm.l (fun _ _ k_ => z_iload_n dX8_waysOfTest_86 rfl rfl k_) ?_
    refine Zm.l (fun _ _ k_ => z_bipush (v := 22) dX8_waysOfTest_87 rfl k_) ?_
    refine Zm.brn (fun _ _ k1_ k2_ => z_icmp_ne (tgt := 97) dX8_waysOfTest_89 rfl k1_ k2_) (fun h_ => ?_) (fun h_ => ?_)
    · have k := zif h_ k
      refine Zm.pick [] rfl ?_
      exact k
    · have k := zit h_ k
      refine Zm.l (fun _ _ k_ => z_aload_n dX8_waysOfTest_92 rfl rfl k_) ?_
      refine Zm.l (fun _ _ k_ => z_iload_n dX8_waysOfTest_93 rfl rfl k_) ?_
      refine Zm.pick [] rfl ?_
      exact zm_callV (as := [vi l2]) (st := []) dX8_waysOfTest_94 vsX8_1274_1 (Nat.le_refl _) (Nat.le_of_ble_eq_true rfl) (Nat.le_of_ble_eq_true rfl) rfl k
theorem sX8_waysOfTest_97 {E : zE} {d : Nat} {Q : zO → zM → Prop} (M : zM)  (k : Q (.inl none) M) : Zm E YX8_waysOfTest (d + 1) M [] 97 [] Q := by
  exact zm_vret dX8_waysOfTest_97 rfl k
/-! ScriptTypesModel.tossTop()V -/
theorem bX8_tossTop_0 : zdec cX8_tossTop 0 [(0, .ldc_w 1194, 3), (3, .istore_n 1, 1), (4, .aload_n 0, 1), (5, .aload_n 0, 1), (6, .iconst 0, 1), (7, .invokevirtual 1195, 3), (10, .iload_n 1, 1), (11, .invokevirtual 1092, 3), (14, .aload_n 0, 1), (15, .iload_n 1, 1), (16, .invokevirtual 1198, 3), (19, .return_, 1)] = true := by decide +kernel
theorem dX8_tossTop_0 : decode cX8_tossTop 0 = .ok (.ldc_w 1194, 3) := zdec_at bX8_tossTop_0 0 rfl
theorem dX8_tossTop_3 : decode cX8_tossTop 3 = .ok (.istore_n 1, 1) := zdec_at bX8_tossTop_0 1 rfl
theorem dX8_tossTop_4 : decode cX8_tossTop 4 = .ok (.aload_n 0, 1) := zdec_at bX8_tossTop_0 2 rfl
theorem dX8_tossTop_5 : decode cX8_tossTop 5 = .ok (.aload_n 0, 1) := zdec_at bX8_tossTop_0 3 rfl
theorem dX8_tossTop_6 : decode cX8_tossTop 6 = .ok (.iconst 0, 1) := zdec_at bX8_tossTop_0 4 rfl
theorem dX8_tossTop_7 : decode cX8_tossTop 7 = .ok (.invokevirtual 1195, 3) := zdec_at bX8_tossTop_0 5 rfl
theorem dX8_tossTop_10 : decode cX8_tossTop 10 = .ok (.iload_n 1, 1) := zdec_at bX8_tossTop_0 6 rfl
theorem dX8_tossTop_11 : decode cX8_tossTop 11 = .ok (.invokevirtual 1092, 3) := zdec_at bX8_tossTop_0 7 rfl
theorem dX8_tossTop_14 : decode cX8_tossTop 14 = .ok (.aload_n 0, 1) := zdec_at bX8_tossTop_0 8 rfl
theorem dX8_tossTop_15 : decode cX8_tossTop 15 = .ok (.iload_n 1, 1) := zdec_at bX8_tossTop_0 9 rfl
theorem dX8_tossTop_16 : decode cX8_tossTop 16 = .ok (.invokevirtual 1198, 3) := zdec_at bX8_tossTop_0 10 rfl
theorem dX8_tossTop_19 : decode cX8_tossTop 19 = .ok (.return_, 1) := zdec_at bX8_tossTop_0 11 rfl
theorem sX8_tossTop_0 {E : zE} {d : Nat} {Q : zO → zM → Prop} (M : zM)  (k : Zm E YX8_fromTop d M (zargs 0 [vr (some (97, 1, 0)), vi (0 : Int32)]) 0 [] (zma E YX8_tossTop (d + 1) [(0, vr (some (97, 1, 0))), (1, vi (647792 : Int32))] 7 3 [vr (some (97, 1, 0))] Q)) : Zm E YX8_tossTop (d + 1) M [(0, vr (some (97, 1, 0)))] 0 [] Q := by
  refine Zm.l (fun _ _ k_ => z_ldcw (v := 647792) dX8_tossTop_0 q4998 k_) ?_
  refine Zm.l (fun _ _ k_ => z_ist_n dX8_tossTop_3 rfl (by decide) (lv' := [(0, vr (some (97, 1, 0))), (1, vi (647792 : Int32))]) rfl k_) ?_
  refine Zm.l (fun _ _ k_ => z_aload_n dX8_tossTop_4 rfl rfl k_) ?_
  refine Zm.l (fun _ _ k_ => z_aload_n dX8_tossTop_5 rfl rfl k_) ?_
  refine Zm.l (fun _ _ k_ => z_iconst (v := 0) dX8_tossTop_6 rfl k_) ?_
  exact zm_callV (as := [vi (0 : Int32)]) (st := [vr (some (97, 1, 0))]) dX8_tossTop_7 vsX8_1195_1 (Nat.le_refl _) (Nat.le_of_ble_eq_true rfl) (Nat.le_of_ble_eq_true rfl) rfl k
theorem sX8_tossTop_10 {E : zE} {d : Nat} {Q : zO → zM → Prop} (M : zM) (l1 : Int32) (s0 : Int32) (k : Zm E YX8_copySet d M (zargs 0 [vr (some (97, 1, 0)), vi s0, vi l1]) 0 [] (zma E YX8_tossTop (d + 1) [(0, vr (some (97, 1, 0))), (1, vi l1)] 11 3 [] Q)) : Zm E YX8_tossTop (d + 1) M [(0, vr (some (97, 1, 0))), (1, vi l1)] 10 [vi s0, vr (some (97, 1, 0))] Q := by
  refine Zm.l (fun _ _ k_ => z_iload_n dX8_tossTop_10 rfl rfl k_) ?_
  exact zm_callV (as := [vi s0, vi l1]) (st := []) dX8_tossTop_11 vsX8_1092_1 (Nat.le_refl _) (Nat.le_of_ble_eq_true rfl) (Nat.le_of_ble_eq_true rfl) rfl k
theorem sX8_tossTop_14 {E : zE} {d : Nat} {Q : zO → zM → Prop} (M : zM) (l1 : Int32) (k : Zm E YX8_tossSet d M (zargs 0 [vr (some (97, 1, 0)), vi l1]) 0 [] (zma E YX8_tossTop (d + 1) [] 16 3 [] Q)) : Zm E YX8_tossTop (d + 1) M [(0, vr (some (97, 1, 0))), (1, vi l1)] 14 [] Q := by
  refine Zm.l (fun _ _ k_ => z_aload_n dX8_tossTop_14 rfl rfl k_) ?_
  refine Zm.l (fun _ _ k_ => z_iload_n dX8_tossTop_15 rfl rfl k_) ?_
  refine Zm.pick [] rfl ?_
  exact zm_callV (as := [vi l1]) (st := []) dX8_tossTop_16 vsX8_1198_1 (Nat.le_refl _) (Nat.le_of_ble_eq_true rfl) (Nat.le_of_ble_eq_true rfl) rfl k
theorem sX8_tossTop_19 {E : zE} {d : Nat} {Q : zO → zM → Prop} (M : zM)  (k : Q (.inl none) M) : Zm E YX8_tossTop (d + 1) M [] 19 [] Q := by
  exact zm_vret dX8_tossTop_19 rfl k
/-! ScriptTypesModel.height(I)I -/
theorem bX8_height_0 : zdec cX8_height 0 [(0, .aload_n 0, 1), (1, .iload_n 1, 1), (2, .invokevirtual 1387, 3), (5, .ifCond .eq 12, 3), (8, .aload_n 0, 1), (9, .getfield 235, 3), (12, .iload_n 1, 1), (13, .iaload, 1), (14, .goto 4, 3), (17, .iconst (-1), 1), (18, .ireturn, 1)] = true := by decide +kernel
theorem dX8_height_0 : decode cX8_height 0 = .ok (.aload_n 0, 1) := zdec_at bX8_height_0 0 rfl
theorem dX8_height_1 : decode cX8_height 1 = .ok (.iload_n 1, 1) := zdec_at bX8_height_0 1 rfl
theorem dX8_height_2 : decode cX8_height 2 = .ok (.invokevirtual 1387, 3) := zdec_at bX8_height_0 2 rfl
theorem dX8_height_5 : decode cX8_height 5 = .ok (.ifCond .eq 12, 3) := zdec_at bX8_height_0 3 rfl
theorem dX8_height_8 : decode cX8_height 8 = .ok (.aload_n 0, 1) := zdec_at bX8_height_0 4 rfl
theorem dX8_height_9 : decode cX8_height 9 = .ok (.getfield 235, 3) := zdec_at bX8_height_0 5 rfl
theorem dX8_height_12 : decode cX8_height 12 = .ok (.iload_n 1, 1) := zdec_at bX8_height_0 6 rfl
theorem dX8_height_13 : decode cX8_height 13 = .ok (.iaload, 1) := zdec_at bX8_height_0 7 rfl
theorem dX8_height_14 : decode cX8_height 14 = .ok (.goto 4, 3) := zdec_at bX8_height_0 8 rfl
theorem dX8_height_17 : decode cX8_height 17 = .ok (.iconst (-1), 1) := zdec_at bX8_height_0 9 rfl
theorem dX8_height_18 : decode cX8_height 18 = .ok (.ireturn, 1) := zdec_at bX8_height_0 10 rfl
theorem sX8_height_0 {E : zE} {d : Nat} {Q : zO → zM → Prop} (M : zM) (l1 : Int32) (k : Zm E YX8_isReached d M (zargs 0 [vr (some (97, 1, 0)), vi l1]) 0 [] (zma E YX8_height (d + 1) [(0, vr (some (97, 1, 0))), (1, vi l1)] 2 3 [] Q)) : Zm E YX8_height (d + 1) M [(0, vr (some (97, 1, 0))), (1, vi l1)] 0 [] Q := by
  refine Zm.l (fun _ _ k_ => z_aload_n dX8_height_0 rfl rfl k_) ?_
  refine Zm.l (fun _ _ k_ => z_iload_n dX8_height_1 rfl rfl k_) ?_
  exact zm_callV (as := [vi l1]) (st := []) dX8_height_2 vsX8_1387_1 (Nat.le_refl _) (Nat.le_of_ble_eq_true rfl) (Nat.le_of_ble_eq_true rfl) rfl k
theorem sX8_height_5 {E : zE} {d : Nat} {Q : zO → zM → Prop} (M : zM) (l1 : Int32) (s0 : Int32) (k : if s0 = 0 then (Q (.inl (some (vi (-1 : Int32)))) M) else (vp_in l1 640 ∧ (Q (.inl (some (vi (gi M 171 (l1).toNatClampNeg)))) M))) : Zm E YX8_height (d + 1) M [(0, vr (some (97, 1, 0))), (1, vi l1)] 5 [vi s0] Q := by
  refine Zm.br (fun _ _ k1_ k2_ => z_if_eq (tgt := 17) dX8_height_5 rfl k1_ k2_) (fun h_ => ?_) (fun h_ => ?_)
  · have k := zit h_ k
    refine Zm.l (fun _ _ k_ => z_iconst (v := -1) dX8_height_17 rfl k_) ?_
    exact zm_iret dX8_height_18 rfl rfl k
  · have k := zif h_ k
    refine Zm.l (fun _ _ k_ => z_aload_n dX8_height_8 rfl rfl k_) ?_
    refine zm_getr 68 dX8_height_9 fsX8_235_1 rfl ?_
    refine Zm.l (fun _ _ k_ => z_iload_n dX8_height_12 rfl rfl k_) ?_
    obtain ⟨b_, k⟩ := k
    refine zm_iald dX8_height_13 b_ (by decide) (by decide) ?_
    refine Zm.l (fun _ _ k_ => z_goto (tgt := 18) dX8_height_14 rfl k_) ?_
    exact zm_iret dX8_height_18 rfl rfl k
/-! ScriptTypesModel.isReached(I)Z -/
theorem bX8_isReached_0 : zdec cX8_isReached 0 [(0, .aload_n 0, 1), (1, .iconst 0, 1), (2, .putfield 289, 3), (5, .aload_n 0, 1), (6, .getfield 776, 3), (9, .ifCond .eq 30, 3), (12, .iload_n 1, 1), (13, .iconst 0, 1), (14, .aload_n 0, 1), (15, .getfield 606, 3), (18, .iconst 1, 1), (19, .isub, 1), (20, .invokestatic 899, 3), (23, .ifCond .eq 16, 3), (26, .aload_n 0, 1), (27, .getfield 226, 3)] = true := by decide +kernel
theorem dX8_isReached_0 : decode cX8_isReached 0 = .ok (.aload_n 0, 1) := zdec_at bX8_isReached_0 0 rfl
theorem dX8_isReached_1 : decode cX8_isReached 1 = .ok (.iconst 0, 1) := zdec_at bX8_isReached_0 1 rfl
theorem dX8_isReached_2 : decode cX8_isReached 2 = .ok (.putfield 289, 3) := zdec_at bX8_isReached_0 2 rfl
theorem dX8_isReached_5 : decode cX8_isReached 5 = .ok (.aload_n 0, 1) := zdec_at bX8_isReached_0 3 rfl
theorem dX8_isReached_6 : decode cX8_isReached 6 = .ok (.getfield 776, 3) := zdec_at bX8_isReached_0 4 rfl
theorem dX8_isReached_9 : decode cX8_isReached 9 = .ok (.ifCond .eq 30, 3) := zdec_at bX8_isReached_0 5 rfl
theorem dX8_isReached_12 : decode cX8_isReached 12 = .ok (.iload_n 1, 1) := zdec_at bX8_isReached_0 6 rfl
theorem dX8_isReached_13 : decode cX8_isReached 13 = .ok (.iconst 0, 1) := zdec_at bX8_isReached_0 7 rfl
theorem dX8_isReached_14 : decode cX8_isReached 14 = .ok (.aload_n 0, 1) := zdec_at bX8_isReached_0 8 rfl
theorem dX8_isReached_15 : decode cX8_isReached 15 = .ok (.getfield 606, 3) := zdec_at bX8_isReached_0 9 rfl
theorem dX8_isReached_18 : decode cX8_isReached 18 = .ok (.iconst 1, 1) := zdec_at bX8_isReached_0 10 rfl
theorem dX8_isReached_19 : decode cX8_isReached 19 = .ok (.isub, 1) := zdec_at bX8_isReached_0 11 rfl
theorem dX8_isReached_20 : decode cX8_isReached 20 = .ok (.invokestatic 899, 3) := zdec_at bX8_isReached_0 12 rfl
theorem dX8_isReached_23 : decode cX8_isReached 23 = .ok (.ifCond .eq 16, 3) := zdec_at bX8_isReached_0 13 rfl
theorem dX8_isReached_26 : decode cX8_isReached 26 = .ok (.aload_n 0, 1) := zdec_at bX8_isReached_0 14 rfl
theorem dX8_isReached_27 : decode cX8_isReached 27 = .ok (.getfield 226, 3) := zdec_at bX8_isReached_0 15 rfl
theorem bX8_isReached_30 : zdec cX8_isReached 30 [(30, .iload_n 1, 1), (31, .baload, 1), (32, .ifCond .eq 7, 3), (35, .iconst 1, 1), (36, .goto 4, 3), (39, .iconst 0, 1), (40, .ireturn, 1)] = true := by decide +kernel
theorem dX8_isReached_30 : decode cX8_isReached 30 = .ok (.iload_n 1, 1) := zdec_at bX8_isReached_30 0 rfl
theorem dX8_isReached_31 : decode cX8_isReached 31 = .ok (.baload, 1) := zdec_at bX8_isReached_30 1 rfl
theorem dX8_isReached_32 : decode cX8_isReached 32 = .ok (.ifCond .eq 7, 3) := zdec_at bX8_isReached_30 2 rfl
theorem dX8_isReached_35 : decode cX8_isReached 35 = .ok (.iconst 1, 1) := zdec_at bX8_isReached_30 3 rfl
theorem dX8_isReached_36 : decode cX8_isReached 36 = .ok (.goto 4, 3) := zdec_at bX8_isReached_30 4 rfl
theorem dX8_isReached_39 : decode cX8_isReached 39 = .ok (.iconst 0, 1) := zdec_at bX8_isReached_30 5 rfl
theorem dX8_isReached_40 : decode cX8_isReached 40 = .ok (.ireturn, 1) := zdec_at bX8_isReached_30 6 rfl
theorem sX8_isReached_0 {E : zE} {d : Nat} {Q : zO → zM → Prop} (M : zM) (l1 : Int32) (k : if (gi M 97 119) = 0 then (Q (.inl (some (vi (0 : Int32)))) (si M 97 0 (0 : Int32))) else (Zm E YX8_in d (si M 97 0 (0 : Int32)) (zargs 0 [vi l1, vi (0 : Int32), vi ((gi M 97 46) - (1 : Int32))]) 0 [] (zma E YX8_isReached (d + 1) [(0, vr (some (97, 1, 0))), (1, vi l1)] 20 3 [] Q))) : Zm E YX8_isReached (d + 1) M [(0, vr (some (97, 1, 0))), (1, vi l1)] 0 [] Q := by
  refine Zm.l (fun _ _ k_ => z_aload_n dX8_isReached_0 rfl rfl k_) ?_
  refine Zm.l (fun _ _ k_ => z_iconst (v := 0) dX8_isReached_1 rfl k_) ?_
  refine zm_puti (by decide) (by decide) dX8_isReached_2 (zfwN.w fwX8_289_1) rfl ⟨rfl, rfl⟩ ?_
  refine Zm.l (fun _ _ k_ => z_aload_n dX8_isReached_5 rfl rfl k_) ?_
  refine zm_geti dX8_isReached_6 fsX8_776_1 (by decide) (by decide) ?_
  refine Zm.br (fun _ _ k1_ k2_ => z_if_eq (tgt := 39) dX8_isReached_9 rfl k1_ k2_) (fun h_ => ?_) (fun h_ => ?_)
  · have k := zit h_ k
    refine Zm.l (fun _ _ k_ => z_iconst (v := 0) dX8_isReached_39 rfl k_) ?_
    exact zm_iret dX8_isReached_40 rfl (by decide) k
  · have k := zif h_ k
    refine Zm.l (fun _ _ k_ => z_iload_n dX8_isReached_12 rfl rfl k_) ?_
    refine Zm.l (fun _ _ k_ => z_iconst (v := 0) dX8_isReached_13 rfl k_) ?_
    refine Zm.l (fun _ _ k_ => z_aload_n dX8_isReached_14 rfl rfl k_) ?_
    refine zm_geti dX8_isReached_15 fsX8_606_1 (by decide) (by decide) ?_
    refine Zm.l (fun _ _ k_ => z_iconst (v := 1) dX8_isReached_18 rfl k_) ?_
    refine Zm.l (fun _ _ k_ => z_isub dX8_isReached_19 k_) ?_
    exact zm_callS (as := [vi l1, vi (0 : Int32), vi ((gi M 97 46) - (1 : Int32))]) (st := []) dX8_isReached_20 ssX8_899 (Nat.le_refl _) (Nat.le_of_ble_eq_true rfl) (Nat.le_of_ble_eq_true rfl) rfl k
theorem sX8_isReached_23 {E : zE} {d : Nat} {Q : zO → zM → Prop} (M : zM) (l1 : Int32) (s0 : Int32) (k : if s0 = 0 then (Q (.inl (some (vi (0 : Int32)))) M) else (vp_in l1 640 ∧ (if (gi M 168 (l1).toNatClampNeg) = 0 then (Q (.inl (some (vi (0 : Int32)))) M) else (Q (.inl (some (vi (1 : Int32)))) M)))) : Zm E YX8_isReached (d + 1) M [(0, vr (some (97, 1, 0))), (1, vi l1)] 23 [vi s0] Q := by
  refine Zm.br (fun _ _ k1_ k2_ => z_if_eq (tgt := 39) dX8_isReached_23 rfl k1_ k2_) (fun h_ => ?_) (fun h_ => ?_)
  · have k := zit h_ k
    refine Zm.l (fun _ _ k_ => z_iconst (v := 0) dX8_isReached_39 rfl k_) ?_
    exact zm_iret dX8_isReached_40 rfl (by decide) k
  · have k := zif h_ k
    refine Zm.l (fun _ _ k_ => z_aload_n dX8_isReached_26 rfl rfl k_) ?_
    refine zm_getr 65 dX8_isReached_27 fsX8_226_1 rfl ?_
    refine Zm.l (fun _ _ k_ => z_iload_n dX8_isReached_30 rfl rfl k_) ?_
    obtain ⟨b_, k⟩ := k
    refine zm_zald dX8_isReached_31 b_ (by decide) (by decide) ?_
    refine Zm.br (fun _ _ k1_ k2_ => z_if_eq (tgt := 39) dX8_isReached_32 rfl k1_ k2_) (fun h_ => ?_) (fun h_ => ?_)
    · have k := zit h_ k
      refine Zm.l (fun _ _ k_ => z_iconst (v := 0) dX8_isReached_39 rfl k_) ?_
      exact zm_iret dX8_isReached_40 rfl (by decide) k
    · have k := zif h_ k
      refine Zm.l (fun _ _ k_ => z_iconst (v := 1) dX8_isReached_35 rfl k_) ?_
      refine Zm.l (fun _ _ k_ => z_goto (tgt := 40) dX8_isReached_36 rfl k_) ?_
      exact zm_iret dX8_isReached_40 rfl (by decide) k
/-! ScriptTypesModel.slot(III)J -/
theorem bX8_slot_0 : zdec cX8_slot 0 [(0, .aload_n 0, 1), (1, .iload_n 1, 1), (2, .invokevirtual 1387, 3), (5, .ifCond .eq 19, 3), (8, .iload_n 2, 1), (9, .iconst (-1), 1), (10, .aload_n 0, 1), (11, .getfield 235, 3), (14, .iload_n 1, 1), (15, .iaload, 1), (16, .iconst 1, 1), (17, .isub, 1), (18, .invokestatic 899, 3), (21, .ifCond .ne 5, 3), (24, .lconst 0, 1), (25, .lreturn, 1)] = true := by decide +kernel
theorem dX8_slot_0 : decode cX8_slot 0 = .ok (.aload_n 0, 1) := zdec_at bX8_slot_0 0 rfl
theorem dX8_slot_1 : decode cX8_slot 1 = .ok (.iload_n 1, 1) := zdec_at bX8_slot_0 1 rfl
theorem dX8_slot_2 : decode cX8_slot 2 = .ok (.invokevirtual 1387, 3) := zdec_at bX8_slot_0 2 rfl
theorem dX8_slot_5 : decode cX8_slot 5 = .ok (.ifCond .eq 19, 3) := zdec_at bX8_slot_0 3 rfl
theorem dX8_slot_8 : decode cX8_slot 8 = .ok (.iload_n 2, 1) := zdec_at bX8_slot_0 4 rfl
theorem dX8_slot_9 : decode cX8_slot 9 = .ok (.iconst (-1), 1) := zdec_at bX8_slot_0 5 rfl
theorem dX8_slot_10 : decode cX8_slot 10 = .ok (.aload_n 0, 1) := zdec_at bX8_slot_0 6 rfl
theorem dX8_slot_11 : decode cX8_slot 11 = .ok (.getfield 235, 3) := zdec_at bX8_slot_0 7 rfl
theorem dX8_slot_14 : decode cX8_slot 14 = .ok (.iload_n 1, 1) := zdec_at bX8_slot_0 8 rfl
theorem dX8_slot_15 : decode cX8_slot 15 = .ok (.iaload, 1) := zdec_at bX8_slot_0 9 rfl
theorem dX8_slot_16 : decode cX8_slot 16 = .ok (.iconst 1, 1) := zdec_at bX8_slot_0 10 rfl
theorem dX8_slot_17 : decode cX8_slot 17 = .ok (.isub, 1) := zdec_at bX8_slot_0 11 rfl
theorem dX8_slot_18 : decode cX8_slot 18 = .ok (.invokestatic 899, 3) := zdec_at bX8_slot_0 12 rfl
theorem dX8_slot_21 : decode cX8_slot 21 = .ok (.ifCond .ne 5, 3) := zdec_at bX8_slot_0 13 rfl
theorem dX8_slot_24 : decode cX8_slot 24 = .ok (.lconst 0, 1) := zdec_at bX8_slot_0 14 rfl
theorem dX8_slot_25 : decode cX8_slot 25 = .ok (.lreturn, 1) := zdec_at bX8_slot_0 15 rfl
theorem bX8_slot_26 : zdec cX8_slot 26 [(26, .aload_n 0, 1), (27, .iload_n 2, 1), (28, .iconst (-1), 1), (29, .if_icmp .ne 11, 3), (32, .aload_n 0, 1), (33, .iload_n 1, 1), (34, .invokevirtual 1098, 3), (37, .goto 9, 3), (40, .aload_n 0, 1), (41, .iload_n 1, 1), (42, .iload_n 2, 1), (43, .invokevirtual 1323, 3), (46, .iload_n 3, 1), (47, .invokevirtual 1390, 3), (50, .lreturn, 1)] = true := by decide +kernel
theorem dX8_slot_26 : decode cX8_slot 26 = .ok (.aload_n 0, 1) := zdec_at bX8_slot_26 0 rfl
theorem dX8_slot_27 : decode cX8_slot 27 = .ok (.iload_n 2, 1) := zdec_at bX8_slot_26 1 rfl
theorem dX8_slot_28 : decode cX8_slot 28 = .ok (.iconst (-1), 1) := zdec_at bX8_slot_26 2 rfl
theorem dX8_slot_29 : decode cX8_slot 29 = .ok (.if_icmp .ne 11, 3) := zdec_at bX8_slot_26 3 rfl
theorem dX8_slot_32 : decode cX8_slot 32 = .ok (.aload_n 0, 1) := zdec_at bX8_slot_26 4 rfl
theorem dX8_slot_33 : decode cX8_slot 33 = .ok (.iload_n 1, 1) := zdec_at bX8_slot_26 5 rfl
theorem dX8_slot_34 : decode cX8_slot 34 = .ok (.invokevirtual 1098, 3) := zdec_at bX8_slot_26 6 rfl
theorem dX8_slot_37 : decode cX8_slot 37 = .ok (.goto 9, 3) := zdec_at bX8_slot_26 7 rfl
theorem dX8_slot_40 : decode cX8_slot 40 = .ok (.aload_n 0, 1) := zdec_at bX8_slot_26 8 rfl
theorem dX8_slot_41 : decode cX8_slot 41 = .ok (.iload_n 1, 1) := zdec_at bX8_slot_26 9 rfl
theorem dX8_slot_42 : decode cX8_slot 42 = .ok (.iload_n 2, 1) := zdec_at bX8_slot_26 10 rfl
theorem dX8_slot_43 : decode cX8_slot 43 = .ok (.invokevirtual 1323, 3) := zdec_at bX8_slot_26 11 rfl
theorem dX8_slot_46 : decode cX8_slot 46 = .ok (.iload_n 3, 1) := zdec_at bX8_slot_26 12 rfl
theorem dX8_slot_47 : decode cX8_slot 47 = .ok (.invokevirtual 1390, 3) := zdec_at bX8_slot_26 13 rfl
theorem dX8_slot_50 : decode cX8_slot 50 = .ok (.lreturn, 1) := zdec_at bX8_slot_26 14 rfl
theorem sX8_slot_0 {E : zE} {d : Nat} {Q : zO → zM → Prop} (M : zM) (l1 : Int32) (l2 : Int32) (l3 : Int32) (k : Zm E YX8_isReached d M (zargs 0 [vr (some (97, 1, 0)), vi l1]) 0 [] (zma E YX8_slot (d + 1) [(0, vr (some (97, 1, 0))), (1, vi l1), (2, vi l2), (3, vi l3)] 2 3 [] Q)) : Zm E YX8_slot (d + 1) M [(0, vr (some (97, 1, 0))), (1, vi l1), (2, vi l2), (3, vi l3)] 0 [] Q := by
  refine Zm.l (fun _ _ k_ => z_aload_n dX8_slot_0 rfl rfl k_) ?_
  refine Zm.l (fun _ _ k_ => z_iload_n dX8_slot_1 rfl rfl k_) ?_
  exact zm_callV (as := [vi l1]) (st := []) dX8_slot_2 vsX8_1387_1 (Nat.le_refl _) (Nat.le_of_ble_eq_true rfl) (Nat.le_of_ble_eq_true rfl) rfl k
theorem sX8_slot_5 {E : zE} {d : Nat} {Q : zO → zM → Prop} (M : zM) (l1 : Int32) (l2 : Int32) (l3 : Int32) (s0 : Int32) (k : if s0 = 0 then (Q (.inl (some (vl (0 : Int64)))) M) else (vp_in l1 640 ∧ (Zm E YX8_in d M (zargs 0 [vi l2, vi (-1 : Int32), vi ((gi M 171 (l1).toNatClampNeg) - (1 : Int32))]) 0 [] (zma E YX8_slot (d + 1) [(0, vr (some (97, 1, 0))), (1, vi l1), (2, vi l2), (3, vi l3)] 18 3 [] Q)))) : Zm E YX8_slot (d + 1) M [(0, vr (some (97, 1, 0))), (1, vi l1), (2, vi l2), (3, vi l3)] 5 [vi s0] Q := by
  refine Zm.br (fun _ _ k1_ k2_ => z_if_eq (tgt := 24) dX8_slot_5 rfl k1_ k2_) (fun h_ => ?_) (fun h_ => ?_)
  · have k := zit h_ k
    refine Zm.l (fun _ _ k_ => z_lconst (v := 0) dX8_slot_24 rfl k_) ?_
    exact zm_lret dX8_slot_25 rfl k
  · have k := zif h_ k
    refine Zm.l (fun _ _ k_ => z_iload_n dX8_slot_8 rfl rfl k_) ?_
    refine Zm.l (fun _ _ k_ => z_iconst (v := -1) dX8_slot_9 rfl k_) ?_
    refine Zm.l (fun _ _ k_ => z_aload_n dX8_slot_10 rfl rfl k_) ?_
    refine zm_getr 68 dX8_slot_11 fsX8_235_1 rfl ?_
    refine Zm.l (fun _ _ k_ => z_iload_n dX8_slot_14 rfl rfl k_) ?_
    obtain ⟨b_, k⟩ := k
    refine zm_iald dX8_slot_15 b_ (by decide) (by decide) ?_
    refine Zm.l (fun _ _ k_ => z_iconst (v := 1) dX8_slot_16 rfl k_) ?_
    refine Zm.l (fun _ _ k_ => z_isub dX8_slot_17 k_) ?_
    exact zm_callS (as := [vi l2, vi (-1 : Int32), vi ((gi M 171 (l1).toNatClampNeg) - (1 : Int32))]) (st := []) dX8_slot_18 ssX8_899 (Nat.le_refl _) (Nat.le_of_ble_eq_true rfl) (Nat.le_of_ble_eq_true rfl) rfl k
theorem sX8_slot_21 {E : zE} {d : Nat} {Q : zO → zM → Prop} (M : zM) (l1 : Int32) (l2 : Int32) (l3 : Int32) (s0 : Int32) (k : if s0 = 0 then (Q (.inl (some (vl (0 : Int64)))) M) else (if l2 = (-1 : Int32) then (Zm E YX8_thisAt d M (zargs 0 [vr (some (97, 1, 0)), vi l1]) 0 [] (zma E YX8_slot (d + 1) [(3, vi l3)] 34 3 [vr (some (97, 1, 0))] Q)) else (Zm E YX8_onStack d M (zargs 0 [vr (some (97, 1, 0)), vi l1, vi l2]) 0 [] (zma E YX8_slot (d + 1) [(3, vi l3)] 43 3 [vr (some (97, 1, 0))] Q)))) : Zm E YX8_slot (d + 1) M [(0, vr (some (97, 1, 0))), (1, vi l1), (2, vi l2), (3, vi l3)] 21 [vi s0] Q := by
  refine Zm.brn (fun _ _ k1_ k2_ => z_if_ne (tgt := 26) dX8_slot_21 rfl k1_ k2_) (fun h_ => ?_) (fun h_ => ?_)
  · have k := zif h_ k
    refine Zm.l (fun _ _ k_ => z_aload_n dX8_slot_26 rfl rfl k_) ?_
    refine Zm.l (fun _ _ k_ => z_iload_n dX8_slot_27 rfl rfl k_) ?_
    refine Zm.l (fun _ _ k_ => z_iconst (v := -1) dX8_slot_28 rfl k_) ?_
    refine Zm.brn (fun _ _ k1_ k2_ => z_icmp_ne (tgt := 40) dX8_slot_29 rfl k1_ k2_) (fun h_ => ?_) (fun h_ => ?_)
    · have k := zif h_ k
      refine Zm.l (fun _ _ k_ => z_aload_n dX8_slot_40 rfl rfl k_) ?_
      refine Zm.l (fun _ _ k_ => z_iload_n dX8_slot_41 rfl rfl k_) ?_
      refine Zm.l (fun _ _ k_ => z_iload_n dX8_slot_42 rfl rfl k_) ?_
      refine Zm.pick [3] rfl ?_
      exact zm_callV (as := [vi l1, vi l2]) (st := [vr (some (97, 1, 0))]) dX8_slot_43 vsX8_1323_1 (Nat.le_refl _) (Nat.le_of_ble_eq_true rfl) (Nat.le_of_ble_eq_true rfl) rfl k
    · have k := zit h_ k
      refine Zm.l (fun _ _ k_ => z_aload_n dX8_slot_32 rfl rfl k_) ?_
      refine Zm.l (fun _ _ k_ => z_iload_n dX8_slot_33 rfl rfl k_) ?_
      refine Zm.pick [3] rfl ?_
      exact zm_callV (as := [vi l1]) (st := [vr (some (97, 1, 0))]) dX8_slot_34 vsX8_1098_1 (Nat.le_refl _) (Nat.le_of_ble_eq_true rfl) (Nat.le_of_ble_eq_true rfl) rfl k
  · have k := zit h_ k
    refine Zm.l (fun _ _ k_ => z_lconst (v := 0) dX8_slot_24 rfl k_) ?_
    exact zm_lret dX8_slot_25 rfl k
theorem sX8_slot_37 {E : zE} {d : Nat} {Q : zO → zM → Prop} (M : zM) (l3 : Int32) (s0 : Int32) (k : Zm E YX8_slot (d + 1) M [(3, vi l3)] 46 [vi s0, vr (some (97, 1, 0))] Q) : Zm E YX8_slot (d + 1) M [(3, vi l3)] 37 [vi s0, vr (some (97, 1, 0))] Q := by
  refine Zm.l (fun _ _ k_ => z_goto (tgt := 46) dX8_slot_37 rfl k_) ?_
  exact k
theorem sX8_slot_46 {E : zE} {d : Nat} {Q : zO → zM → Prop} (M : zM) (l3 : Int32) (s0 : Int32) (k : Zm E YX8_tell d M (zargs 0 [vr (some (97, 1, 0)), vi s0, vi l3]) 0 [] (zma E YX8_slot (d + 1) [] 47 3 [] Q)) : Zm E YX8_slot (d + 1) M [(3, vi l3)] 46 [vi s0, vr (some (97, 1, 0))] Q := by
  refine Zm.l (fun _ _ k_ => z_iload_n dX8_slot_46 rfl rfl k_) ?_
  refine Zm.pick [] rfl ?_
  exact zm_callV (as := [vi s0, vi l3]) (st := []) dX8_slot_47 vsX8_1390_1 (Nat.le_refl _) (Nat.le_of_ble_eq_true rfl) (Nat.le_of_ble_eq_true rfl) rfl k
theorem sX8_slot_50 {E : zE} {d : Nat} {Q : zO → zM → Prop} (M : zM) (s0 : Int64) (k : Q (.inl (some (vl s0))) M) : Zm E YX8_slot (d + 1) M [] 50 [vl s0] Q := by
  exact zm_lret dX8_slot_50 rfl k
/-! ScriptTypesModel.tell(II)J -/
theorem bX8_tell_0 : zdec cX8_tell 0 [(0, .iload_n 2, 1)] = true := by decide +kernel
theorem dX8_tell_0 : decode cX8_tell 0 = .ok (.iload_n 2, 1) := zdec_at bX8_tell_0 0 rfl
theorem dX8_tell_1 : decode cX8_tell 1 = .ok (.tableswitch 70 0 4 #[35, 42, 49, 56, 63], 35) := by decide +kernel
theorem bX8_tell_36 : zdec cX8_tell 36 [(36, .aload_n 0, 1), (37, .iload_n 1, 1), (38, .invokevirtual 1047, 3), (41, .i2l, 1), (42, .lreturn, 1), (43, .aload_n 0, 1), (44, .iload_n 1, 1), (45, .invokevirtual 1050, 3), (48, .i2l, 1), (49, .lreturn, 1), (50, .aload_n 0, 1), (51, .iload_n 1, 1), (52, .invokevirtual 1053, 3), (55, .i2l, 1), (56, .lreturn, 1), (57, .aload_n 0, 1)] = true := by decide +kernel
theorem dX8_tell_36 : decode cX8_tell 36 = .ok (.aload_n 0, 1) := zdec_at bX8_tell_36 0 rfl
theorem dX8_tell_37 : decode cX8_tell 37 = .ok (.iload_n 1, 1) := zdec_at bX8_tell_36 1 rfl
theorem dX8_tell_38 : decode cX8_tell 38 = .ok (.invokevirtual 1047, 3) := zdec_at bX8_tell_36 2 rfl
theorem dX8_tell_41 : decode cX8_tell 41 = .ok (.i2l, 1) := zdec_at bX8_tell_36 3 rfl
theorem dX8_tell_42 : decode cX8_tell 42 = .ok (.lreturn, 1) := zdec_at bX8_tell_36 4 rfl
theorem dX8_tell_43 : decode cX8_tell 43 = .ok (.aload_n 0, 1) := zdec_at bX8_tell_36 5 rfl
theorem dX8_tell_44 : decode cX8_tell 44 = .ok (.iload_n 1, 1) := zdec_at bX8_tell_36 6 rfl
theorem dX8_tell_45 : decode cX8_tell 45 = .ok (.invokevirtual 1050, 3) := zdec_at bX8_tell_36 7 rfl
theorem dX8_tell_48 : decode cX8_tell 48 = .ok (.i2l, 1) := zdec_at bX8_tell_36 8 rfl
theorem dX8_tell_49 : decode cX8_tell 49 = .ok (.lreturn, 1) := zdec_at bX8_tell_36 9 rfl
theorem dX8_tell_50 : decode cX8_tell 50 = .ok (.aload_n 0, 1) := zdec_at bX8_tell_36 10 rfl
theorem dX8_tell_51 : decode cX8_tell 51 = .ok (.iload_n 1, 1) := zdec_at bX8_tell_36 11 rfl
theorem dX8_tell_52 : decode cX8_tell 52 = .ok (.invokevirtual 1053, 3) := zdec_at bX8_tell_36 12 rfl
theorem dX8_tell_55 : decode cX8_tell 55 = .ok (.i2l, 1) := zdec_at bX8_tell_36 13 rfl
theorem dX8_tell_56 : decode cX8_tell 56 = .ok (.lreturn, 1) := zdec_at bX8_tell_36 14 rfl
theorem dX8_tell_57 : decode cX8_tell 57 = .ok (.aload_n 0, 1) := zdec_at bX8_tell_36 15 rfl
theorem bX8_tell_58 : zdec cX8_tell 58 [(58, .getfield 220, 3), (61, .iload_n 1, 1), (62, .laload, 1), (63, .lreturn, 1), (64, .aload_n 0, 1), (65, .getfield 223, 3), (68, .iload_n 1, 1), (69, .laload, 1), (70, .lreturn, 1), (71, .lconst 0, 1), (72, .lreturn, 1)] = true := by decide +kernel
theorem dX8_tell_58 : decode cX8_tell 58 = .ok (.getfield 220, 3) := zdec_at bX8_tell_58 0 rfl
theorem dX8_tell_61 : decode cX8_tell 61 = .ok (.iload_n 1, 1) := zdec_at bX8_tell_58 1 rfl
theorem dX8_tell_62 : decode cX8_tell 62 = .ok (.laload, 1) := zdec_at bX8_tell_58 2 rfl
theorem dX8_tell_63 : decode cX8_tell 63 = .ok (.lreturn, 1) := zdec_at bX8_tell_58 3 rfl
theorem dX8_tell_64 : decode cX8_tell 64 = .ok (.aload_n 0, 1) := zdec_at bX8_tell_58 4 rfl
theorem dX8_tell_65 : decode cX8_tell 65 = .ok (.getfield 223, 3) := zdec_at bX8_tell_58 5 rfl
theorem dX8_tell_68 : decode cX8_tell 68 = .ok (.iload_n 1, 1) := zdec_at bX8_tell_58 6 rfl
theorem dX8_tell_69 : decode cX8_tell 69 = .ok (.laload, 1) := zdec_at bX8_tell_58 7 rfl
theorem dX8_tell_70 : decode cX8_tell 70 = .ok (.lreturn, 1) := zdec_at bX8_tell_58 8 rfl
theorem dX8_tell_71 : decode cX8_tell 71 = .ok (.lconst 0, 1) := zdec_at bX8_tell_58 9 rfl
theorem dX8_tell_72 : decode cX8_tell 72 = .ok (.lreturn, 1) := zdec_at bX8_tell_58 10 rfl
theorem sX8_tell_0 {E : zE} {d : Nat} {Q : zO → zM → Prop} (M : zM) (l1 : Int32) (l2 : Int32) (k : if l2 = 0 then (Zm E YX8_has d M (zargs 0 [vr (some (97, 1, 0)), vi l1]) 0 [] (zma E YX8_tell (d + 1) [] 38 3 [] Q)) else (if l2 = 1 then (Zm E YX8_number d M (zargs 0 [vr (some (97, 1, 0)), vi l1]) 0 [] (zma E YX8_tell (d + 1) [] 45 3 [] Q)) else (if l2 = 2 then (Zm E YX8_name d M (zargs 0 [vr (some (97, 1, 0)), vi l1]) 0 [] (zma E YX8_tell (d + 1) [] 52 3 [] Q)) else (if l2 = 3 then (vp_in l1 647800 ∧ (Q (.inl (some (vl (gl M 166 (l1).toNatClampNeg)))) M)) else (if l2 = 4 then (vp_in l1 647800 ∧ (Q (.inl (some (vl (gl M 167 (l1).toNatClampNeg)))) M)) else (Q (.inl (some (vl (0 : Int64)))) M)))))) : Zm E YX8_tell (d + 1) M [(0, vr (some (97, 1, 0))), (1, vi l1), (2, vi l2)] 0 [] Q := by
  refine Zm.l (fun _ _ k_ => z_iload_n dX8_tell_0 rfl rfl k_) ?_
  by_cases h0_ : l2 = 0
  · have k := zit h0_ k
    refine Zm.l (fun _ _ k_ => z_tableIn (off := 35) (tgt := 36) dX8_tell_1 (by rw [h0_]; decide) (by rw [h0_]; decide) (by rw [h0_]; rfl) rfl k_) ?_
    refine Zm.l (fun _ _ k_ => z_aload_n dX8_tell_36 rfl rfl k_) ?_
    refine Zm.l (fun _ _ k_ => z_iload_n dX8_tell_37 rfl rfl k_) ?_
    refine Zm.pick [] rfl ?_
    exact zm_callV (as := [vi l1]) (st := []) dX8_tell_38 vsX8_1047_1 (Nat.le_refl _) (Nat.le_of_ble_eq_true rfl) (Nat.le_of_ble_eq_true rfl) rfl k
  · have k := zif h0_ k
    by_cases h1_ : l2 = 1
    · have k := zit h1_ k
      refine Zm.l (fun _ _ k_ => z_tableIn (off := 42) (tgt := 43) dX8_tell_1 (by rw [h1_]; decide) (by rw [h1_]; decide) (by rw [h1_]; rfl) rfl k_) ?_
      refine Zm.l (fun _ _ k_ => z_aload_n dX8_tell_43 rfl rfl k_) ?_
      refine Zm.l (fun _ _ k_ => z_iload_n dX8_tell_44 rfl rfl k_) ?_
      refine Zm.pick [] rfl ?_
      exact zm_callV (as := [vi l1]) (st := []) dX8_tell_45 vsX8_1050_1 (Nat.le_refl _) (Nat.le_of_ble_eq_true rfl) (Nat.le_of_ble_eq_true rfl) rfl k
    · have k := zif h1_ k
      by_cases h2_ : l2 = 2
      · have k := zit h2_ k
        refine Zm.l (fun _ _ k_ => z_tableIn (off := 49) (tgt := 50) dX8_tell_1 (by rw [h2_]; decide) (by rw [h2_]; decide) (by rw [h2_]; rfl) rfl k_) ?_
        refine Zm.l (fun _ _ k_ => z_aload_n dX8_tell_50 rfl rfl k_) ?_
        refine Zm.l (fun _ _ k_ => z_iload_n dX8_tell_51 rfl rfl k_) ?_
        refine Zm.pick [] rfl ?_
        exact zm_callV (as := [vi l1]) (st := []) dX8_tell_52 vsX8_1053_1 (Nat.le_refl _) (Nat.le_of_ble_eq_true rfl) (Nat.le_of_ble_eq_true rfl) rfl k
      · have k := zif h2_ k
        by_cases h3_ : l2 = 3
        · have k := zit h3_ k
          refine Zm.l (fun _ _ k_ => z_tableIn (off := 56) (tgt := 57) dX8_tell_1 (by rw [h3_]; decide) (by rw [h3_]; decide) (by rw [h3_]; rfl) rfl k_) ?_
          refine Zm.l (fun _ _ k_ => z_aload_n dX8_tell_57 rfl rfl k_) ?_
          refine zm_getr 63 dX8_tell_58 fsX8_220_1 rfl ?_
          refine Zm.l (fun _ _ k_ => z_iload_n dX8_tell_61 rfl rfl k_) ?_
          obtain ⟨b_, k⟩ := k
          refine zm_lald dX8_tell_62 b_ (by decide) (by decide) ?_
          exact zm_lret dX8_tell_63 rfl k
        · have k := zif h3_ k
          by_cases h4_ : l2 = 4
          · have k := zit h4_ k
            refine Zm.l (fun _ _ k_ => z_tableIn (off := 63) (tgt := 64) dX8_tell_1 (by rw [h4_]; decide) (by rw [h4_]; decide) (by rw [h4_]; rfl) rfl k_) ?_
            refine Zm.l (fun _ _ k_ => z_aload_n dX8_tell_64 rfl rfl k_) ?_
            refine zm_getr 64 dX8_tell_65 fsX8_223_1 rfl ?_
            refine Zm.l (fun _ _ k_ => z_iload_n dX8_tell_68 rfl rfl k_) ?_
            obtain ⟨b_, k⟩ := k
            refine zm_lald dX8_tell_69 b_ (by decide) (by decide) ?_
            exact zm_lret dX8_tell_70 rfl k
          · have k := zif h4_ k
            refine Zm.l (fun _ _ k_ => z_tout (tgt := 71) [0, 1, 2, 3, 4] (by decide) dX8_tell_1 (zall_1 h0_ (zall_1 h1_ (zall_1 h2_ (zall_1 h3_ (zall_1 h4_ zall_0))))) rfl k_) ?_
            refine Zm.l (fun _ _ k_ => z_lconst (v := 0) dX8_tell_71 rfl k_) ?_
            exact zm_lret dX8_tell_72 rfl k
theorem sX8_tell_41 {E : zE} {d : Nat} {Q : zO → zM → Prop} (M : zM) (s0 : Int32) (k : Q (.inl (some (vl (s0).toInt64))) M) : Zm E YX8_tell (d + 1) M [] 41 [vi s0] Q := by
  refine Zm.l (fun _ _ k_ => z_i2l dX8_tell_41 k_) ?_
  exact zm_lret dX8_tell_42 rfl k
theorem sX8_tell_48 {E : zE} {d : Nat} {Q : zO → zM → Prop} (M : zM) (s0 : Int32) (k : Q (.inl (some (vl (s0).toInt64))) M) : Zm E YX8_tell (d + 1) M [] 48 [vi s0] Q := by
  refine Zm.l (fun _ _ k_ => z_i2l dX8_tell_48 k_) ?_
  exact zm_lret dX8_tell_49 rfl k
theorem sX8_tell_55 {E : zE} {d : Nat} {Q : zO → zM → Prop} (M : zM) (s0 : Int32) (k : Q (.inl (some (vl (s0).toInt64))) M) : Zm E YX8_tell (d + 1) M [] 55 [vi s0] Q := by
  refine Zm.l (fun _ _ k_ => z_i2l dX8_tell_55 k_) ?_
  exact zm_lret dX8_tell_56 rfl k
/-! ScriptTypesModel.field(IIII)J -/
theorem bX8_field_2_0 : zdec cX8_field_2 0 [(0, .aload_n 0, 1), (1, .iload_n 1, 1), (2, .invokevirtual 1387, 3), (5, .ifCond .eq 47, 3), (8, .iload_n 2, 1), (9, .iconst 0, 1), (10, .aload_n 0, 1), (11, .getfield 765, 3), (14, .iconst 1, 1), (15, .isub, 1), (16, .invokestatic 899, 3), (19, .ifCond .eq 33, 3), (22, .iload_n 3, 1), (23, .iconst 0, 1), (24, .aload_n 0, 1), (25, .getfield 762, 3)] = true := by decide +kernel
theorem dX8_field_2_0 : decode cX8_field_2 0 = .ok (.aload_n 0, 1) := zdec_at bX8_field_2_0 0 rfl
theorem dX8_field_2_1 : decode cX8_field_2 1 = .ok (.iload_n 1, 1) := zdec_at bX8_field_2_0 1 rfl
theorem dX8_field_2_2 : decode cX8_field_2 2 = .ok (.invokevirtual 1387, 3) := zdec_at bX8_field_2_0 2 rfl
theorem dX8_field_2_5 : decode cX8_field_2 5 = .ok (.ifCond .eq 47, 3) := zdec_at bX8_field_2_0 3 rfl
theorem dX8_field_2_8 : decode cX8_field_2 8 = .ok (.iload_n 2, 1) := zdec_at bX8_field_2_0 4 rfl
theorem dX8_field_2_9 : decode cX8_field_2 9 = .ok (.iconst 0, 1) := zdec_at bX8_field_2_0 5 rfl
theorem dX8_field_2_10 : decode cX8_field_2 10 = .ok (.aload_n 0, 1) := zdec_at bX8_field_2_0 6 rfl
theorem dX8_field_2_11 : decode cX8_field_2 11 = .ok (.getfield 765, 3) := zdec_at bX8_field_2_0 7 rfl
theorem dX8_field_2_14 : decode cX8_field_2 14 = .ok (.iconst 1, 1) := zdec_at bX8_field_2_0 8 rfl
theorem dX8_field_2_15 : decode cX8_field_2 15 = .ok (.isub, 1) := zdec_at bX8_field_2_0 9 rfl
theorem dX8_field_2_16 : decode cX8_field_2 16 = .ok (.invokestatic 899, 3) := zdec_at bX8_field_2_0 10 rfl
theorem dX8_field_2_19 : decode cX8_field_2 19 = .ok (.ifCond .eq 33, 3) := zdec_at bX8_field_2_0 11 rfl
theorem dX8_field_2_22 : decode cX8_field_2 22 = .ok (.iload_n 3, 1) := zdec_at bX8_field_2_0 12 rfl
theorem dX8_field_2_23 : decode cX8_field_2 23 = .ok (.iconst 0, 1) := zdec_at bX8_field_2_0 13 rfl
theorem dX8_field_2_24 : decode cX8_field_2 24 = .ok (.aload_n 0, 1) := zdec_at bX8_field_2_0 14 rfl
theorem dX8_field_2_25 : decode cX8_field_2 25 = .ok (.getfield 762, 3) := zdec_at bX8_field_2_0 15 rfl
theorem bX8_field_2_28 : zdec cX8_field_2 28 [(28, .invokestatic 899, 3), (31, .ifCond .eq 21, 3), (34, .aload_n 0, 1), (35, .getfield 256, 3), (38, .aload_n 0, 1), (39, .iload_n 1, 1), (40, .iload_n 2, 1), (41, .invokevirtual 1101, 3), (44, .baload, 1), (45, .ifCond .eq 7, 3), (48, .iconst 1, 1), (49, .goto 4, 3), (52, .iconst 0, 1), (53, .istore 5, 2), (55, .iload 5, 2), (57, .ifCond .eq 19, 3)] = true := by decide +kernel
theorem dX8_field_2_28 : decode cX8_field_2 28 = .ok (.invokestatic 899, 3) := zdec_at bX8_field_2_28 0 rfl
theorem dX8_field_2_31 : decode cX8_field_2 31 = .ok (.ifCond .eq 21, 3) := zdec_at bX8_field_2_28 1 rfl
theorem dX8_field_2_34 : decode cX8_field_2 34 = .ok (.aload_n 0, 1) := zdec_at bX8_field_2_28 2 rfl
theorem dX8_field_2_35 : decode cX8_field_2 35 = .ok (.getfield 256, 3) := zdec_at bX8_field_2_28 3 rfl
theorem dX8_field_2_38 : decode cX8_field_2 38 = .ok (.aload_n 0, 1) := zdec_at bX8_field_2_28 4 rfl
theorem dX8_field_2_39 : decode cX8_field_2 39 = .ok (.iload_n 1, 1) := zdec_at bX8_field_2_28 5 rfl
theorem dX8_field_2_40 : decode cX8_field_2 40 = .ok (.iload_n 2, 1) := zdec_at bX8_field_2_28 6 rfl
theorem dX8_field_2_41 : decode cX8_field_2 41 = .ok (.invokevirtual 1101, 3) := zdec_at bX8_field_2_28 7 rfl
theorem dX8_field_2_44 : decode cX8_field_2 44 = .ok (.baload, 1) := zdec_at bX8_field_2_28 8 rfl
theorem dX8_field_2_45 : decode cX8_field_2 45 = .ok (.ifCond .eq 7, 3) := zdec_at bX8_field_2_28 9 rfl
theorem dX8_field_2_48 : decode cX8_field_2 48 = .ok (.iconst 1, 1) := zdec_at bX8_field_2_28 10 rfl
theorem dX8_field_2_49 : decode cX8_field_2 49 = .ok (.goto 4, 3) := zdec_at bX8_field_2_28 11 rfl
theorem dX8_field_2_52 : decode cX8_field_2 52 = .ok (.iconst 0, 1) := zdec_at bX8_field_2_28 12 rfl
theorem dX8_field_2_53 : decode cX8_field_2 53 = .ok (.istore 5, 2) := zdec_at bX8_field_2_28 13 rfl
theorem dX8_field_2_55 : decode cX8_field_2 55 = .ok (.iload 5, 2) := zdec_at bX8_field_2_28 14 rfl
theorem dX8_field_2_57 : decode cX8_field_2 57 = .ok (.ifCond .eq 19, 3) := zdec_at bX8_field_2_28 15 rfl
theorem bX8_field_2_60 : zdec cX8_field_2 60 [(60, .aload_n 0, 1), (61, .aload_n 0, 1), (62, .iload_n 1, 1), (63, .iload_n 2, 1), (64, .iload_n 3, 1), (65, .invokevirtual 1163, 3), (68, .iload 4, 2), (70, .invokevirtual 1390, 3), (73, .goto 4, 3), (76, .lconst 0, 1), (77, .lreturn, 1)] = true := by decide +kernel
theorem dX8_field_2_60 : decode cX8_field_2 60 = .ok (.aload_n 0, 1) := zdec_at bX8_field_2_60 0 rfl
theorem dX8_field_2_61 : decode cX8_field_2 61 = .ok (.aload_n 0, 1) := zdec_at bX8_field_2_60 1 rfl
theorem dX8_field_2_62 : decode cX8_field_2 62 = .ok (.iload_n 1, 1) := zdec_at bX8_field_2_60 2 rfl
theorem dX8_field_2_63 : decode cX8_field_2 63 = .ok (.iload_n 2, 1) := zdec_at bX8_field_2_60 3 rfl
theorem dX8_field_2_64 : decode cX8_field_2 64 = .ok (.iload_n 3, 1) := zdec_at bX8_field_2_60 4 rfl
theorem dX8_field_2_65 : decode cX8_field_2 65 = .ok (.invokevirtual 1163, 3) := zdec_at bX8_field_2_60 5 rfl
theorem dX8_field_2_68 : decode cX8_field_2 68 = .ok (.iload 4, 2) := zdec_at bX8_field_2_60 6 rfl
theorem dX8_field_2_70 : decode cX8_field_2 70 = .ok (.invokevirtual 1390, 3) := zdec_at bX8_field_2_60 7 rfl
theorem dX8_field_2_73 : decode cX8_field_2 73 = .ok (.goto 4, 3) := zdec_at bX8_field_2_60 8 rfl
theorem dX8_field_2_76 : decode cX8_field_2 76 = .ok (.lconst 0, 1) := zdec_at bX8_field_2_60 9 rfl
theorem dX8_field_2_77 : decode cX8_field_2 77 = .ok (.lreturn, 1) := zdec_at bX8_field_2_60 10 rfl
theorem sX8_field_2_0 {E : zE} {d : Nat} {Q : zO → zM → Prop} (M : zM) (l1 : Int32) (l2 : Int32) (l3 : Int32) (l4 : Int32) (k : Zm E YX8_isReached d M (zargs 0 [vr (some (97, 1, 0)), vi l1]) 0 [] (zma E YX8_field_2 (d + 1) [(0, vr (some (97, 1, 0))), (1, vi l1), (2, vi l2), (3, vi l3), (4, vi l4)] 2 3 [] Q)) : Zm E YX8_field_2 (d + 1) M [(0, vr (some (97, 1, 0))), (1, vi l1), (2, vi l2), (3, vi l3), (4, vi l4)] 0 [] Q := by
  refine Zm.l (fun _ _ k_ => z_aload_n dX8_field_2_0 rfl rfl k_) ?_
  refine Zm.l (fun _ _ k_ => z_iload_n dX8_field_2_1 rfl rfl k_) ?_
  exact zm_callV (as := [vi l1]) (st := []) dX8_field_2_2 vsX8_1387_1 (Nat.le_refl _) (Nat.le_of_ble_eq_true rfl) (Nat.le_of_ble_eq_true rfl) rfl k
theorem sX8_field_2_5 {E : zE} {d : Nat} {Q : zO → zM → Prop} (M : zM) (l1 : Int32) (l2 : Int32) (l3 : Int32) (l4 : Int32) (s0 : Int32) (k : if s0 = 0 then (Zm E YX8_field_2 (d + 1) M [(0, vr (some (97, 1, 0))), (1, vi l1), (2, vi l2), (3, vi l3), (4, vi l4)] 53 [vi (0 : Int32)] Q) else (Zm E YX8_in d M (zargs 0 [vi l2, vi (0 : Int32), vi ((gi M 97 71) - (1 : Int32))]) 0 [] (zma E YX8_field_2 (d + 1) [(0, vr (some (97, 1, 0))), (1, vi l1), (2, vi l2), (3, vi l3), (4, vi l4)] 16 3 [] Q))) : Zm E YX8_field_2 (d + 1) M [(0, vr (some (97, 1, 0))), (1, vi l1), (2, vi l2), (3, vi l3), (4, vi l4)] 5 [vi s0] Q := by
  refine Zm.br (fun _ _ k1_ k2_ => z_if_eq (tgt := 52) dX8_field_2_5 rfl k1_ k2_) (fun h_ => ?_) (fun h_ => ?_)
  · have k := zit h_ k
    refine Zm.l (fun _ _ k_ => z_iconst (v := 0) dX8_field_2_52 rfl k_) ?_
    exact k
  · have k := zif h_ k
    refine Zm.l (fun _ _ k_ => z_iload_n dX8_field_2_8 rfl rfl k_) ?_
    refine Zm.l (fun _ _ k_ => z_iconst (v := 0) dX8_field_2_9 rfl k_) ?_
    refine Zm.l (fun _ _ k_ => z_aload_n dX8_field_2_10 rfl rfl k_) ?_
    refine zm_geti dX8_field_2_11 fsX8_765_1 (by decide) (by decide) ?_
    refine Zm.l (fun _ _ k_ => z_iconst (v := 1) dX8_field_2_14 rfl k_) ?_
    refine Zm.l (fun _ _ k_ => z_isub dX8_field_2_15 k_) ?_
    exact zm_callS (as := [vi l2, vi (0 : Int32), vi ((gi M 97 71) - (1 : Int32))]) (st := []) dX8_field_2_16 ssX8_899 (Nat.le_refl _) (Nat.le_of_ble_eq_true rfl) (Nat.le_of_ble_eq_true rfl) rfl k
theorem sX8_field_2_19 {E : zE} {d : Nat} {Q : zO → zM → Prop} (M : zM) (l1 : Int32) (l2 : Int32) (l3 : Int32) (l4 : Int32) (s0 : Int32) (k : if s0 = 0 then (Zm E YX8_field_2 (d + 1) M [(0, vr (some (97, 1, 0))), (1, vi l1), (2, vi l2), (3, vi l3), (4, vi l4)] 53 [vi (0 : Int32)] Q) else (Zm E YX8_in d M (zargs 0 [vi l3, vi (0 : Int32), vi (gi M 97 8)]) 0 [] (zma E YX8_field_2 (d + 1) [(0, vr (some (97, 1, 0))), (1, vi l1), (2, vi l2), (3, vi l3), (4, vi l4)] 28 3 [] Q))) : Zm E YX8_field_2 (d + 1) M [(0, vr (some (97, 1, 0))), (1, vi l1), (2, vi l2), (3, vi l3), (4, vi l4)] 19 [vi s0] Q := by
  refine Zm.br (fun _ _ k1_ k2_ => z_if_eq (tgt := 52) dX8_field_2_19 rfl k1_ k2_) (fun h_ => ?_) (fun h_ => ?_)
  · have k := zit h_ k
    refine Zm.l (fun _ _ k_ => z_iconst (v := 0) dX8_field_2_52 rfl k_) ?_
    exact k
  · have k := zif h_ k
    refine Zm.l (fun _ _ k_ => z_iload_n dX8_field_2_22 rfl rfl k_) ?_
    refine Zm.l (fun _ _ k_ => z_iconst (v := 0) dX8_field_2_23 rfl k_) ?_
    refine Zm.l (fun _ _ k_ => z_aload_n dX8_field_2_24 rfl rfl k_) ?_
    refine zm_geti dX8_field_2_25 fsX8_762_1 (by decide) (by decide) ?_
    exact zm_callS (as := [vi l3, vi (0 : Int32), vi (gi M 97 8)]) (st := []) dX8_field_2_28 ssX8_899 (Nat.le_refl _) (Nat.le_of_ble_eq_true rfl) (Nat.le_of_ble_eq_true rfl) rfl k
theorem sX8_field_2_31 {E : zE} {d : Nat} {Q : zO → zM → Prop} (M : zM) (l1 : Int32) (l2 : Int32) (l3 : Int32) (l4 : Int32) (s0 : Int32) (k : if s0 = 0 then (Zm E YX8_field_2 (d + 1) M [(0, vr (some (97, 1, 0))), (1, vi l1), (2, vi l2), (3, vi l3), (4, vi l4)] 53 [vi (0 : Int32)] Q) else (Zm E YX8_of d M (zargs 0 [vr (some (97, 1, 0)), vi l1, vi l2]) 0 [] (zma E YX8_field_2 (d + 1) [(0, vr (some (97, 1, 0))), (1, vi l1), (2, vi l2), (3, vi l3), (4, vi l4)] 41 3 [vr (some (178, 104, 15128))] Q))) : Zm E YX8_field_2 (d + 1) M [(0, vr (some (97, 1, 0))), (1, vi l1), (2, vi l2), (3, vi l3), (4, vi l4)] 31 [vi s0] Q := by
  refine Zm.br (fun _ _ k1_ k2_ => z_if_eq (tgt := 52) dX8_field_2_31 rfl k1_ k2_) (fun h_ => ?_) (fun h_ => ?_)
  · have k := zit h_ k
    refine Zm.l (fun _ _ k_ => z_iconst (v := 0) dX8_field_2_52 rfl k_) ?_
    exact k
  · have k := zif h_ k
    refine Zm.l (fun _ _ k_ => z_aload_n dX8_field_2_34 rfl rfl k_) ?_
    refine zm_getr 75 dX8_field_2_35 fsX8_256_1 rfl ?_
    refine Zm.l (fun _ _ k_ => z_aload_n dX8_field_2_38 rfl rfl k_) ?_
    refine Zm.l (fun _ _ k_ => z_iload_n dX8_field_2_39 rfl rfl k_) ?_
    refine Zm.l (fun _ _ k_ => z_iload_n dX8_field_2_40 rfl rfl k_) ?_
    exact zm_callV (as := [vi l1, vi l2]) (st := [vr (some (178, 104, 15128))]) dX8_field_2_41 vsX8_1101_1 (Nat.le_refl _) (Nat.le_of_ble_eq_true rfl) (Nat.le_of_ble_eq_true rfl) rfl k
theorem sX8_field_2_44 {E : zE} {d : Nat} {Q : zO → zM → Prop} (M : zM) (l1 : Int32) (l2 : Int32) (l3 : Int32) (l4 : Int32) (s0 : Int32) (k : vp_in s0 15128 ∧ (if (gi M 178 (s0).toNatClampNeg) = 0 then (Zm E YX8_field_2 (d + 1) M [(0, vr (some (97, 1, 0))), (1, vi l1), (2, vi l2), (3, vi l3), (4, vi l4)] 53 [vi (0 : Int32)] Q) else (Zm E YX8_field_2 (d + 1) M [(0, vr (some (97, 1, 0))), (1, vi l1), (2, vi l2), (3, vi l3), (4, vi l4)] 53 [vi (1 : Int32)] Q))) : Zm E YX8_field_2 (d + 1) M [(0, vr (some (97, 1, 0))), (1, vi l1), (2, vi l2), (3, vi l3), (4, vi l4)] 44 [vi s0, vr (some (178, 104, 15128))] Q := by
  obtain ⟨b_, k⟩ := k
  refine zm_zald dX8_field_2_44 b_ (by decide) (by decide) ?_
  refine Zm.br (fun _ _ k1_ k2_ => z_if_eq (tgt := 52) dX8_field_2_45 rfl k1_ k2_) (fun h_ => ?_) (fun h_ => ?_)
  · have k := zit h_ k
    refine Zm.l (fun _ _ k_ => z_iconst (v := 0) dX8_field_2_52 rfl k_) ?_
    exact k
  · have k := zif h_ k
    refine Zm.l (fun _ _ k_ => z_iconst (v := 1) dX8_field_2_48 rfl k_) ?_
    refine Zm.l (fun _ _ k_ => z_goto (tgt := 53) dX8_field_2_49 rfl k_) ?_
    exact k
theorem sX8_field_2_53 {E : zE} {d : Nat} {Q : zO → zM → Prop} (M : zM) (l1 : Int32) (l2 : Int32) (l3 : Int32) (l4 : Int32) (s0 : Int32) (k : if s0 = 0 then (Q (.inl (some (vl (0 : Int64)))) M) else (Zm E YX8_field d M (zargs 0 [vr (some (97, 1, 0)), vi l1, vi l2, vi l3]) 0 [] (zma E YX8_field_2 (d + 1) [(4, vi l4)] 65 3 [vr (some (97, 1, 0))] Q))) : Zm E YX8_field_2 (d + 1) M [(0, vr (some (97, 1, 0))), (1, vi l1), (2, vi l2), (3, vi l3), (4, vi l4)] 53 [vi s0] Q := by
  refine Zm.l (fun _ _ k_ => z_ist dX8_field_2_53 (by decide) (lv' := [(0, vr (some (97, 1, 0))), (1, vi l1), (2, vi l2), (3, vi l3), (4, vi l4), (5, vi s0)]) rfl k_) ?_
  refine Zm.l (fun _ _ k_ => z_iload dX8_field_2_55 rfl k_) ?_
  refine Zm.br (fun _ _ k1_ k2_ => z_if_eq (tgt := 76) dX8_field_2_57 rfl k1_ k2_) (fun h_ => ?_) (fun h_ => ?_)
  · have k := zit h_ k
    refine Zm.l (fun _ _ k_ => z_lconst (v := 0) dX8_field_2_76 rfl k_) ?_
    exact zm_lret dX8_field_2_77 rfl k
  · have k := zif h_ k
    refine Zm.l (fun _ _ k_ => z_aload_n dX8_field_2_60 rfl rfl k_) ?_
    refine Zm.l (fun _ _ k_ => z_aload_n dX8_field_2_61 rfl rfl k_) ?_
    refine Zm.l (fun _ _ k_ => z_iload_n dX8_field_2_62 rfl rfl k_) ?_
    refine Zm.l (fun _ _ k_ => z_iload_n dX8_field_2_63 rfl rfl k_) ?_
    refine Zm.l (fun _ _ k_ => z_iload_n dX8_field_2_64 rfl rfl k_) ?_
    refine Zm.pick [4] rfl ?_
    exact zm_callV (as := [vi l1, vi l2, vi l3]) (st := [vr (some (97, 1, 0))]) dX8_field_2_65 vsX8_1163_1 (Nat.le_refl _) (Nat.le_of_ble_eq_true rfl) (Nat.le_of_ble_eq_true rfl) rfl k
theorem sX8_field_2_68 {E : zE} {d : Nat} {Q : zO → zM → Prop} (M : zM) (l4 : Int32) (s0 : Int32) (k : Zm E YX8_tell d M (zargs 0 [vr (some (97, 1, 0)), vi s0, vi l4]) 0 [] (zma E YX8_field_2 (d + 1) [] 70 3 [] Q)) : Zm E YX8_field_2 (d + 1) M [(4, vi l4)] 68 [vi s0, vr (some (97, 1, 0))] Q := by
  refine Zm.l (fun _ _ k_ => z_iload dX8_field_2_68 rfl k_) ?_
  refine Zm.pick [] rfl ?_
  exact zm_callV (as := [vi s0, vi l4]) (st := []) dX8_field_2_70 vsX8_1390_1 (Nat.le_refl _) (Nat.le_of_ble_eq_true rfl) (Nat.le_of_ble_eq_true rfl) rfl k
theorem sX8_field_2_73 {E : zE} {d : Nat} {Q : zO → zM → Prop} (M : zM) (s0 : Int64) (k : Q (.inl (some (vl s0))) M) : Zm E YX8_field_2 (d + 1) M [] 73 [vl s0] Q := by
  refine Zm.l (fun _ _ k_ => z_goto (tgt := 77) dX8_field_2_73 rfl k_) ?_
  exact zm_lret dX8_field_2_77 rfl k
/-! ScriptTypesModel.link(III)J -/
theorem bX8_link_0 : zdec cX8_link 0 [(0, .aload_n 0, 1), (1, .iload_n 1, 1), (2, .invokevirtual 1387, 3), (5, .ifCond .eq 17, 3), (8, .iload_n 2, 1), (9, .iconst (-1), 1), (10, .aload_n 0, 1), (11, .getfield 765, 3), (14, .iconst 1, 1), (15, .isub, 1), (16, .invokestatic 899, 3), (19, .ifCond .ne 5, 3), (22, .lconst 0, 1), (23, .lreturn, 1), (24, .iload_n 2, 1), (25, .iconst (-1), 1)] = true := by decide +kernel
theorem dX8_link_0 : decode cX8_link 0 = .ok (.aload_n 0, 1) := zdec_at bX8_link_0 0 rfl
theorem dX8_link_1 : decode cX8_link 1 = .ok (.iload_n 1, 1) := zdec_at bX8_link_0 1 rfl
theorem dX8_link_2 : decode cX8_link 2 = .ok (.invokevirtual 1387, 3) := zdec_at bX8_link_0 2 rfl
theorem dX8_link_5 : decode cX8_link 5 = .ok (.ifCond .eq 17, 3) := zdec_at bX8_link_0 3 rfl
theorem dX8_link_8 : decode cX8_link 8 = .ok (.iload_n 2, 1) := zdec_at bX8_link_0 4 rfl
theorem dX8_link_9 : decode cX8_link 9 = .ok (.iconst (-1), 1) := zdec_at bX8_link_0 5 rfl
theorem dX8_link_10 : decode cX8_link 10 = .ok (.aload_n 0, 1) := zdec_at bX8_link_0 6 rfl
theorem dX8_link_11 : decode cX8_link 11 = .ok (.getfield 765, 3) := zdec_at bX8_link_0 7 rfl
theorem dX8_link_14 : decode cX8_link 14 = .ok (.iconst 1, 1) := zdec_at bX8_link_0 8 rfl
theorem dX8_link_15 : decode cX8_link 15 = .ok (.isub, 1) := zdec_at bX8_link_0 9 rfl
theorem dX8_link_16 : decode cX8_link 16 = .ok (.invokestatic 899, 3) := zdec_at bX8_link_0 10 rfl
theorem dX8_link_19 : decode cX8_link 19 = .ok (.ifCond .ne 5, 3) := zdec_at bX8_link_0 11 rfl
theorem dX8_link_22 : decode cX8_link 22 = .ok (.lconst 0, 1) := zdec_at bX8_link_0 12 rfl
theorem dX8_link_23 : decode cX8_link 23 = .ok (.lreturn, 1) := zdec_at bX8_link_0 13 rfl
theorem dX8_link_24 : decode cX8_link 24 = .ok (.iload_n 2, 1) := zdec_at bX8_link_0 14 rfl
theorem dX8_link_25 : decode cX8_link 25 = .ok (.iconst (-1), 1) := zdec_at bX8_link_0 15 rfl
theorem bX8_link_26 : zdec cX8_link 26 [(26, .if_icmp .ne 33, 3), (29, .iload_n 3, 1), (30, .iconst 3, 1), (31, .if_icmp .ne 12, 3), (34, .aload_n 0, 1), (35, .getfield 241, 3), (38, .iload_n 1, 1), (39, .laload, 1), (40, .goto 18, 3), (43, .iload_n 3, 1), (44, .iconst 4, 1), (45, .if_icmp .ne 12, 3), (48, .aload_n 0, 1), (49, .getfield 244, 3), (52, .iload_n 1, 1), (53, .laload, 1)] = true := by decide +kernel
theorem dX8_link_26 : decode cX8_link 26 = .ok (.if_icmp .ne 33, 3) := zdec_at bX8_link_26 0 rfl
theorem dX8_link_29 : decode cX8_link 29 = .ok (.iload_n 3, 1) := zdec_at bX8_link_26 1 rfl
theorem dX8_link_30 : decode cX8_link 30 = .ok (.iconst 3, 1) := zdec_at bX8_link_26 2 rfl
theorem dX8_link_31 : decode cX8_link 31 = .ok (.if_icmp .ne 12, 3) := zdec_at bX8_link_26 3 rfl
theorem dX8_link_34 : decode cX8_link 34 = .ok (.aload_n 0, 1) := zdec_at bX8_link_26 4 rfl
theorem dX8_link_35 : decode cX8_link 35 = .ok (.getfield 241, 3) := zdec_at bX8_link_26 5 rfl
theorem dX8_link_38 : decode cX8_link 38 = .ok (.iload_n 1, 1) := zdec_at bX8_link_26 6 rfl
theorem dX8_link_39 : decode cX8_link 39 = .ok (.laload, 1) := zdec_at bX8_link_26 7 rfl
theorem dX8_link_40 : decode cX8_link 40 = .ok (.goto 18, 3) := zdec_at bX8_link_26 8 rfl
theorem dX8_link_43 : decode cX8_link 43 = .ok (.iload_n 3, 1) := zdec_at bX8_link_26 9 rfl
theorem dX8_link_44 : decode cX8_link 44 = .ok (.iconst 4, 1) := zdec_at bX8_link_26 10 rfl
theorem dX8_link_45 : decode cX8_link 45 = .ok (.if_icmp .ne 12, 3) := zdec_at bX8_link_26 11 rfl
theorem dX8_link_48 : decode cX8_link 48 = .ok (.aload_n 0, 1) := zdec_at bX8_link_26 12 rfl
theorem dX8_link_49 : decode cX8_link 49 = .ok (.getfield 244, 3) := zdec_at bX8_link_26 13 rfl
theorem dX8_link_52 : decode cX8_link 52 = .ok (.iload_n 1, 1) := zdec_at bX8_link_26 14 rfl
theorem dX8_link_53 : decode cX8_link 53 = .ok (.laload, 1) := zdec_at bX8_link_26 15 rfl
theorem bX8_link_54 : zdec cX8_link 54 [(54, .goto 4, 3), (57, .lconst 0, 1), (58, .lreturn, 1), (59, .aload_n 0, 1), (60, .iload_n 1, 1), (61, .iload_n 2, 1), (62, .invokevirtual 1101, 3), (65, .istore 4, 2), (67, .iload_n 3, 1)] = true := by decide +kernel
theorem dX8_link_54 : decode cX8_link 54 = .ok (.goto 4, 3) := zdec_at bX8_link_54 0 rfl
theorem dX8_link_57 : decode cX8_link 57 = .ok (.lconst 0, 1) := zdec_at bX8_link_54 1 rfl
theorem dX8_link_58 : decode cX8_link 58 = .ok (.lreturn, 1) := zdec_at bX8_link_54 2 rfl
theorem dX8_link_59 : decode cX8_link 59 = .ok (.aload_n 0, 1) := zdec_at bX8_link_54 3 rfl
theorem dX8_link_60 : decode cX8_link 60 = .ok (.iload_n 1, 1) := zdec_at bX8_link_54 4 rfl
theorem dX8_link_61 : decode cX8_link 61 = .ok (.iload_n 2, 1) := zdec_at bX8_link_54 5 rfl
theorem dX8_link_62 : decode cX8_link 62 = .ok (.invokevirtual 1101, 3) := zdec_at bX8_link_54 6 rfl
theorem dX8_link_65 : decode cX8_link 65 = .ok (.istore 4, 2) := zdec_at bX8_link_54 7 rfl
theorem dX8_link_67 : decode cX8_link 67 = .ok (.iload_n 3, 1) := zdec_at bX8_link_54 8 rfl
theorem dX8_link_68 : decode cX8_link 68 = .ok (.tableswitch 104 0 5 #[40, 48, 56, 72, 80, 88], 40) := by decide +kernel
theorem bX8_link_108 : zdec cX8_link 108 [(108, .aload_n 0, 1), (109, .getfield 262, 3), (112, .iload 4, 2), (114, .laload, 1), (115, .lreturn, 1), (116, .aload_n 0, 1), (117, .getfield 265, 3), (120, .iload 4, 2), (122, .laload, 1), (123, .lreturn, 1), (124, .aload_n 0, 1), (125, .getfield 259, 3), (128, .iload 4, 2), (130, .baload, 1), (131, .ifCond .eq 7, 3), (134, .lconst 1, 1)] = true := by decide +kernel
theorem dX8_link_108 : decode cX8_link 108 = .ok (.aload_n 0, 1) := zdec_at bX8_link_108 0 rfl
theorem dX8_link_109 : decode cX8_link 109 = .ok (.getfield 262, 3) := zdec_at bX8_link_108 1 rfl
theorem dX8_link_112 : decode cX8_link 112 = .ok (.iload 4, 2) := zdec_at bX8_link_108 2 rfl
theorem dX8_link_114 : decode cX8_link 114 = .ok (.laload, 1) := zdec_at bX8_link_108 3 rfl
theorem dX8_link_115 : decode cX8_link 115 = .ok (.lreturn, 1) := zdec_at bX8_link_108 4 rfl
theorem dX8_link_116 : decode cX8_link 116 = .ok (.aload_n 0, 1) := zdec_at bX8_link_108 5 rfl
theorem dX8_link_117 : decode cX8_link 117 = .ok (.getfield 265, 3) := zdec_at bX8_link_108 6 rfl
theorem dX8_link_120 : decode cX8_link 120 = .ok (.iload 4, 2) := zdec_at bX8_link_108 7 rfl
theorem dX8_link_122 : decode cX8_link 122 = .ok (.laload, 1) := zdec_at bX8_link_108 8 rfl
theorem dX8_link_123 : decode cX8_link 123 = .ok (.lreturn, 1) := zdec_at bX8_link_108 9 rfl
theorem dX8_link_124 : decode cX8_link 124 = .ok (.aload_n 0, 1) := zdec_at bX8_link_108 10 rfl
theorem dX8_link_125 : decode cX8_link 125 = .ok (.getfield 259, 3) := zdec_at bX8_link_108 11 rfl
theorem dX8_link_128 : decode cX8_link 128 = .ok (.iload 4, 2) := zdec_at bX8_link_108 12 rfl
theorem dX8_link_130 : decode cX8_link 130 = .ok (.baload, 1) := zdec_at bX8_link_108 13 rfl
theorem dX8_link_131 : decode cX8_link 131 = .ok (.ifCond .eq 7, 3) := zdec_at bX8_link_108 14 rfl
theorem dX8_link_134 : decode cX8_link 134 = .ok (.lconst 1, 1) := zdec_at bX8_link_108 15 rfl
theorem bX8_link_135 : zdec cX8_link 135 [(135, .goto 4, 3), (138, .lconst 0, 1), (139, .lreturn, 1), (140, .aload_n 0, 1), (141, .getfield 268, 3), (144, .iload 4, 2), (146, .laload, 1), (147, .lreturn, 1), (148, .aload_n 0, 1), (149, .getfield 271, 3), (152, .iload 4, 2), (154, .laload, 1), (155, .lreturn, 1), (156, .aload_n 0, 1), (157, .getfield 256, 3), (160, .iload 4, 2)] = true := by decide +kernel
theorem dX8_link_135 : decode cX8_link 135 = .ok (.goto 4, 3) := zdec_at bX8_link_135 0 rfl
theorem dX8_link_138 : decode cX8_link 138 = .ok (.lconst 0, 1) := zdec_at bX8_link_135 1 rfl
theorem dX8_link_139 : decode cX8_link 139 = .ok (.lreturn, 1) := zdec_at bX8_link_135 2 rfl
theorem dX8_link_140 : decode cX8_link 140 = .ok (.aload_n 0, 1) := zdec_at bX8_link_135 3 rfl
theorem dX8_link_141 : decode cX8_link 141 = .ok (.getfield 268, 3) := zdec_at bX8_link_135 4 rfl
theorem dX8_link_144 : decode cX8_link 144 = .ok (.iload 4, 2) := zdec_at bX8_link_135 5 rfl
theorem dX8_link_146 : decode cX8_link 146 = .ok (.laload, 1) := zdec_at bX8_link_135 6 rfl
theorem dX8_link_147 : decode cX8_link 147 = .ok (.lreturn, 1) := zdec_at bX8_link_135 7 rfl
theorem dX8_link_148 : decode cX8_link 148 = .ok (.aload_n 0, 1) := zdec_at bX8_link_135 8 rfl
theorem dX8_link_149 : decode cX8_link 149 = .ok (.getfield 271, 3) := zdec_at bX8_link_135 9 rfl
theorem dX8_link_152 : decode cX8_link 152 = .ok (.iload 4, 2) := zdec_at bX8_link_135 10 rfl
theorem dX8_link_154 : decode cX8_link 154 = .ok (.laload, 1) := zdec_at bX8_link_135 11 rfl
theorem dX8_link_155 : decode cX8_link 155 = .ok (.lreturn, 1) := zdec_at bX8_link_135 12 rfl
theorem dX8_link_156 : decode cX8_link 156 = .ok (.aload_n 0, 1) := zdec_at bX8_link_135 13 rfl
theorem dX8_link_157 : decode cX8_link 157 = .ok (.getfield 256, 3) := zdec_at bX8_link_135 14 rfl
theorem dX8_link_160 : decode cX8_link 160 = .ok (.iload 4, 2) := zdec_at bX8_link_135 15 rfl
theorem bX8_link_162 : zdec cX8_link 162 [(162, .baload, 1), (163, .ifCond .eq 7, 3), (166, .lconst 1, 1), (167, .goto 4, 3), (170, .lconst 0, 1), (171, .lreturn, 1), (172, .lconst 0, 1), (173, .lreturn, 1)] = true := by decide +kernel
theorem dX8_link_162 : decode cX8_link 162 = .ok (.baload, 1) := zdec_at bX8_link_162 0 rfl
theorem dX8_link_163 : decode cX8_link 163 = .ok (.ifCond .eq 7, 3) := zdec_at bX8_link_162 1 rfl
theorem dX8_link_166 : decode cX8_link 166 = .ok (.lconst 1, 1) := zdec_at bX8_link_162 2 rfl
theorem dX8_link_167 : decode cX8_link 167 = .ok (.goto 4, 3) := zdec_at bX8_link_162 3 rfl
theorem dX8_link_170 : decode cX8_link 170 = .ok (.lconst 0, 1) := zdec_at bX8_link_162 4 rfl
theorem dX8_link_171 : decode cX8_link 171 = .ok (.lreturn, 1) := zdec_at bX8_link_162 5 rfl
theorem dX8_link_172 : decode cX8_link 172 = .ok (.lconst 0, 1) := zdec_at bX8_link_162 6 rfl
theorem dX8_link_173 : decode cX8_link 173 = .ok (.lreturn, 1) := zdec_at bX8_link_162 7 rfl
theorem sX8_link_0 {E : zE} {d : Nat} {Q : zO → zM → Prop} (M : zM) (l1 : Int32) (l2 : Int32) (l3 : Int32) (k : Zm E YX8_isReached d M (zargs 0 [vr (some (97, 1, 0)), vi l1]) 0 [] (zma E YX8_link (d + 1) [(0, vr (some (97, 1, 0))), (1, vi l1), (2, vi l2), (3, vi l3)] 2 3 [] Q)) : Zm E YX8_link (d + 1) M [(0, vr (some (97, 1, 0))), (1, vi l1), (2, vi l2), (3, vi l3)] 0 [] Q := by
  refine Zm.l (fun _ _ k_ => z_aload_n dX8_link_0 rfl rfl k_) ?_
  refine Zm.l (fun _ _ k_ => z_iload_n dX8_link_1 rfl rfl k_) ?_
  exact zm_callV (as := [vi l1]) (st := []) dX8_link_2 vsX8_1387_1 (Nat.le_refl _) (Nat.le_of_ble_eq_true rfl) (Nat.le_of_ble_eq_true rfl) rfl k
theorem sX8_link_5 {E : zE} {d : Nat} {Q : zO → zM → Prop} (M : zM) (l1 : Int32) (l2 : Int32) (l3 : Int32) (s0 : Int32) (k : if s0 = 0 then (Q (.inl (some (vl (0 : Int64)))) M) else (Zm E YX8_in d M (zargs 0 [vi l2, vi (-1 : Int32), vi ((gi M 97 71) - (1 : Int32))]) 0 [] (zma E YX8_link (d + 1) [(0, vr (some (97, 1, 0))), (1, vi l1), (2, vi l2), (3, vi l3)] 16 3 [] Q))) : Zm E YX8_link (d + 1) M [(0, vr (some (97, 1, 0))), (1, vi l1), (2, vi l2), (3, vi l3)] 5 [vi s0] Q := by
  refine Zm.br (fun _ _ k1_ k2_ => z_if_eq (tgt := 22) dX8_link_5 rfl k1_ k2_) (fun h_ => ?_) (fun h_ => ?_)
  · have k := zit h_ k
    refine Zm.l (fun _ _ k_ => z_lconst (v := 0) dX8_link_22 rfl k_) ?_
    exact zm_lret dX8_link_23 rfl k
  · have k := zif h_ k
    refine Zm.l (fun _ _ k_ => z_iload_n dX8_link_8 rfl rfl k_) ?_
    refine Zm.l (fun _ _ k_ => z_iconst (v := -1) dX8_link_9 rfl k_) ?_
    refine Zm.l (fun _ _ k_ => z_aload_n dX8_link_10 rfl rfl k_) ?_
    refine zm_geti dX8_link_11 fsX8_765_1 (by decide) (by decide) ?_
    refine Zm.l (fun _ _ k_ => z_iconst (v := 1) dX8_link_14 rfl k_) ?_
    refine Zm.l (fun _ _ k_ => z_isub dX8_link_15 k_) ?_
    exact zm_callS (as := [vi l2, vi (-1 : Int32), vi ((gi M 97 71) - (1 : Int32))]) (st := []) dX8_link_16 ssX8_899 (Nat.le_refl _) (Nat.le_of_ble_eq_true rfl) (Nat.le_of_ble_eq_true rfl) rfl k
theorem sX8_link_19 {E : zE} {d : Nat} {Q : zO → zM → Prop} (M : zM) (l1 : Int32) (l2 : Int32) (l3 : Int32) (s0 : Int32) (k : if s0 = 0 then (Q (.inl (some (vl (0 : Int64)))) M) else (if l2 = (-1 : Int32) then (if l3 = (3 : Int32) then (vp_in l1 640 ∧ (Q (.inl (some (vl (gl M 173 (l1).toNatClampNeg)))) M)) else (if l3 = (4 : Int32) then (vp_in l1 640 ∧ (Q (.inl (some (vl (gl M 174 (l1).toNatClampNeg)))) M)) else (Q (.inl (some (vl (0 : Int64)))) M))) else (Zm E YX8_of d M (zargs 0 [vr (some (97, 1, 0)), vi l1, vi l2]) 0 [] (zma E YX8_link (d + 1) [(0, vr (some (97, 1, 0))), (3, vi l3)] 62 3 [] Q)))) : Zm E YX8_link (d + 1) M [(0, vr (some (97, 1, 0))), (1, vi l1), (2, vi l2), (3, vi l3)] 19 [vi s0] Q := by
  refine Zm.brn (fun _ _ k1_ k2_ => z_if_ne (tgt := 24) dX8_link_19 rfl k1_ k2_) (fun h_ => ?_) (fun h_ => ?_)
  · have k := zif h_ k
    refine Zm.l (fun _ _ k_ => z_iload_n dX8_link_24 rfl rfl k_) ?_
    refine Zm.l (fun _ _ k_ => z_iconst (v := -1) dX8_link_25 rfl k_) ?_
    refine Zm.brn (fun _ _ k1_ k2_ => z_icmp_ne (tgt := 59) dX8_link_26 rfl k1_ k2_) (fun h_ => ?_) (fun h_ => ?_)
    · have k := zif h_ k
      refine Zm.l (fun _ _ k_ => z_aload_n dX8_link_59 rfl rfl k_) ?_
      refine Zm.l (fun _ _ k_ => z_iload_n dX8_link_60 rfl rfl k_) ?_
      refine Zm.l (fun _ _ k_ => z_iload_n dX8_link_61 rfl rfl k_) ?_
      refine Zm.pick [0, 3] rfl ?_
      exact zm_callV (as := [vi l1, vi l2]) (st := []) dX8_link_62 vsX8_1101_1 (Nat.le_refl _) (Nat.le_of_ble_eq_true rfl) (Nat.le_of_ble_eq_true rfl) rfl k
    · have k := zit h_ k
      refine Zm.l (fun _ _ k_ => z_iload_n dX8_link_29 rfl rfl k_) ?_
      refine Zm.l (fun _ _ k_ => z_iconst (v := 3) dX8_link_30 rfl k_) ?_
      refine Zm.brn (fun _ _ k1_ k2_ => z_icmp_ne (tgt := 43) dX8_link_31 rfl k1_ k2_) (fun h_ => ?_) (fun h_ => ?_)
      · have k := zif h_ k
        refine Zm.l (fun _ _ k_ => z_iload_n dX8_link_43 rfl rfl k_) ?_
        refine Zm.l (fun _ _ k_ => z_iconst (v := 4) dX8_link_44 rfl k_) ?_
        refine Zm.brn (fun _ _ k1_ k2_ => z_icmp_ne (tgt := 57) dX8_link_45 rfl k1_ k2_) (fun h_ => ?_) (fun h_ => ?_)
        · have k := zif h_ k
          refine Zm.l (fun _ _ k_ => z_lconst (v := 0) dX8_link_57 rfl k_) ?_
          exact zm_lret dX8_link_58 rfl k
        · have k := zit h_ k
          refine Zm.l (fun _ _ k_ => z_aload_n dX8_link_48 rfl rfl k_) ?_
          refine zm_getr 71 dX8_link_49 fsX8_244_1 rfl ?_
          refine Zm.l (fun _ _ k_ => z_iload_n dX8_link_52 rfl rfl k_) ?_
          obtain ⟨b_, k⟩ := k
          refine zm_lald dX8_link_53 b_ (by decide) (by decide) ?_
          refine Zm.l (fun _ _ k_ => z_goto (tgt := 58) dX8_link_54 rfl k_) ?_
          exact zm_lret dX8_link_58 rfl k
      · have k := zit h_ k
        refine Zm.l (fun _ _ k_ => z_aload_n dX8_link_34 rfl rfl k_) ?_
        refine zm_getr 70 dX8_link_35 fsX8_241_1 rfl ?_
        refine Zm.l (fun _ _ k_ => z_iload_n dX8_link_38 rfl rfl k_) ?_
        obtain ⟨b_, k⟩ := k
        refine zm_lald dX8_link_39 b_ (by decide) (by decide) ?_
        refine Zm.l (fun _ _ k_ => z_goto (tgt := 58) dX8_link_40 rfl k_) ?_
        exact zm_lret dX8_link_58 rfl k
  · have k := zit h_ k
    refine Zm.l (fun _ _ k_ => z_lconst (v := 0) dX8_link_22 rfl k_) ?_
    exact zm_lret dX8_link_23 rfl k
theorem sX8_link_65 {E : zE} {d : Nat} {Q : zO → zM → Prop} (M : zM) (l3 : Int32) (s0 : Int32) (k : if l3 = 0 then (vp_in s0 15128 ∧ (Q (.inl (some (vl (gl M 180 (s0).toNatClampNeg)))) M)) else (if l3 = 1 then (vp_in s0 15128 ∧ (Q (.inl (some (vl (gl M 181 (s0).toNatClampNeg)))) M)) else (if l3 = 2 then (vp_in s0 15128 ∧ (if (gi M 179 (s0).toNatClampNeg) = 0 then (Q (.inl (some (vl (0 : Int64)))) M) else (Q (.inl (some (vl (1 : Int64)))) M))) else (if l3 = 3 then (vp_in s0 15128 ∧ (Q (.inl (some (vl (gl M 182 (s0).toNatClampNeg)))) M)) else (if l3 = 4 then (vp_in s0 15128 ∧ (Q (.inl (some (vl (gl M 183 (s0).toNatClampNeg)))) M)) else (if l3 = 5 then (vp_in s0 15128 ∧ (if (gi M 178 (s0).toNatClampNeg) = 0 then (Q (.inl (some (vl (0 : Int64)))) M) else (Q (.inl (some (vl (1 : Int64)))) M))) else (Q (.inl (some (vl (0 : Int64)))) M))))))) : Zm E YX8_link (d + 1) M [(0, vr (some (97, 1, 0))), (3, vi l3)] 65 [vi s0] Q := by
  refine Zm.l (fun _ _ k_ => z_ist dX8_link_65 (by decide) (lv' := [(0, vr (some (97, 1, 0))), (3, vi l3), (4, vi s0)]) rfl k_) ?_
  refine Zm.l (fun _ _ k_ => z_iload_n dX8_link_67 rfl rfl k_) ?_
  by_cases h0_ : l3 = 0
  · have k := zit h0_ k
    refine Zm.l (fun _ _ k_ => z_tableIn (off := 40) (tgt := 108) dX8_link_68 (by rw [h0_]; decide) (by rw [h0_]; decide) (by rw [h0_]; rfl) rfl k_) ?_
    refine Zm.l (fun _ _ k_ => z_aload_n dX8_link_108 rfl rfl k_) ?_
    refine zm_getr 77 dX8_link_109 fsX8_262_1 rfl ?_
    refine Zm.l (fun _ _ k_ => z_iload dX8_link_112 rfl k_) ?_
    obtain ⟨b_, k⟩ := k
    refine zm_lald dX8_link_114 b_ (by decide) (by decide) ?_
    exact zm_lret dX8_link_115 rfl k
  · have k := zif h0_ k
    by_cases h1_ : l3 = 1
    · have k := zit h1_ k
      refine Zm.l (fun _ _ k_ => z_tableIn (off := 48) (tgt := 116) dX8_link_68 (by rw [h1_]; decide) (by rw [h1_]; decide) (by rw [h1_]; rfl) rfl k_) ?_
      refine Zm.l (fun _ _ k_ => z_aload_n dX8_link_116 rfl rfl k_) ?_
      refine zm_getr 78 dX8_link_117 fsX8_265_1 rfl ?_
      refine Zm.l (fun _ _ k_ => z_iload dX8_link_120 rfl k_) ?_
      obtain ⟨b_, k⟩ := k
      refine zm_lald dX8_link_122 b_ (by decide) (by decide) ?_
      exact zm_lret dX8_link_123 rfl k
    · have k := zif h1_ k
      by_cases h2_ : l3 = 2
      · have k := zit h2_ k
        refine Zm.l (fun _ _ k_ => z_tableIn (off := 56) (tgt := 124) dX8_link_68 (by rw [h2_]; decide) (by rw [h2_]; decide) (by rw [h2_]; rfl) rfl k_) ?_
        refine Zm.l (fun _ _ k_ => z_aload_n dX8_link_124 rfl rfl k_) ?_
        refine zm_getr 76 dX8_link_125 fsX8_259_1 rfl ?_
        refine Zm.l (fun _ _ k_ => z_iload dX8_link_128 rfl k_) ?_
        obtain ⟨b_, k⟩ := k
        refine zm_zald dX8_link_130 b_ (by decide) (by decide) ?_
        refine Zm.br (fun _ _ k1_ k2_ => z_if_eq (tgt := 138) dX8_link_131 rfl k1_ k2_) (fun h_ => ?_) (fun h_ => ?_)
        · have k := zit h_ k
          refine Zm.l (fun _ _ k_ => z_lconst (v := 0) dX8_link_138 rfl k_) ?_
          exact zm_lret dX8_link_139 rfl k
        · have k := zif h_ k
          refine Zm.l (fun _ _ k_ => z_lconst (v := 1) dX8_link_134 rfl k_) ?_
          refine Zm.l (fun _ _ k_ => z_goto (tgt := 139) dX8_link_135 rfl k_) ?_
          exact zm_lret dX8_link_139 rfl k
      · have k := zif h2_ k
        by_cases h3_ : l3 = 3
        · have k := zit h3_ k
          refine Zm.l (fun _ _ k_ => z_tableIn (off := 72) (tgt := 140) dX8_link_68 (by rw [h3_]; decide) (by rw [h3_]; decide) (by rw [h3_]; rfl) rfl k_) ?_
          refine Zm.l (fun _ _ k_ => z_aload_n dX8_link_140 rfl rfl k_) ?_
          refine zm_getr 79 dX8_link_141 fsX8_268_1 rfl ?_
          refine Zm.l (fun _ _ k_ => z_iload dX8_link_144 rfl k_) ?_
          obtain ⟨b_, k⟩ := k
          refine zm_lald dX8_link_146 b_ (by decide) (by decide) ?_
          exact zm_lret dX8_link_147 rfl k
        · have k := zif h3_ k
          by_cases h4_ : l3 = 4
          · have k := zit h4_ k
            refine Zm.l (fun _ _ k_ => z_tableIn (off := 80) (tgt := 148) dX8_link_68 (by rw [h4_]; decide) (by rw [h4_]; decide) (by rw [h4_]; rfl) rfl k_) ?_
            refine Zm.l (fun _ _ k_ => z_aload_n dX8_link_148 rfl rfl k_) ?_
            refine zm_getr 80 dX8_link_149 fsX8_271_1 rfl ?_
            refine Zm.l (fun _ _ k_ => z_iload dX8_link_152 rfl k_) ?_
            obtain ⟨b_, k⟩ := k
            refine zm_lald dX8_link_154 b_ (by decide) (by decide) ?_
            exact zm_lret dX8_link_155 rfl k
          · have k := zif h4_ k
            by_cases h5_ : l3 = 5
            · have k := zit h5_ k
              refine Zm.l (fun _ _ k_ => z_tableIn (off := 88) (tgt := 156) dX8_link_68 (by rw [h5_]; decide) (by rw [h5_]; decide) (by rw [h5_]; rfl) rfl k_) ?_
              refine Zm.l (fun _ _ k_ => z_aload_n dX8_link_156 rfl rfl k_) ?_
              refine zm_getr 75 dX8_link_157 fsX8_256_1 rfl ?_
              refine Zm.l (fun _ _ k_ => z_iload dX8_link_160 rfl k_) ?_
              obtain ⟨b_, k⟩ := k
              refine zm_zald dX8_link_162 b_ (by decide) (by decide) ?_
              refine Zm.br (fun _ _ k1_ k2_ => z_if_eq (tgt := 170) dX8_link_163 rfl k1_ k2_) (fun h_ => ?_) (fun h_ => ?_)
              · have k := zit h_ k
                refine Zm.l (fun _ _ k_ => z_lconst (v := 0) dX8_link_170 rfl k_) ?_
                exact zm_lret dX8_link_171 rfl k
              · have k := zif h_ k
                refine Zm.l (fun _ _ k_ => z_lconst (v := 1) dX8_link_166 rfl k_) ?_
                refine Zm.l (fun _ _ k_ => z_goto (tgt := 171) dX8_link_167 rfl k_) ?_
                exact zm_lret dX8_link_171 rfl k
            · have k := zif h5_ k
              refine Zm.l (fun _ _ k_ => z_tout (tgt := 172) [0, 1, 2, 3, 4, 5] (by decide) dX8_link_68 (zall_1 h0_ (zall_1 h1_ (zall_1 h2_ (zall_1 h3_ (zall_1 h4_ (zall_1 h5_ zall_0)))))) rfl k_) ?_
              refine Zm.l (fun _ _ k_ => z_lconst (v := 0) dX8_link_172 rfl k_) ?_
              exact zm_lret dX8_link_173 rfl k
/-! ScriptTypesModel.result(III)J -/
theorem bX8_result_0 : zdec cX8_result 0 [(0, .aload_n 0, 1), (1, .iconst 0, 1), (2, .putfield 289, 3), (5, .aload_n 0, 1), (6, .getfield 776, 3), (9, .ifCond .eq 26, 3), (12, .iload_n 1, 1), (13, .iconst 0, 1), (14, .aload_n 0, 1), (15, .getfield 527, 3), (18, .iconst 1, 1), (19, .isub, 1), (20, .invokestatic 899, 3), (23, .ifCond .eq 12, 3), (26, .iload_n 2, 1), (27, .iconst 0, 1)] = true := by decide +kernel
theorem dX8_result_0 : decode cX8_result 0 = .ok (.aload_n 0, 1) := zdec_at bX8_result_0 0 rfl
theorem dX8_result_1 : decode cX8_result 1 = .ok (.iconst 0, 1) := zdec_at bX8_result_0 1 rfl
theorem dX8_result_2 : decode cX8_result 2 = .ok (.putfield 289, 3) := zdec_at bX8_result_0 2 rfl
theorem dX8_result_5 : decode cX8_result 5 = .ok (.aload_n 0, 1) := zdec_at bX8_result_0 3 rfl
theorem dX8_result_6 : decode cX8_result 6 = .ok (.getfield 776, 3) := zdec_at bX8_result_0 4 rfl
theorem dX8_result_9 : decode cX8_result 9 = .ok (.ifCond .eq 26, 3) := zdec_at bX8_result_0 5 rfl
theorem dX8_result_12 : decode cX8_result 12 = .ok (.iload_n 1, 1) := zdec_at bX8_result_0 6 rfl
theorem dX8_result_13 : decode cX8_result 13 = .ok (.iconst 0, 1) := zdec_at bX8_result_0 7 rfl
theorem dX8_result_14 : decode cX8_result 14 = .ok (.aload_n 0, 1) := zdec_at bX8_result_0 8 rfl
theorem dX8_result_15 : decode cX8_result 15 = .ok (.getfield 527, 3) := zdec_at bX8_result_0 9 rfl
theorem dX8_result_18 : decode cX8_result 18 = .ok (.iconst 1, 1) := zdec_at bX8_result_0 10 rfl
theorem dX8_result_19 : decode cX8_result 19 = .ok (.isub, 1) := zdec_at bX8_result_0 11 rfl
theorem dX8_result_20 : decode cX8_result 20 = .ok (.invokestatic 899, 3) := zdec_at bX8_result_0 12 rfl
theorem dX8_result_23 : decode cX8_result 23 = .ok (.ifCond .eq 12, 3) := zdec_at bX8_result_0 13 rfl
theorem dX8_result_26 : decode cX8_result 26 = .ok (.iload_n 2, 1) := zdec_at bX8_result_0 14 rfl
theorem dX8_result_27 : decode cX8_result 27 = .ok (.iconst 0, 1) := zdec_at bX8_result_0 15 rfl
theorem bX8_result_28 : zdec cX8_result 28 [(28, .iconst 1, 1), (29, .invokestatic 899, 3), (32, .ifCond .ne 5, 3), (35, .lconst 0, 1), (36, .lreturn, 1), (37, .aload_n 0, 1), (38, .getfield 606, 3), (41, .iconst 2, 1), (42, .iload_n 1, 1), (43, .imul, 1), (44, .iadd, 1), (45, .iload_n 2, 1), (46, .iadd, 1), (47, .istore 4, 2), (49, .aload_n 0, 1), (50, .getfield 226, 3)] = true := by decide +kernel
theorem dX8_result_28 : decode cX8_result 28 = .ok (.iconst 1, 1) := zdec_at bX8_result_28 0 rfl
theorem dX8_result_29 : decode cX8_result 29 = .ok (.invokestatic 899, 3) := zdec_at bX8_result_28 1 rfl
theorem dX8_result_32 : decode cX8_result 32 = .ok (.ifCond .ne 5, 3) := zdec_at bX8_result_28 2 rfl
theorem dX8_result_35 : decode cX8_result 35 = .ok (.lconst 0, 1) := zdec_at bX8_result_28 3 rfl
theorem dX8_result_36 : decode cX8_result 36 = .ok (.lreturn, 1) := zdec_at bX8_result_28 4 rfl
theorem dX8_result_37 : decode cX8_result 37 = .ok (.aload_n 0, 1) := zdec_at bX8_result_28 5 rfl
theorem dX8_result_38 : decode cX8_result 38 = .ok (.getfield 606, 3) := zdec_at bX8_result_28 6 rfl
theorem dX8_result_41 : decode cX8_result 41 = .ok (.iconst 2, 1) := zdec_at bX8_result_28 7 rfl
theorem dX8_result_42 : decode cX8_result 42 = .ok (.iload_n 1, 1) := zdec_at bX8_result_28 8 rfl
theorem dX8_result_43 : decode cX8_result 43 = .ok (.imul, 1) := zdec_at bX8_result_28 9 rfl
theorem dX8_result_44 : decode cX8_result 44 = .ok (.iadd, 1) := zdec_at bX8_result_28 10 rfl
theorem dX8_result_45 : decode cX8_result 45 = .ok (.iload_n 2, 1) := zdec_at bX8_result_28 11 rfl
theorem dX8_result_46 : decode cX8_result 46 = .ok (.iadd, 1) := zdec_at bX8_result_28 12 rfl
theorem dX8_result_47 : decode cX8_result 47 = .ok (.istore 4, 2) := zdec_at bX8_result_28 13 rfl
theorem dX8_result_49 : decode cX8_result 49 = .ok (.aload_n 0, 1) := zdec_at bX8_result_28 14 rfl
theorem dX8_result_50 : decode cX8_result 50 = .ok (.getfield 226, 3) := zdec_at bX8_result_28 15 rfl
theorem bX8_result_53 : zdec cX8_result 53 [(53, .iload 4, 2), (55, .baload, 1), (56, .ifCond .eq 18, 3), (59, .aload_n 0, 1), (60, .aload_n 0, 1), (61, .getfield 238, 3), (64, .iload 4, 2), (66, .iaload, 1), (67, .iload_n 3, 1), (68, .invokevirtual 1390, 3), (71, .goto 4, 3), (74, .lconst 0, 1), (75, .lreturn, 1)] = true := by decide +kernel
theorem dX8_result_53 : decode cX8_result 53 = .ok (.iload 4, 2) := zdec_at bX8_result_53 0 rfl
theorem dX8_result_55 : decode cX8_result 55 = .ok (.baload, 1) := zdec_at bX8_result_53 1 rfl
theorem dX8_result_56 : decode cX8_result 56 = .ok (.ifCond .eq 18, 3) := zdec_at bX8_result_53 2 rfl
theorem dX8_result_59 : decode cX8_result 59 = .ok (.aload_n 0, 1) := zdec_at bX8_result_53 3 rfl
theorem dX8_result_60 : decode cX8_result 60 = .ok (.aload_n 0, 1) := zdec_at bX8_result_53 4 rfl
theorem dX8_result_61 : decode cX8_result 61 = .ok (.getfield 238, 3) := zdec_at bX8_result_53 5 rfl
theorem dX8_result_64 : decode cX8_result 64 = .ok (.iload 4, 2) := zdec_at bX8_result_53 6 rfl
theorem dX8_result_66 : decode cX8_result 66 = .ok (.iaload, 1) := zdec_at bX8_result_53 7 rfl
theorem dX8_result_67 : decode cX8_result 67 = .ok (.iload_n 3, 1) := zdec_at bX8_result_53 8 rfl
theorem dX8_result_68 : decode cX8_result 68 = .ok (.invokevirtual 1390, 3) := zdec_at bX8_result_53 9 rfl
theorem dX8_result_71 : decode cX8_result 71 = .ok (.goto 4, 3) := zdec_at bX8_result_53 10 rfl
theorem dX8_result_74 : decode cX8_result 74 = .ok (.lconst 0, 1) := zdec_at bX8_result_53 11 rfl
theorem dX8_result_75 : decode cX8_result 75 = .ok (.lreturn, 1) := zdec_at bX8_result_53 12 rfl
theorem sX8_result_0 {E : zE} {d : Nat} {Q : zO → zM → Prop} (M : zM) (l1 : Int32) (l2 : Int32) (l3 : Int32) (k : if (gi M 97 119) = 0 then (Q (.inl (some (vl (0 : Int64)))) (si M 97 0 (0 : Int32))) else (Zm E YX8_in d (si M 97 0 (0 : Int32)) (zargs 0 [vi l1, vi (0 : Int32), vi ((gi M 97 32) - (1 : Int32))]) 0 [] (zma E YX8_result (d + 1) [(0, vr (some (97, 1, 0))), (1, vi l1), (2, vi l2), (3, vi l3)] 20 3 [] Q))) : Zm E YX8_result (d + 1) M [(0, vr (some (97, 1, 0))), (1, vi l1), (2, vi l2), (3, vi l3)] 0 [] Q := by
  refine Zm.l (fun _ _ k_ => z_aload_n dX8_result_0 rfl rfl k_) ?_
  refine Zm.l (fun _ _ k_ => z_iconst (v := 0) dX8_result_1 rfl k_) ?_
  refine zm_puti (by decide) (by decide) dX8_result_2 (zfwN.w fwX8_289_1) rfl ⟨rfl, rfl⟩ ?_
  refine Zm.l (fun _ _ k_ => z_aload_n dX8_result_5 rfl rfl k_) ?_
  refine zm_geti dX8_result_6 fsX8_776_1 (by decide) (by decide) ?_
  refine Zm.br (fun _ _ k1_ k2_ => z_if_eq (tgt := 35) dX8_result_9 rfl k1_ k2_) (fun h_ => ?_) (fun h_ => ?_)
  · have k := zit h_ k
    refine Zm.l (fun _ _ k_ => z_lconst (v := 0) dX8_result_35 rfl k_) ?_
    exact zm_lret dX8_result_36 rfl k
  · have k := zif h_ k
    refine Zm.l (fun _ _ k_ => z_iload_n dX8_result_12 rfl rfl k_) ?_
    refine Zm.l (fun _ _ k_ => z_iconst (v := 0) dX8_result_13 rfl k_) ?_
    refine Zm.l (fun _ _ k_ => z_aload_n dX8_result_14 rfl rfl k_) ?_
    refine zm_geti dX8_result_15 fsX8_527_1 (by decide) (by decide) ?_
    refine Zm.l (fun _ _ k_ => z_iconst (v := 1) dX8_result_18 rfl k_) ?_
    refine Zm.l (fun _ _ k_ => z_isub dX8_result_19 k_) ?_
    exact zm_callS (as := [vi l1, vi (0 : Int32), vi ((gi M 97 32) - (1 : Int32))]) (st := []) dX8_result_20 ssX8_899 (Nat.le_refl _) (Nat.le_of_ble_eq_true rfl) (Nat.le_of_ble_eq_true rfl) rfl k
theorem sX8_result_23 {E : zE} {d : Nat} {Q : zO → zM → Prop} (M : zM) (l1 : Int32) (l2 : Int32) (l3 : Int32) (s0 : Int32) (k : if s0 = 0 then (Q (.inl (some (vl (0 : Int64)))) M) else (Zm E YX8_in d M (zargs 0 [vi l2, vi (0 : Int32), vi (1 : Int32)]) 0 [] (zma E YX8_result (d + 1) [(0, vr (some (97, 1, 0))), (1, vi l1), (2, vi l2), (3, vi l3)] 29 3 [] Q))) : Zm E YX8_result (d + 1) M [(0, vr (some (97, 1, 0))), (1, vi l1), (2, vi l2), (3, vi l3)] 23 [vi s0] Q := by
  refine Zm.br (fun _ _ k1_ k2_ => z_if_eq (tgt := 35) dX8_result_23 rfl k1_ k2_) (fun h_ => ?_) (fun h_ => ?_)
  · have k := zit h_ k
    refine Zm.l (fun _ _ k_ => z_lconst (v := 0) dX8_result_35 rfl k_) ?_
    exact zm_lret dX8_result_36 rfl k
  · have k := zif h_ k
    refine Zm.l (fun _ _ k_ => z_iload_n dX8_result_26 rfl rfl k_) ?_
    refine Zm.l (fun _ _ k_ => z_iconst (v := 0) dX8_result_27 rfl k_) ?_
    refine Zm.l (fun _ _ k_ => z_iconst (v := 1) dX8_result_28 rfl k_) ?_
    exact zm_callS (as := [vi l2, vi (0 : Int32), vi (1 : Int32)]) (st := []) dX8_result_29 ssX8_899 (Nat.le_refl _) (Nat.le_of_ble_eq_true rfl) (Nat.le_of_ble_eq_true rfl) rfl k
theorem sX8_result_32 {E : zE} {d : Nat} {Q : zO → zM → Prop} (M : zM) (l1 : Int32) (l2 : Int32) (l3 : Int32) (s0 : Int32) (k : if s0 = 0 then (Q (.inl (some (vl (0 : Int64)))) M) else (vp_in (((gi M 97 46) + ((2 : Int32) * l1)) + l2) 640 ∧ (if (gi M 168 ((((gi M 97 46) + ((2 : Int32) * l1)) + l2)).toNatClampNeg) = 0 then (Q (.inl (some (vl (0 : Int64)))) M) else (vp_in (((gi M 97 46) + ((2 : Int32) * l1)) + l2) 640 ∧ (Zm E YX8_tell d M (zargs 0 [vr (some (97, 1, 0)), vi (gi M 172 ((((gi M 97 46) + ((2 : Int32) * l1)) + l2)).toNatClampNeg), vi l3]) 0 [] (zma E YX8_result (d + 1) [] 68 3 [] Q)))))) : Zm E YX8_result (d + 1) M [(0, vr (some (97, 1, 0))), (1, vi l1), (2, vi l2), (3, vi l3)] 32 [vi s0] Q := by
  refine Zm.brn (fun _ _ k1_ k2_ => z_if_ne (tgt := 37) dX8_result_32 rfl k1_ k2_) (fun h_ => ?_) (fun h_ => ?_)
  · have k := zif h_ k
    refine Zm.l (fun _ _ k_ => z_aload_n dX8_result_37 rfl rfl k_) ?_
    refine zm_geti dX8_result_38 fsX8_606_1 (by decide) (by decide) ?_
    refine Zm.l (fun _ _ k_ => z_iconst (v := 2) dX8_result_41 rfl k_) ?_
    refine Zm.l (fun _ _ k_ => z_iload_n dX8_result_42 rfl rfl k_) ?_
    refine Zm.l (fun _ _ k_ => z_imul dX8_result_43 k_) ?_
    refine Zm.l (fun _ _ k_ => z_iadd dX8_result_44 k_) ?_
    refine Zm.l (fun _ _ k_ => z_iload_n dX8_result_45 rfl rfl k_) ?_
    refine Zm.l (fun _ _ k_ => z_iadd dX8_result_46 k_) ?_
    refine Zm.l (fun _ _ k_ => z_ist dX8_result_47 (by decide) (lv' := [(0, vr (some (97, 1, 0))), (1, vi l1), (2, vi l2), (3, vi l3), (4, vi (((gi M 97 46) + ((2 : Int32) * l1)) + l2))]) rfl k_) ?_
    refine Zm.l (fun _ _ k_ => z_aload_n dX8_result_49 rfl rfl k_) ?_
    refine zm_getr 65 dX8_result_50 fsX8_226_1 rfl ?_
    refine Zm.l (fun _ _ k_ => z_iload dX8_result_53 rfl k_) ?_
    obtain ⟨b_, k⟩ := k
    refine zm_zald dX8_result_55 b_ (by decide) (by decide) ?_
    refine Zm.br (fun _ _ k1_ k2_ => z_if_eq (tgt := 74) dX8_result_56 rfl k1_ k2_) (fun h_ => ?_) (fun h_ => ?_)
    · have k := zit h_ k
      refine Zm.l (fun _ _ k_ => z_lconst (v := 0) dX8_result_74 rfl k_) ?_
      exact zm_lret dX8_result_75 rfl k
    · have k := zif h_ k
      refine Zm.l (fun _ _ k_ => z_aload_n dX8_result_59 rfl rfl k_) ?_
      refine Zm.l (fun _ _ k_ => z_aload_n dX8_result_60 rfl rfl k_) ?_
      refine zm_getr 69 dX8_result_61 fsX8_238_1 rfl ?_
      refine Zm.l (fun _ _ k_ => z_iload dX8_result_64 rfl k_) ?_
      obtain ⟨b_, k⟩ := k
      refine zm_iald dX8_result_66 b_ (by decide) (by decide) ?_
      refine Zm.l (fun _ _ k_ => z_iload_n dX8_result_67 rfl rfl k_) ?_
      refine Zm.pick [] rfl ?_
      exact zm_callV (as := [vi (gi M 172 ((((gi M 97 46) + ((2 : Int32) * l1)) + l2)).toNatClampNeg), vi l3]) (st := []) dX8_result_68 vsX8_1390_1 (Nat.le_refl _) (Nat.le_of_ble_eq_true rfl) (Nat.le_of_ble_eq_true rfl) rfl k
  · have k := zit h_ k
    refine Zm.l (fun _ _ k_ => z_lconst (v := 0) dX8_result_35 rfl k_) ?_
    exact zm_lret dX8_result_36 rfl k
theorem sX8_result_71 {E : zE} {d : Nat} {Q : zO → zM → Prop} (M : zM) (s0 : Int64) (k : Q (.inl (some (vl s0))) M) : Zm E YX8_result (d + 1) M [] 71 [vl s0] Q := by
  refine Zm.l (fun _ _ k_ => z_goto (tgt := 75) dX8_result_71 rfl k_) ?_
  exact zm_lret dX8_result_75 rfl k
/-! ScriptTypesModel.warns(I)I -/
theorem bX8_warns_0 : zdec cX8_warns 0 [(0, .aload_n 0, 1), (1, .iload_n 1, 1), (2, .invokevirtual 1387, 3), (5, .ifCond .eq 12, 3), (8, .aload_n 0, 1), (9, .getfield 232, 3), (12, .iload_n 1, 1), (13, .iaload, 1), (14, .goto 4, 3), (17, .iconst (-1), 1), (18, .ireturn, 1)] = true := by decide +kernel
theorem dX8_warns_0 : decode cX8_warns 0 = .ok (.aload_n 0, 1) := zdec_at bX8_warns_0 0 rfl
theorem dX8_warns_1 : decode cX8_warns 1 = .ok (.iload_n 1, 1) := zdec_at bX8_warns_0 1 rfl
theorem dX8_warns_2 : decode cX8_warns 2 = .ok (.invokevirtual 1387, 3) := zdec_at bX8_warns_0 2 rfl
theorem dX8_warns_5 : decode cX8_warns 5 = .ok (.ifCond .eq 12, 3) := zdec_at bX8_warns_0 3 rfl
theorem dX8_warns_8 : decode cX8_warns 8 = .ok (.aload_n 0, 1) := zdec_at bX8_warns_0 4 rfl
theorem dX8_warns_9 : decode cX8_warns 9 = .ok (.getfield 232, 3) := zdec_at bX8_warns_0 5 rfl
theorem dX8_warns_12 : decode cX8_warns 12 = .ok (.iload_n 1, 1) := zdec_at bX8_warns_0 6 rfl
theorem dX8_warns_13 : decode cX8_warns 13 = .ok (.iaload, 1) := zdec_at bX8_warns_0 7 rfl
theorem dX8_warns_14 : decode cX8_warns 14 = .ok (.goto 4, 3) := zdec_at bX8_warns_0 8 rfl
theorem dX8_warns_17 : decode cX8_warns 17 = .ok (.iconst (-1), 1) := zdec_at bX8_warns_0 9 rfl
theorem dX8_warns_18 : decode cX8_warns 18 = .ok (.ireturn, 1) := zdec_at bX8_warns_0 10 rfl
theorem sX8_warns_0 {E : zE} {d : Nat} {Q : zO → zM → Prop} (M : zM) (l1 : Int32) (k : Zm E YX8_isReached d M (zargs 0 [vr (some (97, 1, 0)), vi l1]) 0 [] (zma E YX8_warns (d + 1) [(0, vr (some (97, 1, 0))), (1, vi l1)] 2 3 [] Q)) : Zm E YX8_warns (d + 1) M [(0, vr (some (97, 1, 0))), (1, vi l1)] 0 [] Q := by
  refine Zm.l (fun _ _ k_ => z_aload_n dX8_warns_0 rfl rfl k_) ?_
  refine Zm.l (fun _ _ k_ => z_iload_n dX8_warns_1 rfl rfl k_) ?_
  exact zm_callV (as := [vi l1]) (st := []) dX8_warns_2 vsX8_1387_1 (Nat.le_refl _) (Nat.le_of_ble_eq_true rfl) (Nat.le_of_ble_eq_true rfl) rfl k
theorem sX8_warns_5 {E : zE} {d : Nat} {Q : zO → zM → Prop} (M : zM) (l1 : Int32) (s0 : Int32) (k : if s0 = 0 then (Q (.inl (some (vi (-1 : Int32)))) M) else (vp_in l1 640 ∧ (Q (.inl (some (vi (gi M 170 (l1).toNatClampNeg)))) M))) : Zm E YX8_warns (d + 1) M [(0, vr (some (97, 1, 0))), (1, vi l1)] 5 [vi s0] Q := by
  refine Zm.br (fun _ _ k1_ k2_ => z_if_eq (tgt := 17) dX8_warns_5 rfl k1_ k2_) (fun h_ => ?_) (fun h_ => ?_)
  · have k := zit h_ k
    refine Zm.l (fun _ _ k_ => z_iconst (v := -1) dX8_warns_17 rfl k_) ?_
    exact zm_iret dX8_warns_18 rfl rfl k
  · have k := zif h_ k
    refine Zm.l (fun _ _ k_ => z_aload_n dX8_warns_8 rfl rfl k_) ?_
    refine zm_getr 67 dX8_warns_9 fsX8_232_1 rfl ?_
    refine Zm.l (fun _ _ k_ => z_iload_n dX8_warns_12 rfl rfl k_) ?_
    obtain ⟨b_, k⟩ := k
    refine zm_iald dX8_warns_13 b_ (by decide) (by decide) ?_
    refine Zm.l (fun _ _ k_ => z_goto (tgt := 18) dX8_warns_14 rfl k_) ?_
    exact zm_iret dX8_warns_18 rfl rfl k
