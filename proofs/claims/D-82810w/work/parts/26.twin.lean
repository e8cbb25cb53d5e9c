/-! ScriptTypesModel.joinLabel(II)Z -/
theorem bX8_joinLabel_0 : zdec cX8_joinLabel 0 [(0, .aload_n 0, 1), (1, .getfield 256, 3), (4, .iload_n 1, 1), (5, .baload, 1), (6, .ifCond .eq 12, 3), (9, .aload_n 0, 1), (10, .getfield 256, 3), (13, .iload_n 2, 1), (14, .baload, 1), (15, .ifCond .eq 21, 3), (18, .aload_n 0, 1), (19, .getfield 259, 3), (22, .iload_n 1, 1), (23, .baload, 1), (24, .ifCond .eq 16, 3), (27, .aload_n 0, 1)] = true := by decide +kernel
theorem dX8_joinLabel_0 : decode cX8_joinLabel 0 = .ok (.aload_n 0, 1) := zdec_at bX8_joinLabel_0 0 rfl
theorem dX8_joinLabel_1 : decode cX8_joinLabel 1 = .ok (.getfield 256, 3) := zdec_at bX8_joinLabel_0 1 rfl
theorem dX8_joinLabel_4 : decode cX8_joinLabel 4 = .ok (.iload_n 1, 1) := zdec_at bX8_joinLabel_0 2 rfl
theorem dX8_joinLabel_5 : decode cX8_joinLabel 5 = .ok (.baload, 1) := zdec_at bX8_joinLabel_0 3 rfl
theorem dX8_joinLabel_6 : decode cX8_joinLabel 6 = .ok (.ifCond .eq 12, 3) := zdec_at bX8_joinLabel_0 4 rfl
theorem dX8_joinLabel_9 : decode cX8_joinLabel 9 = .ok (.aload_n 0, 1) := zdec_at bX8_joinLabel_0 5 rfl
theorem dX8_joinLabel_10 : decode cX8_joinLabel 10 = .ok (.getfield 256, 3) := zdec_at bX8_joinLabel_0 6 rfl
theorem dX8_joinLabel_13 : decode cX8_joinLabel 13 = .ok (.iload_n 2, 1) := zdec_at bX8_joinLabel_0 7 rfl
theorem dX8_joinLabel_14 : decode cX8_joinLabel 14 = .ok (.baload, 1) := zdec_at bX8_joinLabel_0 8 rfl
theorem dX8_joinLabel_15 : decode cX8_joinLabel 15 = .ok (.ifCond .eq 21, 3) := zdec_at bX8_joinLabel_0 9 rfl
theorem dX8_joinLabel_18 : decode cX8_joinLabel 18 = .ok (.aload_n 0, 1) := zdec_at bX8_joinLabel_0 10 rfl
theorem dX8_joinLabel_19 : decode cX8_joinLabel 19 = .ok (.getfield 259, 3) := zdec_at bX8_joinLabel_0 11 rfl
theorem dX8_joinLabel_22 : decode cX8_joinLabel 22 = .ok (.iload_n 1, 1) := zdec_at bX8_joinLabel_0 12 rfl
theorem dX8_joinLabel_23 : decode cX8_joinLabel 23 = .ok (.baload, 1) := zdec_at bX8_joinLabel_0 13 rfl
theorem dX8_joinLabel_24 : decode cX8_joinLabel 24 = .ok (.ifCond .eq 16, 3) := zdec_at bX8_joinLabel_0 14 rfl
theorem dX8_joinLabel_27 : decode cX8_joinLabel 27 = .ok (.aload_n 0, 1) := zdec_at bX8_joinLabel_0 15 rfl
theorem bX8_joinLabel_28 : zdec cX8_joinLabel 28 [(28, .getfield 259, 3), (31, .iload_n 2, 1), (32, .baload, 1), (33, .ifCond .ne 7, 3), (36, .iconst 1, 1), (37, .goto 4, 3), (40, .iconst 0, 1), (41, .istore_n 3, 1), (42, .iload_n 3, 1), (43, .ifCond .ne 47, 3), (46, .aload_n 0, 1), (47, .getfield 262, 3), (50, .iload_n 1, 1), (51, .laload, 1), (52, .aload_n 0, 1), (53, .getfield 262, 3)] = true := by decide +kernel
theorem dX8_joinLabel_28 : decode cX8_joinLabel 28 = .ok (.getfield 259, 3) := zdec_at bX8_joinLabel_28 0 rfl
theorem dX8_joinLabel_31 : decode cX8_joinLabel 31 = .ok (.iload_n 2, 1) := zdec_at bX8_joinLabel_28 1 rfl
theorem dX8_joinLabel_32 : decode cX8_joinLabel 32 = .ok (.baload, 1) := zdec_at bX8_joinLabel_28 2 rfl
theorem dX8_joinLabel_33 : decode cX8_joinLabel 33 = .ok (.ifCond .ne 7, 3) := zdec_at bX8_joinLabel_28 3 rfl
theorem dX8_joinLabel_36 : decode cX8_joinLabel 36 = .ok (.iconst 1, 1) := zdec_at bX8_joinLabel_28 4 rfl
theorem dX8_joinLabel_37 : decode cX8_joinLabel 37 = .ok (.goto 4, 3) := zdec_at bX8_joinLabel_28 5 rfl
theorem dX8_joinLabel_40 : decode cX8_joinLabel 40 = .ok (.iconst 0, 1) := zdec_at bX8_joinLabel_28 6 rfl
theorem dX8_joinLabel_41 : decode cX8_joinLabel 41 = .ok (.istore_n 3, 1) := zdec_at bX8_joinLabel_28 7 rfl
theorem dX8_joinLabel_42 : decode cX8_joinLabel 42 = .ok (.iload_n 3, 1) := zdec_at bX8_joinLabel_28 8 rfl
theorem dX8_joinLabel_43 : decode cX8_joinLabel 43 = .ok (.ifCond .ne 47, 3) := zdec_at bX8_joinLabel_28 9 rfl
theorem dX8_joinLabel_46 : decode cX8_joinLabel 46 = .ok (.aload_n 0, 1) := zdec_at bX8_joinLabel_28 10 rfl
theorem dX8_joinLabel_47 : decode cX8_joinLabel 47 = .ok (.getfield 262, 3) := zdec_at bX8_joinLabel_28 11 rfl
theorem dX8_joinLabel_50 : decode cX8_joinLabel 50 = .ok (.iload_n 1, 1) := zdec_at bX8_joinLabel_28 12 rfl
theorem dX8_joinLabel_51 : decode cX8_joinLabel 51 = .ok (.laload, 1) := zdec_at bX8_joinLabel_28 13 rfl
theorem dX8_joinLabel_52 : decode cX8_joinLabel 52 = .ok (.aload_n 0, 1) := zdec_at bX8_joinLabel_28 14 rfl
theorem dX8_joinLabel_53 : decode cX8_joinLabel 53 = .ok (.getfield 262, 3) := zdec_at bX8_joinLabel_28 15 rfl
theorem bX8_joinLabel_56 : zdec cX8_joinLabel 56 [(56, .iload_n 2, 1), (57, .laload, 1), (58, .ldc2_w 1110, 3), (61, .lxor, 1), (62, .land, 1), (63, .lconst 0, 1), (64, .lcmp, 1), (65, .ifCond .ne 25, 3), (68, .aload_n 0, 1), (69, .getfield 265, 3), (72, .iload_n 1, 1), (73, .laload, 1), (74, .aload_n 0, 1), (75, .getfield 265, 3), (78, .iload_n 2, 1), (79, .laload, 1)] = true := by decide +kernel
theorem dX8_joinLabel_56 : decode cX8_joinLabel 56 = .ok (.iload_n 2, 1) := zdec_at bX8_joinLabel_56 0 rfl
theorem dX8_joinLabel_57 : decode cX8_joinLabel 57 = .ok (.laload, 1) := zdec_at bX8_joinLabel_56 1 rfl
theorem dX8_joinLabel_58 : decode cX8_joinLabel 58 = .ok (.ldc2_w 1110, 3) := zdec_at bX8_joinLabel_56 2 rfl
theorem dX8_joinLabel_61 : decode cX8_joinLabel 61 = .ok (.lxor, 1) := zdec_at bX8_joinLabel_56 3 rfl
theorem dX8_joinLabel_62 : decode cX8_joinLabel 62 = .ok (.land, 1) := zdec_at bX8_joinLabel_56 4 rfl
theorem dX8_joinLabel_63 : decode cX8_joinLabel 63 = .ok (.lconst 0, 1) := zdec_at bX8_joinLabel_56 5 rfl
theorem dX8_joinLabel_64 : decode cX8_joinLabel 64 = .ok (.lcmp, 1) := zdec_at bX8_joinLabel_56 6 rfl
theorem dX8_joinLabel_65 : decode cX8_joinLabel 65 = .ok (.ifCond .ne 25, 3) := zdec_at bX8_joinLabel_56 7 rfl
theorem dX8_joinLabel_68 : decode cX8_joinLabel 68 = .ok (.aload_n 0, 1) := zdec_at bX8_joinLabel_56 8 rfl
theorem dX8_joinLabel_69 : decode cX8_joinLabel 69 = .ok (.getfield 265, 3) := zdec_at bX8_joinLabel_56 9 rfl
theorem dX8_joinLabel_72 : decode cX8_joinLabel 72 = .ok (.iload_n 1, 1) := zdec_at bX8_joinLabel_56 10 rfl
theorem dX8_joinLabel_73 : decode cX8_joinLabel 73 = .ok (.laload, 1) := zdec_at bX8_joinLabel_56 11 rfl
theorem dX8_joinLabel_74 : decode cX8_joinLabel 74 = .ok (.aload_n 0, 1) := zdec_at bX8_joinLabel_56 12 rfl
theorem dX8_joinLabel_75 : decode cX8_joinLabel 75 = .ok (.getfield 265, 3) := zdec_at bX8_joinLabel_56 13 rfl
theorem dX8_joinLabel_78 : decode cX8_joinLabel 78 = .ok (.iload_n 2, 1) := zdec_at bX8_joinLabel_56 14 rfl
theorem dX8_joinLabel_79 : decode cX8_joinLabel 79 = .ok (.laload, 1) := zdec_at bX8_joinLabel_56 15 rfl
theorem bX8_joinLabel_80 : zdec cX8_joinLabel 80 [(80, .ldc2_w 1110, 3), (83, .lxor, 1), (84, .land, 1), (85, .lconst 0, 1), (86, .lcmp, 1), (87, .ifCond .eq 7, 3), (90, .iconst 1, 1), (91, .goto 4, 3), (94, .iconst 0, 1), (95, .istore_n 3, 1), (96, .iload_n 3, 1), (97, .ifCond .ne 47, 3), (100, .aload_n 0, 1), (101, .getfield 268, 3), (104, .iload_n 1, 1), (105, .laload, 1)] = true := by decide +kernel
theorem dX8_joinLabel_80 : decode cX8_joinLabel 80 = .ok (.ldc2_w 1110, 3) := zdec_at bX8_joinLabel_80 0 rfl
theorem dX8_joinLabel_83 : decode cX8_joinLabel 83 = .ok (.lxor, 1) := zdec_at bX8_joinLabel_80 1 rfl
theorem dX8_joinLabel_84 : decode cX8_joinLabel 84 = .ok (.land, 1) := zdec_at bX8_joinLabel_80 2 rfl
theorem dX8_joinLabel_85 : decode cX8_joinLabel 85 = .ok (.lconst 0, 1) := zdec_at bX8_joinLabel_80 3 rfl
theorem dX8_joinLabel_86 : decode cX8_joinLabel 86 = .ok (.lcmp, 1) := zdec_at bX8_joinLabel_80 4 rfl
theorem dX8_joinLabel_87 : decode cX8_joinLabel 87 = .ok (.ifCond .eq 7, 3) := zdec_at bX8_joinLabel_80 5 rfl
theorem dX8_joinLabel_90 : decode cX8_joinLabel 90 = .ok (.iconst 1, 1) := zdec_at bX8_joinLabel_80 6 rfl
theorem dX8_joinLabel_91 : decode cX8_joinLabel 91 = .ok (.goto 4, 3) := zdec_at bX8_joinLabel_80 7 rfl
theorem dX8_joinLabel_94 : decode cX8_joinLabel 94 = .ok (.iconst 0, 1) := zdec_at bX8_joinLabel_80 8 rfl
theorem dX8_joinLabel_95 : decode cX8_joinLabel 95 = .ok (.istore_n 3, 1) := zdec_at bX8_joinLabel_80 9 rfl
theorem dX8_joinLabel_96 : decode cX8_joinLabel 96 = .ok (.iload_n 3, 1) := zdec_at bX8_joinLabel_80 10 rfl
theorem dX8_joinLabel_97 : decode cX8_joinLabel 97 = .ok (.ifCond .ne 47, 3) := zdec_at bX8_joinLabel_80 11 rfl
theorem dX8_joinLabel_100 : decode cX8_joinLabel 100 = .ok (.aload_n 0, 1) := zdec_at bX8_joinLabel_80 12 rfl
theorem dX8_joinLabel_101 : decode cX8_joinLabel 101 = .ok (.getfield 268, 3) := zdec_at bX8_joinLabel_80 13 rfl
theorem dX8_joinLabel_104 : decode cX8_joinLabel 104 = .ok (.iload_n 1, 1) := zdec_at bX8_joinLabel_80 14 rfl
theorem dX8_joinLabel_105 : decode cX8_joinLabel 105 = .ok (.laload, 1) := zdec_at bX8_joinLabel_80 15 rfl
theorem bX8_joinLabel_106 : zdec cX8_joinLabel 106 [(106, .aload_n 0, 1), (107, .getfield 268, 3), (110, .iload_n 2, 1), (111, .laload, 1), (112, .ldc2_w 1110, 3), (115, .lxor, 1), (116, .land, 1), (117, .lconst 0, 1), (118, .lcmp, 1), (119, .ifCond .ne 25, 3), (122, .aload_n 0, 1), (123, .getfield 271, 3), (126, .iload_n 1, 1), (127, .laload, 1), (128, .aload_n 0, 1), (129, .getfield 271, 3)] = true := by decide +kernel
theorem dX8_joinLabel_106 : decode cX8_joinLabel 106 = .ok (.aload_n 0, 1) := zdec_at bX8_joinLabel_106 0 rfl
theorem dX8_joinLabel_107 : decode cX8_joinLabel 107 = .ok (.getfield 268, 3) := zdec_at bX8_joinLabel_106 1 rfl
theorem dX8_joinLabel_110 : decode cX8_joinLabel 110 = .ok (.iload_n 2, 1) := zdec_at bX8_joinLabel_106 2 rfl
theorem dX8_joinLabel_111 : decode cX8_joinLabel 111 = .ok (.laload, 1) := zdec_at bX8_joinLabel_106 3 rfl
theorem dX8_joinLabel_112 : decode cX8_joinLabel 112 = .ok (.ldc2_w 1110, 3) := zdec_at bX8_joinLabel_106 4 rfl
theorem dX8_joinLabel_115 : decode cX8_joinLabel 115 = .ok (.lxor, 1) := zdec_at bX8_joinLabel_106 5 rfl
theorem dX8_joinLabel_116 : decode cX8_joinLabel 116 = .ok (.land, 1) := zdec_at bX8_joinLabel_106 6 rfl
theorem dX8_joinLabel_117 : decode cX8_joinLabel 117 = .ok (.lconst 0, 1) := zdec_at bX8_joinLabel_106 7 rfl
theorem dX8_joinLabel_118 : decode cX8_joinLabel 118 = .ok (.lcmp, 1) := zdec_at bX8_joinLabel_106 8 rfl
theorem dX8_joinLabel_119 : decode cX8_joinLabel 119 = .ok (.ifCond .ne 25, 3) := zdec_at bX8_joinLabel_106 9 rfl
theorem dX8_joinLabel_122 : decode cX8_joinLabel 122 = .ok (.aload_n 0, 1) := zdec_at bX8_joinLabel_106 10 rfl
theorem dX8_joinLabel_123 : decode cX8_joinLabel 123 = .ok (.getfield 271, 3) := zdec_at bX8_joinLabel_106 11 rfl
theorem dX8_joinLabel_126 : decode cX8_joinLabel 126 = .ok (.iload_n 1, 1) := zdec_at bX8_joinLabel_106 12 rfl
theorem dX8_joinLabel_127 : decode cX8_joinLabel 127 = .ok (.laload, 1) := zdec_at bX8_joinLabel_106 13 rfl
theorem dX8_joinLabel_128 : decode cX8_joinLabel 128 = .ok (.aload_n 0, 1) := zdec_at bX8_joinLabel_106 14 rfl
theorem dX8_joinLabel_129 : decode cX8_joinLabel 129 = .ok (.getfield 271, 3) := zdec_at bX8_joinLabel_106 15 rfl
theorem bX8_joinLabel_132 : zdec cX8_joinLabel 132 [(132, .iload_n 2, 1), (133, .laload, 1), (134, .ldc2_w 1110, 3), (137, .lxor, 1), (138, .land, 1), (139, .lconst 0, 1), (140, .lcmp, 1), (141, .ifCond .eq 7, 3), (144, .iconst 1, 1), (145, .goto 4, 3), (148, .iconst 0, 1), (149, .istore_n 3, 1), (150, .aload_n 0, 1), (151, .getfield 256, 3), (154, .iload_n 2, 1), (155, .aload_n 0, 1)] = true := by decide +kernel
theorem dX8_joinLabel_132 : decode cX8_joinLabel 132 = .ok (.iload_n 2, 1) := zdec_at bX8_joinLabel_132 0 rfl
theorem dX8_joinLabel_133 : decode cX8_joinLabel 133 = .ok (.laload, 1) := zdec_at bX8_joinLabel_132 1 rfl
theorem dX8_joinLabel_134 : decode cX8_joinLabel 134 = .ok (.ldc2_w 1110, 3) := zdec_at bX8_joinLabel_132 2 rfl
theorem dX8_joinLabel_137 : decode cX8_joinLabel 137 = .ok (.lxor, 1) := zdec_at bX8_joinLabel_132 3 rfl
theorem dX8_joinLabel_138 : decode cX8_joinLabel 138 = .ok (.land, 1) := zdec_at bX8_joinLabel_132 4 rfl
theorem dX8_joinLabel_139 : decode cX8_joinLabel 139 = .ok (.lconst 0, 1) := zdec_at bX8_joinLabel_132 5 rfl
theorem dX8_joinLabel_140 : decode cX8_joinLabel 140 = .ok (.lcmp, 1) := zdec_at bX8_joinLabel_132 6 rfl
theorem dX8_joinLabel_141 : decode cX8_joinLabel 141 = .ok (.ifCond .eq 7, 3) := zdec_at bX8_joinLabel_132 7 rfl
theorem dX8_joinLabel_144 : decode cX8_joinLabel 144 = .ok (.iconst 1, 1) := zdec_at bX8_joinLabel_132 8 rfl
theorem dX8_joinLabel_145 : decode cX8_joinLabel 145 = .ok (.goto 4, 3) := zdec_at bX8_joinLabel_132 9 rfl
theorem dX8_joinLabel_148 : decode cX8_joinLabel 148 = .ok (.iconst 0, 1) := zdec_at bX8_joinLabel_132 10 rfl
theorem dX8_joinLabel_149 : decode cX8_joinLabel 149 = .ok (.istore_n 3, 1) := zdec_at bX8_joinLabel_132 11 rfl
theorem dX8_joinLabel_150 : decode cX8_joinLabel 150 = .ok (.aload_n 0, 1) := zdec_at bX8_joinLabel_132 12 rfl
theorem dX8_joinLabel_151 : decode cX8_joinLabel 151 = .ok (.getfield 256, 3) := zdec_at bX8_joinLabel_132 13 rfl
theorem dX8_joinLabel_154 : decode cX8_joinLabel 154 = .ok (.iload_n 2, 1) := zdec_at bX8_joinLabel_132 14 rfl
theorem dX8_joinLabel_155 : decode cX8_joinLabel 155 = .ok (.aload_n 0, 1) := zdec_at bX8_joinLabel_132 15 rfl
theorem bX8_joinLabel_156 : zdec cX8_joinLabel 156 [(156, .getfield 256, 3), (159, .iload_n 2, 1), (160, .baload, 1), (161, .ifCond .ne 12, 3), (164, .aload_n 0, 1), (165, .getfield 256, 3), (168, .iload_n 1, 1), (169, .baload, 1), (170, .ifCond .eq 7, 3), (173, .iconst 1, 1), (174, .goto 4, 3), (177, .iconst 0, 1), (178, .bastore, 1), (179, .aload_n 0, 1), (180, .getfield 259, 3), (183, .iload_n 2, 1)] = true := by decide +kernel
theorem dX8_joinLabel_156 : decode cX8_joinLabel 156 = .ok (.getfield 256, 3) := zdec_at bX8_joinLabel_156 0 rfl
theorem dX8_joinLabel_159 : decode cX8_joinLabel 159 = .ok (.iload_n 2, 1) := zdec_at bX8_joinLabel_156 1 rfl
theorem dX8_joinLabel_160 : decode cX8_joinLabel 160 = .ok (.baload, 1) := zdec_at bX8_joinLabel_156 2 rfl
theorem dX8_joinLabel_161 : decode cX8_joinLabel 161 = .ok (.ifCond .ne 12, 3) := zdec_at bX8_joinLabel_156 3 rfl
theorem dX8_joinLabel_164 : decode cX8_joinLabel 164 = .ok (.aload_n 0, 1) := zdec_at bX8_joinLabel_156 4 rfl
theorem dX8_joinLabel_165 : decode cX8_joinLabel 165 = .ok (.getfield 256, 3) := zdec_at bX8_joinLabel_156 5 rfl
theorem dX8_joinLabel_168 : decode cX8_joinLabel 168 = .ok (.iload_n 1, 1) := zdec_at bX8_joinLabel_156 6 rfl
theorem dX8_joinLabel_169 : decode cX8_joinLabel 169 = .ok (.baload, 1) := zdec_at bX8_joinLabel_156 7 rfl
theorem dX8_joinLabel_170 : decode cX8_joinLabel 170 = .ok (.ifCond .eq 7, 3) := zdec_at bX8_joinLabel_156 8 rfl
theorem dX8_joinLabel_173 : decode cX8_joinLabel 173 = .ok (.iconst 1, 1) := zdec_at bX8_joinLabel_156 9 rfl
theorem dX8_joinLabel_174 : decode cX8_joinLabel 174 = .ok (.goto 4, 3) := zdec_at bX8_joinLabel_156 10 rfl
theorem dX8_joinLabel_177 : decode cX8_joinLabel 177 = .ok (.iconst 0, 1) := zdec_at bX8_joinLabel_156 11 rfl
theorem dX8_joinLabel_178 : decode cX8_joinLabel 178 = .ok (.bastore, 1) := zdec_at bX8_joinLabel_156 12 rfl
theorem dX8_joinLabel_179 : decode cX8_joinLabel 179 = .ok (.aload_n 0, 1) := zdec_at bX8_joinLabel_156 13 rfl
theorem dX8_joinLabel_180 : decode cX8_joinLabel 180 = .ok (.getfield 259, 3) := zdec_at bX8_joinLabel_156 14 rfl
theorem dX8_joinLabel_183 : decode cX8_joinLabel 183 = .ok (.iload_n 2, 1) := zdec_at bX8_joinLabel_156 15 rfl
theorem bX8_joinLabel_184 : zdec cX8_joinLabel 184 [(184, .aload_n 0, 1), (185, .getfield 259, 3), (188, .iload_n 2, 1), (189, .baload, 1), (190, .ifCond .ne 12, 3), (193, .aload_n 0, 1), (194, .getfield 259, 3), (197, .iload_n 1, 1), (198, .baload, 1), (199, .ifCond .eq 7, 3), (202, .iconst 1, 1), (203, .goto 4, 3), (206, .iconst 0, 1), (207, .bastore, 1), (208, .aload_n 0, 1), (209, .getfield 262, 3)] = true := by decide +kernel
theorem dX8_joinLabel_184 : decode cX8_joinLabel 184 = .ok (.aload_n 0, 1) := zdec_at bX8_joinLabel_184 0 rfl
theorem dX8_joinLabel_185 : decode cX8_joinLabel 185 = .ok (.getfield 259, 3) := zdec_at bX8_joinLabel_184 1 rfl
theorem dX8_joinLabel_188 : decode cX8_joinLabel 188 = .ok (.iload_n 2, 1) := zdec_at bX8_joinLabel_184 2 rfl
theorem dX8_joinLabel_189 : decode cX8_joinLabel 189 = .ok (.baload, 1) := zdec_at bX8_joinLabel_184 3 rfl
theorem dX8_joinLabel_190 : decode cX8_joinLabel 190 = .ok (.ifCond .ne 12, 3) := zdec_at bX8_joinLabel_184 4 rfl
theorem dX8_joinLabel_193 : decode cX8_joinLabel 193 = .ok (.aload_n 0, 1) := zdec_at bX8_joinLabel_184 5 rfl
theorem dX8_joinLabel_194 : decode cX8_joinLabel 194 = .ok (.getfield 259, 3) := zdec_at bX8_joinLabel_184 6 rfl
theorem dX8_joinLabel_197 : decode cX8_joinLabel 197 = .ok (.iload_n 1, 1) := zdec_at bX8_joinLabel_184 7 rfl
theorem dX8_joinLabel_198 : decode cX8_joinLabel 198 = .ok (.baload, 1) := zdec_at bX8_joinLabel_184 8 rfl
theorem dX8_joinLabel_199 : decode cX8_joinLabel 199 = .ok (.ifCond .eq 7, 3) := zdec_at bX8_joinLabel_184 9 rfl
theorem dX8_joinLabel_202 : decode cX8_joinLabel 202 = .ok (.iconst 1, 1) := zdec_at bX8_joinLabel_184 10 rfl
theorem dX8_joinLabel_203 : decode cX8_joinLabel 203 = .ok (.goto 4, 3) := zdec_at bX8_joinLabel_184 11 rfl
theorem dX8_joinLabel_206 : decode cX8_joinLabel 206 = .ok (.iconst 0, 1) := zdec_at bX8_joinLabel_184 12 rfl
theorem dX8_joinLabel_207 : decode cX8_joinLabel 207 = .ok (.bastore, 1) := zdec_at bX8_joinLabel_184 13 rfl
theorem dX8_joinLabel_208 : decode cX8_joinLabel 208 = .ok (.aload_n 0, 1) := zdec_at bX8_joinLabel_184 14 rfl
theorem dX8_joinLabel_209 : decode cX8_joinLabel 209 = .ok (.getfield 262, 3) := zdec_at bX8_joinLabel_184 15 rfl
theorem bX8_joinLabel_212 : zdec cX8_joinLabel 212 [(212, .iload_n 2, 1), (213, .aload_n 0, 1), (214, .getfield 262, 3), (217, .iload_n 2, 1), (218, .laload, 1), (219, .aload_n 0, 1), (220, .getfield 262, 3), (223, .iload_n 1, 1), (224, .laload, 1), (225, .lor, 1), (226, .lastore, 1), (227, .aload_n 0, 1), (228, .getfield 265, 3), (231, .iload_n 2, 1), (232, .aload_n 0, 1), (233, .getfield 265, 3)] = true := by decide +kernel
theorem dX8_joinLabel_212 : decode cX8_joinLabel 212 = .ok (.iload_n 2, 1) := zdec_at bX8_joinLabel_212 0 rfl
theorem dX8_joinLabel_213 : decode cX8_joinLabel 213 = .ok (.aload_n 0, 1) := zdec_at bX8_joinLabel_212 1 rfl
theorem dX8_joinLabel_214 : decode cX8_joinLabel 214 = .ok (.getfield 262, 3) := zdec_at bX8_joinLabel_212 2 rfl
theorem dX8_joinLabel_217 : decode cX8_joinLabel 217 = .ok (.iload_n 2, 1) := zdec_at bX8_joinLabel_212 3 rfl
theorem dX8_joinLabel_218 : decode cX8_joinLabel 218 = .ok (.laload, 1) := zdec_at bX8_joinLabel_212 4 rfl
theorem dX8_joinLabel_219 : decode cX8_joinLabel 219 = .ok (.aload_n 0, 1) := zdec_at bX8_joinLabel_212 5 rfl
theorem dX8_joinLabel_220 : decode cX8_joinLabel 220 = .ok (.getfield 262, 3) := zdec_at bX8_joinLabel_212 6 rfl
theorem dX8_joinLabel_223 : decode cX8_joinLabel 223 = .ok (.iload_n 1, 1) := zdec_at bX8_joinLabel_212 7 rfl
theorem dX8_joinLabel_224 : decode cX8_joinLabel 224 = .ok (.laload, 1) := zdec_at bX8_joinLabel_212 8 rfl
theorem dX8_joinLabel_225 : decode cX8_joinLabel 225 = .ok (.lor, 1) := zdec_at bX8_joinLabel_212 9 rfl
theorem dX8_joinLabel_226 : decode cX8_joinLabel 226 = .ok (.lastore, 1) := zdec_at bX8_joinLabel_212 10 rfl
theorem dX8_joinLabel_227 : decode cX8_joinLabel 227 = .ok (.aload_n 0, 1) := zdec_at bX8_joinLabel_212 11 rfl
theorem dX8_joinLabel_228 : decode cX8_joinLabel 228 = .ok (.getfield 265, 3) := zdec_at bX8_joinLabel_212 12 rfl
theorem dX8_joinLabel_231 : decode cX8_joinLabel 231 = .ok (.iload_n 2, 1) := zdec_at bX8_joinLabel_212 13 rfl
theorem dX8_joinLabel_232 : decode cX8_joinLabel 232 = .ok (.aload_n 0, 1) := zdec_at bX8_joinLabel_212 14 rfl
theorem dX8_joinLabel_233 : decode cX8_joinLabel 233 = .ok (.getfield 265, 3) := zdec_at bX8_joinLabel_212 15 rfl
theorem bX8_joinLabel_236 : zdec cX8_joinLabel 236 [(236, .iload_n 2, 1), (237, .laload, 1), (238, .aload_n 0, 1), (239, .getfield 265, 3), (242, .iload_n 1, 1), (243, .laload, 1), (244, .lor, 1), (245, .lastore, 1), (246, .aload_n 0, 1), (247, .getfield 268, 3), (250, .iload_n 2, 1), (251, .aload_n 0, 1), (252, .getfield 268, 3), (255, .iload_n 2, 1), (256, .laload, 1), (257, .aload_n 0, 1)] = true := by decide +kernel
theorem dX8_joinLabel_236 : decode cX8_joinLabel 236 = .ok (.iload_n 2, 1) := zdec_at bX8_joinLabel_236 0 rfl
theorem dX8_joinLabel_237 : decode cX8_joinLabel 237 = .ok (.laload, 1) := zdec_at bX8_joinLabel_236 1 rfl
theorem dX8_joinLabel_238 : decode cX8_joinLabel 238 = .ok (.aload_n 0, 1) := zdec_at bX8_joinLabel_236 2 rfl
theorem dX8_joinLabel_239 : decode cX8_joinLabel 239 = .ok (.getfield 265, 3) := zdec_at bX8_joinLabel_236 3 rfl
theorem dX8_joinLabel_242 : decode cX8_joinLabel 242 = .ok (.iload_n 1, 1) := zdec_at bX8_joinLabel_236 4 rfl
theorem dX8_joinLabel_243 : decode cX8_joinLabel 243 = .ok (.laload, 1) := zdec_at bX8_joinLabel_236 5 rfl
theorem dX8_joinLabel_244 : decode cX8_joinLabel 244 = .ok (.lor, 1) := zdec_at bX8_joinLabel_236 6 rfl
theorem dX8_joinLabel_245 : decode cX8_joinLabel 245 = .ok (.lastore, 1) := zdec_at bX8_joinLabel_236 7 rfl
theorem dX8_joinLabel_246 : decode cX8_joinLabel 246 = .ok (.aload_n 0, 1) := zdec_at bX8_joinLabel_236 8 rfl
theorem dX8_joinLabel_247 : decode cX8_joinLabel 247 = .ok (.getfield 268, 3) := zdec_at bX8_joinLabel_236 9 rfl
theorem dX8_joinLabel_250 : decode cX8_joinLabel 250 = .ok (.iload_n 2, 1) := zdec_at bX8_joinLabel_236 10 rfl
theorem dX8_joinLabel_251 : decode cX8_joinLabel 251 = .ok (.aload_n 0, 1) := zdec_at bX8_joinLabel_236 11 rfl
theorem dX8_joinLabel_252 : decode cX8_joinLabel 252 = .ok (.getfield 268, 3) := zdec_at bX8_joinLabel_236 12 rfl
theorem dX8_joinLabel_255 : decode cX8_joinLabel 255 = .ok (.iload_n 2, 1) := zdec_at bX8_joinLabel_236 13 rfl
theorem dX8_joinLabel_256 : decode cX8_joinLabel 256 = .ok (.laload, 1) := zdec_at bX8_joinLabel_236 14 rfl
theorem dX8_joinLabel_257 : decode cX8_joinLabel 257 = .ok (.aload_n 0, 1) := zdec_at bX8_joinLabel_236 15 rfl
theorem bX8_joinLabel_258 : zdec cX8_joinLabel 258 [(258, .getfield 268, 3), (261, .iload_n 1, 1), (262, .laload, 1), (263, .lor, 1), (264, .lastore, 1), (265, .aload_n 0, 1), (266, .getfield 271, 3), (269, .iload_n 2, 1), (270, .aload_n 0, 1), (271, .getfield 271, 3), (274, .iload_n 2, 1), (275, .laload, 1), (276, .aload_n 0, 1), (277, .getfield 271, 3), (280, .iload_n 1, 1), (281, .laload, 1)] = true := by decide +kernel
theorem dX8_joinLabel_258 : decode cX8_joinLabel 258 = .ok (.getfield 268, 3) := zdec_at bX8_joinLabel_258 0 rfl
theorem dX8_joinLabel_261 : decode cX8_joinLabel 261 = .ok (.iload_n 1, 1) := zdec_at bX8_joinLabel_258 1 rfl
theorem dX8_joinLabel_262 : decode cX8_joinLabel 262 = .ok (.laload, 1) := zdec_at bX8_joinLabel_258 2 rfl
theorem dX8_joinLabel_263 : decode cX8_joinLabel 263 = .ok (.lor, 1) := zdec_at bX8_joinLabel_258 3 rfl
theorem dX8_joinLabel_264 : decode cX8_joinLabel 264 = .ok (.lastore, 1) := zdec_at bX8_joinLabel_258 4 rfl
theorem dX8_joinLabel_265 : decode cX8_joinLabel 265 = .ok (.aload_n 0, 1) := zdec_at bX8_joinLabel_258 5 rfl
theorem dX8_joinLabel_266 : decode cX8_joinLabel 266 = .ok (.getfield 271, 3) := zdec_at bX8_joinLabel_258 6 rfl
theorem dX8_joinLabel_269 : decode cX8_joinLabel 269 = .ok (.iload_n 2, 1) := zdec_at bX8_joinLabel_258 7 rfl
theorem dX8_joinLabel_270 : decode cX8_joinLabel 270 = .ok (.aload_n 0, 1) := zdec_at bX8_joinLabel_258 8 rfl
theorem dX8_joinLabel_271 : decode cX8_joinLabel 271 = .ok (.getfield 271, 3) := zdec_at bX8_joinLabel_258 9 rfl
theorem dX8_joinLabel_274 : decode cX8_joinLabel 274 = .ok (.iload_n 2, 1) := zdec_at bX8_joinLabel_258 10 rfl
theorem dX8_joinLabel_275 : decode cX8_joinLabel 275 = .ok (.laload, 1) := zdec_at bX8_joinLabel_258 11 rfl
theorem dX8_joinLabel_276 : decode cX8_joinLabel 276 = .ok (.aload_n 0, 1) := zdec_at bX8_joinLabel_258 12 rfl
theorem dX8_joinLabel_277 : decode cX8_joinLabel 277 = .ok (.getfield 271, 3) := zdec_at bX8_joinLabel_258 13 rfl
theorem dX8_joinLabel_280 : decode cX8_joinLabel 280 = .ok (.iload_n 1, 1) := zdec_at bX8_joinLabel_258 14 rfl
theorem dX8_joinLabel_281 : decode cX8_joinLabel 281 = .ok (.laload, 1) := zdec_at bX8_joinLabel_258 15 rfl
theorem bX8_joinLabel_282 : zdec cX8_joinLabel 282 [(282, .lor, 1), (283, .lastore, 1), (284, .iload_n 3, 1), (285, .ireturn, 1)] = true := by decide +kernel
theorem dX8_joinLabel_282 : decode cX8_joinLabel 282 = .ok (.lor, 1) := zdec_at bX8_joinLabel_282 0 rfl
theorem dX8_joinLabel_283 : decode cX8_joinLabel 283 = .ok (.lastore, 1) := zdec_at bX8_joinLabel_282 1 rfl
theorem dX8_joinLabel_284 : decode cX8_joinLabel 284 = .ok (.iload_n 3, 1) := zdec_at bX8_joinLabel_282 2 rfl
theorem dX8_joinLabel_285 : decode cX8_joinLabel 285 = .ok (.ireturn, 1) := zdec_at bX8_joinLabel_282 3 rfl
theorem sX8_joinLabel_0 {E : zE} {d : Nat} {Q : zO → zM → Prop} (M : zM) (l1 : Int32) (l2 : Int32) (k : vp_in l1 15128 ∧ (if (gi M 178 (l1).toNatClampNeg) = 0 then (Zm E YX8_joinLabel d M [(0, vr (some (97, 1, 0))), (1, vi l1), (2, vi l2)] 18 [] Q) else (vp_in l2 15128 ∧ (if (gi M 178 (l2).toNatClampNeg) = 0 then (Zm E YX8_joinLabel d M [(0, vr (some (97, 1, 0))), (1, vi l1), (2, vi l2)] 41 [vi (1 : Int32)] Q) else (Zm E YX8_joinLabel d M [(0, vr (some (97, 1, 0))), (1, vi l1), (2, vi l2)] 18 [] Q))))) : Zm E YX8_joinLabel d M [(0, vr (some (97, 1, 0))), (1, vi l1), (2, vi l2)] 0 [] Q := by
  refine Zm.l (fun _ _ k_ => z_aload_n dX8_joinLabel_0 rfl rfl k_) ?_
  refine zm_getr 75 dX8_joinLabel_1 fsX8_256_1 rfl ?_
  refine Zm.l (fun _ _ k_ => z_iload_n dX8_joinLabel_4 rfl rfl k_) ?_
  obtain ⟨b_, k⟩ := k
  refine zm_zald dX8_joinLabel_5 b_ (by decide) (by decide) ?_
  refine Zm.br (fun _ _ k1_ k2_ => z_if_eq (tgt := 18) dX8_joinLabel_6 rfl k1_ k2_) (fun h_ => ?_) (fun h_ => ?_)
  · have k := zit h_ k
    exact k
  · have k := zif h_ k
    refine Zm.l (fun _ _ k_ => z_aload_n dX8_joinLabel_9 rfl rfl k_) ?_
    refine zm_getr 75 dX8_joinLabel_10 fsX8_256_1 rfl ?_
    refine Zm.l (fun _ _ k_ => z_iload_n dX8_joinLabel_13 rfl rfl k_) ?_
    obtain ⟨b_, k⟩ := k
    refine zm_zald dX8_joinLabel_14 b_ (by decide) (by decide) ?_
    refine Zm.br (fun _ _ k1_ k2_ => z_if_eq (tgt := 36) dX8_joinLabel_15 rfl k1_ k2_) (fun h_ => ?_) (fun h_ => ?_)
    · have k := zit h_ k
      refine Zm.l (fun _ _ k_ => z_iconst (v := 1) dX8_joinLabel_36 rfl k_) ?_
      refine Zm.l (fun _ _ k_ => z_goto (tgt := 41) dX8_joinLabel_37 rfl k_) ?_
      exact k
    · have k := zif h_ k
      exact k
theorem sX8_joinLabel_18 {E : zE} {d : Nat} {Q : zO → zM → Prop} (M : zM) (l1 : Int32) (l2 : Int32) (k : vp_in l1 15128 ∧ (if (gi M 179 (l1).toNatClampNeg) = 0 then (Zm E YX8_joinLabel d M [(0, vr (some (97, 1, 0))), (1, vi l1), (2, vi l2)] 41 [vi (0 : Int32)] Q) else (vp_in l2 15128 ∧ (if (gi M 179 (l2).toNatClampNeg) = 0 then (Zm E YX8_joinLabel d M [(0, vr (some (97, 1, 0))), (1, vi l1), (2, vi l2)] 41 [vi (1 : Int32)] Q) else (Zm E YX8_joinLabel d M [(0, vr (some (97, 1, 0))), (1, vi l1), (2, vi l2)] 41 [vi (0 : Int32)] Q))))) : Zm E YX8_joinLabel d M [(0, vr (some (97, 1, 0))), (1, vi l1), (2, vi l2)] 18 [] Q := by
  refine Zm.l (fun _ _ k_ => z_aload_n dX8_joinLabel_18 rfl rfl k_) ?_
  refine zm_getr 76 dX8_joinLabel_19 fsX8_259_1 rfl ?_
  refine Zm.l (fun _ _ k_ => z_iload_n dX8_joinLabel_22 rfl rfl k_) ?_
  obtain ⟨b_, k⟩ := k
  refine zm_zald dX8_joinLabel_23 b_ (by decide) (by decide) ?_
  refine Zm.br (fun _ _ k1_ k2_ => z_if_eq (tgt := 40) dX8_joinLabel_24 rfl k1_ k2_) (fun h_ => ?_) (fun h_ => ?_)
  · have k := zit h_ k
    refine Zm.l (fun _ _ k_ => z_iconst (v := 0) dX8_joinLabel_40 rfl k_) ?_
    exact k
  · have k := zif h_ k
    refine Zm.l (fun _ _ k_ => z_aload_n dX8_joinLabel_27 rfl rfl k_) ?_
    refine zm_getr 76 dX8_joinLabel_28 fsX8_259_1 rfl ?_
    refine Zm.l (fun _ _ k_ => z_iload_n dX8_joinLabel_31 rfl rfl k_) ?_
    obtain ⟨b_, k⟩ := k
    refine zm_zald dX8_joinLabel_32 b_ (by decide) (by decide) ?_
    refine Zm.brn (fun _ _ k1_ k2_ => z_if_ne (tgt := 40) dX8_joinLabel_33 rfl k1_ k2_) (fun h_ => ?_) (fun h_ => ?_)
    · have k := zif h_ k
      refine Zm.l (fun _ _ k_ => z_iconst (v := 0) dX8_joinLabel_40 rfl k_) ?_
      exact k
    · have k := zit h_ k
      refine Zm.l (fun _ _ k_ => z_iconst (v := 1) dX8_joinLabel_36 rfl k_) ?_
      refine Zm.l (fun _ _ k_ => z_goto (tgt := 41) dX8_joinLabel_37 rfl k_) ?_
      exact k
theorem sX8_joinLabel_41 {E : zE} {d : Nat} {Q : zO → zM → Prop} (M : zM) (l1 : Int32) (l2 : Int32) (s0 : Int32) (k : if s0 = 0 then (vp_in l1 15128 ∧ (vp_in l2 15128 ∧ (if (lg_cmp ((gl M 180 (l1).toNatClampNeg) &&& ((gl M 180 (l2).toNatClampNeg) ^^^ (-1 : Int64))) (0 : Int64)) = 0 then (vp_in l1 15128 ∧ (vp_in l2 15128 ∧ (if (lg_cmp ((gl M 181 (l1).toNatClampNeg) &&& ((gl M 181 (l2).toNatClampNeg) ^^^ (-1 : Int64))) (0 : Int64)) = 0 then (Zm E YX8_joinLabel d M [(0, vr (some (97, 1, 0))), (1, vi l1), (2, vi l2)] 95 [vi (0 : Int32)] Q) else (Zm E YX8_joinLabel d M [(0, vr (some (97, 1, 0))), (1, vi l1), (2, vi l2)] 95 [vi (1 : Int32)] Q)))) else (Zm E YX8_joinLabel d M [(0, vr (some (97, 1, 0))), (1, vi l1), (2, vi l2)] 95 [vi (1 : Int32)] Q)))) else (Zm E YX8_joinLabel d M [(0, vr (some (97, 1, 0))), (1, vi l1), (2, vi l2)] 95 [vi (1 : Int32)] Q)) : Zm E YX8_joinLabel d M [(0, vr (some (97, 1, 0))), (1, vi l1), (2, vi l2)] 41 [vi s0] Q := by
  refine Zm.l (fun _ _ k_ => z_ist_n dX8_joinLabel_41 rfl (by decide) (lv' := [(0, vr (some (97, 1, 0))), (1, vi l1), (2, vi l2), (3, vi s0)]) rfl k_) ?_
  refine Zm.l (fun _ _ k_ => z_iload_n dX8_joinLabel_42 rfl rfl k_) ?_
  refine Zm.brn (fun _ _ k1_ k2_ => z_if_ne (tgt := 90) dX8_joinLabel_43 rfl k1_ k2_) (fun h_ => ?_) (fun h_ => ?_)
  · have k := zif h_ k
    refine Zm.l (fun _ _ k_ => z_iconst (v := 1) dX8_joinLabel_90 rfl k_) ?_
    refine Zm.l (fun _ _ k_ => z_goto (tgt := 95) dX8_joinLabel_91 rfl k_) ?_
    refine Zm.pick [0, 1, 2] rfl ?_
    exact k
  · have k := zit h_ k
    refine Zm.l (fun _ _ k_ => z_aload_n dX8_joinLabel_46 rfl rfl k_) ?_
    refine zm_getr 77 dX8_joinLabel_47 fsX8_262_1 rfl ?_
    refine Zm.l (fun _ _ k_ => z_iload_n dX8_joinLabel_50 rfl rfl k_) ?_
    obtain ⟨b_, k⟩ := k
    refine zm_lald dX8_joinLabel_51 b_ (by decide) (by decide) ?_
    refine Zm.l (fun _ _ k_ => z_aload_n dX8_joinLabel_52 rfl rfl k_) ?_
    refine zm_getr 77 dX8_joinLabel_53 fsX8_262_1 rfl ?_
    refine Zm.l (fun _ _ k_ => z_iload_n dX8_joinLabel_56 rfl rfl k_) ?_
    obtain ⟨b_, k⟩ := k
    refine zm_lald dX8_joinLabel_57 b_ (by decide) (by decide) ?_
    refine Zm.l (fun _ _ k_ => z_ldc2 (v := -1) dX8_joinLabel_58 q4859 k_) ?_
    refine Zm.l (fun _ _ k_ => z_lxor dX8_joinLabel_61 k_) ?_
    refine Zm.l (fun _ _ k_ => z_land dX8_joinLabel_62 k_) ?_
    refine Zm.l (fun _ _ k_ => z_lconst (v := 0) dX8_joinLabel_63 rfl k_) ?_
    refine Zm.l (fun _ _ k_ => z_lcmp dX8_joinLabel_64 k_) ?_
    refine Zm.brn (fun _ _ k1_ k2_ => z_if_ne (tgt := 90) dX8_joinLabel_65 rfl k1_ k2_) (fun h_ => ?_) (fun h_ => ?_)
    · have k := zif h_ k
      refine Zm.l (fun _ _ k_ => z_iconst (v := 1) dX8_joinLabel_90 rfl k_) ?_
      refine Zm.l (fun _ _ k_ => z_goto (tgt := 95) dX8_joinLabel_91 rfl k_) ?_
      refine Zm.pick [0, 1, 2] rfl ?_
      exact k
    · have k := zit h_ k
      refine Zm.l (fun _ _ k_ => z_aload_n dX8_joinLabel_68 rfl rfl k_) ?_
      refine zm_getr 78 dX8_joinLabel_69 fsX8_265_1 rfl ?_
      refine Zm.l (fun _ _ k_ => z_iload_n dX8_joinLabel_72 rfl rfl k_) ?_
      obtain ⟨b_, k⟩ := k
      refine zm_lald dX8_joinLabel_73 b_ (by decide) (by decide) ?_
      refine Zm.l (fun _ _ k_ => z_aload_n dX8_joinLabel_74 rfl rfl k_) ?_
      refine zm_getr 78 dX8_joinLabel_75 fsX8_265_1 rfl ?_
      refine Zm.l (fun _ _ k_ => z_iload_n dX8_joinLabel_78 rfl rfl k_) ?_
      obtain ⟨b_, k⟩ := k
      refine zm_lald dX8_joinLabel_79 b_ (by decide) (by decide) ?_
      refine Zm.l (fun _ _ k_ => z_ldc2 (v := -1) dX8_joinLabel_80 q4859 k_) ?_
      refine Zm.l (fun _ _ k_ => z_lxor dX8_joinLabel_83 k_) ?_
      refine Zm.l (fun _ _ k_ => z_land dX8_joinLabel_84 k_) ?_
      refine Zm.l (fun _ _ k_ => z_lconst (v := 0) dX8_joinLabel_85 rfl k_) ?_
      refine Zm.l (fun _ _ k_ => z_lcmp dX8_joinLabel_86 k_) ?_
      refine Zm.br (fun _ _ k1_ k2_ => z_if_eq (tgt := 94) dX8_joinLabel_87 rfl k1_ k2_) (fun h_ => ?_) (fun h_ => ?_)
      · have k := zit h_ k
        refine Zm.l (fun _ _ k_ => z_iconst (v := 0) dX8_joinLabel_94 rfl k_) ?_
        refine Zm.pick [0, 1, 2] rfl ?_
        exact k
      · have k := zif h_ k
        refine Zm.l (fun _ _ k_ => z_iconst (v := 1) dX8_joinLabel_90 rfl k_) ?_
        refine Zm.l (fun _ _ k_ => z_goto (tgt := 95) dX8_joinLabel_91 rfl k_) ?_
        refine Zm.pick [0, 1, 2] rfl ?_
        exact k
theorem sX8_joinLabel_95 {E : zE} {d : Nat} {Q : zO → zM → Prop} (M : zM) (l1 : Int32) (l2 : Int32) (s0 : Int32) (k : if s0 = 0 then (vp_in l1 15128 ∧ (vp_in l2 15128 ∧ (if (lg_cmp ((gl M 182 (l1).toNatClampNeg) &&& ((gl M 182 (l2).toNatClampNeg) ^^^ (-1 : Int64))) (0 : Int64)) = 0 then (vp_in l1 15128 ∧ (vp_in l2 15128 ∧ (if (lg_cmp ((gl M 183 (l1).toNatClampNeg) &&& ((gl M 183 (l2).toNatClampNeg) ^^^ (-1 : Int64))) (0 : Int64)) = 0 then (Zm E YX8_joinLabel d M [(0, vr (some (97, 1, 0))), (1, vi l1), (2, vi l2)] 149 [vi (0 : Int32)] Q) else (Zm E YX8_joinLabel d M [(0, vr (some (97, 1, 0))), (1, vi l1), (2, vi l2)] 149 [vi (1 : Int32)] Q)))) else (Zm E YX8_joinLabel d M [(0, vr (some (97, 1, 0))), (1, vi l1), (2, vi l2)] 149 [vi (1 : Int32)] Q)))) else (Zm E YX8_joinLabel d M [(0, vr (some (97, 1, 0))), (1, vi l1), (2, vi l2)] 149 [vi (1 : Int32)] Q)) : Zm E YX8_joinLabel d M [(0, vr (some (97, 1, 0))), (1, vi l1), (2, vi l2)] 95 [vi s0] Q := by
  refine Zm.l (fun _ _ k_ => z_ist_n dX8_joinLabel_95 rfl (by decide) (lv' := [(0, vr (some (97, 1, 0))), (1, vi l1), (2, vi l2), (3, vi s0)]) rfl k_) ?_
  refine Zm.l (fun _ _ k_ => z_iload_n dX8_joinLabel_96 rfl rfl k_) ?_
  refine Zm.brn (fun _ _ k1_ k2_ => z_if_ne (tgt := 144) dX8_joinLabel_97 rfl k1_ k2_) (fun h_ => ?_) (fun h_ => ?_)
  · have k := zif h_ k
    refine Zm.l (fun _ _ k_ => z_iconst (v := 1) dX8_joinLabel_144 rfl k_) ?_
    refine Zm.l (fun _ _ k_ => z_goto (tgt := 149) dX8_joinLabel_145 rfl k_) ?_
    refine Zm.pick [0, 1, 2] rfl ?_
    exact k
  · have k := zit h_ k
    refine Zm.l (fun _ _ k_ => z_aload_n dX8_joinLabel_100 rfl rfl k_) ?_
    refine zm_getr 79 dX8_joinLabel_101 fsX8_268_1 rfl ?_
    refine Zm.l (fun _ _ k_ => z_iload_n dX8_joinLabel_104 rfl rfl k_) ?_
    obtain ⟨b_, k⟩ := k
    refine zm_lald dX8_joinLabel_105 b_ (by decide) (by decide) ?_
    refine Zm.l (fun _ _ k_ => z_aload_n dX8_joinLabel_106 rfl rfl k_) ?_
    refine zm_getr 79 dX8_joinLabel_107 fsX8_268_1 rfl ?_
    refine Zm.l (fun _ _ k_ => z_iload_n dX8_joinLabel_110 rfl rfl k_) ?_
    obtain ⟨b_, k⟩ := k
    refine zm_lald dX8_joinLabel_111 b_ (by decide) (by decide) ?_
    refine Zm.l (fun _ _ k_ => z_ldc2 (v := -1) dX8_joinLabel_112 q4859 k_) ?_
    refine Zm.l (fun _ _ k_ => z_lxor dX8_joinLabel_115 k_) ?_
    refine Zm.l (fun _ _ k_ => z_land dX8_joinLabel_116 k_) ?_
    refine Zm.l (fun _ _ k_ => z_lconst (v := 0) dX8_joinLabel_117 rfl k_) ?_
    refine Zm.l (fun _ _ k_ => z_lcmp dX8_joinLabel_118 k_) ?_
    refine Zm.brn (fun _ _ k1_ k2_ => z_if_ne (tgt := 144) dX8_joinLabel_119 rfl k1_ k2_) (fun h_ => ?_) (fun h_ => ?_)
    · have k := zif h_ k
      refine Zm.l (fun _ _ k_ => z_iconst (v := 1) dX8_joinLabel_144 rfl k_) ?_
      refine Zm.l (fun _ _ k_ => z_goto (tgt := 149) dX8_joinLabel_145 rfl k_) ?_
      refine Zm.pick [0, 1, 2] rfl ?_
      exact k
    · have k := zit h_ k
      refine Zm.l (fun _ _ k_ => z_aload_n dX8_joinLabel_122 rfl rfl k_) ?_
      refine zm_getr 80 dX8_joinLabel_123 fsX8_271_1 rfl ?_
      refine Zm.l (fun _ _ k_ => z_iload_n dX8_joinLabel_126 rfl rfl k_) ?_
      obtain ⟨b_, k⟩ := k
      refine zm_lald dX8_joinLabel_127 b_ (by decide) (by decide) ?_
      refine Zm.l (fun _ _ k_ => z_aload_n dX8_joinLabel_128 rfl rfl k_) ?_
      refine zm_getr 80 dX8_joinLabel_129 fsX8_271_1 rfl ?_
      refine Zm.l (fun _ _ k_ => z_iload_n dX8_joinLabel_132 rfl rfl k_) ?_
      obtain ⟨b_, k⟩ := k
      refine zm_lald dX8_joinLabel_133 b_ (by decide) (by decide) ?_
      refine Zm.l (fun _ _ k_ => z_ldc2 (v := -1) dX8_joinLabel_134 q4859 k_) ?_
      refine Zm.l (fun _ _ k_ => z_lxor dX8_joinLabel_137 k_) ?_
      refine Zm.l (fun _ _ k_ => z_land dX8_joinLabel_138 k_) ?_
      refine Zm.l (fun _ _ k_ => z_lconst (v := 0) dX8_joinLabel_139 rfl k_) ?_
      refine Zm.l (fun _ _ k_ => z_lcmp dX8_joinLabel_140 k_) ?_
      refine Zm.br (fun _ _ k1_ k2_ => z_if_eq (tgt := 148) dX8_joinLabel_141 rfl k1_ k2_) (fun h_ => ?_) (fun h_ => ?_)
      · have k := zit h_ k
        refine Zm.l (fun _ _ k_ => z_iconst (v := 0) dX8_joinLabel_148 rfl k_) ?_
        refine Zm.pick [0, 1, 2] rfl ?_
        exact k
      · have k := zif h_ k
        refine Zm.l (fun _ _ k_ => z_iconst (v := 1) dX8_joinLabel_144 rfl k_) ?_
        refine Zm.l (fun _ _ k_ => z_goto (tgt := 149) dX8_joinLabel_145 rfl k_) ?_
        refine Zm.pick [0, 1, 2] rfl ?_
        exact k
theorem sX8_joinLabel_149 {E : zE} {d : Nat} {Q : zO → zM → Prop} (M : zM) (l1 : Int32) (l2 : Int32) (s0 : Int32) (k : vp_in l2 15128 ∧ (if (gi M 178 (l2).toNatClampNeg) = 0 then (vp_in l1 15128 ∧ (if (gi M 178 (l1).toNatClampNeg) = 0 then (Zm E YX8_joinLabel d M [(0, vr (some (97, 1, 0))), (1, vi l1), (2, vi l2), (3, vi s0)] 178 [vi (0 : Int32), vi l2, vr (some (178, 104, 15128))] Q) else (Zm E YX8_joinLabel d M [(0, vr (some (97, 1, 0))), (1, vi l1), (2, vi l2), (3, vi s0)] 178 [vi (1 : Int32), vi l2, vr (some (178, 104, 15128))] Q))) else (Zm E YX8_joinLabel d M [(0, vr (some (97, 1, 0))), (1, vi l1), (2, vi l2), (3, vi s0)] 178 [vi (1 : Int32), vi l2, vr (some (178, 104, 15128))] Q))) : Zm E YX8_joinLabel d M [(0, vr (some (97, 1, 0))), (1, vi l1), (2, vi l2)] 149 [vi s0] Q := by
  refine Zm.l (fun _ _ k_ => z_ist_n dX8_joinLabel_149 rfl (by decide) (lv' := [(0, vr (some (97, 1, 0))), (1, vi l1), (2, vi l2), (3, vi s0)]) rfl k_) ?_
  refine Zm.l (fun _ _ k_ => z_aload_n dX8_joinLabel_150 rfl rfl k_) ?_
  refine zm_getr 75 dX8_joinLabel_151 fsX8_256_1 rfl ?_
  refine Zm.l (fun _ _ k_ => z_iload_n dX8_joinLabel_154 rfl rfl k_) ?_
  refine Zm.l (fun _ _ k_ => z_aload_n dX8_joinLabel_155 rfl rfl k_) ?_
  refine zm_getr 75 dX8_joinLabel_156 fsX8_256_1 rfl ?_
  refine Zm.l (fun _ _ k_ => z_iload_n dX8_joinLabel_159 rfl rfl k_) ?_
  obtain ⟨b_, k⟩ := k
  refine zm_zald dX8_joinLabel_160 b_ (by decide) (by decide) ?_
  refine Zm.brn (fun _ _ k1_ k2_ => z_if_ne (tgt := 173) dX8_joinLabel_161 rfl k1_ k2_) (fun h_ => ?_) (fun h_ => ?_)
  · have k := zif h_ k
    refine Zm.l (fun _ _ k_ => z_iconst (v := 1) dX8_joinLabel_173 rfl k_) ?_
    refine Zm.l (fun _ _ k_ => z_goto (tgt := 178) dX8_joinLabel_174 rfl k_) ?_
    exact k
  · have k := zit h_ k
    refine Zm.l (fun _ _ k_ => z_aload_n dX8_joinLabel_164 rfl rfl k_) ?_
    refine zm_getr 75 dX8_joinLabel_165 fsX8_256_1 rfl ?_
    refine Zm.l (fun _ _ k_ => z_iload_n dX8_joinLabel_168 rfl rfl k_) ?_
    obtain ⟨b_, k⟩ := k
    refine zm_zald dX8_joinLabel_169 b_ (by decide) (by decide) ?_
    refine Zm.br (fun _ _ k1_ k2_ => z_if_eq (tgt := 177) dX8_joinLabel_170 rfl k1_ k2_) (fun h_ => ?_) (fun h_ => ?_)
    · have k := zit h_ k
      refine Zm.l (fun _ _ k_ => z_iconst (v := 0) dX8_joinLabel_177 rfl k_) ?_
      exact k
    · have k := zif h_ k
      refine Zm.l (fun _ _ k_ => z_iconst (v := 1) dX8_joinLabel_173 rfl k_) ?_
      refine Zm.l (fun _ _ k_ => z_goto (tgt := 178) dX8_joinLabel_174 rfl k_) ?_
      exact k
theorem sX8_joinLabel_178 {E : zE} {d : Nat} {Q : zO → zM → Prop} (M : zM) (l1 : Int32) (l2 : Int32) (l3 : Int32) (s0 : Int32) (s1 : Int32) (k : vp_in s1 15128 ∧ (vp_in l2 15128 ∧ (if (gi M 179 (l2).toNatClampNeg) = 0 then (vp_in l1 15128 ∧ (if (gi M 179 (l1).toNatClampNeg) = 0 then (Zm E YX8_joinLabel d (si M 178 (s1).toNatClampNeg (vp_nar .boolean s0)) [(0, vr (some (97, 1, 0))), (1, vi l1), (2, vi l2), (3, vi l3)] 207 [vi (0 : Int32), vi l2, vr (some (179, 104, 15128))] Q) else (Zm E YX8_joinLabel d (si M 178 (s1).toNatClampNeg (vp_nar .boolean s0)) [(0, vr (some (97, 1, 0))), (1, vi l1), (2, vi l2), (3, vi l3)] 207 [vi (1 : Int32), vi l2, vr (some (179, 104, 15128))] Q))) else (Zm E YX8_joinLabel d (si M 178 (s1).toNatClampNeg (vp_nar .boolean s0)) [(0, vr (some (97, 1, 0))), (1, vi l1), (2, vi l2), (3, vi l3)] 207 [vi (1 : Int32), vi l2, vr (some (179, 104, 15128))] Q)))) : Zm E YX8_joinLabel d M [(0, vr (some (97, 1, 0))), (1, vi l1), (2, vi l2), (3, vi l3)] 178 [vi s0, vi s1, vr (some (178, 104, 15128))] Q := by
  obtain ⟨b_, k⟩ := k
  refine zm_zast dX8_joinLabel_178 b_ (by decide) (by decide) ?_
  refine Zm.l (fun _ _ k_ => z_aload_n dX8_joinLabel_179 rfl rfl k_) ?_
  refine zm_getr 76 dX8_joinLabel_180 fsX8_259_1 rfl ?_
  refine Zm.l (fun _ _ k_ => z_iload_n dX8_joinLabel_183 rfl rfl k_) ?_
  refine Zm.l (fun _ _ k_ => z_aload_n dX8_joinLabel_184 rfl rfl k_) ?_
  refine zm_getr 76 dX8_joinLabel_185 fsX8_259_1 rfl ?_
  refine Zm.l (fun _ _ k_ => z_iload_n dX8_joinLabel_188 rfl rfl k_) ?_
  obtain ⟨b_, k⟩ := k
  refine zm_zald dX8_joinLabel_189 b_ (by decide) (by decide) ?_
  refine Zm.brn (fun _ _ k1_ k2_ => z_if_ne (tgt := 202) dX8_joinLabel_190 rfl k1_ k2_) (fun h_ => ?_) (fun h_ => ?_)
  · have k := zif h_ k
    refine Zm.l (fun _ _ k_ => z_iconst (v := 1) dX8_joinLabel_202 rfl k_) ?_
    refine Zm.l (fun _ _ k_ => z_goto (tgt := 207) dX8_joinLabel_203 rfl k_) ?_
    exact k
  · have k := zit h_ k
    refine Zm.l (fun _ _ k_ => z_aload_n dX8_joinLabel_193 rfl rfl k_) ?_
    refine zm_getr 76 dX8_joinLabel_194 fsX8_259_1 rfl ?_
    refine Zm.l (fun _ _ k_ => z_iload_n dX8_joinLabel_197 rfl rfl k_) ?_
    obtain ⟨b_, k⟩ := k
    refine zm_zald dX8_joinLabel_198 b_ (by decide) (by decide) ?_
    refine Zm.br (fun _ _ k1_ k2_ => z_if_eq (tgt := 206) dX8_joinLabel_199 rfl k1_ k2_) (fun h_ => ?_) (fun h_ => ?_)
    · have k := zit h_ k
      refine Zm.l (fun _ _ k_ => z_iconst (v := 0) dX8_joinLabel_206 rfl k_) ?_
      exact k
    · have k := zif h_ k
      refine Zm.l (fun _ _ k_ => z_iconst (v := 1) dX8_joinLabel_202 rfl k_) ?_
      refine Zm.l (fun _ _ k_ => z_goto (tgt := 207) dX8_joinLabel_203 rfl k_) ?_
      exact k
theorem sX8_joinLabel_207 {E : zE} {d : Nat} {Q : zO → zM → Prop} (M : zM) (l1 : Int32) (l2 : Int32) (l3 : Int32) (s0 : Int32) (s1 : Int32) (k : vp_in s1 15128 ∧ (vp_in l2 15128 ∧ (vp_in l1 15128 ∧ (vp_in l2 15128 ∧ (vp_in l2 15128 ∧ (vp_in l1 15128 ∧ (vp_in l2 15128 ∧ (vp_in l2 15128 ∧ (vp_in l1 15128 ∧ (vp_in l2 15128 ∧ (vp_in l2 15128 ∧ (vp_in l1 15128 ∧ (vp_in l2 15128 ∧ ((narrow .boolean (.int l3) = .int l3) ∧ Q (.inl (some (vi l3))) (sl (sl (sl (sl (si M 179 (s1).toNatClampNeg (vp_nar .boolean s0)) 180 (l2).toNatClampNeg ((gl M 180 (l2).toNatClampNeg) ||| (gl M 180 (l1).toNatClampNeg))) 181 (l2).toNatClampNeg ((gl M 181 (l2).toNatClampNeg) ||| (gl M 181 (l1).toNatClampNeg))) 182 (l2).toNatClampNeg ((gl M 182 (l2).toNatClampNeg) ||| (gl M 182 (l1).toNatClampNeg))) 183 (l2).toNatClampNeg ((gl M 183 (l2).toNatClampNeg) ||| (gl M 183 (l1).toNatClampNeg))))))))))))))))) : Zm E YX8_joinLabel d M [(0, vr (some (97, 1, 0))), (1, vi l1), (2, vi l2), (3, vi l3)] 207 [vi s0, vi s1, vr (some (179, 104, 15128))] Q := by
  obtain ⟨b_, k⟩ := k
  refine zm_zast dX8_joinLabel_207 b_ (by decide) (by decide) ?_
  refine Zm.l (fun _ _ k_ => z_aload_n dX8_joinLabel_208 rfl rfl k_) ?_
  refine zm_getr 77 dX8_joinLabel_209 fsX8_262_1 rfl ?_
  refine Zm.l (fun _ _ k_ => z_iload_n dX8_joinLabel_212 rfl rfl k_) ?_
  refine Zm.l (fun _ _ k_ => z_aload_n dX8_joinLabel_213 rfl rfl k_) ?_
  refine zm_getr 77 dX8_joinLabel_214 fsX8_262_1 rfl ?_
  refine Zm.l (fun _ _ k_ => z_iload_n dX8_joinLabel_217 rfl rfl k_) ?_
  obtain ⟨b_, k⟩ := k
  refine zm_lald dX8_joinLabel_218 b_ (by decide) (by decide) ?_
  refine Zm.l (fun _ _ k_ => z_aload_n dX8_joinLabel_219 rfl rfl k_) ?_
  refine zm_getr 77 dX8_joinLabel_220 fsX8_262_1 rfl ?_
  refine Zm.l (fun _ _ k_ => z_iload_n dX8_joinLabel_223 rfl rfl k_) ?_
  obtain ⟨b_, k⟩ := k
  refine zm_lald dX8_joinLabel_224 b_ (by decide) (by decide) ?_
  refine Zm.l (fun _ _ k_ => z_lor dX8_joinLabel_225 k_) ?_
  obtain ⟨b_, k⟩ := k
  refine zm_last dX8_joinLabel_226 b_ (by decide) (by decide) ?_
  refine Zm.l (fun _ _ k_ => z_aload_n dX8_joinLabel_227 rfl rfl k_) ?_
  refine zm_getr 78 dX8_joinLabel_228 fsX8_265_1 rfl ?_
  refine Zm.l (fun _ _ k_ => z_iload_n dX8_joinLabel_231 rfl rfl k_) ?_
  refine Zm.l (fun _ _ k_ => z_aload_n dX8_joinLabel_232 rfl rfl k_) ?_
  refine zm_getr 78 dX8_joinLabel_233 fsX8_265_1 rfl ?_
  refine Zm.l (fun _ _ k_ => z_iload_n dX8_joinLabel_236 rfl rfl k_) ?_
  obtain ⟨b_, k⟩ := k
  refine zm_lald dX8_joinLabel_237 b_ (by decide) (by decide) ?_
  refine Zm.l (fun _ _ k_ => z_aload_n dX8_joinLabel_238 rfl rfl k_) ?_
  refine zm_getr 78 dX8_joinLabel_239 fsX8_265_1 rfl ?_
  refine Zm.l (fun _ _ k_ => z_iload_n dX8_joinLabel_242 rfl rfl k_) ?_
  obtain ⟨b_, k⟩ := k
  refine zm_lald dX8_joinLabel_243 b_ (by decide) (by decide) ?_
  refine Zm.l (fun _ _ k_ => z_lor dX8_joinLabel_244 k_) ?_
  obtain ⟨b_, k⟩ := k
  refine zm_last dX8_joinLabel_245 b_ (by decide) (by decide) ?_
  refine Zm.l (fun _ _ k_ => z_aload_n dX8_joinLabel_246 rfl rfl k_) ?_
  refine zm_getr 79 dX8_joinLabel_247 fsX8_268_1 rfl ?_
  refine Zm.l (fun _ _ k_ => z_iload_n dX8_joinLabel_250 rfl rfl k_) ?_
  refine Zm.l (fun _ _ k_ => z_aload_n dX8_joinLabel_251 rfl rfl k_) ?_
  refine zm_getr 79 dX8_joinLabel_252 fsX8_268_1 rfl ?_
  refine Zm.l (fun _ _ k_ => z_iload_n dX8_joinLabel_255 rfl rfl k_) ?_
  obtain ⟨b_, k⟩ := k
  refine zm_lald dX8_joinLabel_256 b_ (by decide) (by decide) ?_
  refine Zm.l (fun _ _ k_ => z_aload_n dX8_joinLabel_257 rfl rfl k_) ?_
  refine zm_getr 79 dX8_joinLabel_258 fsX8_268_1 rfl ?_
  refine Zm.l (fun _ _ k_ => z_iload_n dX8_joinLabel_261 rfl rfl k_) ?_
  obtain ⟨b_, k⟩ := k
  refine zm_lald dX8_joinLabel_262 b_ (by decide) (by decide) ?_
  refine Zm.l (fun _ _ k_ => z_lor dX8_joinLabel_263 k_) ?_
  obtain ⟨b_, k⟩ := k
  refine zm_last dX8_joinLabel_264 b_ (by decide) (by decide) ?_
  refine Zm.l (fun _ _ k_ => z_aload_n dX8_joinLabel_265 rfl rfl k_) ?_
  refine zm_getr 80 dX8_joinLabel_266 fsX8_271_1 rfl ?_
  refine Zm.l (fun _ _ k_ => z_iload_n dX8_joinLabel_269 rfl rfl k_) ?_
  refine Zm.l (fun _ _ k_ => z_aload_n dX8_joinLabel_270 rfl rfl k_) ?_
  refine zm_getr 80 dX8_joinLabel_271 fsX8_271_1 rfl ?_
  refine Zm.l (fun _ _ k_ => z_iload_n dX8_joinLabel_274 rfl rfl k_) ?_
  obtain ⟨b_, k⟩ := k
  refine zm_lald dX8_joinLabel_275 b_ (by decide) (by decide) ?_
  refine Zm.l (fun _ _ k_ => z_aload_n dX8_joinLabel_276 rfl rfl k_) ?_
  refine zm_getr 80 dX8_joinLabel_277 fsX8_271_1 rfl ?_
  refine Zm.l (fun _ _ k_ => z_iload_n dX8_joinLabel_280 rfl rfl k_) ?_
  obtain ⟨b_, k⟩ := k
  refine zm_lald dX8_joinLabel_281 b_ (by decide) (by decide) ?_
  refine Zm.l (fun _ _ k_ => z_lor dX8_joinLabel_282 k_) ?_
  obtain ⟨b_, k⟩ := k
  refine zm_last dX8_joinLabel_283 b_ (by decide) (by decide) ?_
  refine Zm.l (fun _ _ k_ => z_iload_n dX8_joinLabel_284 rfl rfl k_) ?_
  exact zm_iret dX8_joinLabel_285 rfl k.1 k.2
/-! ScriptTypesModel.ways(I)V -/
theorem bX8_ways_0 : zdec cX8_ways 0 [(0, .aload_n 0, 1), (1, .iload_n 1, 1), (2, .putfield 1188, 3), (5, .aload_n 0, 1), (6, .iconst 0, 1), (7, .putfield 1208, 3), (10, .aload_n 0, 1), (11, .iconst 0, 1), (12, .putfield 1185, 3), (15, .aload_n 0, 1), (16, .iconst 0, 1), (17, .putfield 1178, 3), (20, .aload_n 0, 1), (21, .iload_n 1, 1), (22, .invokevirtual 1211, 3), (25, .aload_n 0, 1)] = true := by decide +kernel
theorem dX8_ways_0 : decode cX8_ways 0 = .ok (.aload_n 0, 1) := zdec_at bX8_ways_0 0 rfl
theorem dX8_ways_1 : decode cX8_ways 1 = .ok (.iload_n 1, 1) := zdec_at bX8_ways_0 1 rfl
theorem dX8_ways_2 : decode cX8_ways 2 = .ok (.putfield 1188, 3) := zdec_at bX8_ways_0 2 rfl
theorem dX8_ways_5 : decode cX8_ways 5 = .ok (.aload_n 0, 1) := zdec_at bX8_ways_0 3 rfl
theorem dX8_ways_6 : decode cX8_ways 6 = .ok (.iconst 0, 1) := zdec_at bX8_ways_0 4 rfl
theorem dX8_ways_7 : decode cX8_ways 7 = .ok (.putfield 1208, 3) := zdec_at bX8_ways_0 5 rfl
theorem dX8_ways_10 : decode cX8_ways 10 = .ok (.aload_n 0, 1) := zdec_at bX8_ways_0 6 rfl
theorem dX8_ways_11 : decode cX8_ways 11 = .ok (.iconst 0, 1) := zdec_at bX8_ways_0 7 rfl
theorem dX8_ways_12 : decode cX8_ways 12 = .ok (.putfield 1185, 3) := zdec_at bX8_ways_0 8 rfl
theorem dX8_ways_15 : decode cX8_ways 15 = .ok (.aload_n 0, 1) := zdec_at bX8_ways_0 9 rfl
theorem dX8_ways_16 : decode cX8_ways 16 = .ok (.iconst 0, 1) := zdec_at bX8_ways_0 10 rfl
theorem dX8_ways_17 : decode cX8_ways 17 = .ok (.putfield 1178, 3) := zdec_at bX8_ways_0 11 rfl
theorem dX8_ways_20 : decode cX8_ways 20 = .ok (.aload_n 0, 1) := zdec_at bX8_ways_0 12 rfl
theorem dX8_ways_21 : decode cX8_ways 21 = .ok (.iload_n 1, 1) := zdec_at bX8_ways_0 13 rfl
theorem dX8_ways_22 : decode cX8_ways 22 = .ok (.invokevirtual 1211, 3) := zdec_at bX8_ways_0 14 rfl
theorem dX8_ways_25 : decode cX8_ways 25 = .ok (.aload_n 0, 1) := zdec_at bX8_ways_0 15 rfl
theorem bX8_ways_26 : zdec cX8_ways 26 [(26, .getfield 92, 3), (29, .iload_n 1, 1), (30, .iaload, 1), (31, .istore_n 2, 1), (32, .aload_n 0, 1), (33, .getfield 95, 3), (36, .iload_n 1, 1), (37, .iaload, 1), (38, .istore_n 3, 1), (39, .ldc_w 1218, 3), (42, .istore 4, 2), (44, .aload_n 0, 1), (45, .getfield 89, 3), (48, .iload_n 1, 1), (49, .iaload, 1)] = true := by decide +kernel
theorem dX8_ways_26 : decode cX8_ways 26 = .ok (.getfield 92, 3) := zdec_at bX8_ways_26 0 rfl
theorem dX8_ways_29 : decode cX8_ways 29 = .ok (.iload_n 1, 1) := zdec_at bX8_ways_26 1 rfl
theorem dX8_ways_30 : decode cX8_ways 30 = .ok (.iaload, 1) := zdec_at bX8_ways_26 2 rfl
theorem dX8_ways_31 : decode cX8_ways 31 = .ok (.istore_n 2, 1) := zdec_at bX8_ways_26 3 rfl
theorem dX8_ways_32 : decode cX8_ways 32 = .ok (.aload_n 0, 1) := zdec_at bX8_ways_26 4 rfl
theorem dX8_ways_33 : decode cX8_ways 33 = .ok (.getfield 95, 3) := zdec_at bX8_ways_26 5 rfl
theorem dX8_ways_36 : decode cX8_ways 36 = .ok (.iload_n 1, 1) := zdec_at bX8_ways_26 6 rfl
theorem dX8_ways_37 : decode cX8_ways 37 = .ok (.iaload, 1) := zdec_at bX8_ways_26 7 rfl
theorem dX8_ways_38 : decode cX8_ways 38 = .ok (.istore_n 3, 1) := zdec_at bX8_ways_26 8 rfl
theorem dX8_ways_39 : decode cX8_ways 39 = .ok (.ldc_w 1218, 3) := zdec_at bX8_ways_26 9 rfl
theorem dX8_ways_42 : decode cX8_ways 42 = .ok (.istore 4, 2) := zdec_at bX8_ways_26 10 rfl
theorem dX8_ways_44 : decode cX8_ways 44 = .ok (.aload_n 0, 1) := zdec_at bX8_ways_26 11 rfl
theorem dX8_ways_45 : decode cX8_ways 45 = .ok (.getfield 89, 3) := zdec_at bX8_ways_26 12 rfl
theorem dX8_ways_48 : decode cX8_ways 48 = .ok (.iload_n 1, 1) := zdec_at bX8_ways_26 13 rfl
theorem dX8_ways_49 : decode cX8_ways 49 = .ok (.iaload, 1) := zdec_at bX8_ways_26 14 rfl
theorem dX8_ways_50 : decode cX8_ways 50 = .ok (.tableswitch 604 0 16 #[82, 113, 225, 273, 296, 273, 325, 347, 347, 416, 536, 543, 550, 557, 579, 587, 595], 82) := by decide +kernel
theorem bX8_ways_132 : zdec cX8_ways 132 [(132, .aload_n 0, 1), (133, .iload 4, 2), (135, .invokevirtual 1066, 3), (138, .aload_n 0, 1), (139, .iload 4, 2), (141, .iload_n 2, 1), (142, .iload_n 3, 1), (143, .invokevirtual 1219, 3), (146, .aload_n 0, 1), (147, .iload 4, 2), (149, .aload_n 0, 1), (150, .invokevirtual 1201, 3), (153, .invokevirtual 1092, 3), (156, .aload_n 0, 1), (157, .invokevirtual 1222, 3), (160, .goto 505, 3)] = true := by decide +kernel
theorem dX8_ways_132 : decode cX8_ways 132 = .ok (.aload_n 0, 1) := zdec_at bX8_ways_132 0 rfl
theorem dX8_ways_133 : decode cX8_ways 133 = .ok (.iload 4, 2) := zdec_at bX8_ways_132 1 rfl
theorem dX8_ways_135 : decode cX8_ways 135 = .ok (.invokevirtual 1066, 3) := zdec_at bX8_ways_132 2 rfl
theorem dX8_ways_138 : decode cX8_ways 138 = .ok (.aload_n 0, 1) := zdec_at bX8_ways_132 3 rfl
theorem dX8_ways_139 : decode cX8_ways 139 = .ok (.iload 4, 2) := zdec_at bX8_ways_132 4 rfl
theorem dX8_ways_141 : decode cX8_ways 141 = .ok (.iload_n 2, 1) := zdec_at bX8_ways_132 5 rfl
theorem dX8_ways_142 : decode cX8_ways 142 = .ok (.iload_n 3, 1) := zdec_at bX8_ways_132 6 rfl
theorem dX8_ways_143 : decode cX8_ways 143 = .ok (.invokevirtual 1219, 3) := zdec_at bX8_ways_132 7 rfl
theorem dX8_ways_146 : decode cX8_ways 146 = .ok (.aload_n 0, 1) := zdec_at bX8_ways_132 8 rfl
theorem dX8_ways_147 : decode cX8_ways 147 = .ok (.iload 4, 2) := zdec_at bX8_ways_132 9 rfl
theorem dX8_ways_149 : decode cX8_ways 149 = .ok (.aload_n 0, 1) := zdec_at bX8_ways_132 10 rfl
theorem dX8_ways_150 : decode cX8_ways 150 = .ok (.invokevirtual 1201, 3) := zdec_at bX8_ways_132 11 rfl
theorem dX8_ways_153 : decode cX8_ways 153 = .ok (.invokevirtual 1092, 3) := zdec_at bX8_ways_132 12 rfl
theorem dX8_ways_156 : decode cX8_ways 156 = .ok (.aload_n 0, 1) := zdec_at bX8_ways_132 13 rfl
theorem dX8_ways_157 : decode cX8_ways 157 = .ok (.invokevirtual 1222, 3) := zdec_at bX8_ways_132 14 rfl
theorem dX8_ways_160 : decode cX8_ways 160 = .ok (.goto 505, 3) := zdec_at bX8_ways_132 15 rfl
theorem bX8_ways_163 : zdec cX8_ways 163 [(163, .aload_n 0, 1), (164, .iload_n 2, 1), (165, .iload 4, 2), (167, .invokevirtual 1225, 3), (170, .aload_n 0, 1), (171, .invokevirtual 1135, 3), (174, .aload_n 0, 1), (175, .iload_n 3, 1), (176, .invokevirtual 1138, 3), (179, .aload_n 0, 1), (180, .iload 4, 2), (182, .iconst 1, 1), (183, .iadd, 1), (184, .invokevirtual 1066, 3), (187, .iconst 0, 1), (188, .istore 5, 2)] = true := by decide +kernel
theorem dX8_ways_163 : decode cX8_ways 163 = .ok (.aload_n 0, 1) := zdec_at bX8_ways_163 0 rfl
theorem dX8_ways_164 : decode cX8_ways 164 = .ok (.iload_n 2, 1) := zdec_at bX8_ways_163 1 rfl
theorem dX8_ways_165 : decode cX8_ways 165 = .ok (.iload 4, 2) := zdec_at bX8_ways_163 2 rfl
theorem dX8_ways_167 : decode cX8_ways 167 = .ok (.invokevirtual 1225, 3) := zdec_at bX8_ways_163 3 rfl
theorem dX8_ways_170 : decode cX8_ways 170 = .ok (.aload_n 0, 1) := zdec_at bX8_ways_163 4 rfl
theorem dX8_ways_171 : decode cX8_ways 171 = .ok (.invokevirtual 1135, 3) := zdec_at bX8_ways_163 5 rfl
theorem dX8_ways_174 : decode cX8_ways 174 = .ok (.aload_n 0, 1) := zdec_at bX8_ways_163 6 rfl
theorem dX8_ways_175 : decode cX8_ways 175 = .ok (.iload_n 3, 1) := zdec_at bX8_ways_163 7 rfl
theorem dX8_ways_176 : decode cX8_ways 176 = .ok (.invokevirtual 1138, 3) := zdec_at bX8_ways_163 8 rfl
theorem dX8_ways_179 : decode cX8_ways 179 = .ok (.aload_n 0, 1) := zdec_at bX8_ways_163 9 rfl
theorem dX8_ways_180 : decode cX8_ways 180 = .ok (.iload 4, 2) := zdec_at bX8_ways_163 10 rfl
theorem dX8_ways_182 : decode cX8_ways 182 = .ok (.iconst 1, 1) := zdec_at bX8_ways_163 11 rfl
theorem dX8_ways_183 : decode cX8_ways 183 = .ok (.iadd, 1) := zdec_at bX8_ways_163 12 rfl
theorem dX8_ways_184 : decode cX8_ways 184 = .ok (.invokevirtual 1066, 3) := zdec_at bX8_ways_163 13 rfl
theorem dX8_ways_187 : decode cX8_ways 187 = .ok (.iconst 0, 1) := zdec_at bX8_ways_163 14 rfl
theorem dX8_ways_188 : decode cX8_ways 188 = .ok (.istore 5, 2) := zdec_at bX8_ways_163 15 rfl
theorem bX8_ways_190 : zdec cX8_ways 190 [(190, .iload 5, 2), (192, .aload_n 0, 1), (193, .getfield 765, 3), (196, .if_icmp .ge 49, 3), (199, .aload_n 0, 1), (200, .getfield 220, 3), (203, .iload 4, 2), (205, .laload, 1), (206, .aload_n 0, 1), (207, .getfield 223, 3), (210, .iload 4, 2), (212, .laload, 1), (213, .iload 5, 2), (215, .invokestatic 1125, 3), (218, .ifCond .eq 21, 3), (221, .aload_n 0, 1)] = true := by decide +kernel
theorem dX8_ways_190 : decode cX8_ways 190 = .ok (.iload 5, 2) := zdec_at bX8_ways_190 0 rfl
theorem dX8_ways_192 : decode cX8_ways 192 = .ok (.aload_n 0, 1) := zdec_at bX8_ways_190 1 rfl
theorem dX8_ways_193 : decode cX8_ways 193 = .ok (.getfield 765, 3) := zdec_at bX8_ways_190 2 rfl
theorem dX8_ways_196 : decode cX8_ways 196 = .ok (.if_icmp .ge 49, 3) := zdec_at bX8_ways_190 3 rfl
theorem dX8_ways_199 : decode cX8_ways 199 = .ok (.aload_n 0, 1) := zdec_at bX8_ways_190 4 rfl
theorem dX8_ways_200 : decode cX8_ways 200 = .ok (.getfield 220, 3) := zdec_at bX8_ways_190 5 rfl
theorem dX8_ways_203 : decode cX8_ways 203 = .ok (.iload 4, 2) := zdec_at bX8_ways_190 6 rfl
theorem dX8_ways_205 : decode cX8_ways 205 = .ok (.laload, 1) := zdec_at bX8_ways_190 7 rfl
theorem dX8_ways_206 : decode cX8_ways 206 = .ok (.aload_n 0, 1) := zdec_at bX8_ways_190 8 rfl
theorem dX8_ways_207 : decode cX8_ways 207 = .ok (.getfield 223, 3) := zdec_at bX8_ways_190 9 rfl
theorem dX8_ways_210 : decode cX8_ways 210 = .ok (.iload 4, 2) := zdec_at bX8_ways_190 10 rfl
theorem dX8_ways_212 : decode cX8_ways 212 = .ok (.laload, 1) := zdec_at bX8_ways_190 11 rfl
theorem dX8_ways_213 : decode cX8_ways 213 = .ok (.iload 5, 2) := zdec_at bX8_ways_190 12 rfl
theorem dX8_ways_215 : decode cX8_ways 215 = .ok (.invokestatic 1125, 3) := zdec_at bX8_ways_190 13 rfl
theorem dX8_ways_218 : decode cX8_ways 218 = .ok (.ifCond .eq 21, 3) := zdec_at bX8_ways_190 14 rfl
theorem dX8_ways_221 : decode cX8_ways 221 = .ok (.aload_n 0, 1) := zdec_at bX8_ways_190 15 rfl
theorem bX8_ways_222 : zdec cX8_ways 222 [(222, .aload_n 0, 1), (223, .sipush 639, 3), (226, .iload 5, 2), (228, .iload_n 3, 1), (229, .invokevirtual 1163, 3), (232, .iload 4, 2), (234, .iconst 1, 1), (235, .iadd, 1), (236, .invokevirtual 1228, 3), (239, .iinc 5 1, 3), (242, .goto (-52), 3), (245, .aload_n 0, 1), (246, .iload 4, 2), (248, .iconst 1, 1), (249, .iadd, 1), (250, .aload_n 0, 1)] = true := by decide +kernel
theorem dX8_ways_222 : decode cX8_ways 222 = .ok (.aload_n 0, 1) := zdec_at bX8_ways_222 0 rfl
theorem dX8_ways_223 : decode cX8_ways 223 = .ok (.sipush 639, 3) := zdec_at bX8_ways_222 1 rfl
theorem dX8_ways_226 : decode cX8_ways 226 = .ok (.iload 5, 2) := zdec_at bX8_ways_222 2 rfl
theorem dX8_ways_228 : decode cX8_ways 228 = .ok (.iload_n 3, 1) := zdec_at bX8_ways_222 3 rfl
theorem dX8_ways_229 : decode cX8_ways 229 = .ok (.invokevirtual 1163, 3) := zdec_at bX8_ways_222 4 rfl
theorem dX8_ways_232 : decode cX8_ways 232 = .ok (.iload 4, 2) := zdec_at bX8_ways_222 5 rfl
theorem dX8_ways_234 : decode cX8_ways 234 = .ok (.iconst 1, 1) := zdec_at bX8_ways_222 6 rfl
theorem dX8_ways_235 : decode cX8_ways 235 = .ok (.iadd, 1) := zdec_at bX8_ways_222 7 rfl
theorem dX8_ways_236 : decode cX8_ways 236 = .ok (.invokevirtual 1228, 3) := zdec_at bX8_ways_222 8 rfl
theorem dX8_ways_239 : decode cX8_ways 239 = .ok (.iinc 5 1, 3) := zdec_at bX8_ways_222 9 rfl
theorem dX8_ways_242 : decode cX8_ways 242 = .ok (.goto (-52), 3) := zdec_at bX8_ways_222 10 rfl
theorem dX8_ways_245 : decode cX8_ways 245 = .ok (.aload_n 0, 1) := zdec_at bX8_ways_222 11 rfl
theorem dX8_ways_246 : decode cX8_ways 246 = .ok (.iload 4, 2) := zdec_at bX8_ways_222 12 rfl
theorem dX8_ways_248 : decode cX8_ways 248 = .ok (.iconst 1, 1) := zdec_at bX8_ways_222 13 rfl
theorem dX8_ways_249 : decode cX8_ways 249 = .ok (.iadd, 1) := zdec_at bX8_ways_222 14 rfl
theorem dX8_ways_250 : decode cX8_ways 250 = .ok (.aload_n 0, 1) := zdec_at bX8_ways_222 15 rfl
theorem bX8_ways_251 : zdec cX8_ways 251 [(251, .invokevirtual 1201, 3), (254, .invokevirtual 1092, 3), (257, .aload_n 0, 1), (258, .iload 4, 2), (260, .iconst 1, 1), (261, .iadd, 1), (262, .invokevirtual 1231, 3), (265, .ifCond .ne 400, 3), (268, .aload_n 0, 1), (269, .invokevirtual 1222, 3), (272, .goto 393, 3), (275, .aload_n 0, 1), (276, .iload_n 2, 1), (277, .iload 4, 2), (279, .invokevirtual 1225, 3), (282, .aload_n 0, 1)] = true := by decide +kernel
theorem dX8_ways_251 : decode cX8_ways 251 = .ok (.invokevirtual 1201, 3) := zdec_at bX8_ways_251 0 rfl
theorem dX8_ways_254 : decode cX8_ways 254 = .ok (.invokevirtual 1092, 3) := zdec_at bX8_ways_251 1 rfl
theorem dX8_ways_257 : decode cX8_ways 257 = .ok (.aload_n 0, 1) := zdec_at bX8_ways_251 2 rfl
theorem dX8_ways_258 : decode cX8_ways 258 = .ok (.iload 4, 2) := zdec_at bX8_ways_251 3 rfl
theorem dX8_ways_260 : decode cX8_ways 260 = .ok (.iconst 1, 1) := zdec_at bX8_ways_251 4 rfl
theorem dX8_ways_261 : decode cX8_ways 261 = .ok (.iadd, 1) := zdec_at bX8_ways_251 5 rfl
theorem dX8_ways_262 : decode cX8_ways 262 = .ok (.invokevirtual 1231, 3) := zdec_at bX8_ways_251 6 rfl
theorem dX8_ways_265 : decode cX8_ways 265 = .ok (.ifCond .ne 400, 3) := zdec_at bX8_ways_251 7 rfl
theorem dX8_ways_268 : decode cX8_ways 268 = .ok (.aload_n 0, 1) := zdec_at bX8_ways_251 8 rfl
theorem dX8_ways_269 : decode cX8_ways 269 = .ok (.invokevirtual 1222, 3) := zdec_at bX8_ways_251 9 rfl
theorem dX8_ways_272 : decode cX8_ways 272 = .ok (.goto 393, 3) := zdec_at bX8_ways_251 10 rfl
theorem dX8_ways_275 : decode cX8_ways 275 = .ok (.aload_n 0, 1) := zdec_at bX8_ways_251 11 rfl
theorem dX8_ways_276 : decode cX8_ways 276 = .ok (.iload_n 2, 1) := zdec_at bX8_ways_251 12 rfl
theorem dX8_ways_277 : decode cX8_ways 277 = .ok (.iload 4, 2) := zdec_at bX8_ways_251 13 rfl
theorem dX8_ways_279 : decode cX8_ways 279 = .ok (.invokevirtual 1225, 3) := zdec_at bX8_ways_251 14 rfl
theorem dX8_ways_282 : decode cX8_ways 282 = .ok (.aload_n 0, 1) := zdec_at bX8_ways_251 15 rfl
theorem bX8_ways_283 : zdec cX8_ways 283 [(283, .invokevirtual 1135, 3), (286, .aload_n 0, 1), (287, .iload_n 3, 1), (288, .invokevirtual 1138, 3), (291, .aload_n 0, 1), (292, .aload_n 0, 1), (293, .getfield 220, 3), (296, .iload 4, 2), (298, .laload, 1), (299, .aload_n 0, 1), (300, .getfield 223, 3), (303, .iload 4, 2), (305, .laload, 1), (306, .aload_n 0, 1), (307, .iconst 0, 1), (308, .invokevirtual 1195, 3)] = true := by decide +kernel
theorem dX8_ways_283 : decode cX8_ways 283 = .ok (.invokevirtual 1135, 3) := zdec_at bX8_ways_283 0 rfl
theorem dX8_ways_286 : decode cX8_ways 286 = .ok (.aload_n 0, 1) := zdec_at bX8_ways_283 1 rfl
theorem dX8_ways_287 : decode cX8_ways 287 = .ok (.iload_n 3, 1) := zdec_at bX8_ways_283 2 rfl
theorem dX8_ways_288 : decode cX8_ways 288 = .ok (.invokevirtual 1138, 3) := zdec_at bX8_ways_283 3 rfl
theorem dX8_ways_291 : decode cX8_ways 291 = .ok (.aload_n 0, 1) := zdec_at bX8_ways_283 4 rfl
theorem dX8_ways_292 : decode cX8_ways 292 = .ok (.aload_n 0, 1) := zdec_at bX8_ways_283 5 rfl
theorem dX8_ways_293 : decode cX8_ways 293 = .ok (.getfield 220, 3) := zdec_at bX8_ways_283 6 rfl
theorem dX8_ways_296 : decode cX8_ways 296 = .ok (.iload 4, 2) := zdec_at bX8_ways_283 7 rfl
theorem dX8_ways_298 : decode cX8_ways 298 = .ok (.laload, 1) := zdec_at bX8_ways_283 8 rfl
theorem dX8_ways_299 : decode cX8_ways 299 = .ok (.aload_n 0, 1) := zdec_at bX8_ways_283 9 rfl
theorem dX8_ways_300 : decode cX8_ways 300 = .ok (.getfield 223, 3) := zdec_at bX8_ways_283 10 rfl
theorem dX8_ways_303 : decode cX8_ways 303 = .ok (.iload 4, 2) := zdec_at bX8_ways_283 11 rfl
theorem dX8_ways_305 : decode cX8_ways 305 = .ok (.laload, 1) := zdec_at bX8_ways_283 12 rfl
theorem dX8_ways_306 : decode cX8_ways 306 = .ok (.aload_n 0, 1) := zdec_at bX8_ways_283 13 rfl
theorem dX8_ways_307 : decode cX8_ways 307 = .ok (.iconst 0, 1) := zdec_at bX8_ways_283 14 rfl
theorem dX8_ways_308 : decode cX8_ways 308 = .ok (.invokevirtual 1195, 3) := zdec_at bX8_ways_283 15 rfl
theorem bX8_ways_311 : zdec cX8_ways 311 [(311, .iconst 1, 1), (312, .iconst 0, 1), (313, .invokevirtual 1234, 3), (316, .aload_n 0, 1), (317, .invokevirtual 1222, 3), (320, .goto 345, 3), (323, .aload_n 0, 1), (324, .iload_n 3, 1), (325, .aload_n 0, 1), (326, .getfield 89, 3), (329, .iload_n 1, 1), (330, .iaload, 1), (331, .iconst 3, 1), (332, .if_icmp .ne 7, 3), (335, .iconst 1, 1), (336, .goto 4, 3)] = true := by decide +kernel
theorem dX8_ways_311 : decode cX8_ways 311 = .ok (.iconst 1, 1) := zdec_at bX8_ways_311 0 rfl
theorem dX8_ways_312 : decode cX8_ways 312 = .ok (.iconst 0, 1) := zdec_at bX8_ways_311 1 rfl
theorem dX8_ways_313 : decode cX8_ways 313 = .ok (.invokevirtual 1234, 3) := zdec_at bX8_ways_311 2 rfl
theorem dX8_ways_316 : decode cX8_ways 316 = .ok (.aload_n 0, 1) := zdec_at bX8_ways_311 3 rfl
theorem dX8_ways_317 : decode cX8_ways 317 = .ok (.invokevirtual 1222, 3) := zdec_at bX8_ways_311 4 rfl
theorem dX8_ways_320 : decode cX8_ways 320 = .ok (.goto 345, 3) := zdec_at bX8_ways_311 5 rfl
theorem dX8_ways_323 : decode cX8_ways 323 = .ok (.aload_n 0, 1) := zdec_at bX8_ways_311 6 rfl
theorem dX8_ways_324 : decode cX8_ways 324 = .ok (.iload_n 3, 1) := zdec_at bX8_ways_311 7 rfl
theorem dX8_ways_325 : decode cX8_ways 325 = .ok (.aload_n 0, 1) := zdec_at bX8_ways_311 8 rfl
theorem dX8_ways_326 : decode cX8_ways 326 = .ok (.getfield 89, 3) := zdec_at bX8_ways_311 9 rfl
theorem dX8_ways_329 : decode cX8_ways 329 = .ok (.iload_n 1, 1) := zdec_at bX8_ways_311 10 rfl
theorem dX8_ways_330 : decode cX8_ways 330 = .ok (.iaload, 1) := zdec_at bX8_ways_311 11 rfl
theorem dX8_ways_331 : decode cX8_ways 331 = .ok (.iconst 3, 1) := zdec_at bX8_ways_311 12 rfl
theorem dX8_ways_332 : decode cX8_ways 332 = .ok (.if_icmp .ne 7, 3) := zdec_at bX8_ways_311 13 rfl
theorem dX8_ways_335 : decode cX8_ways 335 = .ok (.iconst 1, 1) := zdec_at bX8_ways_311 14 rfl
theorem dX8_ways_336 : decode cX8_ways 336 = .ok (.goto 4, 3) := zdec_at bX8_ways_311 15 rfl
theorem bX8_ways_339 : zdec cX8_ways 339 [(339, .iconst 0, 1), (340, .invokevirtual 1238, 3), (343, .goto 322, 3), (346, .aload_n 0, 1), (347, .invokevirtual 1135, 3), (350, .aload_n 0, 1), (351, .iload_n 3, 1), (352, .invokevirtual 1138, 3), (355, .aload_n 0, 1), (356, .lconst 1, 1), (357, .lconst 0, 1), (358, .aload_n 0, 1), (359, .iconst 0, 1), (360, .invokevirtual 1195, 3), (363, .iconst 1, 1), (364, .iconst 0, 1)] = true := by decide +kernel
theorem dX8_ways_339 : decode cX8_ways 339 = .ok (.iconst 0, 1) := zdec_at bX8_ways_339 0 rfl
theorem dX8_ways_340 : decode cX8_ways 340 = .ok (.invokevirtual 1238, 3) := zdec_at bX8_ways_339 1 rfl
theorem dX8_ways_343 : decode cX8_ways 343 = .ok (.goto 322, 3) := zdec_at bX8_ways_339 2 rfl
theorem dX8_ways_346 : decode cX8_ways 346 = .ok (.aload_n 0, 1) := zdec_at bX8_ways_339 3 rfl
theorem dX8_ways_347 : decode cX8_ways 347 = .ok (.invokevirtual 1135, 3) := zdec_at bX8_ways_339 4 rfl
theorem dX8_ways_350 : decode cX8_ways 350 = .ok (.aload_n 0, 1) := zdec_at bX8_ways_339 5 rfl
theorem dX8_ways_351 : decode cX8_ways 351 = .ok (.iload_n 3, 1) := zdec_at bX8_ways_339 6 rfl
theorem dX8_ways_352 : decode cX8_ways 352 = .ok (.invokevirtual 1138, 3) := zdec_at bX8_ways_339 7 rfl
theorem dX8_ways_355 : decode cX8_ways 355 = .ok (.aload_n 0, 1) := zdec_at bX8_ways_339 8 rfl
theorem dX8_ways_356 : decode cX8_ways 356 = .ok (.lconst 1, 1) := zdec_at bX8_ways_339 9 rfl
theorem dX8_ways_357 : decode cX8_ways 357 = .ok (.lconst 0, 1) := zdec_at bX8_ways_339 10 rfl
theorem dX8_ways_358 : decode cX8_ways 358 = .ok (.aload_n 0, 1) := zdec_at bX8_ways_339 11 rfl
theorem dX8_ways_359 : decode cX8_ways 359 = .ok (.iconst 0, 1) := zdec_at bX8_ways_339 12 rfl
theorem dX8_ways_360 : decode cX8_ways 360 = .ok (.invokevirtual 1195, 3) := zdec_at bX8_ways_339 13 rfl
theorem dX8_ways_363 : decode cX8_ways 363 = .ok (.iconst 1, 1) := zdec_at bX8_ways_339 14 rfl
theorem dX8_ways_364 : decode cX8_ways 364 = .ok (.iconst 0, 1) := zdec_at bX8_ways_339 15 rfl
theorem bX8_ways_365 : zdec cX8_ways 365 [(365, .invokevirtual 1234, 3), (368, .aload_n 0, 1), (369, .invokevirtual 1222, 3), (372, .goto 293, 3), (375, .aload_n 0, 1), (376, .aload_n 0, 1), (377, .sipush 639, 3), (380, .invokevirtual 1098, 3), (383, .aload_n 0, 1), (384, .invokevirtual 1201, 3), (387, .invokevirtual 1092, 3), (390, .aload_n 0, 1), (391, .invokevirtual 1222, 3), (394, .goto 271, 3), (397, .aload_n 0, 1), (398, .iload_n 2, 1)] = true := by decide +kernel
theorem dX8_ways_365 : decode cX8_ways 365 = .ok (.invokevirtual 1234, 3) := zdec_at bX8_ways_365 0 rfl
theorem dX8_ways_368 : decode cX8_ways 368 = .ok (.aload_n 0, 1) := zdec_at bX8_ways_365 1 rfl
theorem dX8_ways_369 : decode cX8_ways 369 = .ok (.invokevirtual 1222, 3) := zdec_at bX8_ways_365 2 rfl
theorem dX8_ways_372 : decode cX8_ways 372 = .ok (.goto 293, 3) := zdec_at bX8_ways_365 3 rfl
theorem dX8_ways_375 : decode cX8_ways 375 = .ok (.aload_n 0, 1) := zdec_at bX8_ways_365 4 rfl
theorem dX8_ways_376 : decode cX8_ways 376 = .ok (.aload_n 0, 1) := zdec_at bX8_ways_365 5 rfl
theorem dX8_ways_377 : decode cX8_ways 377 = .ok (.sipush 639, 3) := zdec_at bX8_ways_365 6 rfl
theorem dX8_ways_380 : decode cX8_ways 380 = .ok (.invokevirtual 1098, 3) := zdec_at bX8_ways_365 7 rfl
theorem dX8_ways_383 : decode cX8_ways 383 = .ok (.aload_n 0, 1) := zdec_at bX8_ways_365 8 rfl
theorem dX8_ways_384 : decode cX8_ways 384 = .ok (.invokevirtual 1201, 3) := zdec_at bX8_ways_365 9 rfl
theorem dX8_ways_387 : decode cX8_ways 387 = .ok (.invokevirtual 1092, 3) := zdec_at bX8_ways_365 10 rfl
theorem dX8_ways_390 : decode cX8_ways 390 = .ok (.aload_n 0, 1) := zdec_at bX8_ways_365 11 rfl
theorem dX8_ways_391 : decode cX8_ways 391 = .ok (.invokevirtual 1222, 3) := zdec_at bX8_ways_365 12 rfl
theorem dX8_ways_394 : decode cX8_ways 394 = .ok (.goto 271, 3) := zdec_at bX8_ways_365 13 rfl
theorem dX8_ways_397 : decode cX8_ways 397 = .ok (.aload_n 0, 1) := zdec_at bX8_ways_365 14 rfl
theorem dX8_ways_398 : decode cX8_ways 398 = .ok (.iload_n 2, 1) := zdec_at bX8_ways_365 15 rfl
theorem bX8_ways_399 : zdec cX8_ways 399 [(399, .invokevirtual 920, 3), (402, .istore 5, 2), (404, .aload_n 0, 1), (405, .iload 5, 2), (407, .aload_n 0, 1), (408, .getfield 89, 3), (411, .iload_n 1, 1), (412, .iaload, 1), (413, .bipush 7, 2), (415, .if_icmp .ne 7, 3), (418, .iconst 1, 1), (419, .goto 4, 3), (422, .iconst 3, 1), (423, .invokevirtual 1241, 3), (426, .aload_n 0, 1), (427, .getfield 89, 3)] = true := by decide +kernel
theorem dX8_ways_399 : decode cX8_ways 399 = .ok (.invokevirtual 920, 3) := zdec_at bX8_ways_399 0 rfl
theorem dX8_ways_402 : decode cX8_ways 402 = .ok (.istore 5, 2) := zdec_at bX8_ways_399 1 rfl
theorem dX8_ways_404 : decode cX8_ways 404 = .ok (.aload_n 0, 1) := zdec_at bX8_ways_399 2 rfl
theorem dX8_ways_405 : decode cX8_ways 405 = .ok (.iload 5, 2) := zdec_at bX8_ways_399 3 rfl
theorem dX8_ways_407 : decode cX8_ways 407 = .ok (.aload_n 0, 1) := zdec_at bX8_ways_399 4 rfl
theorem dX8_ways_408 : decode cX8_ways 408 = .ok (.getfield 89, 3) := zdec_at bX8_ways_399 5 rfl
theorem dX8_ways_411 : decode cX8_ways 411 = .ok (.iload_n 1, 1) := zdec_at bX8_ways_399 6 rfl
theorem dX8_ways_412 : decode cX8_ways 412 = .ok (.iaload, 1) := zdec_at bX8_ways_399 7 rfl
theorem dX8_ways_413 : decode cX8_ways 413 = .ok (.bipush 7, 2) := zdec_at bX8_ways_399 8 rfl
theorem dX8_ways_415 : decode cX8_ways 415 = .ok (.if_icmp .ne 7, 3) := zdec_at bX8_ways_399 9 rfl
theorem dX8_ways_418 : decode cX8_ways 418 = .ok (.iconst 1, 1) := zdec_at bX8_ways_399 10 rfl
theorem dX8_ways_419 : decode cX8_ways 419 = .ok (.goto 4, 3) := zdec_at bX8_ways_399 11 rfl
theorem dX8_ways_422 : decode cX8_ways 422 = .ok (.iconst 3, 1) := zdec_at bX8_ways_399 12 rfl
theorem dX8_ways_423 : decode cX8_ways 423 = .ok (.invokevirtual 1241, 3) := zdec_at bX8_ways_399 13 rfl
theorem dX8_ways_426 : decode cX8_ways 426 = .ok (.aload_n 0, 1) := zdec_at bX8_ways_399 14 rfl
theorem dX8_ways_427 : decode cX8_ways 427 = .ok (.getfield 89, 3) := zdec_at bX8_ways_399 15 rfl
theorem bX8_ways_430 : zdec cX8_ways 430 [(430, .iload_n 1, 1), (431, .iaload, 1), (432, .bipush 8, 2), (434, .if_icmp .ne 15, 3), (437, .aload_n 0, 1), (438, .aload_n 0, 1), (439, .iload 5, 2), (441, .iconst 0, 1), (442, .invokevirtual 1244, 3), (445, .iconst 0, 1), (446, .invokevirtual 1075, 3), (449, .aload_n 0, 1), (450, .aload_n 0, 1), (451, .invokevirtual 1201, 3), (454, .iload 5, 2), (456, .invokevirtual 1081, 3)] = true := by decide +kernel
theorem dX8_ways_430 : decode cX8_ways 430 = .ok (.iload_n 1, 1) := zdec_at bX8_ways_430 0 rfl
theorem dX8_ways_431 : decode cX8_ways 431 = .ok (.iaload, 1) := zdec_at bX8_ways_430 1 rfl
theorem dX8_ways_432 : decode cX8_ways 432 = .ok (.bipush 8, 2) := zdec_at bX8_ways_430 2 rfl
theorem dX8_ways_434 : decode cX8_ways 434 = .ok (.if_icmp .ne 15, 3) := zdec_at bX8_ways_430 3 rfl
theorem dX8_ways_437 : decode cX8_ways 437 = .ok (.aload_n 0, 1) := zdec_at bX8_ways_430 4 rfl
theorem dX8_ways_438 : decode cX8_ways 438 = .ok (.aload_n 0, 1) := zdec_at bX8_ways_430 5 rfl
theorem dX8_ways_439 : decode cX8_ways 439 = .ok (.iload 5, 2) := zdec_at bX8_ways_430 6 rfl
theorem dX8_ways_441 : decode cX8_ways 441 = .ok (.iconst 0, 1) := zdec_at bX8_ways_430 7 rfl
theorem dX8_ways_442 : decode cX8_ways 442 = .ok (.invokevirtual 1244, 3) := zdec_at bX8_ways_430 8 rfl
theorem dX8_ways_445 : decode cX8_ways 445 = .ok (.iconst 0, 1) := zdec_at bX8_ways_430 9 rfl
theorem dX8_ways_446 : decode cX8_ways 446 = .ok (.invokevirtual 1075, 3) := zdec_at bX8_ways_430 10 rfl
theorem dX8_ways_449 : decode cX8_ways 449 = .ok (.aload_n 0, 1) := zdec_at bX8_ways_430 11 rfl
theorem dX8_ways_450 : decode cX8_ways 450 = .ok (.aload_n 0, 1) := zdec_at bX8_ways_430 12 rfl
theorem dX8_ways_451 : decode cX8_ways 451 = .ok (.invokevirtual 1201, 3) := zdec_at bX8_ways_430 13 rfl
theorem dX8_ways_454 : decode cX8_ways 454 = .ok (.iload 5, 2) := zdec_at bX8_ways_430 14 rfl
theorem dX8_ways_456 : decode cX8_ways 456 = .ok (.invokevirtual 1081, 3) := zdec_at bX8_ways_430 15 rfl
theorem bX8_ways_459 : zdec cX8_ways 459 [(459, .aload_n 0, 1), (460, .invokevirtual 1222, 3), (463, .goto 202, 3), (466, .bipush 29, 2), (468, .bipush 6, 2), (470, .iload_n 2, 1), (471, .iconst 1, 1), (472, .isub, 1), (473, .imul, 1), (474, .iadd, 1), (475, .iconst 2, 1), (476, .iadd, 1), (477, .istore 5, 2), (479, .aload_n 0, 1), (480, .iload 5, 2), (482, .iconst 2, 1)] = true := by decide +kernel
theorem dX8_ways_459 : decode cX8_ways 459 = .ok (.aload_n 0, 1) := zdec_at bX8_ways_459 0 rfl
theorem dX8_ways_460 : decode cX8_ways 460 = .ok (.invokevirtual 1222, 3) := zdec_at bX8_ways_459 1 rfl
theorem dX8_ways_463 : decode cX8_ways 463 = .ok (.goto 202, 3) := zdec_at bX8_ways_459 2 rfl
theorem dX8_ways_466 : decode cX8_ways 466 = .ok (.bipush 29, 2) := zdec_at bX8_ways_459 3 rfl
theorem dX8_ways_468 : decode cX8_ways 468 = .ok (.bipush 6, 2) := zdec_at bX8_ways_459 4 rfl
theorem dX8_ways_470 : decode cX8_ways 470 = .ok (.iload_n 2, 1) := zdec_at bX8_ways_459 5 rfl
theorem dX8_ways_471 : decode cX8_ways 471 = .ok (.iconst 1, 1) := zdec_at bX8_ways_459 6 rfl
theorem dX8_ways_472 : decode cX8_ways 472 = .ok (.isub, 1) := zdec_at bX8_ways_459 7 rfl
theorem dX8_ways_473 : decode cX8_ways 473 = .ok (.imul, 1) := zdec_at bX8_ways_459 8 rfl
theorem dX8_ways_474 : decode cX8_ways 474 = .ok (.iadd, 1) := zdec_at bX8_ways_459 9 rfl
theorem dX8_ways_475 : decode cX8_ways 475 = .ok (.iconst 2, 1) := zdec_at bX8_ways_459 10 rfl
theorem dX8_ways_476 : decode cX8_ways 476 = .ok (.iadd, 1) := zdec_at bX8_ways_459 11 rfl
theorem dX8_ways_477 : decode cX8_ways 477 = .ok (.istore 5, 2) := zdec_at bX8_ways_459 12 rfl
theorem dX8_ways_479 : decode cX8_ways 479 = .ok (.aload_n 0, 1) := zdec_at bX8_ways_459 13 rfl
theorem dX8_ways_480 : decode cX8_ways 480 = .ok (.iload 5, 2) := zdec_at bX8_ways_459 14 rfl
theorem dX8_ways_482 : decode cX8_ways 482 = .ok (.iconst 2, 1) := zdec_at bX8_ways_459 15 rfl
theorem bX8_ways_483 : zdec cX8_ways 483 [(483, .invokevirtual 1241, 3), (486, .aload_n 0, 1), (487, .iload 5, 2), (489, .iconst 2, 1), (490, .iadd, 1), (491, .iconst 1, 1), (492, .invokevirtual 1241, 3), (495, .aload_n 0, 1), (496, .getfield 268, 3), (499, .aload_n 0, 1), (500, .sipush 639, 3), (503, .iload 5, 2), (505, .invokevirtual 1101, 3), (508, .aload_n 0, 1), (509, .getfield 241, 3), (512, .sipush 639, 3)] = true := by decide +kernel
theorem dX8_ways_483 : decode cX8_ways 483 = .ok (.invokevirtual 1241, 3) := zdec_at bX8_ways_483 0 rfl
theorem dX8_ways_486 : decode cX8_ways 486 = .ok (.aload_n 0, 1) := zdec_at bX8_ways_483 1 rfl
theorem dX8_ways_487 : decode cX8_ways 487 = .ok (.iload 5, 2) := zdec_at bX8_ways_483 2 rfl
theorem dX8_ways_489 : decode cX8_ways 489 = .ok (.iconst 2, 1) := zdec_at bX8_ways_483 3 rfl
theorem dX8_ways_490 : decode cX8_ways 490 = .ok (.iadd, 1) := zdec_at bX8_ways_483 4 rfl
theorem dX8_ways_491 : decode cX8_ways 491 = .ok (.iconst 1, 1) := zdec_at bX8_ways_483 5 rfl
theorem dX8_ways_492 : decode cX8_ways 492 = .ok (.invokevirtual 1241, 3) := zdec_at bX8_ways_483 6 rfl
theorem dX8_ways_495 : decode cX8_ways 495 = .ok (.aload_n 0, 1) := zdec_at bX8_ways_483 7 rfl
theorem dX8_ways_496 : decode cX8_ways 496 = .ok (.getfield 268, 3) := zdec_at bX8_ways_483 8 rfl
theorem dX8_ways_499 : decode cX8_ways 499 = .ok (.aload_n 0, 1) := zdec_at bX8_ways_483 9 rfl
theorem dX8_ways_500 : decode cX8_ways 500 = .ok (.sipush 639, 3) := zdec_at bX8_ways_483 10 rfl
theorem dX8_ways_503 : decode cX8_ways 503 = .ok (.iload 5, 2) := zdec_at bX8_ways_483 11 rfl
theorem dX8_ways_505 : decode cX8_ways 505 = .ok (.invokevirtual 1101, 3) := zdec_at bX8_ways_483 12 rfl
theorem dX8_ways_508 : decode cX8_ways 508 = .ok (.aload_n 0, 1) := zdec_at bX8_ways_483 13 rfl
theorem dX8_ways_509 : decode cX8_ways 509 = .ok (.getfield 241, 3) := zdec_at bX8_ways_483 14 rfl
theorem dX8_ways_512 : decode cX8_ways 512 = .ok (.sipush 639, 3) := zdec_at bX8_ways_483 15 rfl
theorem bX8_ways_515 : zdec cX8_ways 515 [(515, .laload, 1), (516, .lastore, 1), (517, .aload_n 0, 1), (518, .getfield 271, 3), (521, .aload_n 0, 1), (522, .sipush 639, 3), (525, .iload 5, 2), (527, .invokevirtual 1101, 3), (530, .aload_n 0, 1), (531, .getfield 244, 3), (534, .sipush 639, 3), (537, .laload, 1), (538, .lastore, 1), (539, .aload_n 0, 1), (540, .aload_n 0, 1), (541, .iload 5, 2)] = true := by decide +kernel
theorem dX8_ways_515 : decode cX8_ways 515 = .ok (.laload, 1) := zdec_at bX8_ways_515 0 rfl
theorem dX8_ways_516 : decode cX8_ways 516 = .ok (.lastore, 1) := zdec_at bX8_ways_515 1 rfl
theorem dX8_ways_517 : decode cX8_ways 517 = .ok (.aload_n 0, 1) := zdec_at bX8_ways_515 2 rfl
theorem dX8_ways_518 : decode cX8_ways 518 = .ok (.getfield 271, 3) := zdec_at bX8_ways_515 3 rfl
theorem dX8_ways_521 : decode cX8_ways 521 = .ok (.aload_n 0, 1) := zdec_at bX8_ways_515 4 rfl
theorem dX8_ways_522 : decode cX8_ways 522 = .ok (.sipush 639, 3) := zdec_at bX8_ways_515 5 rfl
theorem dX8_ways_525 : decode cX8_ways 525 = .ok (.iload 5, 2) := zdec_at bX8_ways_515 6 rfl
theorem dX8_ways_527 : decode cX8_ways 527 = .ok (.invokevirtual 1101, 3) := zdec_at bX8_ways_515 7 rfl
theorem dX8_ways_530 : decode cX8_ways 530 = .ok (.aload_n 0, 1) := zdec_at bX8_ways_515 8 rfl
theorem dX8_ways_531 : decode cX8_ways 531 = .ok (.getfield 244, 3) := zdec_at bX8_ways_515 9 rfl
theorem dX8_ways_534 : decode cX8_ways 534 = .ok (.sipush 639, 3) := zdec_at bX8_ways_515 10 rfl
theorem dX8_ways_537 : decode cX8_ways 537 = .ok (.laload, 1) := zdec_at bX8_ways_515 11 rfl
theorem dX8_ways_538 : decode cX8_ways 538 = .ok (.lastore, 1) := zdec_at bX8_ways_515 12 rfl
theorem dX8_ways_539 : decode cX8_ways 539 = .ok (.aload_n 0, 1) := zdec_at bX8_ways_515 13 rfl
theorem dX8_ways_540 : decode cX8_ways 540 = .ok (.aload_n 0, 1) := zdec_at bX8_ways_515 14 rfl
theorem dX8_ways_541 : decode cX8_ways 541 = .ok (.iload 5, 2) := zdec_at bX8_ways_515 15 rfl
theorem bX8_ways_543 : zdec cX8_ways 543 [(543, .iconst 1, 1), (544, .invokevirtual 1244, 3), (547, .iload 5, 2), (549, .iconst 2, 1), (550, .iadd, 1), (551, .invokevirtual 1081, 3), (554, .aload_n 0, 1), (555, .aload_n 0, 1), (556, .iload 5, 2), (558, .iconst 2, 1), (559, .iadd, 1), (560, .iconst 2, 1), (561, .invokevirtual 1244, 3), (564, .iload 5, 2), (566, .invokevirtual 1081, 3), (569, .aload_n 0, 1)] = true := by decide +kernel
theorem dX8_ways_543 : decode cX8_ways 543 = .ok (.iconst 1, 1) := zdec_at bX8_ways_543 0 rfl
theorem dX8_ways_544 : decode cX8_ways 544 = .ok (.invokevirtual 1244, 3) := zdec_at bX8_ways_543 1 rfl
theorem dX8_ways_547 : decode cX8_ways 547 = .ok (.iload 5, 2) := zdec_at bX8_ways_543 2 rfl
theorem dX8_ways_549 : decode cX8_ways 549 = .ok (.iconst 2, 1) := zdec_at bX8_ways_543 3 rfl
theorem dX8_ways_550 : decode cX8_ways 550 = .ok (.iadd, 1) := zdec_at bX8_ways_543 4 rfl
theorem dX8_ways_551 : decode cX8_ways 551 = .ok (.invokevirtual 1081, 3) := zdec_at bX8_ways_543 5 rfl
theorem dX8_ways_554 : decode cX8_ways 554 = .ok (.aload_n 0, 1) := zdec_at bX8_ways_543 6 rfl
theorem dX8_ways_555 : decode cX8_ways 555 = .ok (.aload_n 0, 1) := zdec_at bX8_ways_543 7 rfl
theorem dX8_ways_556 : decode cX8_ways 556 = .ok (.iload 5, 2) := zdec_at bX8_ways_543 8 rfl
theorem dX8_ways_558 : decode cX8_ways 558 = .ok (.iconst 2, 1) := zdec_at bX8_ways_543 9 rfl
theorem dX8_ways_559 : decode cX8_ways 559 = .ok (.iadd, 1) := zdec_at bX8_ways_543 10 rfl
theorem dX8_ways_560 : decode cX8_ways 560 = .ok (.iconst 2, 1) := zdec_at bX8_ways_543 11 rfl
theorem dX8_ways_561 : decode cX8_ways 561 = .ok (.invokevirtual 1244, 3) := zdec_at bX8_ways_543 12 rfl
theorem dX8_ways_564 : decode cX8_ways 564 = .ok (.iload 5, 2) := zdec_at bX8_ways_543 13 rfl
theorem dX8_ways_566 : decode cX8_ways 566 = .ok (.invokevirtual 1081, 3) := zdec_at bX8_ways_543 14 rfl
theorem dX8_ways_569 : decode cX8_ways 569 = .ok (.aload_n 0, 1) := zdec_at bX8_ways_543 15 rfl
theorem bX8_ways_570 : zdec cX8_ways 570 [(570, .aload_n 0, 1), (571, .invokevirtual 1201, 3), (574, .iload 5, 2), (576, .invokevirtual 1081, 3), (579, .aload_n 0, 1), (580, .invokevirtual 1222, 3), (583, .goto 82, 3), (586, .aload_n 0, 1), (587, .invokevirtual 1246, 3), (590, .goto 75, 3), (593, .aload_n 0, 1), (594, .invokevirtual 1249, 3), (597, .goto 68, 3), (600, .aload_n 0, 1), (601, .invokevirtual 1252, 3), (604, .goto 61, 3)] = true := by decide +kernel
theorem dX8_ways_570 : decode cX8_ways 570 = .ok (.aload_n 0, 1) := zdec_at bX8_ways_570 0 rfl
theorem dX8_ways_571 : decode cX8_ways 571 = .ok (.invokevirtual 1201, 3) := zdec_at bX8_ways_570 1 rfl
theorem dX8_ways_574 : decode cX8_ways 574 = .ok (.iload 5, 2) := zdec_at bX8_ways_570 2 rfl
theorem dX8_ways_576 : decode cX8_ways 576 = .ok (.invokevirtual 1081, 3) := zdec_at bX8_ways_570 3 rfl
theorem dX8_ways_579 : decode cX8_ways 579 = .ok (.aload_n 0, 1) := zdec_at bX8_ways_570 4 rfl
theorem dX8_ways_580 : decode cX8_ways 580 = .ok (.invokevirtual 1222, 3) := zdec_at bX8_ways_570 5 rfl
theorem dX8_ways_583 : decode cX8_ways 583 = .ok (.goto 82, 3) := zdec_at bX8_ways_570 6 rfl
theorem dX8_ways_586 : decode cX8_ways 586 = .ok (.aload_n 0, 1) := zdec_at bX8_ways_570 7 rfl
theorem dX8_ways_587 : decode cX8_ways 587 = .ok (.invokevirtual 1246, 3) := zdec_at bX8_ways_570 8 rfl
theorem dX8_ways_590 : decode cX8_ways 590 = .ok (.goto 75, 3) := zdec_at bX8_ways_570 9 rfl
theorem dX8_ways_593 : decode cX8_ways 593 = .ok (.aload_n 0, 1) := zdec_at bX8_ways_570 10 rfl
theorem dX8_ways_594 : decode cX8_ways 594 = .ok (.invokevirtual 1249, 3) := zdec_at bX8_ways_570 11 rfl
theorem dX8_ways_597 : decode cX8_ways 597 = .ok (.goto 68, 3) := zdec_at bX8_ways_570 12 rfl
theorem dX8_ways_600 : decode cX8_ways 600 = .ok (.aload_n 0, 1) := zdec_at bX8_ways_570 13 rfl
theorem dX8_ways_601 : decode cX8_ways 601 = .ok (.invokevirtual 1252, 3) := zdec_at bX8_ways_570 14 rfl
theorem dX8_ways_604 : decode cX8_ways 604 = .ok (.goto 61, 3) := zdec_at bX8_ways_570 15 rfl
theorem bX8_ways_607 : zdec cX8_ways 607 [(607, .aload_n 0, 1), (608, .iload_n 2, 1), (609, .aload_n 0, 1), (610, .iconst 0, 1), (611, .invokevirtual 1195, 3), (614, .iload 4, 2), (616, .invokevirtual 1255, 3), (619, .aload_n 0, 1), (620, .iconst 1, 1), (621, .iload 4, 2), (623, .invokevirtual 1258, 3), (626, .goto 39, 3), (629, .aload_n 0, 1), (630, .iload_n 2, 1), (631, .invokevirtual 1261, 3), (634, .goto 31, 3)] = true := by decide +kernel
theorem dX8_ways_607 : decode cX8_ways 607 = .ok (.aload_n 0, 1) := zdec_at bX8_ways_607 0 rfl
theorem dX8_ways_608 : decode cX8_ways 608 = .ok (.iload_n 2, 1) := zdec_at bX8_ways_607 1 rfl
theorem dX8_ways_609 : decode cX8_ways 609 = .ok (.aload_n 0, 1) := zdec_at bX8_ways_607 2 rfl
theorem dX8_ways_610 : decode cX8_ways 610 = .ok (.iconst 0, 1) := zdec_at bX8_ways_607 3 rfl
theorem dX8_ways_611 : decode cX8_ways 611 = .ok (.invokevirtual 1195, 3) := zdec_at bX8_ways_607 4 rfl
theorem dX8_ways_614 : decode cX8_ways 614 = .ok (.iload 4, 2) := zdec_at bX8_ways_607 5 rfl
theorem dX8_ways_616 : decode cX8_ways 616 = .ok (.invokevirtual 1255, 3) := zdec_at bX8_ways_607 6 rfl
theorem dX8_ways_619 : decode cX8_ways 619 = .ok (.aload_n 0, 1) := zdec_at bX8_ways_607 7 rfl
theorem dX8_ways_620 : decode cX8_ways 620 = .ok (.iconst 1, 1) := zdec_at bX8_ways_607 8 rfl
theorem dX8_ways_621 : decode cX8_ways 621 = .ok (.iload 4, 2) := zdec_at bX8_ways_607 9 rfl
theorem dX8_ways_623 : decode cX8_ways 623 = .ok (.invokevirtual 1258, 3) := zdec_at bX8_ways_607 10 rfl
theorem dX8_ways_626 : decode cX8_ways 626 = .ok (.goto 39, 3) := zdec_at bX8_ways_607 11 rfl
theorem dX8_ways_629 : decode cX8_ways 629 = .ok (.aload_n 0, 1) := zdec_at bX8_ways_607 12 rfl
theorem dX8_ways_630 : decode cX8_ways 630 = .ok (.iload_n 2, 1) := zdec_at bX8_ways_607 13 rfl
theorem dX8_ways_631 : decode cX8_ways 631 = .ok (.invokevirtual 1261, 3) := zdec_at bX8_ways_607 14 rfl
theorem dX8_ways_634 : decode cX8_ways 634 = .ok (.goto 31, 3) := zdec_at bX8_ways_607 15 rfl
theorem bX8_ways_637 : zdec cX8_ways 637 [(637, .aload_n 0, 1), (638, .iload_n 2, 1), (639, .invokevirtual 1264, 3), (642, .goto 23, 3), (645, .aload_n 0, 1), (646, .iload_n 2, 1), (647, .iload_n 3, 1), (648, .invokevirtual 1267, 3), (651, .goto 14, 3), (654, .aload_n 0, 1), (655, .aload_n 0, 1), (656, .getfield 89, 3), (659, .iload_n 1, 1), (660, .iaload, 1), (661, .iload_n 2, 1), (662, .invokevirtual 1270, 3)] = true := by decide +kernel
theorem dX8_ways_637 : decode cX8_ways 637 = .ok (.aload_n 0, 1) := zdec_at bX8_ways_637 0 rfl
theorem dX8_ways_638 : decode cX8_ways 638 = .ok (.iload_n 2, 1) := zdec_at bX8_ways_637 1 rfl
theorem dX8_ways_639 : decode cX8_ways 639 = .ok (.invokevirtual 1264, 3) := zdec_at bX8_ways_637 2 rfl
theorem dX8_ways_642 : decode cX8_ways 642 = .ok (.goto 23, 3) := zdec_at bX8_ways_637 3 rfl
theorem dX8_ways_645 : decode cX8_ways 645 = .ok (.aload_n 0, 1) := zdec_at bX8_ways_637 4 rfl
theorem dX8_ways_646 : decode cX8_ways 646 = .ok (.iload_n 2, 1) := zdec_at bX8_ways_637 5 rfl
theorem dX8_ways_647 : decode cX8_ways 647 = .ok (.iload_n 3, 1) := zdec_at bX8_ways_637 6 rfl
theorem dX8_ways_648 : decode cX8_ways 648 = .ok (.invokevirtual 1267, 3) := zdec_at bX8_ways_637 7 rfl
theorem dX8_ways_651 : decode cX8_ways 651 = .ok (.goto 14, 3) := zdec_at bX8_ways_637 8 rfl
theorem dX8_ways_654 : decode cX8_ways 654 = .ok (.aload_n 0, 1) := zdec_at bX8_ways_637 9 rfl
theorem dX8_ways_655 : decode cX8_ways 655 = .ok (.aload_n 0, 1) := zdec_at bX8_ways_637 10 rfl
theorem dX8_ways_656 : decode cX8_ways 656 = .ok (.getfield 89, 3) := zdec_at bX8_ways_637 11 rfl
theorem dX8_ways_659 : decode cX8_ways 659 = .ok (.iload_n 1, 1) := zdec_at bX8_ways_637 12 rfl
theorem dX8_ways_660 : decode cX8_ways 660 = .ok (.iaload, 1) := zdec_at bX8_ways_637 13 rfl
theorem dX8_ways_661 : decode cX8_ways 661 = .ok (.iload_n 2, 1) := zdec_at bX8_ways_637 14 rfl
theorem dX8_ways_662 : decode cX8_ways 662 = .ok (.invokevirtual 1270, 3) := zdec_at bX8_ways_637 15 rfl
theorem bX8_ways_665 : zdec cX8_ways 665 [(665, .aload_n 0, 1), (666, .getfield 232, 3), (669, .iload_n 1, 1), (670, .aload_n 0, 1), (671, .getfield 1208, 3), (674, .aload_n 0, 1), (675, .getfield 1185, 3), (678, .ifCond .ne 14, 3), (681, .aload_n 0, 1), (682, .getfield 89, 3), (685, .iload_n 1, 1), (686, .iaload, 1), (687, .bipush 25, 2), (689, .if_icmp .ne 7, 3), (692, .iconst 0, 1), (693, .goto 4, 3)] = true := by decide +kernel
theorem dX8_ways_665 : decode cX8_ways 665 = .ok (.aload_n 0, 1) := zdec_at bX8_ways_665 0 rfl
theorem dX8_ways_666 : decode cX8_ways 666 = .ok (.getfield 232, 3) := zdec_at bX8_ways_665 1 rfl
theorem dX8_ways_669 : decode cX8_ways 669 = .ok (.iload_n 1, 1) := zdec_at bX8_ways_665 2 rfl
theorem dX8_ways_670 : decode cX8_ways 670 = .ok (.aload_n 0, 1) := zdec_at bX8_ways_665 3 rfl
theorem dX8_ways_671 : decode cX8_ways 671 = .ok (.getfield 1208, 3) := zdec_at bX8_ways_665 4 rfl
theorem dX8_ways_674 : decode cX8_ways 674 = .ok (.aload_n 0, 1) := zdec_at bX8_ways_665 5 rfl
theorem dX8_ways_675 : decode cX8_ways 675 = .ok (.getfield 1185, 3) := zdec_at bX8_ways_665 6 rfl
theorem dX8_ways_678 : decode cX8_ways 678 = .ok (.ifCond .ne 14, 3) := zdec_at bX8_ways_665 7 rfl
theorem dX8_ways_681 : decode cX8_ways 681 = .ok (.aload_n 0, 1) := zdec_at bX8_ways_665 8 rfl
theorem dX8_ways_682 : decode cX8_ways 682 = .ok (.getfield 89, 3) := zdec_at bX8_ways_665 9 rfl
theorem dX8_ways_685 : decode cX8_ways 685 = .ok (.iload_n 1, 1) := zdec_at bX8_ways_665 10 rfl
theorem dX8_ways_686 : decode cX8_ways 686 = .ok (.iaload, 1) := zdec_at bX8_ways_665 11 rfl
theorem dX8_ways_687 : decode cX8_ways 687 = .ok (.bipush 25, 2) := zdec_at bX8_ways_665 12 rfl
theorem dX8_ways_689 : decode cX8_ways 689 = .ok (.if_icmp .ne 7, 3) := zdec_at bX8_ways_665 13 rfl
theorem dX8_ways_692 : decode cX8_ways 692 = .ok (.iconst 0, 1) := zdec_at bX8_ways_665 14 rfl
theorem dX8_ways_693 : decode cX8_ways 693 = .ok (.goto 4, 3) := zdec_at bX8_ways_665 15 rfl
theorem bX8_ways_696 : zdec cX8_ways 696 [(696, .iconst 4, 1), (697, .ior, 1), (698, .iastore, 1), (699, .return_, 1)] = true := by decide +kernel
theorem dX8_ways_696 : decode cX8_ways 696 = .ok (.iconst 4, 1) := zdec_at bX8_ways_696 0 rfl
theorem dX8_ways_697 : decode cX8_ways 697 = .ok (.ior, 1) := zdec_at bX8_ways_696 1 rfl
theorem dX8_ways_698 : decode cX8_ways 698 = .ok (.iastore, 1) := zdec_at bX8_ways_696 2 rfl
theorem dX8_ways_699 : decode cX8_ways 699 = .ok (.return_, 1) := zdec_at bX8_ways_696 3 rfl
theorem sX8_ways_0 {E : zE} {d : Nat} {Q : zO → zM → Prop} (M : zM) (l1 : Int32) (k : Zm E YX8_load d (si (si (si (si M 97 148 l1) 97 149 (0 : Int32)) 97 150 (0 : Int32)) 97 147 (0 : Int32)) (zargs 0 [vr (some (97, 1, 0)), vi l1]) 0 [] (zma E YX8_ways (d + 1) [(0, vr (some (97, 1, 0))), (1, vi l1)] 22 3 [] Q)) : Zm E YX8_ways (d + 1) M [(0, vr (some (97, 1, 0))), (1, vi l1)] 0 [] Q := by
  refine Zm.l (fun _ _ k_ => z_aload_n dX8_ways_0 rfl rfl k_) ?_
  refine Zm.l (fun _ _ k_ => z_iload_n dX8_ways_1 rfl rfl k_) ?_
  refine zm_puti (by decide) (by decide) dX8_ways_2 (zfwN.w fwX8_1188_1) rfl ⟨rfl, rfl⟩ ?_
  refine Zm.l (fun _ _ k_ => z_aload_n dX8_ways_5 rfl rfl k_) ?_
  refine Zm.l (fun _ _ k_ => z_iconst (v := 0) dX8_ways_6 rfl k_) ?_
  refine zm_puti (by decide) (by decide) dX8_ways_7 (zfwN.w fwX8_1208_1) rfl ⟨rfl, rfl⟩ ?_
  refine Zm.l (fun _ _ k_ => z_aload_n dX8_ways_10 rfl rfl k_) ?_
  refine Zm.l (fun _ _ k_ => z_iconst (v := 0) dX8_ways_11 rfl k_) ?_
  refine zm_puti (by decide) (by decide) dX8_ways_12 (zfwN.w fwX8_1185_1) rfl ⟨by decide, by decide⟩ ?_
  refine Zm.l (fun _ _ k_ => z_aload_n dX8_ways_15 rfl rfl k_) ?_
  refine Zm.l (fun _ _ k_ => z_iconst (v := 0) dX8_ways_16 rfl k_) ?_
  refine zm_puti (by decide) (by decide) dX8_ways_17 (zfwN.w fwX8_1178_1) rfl ⟨rfl, rfl⟩ ?_
  refine Zm.l (fun _ _ k_ => z_aload_n dX8_ways_20 rfl rfl k_) ?_
  refine Zm.l (fun _ _ k_ => z_iload_n dX8_ways_21 rfl rfl k_) ?_
  exact zm_callV (as := [vi l1]) (st := []) dX8_ways_22 vsX8_1211_1 (Nat.le_refl _) (Nat.le_of_ble_eq_true rfl) (Nat.le_of_ble_eq_true rfl) rfl k
theorem sX8_ways_25 {E : zE} {d : Nat} {Q : zO → zM → Prop} (M : zM) (l1 : Int32) (k : vp_in l1 600 ∧ (vp_in l1 600 ∧ (vp_in l1 600 ∧ (if (gi M 123 (l1).toNatClampNeg) = 0 then (Zm E YX8_empty d M (zargs 0 [vr (some (97, 1, 0)), vi (647740 : Int32)]) 0 [] (zma E YX8_ways (d + 1) [(0, vr (some (97, 1, 0))), (1, vi l1), (2, vi (gi M 124 (l1).toNatClampNeg)), (3, vi (gi M 125 (l1).toNatClampNeg)), (4, vi (647740 : Int32))] 135 3 [] Q)) else (if (gi M 123 (l1).toNatClampNeg) = 1 then (Zm E YX8_scopesAt d M (zargs 0 [vr (some (97, 1, 0)), vi (gi M 124 (l1).toNatClampNeg), vi (647740 : Int32)]) 0 [] (zma E YX8_ways (d + 1) [(0, vr (some (97, 1, 0))), (1, vi l1), (3, vi (gi M 125 (l1).toNatClampNeg)), (4, vi (647740 : Int32))] 167 3 [] Q)) else (if (gi M 123 (l1).toNatClampNeg) = 2 then (Zm E YX8_scopesAt d M (zargs 0 [vr (some (97, 1, 0)), vi (gi M 124 (l1).toNatClampNeg), vi (647740 : Int32)]) 0 [] (zma E YX8_ways (d + 1) [(0, vr (some (97, 1, 0))), (1, vi l1), (3, vi (gi M 125 (l1).toNatClampNeg)), (4, vi (647740 : Int32))] 279 3 [] Q)) else (if (gi M 123 (l1).toNatClampNeg) = 3 then (vp_in l1 600 ∧ (if (gi M 123 (l1).toNatClampNeg) = (3 : Int32) then (Zm E YX8_waysOfGlobal d M (zargs 0 [vr (some (97, 1, 0)), vi (gi M 125 (l1).toNatClampNeg), vi (1 : Int32)]) 0 [] (zma E YX8_ways (d + 1) [(0, vr (some (97, 1, 0))), (1, vi l1)] 340 3 [] Q)) else (Zm E YX8_waysOfGlobal d M (zargs 0 [vr (some (97, 1, 0)), vi (gi M 125 (l1).toNatClampNeg), vi (0 : Int32)]) 0 [] (zma E YX8_ways (d + 1) [(0, vr (some (97, 1, 0))), (1, vi l1)] 340 3 [] Q)))) else (if (gi M 123 (l1).toNatClampNeg) = 4 then (Zm E YX8_noKeys d M (zargs 0 [vr (some (97, 1, 0))]) 0 [] (zma E YX8_ways (d + 1) [(0, vr (some (97, 1, 0))), (1, vi l1), (3, vi (gi M 125 (l1).toNatClampNeg))] 347 3 [] Q)) else (if (gi M 123 (l1).toNatClampNeg) = 5 then (vp_in l1 600 ∧ (if (gi M 123 (l1).toNatClampNeg) = (3 : Int32) then (Zm E YX8_waysOfGlobal d M (zargs 0 [vr (some (97, 1, 0)), vi (gi M 125 (l1).toNatClampNeg), vi (1 : Int32)]) 0 [] (zma E YX8_ways (d + 1) [(0, vr (some (97, 1, 0))), (1, vi l1)] 340 3 [] Q)) else (Zm E YX8_waysOfGlobal d M (zargs 0 [vr (some (97, 1, 0)), vi (gi M 125 (l1).toNatClampNeg), vi (0 : Int32)]) 0 [] (zma E YX8_ways (d + 1) [(0, vr (some (97, 1, 0))), (1, vi l1)] 340 3 [] Q)))) else (if (gi M 123 (l1).toNatClampNeg) = 6 then (Zm E YX8_thisAt d M (zargs 0 [vr (some (97, 1, 0)), vi (639 : Int32)]) 0 [] (zma E YX8_ways (d + 1) [(0, vr (some (97, 1, 0))), (1, vi l1)] 380 3 [vr (some (97, 1, 0))] Q)) else (if (gi M 123 (l1).toNatClampNeg) = 7 then (Zm E YX8_siteLabel d M (zargs 0 [vr (some (97, 1, 0)), vi (gi M 124 (l1).toNatClampNeg)]) 0 [] (zma E YX8_ways (d + 1) [(0, vr (some (97, 1, 0))), (1, vi l1)] 399 3 [] Q)) else (if (gi M 123 (l1).toNatClampNeg) = 8 then (Zm E YX8_siteLabel d M (zargs 0 [vr (some (97, 1, 0)), vi (gi M 124 (l1).toNatClampNeg)]) 0 [] (zma E YX8_ways (d + 1) [(0, vr (some (97, 1, 0))), (1, vi l1)] 399 3 [] Q)) else (if (gi M 123 (l1).toNatClampNeg) = 9 then (Zm E YX8_make d M (zargs 0 [vr (some (97, 1, 0)), vi (((29 : Int32) + ((6 : Int32) * ((gi M 124 (l1).toNatClampNeg) - (1 : Int32)))) + (2 : Int32)), vi (2 : Int32)]) 0 [] (zma E YX8_ways (d + 1) [(0, vr (some (97, 1, 0))), (1, vi l1), (5, vi (((29 : Int32) + ((6 : Int32) * ((gi M 124 (l1).toNatClampNeg) - (1 : Int32)))) + (2 : Int32)))] 483 3 [] Q)) else (if (gi M 123 (l1).toNatClampNeg) = 10 then (Zm E YX8_waysOfGet d M (zargs 0 [vr (some (97, 1, 0))]) 0 [] (zma E YX8_ways (d + 1) [(0, vr (some (97, 1, 0))), (1, vi l1)] 587 3 [] Q)) else (if (gi M 123 (l1).toNatClampNeg) = 11 then (Zm E YX8_waysOfPut d M (zargs 0 [vr (some (97, 1, 0))]) 0 [] (zma E YX8_ways (d + 1) [(0, vr (some (97, 1, 0))), (1, vi l1)] 594 3 [] Q)) else (if (gi M 123 (l1).toNatClampNeg) = 12 then (Zm E YX8_waysOfDelete d M (zargs 0 [vr (some (97, 1, 0))]) 0 [] (zma E YX8_ways (d + 1) [(0, vr (some (97, 1, 0))), (1, vi l1)] 601 3 [] Q)) else (if (gi M 123 (l1).toNatClampNeg) = 13 then (Zm E YX8_fromTop d M (zargs 0 [vr (some (97, 1, 0)), vi (0 : Int32)]) 0 [] (zma E YX8_ways (d + 1) [(0, vr (some (97, 1, 0))), (1, vi l1), (4, vi (647740 : Int32))] 611 3 [vi (gi M 124 (l1).toNatClampNeg), vr (some (97, 1, 0))] Q)) else (if (gi M 123 (l1).toNatClampNeg) = 14 then (Zm E YX8_waysOfBinary d M (zargs 0 [vr (some (97, 1, 0)), vi (gi M 124 (l1).toNatClampNeg)]) 0 [] (zma E YX8_ways (d + 1) [(0, vr (some (97, 1, 0))), (1, vi l1)] 631 3 [] Q)) else (if (gi M 123 (l1).toNatClampNeg) = 15 then (Zm E YX8_waysOfCall d M (zargs 0 [vr (some (97, 1, 0)), vi (gi M 124 (l1).toNatClampNeg)]) 0 [] (zma E YX8_ways (d + 1) [(0, vr (some (97, 1, 0))), (1, vi l1)] 639 3 [] Q)) else (if (gi M 123 (l1).toNatClampNeg) = 16 then (Zm E YX8_waysOfNew d M (zargs 0 [vr (some (97, 1, 0)), vi (gi M 124 (l1).toNatClampNeg), vi (gi M 125 (l1).toNatClampNeg)]) 0 [] (zma E YX8_ways (d + 1) [(0, vr (some (97, 1, 0))), (1, vi l1)] 648 3 [] Q)) else (vp_in l1 600 ∧ (Zm E YX8_waysOfOther d M (zargs 0 [vr (some (97, 1, 0)), vi (gi M 123 (l1).toNatClampNeg), vi (gi M 124 (l1).toNatClampNeg)]) 0 [] (zma E YX8_ways (d + 1) [(0, vr (some (97, 1, 0))), (1, vi l1)] 662 3 [] Q))))))))))))))))))))))) : Zm E YX8_ways (d + 1) M [(0, vr (some (97, 1, 0))), (1, vi l1)] 25 [] Q := by
  refine Zm.l (fun _ _ k_ => z_aload_n dX8_ways_25 rfl rfl k_) ?_
  refine zm_getr 26 dX8_ways_26 fsX8_92_1 rfl ?_
  refine Zm.l (fun _ _ k_ => z_iload_n dX8_ways_29 rfl rfl k_) ?_
  obtain ⟨b_, k⟩ := k
  refine zm_iald dX8_ways_30 b_ (by decide) (by decide) ?_
  refine Zm.l (fun _ _ k_ => z_ist_n dX8_ways_31 rfl (by decide) (lv' := [(0, vr (some (97, 1, 0))), (1, vi l1), (2, vi (gi M 124 (l1).toNatClampNeg))]) rfl k_) ?_
  refine Zm.l (fun _ _ k_ => z_aload_n dX8_ways_32 rfl rfl k_) ?_
  refine zm_getr 27 dX8_ways_33 fsX8_95_1 rfl ?_
  refine Zm.l (fun _ _ k_ => z_iload_n dX8_ways_36 rfl rfl k_) ?_
  obtain ⟨b_, k⟩ := k
  refine zm_iald dX8_ways_37 b_ (by decide) (by decide) ?_
  refine Zm.l (fun _ _ k_ => z_ist_n dX8_ways_38 rfl (by decide) (lv' := [(0, vr (some (97, 1, 0))), (1, vi l1), (2, vi (gi M 124 (l1).toNatClampNeg)), (3, vi (gi M 125 (l1).toNatClampNeg))]) rfl k_) ?_
  refine Zm.l (fun _ _ k_ => z_ldcw (v := 647740) dX8_ways_39 q4880 k_) ?_
  refine Zm.l (fun _ _ k_ => z_ist dX8_ways_42 (by decide) (lv' := [(0, vr (some (97, 1, 0))), (1, vi l1), (2, vi (gi M 124 (l1).toNatClampNeg)), (3, vi (gi M 125 (l1).toNatClampNeg)), (4, vi (647740 : Int32))]) rfl k_) ?_
  refine Zm.l (fun _ _ k_ => z_aload_n dX8_ways_44 rfl rfl k_) ?_
  refine zm_getr 25 dX8_ways_45 fsX8_89_1 rfl ?_
  refine Zm.l (fun _ _ k_ => z_iload_n dX8_ways_48 rfl rfl k_) ?_
  obtain ⟨b_, k⟩ := k
  refine zm_iald dX8_ways_49 b_ (by decide) (by decide) ?_
  by_cases h0_ : (gi M 123 (l1).toNatClampNeg) = 0
  · have k := zit h0_ k
    refine Zm.l (fun _ _ k_ => z_tableIn (off := 82) (tgt := 132) dX8_ways_50 (by rw [h0_]; decide) (by rw [h0_]; decide) (by rw [h0_]; rfl) rfl k_) ?_
    refine Zm.l (fun _ _ k_ => z_aload_n dX8_ways_132 rfl rfl k_) ?_
    refine Zm.l (fun _ _ k_ => z_iload dX8_ways_133 rfl k_) ?_
    exact zm_callV (as := [vi (647740 : Int32)]) (st := []) dX8_ways_135 vsX8_1066_1 (Nat.le_refl _) (Nat.le_of_ble_eq_true rfl) (Nat.le_of_ble_eq_true rfl) rfl k
  · have k := zif h0_ k
    by_cases h1_ : (gi M 123 (l1).toNatClampNeg) = 1
    · have k := zit h1_ k
      refine Zm.l (fun _ _ k_ => z_tableIn (off := 113) (tgt := 163) dX8_ways_50 (by rw [h1_]; decide) (by rw [h1_]; decide) (by rw [h1_]; rfl) rfl k_) ?_
      refine Zm.l (fun _ _ k_ => z_aload_n dX8_ways_163 rfl rfl k_) ?_
      refine Zm.l (fun _ _ k_ => z_iload_n dX8_ways_164 rfl rfl k_) ?_
      refine Zm.l (fun _ _ k_ => z_iload dX8_ways_165 rfl k_) ?_
      refine Zm.pick [0, 1, 3, 4] rfl ?_
      exact zm_callV (as := [vi (gi M 124 (l1).toNatClampNeg), vi (647740 : Int32)]) (st := []) dX8_ways_167 vsX8_1225_1 (Nat.le_refl _) (Nat.le_of_ble_eq_true rfl) (Nat.le_of_ble_eq_true rfl) rfl k
    · have k := zif h1_ k
      by_cases h2_ : (gi M 123 (l1).toNatClampNeg) = 2
      · have k := zit h2_ k
        refine Zm.l (fun _ _ k_ => z_tableIn (off := 225) (tgt := 275) dX8_ways_50 (by rw [h2_]; decide) (by rw [h2_]; decide) (by rw [h2_]; rfl) rfl k_) ?_
        refine Zm.l (fun _ _ k_ => z_aload_n dX8_ways_275 rfl rfl k_) ?_
        refine Zm.l (fun _ _ k_ => z_iload_n dX8_ways_276 rfl rfl k_) ?_
        refine Zm.l (fun _ _ k_ => z_iload dX8_ways_277 rfl k_) ?_
        refine Zm.pick [0, 1, 3, 4] rfl ?_
        exact zm_callV (as := [vi (gi M 124 (l1).toNatClampNeg), vi (647740 : Int32)]) (st := []) dX8_ways_279 vsX8_1225_1 (Nat.le_refl _) (Nat.le_of_ble_eq_true rfl) (Nat.le_of_ble_eq_true rfl) rfl k
      · have k := zif h2_ k
        by_cases h3_ : (gi M 123 (l1).toNatClampNeg) = 3
        · have k := zit h3_ k
          refine Zm.l (fun _ _ k_ => z_tableIn (off := 273) (tgt := 323) dX8_ways_50 (by rw [h3_]; decide) (by rw [h3_]; decide) (by rw [h3_]; rfl) rfl k_) ?_
          refine Zm.l (fun _ _ k_ => z_aload_n dX8_ways_323 rfl rfl k_) ?_
          refine Zm.l (fun _ _ k_ => z_iload_n dX8_ways_324 rfl rfl k_) ?_
          refine Zm.l (fun _ _ k_ => z_aload_n dX8_ways_325 rfl rfl k_) ?_
          refine zm_getr 25 dX8_ways_326 fsX8_89_1 rfl ?_
          refine Zm.l (fun _ _ k_ => z_iload_n dX8_ways_329 rfl rfl k_) ?_
          obtain ⟨b_, k⟩ := k
          refine zm_iald dX8_ways_330 b_ (by decide) (by decide) ?_
          refine Zm.l (fun _ _ k_ => z_iconst (v := 3) dX8_ways_331 rfl k_) ?_
          refine Zm.brn (fun _ _ k1_ k2_ => z_icmp_ne (tgt := 339) dX8_ways_332 rfl k1_ k2_) (fun h_ => ?_) (fun h_ => ?_)
          · have k := zif h_ k
            refine Zm.l (fun _ _ k_ => z_iconst (v := 0) dX8_ways_339 rfl k_) ?_
            refine Zm.pick [0, 1] rfl ?_
            exact zm_callV (as := [vi (gi M 125 (l1).toNatClampNeg), vi (0 : Int32)]) (st := []) dX8_ways_340 vsX8_1238_1 (Nat.le_refl _) (Nat.le_of_ble_eq_true rfl) (Nat.le_of_ble_eq_true rfl) rfl k
          · have k := zit h_ k
            refine Zm.l (fun _ _ k_ => z_iconst (v := 1) dX8_ways_335 rfl k_) ?_
            refine Zm.l (fun _ _ k_ => z_goto (tgt := 340) dX8_ways_336 rfl k_) ?_
            refine Zm.pick [0, 1] rfl ?_
            exact zm_callV (as := [vi (gi M 125 (l1).toNatClampNeg), vi (1 : Int32)]) (st := []) dX8_ways_340 vsX8_1238_1 (Nat.le_refl _) (Nat.le_of_ble_eq_true rfl) (Nat.le_of_ble_eq_true rfl) rfl k
        · have k := zif h3_ k
          by_cases h4_ : (gi M 123 (l1).toNatClampNeg) = 4
          · have k := zit h4_ k
            refine Zm.l (fun _ _ k_ => z_tableIn (off := 296) (tgt := 346) dX8_ways_50 (by rw [h4_]; decide) (by rw [h4_]; decide) (by rw [h4_]; rfl) rfl k_) ?_
            refine Zm.l (fun _ _ k_ => z_aload_n dX8_ways_346 rfl rfl k_) ?_
            refine Zm.pick [0, 1, 3] rfl ?_
            exact zm_callV (as := []) (st := []) dX8_ways_347 vsX8_1135_1 (Nat.le_refl _) (Nat.le_of_ble_eq_true rfl) (Nat.le_of_ble_eq_true rfl) rfl k
          · have k := zif h4_ k
            by_cases h5_ : (gi M 123 (l1).toNatClampNeg) = 5
            · have k := zit h5_ k
              refine Zm.l (fun _ _ k_ => z_tableIn (off := 273) (tgt := 323) dX8_ways_50 (by rw [h5_]; decide) (by rw [h5_]; decide) (by rw [h5_]; rfl) rfl k_) ?_
              refine Zm.l (fun _ _ k_ => z_aload_n dX8_ways_323 rfl rfl k_) ?_
              refine Zm.l (fun _ _ k_ => z_iload_n dX8_ways_324 rfl rfl k_) ?_
              refine Zm.l (fun _ _ k_ => z_aload_n dX8_ways_325 rfl rfl k_) ?_
              refine zm_getr 25 dX8_ways_326 fsX8_89_1 rfl ?_
              refine Zm.l (fun _ _ k_ => z_iload_n dX8_ways_329 rfl rfl k_) ?_
              obtain ⟨b_, k⟩ := k
              refine zm_iald dX8_ways_330 b_ (by decide) (by decide) ?_
              refine Zm.l (fun _ _ k_ => z_iconst (v := 3) dX8_ways_331 rfl k_) ?_
              refine Zm.brn (fun _ _ k1_ k2_ => z_icmp_ne (tgt := 339) dX8_ways_332 rfl k1_ k2_) (fun h_ => ?_) (fun h_ => ?_)
              · have k := zif h_ k
                refine Zm.l (fun _ _ k_ => z_iconst (v := 0) dX8_ways_339 rfl k_) ?_
                refine Zm.pick [0, 1] rfl ?_
                exact zm_callV (as := [vi (gi M 125 (l1).toNatClampNeg), vi (0 : Int32)]) (st := []) dX8_ways_340 vsX8_1238_1 (Nat.le_refl _) (Nat.le_of_ble_eq_true rfl) (Nat.le_of_ble_eq_true rfl) rfl k
              · have k := zit h_ k
                refine Zm.l (fun _ _ k_ => z_iconst (v := 1) dX8_ways_335 rfl k_) ?_
                refine Zm.l (fun _ _ k_ => z_goto (tgt := 340) dX8_ways_336 rfl k_) ?_
                refine Zm.pick [0, 1] rfl ?_
                exact zm_callV (as := [vi (gi M 125 (l1).toNatClampNeg), vi (1 : Int32)]) (st := []) dX8_ways_340 vsX8_1238_1 (Nat.le_refl _) (Nat.le_of_ble_eq_true rfl) (Nat.le_of_ble_eq_true rfl) rfl k
            · have k := zif h5_ k
              by_cases h6_ : (gi M 123 (l1).toNatClampNeg) = 6
              · have k := zit h6_ k
                refine Zm.l (fun _ _ k_ => z_tableIn (off := 325) (tgt := 375) dX8_ways_50 (by rw [h6_]; decide) (by rw [h6_]; decide) (by rw [h6_]; rfl) rfl k_) ?_
                refine Zm.l (fun _ _ k_ => z_aload_n dX8_ways_375 rfl rfl k_) ?_
                refine Zm.l (fun _ _ k_ => z_aload_n dX8_ways_376 rfl rfl k_) ?_
                refine Zm.l (fun _ _ k_ => z_sipush (v := 639) dX8_ways_377 rfl k_) ?_
                refine Zm.pick [0, 1] rfl ?_
                exact zm_callV (as := [vi (639 : Int32)]) (st := [vr (some (97, 1, 0))]) dX8_ways_380 vsX8_1098_1 (Nat.le_refl _) (Nat.le_of_ble_eq_true rfl) (Nat.le_of_ble_eq_true rfl) rfl k
              · have k := zif h6_ k
                by_cases h7_ : (gi M 123 (l1).toNatClampNeg) = 7
                · have k := zit h7_ k
                  refine Zm.l (fun _ _ k_ => z_tableIn (off := 347) (tgt := 397) dX8_ways_50 (by rw [h7_]; decide) (by rw [h7_]; decide) (by rw [h7_]; rfl) rfl k_) ?_
                  refine Zm.l (fun _ _ k_ => z_aload_n dX8_ways_397 rfl rfl k_) ?_
                  refine Zm.l (fun _ _ k_ => z_iload_n dX8_ways_398 rfl rfl k_) ?_
                  refine Zm.pick [0, 1] rfl ?_
                  exact zm_callV (as := [vi (gi M 124 (l1).toNatClampNeg)]) (st := []) dX8_ways_399 vsX8_920_1 (Nat.le_refl _) (Nat.le_of_ble_eq_true rfl) (Nat.le_of_ble_eq_true rfl) rfl k
                · have k := zif h7_ k
                  by_cases h8_ : (gi M 123 (l1).toNatClampNeg) = 8
                  · have k := zit h8_ k
                    refine Zm.l (fun _ _ k_ => z_tableIn (off := 347) (tgt := 397) dX8_ways_50 (by rw [h8_]; decide) (by rw [h8_]; decide) (by rw [h8_]; rfl) rfl k_) ?_
                    refine Zm.l (fun _ _ k_ => z_aload_n dX8_ways_397 rfl rfl k_) ?_
                    refine Zm.l (fun _ _ k_ => z_iload_n dX8_ways_398 rfl rfl k_) ?_
                    refine Zm.pick [0, 1] rfl ?_
                    exact zm_callV (as := [vi (gi M 124 (l1).toNatClampNeg)]) (st := []) dX8_ways_399 vsX8_920_1 (Nat.le_refl _) (Nat.le_of_ble_eq_true rfl) (Nat.le_of_ble_eq_true rfl) rfl k
                  · have k := zif h8_ k
                    by_cases h9_ : (gi M 123 (l1).toNatClampNeg) = 9
                    · have k := zit h9_ k
                      refine Zm.l (fun _ _ k_ => z_tableIn (off := 416) (tgt := 466) dX8_ways_50 (by rw [h9_]; decide) (by rw [h9_]; decide) (by rw [h9_]; rfl) rfl k_) ?_
                      refine Zm.l (fun _ _ k_ => z_bipush (v := 29) dX8_ways_466 rfl k_) ?_
                      refine Zm.l (fun _ _ k_ => z_bipush (v := 6) dX8_ways_468 rfl k_) ?_
                      refine Zm.l (fun _ _ k_ => z_iload_n dX8_ways_470 rfl rfl k_) ?_
                      refine Zm.l (fun _ _ k_ => z_iconst (v := 1) dX8_ways_471 rfl k_) ?_
                      refine Zm.l (fun _ _ k_ => z_isub dX8_ways_472 k_) ?_
                      refine Zm.l (fun _ _ k_ => z_imul dX8_ways_473 k_) ?_
                      refine Zm.l (fun _ _ k_ => z_iadd dX8_ways_474 k_) ?_
                      refine Zm.l (fun _ _ k_ => z_iconst (v := 2) dX8_ways_475 rfl k_) ?_
                      refine Zm.l (fun _ _ k_ => z_iadd dX8_ways_476 k_) ?_
                      refine Zm.l (fun _ _ k_ => z_ist dX8_ways_477 (by decide) (lv' := [(0, vr (some (97, 1, 0))), (1, vi l1), (2, vi (gi M 124 (l1).toNatClampNeg)), (3, vi (gi M 125 (l1).toNatClampNeg)), (4, vi (647740 : Int32)), (5, vi (((29 : Int32) + ((6 : Int32) * ((gi M 124 (l1).toNatClampNeg) - (1 : Int32)))) + (2 : Int32)))]) rfl k_) ?_
                      refine Zm.l (fun _ _ k_ => z_aload_n dX8_ways_479 rfl rfl k_) ?_
                      refine Zm.l (fun _ _ k_ => z_iload dX8_ways_480 rfl k_) ?_
                      refine Zm.l (fun _ _ k_ => z_iconst (v := 2) dX8_ways_482 rfl k_) ?_
                      refine Zm.pick [0, 1, 5] rfl ?_
                      exact zm_callV (as := [vi (((29 : Int32) + ((6 : Int32) * ((gi M 124 (l1).toNatClampNeg) - (1 : Int32)))) + (2 : Int32)), vi (2 : Int32)]) (st := []) dX8_ways_483 vsX8_1241_1 (Nat.le_refl _) (Nat.le_of_ble_eq_true rfl) (Nat.le_of_ble_eq_true rfl) rfl k
                    · have k := zif h9_ k
                      by_cases h10_ : (gi M 123 (l1).toNatClampNeg) = 10
                      · have k := zit h10_ k
                        refine Zm.l (fun _ _ k_ => z_tableIn (off := 536) (tgt := 586) dX8_ways_50 (by rw [h10_]; decide) (by rw [h10_]; decide) (by rw [h10_]; rfl) rfl k_) ?_
                        refine Zm.l (fun _ _ k_ => z_aload_n dX8_ways_586 rfl rfl k_) ?_
                        refine Zm.pick [0, 1] rfl ?_
                        exact zm_callV (as := []) (st := []) dX8_ways_587 vsX8_1246_1 (Nat.le_refl _) (Nat.le_of_ble_eq_true rfl) (Nat.le_of_ble_eq_true rfl) rfl k
                      · have k := zif h10_ k
                        by_cases h11_ : (gi M 123 (l1).toNatClampNeg) = 11
                        · have k := zit h11_ k
                          refine Zm.l (fun _ _ k_ => z_tableIn (off := 543) (tgt := 593) dX8_ways_50 (by rw [h11_]; decide) (by rw [h11_]; decide) (by rw [h11_]; rfl) rfl k_) ?_
                          refine Zm.l (fun _ _ k_ => z_aload_n dX8_ways_593 rfl rfl k_) ?_
                          refine Zm.pick [0, 1] rfl ?_
                          exact zm_callV (as := []) (st := []) dX8_ways_594 vsX8_1249_1 (Nat.le_refl _) (Nat.le_of_ble_eq_true rfl) (Nat.le_of_ble_eq_true rfl) rfl k
                        · have k := zif h11_ k
                          by_cases h12_ : (gi M 123 (l1).toNatClampNeg) = 12
                          · have k := zit h12_ k
                            refine Zm.l (fun _ _ k_ => z_tableIn (off := 550) (tgt := 600) dX8_ways_50 (by rw [h12_]; decide) (by rw [h12_]; decide) (by rw [h12_]; rfl) rfl k_) ?_
                            refine Zm.l (fun _ _ k_ => z_aload_n dX8_ways_600 rfl rfl k_) ?_
                            refine Zm.pick [0, 1] rfl ?_
                            exact zm_callV (as := []) (st := []) dX8_ways_601 vsX8_1252_1 (Nat.le_refl _) (Nat.le_of_ble_eq_true rfl) (Nat.le_of_ble_eq_true rfl) rfl k
                          · have k := zif h12_ k
                            by_cases h13_ : (gi M 123 (l1).toNatClampNeg) = 13
                            · have k := zit h13_ k
                              refine Zm.l (fun _ _ k_ => z_tableIn (off := 557) (tgt := 607) dX8_ways_50 (by rw [h13_]; decide) (by rw [h13_]; decide) (by rw [h13_]; rfl) rfl k_) ?_
                              refine Zm.l (fun _ _ k_ => z_aload_n dX8_ways_607 rfl rfl k_) ?_
                              refine Zm.l (fun _ _ k_ => z_iload_n dX8_ways_608 rfl rfl k_) ?_
                              refine Zm.l (fun _ _ k_ => z_aload_n dX8_ways_609 rfl rfl k_) ?_
                              refine Zm.l (fun _ _ k_ => z_iconst (v := 0) dX8_ways_610 rfl k_) ?_
                              refine Zm.pick [0, 1, 4] rfl ?_
                              exact zm_callV (as := [vi (0 : Int32)]) (st := [vi (gi M 124 (l1).toNatClampNeg), vr (some (97, 1, 0))]) dX8_ways_611 vsX8_1195_1 (Nat.le_refl _) (Nat.le_of_ble_eq_true rfl) (Nat.le_of_ble_eq_true rfl) rfl k
                            · have k := zif h13_ k
                              by_cases h14_ : (gi M 123 (l1).toNatClampNeg) = 14
                              · have k := zit h14_ k
                                refine Zm.l (fun _ _ k_ => z_tableIn (off := 579) (tgt := 629) dX8_ways_50 (by rw [h14_]; decide) (by rw [h14_]; decide) (by rw [h14_]; rfl) rfl k_) ?_
                                refine Zm.l (fun _ _ k_ => z_aload_n dX8_ways_629 rfl rfl k_) ?_
                                refine Zm.l (fun _ _ k_ => z_iload_n dX8_ways_630 rfl rfl k_) ?_
                                refine Zm.pick [0, 1] rfl ?_
                                exact zm_callV (as := [vi (gi M 124 (l1).toNatClampNeg)]) (st := []) dX8_ways_631 vsX8_1261_1 (Nat.le_refl _) (Nat.le_of_ble_eq_true rfl) (Nat.le_of_ble_eq_true rfl) rfl k
                              · have k := zif h14_ k
                                by_cases h15_ : (gi M 123 (l1).toNatClampNeg) = 15
                                · have k := zit h15_ k
                                  refine Zm.l (fun _ _ k_ => z_tableIn (off := 587) (tgt := 637) dX8_ways_50 (by rw [h15_]; decide) (by rw [h15_]; decide) (by rw [h15_]; rfl) rfl k_) ?_
                                  refine Zm.l (fun _ _ k_ => z_aload_n dX8_ways_637 rfl rfl k_) ?_
                                  refine Zm.l (fun _ _ k_ => z_iload_n dX8_ways_638 rfl rfl k_) ?_
                                  refine Zm.pick [0, 1] rfl ?_
                                  exact zm_callV (as := [vi (gi M 124 (l1).toNatClampNeg)]) (st := []) dX8_ways_639 vsX8_1264_1 (Nat.le_refl _) (Nat.le_of_ble_eq_true rfl) (Nat.le_of_ble_eq_true rfl) rfl k
                                · have k := zif h15_ k
                                  by_cases h16_ : (gi M 123 (l1).toNatClampNeg) = 16
                                  · have k := zit h16_ k
                                    refine Zm.l (fun _ _ k_ => z_tableIn (off := 595) (tgt := 645) dX8_ways_50 (by rw [h16_]; decide) (by rw [h16_]; decide) (by rw [h16_]; rfl) rfl k_) ?_
                                    refine Zm.l (fun _ _ k_ => z_aload_n dX8_ways_645 rfl rfl k_) ?_
                                    refine Zm.l (fun _ _ k_ => z_iload_n dX8_ways_646 rfl rfl k_) ?_
                                    refine Zm.l (fun _ _ k_ => z_iload_n dX8_ways_647 rfl rfl k_) ?_
                                    refine Zm.pick [0, 1] rfl ?_
                                    exact zm_callV (as := [vi (gi M 124 (l1).toNatClampNeg), vi (gi M 125 (l1).toNatClampNeg)]) (st := []) dX8_ways_648 vsX8_1267_1 (Nat.le_refl _) (Nat.le_of_ble_eq_true rfl) (Nat.le_of_ble_eq_true rfl) rfl k
                                  · have k := zif h16_ k
                                    refine Zm.l (fun _ _ k_ => z_tout (tgt := 654) [0, 1, 2, 3, 4, 5, 6, 7, 8, 9, 10, 11, 12, 13, 14, 15, 16] (by decide) dX8_ways_50 (zall_1 h0_ (zall_1 h1_ (zall_1 h2_ (zall_1 h3_ (zall_1 h4_ (zall_1 h5_ (zall_1 h6_ (zall_1 h7_ (zall_1 h8_ (zall_1 h9_ (zall_1 h10_ (zall_1 h11_ (zall_1 h12_ (zall_1 h13_ (zall_1 h14_ (zall_1 h15_ (zall_1 h16_ zall_0))))))))))))))))) rfl k_) ?_
                                    refine Zm.l (fun _ _ k_ => z_aload_n dX8_ways_654 rfl rfl k_) ?_
                                    refine Zm.l (fun _ _ k_ => z_aload_n dX8_ways_655 rfl rfl k_) ?_
                                    refine zm_getr 25 dX8_ways_656 fsX8_89_1 rfl ?_
                                    refine Zm.l (fun _ _ k_ => z_iload_n dX8_ways_659 rfl rfl k_) ?_
                                    obtain ⟨b_, k⟩ := k
                                    refine zm_iald dX8_ways_660 b_ (by decide) (by decide) ?_
                                    refine Zm.l (fun _ _ k_ => z_iload_n dX8_ways_661 rfl rfl k_) ?_
                                    refine Zm.pick [0, 1] rfl ?_
                                    exact zm_callV (as := [vi (gi M 123 (l1).toNatClampNeg), vi (gi M 124 (l1).toNatClampNeg)]) (st := []) dX8_ways_662 vsX8_1270_1 (Nat.le_refl _) (Nat.le_of_ble_eq_true rfl) (Nat.le_of_ble_eq_true rfl) rfl k
theorem sX8_ways_138 {E : zE} {d : Nat} {Q : zO → zM → Prop} (M : zM) (l1 : Int32) (l2 : Int32) (l3 : Int32) (l4 : Int32) (k : Zm E YX8_addValue d M (zargs 0 [vr (some (97, 1, 0)), vi l4, vi l2, vi l3]) 0 [] (zma E YX8_ways (d + 1) [(0, vr (some (97, 1, 0))), (1, vi l1), (4, vi l4)] 143 3 [] Q)) : Zm E YX8_ways (d + 1) M [(0, vr (some (97, 1, 0))), (1, vi l1), (2, vi l2), (3, vi l3), (4, vi l4)] 138 [] Q := by
  refine Zm.l (fun _ _ k_ => z_aload_n dX8_ways_138 rfl rfl k_) ?_
  refine Zm.l (fun _ _ k_ => z_iload dX8_ways_139 rfl k_) ?_
  refine Zm.l (fun _ _ k_ => z_iload_n dX8_ways_141 rfl rfl k_) ?_
  refine Zm.l (fun _ _ k_ => z_iload_n dX8_ways_142 rfl rfl k_) ?_
  refine Zm.pick [0, 1, 4] rfl ?_
  exact zm_callV (as := [vi l4, vi l2, vi l3]) (st := []) dX8_ways_143 vsX8_1219_1 (Nat.le_refl _) (Nat.le_of_ble_eq_true rfl) (Nat.le_of_ble_eq_true rfl) rfl k
theorem sX8_ways_146 {E : zE} {d : Nat} {Q : zO → zM → Prop} (M : zM) (l1 : Int32) (l4 : Int32) (k : Zm E YX8_pushSet d M (zargs 0 [vr (some (97, 1, 0))]) 0 [] (zma E YX8_ways (d + 1) [(0, vr (some (97, 1, 0))), (1, vi l1)] 150 3 [vi l4, vr (some (97, 1, 0))] Q)) : Zm E YX8_ways (d + 1) M [(0, vr (some (97, 1, 0))), (1, vi l1), (4, vi l4)] 146 [] Q := by
  refine Zm.l (fun _ _ k_ => z_aload_n dX8_ways_146 rfl rfl k_) ?_
  refine Zm.l (fun _ _ k_ => z_iload dX8_ways_147 rfl k_) ?_
  refine Zm.l (fun _ _ k_ => z_aload_n dX8_ways_149 rfl rfl k_) ?_
  refine Zm.pick [0, 1] rfl ?_
  exact zm_callV (as := []) (st := [vi l4, vr (some (97, 1, 0))]) dX8_ways_150 vsX8_1201_1 (Nat.le_refl _) (Nat.le_of_ble_eq_true rfl) (Nat.le_of_ble_eq_true rfl) rfl k
theorem sX8_ways_153 {E : zE} {d : Nat} {Q : zO → zM → Prop} (M : zM) (l1 : Int32) (s0 : Int32) (s1 : Int32) (k : Zm E YX8_copySet d M (zargs 0 [vr (some (97, 1, 0)), vi s1, vi s0]) 0 [] (zma E YX8_ways (d + 1) [(0, vr (some (97, 1, 0))), (1, vi l1)] 153 3 [] Q)) : Zm E YX8_ways (d + 1) M [(0, vr (some (97, 1, 0))), (1, vi l1)] 153 [vi s0, vi s1, vr (some (97, 1, 0))] Q := by
  exact zm_callV (as := [vi s1, vi s0]) (st := []) dX8_ways_153 vsX8_1092_1 (Nat.le_refl _) (Nat.le_of_ble_eq_true rfl) (Nat.le_of_ble_eq_true rfl) rfl k
theorem sX8_ways_156 {E : zE} {d : Nat} {Q : zO → zM → Prop} (M : zM) (l1 : Int32) (k : Zm E YX8_on d M (zargs 0 [vr (some (97, 1, 0))]) 0 [] (zma E YX8_ways (d + 1) [(0, vr (some (97, 1, 0))), (1, vi l1)] 157 3 [] Q)) : Zm E YX8_ways (d + 1) M [(0, vr (some (97, 1, 0))), (1, vi l1)] 156 [] Q := by
  refine Zm.l (fun _ _ k_ => z_aload_n dX8_ways_156 rfl rfl k_) ?_
  exact zm_callV (as := []) (st := []) dX8_ways_157 vsX8_1222_1 (Nat.le_refl _) (Nat.le_of_ble_eq_true rfl) (Nat.le_of_ble_eq_true rfl) rfl k
theorem sX8_ways_160 {E : zE} {d : Nat} {Q : zO → zM → Prop} (M : zM) (l1 : Int32) (k : Zm E YX8_ways (d + 1) M [(0, vr (some (97, 1, 0))), (1, vi l1)] 665 [] Q) : Zm E YX8_ways (d + 1) M [(0, vr (some (97, 1, 0))), (1, vi l1)] 160 [] Q := by
  refine Zm.l (fun _ _ k_ => z_goto (tgt := 665) dX8_ways_160 rfl k_) ?_
  exact k
theorem sX8_ways_170 {E : zE} {d : Nat} {Q : zO → zM → Prop} (M : zM) (l1 : Int32) (l3 : Int32) (l4 : Int32) (k : Zm E YX8_noKeys d M (zargs 0 [vr (some (97, 1, 0))]) 0 [] (zma E YX8_ways (d + 1) [(0, vr (some (97, 1, 0))), (1, vi l1), (3, vi l3), (4, vi l4)] 171 3 [] Q)) : Zm E YX8_ways (d + 1) M [(0, vr (some (97, 1, 0))), (1, vi l1), (3, vi l3), (4, vi l4)] 170 [] Q := by
  refine Zm.l (fun _ _ k_ => z_aload_n dX8_ways_170 rfl rfl k_) ?_
  exact zm_callV (as := []) (st := []) dX8_ways_171 vsX8_1135_1 (Nat.le_refl _) (Nat.le_of_ble_eq_true rfl) (Nat.le_of_ble_eq_true rfl) rfl k
theorem sX8_ways_174 {E : zE} {d : Nat} {Q : zO → zM → Prop} (M : zM) (l1 : Int32) (l3 : Int32) (l4 : Int32) (k : Zm E YX8_addKey d M (zargs 0 [vr (some (97, 1, 0)), vi l3]) 0 [] (zma E YX8_ways (d + 1) [(0, vr (some (97, 1, 0))), (1, vi l1), (3, vi l3), (4, vi l4)] 176 3 [] Q)) : Zm E YX8_ways (d + 1) M [(0, vr (some (97, 1, 0))), (1, vi l1), (3, vi l3), (4, vi l4)] 174 [] Q := by
  refine Zm.l (fun _ _ k_ => z_aload_n dX8_ways_174 rfl rfl k_) ?_
  refine Zm.l (fun _ _ k_ => z_iload_n dX8_ways_175 rfl rfl k_) ?_
  exact zm_callV (as := [vi l3]) (st := []) dX8_ways_176 vsX8_1138_1 (Nat.le_refl _) (Nat.le_of_ble_eq_true rfl) (Nat.le_of_ble_eq_true rfl) rfl k
theorem sX8_ways_179 {E : zE} {d : Nat} {Q : zO → zM → Prop} (M : zM) (l1 : Int32) (l3 : Int32) (l4 : Int32) (k : Zm E YX8_empty d M (zargs 0 [vr (some (97, 1, 0)), vi (l4 + (1 : Int32))]) 0 [] (zma E YX8_ways (d + 1) [(0, vr (some (97, 1, 0))), (1, vi l1), (3, vi l3), (4, vi l4)] 184 3 [] Q)) : Zm E YX8_ways (d + 1) M [(0, vr (some (97, 1, 0))), (1, vi l1), (3, vi l3), (4, vi l4)] 179 [] Q := by
  refine Zm.l (fun _ _ k_ => z_aload_n dX8_ways_179 rfl rfl k_) ?_
  refine Zm.l (fun _ _ k_ => z_iload dX8_ways_180 rfl k_) ?_
  refine Zm.l (fun _ _ k_ => z_iconst (v := 1) dX8_ways_182 rfl k_) ?_
  refine Zm.l (fun _ _ k_ => z_iadd dX8_ways_183 k_) ?_
  exact zm_callV (as := [vi (l4 + (1 : Int32))]) (st := []) dX8_ways_184 vsX8_1066_1 (Nat.le_refl _) (Nat.le_of_ble_eq_true rfl) (Nat.le_of_ble_eq_true rfl) rfl k
theorem sX8_ways_187 {E : zE} {d : Nat} {Q : zO → zM → Prop} (M : zM) (l1 : Int32) (l3 : Int32) (l4 : Int32) (k : Zm E YX8_ways (d + 1) M [(0, vr (some (97, 1, 0))), (1, vi l1), (3, vi l3), (4, vi l4), (5, vi (0 : Int32))] 190 [] Q) : Zm E YX8_ways (d + 1) M [(0, vr (some (97, 1, 0))), (1, vi l1), (3, vi l3), (4, vi l4)] 187 [] Q := by
  refine Zm.l (fun _ _ k_ => z_iconst (v := 0) dX8_ways_187 rfl k_) ?_
  refine Zm.l (fun _ _ k_ => z_ist dX8_ways_188 (by decide) (lv' := [(0, vr (some (97, 1, 0))), (1, vi l1), (3, vi l3), (4, vi l4), (5, vi (0 : Int32))]) rfl k_) ?_
  exact k
theorem sX8_ways_190 {E : zE} {d : Nat} {Q : zO → zM → Prop} (M : zM) (l1 : Int32) (l3 : Int32) (l4 : Int32) (l5 : Int32) (k : if (gi M 97 71) ≤ l5 then (Zm E YX8_pushSet d M (zargs 0 [vr (some (97, 1, 0))]) 0 [] (zma E YX8_ways (d + 1) [(0, vr (some (97, 1, 0))), (1, vi l1), (4, vi l4)] 251 3 [vi (l4 + (1 : Int32)), vr (some (97, 1, 0))] Q)) else (vp_in l4 647800 ∧ (vp_in l4 647800 ∧ (Zm E YX8_isIn d M (zargs 0 [vl (gl M 166 (l4).toNatClampNeg), vl (gl M 167 (l4).toNatClampNeg), vi l5]) 0 [] (zma E YX8_ways (d + 1) [(0, vr (some (97, 1, 0))), (1, vi l1), (3, vi l3), (4, vi l4), (5, vi l5)] 215 3 [] Q))))) : Zm E YX8_ways (d + 1) M [(0, vr (some (97, 1, 0))), (1, vi l1), (3, vi l3), (4, vi l4), (5, vi l5)] 190 [] Q := by
  refine Zm.l (fun _ _ k_ => z_iload dX8_ways_190 rfl k_) ?_
  refine Zm.l (fun _ _ k_ => z_aload_n dX8_ways_192 rfl rfl k_) ?_
  refine zm_geti dX8_ways_193 fsX8_765_1 (by decide) (by decide) ?_
  refine Zm.br (fun _ _ k1_ k2_ => z_icmp_ge (tgt := 245) dX8_ways_196 rfl k1_ k2_) (fun h_ => ?_) (fun h_ => ?_)
  · have k := zit h_ k
    refine Zm.l (fun _ _ k_ => z_aload_n dX8_ways_245 rfl rfl k_) ?_
    refine Zm.l (fun _ _ k_ => z_iload dX8_ways_246 rfl k_) ?_
    refine Zm.l (fun _ _ k_ => z_iconst (v := 1) dX8_ways_248 rfl k_) ?_
    refine Zm.l (fun _ _ k_ => z_iadd dX8_ways_249 k_) ?_
    refine Zm.l (fun _ _ k_ => z_aload_n dX8_ways_250 rfl rfl k_) ?_
    refine Zm.pick [0, 1, 3] rfl ?_
    exact zm_callV (as := []) (st := [vi (l4 + (1 : Int32)), vr (some (97, 1, 0))]) dX8_ways_251 vsX8_1201_1 (Nat.le_refl _) (Nat.le_of_ble_eq_true rfl) (Nat.le_of_ble_eq_true rfl) rfl k
  · have k := zif h_ k
    refine Zm.l (fun _ _ k_ => z_aload_n dX8_ways_199 rfl rfl k_) ?_
    refine zm_getr 63 dX8_ways_200 fsX8_220_1 rfl ?_
    refine Zm.l (fun _ _ k_ => z_iload dX8_ways_203 rfl k_) ?_
    obtain ⟨b_, k⟩ := k
    refine zm_lald dX8_ways_205 b_ (by decide) (by decide) ?_
    refine Zm.l (fun _ _ k_ => z_aload_n dX8_ways_206 rfl rfl k_) ?_
    refine zm_getr 64 dX8_ways_207 fsX8_223_1 rfl ?_
    refine Zm.l (fun _ _ k_ => z_iload dX8_ways_210 rfl k_) ?_
    obtain ⟨b_, k⟩ := k
    refine zm_lald dX8_ways_212 b_ (by decide) (by decide) ?_
    refine Zm.l (fun _ _ k_ => z_iload dX8_ways_213 rfl k_) ?_
    exact zm_callS (as := [vl (gl M 166 (l4).toNatClampNeg), vl (gl M 167 (l4).toNatClampNeg), vi l5]) (st := []) dX8_ways_215 ssX8_1125 (Nat.le_refl _) (Nat.le_of_ble_eq_true rfl) (Nat.le_of_ble_eq_true rfl) rfl k
theorem sX8_ways_218 {E : zE} {d : Nat} {Q : zO → zM → Prop} (M : zM) (l1 : Int32) (l3 : Int32) (l4 : Int32) (l5 : Int32) (s0 : Int32) (k : if s0 = 0 then (Zm E YX8_ways (d + 1) M [(0, vr (some (97, 1, 0))), (1, vi l1), (3, vi l3), (4, vi l4), (5, vi l5)] 239 [] Q) else (Zm E YX8_field d M (zargs 0 [vr (some (97, 1, 0)), vi (639 : Int32), vi l5, vi l3]) 0 [] (zma E YX8_ways (d + 1) [(0, vr (some (97, 1, 0))), (1, vi l1), (3, vi l3), (4, vi l4), (5, vi l5)] 229 3 [vr (some (97, 1, 0))] Q))) : Zm E YX8_ways (d + 1) M [(0, vr (some (97, 1, 0))), (1, vi l1), (3, vi l3), (4, vi l4), (5, vi l5)] 218 [vi s0] Q := by
  refine Zm.br (fun _ _ k1_ k2_ => z_if_eq (tgt := 239) dX8_ways_218 rfl k1_ k2_) (fun h_ => ?_) (fun h_ => ?_)
  · have k := zit h_ k
    exact k
  · have k := zif h_ k
    refine Zm.l (fun _ _ k_ => z_aload_n dX8_ways_221 rfl rfl k_) ?_
    refine Zm.l (fun _ _ k_ => z_aload_n dX8_ways_222 rfl rfl k_) ?_
    refine Zm.l (fun _ _ k_ => z_sipush (v := 639) dX8_ways_223 rfl k_) ?_
    refine Zm.l (fun _ _ k_ => z_iload dX8_ways_226 rfl k_) ?_
    refine Zm.l (fun _ _ k_ => z_iload_n dX8_ways_228 rfl rfl k_) ?_
    exact zm_callV (as := [vi (639 : Int32), vi l5, vi l3]) (st := [vr (some (97, 1, 0))]) dX8_ways_229 vsX8_1163_1 (Nat.le_refl _) (Nat.le_of_ble_eq_true rfl) (Nat.le_of_ble_eq_true rfl) rfl k
theorem sX8_ways_232 {E : zE} {d : Nat} {Q : zO → zM → Prop} (M : zM) (l1 : Int32) (l3 : Int32) (l4 : Int32) (l5 : Int32) (s0 : Int32) (k : Zm E YX8_joinPlain d M (zargs 0 [vr (some (97, 1, 0)), vi s0, vi (l4 + (1 : Int32))]) 0 [] (zma E YX8_ways (d + 1) [(0, vr (some (97, 1, 0))), (1, vi l1), (3, vi l3), (4, vi l4), (5, vi l5)] 236 3 [] Q)) : Zm E YX8_ways (d + 1) M [(0, vr (some (97, 1, 0))), (1, vi l1), (3, vi l3), (4, vi l4), (5, vi l5)] 232 [vi s0, vr (some (97, 1, 0))] Q := by
  refine Zm.l (fun _ _ k_ => z_iload dX8_ways_232 rfl k_) ?_
  refine Zm.l (fun _ _ k_ => z_iconst (v := 1) dX8_ways_234 rfl k_) ?_
  refine Zm.l (fun _ _ k_ => z_iadd dX8_ways_235 k_) ?_
  exact zm_callV (as := [vi s0, vi (l4 + (1 : Int32))]) (st := []) dX8_ways_236 vsX8_1228_1 (Nat.le_refl _) (Nat.le_of_ble_eq_true rfl) (Nat.le_of_ble_eq_true rfl) rfl k
theorem sX8_ways_239 {E : zE} {d : Nat} {Q : zO → zM → Prop} (M : zM) (l1 : Int32) (l3 : Int32) (l4 : Int32) (l5 : Int32) (k : Zm E YX8_ways (d + 1) M [(0, vr (some (97, 1, 0))), (1, vi l1), (3, vi l3), (4, vi l4), (5, vi (l5 + (1 : Int32)))] 190 [] Q) : Zm E YX8_ways (d + 1) M [(0, vr (some (97, 1, 0))), (1, vi l1), (3, vi l3), (4, vi l4), (5, vi l5)] 239 [] Q := by
  refine Zm.l (fun _ _ k_ => z_inc (v := (l5 + (1 : Int32))) dX8_ways_239 rfl rfl (by decide) (lv' := [(0, vr (some (97, 1, 0))), (1, vi l1), (3, vi l3), (4, vi l4), (5, vi (l5 + (1 : Int32)))]) rfl k_) ?_
  refine Zm.l (fun _ _ k_ => z_goto (tgt := 190) dX8_ways_242 rfl k_) ?_
  exact k
theorem sX8_ways_254 {E : zE} {d : Nat} {Q : zO → zM → Prop} (M : zM) (l1 : Int32) (l4 : Int32) (s0 : Int32) (s1 : Int32) (k : Zm E YX8_copySet d M (zargs 0 [vr (some (97, 1, 0)), vi s1, vi s0]) 0 [] (zma E YX8_ways (d + 1) [(0, vr (some (97, 1, 0))), (1, vi l1), (4, vi l4)] 254 3 [] Q)) : Zm E YX8_ways (d + 1) M [(0, vr (some (97, 1, 0))), (1, vi l1), (4, vi l4)] 254 [vi s0, vi s1, vr (some (97, 1, 0))] Q := by
  exact zm_callV (as := [vi s1, vi s0]) (st := []) dX8_ways_254 vsX8_1092_1 (Nat.le_refl _) (Nat.le_of_ble_eq_true rfl) (Nat.le_of_ble_eq_true rfl) rfl k
theorem sX8_ways_257 {E : zE} {d : Nat} {Q : zO → zM → Prop} (M : zM) (l1 : Int32) (l4 : Int32) (k : Zm E YX8_isEmpty d M (zargs 0 [vr (some (97, 1, 0)), vi (l4 + (1 : Int32))]) 0 [] (zma E YX8_ways (d + 1) [(0, vr (some (97, 1, 0))), (1, vi l1)] 262 3 [] Q)) : Zm E YX8_ways (d + 1) M [(0, vr (some (97, 1, 0))), (1, vi l1), (4, vi l4)] 257 [] Q := by
  refine Zm.l (fun _ _ k_ => z_aload_n dX8_ways_257 rfl rfl k_) ?_
  refine Zm.l (fun _ _ k_ => z_iload dX8_ways_258 rfl k_) ?_
  refine Zm.l (fun _ _ k_ => z_iconst (v := 1) dX8_ways_260 rfl k_) ?_
  refine Zm.l (fun _ _ k_ => z_iadd dX8_ways_261 k_) ?_
  refine Zm.pick [0, 1] rfl ?_
  exact zm_callV (as := [vi (l4 + (1 : Int32))]) (st := []) dX8_ways_262 vsX8_1231_1 (Nat.le_refl _) (Nat.le_of_ble_eq_true rfl) (Nat.le_of_ble_eq_true rfl) rfl k
theorem sX8_ways_265 {E : zE} {d : Nat} {Q : zO → zM → Prop} (M : zM) (l1 : Int32) (s0 : Int32) (k : if s0 = 0 then (Zm E YX8_on d M (zargs 0 [vr (some (97, 1, 0))]) 0 [] (zma E YX8_ways (d + 1) [(0, vr (some (97, 1, 0))), (1, vi l1)] 269 3 [] Q)) else (Zm E YX8_ways (d + 1) M [(0, vr (some (97, 1, 0))), (1, vi l1)] 665 [] Q)) : Zm E YX8_ways (d + 1) M [(0, vr (some (97, 1, 0))), (1, vi l1)] 265 [vi s0] Q := by
  refine Zm.brn (fun _ _ k1_ k2_ => z_if_ne (tgt := 665) dX8_ways_265 rfl k1_ k2_) (fun h_ => ?_) (fun h_ => ?_)
  · have k := zif h_ k
    exact k
  · have k := zit h_ k
    refine Zm.l (fun _ _ k_ => z_aload_n dX8_ways_268 rfl rfl k_) ?_
    exact zm_callV (as := []) (st := []) dX8_ways_269 vsX8_1222_1 (Nat.le_refl _) (Nat.le_of_ble_eq_true rfl) (Nat.le_of_ble_eq_true rfl) rfl k
theorem sX8_ways_272 {E : zE} {d : Nat} {Q : zO → zM → Prop} (M : zM) (l1 : Int32) (k : Zm E YX8_ways (d + 1) M [(0, vr (some (97, 1, 0))), (1, vi l1)] 665 [] Q) : Zm E YX8_ways (d + 1) M [(0, vr (some (97, 1, 0))), (1, vi l1)] 272 [] Q := by
  refine Zm.l (fun _ _ k_ => z_goto (tgt := 665) dX8_ways_272 rfl k_) ?_
  exact k
theorem sX8_ways_282 {E : zE} {d : Nat} {Q : zO → zM → Prop} (M : zM) (l1 : Int32) (l3 : Int32) (l4 : Int32) (k : Zm E YX8_noKeys d M (zargs 0 [vr (some (97, 1, 0))]) 0 [] (zma E YX8_ways (d + 1) [(0, vr (some (97, 1, 0))), (1, vi l1), (3, vi l3), (4, vi l4)] 283 3 [] Q)) : Zm E YX8_ways (d + 1) M [(0, vr (some (97, 1, 0))), (1, vi l1), (3, vi l3), (4, vi l4)] 282 [] Q := by
  refine Zm.l (fun _ _ k_ => z_aload_n dX8_ways_282 rfl rfl k_) ?_
  exact zm_callV (as := []) (st := []) dX8_ways_283 vsX8_1135_1 (Nat.le_refl _) (Nat.le_of_ble_eq_true rfl) (Nat.le_of_ble_eq_true rfl) rfl k
theorem sX8_ways_286 {E : zE} {d : Nat} {Q : zO → zM → Prop} (M : zM) (l1 : Int32) (l3 : Int32) (l4 : Int32) (k : Zm E YX8_addKey d M (zargs 0 [vr (some (97, 1, 0)), vi l3]) 0 [] (zma E YX8_ways (d + 1) [(0, vr (some (97, 1, 0))), (1, vi l1), (4, vi l4)] 288 3 [] Q)) : Zm E YX8_ways (d + 1) M [(0, vr (some (97, 1, 0))), (1, vi l1), (3, vi l3), (4, vi l4)] 286 [] Q := by
  refine Zm.l (fun _ _ k_ => z_aload_n dX8_ways_286 rfl rfl k_) ?_
  refine Zm.l (fun _ _ k_ => z_iload_n dX8_ways_287 rfl rfl k_) ?_
  refine Zm.pick [0, 1, 3] rfl ?_
  exact zm_callV (as := [vi l3]) (st := []) dX8_ways_288 vsX8_1138_1 (Nat.le_refl _) (Nat.le_of_ble_eq_true rfl) (Nat.le_of_ble_eq_true rfl) rfl k
theorem sX8_ways_291 {E : zE} {d : Nat} {Q : zO → zM → Prop} (M : zM) (l1 : Int32) (l4 : Int32) (k : vp_in l4 647800 ∧ (vp_in l4 647800 ∧ (Zm E YX8_fromTop d M (zargs 0 [vr (some (97, 1, 0)), vi (0 : Int32)]) 0 [] (zma E YX8_ways (d + 1) [(0, vr (some (97, 1, 0))), (1, vi l1)] 308 3 [vl (gl M 167 (l4).toNatClampNeg), vl (gl M 166 (l4).toNatClampNeg), vr (some (97, 1, 0))] Q)))) : Zm E YX8_ways (d + 1) M [(0, vr (some (97, 1, 0))), (1, vi l1), (4, vi l4)] 291 [] Q := by
  refine Zm.l (fun _ _ k_ => z_aload_n dX8_ways_291 rfl rfl k_) ?_
  refine Zm.l (fun _ _ k_ => z_aload_n dX8_ways_292 rfl rfl k_) ?_
  refine zm_getr 63 dX8_ways_293 fsX8_220_1 rfl ?_
  refine Zm.l (fun _ _ k_ => z_iload dX8_ways_296 rfl k_) ?_
  obtain ⟨b_, k⟩ := k
  refine zm_lald dX8_ways_298 b_ (by decide) (by decide) ?_
  refine Zm.l (fun _ _ k_ => z_aload_n dX8_ways_299 rfl rfl k_) ?_
  refine zm_getr 64 dX8_ways_300 fsX8_223_1 rfl ?_
  refine Zm.l (fun _ _ k_ => z_iload dX8_ways_303 rfl k_) ?_
  obtain ⟨b_, k⟩ := k
  refine zm_lald dX8_ways_305 b_ (by decide) (by decide) ?_
  refine Zm.l (fun _ _ k_ => z_aload_n dX8_ways_306 rfl rfl k_) ?_
  refine Zm.l (fun _ _ k_ => z_iconst (v := 0) dX8_ways_307 rfl k_) ?_
  refine Zm.pick [0, 1] rfl ?_
  exact zm_callV (as := [vi (0 : Int32)]) (st := [vl (gl M 167 (l4).toNatClampNeg), vl (gl M 166 (l4).toNatClampNeg), vr (some (97, 1, 0))]) dX8_ways_308 vsX8_1195_1 (Nat.le_refl _) (Nat.le_of_ble_eq_true rfl) (Nat.le_of_ble_eq_true rfl) rfl k
theorem sX8_ways_311 {E : zE} {d : Nat} {Q : zO → zM → Prop} (M : zM) (l1 : Int32) (s0 : Int32) (s1 : Int64) (s2 : Int64) (k : Zm E YX8_writeTo d M (zargs 0 [vr (some (97, 1, 0)), vl s2, vl s1, vi s0, vi (1 : Int32), vi (0 : Int32)]) 0 [] (zma E YX8_ways (d + 1) [(0, vr (some (97, 1, 0))), (1, vi l1)] 313 3 [] Q)) : Zm E YX8_ways (d + 1) M [(0, vr (some (97, 1, 0))), (1, vi l1)] 311 [vi s0, vl s1, vl s2, vr (some (97, 1, 0))] Q := by
  refine Zm.l (fun _ _ k_ => z_iconst (v := 1) dX8_ways_311 rfl k_) ?_
  refine Zm.l (fun _ _ k_ => z_iconst (v := 0) dX8_ways_312 rfl k_) ?_
  exact zm_callV (as := [vl s2, vl s1, vi s0, vi (1 : Int32), vi (0 : Int32)]) (st := []) dX8_ways_313 vsX8_1234_1 (Nat.le_refl _) (Nat.le_of_ble_eq_true rfl) (Nat.le_of_ble_eq_true rfl) rfl k
theorem sX8_ways_316 {E : zE} {d : Nat} {Q : zO → zM → Prop} (M : zM) (l1 : Int32) (k : Zm E YX8_on d M (zargs 0 [vr (some (97, 1, 0))]) 0 [] (zma E YX8_ways (d + 1) [(0, vr (some (97, 1, 0))), (1, vi l1)] 317 3 [] Q)) : Zm E YX8_ways (d + 1) M [(0, vr (some (97, 1, 0))), (1, vi l1)] 316 [] Q := by
  refine Zm.l (fun _ _ k_ => z_aload_n dX8_ways_316 rfl rfl k_) ?_
  exact zm_callV (as := []) (st := []) dX8_ways_317 vsX8_1222_1 (Nat.le_refl _) (Nat.le_of_ble_eq_true rfl) (Nat.le_of_ble_eq_true rfl) rfl k
theorem sX8_ways_320 {E : zE} {d : Nat} {Q : zO → zM → Prop} (M : zM) (l1 : Int32) (k : Zm E YX8_ways (d + 1) M [(0, vr (some (97, 1, 0))), (1, vi l1)] 665 [] Q) : Zm E YX8_ways (d + 1) M [(0, vr (some (97, 1, 0))), (1, vi l1)] 320 [] Q := by
  refine Zm.l (fun _ _ k_ => z_goto (tgt := 665) dX8_ways_320 rfl k_) ?_
  exact k
theorem sX8_ways_343 {E : zE} {d : Nat} {Q : zO → zM → Prop} (M : zM) (l1 : Int32) (k : Zm E YX8_ways (d + 1) M [(0, vr (some (97, 1, 0))), (1, vi l1)] 665 [] Q) : Zm E YX8_ways (d + 1) M [(0, vr (some (97, 1, 0))), (1, vi l1)] 343 [] Q := by
  refine Zm.l (fun _ _ k_ => z_goto (tgt := 665) dX8_ways_343 rfl k_) ?_
  exact k
theorem sX8_ways_350 {E : zE} {d : Nat} {Q : zO → zM → Prop} (M : zM) (l1 : Int32) (l3 : Int32) (k : Zm E YX8_addKey d M (zargs 0 [vr (some (97, 1, 0)), vi l3]) 0 [] (zma E YX8_ways (d + 1) [(0, vr (some (97, 1, 0))), (1, vi l1)] 352 3 [] Q)) : Zm E YX8_ways (d + 1) M [(0, vr (some (97, 1, 0))), (1, vi l1), (3, vi l3)] 350 [] Q := by
  refine Zm.l (fun _ _ k_ => z_aload_n dX8_ways_350 rfl rfl k_) ?_
  refine Zm.l (fun _ _ k_ => z_iload_n dX8_ways_351 rfl rfl k_) ?_
  refine Zm.pick [0, 1] rfl ?_
  exact zm_callV (as := [vi l3]) (st := []) dX8_ways_352 vsX8_1138_1 (Nat.le_refl _) (Nat.le_of_ble_eq_true rfl) (Nat.le_of_ble_eq_true rfl) rfl k
theorem sX8_ways_355 {E : zE} {d : Nat} {Q : zO → zM → Prop} (M : zM) (l1 : Int32) (k : Zm E YX8_fromTop d M (zargs 0 [vr (some (97, 1, 0)), vi (0 : Int32)]) 0 [] (zma E YX8_ways (d + 1) [(0, vr (some (97, 1, 0))), (1, vi l1)] 360 3 [vl (0 : Int64), vl (1 : Int64), vr (some (97, 1, 0))] Q)) : Zm E YX8_ways (d + 1) M [(0, vr (some (97, 1, 0))), (1, vi l1)] 355 [] Q := by
  refine Zm.l (fun _ _ k_ => z_aload_n dX8_ways_355 rfl rfl k_) ?_
  refine Zm.l (fun _ _ k_ => z_lconst (v := 1) dX8_ways_356 rfl k_) ?_
  refine Zm.l (fun _ _ k_ => z_lconst (v := 0) dX8_ways_357 rfl k_) ?_
  refine Zm.l (fun _ _ k_ => z_aload_n dX8_ways_358 rfl rfl k_) ?_
  refine Zm.l (fun _ _ k_ => z_iconst (v := 0) dX8_ways_359 rfl k_) ?_
  exact zm_callV (as := [vi (0 : Int32)]) (st := [vl (0 : Int64), vl (1 : Int64), vr (some (97, 1, 0))]) dX8_ways_360 vsX8_1195_1 (Nat.le_refl _) (Nat.le_of_ble_eq_true rfl) (Nat.le_of_ble_eq_true rfl) rfl k
theorem sX8_ways_363 {E : zE} {d : Nat} {Q : zO → zM → Prop} (M : zM) (l1 : Int32) (s0 : Int32) (s1 : Int64) (s2 : Int64) (k : Zm E YX8_writeTo d M (zargs 0 [vr (some (97, 1, 0)), vl s2, vl s1, vi s0, vi (1 : Int32), vi (0 : Int32)]) 0 [] (zma E YX8_ways (d + 1) [(0, vr (some (97, 1, 0))), (1, vi l1)] 365 3 [] Q)) : Zm E YX8_ways (d + 1) M [(0, vr (some (97, 1, 0))), (1, vi l1)] 363 [vi s0, vl s1, vl s2, vr (some (97, 1, 0))] Q := by
  refine Zm.l (fun _ _ k_ => z_iconst (v := 1) dX8_ways_363 rfl k_) ?_
  refine Zm.l (fun _ _ k_ => z_iconst (v := 0) dX8_ways_364 rfl k_) ?_
  exact zm_callV (as := [vl s2, vl s1, vi s0, vi (1 : Int32), vi (0 : Int32)]) (st := []) dX8_ways_365 vsX8_1234_1 (Nat.le_refl _) (Nat.le_of_ble_eq_true rfl) (Nat.le_of_ble_eq_true rfl) rfl k
theorem sX8_ways_368 {E : zE} {d : Nat} {Q : zO → zM → Prop} (M : zM) (l1 : Int32) (k : Zm E YX8_on d M (zargs 0 [vr (some (97, 1, 0))]) 0 [] (zma E YX8_ways (d + 1) [(0, vr (some (97, 1, 0))), (1, vi l1)] 369 3 [] Q)) : Zm E YX8_ways (d + 1) M [(0, vr (some (97, 1, 0))), (1, vi l1)] 368 [] Q := by
  refine Zm.l (fun _ _ k_ => z_aload_n dX8_ways_368 rfl rfl k_) ?_
  exact zm_callV (as := []) (st := []) dX8_ways_369 vsX8_1222_1 (Nat.le_refl _) (Nat.le_of_ble_eq_true rfl) (Nat.le_of_ble_eq_true rfl) rfl k
theorem sX8_ways_372 {E : zE} {d : Nat} {Q : zO → zM → Prop} (M : zM) (l1 : Int32) (k : Zm E YX8_ways (d + 1) M [(0, vr (some (97, 1, 0))), (1, vi l1)] 665 [] Q) : Zm E YX8_ways (d + 1) M [(0, vr (some (97, 1, 0))), (1, vi l1)] 372 [] Q := by
  refine Zm.l (fun _ _ k_ => z_goto (tgt := 665) dX8_ways_372 rfl k_) ?_
  exact k
theorem sX8_ways_383 {E : zE} {d : Nat} {Q : zO → zM → Prop} (M : zM) (l1 : Int32) (s0 : Int32) (k : Zm E YX8_pushSet d M (zargs 0 [vr (some (97, 1, 0))]) 0 [] (zma E YX8_ways (d + 1) [(0, vr (some (97, 1, 0))), (1, vi l1)] 384 3 [vi s0, vr (some (97, 1, 0))] Q)) : Zm E YX8_ways (d + 1) M [(0, vr (some (97, 1, 0))), (1, vi l1)] 383 [vi s0, vr (some (97, 1, 0))] Q := by
  refine Zm.l (fun _ _ k_ => z_aload_n dX8_ways_383 rfl rfl k_) ?_
  exact zm_callV (as := []) (st := [vi s0, vr (some (97, 1, 0))]) dX8_ways_384 vsX8_1201_1 (Nat.le_refl _) (Nat.le_of_ble_eq_true rfl) (Nat.le_of_ble_eq_true rfl) rfl k
theorem sX8_ways_387 {E : zE} {d : Nat} {Q : zO → zM → Prop} (M : zM) (l1 : Int32) (s0 : Int32) (s1 : Int32) (k : Zm E YX8_copySet d M (zargs 0 [vr (some (97, 1, 0)), vi s1, vi s0]) 0 [] (zma E YX8_ways (d + 1) [(0, vr (some (97, 1, 0))), (1, vi l1)] 387 3 [] Q)) : Zm E YX8_ways (d + 1) M [(0, vr (some (97, 1, 0))), (1, vi l1)] 387 [vi s0, vi s1, vr (some (97, 1, 0))] Q := by
  exact zm_callV (as := [vi s1, vi s0]) (st := []) dX8_ways_387 vsX8_1092_1 (Nat.le_refl _) (Nat.le_of_ble_eq_true rfl) (Nat.le_of_ble_eq_true rfl) rfl k
theorem sX8_ways_390 {E : zE} {d : Nat} {Q : zO → zM → Prop} (M : zM) (l1 : Int32) (k : Zm E YX8_on d M (zargs 0 [vr (some (97, 1, 0))]) 0 [] (zma E YX8_ways (d + 1) [(0, vr (some (97, 1, 0))), (1, vi l1)] 391 3 [] Q)) : Zm E YX8_ways (d + 1) M [(0, vr (some (97, 1, 0))), (1, vi l1)] 390 [] Q := by
  refine Zm.l (fun _ _ k_ => z_aload_n dX8_ways_390 rfl rfl k_) ?_
  exact zm_callV (as := []) (st := []) dX8_ways_391 vsX8_1222_1 (Nat.le_refl _) (Nat.le_of_ble_eq_true rfl) (Nat.le_of_ble_eq_true rfl) rfl k
theorem sX8_ways_394 {E : zE} {d : Nat} {Q : zO → zM → Prop} (M : zM) (l1 : Int32) (k : Zm E YX8_ways (d + 1) M [(0, vr (some (97, 1, 0))), (1, vi l1)] 665 [] Q) : Zm E YX8_ways (d + 1) M [(0, vr (some (97, 1, 0))), (1, vi l1)] 394 [] Q := by
  refine Zm.l (fun _ _ k_ => z_goto (tgt := 665) dX8_ways_394 rfl k_) ?_
  exact k
theorem sX8_ways_402 {E : zE} {d : Nat} {Q : zO → zM → Prop} (M : zM) (l1 : Int32) (s0 : Int32) (k : vp_in l1 600 ∧ (if (gi M 123 (l1).toNatClampNeg) = (7 : Int32) then (Zm E YX8_make d M (zargs 0 [vr (some (97, 1, 0)), vi s0, vi (1 : Int32)]) 0 [] (zma E YX8_ways (d + 1) [(0, vr (some (97, 1, 0))), (1, vi l1), (5, vi s0)] 423 3 [] Q)) else (Zm E YX8_make d M (zargs 0 [vr (some (97, 1, 0)), vi s0, vi (3 : Int32)]) 0 [] (zma E YX8_ways (d + 1) [(0, vr (some (97, 1, 0))), (1, vi l1), (5, vi s0)] 423 3 [] Q)))) : Zm E YX8_ways (d + 1) M [(0, vr (some (97, 1, 0))), (1, vi l1)] 402 [vi s0] Q := by
  refine Zm.l (fun _ _ k_ => z_ist dX8_ways_402 (by decide) (lv' := [(0, vr (some (97, 1, 0))), (1, vi l1), (5, vi s0)]) rfl k_) ?_
  refine Zm.l (fun _ _ k_ => z_aload_n dX8_ways_404 rfl rfl k_) ?_
  refine Zm.l (fun _ _ k_ => z_iload dX8_ways_405 rfl k_) ?_
  refine Zm.l (fun _ _ k_ => z_aload_n dX8_ways_407 rfl rfl k_) ?_
  refine zm_getr 25 dX8_ways_408 fsX8_89_1 rfl ?_
  refine Zm.l (fun _ _ k_ => z_iload_n dX8_ways_411 rfl rfl k_) ?_
  obtain ⟨b_, k⟩ := k
  refine zm_iald dX8_ways_412 b_ (by decide) (by decide) ?_
  refine Zm.l (fun _ _ k_ => z_bipush (v := 7) dX8_ways_413 rfl k_) ?_
  refine Zm.brn (fun _ _ k1_ k2_ => z_icmp_ne (tgt := 422) dX8_ways_415 rfl k1_ k2_) (fun h_ => ?_) (fun h_ => ?_)
  · have k := zif h_ k
    refine Zm.l (fun _ _ k_ => z_iconst (v := 3) dX8_ways_422 rfl k_) ?_
    exact zm_callV (as := [vi s0, vi (3 : Int32)]) (st := []) dX8_ways_423 vsX8_1241_1 (Nat.le_refl _) (Nat.le_of_ble_eq_true rfl) (Nat.le_of_ble_eq_true rfl) rfl k
  · have k := zit h_ k
    refine Zm.l (fun _ _ k_ => z_iconst (v := 1) dX8_ways_418 rfl k_) ?_
    refine Zm.l (fun _ _ k_ => z_goto (tgt := 423) dX8_ways_419 rfl k_) ?_
    exact zm_callV (as := [vi s0, vi (1 : Int32)]) (st := []) dX8_ways_423 vsX8_1241_1 (Nat.le_refl _) (Nat.le_of_ble_eq_true rfl) (Nat.le_of_ble_eq_true rfl) rfl k
theorem sX8_ways_426 {E : zE} {d : Nat} {Q : zO → zM → Prop} (M : zM) (l1 : Int32) (l5 : Int32) (k : vp_in l1 600 ∧ (if (gi M 123 (l1).toNatClampNeg) = (8 : Int32) then (Zm E YX8_fresh_2 d M (zargs 0 [vr (some (97, 1, 0)), vi l5, vi (0 : Int32)]) 0 [] (zma E YX8_ways (d + 1) [(0, vr (some (97, 1, 0))), (1, vi l1), (5, vi l5)] 442 3 [vr (some (97, 1, 0))] Q)) else (Zm E YX8_ways (d + 1) M [(0, vr (some (97, 1, 0))), (1, vi l1), (5, vi l5)] 449 [] Q))) : Zm E YX8_ways (d + 1) M [(0, vr (some (97, 1, 0))), (1, vi l1), (5, vi l5)] 426 [] Q := by
  refine Zm.l (fun _ _ k_ => z_aload_n dX8_ways_426 rfl rfl k_) ?_
  refine zm_getr 25 dX8_ways_427 fsX8_89_1 rfl ?_
  refine Zm.l (fun _ _ k_ => z_iload_n dX8_ways_430 rfl rfl k_) ?_
  obtain ⟨b_, k⟩ := k
  refine zm_iald dX8_ways_431 b_ (by decide) (by decide) ?_
  refine Zm.l (fun _ _ k_ => z_bipush (v := 8) dX8_ways_432 rfl k_) ?_
  refine Zm.brn (fun _ _ k1_ k2_ => z_icmp_ne (tgt := 449) dX8_ways_434 rfl k1_ k2_) (fun h_ => ?_) (fun h_ => ?_)
  · have k := zif h_ k
    exact k
  · have k := zit h_ k
    refine Zm.l (fun _ _ k_ => z_aload_n dX8_ways_437 rfl rfl k_) ?_
    refine Zm.l (fun _ _ k_ => z_aload_n dX8_ways_438 rfl rfl k_) ?_
    refine Zm.l (fun _ _ k_ => z_iload dX8_ways_439 rfl k_) ?_
    refine Zm.l (fun _ _ k_ => z_iconst (v := 0) dX8_ways_441 rfl k_) ?_
    exact zm_callV (as := [vi l5, vi (0 : Int32)]) (st := [vr (some (97, 1, 0))]) dX8_ways_442 vsX8_1244_1 (Nat.le_refl _) (Nat.le_of_ble_eq_true rfl) (Nat.le_of_ble_eq_true rfl) rfl k
theorem sX8_ways_445 {E : zE} {d : Nat} {Q : zO → zM → Prop} (M : zM) (l1 : Int32) (l5 : Int32) (s0 : Int32) (k : Zm E YX8_addNumber d M (zargs 0 [vr (some (97, 1, 0)), vi s0, vi (0 : Int32)]) 0 [] (zma E YX8_ways (d + 1) [(0, vr (some (97, 1, 0))), (1, vi l1), (5, vi l5)] 446 3 [] Q)) : Zm E YX8_ways (d + 1) M [(0, vr (some (97, 1, 0))), (1, vi l1), (5, vi l5)] 445 [vi s0, vr (some (97, 1, 0))] Q := by
  refine Zm.l (fun _ _ k_ => z_iconst (v := 0) dX8_ways_445 rfl k_) ?_
  exact zm_callV (as := [vi s0, vi (0 : Int32)]) (st := []) dX8_ways_446 vsX8_1075_1 (Nat.le_refl _) (Nat.le_of_ble_eq_true rfl) (Nat.le_of_ble_eq_true rfl) rfl k
theorem sX8_ways_449 {E : zE} {d : Nat} {Q : zO → zM → Prop} (M : zM) (l1 : Int32) (l5 : Int32) (k : Zm E YX8_pushSet d M (zargs 0 [vr (some (97, 1, 0))]) 0 [] (zma E YX8_ways (d + 1) [(0, vr (some (97, 1, 0))), (1, vi l1), (5, vi l5)] 451 3 [vr (some (97, 1, 0))] Q)) : Zm E YX8_ways (d + 1) M [(0, vr (some (97, 1, 0))), (1, vi l1), (5, vi l5)] 449 [] Q := by
  refine Zm.l (fun _ _ k_ => z_aload_n dX8_ways_449 rfl rfl k_) ?_
  refine Zm.l (fun _ _ k_ => z_aload_n dX8_ways_450 rfl rfl k_) ?_
  exact zm_callV (as := []) (st := [vr (some (97, 1, 0))]) dX8_ways_451 vsX8_1201_1 (Nat.le_refl _) (Nat.le_of_ble_eq_true rfl) (Nat.le_of_ble_eq_true rfl) rfl k
theorem sX8_ways_454 {E : zE} {d : Nat} {Q : zO → zM → Prop} (M : zM) (l1 : Int32) (l5 : Int32) (s0 : Int32) (k : Zm E YX8_addLabel d M (zargs 0 [vr (some (97, 1, 0)), vi s0, vi l5]) 0 [] (zma E YX8_ways (d + 1) [(0, vr (some (97, 1, 0))), (1, vi l1)] 456 3 [] Q)) : Zm E YX8_ways (d + 1) M [(0, vr (some (97, 1, 0))), (1, vi l1), (5, vi l5)] 454 [vi s0, vr (some (97, 1, 0))] Q := by
  refine Zm.l (fun _ _ k_ => z_iload dX8_ways_454 rfl k_) ?_
  refine Zm.pick [0, 1] rfl ?_
  exact zm_callV (as := [vi s0, vi l5]) (st := []) dX8_ways_456 vsX8_1081_1 (Nat.le_refl _) (Nat.le_of_ble_eq_true rfl) (Nat.le_of_ble_eq_true rfl) rfl k
theorem sX8_ways_459 {E : zE} {d : Nat} {Q : zO → zM → Prop} (M : zM) (l1 : Int32) (k : Zm E YX8_on d M (zargs 0 [vr (some (97, 1, 0))]) 0 [] (zma E YX8_ways (d + 1) [(0, vr (some (97, 1, 0))), (1, vi l1)] 460 3 [] Q)) : Zm E YX8_ways (d + 1) M [(0, vr (some (97, 1, 0))), (1, vi l1)] 459 [] Q := by
  refine Zm.l (fun _ _ k_ => z_aload_n dX8_ways_459 rfl rfl k_) ?_
  exact zm_callV (as := []) (st := []) dX8_ways_460 vsX8_1222_1 (Nat.le_refl _) (Nat.le_of_ble_eq_true rfl) (Nat.le_of_ble_eq_true rfl) rfl k
theorem sX8_ways_463 {E : zE} {d : Nat} {Q : zO → zM → Prop} (M : zM) (l1 : Int32) (k : Zm E YX8_ways (d + 1) M [(0, vr (some (97, 1, 0))), (1, vi l1)] 665 [] Q) : Zm E YX8_ways (d + 1) M [(0, vr (some (97, 1, 0))), (1, vi l1)] 463 [] Q := by
  refine Zm.l (fun _ _ k_ => z_goto (tgt := 665) dX8_ways_463 rfl k_) ?_
  exact k
theorem sX8_ways_486 {E : zE} {d : Nat} {Q : zO → zM → Prop} (M : zM) (l1 : Int32) (l5 : Int32) (k : Zm E YX8_make d M (zargs 0 [vr (some (97, 1, 0)), vi (l5 + (2 : Int32)), vi (1 : Int32)]) 0 [] (zma E YX8_ways (d + 1) [(0, vr (some (97, 1, 0))), (1, vi l1), (5, vi l5)] 492 3 [] Q)) : Zm E YX8_ways (d + 1) M [(0, vr (some (97, 1, 0))), (1, vi l1), (5, vi l5)] 486 [] Q := by
  refine Zm.l (fun _ _ k_ => z_aload_n dX8_ways_486 rfl rfl k_) ?_
  refine Zm.l (fun _ _ k_ => z_iload dX8_ways_487 rfl k_) ?_
  refine Zm.l (fun _ _ k_ => z_iconst (v := 2) dX8_ways_489 rfl k_) ?_
  refine Zm.l (fun _ _ k_ => z_iadd dX8_ways_490 k_) ?_
  refine Zm.l (fun _ _ k_ => z_iconst (v := 1) dX8_ways_491 rfl k_) ?_
  exact zm_callV (as := [vi (l5 + (2 : Int32)), vi (1 : Int32)]) (st := []) dX8_ways_492 vsX8_1241_1 (Nat.le_refl _) (Nat.le_of_ble_eq_true rfl) (Nat.le_of_ble_eq_true rfl) rfl k
theorem sX8_ways_495 {E : zE} {d : Nat} {Q : zO → zM → Prop} (M : zM) (l1 : Int32) (l5 : Int32) (k : Zm E YX8_of d M (zargs 0 [vr (some (97, 1, 0)), vi (639 : Int32), vi l5]) 0 [] (zma E YX8_ways (d + 1) [(0, vr (some (97, 1, 0))), (1, vi l1), (5, vi l5)] 505 3 [vr (some (182, 105, 15128))] Q)) : Zm E YX8_ways (d + 1) M [(0, vr (some (97, 1, 0))), (1, vi l1), (5, vi l5)] 495 [] Q := by
  refine Zm.l (fun _ _ k_ => z_aload_n dX8_ways_495 rfl rfl k_) ?_
  refine zm_getr 79 dX8_ways_496 fsX8_268_1 rfl ?_
  refine Zm.l (fun _ _ k_ => z_aload_n dX8_ways_499 rfl rfl k_) ?_
  refine Zm.l (fun _ _ k_ => z_sipush (v := 639) dX8_ways_500 rfl k_) ?_
  refine Zm.l (fun _ _ k_ => z_iload dX8_ways_503 rfl k_) ?_
  exact zm_callV (as := [vi (639 : Int32), vi l5]) (st := [vr (some (182, 105, 15128))]) dX8_ways_505 vsX8_1101_1 (Nat.le_refl _) (Nat.le_of_ble_eq_true rfl) (Nat.le_of_ble_eq_true rfl) rfl k
theorem sX8_ways_508 {E : zE} {d : Nat} {Q : zO → zM → Prop} (M : zM) (l1 : Int32) (l5 : Int32) (s0 : Int32) (k : vp_in (639 : Int32) 640 ∧ (vp_in s0 15128 ∧ (Zm E YX8_of d (sl M 182 (s0).toNatClampNeg (gl M 173 ((639 : Int32)).toNatClampNeg)) (zargs 0 [vr (some (97, 1, 0)), vi (639 : Int32), vi l5]) 0 [] (zma E YX8_ways (d + 1) [(0, vr (some (97, 1, 0))), (1, vi l1), (5, vi l5)] 527 3 [vr (some (183, 105, 15128))] Q)))) : Zm E YX8_ways (d + 1) M [(0, vr (some (97, 1, 0))), (1, vi l1), (5, vi l5)] 508 [vi s0, vr (some (182, 105, 15128))] Q := by
  refine Zm.l (fun _ _ k_ => z_aload_n dX8_ways_508 rfl rfl k_) ?_
  refine zm_getr 70 dX8_ways_509 fsX8_241_1 rfl ?_
  refine Zm.l (fun _ _ k_ => z_sipush (v := 639) dX8_ways_512 rfl k_) ?_
  obtain ⟨b_, k⟩ := k
  refine zm_lald dX8_ways_515 b_ (by decide) (by decide) ?_
  obtain ⟨b_, k⟩ := k
  refine zm_last dX8_ways_516 b_ (by decide) (by decide) ?_
  refine Zm.l (fun _ _ k_ => z_aload_n dX8_ways_517 rfl rfl k_) ?_
  refine zm_getr 80 dX8_ways_518 fsX8_271_1 rfl ?_
  refine Zm.l (fun _ _ k_ => z_aload_n dX8_ways_521 rfl rfl k_) ?_
  refine Zm.l (fun _ _ k_ => z_sipush (v := 639) dX8_ways_522 rfl k_) ?_
  refine Zm.l (fun _ _ k_ => z_iload dX8_ways_525 rfl k_) ?_
  exact zm_callV (as := [vi (639 : Int32), vi l5]) (st := [vr (some (183, 105, 15128))]) dX8_ways_527 vsX8_1101_1 (Nat.le_refl _) (Nat.le_of_ble_eq_true rfl) (Nat.le_of_ble_eq_true rfl) rfl k
theorem sX8_ways_530 {E : zE} {d : Nat} {Q : zO → zM → Prop} (M : zM) (l1 : Int32) (l5 : Int32) (s0 : Int32) (k : vp_in (639 : Int32) 640 ∧ (vp_in s0 15128 ∧ (Zm E YX8_fresh_2 d (sl M 183 (s0).toNatClampNeg (gl M 174 ((639 : Int32)).toNatClampNeg)) (zargs 0 [vr (some (97, 1, 0)), vi l5, vi (1 : Int32)]) 0 [] (zma E YX8_ways (d + 1) [(0, vr (some (97, 1, 0))), (1, vi l1), (5, vi l5)] 544 3 [vr (some (97, 1, 0))] Q)))) : Zm E YX8_ways (d + 1) M [(0, vr (some (97, 1, 0))), (1, vi l1), (5, vi l5)] 530 [vi s0, vr (some (183, 105, 15128))] Q := by
  refine Zm.l (fun _ _ k_ => z_aload_n dX8_ways_530 rfl rfl k_) ?_
  refine zm_getr 71 dX8_ways_531 fsX8_244_1 rfl ?_
  refine Zm.l (fun _ _ k_ => z_sipush (v := 639) dX8_ways_534 rfl k_) ?_
  obtain ⟨b_, k⟩ := k
  refine zm_lald dX8_ways_537 b_ (by decide) (by decide) ?_
  obtain ⟨b_, k⟩ := k
  refine zm_last dX8_ways_538 b_ (by decide) (by decide) ?_
  refine Zm.l (fun _ _ k_ => z_aload_n dX8_ways_539 rfl rfl k_) ?_
  refine Zm.l (fun _ _ k_ => z_aload_n dX8_ways_540 rfl rfl k_) ?_
  refine Zm.l (fun _ _ k_ => z_iload dX8_ways_541 rfl k_) ?_
  refine Zm.l (fun _ _ k_ => z_iconst (v := 1) dX8_ways_543 rfl k_) ?_
  exact zm_callV (as := [vi l5, vi (1 : Int32)]) (st := [vr (some (97, 1, 0))]) dX8_ways_544 vsX8_1244_1 (Nat.le_refl _) (Nat.le_of_ble_eq_true rfl) (Nat.le_of_ble_eq_true rfl) rfl k
theorem sX8_ways_547 {E : zE} {d : Nat} {Q : zO → zM → Prop} (M : zM) (l1 : Int32) (l5 : Int32) (s0 : Int32) (k : Zm E YX8_addLabel d M (zargs 0 [vr (some (97, 1, 0)), vi s0, vi (l5 + (2 : Int32))]) 0 [] (zma E YX8_ways (d + 1) [(0, vr (some (97, 1, 0))), (1, vi l1), (5, vi l5)] 551 3 [] Q)) : Zm E YX8_ways (d + 1) M [(0, vr (some (97, 1, 0))), (1, vi l1), (5, vi l5)] 547 [vi s0, vr (some (97, 1, 0))] Q := by
  refine Zm.l (fun _ _ k_ => z_iload dX8_ways_547 rfl k_) ?_
  refine Zm.l (fun _ _ k_ => z_iconst (v := 2) dX8_ways_549 rfl k_) ?_
  refine Zm.l (fun _ _ k_ => z_iadd dX8_ways_550 k_) ?_
  exact zm_callV (as := [vi s0, vi (l5 + (2 : Int32))]) (st := []) dX8_ways_551 vsX8_1081_1 (Nat.le_refl _) (Nat.le_of_ble_eq_true rfl) (Nat.le_of_ble_eq_true rfl) rfl k
theorem sX8_ways_554 {E : zE} {d : Nat} {Q : zO → zM → Prop} (M : zM) (l1 : Int32) (l5 : Int32) (k : Zm E YX8_fresh_2 d M (zargs 0 [vr (some (97, 1, 0)), vi (l5 + (2 : Int32)), vi (2 : Int32)]) 0 [] (zma E YX8_ways (d + 1) [(0, vr (some (97, 1, 0))), (1, vi l1), (5, vi l5)] 561 3 [vr (some (97, 1, 0))] Q)) : Zm E YX8_ways (d + 1) M [(0, vr (some (97, 1, 0))), (1, vi l1), (5, vi l5)] 554 [] Q := by
  refine Zm.l (fun _ _ k_ => z_aload_n dX8_ways_554 rfl rfl k_) ?_
  refine Zm.l (fun _ _ k_ => z_aload_n dX8_ways_555 rfl rfl k_) ?_
  refine Zm.l (fun _ _ k_ => z_iload dX8_ways_556 rfl k_) ?_
  refine Zm.l (fun _ _ k_ => z_iconst (v := 2) dX8_ways_558 rfl k_) ?_
  refine Zm.l (fun _ _ k_ => z_iadd dX8_ways_559 k_) ?_
  refine Zm.l (fun _ _ k_ => z_iconst (v := 2) dX8_ways_560 rfl k_) ?_
  exact zm_callV (as := [vi (l5 + (2 : Int32)), vi (2 : Int32)]) (st := [vr (some (97, 1, 0))]) dX8_ways_561 vsX8_1244_1 (Nat.le_refl _) (Nat.le_of_ble_eq_true rfl) (Nat.le_of_ble_eq_true rfl) rfl k
theorem sX8_ways_564 {E : zE} {d : Nat} {Q : zO → zM → Prop} (M : zM) (l1 : Int32) (l5 : Int32) (s0 : Int32) (k : Zm E YX8_addLabel d M (zargs 0 [vr (some (97, 1, 0)), vi s0, vi l5]) 0 [] (zma E YX8_ways (d + 1) [(0, vr (some (97, 1, 0))), (1, vi l1), (5, vi l5)] 566 3 [] Q)) : Zm E YX8_ways (d + 1) M [(0, vr (some (97, 1, 0))), (1, vi l1), (5, vi l5)] 564 [vi s0, vr (some (97, 1, 0))] Q := by
  refine Zm.l (fun _ _ k_ => z_iload dX8_ways_564 rfl k_) ?_
  exact zm_callV (as := [vi s0, vi l5]) (st := []) dX8_ways_566 vsX8_1081_1 (Nat.le_refl _) (Nat.le_of_ble_eq_true rfl) (Nat.le_of_ble_eq_true rfl) rfl k
theorem sX8_ways_569 {E : zE} {d : Nat} {Q : zO → zM → Prop} (M : zM) (l1 : Int32) (l5 : Int32) (k : Zm E YX8_pushSet d M (zargs 0 [vr (some (97, 1, 0))]) 0 [] (zma E YX8_ways (d + 1) [(0, vr (some (97, 1, 0))), (1, vi l1), (5, vi l5)] 571 3 [vr (some (97, 1, 0))] Q)) : Zm E YX8_ways (d + 1) M [(0, vr (some (97, 1, 0))), (1, vi l1), (5, vi l5)] 569 [] Q := by
  refine Zm.l (fun _ _ k_ => z_aload_n dX8_ways_569 rfl rfl k_) ?_
  refine Zm.l (fun _ _ k_ => z_aload_n dX8_ways_570 rfl rfl k_) ?_
  exact zm_callV (as := []) (st := [vr (some (97, 1, 0))]) dX8_ways_571 vsX8_1201_1 (Nat.le_refl _) (Nat.le_of_ble_eq_true rfl) (Nat.le_of_ble_eq_true rfl) rfl k
theorem sX8_ways_574 {E : zE} {d : Nat} {Q : zO → zM → Prop} (M : zM) (l1 : Int32) (l5 : Int32) (s0 : Int32) (k : Zm E YX8_addLabel d M (zargs 0 [vr (some (97, 1, 0)), vi s0, vi l5]) 0 [] (zma E YX8_ways (d + 1) [(0, vr (some (97, 1, 0))), (1, vi l1)] 576 3 [] Q)) : Zm E YX8_ways (d + 1) M [(0, vr (some (97, 1, 0))), (1, vi l1), (5, vi l5)] 574 [vi s0, vr (some (97, 1, 0))] Q := by
  refine Zm.l (fun _ _ k_ => z_iload dX8_ways_574 rfl k_) ?_
  refine Zm.pick [0, 1] rfl ?_
  exact zm_callV (as := [vi s0, vi l5]) (st := []) dX8_ways_576 vsX8_1081_1 (Nat.le_refl _) (Nat.le_of_ble_eq_true rfl) (Nat.le_of_ble_eq_true rfl) rfl k
theorem sX8_ways_579 {E : zE} {d : Nat} {Q : zO → zM → Prop} (M : zM) (l1 : Int32) (k : Zm E YX8_on d M (zargs 0 [vr (some (97, 1, 0))]) 0 [] (zma E YX8_ways (d + 1) [(0, vr (some (97, 1, 0))), (1, vi l1)] 580 3 [] Q)) : Zm E YX8_ways (d + 1) M [(0, vr (some (97, 1, 0))), (1, vi l1)] 579 [] Q := by
  refine Zm.l (fun _ _ k_ => z_aload_n dX8_ways_579 rfl rfl k_) ?_
  exact zm_callV (as := []) (st := []) dX8_ways_580 vsX8_1222_1 (Nat.le_refl _) (Nat.le_of_ble_eq_true rfl) (Nat.le_of_ble_eq_true rfl) rfl k
theorem sX8_ways_583 {E : zE} {d : Nat} {Q : zO → zM → Prop} (M : zM) (l1 : Int32) (k : Zm E YX8_ways (d + 1) M [(0, vr (some (97, 1, 0))), (1, vi l1)] 665 [] Q) : Zm E YX8_ways (d + 1) M [(0, vr (some (97, 1, 0))), (1, vi l1)] 583 [] Q := by
  refine Zm.l (fun _ _ k_ => z_goto (tgt := 665) dX8_ways_583 rfl k_) ?_
  exact k
theorem sX8_ways_590 {E : zE} {d : Nat} {Q : zO → zM → Prop} (M : zM) (l1 : Int32) (k : Zm E YX8_ways (d + 1) M [(0, vr (some (97, 1, 0))), (1, vi l1)] 665 [] Q) : Zm E YX8_ways (d + 1) M [(0, vr (some (97, 1, 0))), (1, vi l1)] 590 [] Q := by
  refine Zm.l (fun _ _ k_ => z_goto (tgt := 665) dX8_ways_590 rfl k_) ?_
  exact k
theorem sX8_ways_597 {E : zE} {d : Nat} {Q : zO → zM → Prop} (M : zM) (l1 : Int32) (k : Zm E YX8_ways (d + 1) M [(0, vr (some (97, 1, 0))), (1, vi l1)] 665 [] Q) : Zm E YX8_ways (d + 1) M [(0, vr (some (97, 1, 0))), (1, vi l1)] 597 [] Q := by
  refine Zm.l (fun _ _ k_ => z_goto (tgt := 665) dX8_ways_597 rfl k_) ?_
  exact k
theorem sX8_ways_604 {E : zE} {d : Nat} {Q : zO → zM → Prop} (M : zM) (l1 : Int32) (k : Zm E YX8_ways (d + 1) M [(0, vr (some (97, 1, 0))), (1, vi l1)] 665 [] Q) : Zm E YX8_ways (d + 1) M [(0, vr (some (97, 1, 0))), (1, vi l1)] 604 [] Q := by
  refine Zm.l (fun _ _ k_ => z_goto (tgt := 665) dX8_ways_604 rfl k_) ?_
  exact k
theorem sX8_ways_614 {E : zE} {d : Nat} {Q : zO → zM → Prop} (M : zM) (l1 : Int32) (l4 : Int32) (s0 : Int32) (s1 : Int32) (k : Zm E YX8_unarySet d M (zargs 0 [vr (some (97, 1, 0)), vi s1, vi s0, vi l4]) 0 [] (zma E YX8_ways (d + 1) [(0, vr (some (97, 1, 0))), (1, vi l1), (4, vi l4)] 616 3 [] Q)) : Zm E YX8_ways (d + 1) M [(0, vr (some (97, 1, 0))), (1, vi l1), (4, vi l4)] 614 [vi s0, vi s1, vr (some (97, 1, 0))] Q := by
  refine Zm.l (fun _ _ k_ => z_iload dX8_ways_614 rfl k_) ?_
  exact zm_callV (as := [vi s1, vi s0, vi l4]) (st := []) dX8_ways_616 vsX8_1255_1 (Nat.le_refl _) (Nat.le_of_ble_eq_true rfl) (Nat.le_of_ble_eq_true rfl) rfl k
theorem sX8_ways_619 {E : zE} {d : Nat} {Q : zO → zM → Prop} (M : zM) (l1 : Int32) (l4 : Int32) (k : Zm E YX8_replace d M (zargs 0 [vr (some (97, 1, 0)), vi (1 : Int32), vi l4]) 0 [] (zma E YX8_ways (d + 1) [(0, vr (some (97, 1, 0))), (1, vi l1)] 623 3 [] Q)) : Zm E YX8_ways (d + 1) M [(0, vr (some (97, 1, 0))), (1, vi l1), (4, vi l4)] 619 [] Q := by
  refine Zm.l (fun _ _ k_ => z_aload_n dX8_ways_619 rfl rfl k_) ?_
  refine Zm.l (fun _ _ k_ => z_iconst (v := 1) dX8_ways_620 rfl k_) ?_
  refine Zm.l (fun _ _ k_ => z_iload dX8_ways_621 rfl k_) ?_
  refine Zm.pick [0, 1] rfl ?_
  exact zm_callV (as := [vi (1 : Int32), vi l4]) (st := []) dX8_ways_623 vsX8_1258_1 (Nat.le_refl _) (Nat.le_of_ble_eq_true rfl) (Nat.le_of_ble_eq_true rfl) rfl k
theorem sX8_ways_626 {E : zE} {d : Nat} {Q : zO → zM → Prop} (M : zM) (l1 : Int32) (k : Zm E YX8_ways (d + 1) M [(0, vr (some (97, 1, 0))), (1, vi l1)] 665 [] Q) : Zm E YX8_ways (d + 1) M [(0, vr (some (97, 1, 0))), (1, vi l1)] 626 [] Q := by
  refine Zm.l (fun _ _ k_ => z_goto (tgt := 665) dX8_ways_626 rfl k_) ?_
  exact k
theorem sX8_ways_634 {E : zE} {d : Nat} {Q : zO → zM → Prop} (M : zM) (l1 : Int32) (k : Zm E YX8_ways (d + 1) M [(0, vr (some (97, 1, 0))), (1, vi l1)] 665 [] Q) : Zm E YX8_ways (d + 1) M [(0, vr (some (97, 1, 0))), (1, vi l1)] 634 [] Q := by
  refine Zm.l (fun _ _ k_ => z_goto (tgt := 665) dX8_ways_634 rfl k_) ?_
  exact k
theorem sX8_ways_642 {E : zE} {d : Nat} {Q : zO → zM → Prop} (M : zM) (l1 : Int32) (k : Zm E YX8_ways (d + 1) M [(0, vr (some (97, 1, 0))), (1, vi l1)] 665 [] Q) : Zm E YX8_ways (d + 1) M [(0, vr (some (97, 1, 0))), (1, vi l1)] 642 [] Q := by
  refine Zm.l (fun _ _ k_ => z_goto (tgt := 665) dX8_ways_642 rfl k_) ?_
  exact k
theorem sX8_ways_651 {E : zE} {d : Nat} {Q : zO → zM → Prop} (M : zM) (l1 : Int32) (k : Zm E YX8_ways (d + 1) M [(0, vr (some (97, 1, 0))), (1, vi l1)] 665 [] Q) : Zm E YX8_ways (d + 1) M [(0, vr (some (97, 1, 0))), (1, vi l1)] 651 [] Q := by
  refine Zm.l (fun _ _ k_ => z_goto (tgt := 665) dX8_ways_651 rfl k_) ?_
  exact k
theorem sX8_ways_665 {E : zE} {d : Nat} {Q : zO → zM → Prop} (M : zM) (l1 : Int32) (k : if (gi M 97 150) = 0 then (vp_in l1 600 ∧ (if (gi M 123 (l1).toNatClampNeg) = (25 : Int32) then (vp_in l1 640 ∧ (Q (.inl none) (si M 170 (l1).toNatClampNeg ((gi M 97 149) ||| (0 : Int32))))) else (vp_in l1 640 ∧ (Q (.inl none) (si M 170 (l1).toNatClampNeg ((gi M 97 149) ||| (4 : Int32))))))) else (vp_in l1 640 ∧ (Q (.inl none) (si M 170 (l1).toNatClampNeg ((gi M 97 149) ||| (0 : Int32)))))) : Zm E YX8_ways (d + 1) M [(0, vr (some (97, 1, 0))), (1, vi l1)] 665 [] Q := by
  refine Zm.l (fun _ _ k_ => z_aload_n dX8_ways_665 rfl rfl k_) ?_
  refine zm_getr 67 dX8_ways_666 fsX8_232_1 rfl ?_
  refine Zm.l (fun _ _ k_ => z_iload_n dX8_ways_669 rfl rfl k_) ?_
  refine Zm.l (fun _ _ k_ => z_aload_n dX8_ways_670 rfl rfl k_) ?_
  refine zm_geti dX8_ways_671 fsX8_1208_1 (by decide) (by decide) ?_
  refine Zm.l (fun _ _ k_ => z_aload_n dX8_ways_674 rfl rfl k_) ?_
  refine zm_geti dX8_ways_675 fsX8_1185_1 (by decide) (by decide) ?_
  refine Zm.brn (fun _ _ k1_ k2_ => z_if_ne (tgt := 692) dX8_ways_678 rfl k1_ k2_) (fun h_ => ?_) (fun h_ => ?_)
  · have k := zif h_ k
    refine Zm.l (fun _ _ k_ => z_iconst (v := 0) dX8_ways_692 rfl k_) ?_
    refine Zm.l (fun _ _ k_ => z_goto (tgt := 697) dX8_ways_693 rfl k_) ?_
    refine Zm.l (fun _ _ k_ => z_ior dX8_ways_697 k_) ?_
    obtain ⟨b_, k⟩ := k
    refine zm_iast dX8_ways_698 b_ (by decide) (by decide) ?_
    exact zm_vret dX8_ways_699 rfl k
  · have k := zit h_ k
    refine Zm.l (fun _ _ k_ => z_aload_n dX8_ways_681 rfl rfl k_) ?_
    refine zm_getr 25 dX8_ways_682 fsX8_89_1 rfl ?_
    refine Zm.l (fun _ _ k_ => z_iload_n dX8_ways_685 rfl rfl k_) ?_
    obtain ⟨b_, k⟩ := k
    refine zm_iald dX8_ways_686 b_ (by decide) (by decide) ?_
    refine Zm.l (fun _ _ k_ => z_bipush (v := 25) dX8_ways_687 rfl k_) ?_
    refine Zm.brn (fun _ _ k1_ k2_ => z_icmp_ne (tgt := 696) dX8_ways_689 rfl k1_ k2_) (fun h_ => ?_) (fun h_ => ?_)
    · have k := zif h_ k
      refine Zm.l (fun _ _ k_ => z_iconst (v := 4) dX8_ways_696 rfl k_) ?_
      refine Zm.l (fun _ _ k_ => z_ior dX8_ways_697 k_) ?_
      obtain ⟨b_, k⟩ := k
      refine zm_iast dX8_ways_698 b_ (by decide) (by decide) ?_
      exact zm_vret dX8_ways_699 rfl k
    · have k := zit h_ k
      refine Zm.l (fun _ _ k_ => z_iconst (v := 0) dX8_ways_692 rfl k_) ?_
      refine Zm.l (fun _ _ k_ => z_goto (tgt := 697) dX8_ways_693 rfl k_) ?_
      refine Zm.l (fun _ _ k_ => z_ior dX8_ways_697 k_) ?_
      obtain ⟨b_, k⟩ := k
      refine zm_iast dX8_ways_698 b_ (by decide) (by decide) ?_
      exact zm_vret dX8_ways_699 rfl k
/-! ScriptTypesModel.load(I)V -/
theorem bX8_load_0 : zdec cX8_load 0 [(0, .aload_n 0, 1), (1, .iload_n 1, 1), (2, .invokevirtual 1085, 3), (5, .istore_n 2, 1), (6, .iconst 0, 1), (7, .istore_n 3, 1), (8, .iload_n 3, 1), (9, .aload_n 0, 1), (10, .getfield 765, 3), (13, .aload_n 0, 1), (14, .getfield 762, 3), (17, .iconst 1, 1), (18, .iadd, 1), (19, .imul, 1), (20, .if_icmp .ge 21, 3), (23, .aload_n 0, 1)] = true := by decide +kernel
theorem dX8_load_0 : decode cX8_load 0 = .ok (.aload_n 0, 1) := zdec_at bX8_load_0 0 rfl
theorem dX8_load_1 : decode cX8_load 1 = .ok (.iload_n 1, 1) := zdec_at bX8_load_0 1 rfl
theorem dX8_load_2 : decode cX8_load 2 = .ok (.invokevirtual 1085, 3) := zdec_at bX8_load_0 2 rfl
theorem dX8_load_5 : decode cX8_load 5 = .ok (.istore_n 2, 1) := zdec_at bX8_load_0 3 rfl
theorem dX8_load_6 : decode cX8_load 6 = .ok (.iconst 0, 1) := zdec_at bX8_load_0 4 rfl
theorem dX8_load_7 : decode cX8_load 7 = .ok (.istore_n 3, 1) := zdec_at bX8_load_0 5 rfl
theorem dX8_load_8 : decode cX8_load 8 = .ok (.iload_n 3, 1) := zdec_at bX8_load_0 6 rfl
theorem dX8_load_9 : decode cX8_load 9 = .ok (.aload_n 0, 1) := zdec_at bX8_load_0 7 rfl
theorem dX8_load_10 : decode cX8_load 10 = .ok (.getfield 765, 3) := zdec_at bX8_load_0 8 rfl
theorem dX8_load_13 : decode cX8_load 13 = .ok (.aload_n 0, 1) := zdec_at bX8_load_0 9 rfl
theorem dX8_load_14 : decode cX8_load 14 = .ok (.getfield 762, 3) := zdec_at bX8_load_0 10 rfl
theorem dX8_load_17 : decode cX8_load 17 = .ok (.iconst 1, 1) := zdec_at bX8_load_0 11 rfl
theorem dX8_load_18 : decode cX8_load 18 = .ok (.iadd, 1) := zdec_at bX8_load_0 12 rfl
theorem dX8_load_19 : decode cX8_load 19 = .ok (.imul, 1) := zdec_at bX8_load_0 13 rfl
theorem dX8_load_20 : decode cX8_load 20 = .ok (.if_icmp .ge 21, 3) := zdec_at bX8_load_0 14 rfl
theorem dX8_load_23 : decode cX8_load 23 = .ok (.aload_n 0, 1) := zdec_at bX8_load_0 15 rfl
theorem bX8_load_24 : zdec cX8_load 24 [(24, .iload_n 2, 1), (25, .iload_n 3, 1), (26, .iadd, 1), (27, .ldc_w 1084, 3), (30, .iload_n 3, 1), (31, .iadd, 1), (32, .invokevirtual 1092, 3), (35, .iinc 3 1, 3), (38, .goto (-30), 3), (41, .aload_n 0, 1), (42, .iload_n 1, 1), (43, .invokevirtual 1095, 3), (46, .aload_n 0, 1), (47, .getfield 235, 3), (50, .sipush 639, 3), (53, .aload_n 0, 1)] = true := by decide +kernel
theorem dX8_load_24 : decode cX8_load 24 = .ok (.iload_n 2, 1) := zdec_at bX8_load_24 0 rfl
theorem dX8_load_25 : decode cX8_load 25 = .ok (.iload_n 3, 1) := zdec_at bX8_load_24 1 rfl
theorem dX8_load_26 : decode cX8_load 26 = .ok (.iadd, 1) := zdec_at bX8_load_24 2 rfl
theorem dX8_load_27 : decode cX8_load 27 = .ok (.ldc_w 1084, 3) := zdec_at bX8_load_24 3 rfl
theorem dX8_load_30 : decode cX8_load 30 = .ok (.iload_n 3, 1) := zdec_at bX8_load_24 4 rfl
theorem dX8_load_31 : decode cX8_load 31 = .ok (.iadd, 1) := zdec_at bX8_load_24 5 rfl
theorem dX8_load_32 : decode cX8_load 32 = .ok (.invokevirtual 1092, 3) := zdec_at bX8_load_24 6 rfl
theorem dX8_load_35 : decode cX8_load 35 = .ok (.iinc 3 1, 3) := zdec_at bX8_load_24 7 rfl
theorem dX8_load_38 : decode cX8_load 38 = .ok (.goto (-30), 3) := zdec_at bX8_load_24 8 rfl
theorem dX8_load_41 : decode cX8_load 41 = .ok (.aload_n 0, 1) := zdec_at bX8_load_24 9 rfl
theorem dX8_load_42 : decode cX8_load 42 = .ok (.iload_n 1, 1) := zdec_at bX8_load_24 10 rfl
theorem dX8_load_43 : decode cX8_load 43 = .ok (.invokevirtual 1095, 3) := zdec_at bX8_load_24 11 rfl
theorem dX8_load_46 : decode cX8_load 46 = .ok (.aload_n 0, 1) := zdec_at bX8_load_24 12 rfl
theorem dX8_load_47 : decode cX8_load 47 = .ok (.getfield 235, 3) := zdec_at bX8_load_24 13 rfl
theorem dX8_load_50 : decode cX8_load 50 = .ok (.sipush 639, 3) := zdec_at bX8_load_24 14 rfl
theorem dX8_load_53 : decode cX8_load 53 = .ok (.aload_n 0, 1) := zdec_at bX8_load_24 15 rfl
theorem bX8_load_54 : zdec cX8_load 54 [(54, .getfield 235, 3), (57, .iload_n 1, 1), (58, .iaload, 1), (59, .iastore, 1), (60, .iconst 0, 1), (61, .istore_n 3, 1), (62, .iload_n 3, 1), (63, .aload_n 0, 1), (64, .getfield 235, 3), (67, .iload_n 1, 1), (68, .iaload, 1), (69, .if_icmp .ge 31, 3), (72, .aload_n 0, 1), (73, .aload_n 0, 1), (74, .getfield 238, 3), (77, .iload_n 1, 1)] = true := by decide +kernel
theorem dX8_load_54 : decode cX8_load 54 = .ok (.getfield 235, 3) := zdec_at bX8_load_54 0 rfl
theorem dX8_load_57 : decode cX8_load 57 = .ok (.iload_n 1, 1) := zdec_at bX8_load_54 1 rfl
theorem dX8_load_58 : decode cX8_load 58 = .ok (.iaload, 1) := zdec_at bX8_load_54 2 rfl
theorem dX8_load_59 : decode cX8_load 59 = .ok (.iastore, 1) := zdec_at bX8_load_54 3 rfl
theorem dX8_load_60 : decode cX8_load 60 = .ok (.iconst 0, 1) := zdec_at bX8_load_54 4 rfl
theorem dX8_load_61 : decode cX8_load 61 = .ok (.istore_n 3, 1) := zdec_at bX8_load_54 5 rfl
theorem dX8_load_62 : decode cX8_load 62 = .ok (.iload_n 3, 1) := zdec_at bX8_load_54 6 rfl
theorem dX8_load_63 : decode cX8_load 63 = .ok (.aload_n 0, 1) := zdec_at bX8_load_54 7 rfl
theorem dX8_load_64 : decode cX8_load 64 = .ok (.getfield 235, 3) := zdec_at bX8_load_54 8 rfl
theorem dX8_load_67 : decode cX8_load 67 = .ok (.iload_n 1, 1) := zdec_at bX8_load_54 9 rfl
theorem dX8_load_68 : decode cX8_load 68 = .ok (.iaload, 1) := zdec_at bX8_load_54 10 rfl
theorem dX8_load_69 : decode cX8_load 69 = .ok (.if_icmp .ge 31, 3) := zdec_at bX8_load_54 11 rfl
theorem dX8_load_72 : decode cX8_load 72 = .ok (.aload_n 0, 1) := zdec_at bX8_load_54 12 rfl
theorem dX8_load_73 : decode cX8_load 73 = .ok (.aload_n 0, 1) := zdec_at bX8_load_54 13 rfl
theorem dX8_load_74 : decode cX8_load 74 = .ok (.getfield 238, 3) := zdec_at bX8_load_54 14 rfl
theorem dX8_load_77 : decode cX8_load 77 = .ok (.iload_n 1, 1) := zdec_at bX8_load_54 15 rfl
theorem bX8_load_78 : zdec cX8_load 78 [(78, .iaload, 1), (79, .iload_n 3, 1), (80, .iadd, 1), (81, .aload_n 0, 1), (82, .getfield 238, 3), (85, .sipush 639, 3), (88, .iaload, 1), (89, .iload_n 3, 1), (90, .iadd, 1), (91, .invokevirtual 1092, 3), (94, .iinc 3 1, 3), (97, .goto (-35), 3), (100, .aload_n 0, 1), (101, .aload_n 0, 1), (102, .iload_n 1, 1), (103, .invokevirtual 1098, 3)] = true := by decide +kernel
theorem dX8_load_78 : decode cX8_load 78 = .ok (.iaload, 1) := zdec_at bX8_load_78 0 rfl
theorem dX8_load_79 : decode cX8_load 79 = .ok (.iload_n 3, 1) := zdec_at bX8_load_78 1 rfl
theorem dX8_load_80 : decode cX8_load 80 = .ok (.iadd, 1) := zdec_at bX8_load_78 2 rfl
theorem dX8_load_81 : decode cX8_load 81 = .ok (.aload_n 0, 1) := zdec_at bX8_load_78 3 rfl
theorem dX8_load_82 : decode cX8_load 82 = .ok (.getfield 238, 3) := zdec_at bX8_load_78 4 rfl
theorem dX8_load_85 : decode cX8_load 85 = .ok (.sipush 639, 3) := zdec_at bX8_load_78 5 rfl
theorem dX8_load_88 : decode cX8_load 88 = .ok (.iaload, 1) := zdec_at bX8_load_78 6 rfl
theorem dX8_load_89 : decode cX8_load 89 = .ok (.iload_n 3, 1) := zdec_at bX8_load_78 7 rfl
theorem dX8_load_90 : decode cX8_load 90 = .ok (.iadd, 1) := zdec_at bX8_load_78 8 rfl
theorem dX8_load_91 : decode cX8_load 91 = .ok (.invokevirtual 1092, 3) := zdec_at bX8_load_78 9 rfl
theorem dX8_load_94 : decode cX8_load 94 = .ok (.iinc 3 1, 3) := zdec_at bX8_load_78 10 rfl
theorem dX8_load_97 : decode cX8_load 97 = .ok (.goto (-35), 3) := zdec_at bX8_load_78 11 rfl
theorem dX8_load_100 : decode cX8_load 100 = .ok (.aload_n 0, 1) := zdec_at bX8_load_78 12 rfl
theorem dX8_load_101 : decode cX8_load 101 = .ok (.aload_n 0, 1) := zdec_at bX8_load_78 13 rfl
theorem dX8_load_102 : decode cX8_load 102 = .ok (.iload_n 1, 1) := zdec_at bX8_load_78 14 rfl
theorem dX8_load_103 : decode cX8_load 103 = .ok (.invokevirtual 1098, 3) := zdec_at bX8_load_78 15 rfl
theorem bX8_load_106 : zdec cX8_load 106 [(106, .aload_n 0, 1), (107, .sipush 639, 3), (110, .invokevirtual 1098, 3), (113, .invokevirtual 1092, 3), (116, .aload_n 0, 1), (117, .getfield 241, 3), (120, .sipush 639, 3), (123, .aload_n 0, 1), (124, .getfield 241, 3), (127, .iload_n 1, 1), (128, .laload, 1), (129, .lastore, 1), (130, .aload_n 0, 1), (131, .getfield 244, 3), (134, .sipush 639, 3), (137, .aload_n 0, 1)] = true := by decide +kernel
theorem dX8_load_106 : decode cX8_load 106 = .ok (.aload_n 0, 1) := zdec_at bX8_load_106 0 rfl
theorem dX8_load_107 : decode cX8_load 107 = .ok (.sipush 639, 3) := zdec_at bX8_load_106 1 rfl
theorem dX8_load_110 : decode cX8_load 110 = .ok (.invokevirtual 1098, 3) := zdec_at bX8_load_106 2 rfl
theorem dX8_load_113 : decode cX8_load 113 = .ok (.invokevirtual 1092, 3) := zdec_at bX8_load_106 3 rfl
theorem dX8_load_116 : decode cX8_load 116 = .ok (.aload_n 0, 1) := zdec_at bX8_load_106 4 rfl
theorem dX8_load_117 : decode cX8_load 117 = .ok (.getfield 241, 3) := zdec_at bX8_load_106 5 rfl
theorem dX8_load_120 : decode cX8_load 120 = .ok (.sipush 639, 3) := zdec_at bX8_load_106 6 rfl
theorem dX8_load_123 : decode cX8_load 123 = .ok (.aload_n 0, 1) := zdec_at bX8_load_106 7 rfl
theorem dX8_load_124 : decode cX8_load 124 = .ok (.getfield 241, 3) := zdec_at bX8_load_106 8 rfl
theorem dX8_load_127 : decode cX8_load 127 = .ok (.iload_n 1, 1) := zdec_at bX8_load_106 9 rfl
theorem dX8_load_128 : decode cX8_load 128 = .ok (.laload, 1) := zdec_at bX8_load_106 10 rfl
theorem dX8_load_129 : decode cX8_load 129 = .ok (.lastore, 1) := zdec_at bX8_load_106 11 rfl
theorem dX8_load_130 : decode cX8_load 130 = .ok (.aload_n 0, 1) := zdec_at bX8_load_106 12 rfl
theorem dX8_load_131 : decode cX8_load 131 = .ok (.getfield 244, 3) := zdec_at bX8_load_106 13 rfl
theorem dX8_load_134 : decode cX8_load 134 = .ok (.sipush 639, 3) := zdec_at bX8_load_106 14 rfl
theorem dX8_load_137 : decode cX8_load 137 = .ok (.aload_n 0, 1) := zdec_at bX8_load_106 15 rfl
theorem bX8_load_138 : zdec cX8_load 138 [(138, .getfield 244, 3), (141, .iload_n 1, 1), (142, .laload, 1), (143, .lastore, 1), (144, .aload_n 0, 1), (145, .getfield 247, 3), (148, .sipush 639, 3), (151, .aload_n 0, 1), (152, .getfield 247, 3), (155, .iload_n 1, 1), (156, .iaload, 1), (157, .iastore, 1), (158, .iconst 0, 1), (159, .istore_n 3, 1), (160, .iload_n 3, 1), (161, .aload_n 0, 1)] = true := by decide +kernel
theorem dX8_load_138 : decode cX8_load 138 = .ok (.getfield 244, 3) := zdec_at bX8_load_138 0 rfl
theorem dX8_load_141 : decode cX8_load 141 = .ok (.iload_n 1, 1) := zdec_at bX8_load_138 1 rfl
theorem dX8_load_142 : decode cX8_load 142 = .ok (.laload, 1) := zdec_at bX8_load_138 2 rfl
theorem dX8_load_143 : decode cX8_load 143 = .ok (.lastore, 1) := zdec_at bX8_load_138 3 rfl
theorem dX8_load_144 : decode cX8_load 144 = .ok (.aload_n 0, 1) := zdec_at bX8_load_138 4 rfl
theorem dX8_load_145 : decode cX8_load 145 = .ok (.getfield 247, 3) := zdec_at bX8_load_138 5 rfl
theorem dX8_load_148 : decode cX8_load 148 = .ok (.sipush 639, 3) := zdec_at bX8_load_138 6 rfl
theorem dX8_load_151 : decode cX8_load 151 = .ok (.aload_n 0, 1) := zdec_at bX8_load_138 7 rfl
theorem dX8_load_152 : decode cX8_load 152 = .ok (.getfield 247, 3) := zdec_at bX8_load_138 8 rfl
theorem dX8_load_155 : decode cX8_load 155 = .ok (.iload_n 1, 1) := zdec_at bX8_load_138 9 rfl
theorem dX8_load_156 : decode cX8_load 156 = .ok (.iaload, 1) := zdec_at bX8_load_138 10 rfl
theorem dX8_load_157 : decode cX8_load 157 = .ok (.iastore, 1) := zdec_at bX8_load_138 11 rfl
theorem dX8_load_158 : decode cX8_load 158 = .ok (.iconst 0, 1) := zdec_at bX8_load_138 12 rfl
theorem dX8_load_159 : decode cX8_load 159 = .ok (.istore_n 3, 1) := zdec_at bX8_load_138 13 rfl
theorem dX8_load_160 : decode cX8_load 160 = .ok (.iload_n 3, 1) := zdec_at bX8_load_138 14 rfl
theorem dX8_load_161 : decode cX8_load 161 = .ok (.aload_n 0, 1) := zdec_at bX8_load_138 15 rfl
theorem bX8_load_162 : zdec cX8_load 162 [(162, .getfield 247, 3), (165, .iload_n 1, 1), (166, .iaload, 1), (167, .if_icmp .ge 51, 3), (170, .aload_n 0, 1), (171, .getfield 250, 3), (174, .sipush 25560, 3), (177, .iload_n 3, 1), (178, .iadd, 1), (179, .aload_n 0, 1), (180, .getfield 250, 3), (183, .bipush 40, 2), (185, .iload_n 1, 1), (186, .imul, 1), (187, .iload_n 3, 1), (188, .iadd, 1)] = true := by decide +kernel
theorem dX8_load_162 : decode cX8_load 162 = .ok (.getfield 247, 3) := zdec_at bX8_load_162 0 rfl
theorem dX8_load_165 : decode cX8_load 165 = .ok (.iload_n 1, 1) := zdec_at bX8_load_162 1 rfl
theorem dX8_load_166 : decode cX8_load 166 = .ok (.iaload, 1) := zdec_at bX8_load_162 2 rfl
theorem dX8_load_167 : decode cX8_load 167 = .ok (.if_icmp .ge 51, 3) := zdec_at bX8_load_162 3 rfl
theorem dX8_load_170 : decode cX8_load 170 = .ok (.aload_n 0, 1) := zdec_at bX8_load_162 4 rfl
theorem dX8_load_171 : decode cX8_load 171 = .ok (.getfield 250, 3) := zdec_at bX8_load_162 5 rfl
theorem dX8_load_174 : decode cX8_load 174 = .ok (.sipush 25560, 3) := zdec_at bX8_load_162 6 rfl
theorem dX8_load_177 : decode cX8_load 177 = .ok (.iload_n 3, 1) := zdec_at bX8_load_162 7 rfl
theorem dX8_load_178 : decode cX8_load 178 = .ok (.iadd, 1) := zdec_at bX8_load_162 8 rfl
theorem dX8_load_179 : decode cX8_load 179 = .ok (.aload_n 0, 1) := zdec_at bX8_load_162 9 rfl
theorem dX8_load_180 : decode cX8_load 180 = .ok (.getfield 250, 3) := zdec_at bX8_load_162 10 rfl
theorem dX8_load_183 : decode cX8_load 183 = .ok (.bipush 40, 2) := zdec_at bX8_load_162 11 rfl
theorem dX8_load_185 : decode cX8_load 185 = .ok (.iload_n 1, 1) := zdec_at bX8_load_162 12 rfl
theorem dX8_load_186 : decode cX8_load 186 = .ok (.imul, 1) := zdec_at bX8_load_162 13 rfl
theorem dX8_load_187 : decode cX8_load 187 = .ok (.iload_n 3, 1) := zdec_at bX8_load_162 14 rfl
theorem dX8_load_188 : decode cX8_load 188 = .ok (.iadd, 1) := zdec_at bX8_load_162 15 rfl
theorem bX8_load_189 : zdec cX8_load 189 [(189, .iaload, 1), (190, .iastore, 1), (191, .aload_n 0, 1), (192, .getfield 253, 3), (195, .sipush 25560, 3), (198, .iload_n 3, 1), (199, .iadd, 1), (200, .aload_n 0, 1), (201, .getfield 253, 3), (204, .bipush 40, 2), (206, .iload_n 1, 1), (207, .imul, 1), (208, .iload_n 3, 1), (209, .iadd, 1), (210, .iaload, 1), (211, .iastore, 1)] = true := by decide +kernel
theorem dX8_load_189 : decode cX8_load 189 = .ok (.iaload, 1) := zdec_at bX8_load_189 0 rfl
theorem dX8_load_190 : decode cX8_load 190 = .ok (.iastore, 1) := zdec_at bX8_load_189 1 rfl
theorem dX8_load_191 : decode cX8_load 191 = .ok (.aload_n 0, 1) := zdec_at bX8_load_189 2 rfl
theorem dX8_load_192 : decode cX8_load 192 = .ok (.getfield 253, 3) := zdec_at bX8_load_189 3 rfl
theorem dX8_load_195 : decode cX8_load 195 = .ok (.sipush 25560, 3) := zdec_at bX8_load_189 4 rfl
theorem dX8_load_198 : decode cX8_load 198 = .ok (.iload_n 3, 1) := zdec_at bX8_load_189 5 rfl
theorem dX8_load_199 : decode cX8_load 199 = .ok (.iadd, 1) := zdec_at bX8_load_189 6 rfl
theorem dX8_load_200 : decode cX8_load 200 = .ok (.aload_n 0, 1) := zdec_at bX8_load_189 7 rfl
theorem dX8_load_201 : decode cX8_load 201 = .ok (.getfield 253, 3) := zdec_at bX8_load_189 8 rfl
theorem dX8_load_204 : decode cX8_load 204 = .ok (.bipush 40, 2) := zdec_at bX8_load_189 9 rfl
theorem dX8_load_206 : decode cX8_load 206 = .ok (.iload_n 1, 1) := zdec_at bX8_load_189 10 rfl
theorem dX8_load_207 : decode cX8_load 207 = .ok (.imul, 1) := zdec_at bX8_load_189 11 rfl
theorem dX8_load_208 : decode cX8_load 208 = .ok (.iload_n 3, 1) := zdec_at bX8_load_189 12 rfl
theorem dX8_load_209 : decode cX8_load 209 = .ok (.iadd, 1) := zdec_at bX8_load_189 13 rfl
theorem dX8_load_210 : decode cX8_load 210 = .ok (.iaload, 1) := zdec_at bX8_load_189 14 rfl
theorem dX8_load_211 : decode cX8_load 211 = .ok (.iastore, 1) := zdec_at bX8_load_189 15 rfl
theorem bX8_load_212 : zdec cX8_load 212 [(212, .iinc 3 1, 3), (215, .goto (-55), 3), (218, .return_, 1)] = true := by decide +kernel
theorem dX8_load_212 : decode cX8_load 212 = .ok (.iinc 3 1, 3) := zdec_at bX8_load_212 0 rfl
theorem dX8_load_215 : decode cX8_load 215 = .ok (.goto (-55), 3) := zdec_at bX8_load_212 1 rfl
theorem dX8_load_218 : decode cX8_load 218 = .ok (.return_, 1) := zdec_at bX8_load_212 2 rfl
theorem sX8_load_0 {E : zE} {d : Nat} {Q : zO → zM → Prop} (M : zM) (l1 : Int32) (k : Zm E YX8_fieldsAt d M (zargs 0 [vr (some (97, 1, 0)), vi l1]) 0 [] (zma E YX8_load (d + 1) [(0, vr (some (97, 1, 0))), (1, vi l1)] 2 3 [] Q)) : Zm E YX8_load (d + 1) M [(0, vr (some (97, 1, 0))), (1, vi l1)] 0 [] Q := by
  refine Zm.l (fun _ _ k_ => z_aload_n dX8_load_0 rfl rfl k_) ?_
  refine Zm.l (fun _ _ k_ => z_iload_n dX8_load_1 rfl rfl k_) ?_
  exact zm_callV (as := [vi l1]) (st := []) dX8_load_2 vsX8_1085_1 (Nat.le_refl _) (Nat.le_of_ble_eq_true rfl) (Nat.le_of_ble_eq_true rfl) rfl k
theorem sX8_load_5 {E : zE} {d : Nat} {Q : zO → zM → Prop} (M : zM) (l1 : Int32) (s0 : Int32) (k : Zm E YX8_load (d + 1) M [(0, vr (some (97, 1, 0))), (1, vi l1), (2, vi s0), (3, vi (0 : Int32))] 8 [] Q) : Zm E YX8_load (d + 1) M [(0, vr (some (97, 1, 0))), (1, vi l1)] 5 [vi s0] Q := by
  refine Zm.l (fun _ _ k_ => z_ist_n dX8_load_5 rfl (by decide) (lv' := [(0, vr (some (97, 1, 0))), (1, vi l1), (2, vi s0)]) rfl k_) ?_
  refine Zm.l (fun _ _ k_ => z_iconst (v := 0) dX8_load_6 rfl k_) ?_
  refine Zm.l (fun _ _ k_ => z_ist_n dX8_load_7 rfl (by decide) (lv' := [(0, vr (some (97, 1, 0))), (1, vi l1), (2, vi s0), (3, vi (0 : Int32))]) rfl k_) ?_
  exact k
theorem sX8_load_8 {E : zE} {d : Nat} {Q : zO → zM → Prop} (M : zM) (l1 : Int32) (l2 : Int32) (l3 : Int32) (k : if ((gi M 97 71) * ((gi M 97 8) + (1 : Int32))) ≤ l3 then (Zm E YX8_loadRest d M (zargs 0 [vr (some (97, 1, 0)), vi l1]) 0 [] (zma E YX8_load (d + 1) [(0, vr (some (97, 1, 0))), (1, vi l1)] 43 3 [] Q)) else (Zm E YX8_copySet d M (zargs 0 [vr (some (97, 1, 0)), vi (l2 + l3), vi ((635640 : Int32) + l3)]) 0 [] (zma E YX8_load (d + 1) [(0, vr (some (97, 1, 0))), (1, vi l1), (2, vi l2), (3, vi l3)] 32 3 [] Q))) : Zm E YX8_load (d + 1) M [(0, vr (some (97, 1, 0))), (1, vi l1), (2, vi l2), (3, vi l3)] 8 [] Q := by
  refine Zm.l (fun _ _ k_ => z_iload_n dX8_load_8 rfl rfl k_) ?_
  refine Zm.l (fun _ _ k_ => z_aload_n dX8_load_9 rfl rfl k_) ?_
  refine zm_geti dX8_load_10 fsX8_765_1 (by decide) (by decide) ?_
  refine Zm.l (fun _ _ k_ => z_aload_n dX8_load_13 rfl rfl k_) ?_
  refine zm_geti dX8_load_14 fsX8_762_1 (by decide) (by decide) ?_
  refine Zm.l (fun _ _ k_ => z_iconst (v := 1) dX8_load_17 rfl k_) ?_
  refine Zm.l (fun _ _ k_ => z_iadd dX8_load_18 k_) ?_
  refine Zm.l (fun _ _ k_ => z_imul dX8_load_19 k_) ?_
  refine Zm.br (fun _ _ k1_ k2_ => z_icmp_ge (tgt := 41) dX8_load_20 rfl k1_ k2_) (fun h_ => ?_) (fun h_ => ?_)
  · have k := zit h_ k
    refine Zm.l (fun _ _ k_ => z_aload_n dX8_load_41 rfl rfl k_) ?_
    refine Zm.l (fun _ _ k_ => z_iload_n dX8_load_42 rfl rfl k_) ?_
    refine Zm.pick [0, 1] rfl ?_
    exact zm_callV (as := [vi l1]) (st := []) dX8_load_43 vsX8_1095_1 (Nat.le_refl _) (Nat.le_of_ble_eq_true rfl) (Nat.le_of_ble_eq_true rfl) rfl k
  · have k := zif h_ k
    refine Zm.l (fun _ _ k_ => z_aload_n dX8_load_23 rfl rfl k_) ?_
    refine Zm.l (fun _ _ k_ => z_iload_n dX8_load_24 rfl rfl k_) ?_
    refine Zm.l (fun _ _ k_ => z_iload_n dX8_load_25 rfl rfl k_) ?_
    refine Zm.l (fun _ _ k_ => z_iadd dX8_load_26 k_) ?_
    refine Zm.l (fun _ _ k_ => z_ldcw (v := 635640) dX8_load_27 q4786 k_) ?_
    refine Zm.l (fun _ _ k_ => z_iload_n dX8_load_30 rfl rfl k_) ?_
    refine Zm.l (fun _ _ k_ => z_iadd dX8_load_31 k_) ?_
    exact zm_callV (as := [vi (l2 + l3), vi ((635640 : Int32) + l3)]) (st := []) dX8_load_32 vsX8_1092_1 (Nat.le_refl _) (Nat.le_of_ble_eq_true rfl) (Nat.le_of_ble_eq_true rfl) rfl k
theorem sX8_load_35 {E : zE} {d : Nat} {Q : zO → zM → Prop} (M : zM) (l1 : Int32) (l2 : Int32) (l3 : Int32) (k : Zm E YX8_load (d + 1) M [(0, vr (some (97, 1, 0))), (1, vi l1), (2, vi l2), (3, vi (l3 + (1 : Int32)))] 8 [] Q) : Zm E YX8_load (d + 1) M [(0, vr (some (97, 1, 0))), (1, vi l1), (2, vi l2), (3, vi l3)] 35 [] Q := by
  refine Zm.l (fun _ _ k_ => z_inc (v := (l3 + (1 : Int32))) dX8_load_35 rfl rfl (by decide) (lv' := [(0, vr (some (97, 1, 0))), (1, vi l1), (2, vi l2), (3, vi (l3 + (1 : Int32)))]) rfl k_) ?_
  refine Zm.l (fun _ _ k_ => z_goto (tgt := 8) dX8_load_38 rfl k_) ?_
  exact k
theorem sX8_load_46 {E : zE} {d : Nat} {Q : zO → zM → Prop} (M : zM) (l1 : Int32) (k : vp_in l1 640 ∧ (vp_in (639 : Int32) 640 ∧ (Zm E YX8_load (d + 1) (si M 171 ((639 : Int32)).toNatClampNeg (gi M 171 (l1).toNatClampNeg)) [(0, vr (some (97, 1, 0))), (1, vi l1), (3, vi (0 : Int32))] 62 [] Q))) : Zm E YX8_load (d + 1) M [(0, vr (some (97, 1, 0))), (1, vi l1)] 46 [] Q := by
  refine Zm.l (fun _ _ k_ => z_aload_n dX8_load_46 rfl rfl k_) ?_
  refine zm_getr 68 dX8_load_47 fsX8_235_1 rfl ?_
  refine Zm.l (fun _ _ k_ => z_sipush (v := 639) dX8_load_50 rfl k_) ?_
  refine Zm.l (fun _ _ k_ => z_aload_n dX8_load_53 rfl rfl k_) ?_
  refine zm_getr 68 dX8_load_54 fsX8_235_1 rfl ?_
  refine Zm.l (fun _ _ k_ => z_iload_n dX8_load_57 rfl rfl k_) ?_
  obtain ⟨b_, k⟩ := k
  refine zm_iald dX8_load_58 b_ (by decide) (by decide) ?_
  obtain ⟨b_, k⟩ := k
  refine zm_iast dX8_load_59 b_ (by decide) (by decide) ?_
  refine Zm.l (fun _ _ k_ => z_iconst (v := 0) dX8_load_60 rfl k_) ?_
  refine Zm.l (fun _ _ k_ => z_ist_n dX8_load_61 rfl (by decide) (lv' := [(0, vr (some (97, 1, 0))), (1, vi l1), (3, vi (0 : Int32))]) rfl k_) ?_
  exact k
theorem sX8_load_62 {E : zE} {d : Nat} {Q : zO → zM → Prop} (M : zM) (l1 : Int32) (l3 : Int32) (k : vp_in l1 640 ∧ (if (gi M 171 (l1).toNatClampNeg) ≤ l3 then (Zm E YX8_thisAt d M (zargs 0 [vr (some (97, 1, 0)), vi l1]) 0 [] (zma E YX8_load (d + 1) [(0, vr (some (97, 1, 0))), (1, vi l1)] 103 3 [vr (some (97, 1, 0))] Q)) else (vp_in l1 640 ∧ (vp_in (639 : Int32) 640 ∧ (Zm E YX8_copySet d M (zargs 0 [vr (some (97, 1, 0)), vi ((gi M 172 (l1).toNatClampNeg) + l3), vi ((gi M 172 ((639 : Int32)).toNatClampNeg) + l3)]) 0 [] (zma E YX8_load (d + 1) [(0, vr (some (97, 1, 0))), (1, vi l1), (3, vi l3)] 91 3 [] Q)))))) : Zm E YX8_load (d + 1) M [(0, vr (some (97, 1, 0))), (1, vi l1), (3, vi l3)] 62 [] Q := by
  refine Zm.l (fun _ _ k_ => z_iload_n dX8_load_62 rfl rfl k_) ?_
  refine Zm.l (fun _ _ k_ => z_aload_n dX8_load_63 rfl rfl k_) ?_
  refine zm_getr 68 dX8_load_64 fsX8_235_1 rfl ?_
  refine Zm.l (fun _ _ k_ => z_iload_n dX8_load_67 rfl rfl k_) ?_
  obtain ⟨b_, k⟩ := k
  refine zm_iald dX8_load_68 b_ (by decide) (by decide) ?_
  refine Zm.br (fun _ _ k1_ k2_ => z_icmp_ge (tgt := 100) dX8_load_69 rfl k1_ k2_) (fun h_ => ?_) (fun h_ => ?_)
  · have k := zit h_ k
    refine Zm.l (fun _ _ k_ => z_aload_n dX8_load_100 rfl rfl k_) ?_
    refine Zm.l (fun _ _ k_ => z_aload_n dX8_load_101 rfl rfl k_) ?_
    refine Zm.l (fun _ _ k_ => z_iload_n dX8_load_102 rfl rfl k_) ?_
    refine Zm.pick [0, 1] rfl ?_
    exact zm_callV (as := [vi l1]) (st := [vr (some (97, 1, 0))]) dX8_load_103 vsX8_1098_1 (Nat.le_refl _) (Nat.le_of_ble_eq_true rfl) (Nat.le_of_ble_eq_true rfl) rfl k
  · have k := zif h_ k
    refine Zm.l (fun _ _ k_ => z_aload_n dX8_load_72 rfl rfl k_) ?_
    refine Zm.l (fun _ _ k_ => z_aload_n dX8_load_73 rfl rfl k_) ?_
    refine zm_getr 69 dX8_load_74 fsX8_238_1 rfl ?_
    refine Zm.l (fun _ _ k_ => z_iload_n dX8_load_77 rfl rfl k_) ?_
    obtain ⟨b_, k⟩ := k
    refine zm_iald dX8_load_78 b_ (by decide) (by decide) ?_
    refine Zm.l (fun _ _ k_ => z_iload_n dX8_load_79 rfl rfl k_) ?_
    refine Zm.l (fun _ _ k_ => z_iadd dX8_load_80 k_) ?_
    refine Zm.l (fun _ _ k_ => z_aload_n dX8_load_81 rfl rfl k_) ?_
    refine zm_getr 69 dX8_load_82 fsX8_238_1 rfl ?_
    refine Zm.l (fun _ _ k_ => z_sipush (v := 639) dX8_load_85 rfl k_) ?_
    obtain ⟨b_, k⟩ := k
    refine zm_iald dX8_load_88 b_ (by decide) (by decide) ?_
    refine Zm.l (fun _ _ k_ => z_iload_n dX8_load_89 rfl rfl k_) ?_
    refine Zm.l (fun _ _ k_ => z_iadd dX8_load_90 k_) ?_
    exact zm_callV (as := [vi ((gi M 172 (l1).toNatClampNeg) + l3), vi ((gi M 172 ((639 : Int32)).toNatClampNeg) + l3)]) (st := []) dX8_load_91 vsX8_1092_1 (Nat.le_refl _) (Nat.le_of_ble_eq_true rfl) (Nat.le_of_ble_eq_true rfl) rfl k
theorem sX8_load_94 {E : zE} {d : Nat} {Q : zO → zM → Prop} (M : zM) (l1 : Int32) (l3 : Int32) (k : Zm E YX8_load (d + 1) M [(0, vr (some (97, 1, 0))), (1, vi l1), (3, vi (l3 + (1 : Int32)))] 62 [] Q) : Zm E YX8_load (d + 1) M [(0, vr (some (97, 1, 0))), (1, vi l1), (3, vi l3)] 94 [] Q := by
  refine Zm.l (fun _ _ k_ => z_inc (v := (l3 + (1 : Int32))) dX8_load_94 rfl rfl (by decide) (lv' := [(0, vr (some (97, 1, 0))), (1, vi l1), (3, vi (l3 + (1 : Int32)))]) rfl k_) ?_
  refine Zm.l (fun _ _ k_ => z_goto (tgt := 62) dX8_load_97 rfl k_) ?_
  exact k
theorem sX8_load_106 {E : zE} {d : Nat} {Q : zO → zM → Prop} (M : zM) (l1 : Int32) (s0 : Int32) (k : Zm E YX8_thisAt d M (zargs 0 [vr (some (97, 1, 0)), vi (639 : Int32)]) 0 [] (zma E YX8_load (d + 1) [(0, vr (some (97, 1, 0))), (1, vi l1)] 110 3 [vi s0, vr (some (97, 1, 0))] Q)) : Zm E YX8_load (d + 1) M [(0, vr (some (97, 1, 0))), (1, vi l1)] 106 [vi s0, vr (some (97, 1, 0))] Q := by
  refine Zm.l (fun _ _ k_ => z_aload_n dX8_load_106 rfl rfl k_) ?_
  refine Zm.l (fun _ _ k_ => z_sipush (v := 639) dX8_load_107 rfl k_) ?_
  exact zm_callV (as := [vi (639 : Int32)]) (st := [vi s0, vr (some (97, 1, 0))]) dX8_load_110 vsX8_1098_1 (Nat.le_refl _) (Nat.le_of_ble_eq_true rfl) (Nat.le_of_ble_eq_true rfl) rfl k
theorem sX8_load_113 {E : zE} {d : Nat} {Q : zO → zM → Prop} (M : zM) (l1 : Int32) (s0 : Int32) (s1 : Int32) (k : Zm E YX8_copySet d M (zargs 0 [vr (some (97, 1, 0)), vi s1, vi s0]) 0 [] (zma E YX8_load (d + 1) [(0, vr (some (97, 1, 0))), (1, vi l1)] 113 3 [] Q)) : Zm E YX8_load (d + 1) M [(0, vr (some (97, 1, 0))), (1, vi l1)] 113 [vi s0, vi s1, vr (some (97, 1, 0))] Q := by
  exact zm_callV (as := [vi s1, vi s0]) (st := []) dX8_load_113 vsX8_1092_1 (Nat.le_refl _) (Nat.le_of_ble_eq_true rfl) (Nat.le_of_ble_eq_true rfl) rfl k
theorem sX8_load_116 {E : zE} {d : Nat} {Q : zO → zM → Prop} (M : zM) (l1 : Int32) (k : vp_in l1 640 ∧ (vp_in (639 : Int32) 640 ∧ (vp_in l1 640 ∧ (vp_in (639 : Int32) 640 ∧ (vp_in l1 640 ∧ (vp_in (639 : Int32) 640 ∧ (Zm E YX8_load (d + 1) (si (sl (sl M 173 ((639 : Int32)).toNatClampNeg (gl M 173 (l1).toNatClampNeg)) 174 ((639 : Int32)).toNatClampNeg (gl M 174 (l1).toNatClampNeg)) 175 ((639 : Int32)).toNatClampNeg (gi M 175 (l1).toNatClampNeg)) [(0, vr (some (97, 1, 0))), (1, vi l1), (3, vi (0 : Int32))] 160 [] Q))))))) : Zm E YX8_load (d + 1) M [(0, vr (some (97, 1, 0))), (1, vi l1)] 116 [] Q := by
  refine Zm.l (fun _ _ k_ => z_aload_n dX8_load_116 rfl rfl k_) ?_
  refine zm_getr 70 dX8_load_117 fsX8_241_1 rfl ?_
  refine Zm.l (fun _ _ k_ => z_sipush (v := 639) dX8_load_120 rfl k_) ?_
  refine Zm.l (fun _ _ k_ => z_aload_n dX8_load_123 rfl rfl k_) ?_
  refine zm_getr 70 dX8_load_124 fsX8_241_1 rfl ?_
  refine Zm.l (fun _ _ k_ => z_iload_n dX8_load_127 rfl rfl k_) ?_
  obtain ⟨b_, k⟩ := k
  refine zm_lald dX8_load_128 b_ (by decide) (by decide) ?_
  obtain ⟨b_, k⟩ := k
  refine zm_last dX8_load_129 b_ (by decide) (by decide) ?_
  refine Zm.l (fun _ _ k_ => z_aload_n dX8_load_130 rfl rfl k_) ?_
  refine zm_getr 71 dX8_load_131 fsX8_244_1 rfl ?_
  refine Zm.l (fun _ _ k_ => z_sipush (v := 639) dX8_load_134 rfl k_) ?_
  refine Zm.l (fun _ _ k_ => z_aload_n dX8_load_137 rfl rfl k_) ?_
  refine zm_getr 71 dX8_load_138 fsX8_244_1 rfl ?_
  refine Zm.l (fun _ _ k_ => z_iload_n dX8_load_141 rfl rfl k_) ?_
  obtain ⟨b_, k⟩ := k
  refine zm_lald dX8_load_142 b_ (by decide) (by decide) ?_
  obtain ⟨b_, k⟩ := k
  refine zm_last dX8_load_143 b_ (by decide) (by decide) ?_
  refine Zm.l (fun _ _ k_ => z_aload_n dX8_load_144 rfl rfl k_) ?_
  refine zm_getr 72 dX8_load_145 fsX8_247_1 rfl ?_
  refine Zm.l (fun _ _ k_ => z_sipush (v := 639) dX8_load_148 rfl k_) ?_
  refine Zm.l (fun _ _ k_ => z_aload_n dX8_load_151 rfl rfl k_) ?_
  refine zm_getr 72 dX8_load_152 fsX8_247_1 rfl ?_
  refine Zm.l (fun _ _ k_ => z_iload_n dX8_load_155 rfl rfl k_) ?_
  obtain ⟨b_, k⟩ := k
  refine zm_iald dX8_load_156 b_ (by decide) (by decide) ?_
  obtain ⟨b_, k⟩ := k
  refine zm_iast dX8_load_157 b_ (by decide) (by decide) ?_
  refine Zm.l (fun _ _ k_ => z_iconst (v := 0) dX8_load_158 rfl k_) ?_
  refine Zm.l (fun _ _ k_ => z_ist_n dX8_load_159 rfl (by decide) (lv' := [(0, vr (some (97, 1, 0))), (1, vi l1), (3, vi (0 : Int32))]) rfl k_) ?_
  exact k
theorem sX8_load_160 {E : zE} {d : Nat} {Q : zO → zM → Prop} (M : zM) (l1 : Int32) (l3 : Int32) (k : vp_in l1 640 ∧ (if (gi M 175 (l1).toNatClampNeg) ≤ l3 then (Q (.inl none) M) else (vp_in (((40 : Int32) * l1) + l3) 25600 ∧ (vp_in ((25560 : Int32) + l3) 25600 ∧ (vp_in (((40 : Int32) * l1) + l3) 25600 ∧ (vp_in ((25560 : Int32) + l3) 25600 ∧ (Zm E YX8_load (d + 1) (si (si M 176 (((25560 : Int32) + l3)).toNatClampNeg (gi M 176 ((((40 : Int32) * l1) + l3)).toNatClampNeg)) 177 (((25560 : Int32) + l3)).toNatClampNeg (gi M 177 ((((40 : Int32) * l1) + l3)).toNatClampNeg)) [(0, vr (some (97, 1, 0))), (1, vi l1), (3, vi (l3 + (1 : Int32)))] 160 [] Q))))))) : Zm E YX8_load (d + 1) M [(0, vr (some (97, 1, 0))), (1, vi l1), (3, vi l3)] 160 [] Q := by
  refine Zm.l (fun _ _ k_ => z_iload_n dX8_load_160 rfl rfl k_) ?_
  refine Zm.l (fun _ _ k_ => z_aload_n dX8_load_161 rfl rfl k_) ?_
  refine zm_getr 72 dX8_load_162 fsX8_247_1 rfl ?_
  refine Zm.l (fun _ _ k_ => z_iload_n dX8_load_165 rfl rfl k_) ?_
  obtain ⟨b_, k⟩ := k
  refine zm_iald dX8_load_166 b_ (by decide) (by decide) ?_
  refine Zm.br (fun _ _ k1_ k2_ => z_icmp_ge (tgt := 218) dX8_load_167 rfl k1_ k2_) (fun h_ => ?_) (fun h_ => ?_)
  · have k := zit h_ k
    exact zm_vret dX8_load_218 rfl k
  · have k := zif h_ k
    refine Zm.l (fun _ _ k_ => z_aload_n dX8_load_170 rfl rfl k_) ?_
    refine zm_getr 73 dX8_load_171 fsX8_250_1 rfl ?_
    refine Zm.l (fun _ _ k_ => z_sipush (v := 25560) dX8_load_174 rfl k_) ?_
    refine Zm.l (fun _ _ k_ => z_iload_n dX8_load_177 rfl rfl k_) ?_
    refine Zm.l (fun _ _ k_ => z_iadd dX8_load_178 k_) ?_
    refine Zm.l (fun _ _ k_ => z_aload_n dX8_load_179 rfl rfl k_) ?_
    refine zm_getr 73 dX8_load_180 fsX8_250_1 rfl ?_
    refine Zm.l (fun _ _ k_ => z_bipush (v := 40) dX8_load_183 rfl k_) ?_
    refine Zm.l (fun _ _ k_ => z_iload_n dX8_load_185 rfl rfl k_) ?_
    refine Zm.l (fun _ _ k_ => z_imul dX8_load_186 k_) ?_
    refine Zm.l (fun _ _ k_ => z_iload_n dX8_load_187 rfl rfl k_) ?_
    refine Zm.l (fun _ _ k_ => z_iadd dX8_load_188 k_) ?_
    obtain ⟨b_, k⟩ := k
    refine zm_iald dX8_load_189 b_ (by decide) (by decide) ?_
    obtain ⟨b_, k⟩ := k
    refine zm_iast dX8_load_190 b_ (by decide) (by decide) ?_
    refine Zm.l (fun _ _ k_ => z_aload_n dX8_load_191 rfl rfl k_) ?_
    refine zm_getr 74 dX8_load_192 fsX8_253_1 rfl ?_
    refine Zm.l (fun _ _ k_ => z_sipush (v := 25560) dX8_load_195 rfl k_) ?_
    refine Zm.l (fun _ _ k_ => z_iload_n dX8_load_198 rfl rfl k_) ?_
    refine Zm.l (fun _ _ k_ => z_iadd dX8_load_199 k_) ?_
    refine Zm.l (fun _ _ k_ => z_aload_n dX8_load_200 rfl rfl k_) ?_
    refine zm_getr 74 dX8_load_201 fsX8_253_1 rfl ?_
    refine Zm.l (fun _ _ k_ => z_bipush (v := 40) dX8_load_204 rfl k_) ?_
    refine Zm.l (fun _ _ k_ => z_iload_n dX8_load_206 rfl rfl k_) ?_
    refine Zm.l (fun _ _ k_ => z_imul dX8_load_207 k_) ?_
    refine Zm.l (fun _ _ k_ => z_iload_n dX8_load_208 rfl rfl k_) ?_
    refine Zm.l (fun _ _ k_ => z_iadd dX8_load_209 k_) ?_
    obtain ⟨b_, k⟩ := k
    refine zm_iald dX8_load_210 b_ (by decide) (by decide) ?_
    obtain ⟨b_, k⟩ := k
    refine zm_iast dX8_load_211 b_ (by decide) (by decide) ?_
    refine Zm.l (fun _ _ k_ => z_inc (v := (l3 + (1 : Int32))) dX8_load_212 rfl rfl (by decide) (lv' := [(0, vr (some (97, 1, 0))), (1, vi l1), (3, vi (l3 + (1 : Int32)))]) rfl k_) ?_
    refine Zm.l (fun _ _ k_ => z_goto (tgt := 160) dX8_load_215 rfl k_) ?_
    exact k
/-! ScriptTypesModel.copySet(II)V -/
theorem bX8_copySet_0 : zdec cX8_copySet 0 [(0, .aload_n 0, 1), (1, .getfield 216, 3), (4, .iload_n 2, 1), (5, .aload_n 0, 1), (6, .getfield 216, 3), (9, .iload_n 1, 1), (10, .laload, 1), (11, .lastore, 1), (12, .aload_n 0, 1), (13, .getfield 220, 3), (16, .iload_n 2, 1), (17, .aload_n 0, 1), (18, .getfield 220, 3), (21, .iload_n 1, 1), (22, .laload, 1), (23, .lastore, 1)] = true := by decide +kernel
theorem dX8_copySet_0 : decode cX8_copySet 0 = .ok (.aload_n 0, 1) := zdec_at bX8_copySet_0 0 rfl
theorem dX8_copySet_1 : decode cX8_copySet 1 = .ok (.getfield 216, 3) := zdec_at bX8_copySet_0 1 rfl
theorem dX8_copySet_4 : decode cX8_copySet 4 = .ok (.iload_n 2, 1) := zdec_at bX8_copySet_0 2 rfl
theorem dX8_copySet_5 : decode cX8_copySet 5 = .ok (.aload_n 0, 1) := zdec_at bX8_copySet_0 3 rfl
theorem dX8_copySet_6 : decode cX8_copySet 6 = .ok (.getfield 216, 3) := zdec_at bX8_copySet_0 4 rfl
theorem dX8_copySet_9 : decode cX8_copySet 9 = .ok (.iload_n 1, 1) := zdec_at bX8_copySet_0 5 rfl
theorem dX8_copySet_10 : decode cX8_copySet 10 = .ok (.laload, 1) := zdec_at bX8_copySet_0 6 rfl
theorem dX8_copySet_11 : decode cX8_copySet 11 = .ok (.lastore, 1) := zdec_at bX8_copySet_0 7 rfl
theorem dX8_copySet_12 : decode cX8_copySet 12 = .ok (.aload_n 0, 1) := zdec_at bX8_copySet_0 8 rfl
theorem dX8_copySet_13 : decode cX8_copySet 13 = .ok (.getfield 220, 3) := zdec_at bX8_copySet_0 9 rfl
theorem dX8_copySet_16 : decode cX8_copySet 16 = .ok (.iload_n 2, 1) := zdec_at bX8_copySet_0 10 rfl
theorem dX8_copySet_17 : decode cX8_copySet 17 = .ok (.aload_n 0, 1) := zdec_at bX8_copySet_0 11 rfl
theorem dX8_copySet_18 : decode cX8_copySet 18 = .ok (.getfield 220, 3) := zdec_at bX8_copySet_0 12 rfl
theorem dX8_copySet_21 : decode cX8_copySet 21 = .ok (.iload_n 1, 1) := zdec_at bX8_copySet_0 13 rfl
theorem dX8_copySet_22 : decode cX8_copySet 22 = .ok (.laload, 1) := zdec_at bX8_copySet_0 14 rfl
theorem dX8_copySet_23 : decode cX8_copySet 23 = .ok (.lastore, 1) := zdec_at bX8_copySet_0 15 rfl
theorem bX8_copySet_24 : zdec cX8_copySet 24 [(24, .aload_n 0, 1), (25, .getfield 223, 3), (28, .iload_n 2, 1), (29, .aload_n 0, 1), (30, .getfield 223, 3), (33, .iload_n 1, 1), (34, .laload, 1), (35, .lastore, 1), (36, .return_, 1)] = true := by decide +kernel
theorem dX8_copySet_24 : decode cX8_copySet 24 = .ok (.aload_n 0, 1) := zdec_at bX8_copySet_24 0 rfl
theorem dX8_copySet_25 : decode cX8_copySet 25 = .ok (.getfield 223, 3) := zdec_at bX8_copySet_24 1 rfl
theorem dX8_copySet_28 : decode cX8_copySet 28 = .ok (.iload_n 2, 1) := zdec_at bX8_copySet_24 2 rfl
theorem dX8_copySet_29 : decode cX8_copySet 29 = .ok (.aload_n 0, 1) := zdec_at bX8_copySet_24 3 rfl
theorem dX8_copySet_30 : decode cX8_copySet 30 = .ok (.getfield 223, 3) := zdec_at bX8_copySet_24 4 rfl
theorem dX8_copySet_33 : decode cX8_copySet 33 = .ok (.iload_n 1, 1) := zdec_at bX8_copySet_24 5 rfl
theorem dX8_copySet_34 : decode cX8_copySet 34 = .ok (.laload, 1) := zdec_at bX8_copySet_24 6 rfl
theorem dX8_copySet_35 : decode cX8_copySet 35 = .ok (.lastore, 1) := zdec_at bX8_copySet_24 7 rfl
theorem dX8_copySet_36 : decode cX8_copySet 36 = .ok (.return_, 1) := zdec_at bX8_copySet_24 8 rfl
theorem sX8_copySet_0 {E : zE} {d : Nat} {Q : zO → zM → Prop} (M : zM) (l1 : Int32) (l2 : Int32) (k : vp_in l1 647800 ∧ (vp_in l2 647800 ∧ (vp_in l1 647800 ∧ (vp_in l2 647800 ∧ (vp_in l1 647800 ∧ (vp_in l2 647800 ∧ (Q (.inl none) (sl (sl (sl M 165 (l2).toNatClampNeg (gl M 165 (l1).toNatClampNeg)) 166 (l2).toNatClampNeg (gl M 166 (l1).toNatClampNeg)) 167 (l2).toNatClampNeg (gl M 167 (l1).toNatClampNeg))))))))) : Zm E YX8_copySet d M [(0, vr (some (97, 1, 0))), (1, vi l1), (2, vi l2)] 0 [] Q := by
  refine Zm.l (fun _ _ k_ => z_aload_n dX8_copySet_0 rfl rfl k_) ?_
  refine zm_getr 62 dX8_copySet_1 fsX8_216_1 rfl ?_
  refine Zm.l (fun _ _ k_ => z_iload_n dX8_copySet_4 rfl rfl k_) ?_
  refine Zm.l (fun _ _ k_ => z_aload_n dX8_copySet_5 rfl rfl k_) ?_
  refine zm_getr 62 dX8_copySet_6 fsX8_216_1 rfl ?_
  refine Zm.l (fun _ _ k_ => z_iload_n dX8_copySet_9 rfl rfl k_) ?_
  obtain ⟨b_, k⟩ := k
  refine zm_lald dX8_copySet_10 b_ (by decide) (by decide) ?_
  obtain ⟨b_, k⟩ := k
  refine zm_last dX8_copySet_11 b_ (by decide) (by decide) ?_
  refine Zm.l (fun _ _ k_ => z_aload_n dX8_copySet_12 rfl rfl k_) ?_
  refine zm_getr 63 dX8_copySet_13 fsX8_220_1 rfl ?_
  refine Zm.l (fun _ _ k_ => z_iload_n dX8_copySet_16 rfl rfl k_) ?_
  refine Zm.l (fun _ _ k_ => z_aload_n dX8_copySet_17 rfl rfl k_) ?_
  refine zm_getr 63 dX8_copySet_18 fsX8_220_1 rfl ?_
  refine Zm.l (fun _ _ k_ => z_iload_n dX8_copySet_21 rfl rfl k_) ?_
  obtain ⟨b_, k⟩ := k
  refine zm_lald dX8_copySet_22 b_ (by decide) (by decide) ?_
  obtain ⟨b_, k⟩ := k
  refine zm_last dX8_copySet_23 b_ (by decide) (by decide) ?_
  refine Zm.l (fun _ _ k_ => z_aload_n dX8_copySet_24 rfl rfl k_) ?_
  refine zm_getr 64 dX8_copySet_25 fsX8_223_1 rfl ?_
  refine Zm.l (fun _ _ k_ => z_iload_n dX8_copySet_28 rfl rfl k_) ?_
  refine Zm.l (fun _ _ k_ => z_aload_n dX8_copySet_29 rfl rfl k_) ?_
  refine zm_getr 64 dX8_copySet_30 fsX8_223_1 rfl ?_
  refine Zm.l (fun _ _ k_ => z_iload_n dX8_copySet_33 rfl rfl k_) ?_
  obtain ⟨b_, k⟩ := k
  refine zm_lald dX8_copySet_34 b_ (by decide) (by decide) ?_
  obtain ⟨b_, k⟩ := k
  refine zm_last dX8_copySet_35 b_ (by decide) (by decide) ?_
  exact zm_vret dX8_copySet_36 rfl k
/-! ScriptTypesModel.loadRest(I)V -/
theorem bX8_loadRest_0 : zdec cX8_loadRest 0 [(0, .iconst 0, 1), (1, .istore_n 2, 1), (2, .iload_n 2, 1), (3, .aload_n 0, 1), (4, .getfield 765, 3), (7, .if_icmp .ge 104, 3), (10, .aload_n 0, 1), (11, .iload_n 1, 1), (12, .iload_n 2, 1), (13, .invokevirtual 1101, 3), (16, .istore_n 3, 1), (17, .aload_n 0, 1), (18, .sipush 639, 3), (21, .iload_n 2, 1), (22, .invokevirtual 1101, 3), (25, .istore 4, 2)] = true := by decide +kernel
theorem dX8_loadRest_0 : decode cX8_loadRest 0 = .ok (.iconst 0, 1) := zdec_at bX8_loadRest_0 0 rfl
theorem dX8_loadRest_1 : decode cX8_loadRest 1 = .ok (.istore_n 2, 1) := zdec_at bX8_loadRest_0 1 rfl
theorem dX8_loadRest_2 : decode cX8_loadRest 2 = .ok (.iload_n 2, 1) := zdec_at bX8_loadRest_0 2 rfl
theorem dX8_loadRest_3 : decode cX8_loadRest 3 = .ok (.aload_n 0, 1) := zdec_at bX8_loadRest_0 3 rfl
theorem dX8_loadRest_4 : decode cX8_loadRest 4 = .ok (.getfield 765, 3) := zdec_at bX8_loadRest_0 4 rfl
theorem dX8_loadRest_7 : decode cX8_loadRest 7 = .ok (.if_icmp .ge 104, 3) := zdec_at bX8_loadRest_0 5 rfl
theorem dX8_loadRest_10 : decode cX8_loadRest 10 = .ok (.aload_n 0, 1) := zdec_at bX8_loadRest_0 6 rfl
theorem dX8_loadRest_11 : decode cX8_loadRest 11 = .ok (.iload_n 1, 1) := zdec_at bX8_loadRest_0 7 rfl
theorem dX8_loadRest_12 : decode cX8_loadRest 12 = .ok (.iload_n 2, 1) := zdec_at bX8_loadRest_0 8 rfl
theorem dX8_loadRest_13 : decode cX8_loadRest 13 = .ok (.invokevirtual 1101, 3) := zdec_at bX8_loadRest_0 9 rfl
theorem dX8_loadRest_16 : decode cX8_loadRest 16 = .ok (.istore_n 3, 1) := zdec_at bX8_loadRest_0 10 rfl
theorem dX8_loadRest_17 : decode cX8_loadRest 17 = .ok (.aload_n 0, 1) := zdec_at bX8_loadRest_0 11 rfl
theorem dX8_loadRest_18 : decode cX8_loadRest 18 = .ok (.sipush 639, 3) := zdec_at bX8_loadRest_0 12 rfl
theorem dX8_loadRest_21 : decode cX8_loadRest 21 = .ok (.iload_n 2, 1) := zdec_at bX8_loadRest_0 13 rfl
theorem dX8_loadRest_22 : decode cX8_loadRest 22 = .ok (.invokevirtual 1101, 3) := zdec_at bX8_loadRest_0 14 rfl
theorem dX8_loadRest_25 : decode cX8_loadRest 25 = .ok (.istore 4, 2) := zdec_at bX8_loadRest_0 15 rfl
theorem bX8_loadRest_27 : zdec cX8_loadRest 27 [(27, .aload_n 0, 1), (28, .getfield 256, 3), (31, .iload 4, 2), (33, .aload_n 0, 1), (34, .getfield 256, 3), (37, .iload_n 3, 1), (38, .baload, 1), (39, .bastore, 1), (40, .aload_n 0, 1), (41, .getfield 259, 3), (44, .iload 4, 2), (46, .aload_n 0, 1), (47, .getfield 259, 3), (50, .iload_n 3, 1), (51, .baload, 1), (52, .bastore, 1)] = true := by decide +kernel
theorem dX8_loadRest_27 : decode cX8_loadRest 27 = .ok (.aload_n 0, 1) := zdec_at bX8_loadRest_27 0 rfl
theorem dX8_loadRest_28 : decode cX8_loadRest 28 = .ok (.getfield 256, 3) := zdec_at bX8_loadRest_27 1 rfl
theorem dX8_loadRest_31 : decode cX8_loadRest 31 = .ok (.iload 4, 2) := zdec_at bX8_loadRest_27 2 rfl
theorem dX8_loadRest_33 : decode cX8_loadRest 33 = .ok (.aload_n 0, 1) := zdec_at bX8_loadRest_27 3 rfl
theorem dX8_loadRest_34 : decode cX8_loadRest 34 = .ok (.getfield 256, 3) := zdec_at bX8_loadRest_27 4 rfl
theorem dX8_loadRest_37 : decode cX8_loadRest 37 = .ok (.iload_n 3, 1) := zdec_at bX8_loadRest_27 5 rfl
theorem dX8_loadRest_38 : decode cX8_loadRest 38 = .ok (.baload, 1) := zdec_at bX8_loadRest_27 6 rfl
theorem dX8_loadRest_39 : decode cX8_loadRest 39 = .ok (.bastore, 1) := zdec_at bX8_loadRest_27 7 rfl
theorem dX8_loadRest_40 : decode cX8_loadRest 40 = .ok (.aload_n 0, 1) := zdec_at bX8_loadRest_27 8 rfl
theorem dX8_loadRest_41 : decode cX8_loadRest 41 = .ok (.getfield 259, 3) := zdec_at bX8_loadRest_27 9 rfl
theorem dX8_loadRest_44 : decode cX8_loadRest 44 = .ok (.iload 4, 2) := zdec_at bX8_loadRest_27 10 rfl
theorem dX8_loadRest_46 : decode cX8_loadRest 46 = .ok (.aload_n 0, 1) := zdec_at bX8_loadRest_27 11 rfl
theorem dX8_loadRest_47 : decode cX8_loadRest 47 = .ok (.getfield 259, 3) := zdec_at bX8_loadRest_27 12 rfl
theorem dX8_loadRest_50 : decode cX8_loadRest 50 = .ok (.iload_n 3, 1) := zdec_at bX8_loadRest_27 13 rfl
theorem dX8_loadRest_51 : decode cX8_loadRest 51 = .ok (.baload, 1) := zdec_at bX8_loadRest_27 14 rfl
theorem dX8_loadRest_52 : decode cX8_loadRest 52 = .ok (.bastore, 1) := zdec_at bX8_loadRest_27 15 rfl
theorem bX8_loadRest_53 : zdec cX8_loadRest 53 [(53, .aload_n 0, 1), (54, .getfield 262, 3), (57, .iload 4, 2), (59, .aload_n 0, 1), (60, .getfield 262, 3), (63, .iload_n 3, 1), (64, .laload, 1), (65, .lastore, 1), (66, .aload_n 0, 1), (67, .getfield 265, 3), (70, .iload 4, 2), (72, .aload_n 0, 1), (73, .getfield 265, 3), (76, .iload_n 3, 1), (77, .laload, 1), (78, .lastore, 1)] = true := by decide +kernel
theorem dX8_loadRest_53 : decode cX8_loadRest 53 = .ok (.aload_n 0, 1) := zdec_at bX8_loadRest_53 0 rfl
theorem dX8_loadRest_54 : decode cX8_loadRest 54 = .ok (.getfield 262, 3) := zdec_at bX8_loadRest_53 1 rfl
theorem dX8_loadRest_57 : decode cX8_loadRest 57 = .ok (.iload 4, 2) := zdec_at bX8_loadRest_53 2 rfl
theorem dX8_loadRest_59 : decode cX8_loadRest 59 = .ok (.aload_n 0, 1) := zdec_at bX8_loadRest_53 3 rfl
theorem dX8_loadRest_60 : decode cX8_loadRest 60 = .ok (.getfield 262, 3) := zdec_at bX8_loadRest_53 4 rfl
theorem dX8_loadRest_63 : decode cX8_loadRest 63 = .ok (.iload_n 3, 1) := zdec_at bX8_loadRest_53 5 rfl
theorem dX8_loadRest_64 : decode cX8_loadRest 64 = .ok (.laload, 1) := zdec_at bX8_loadRest_53 6 rfl
theorem dX8_loadRest_65 : decode cX8_loadRest 65 = .ok (.lastore, 1) := zdec_at bX8_loadRest_53 7 rfl
theorem dX8_loadRest_66 : decode cX8_loadRest 66 = .ok (.aload_n 0, 1) := zdec_at bX8_loadRest_53 8 rfl
theorem dX8_loadRest_67 : decode cX8_loadRest 67 = .ok (.getfield 265, 3) := zdec_at bX8_loadRest_53 9 rfl
theorem dX8_loadRest_70 : decode cX8_loadRest 70 = .ok (.iload 4, 2) := zdec_at bX8_loadRest_53 10 rfl
theorem dX8_loadRest_72 : decode cX8_loadRest 72 = .ok (.aload_n 0, 1) := zdec_at bX8_loadRest_53 11 rfl
theorem dX8_loadRest_73 : decode cX8_loadRest 73 = .ok (.getfield 265, 3) := zdec_at bX8_loadRest_53 12 rfl
theorem dX8_loadRest_76 : decode cX8_loadRest 76 = .ok (.iload_n 3, 1) := zdec_at bX8_loadRest_53 13 rfl
theorem dX8_loadRest_77 : decode cX8_loadRest 77 = .ok (.laload, 1) := zdec_at bX8_loadRest_53 14 rfl
theorem dX8_loadRest_78 : decode cX8_loadRest 78 = .ok (.lastore, 1) := zdec_at bX8_loadRest_53 15 rfl
theorem bX8_loadRest_79 : zdec cX8_loadRest 79 [(79, .aload_n 0, 1), (80, .getfield 268, 3), (83, .iload 4, 2), (85, .aload_n 0, 1), (86, .getfield 268, 3), (89, .iload_n 3, 1), (90, .laload, 1), (91, .lastore, 1), (92, .aload_n 0, 1), (93, .getfield 271, 3), (96, .iload 4, 2), (98, .aload_n 0, 1), (99, .getfield 271, 3), (102, .iload_n 3, 1), (103, .laload, 1), (104, .lastore, 1)] = true := by decide +kernel
theorem dX8_loadRest_79 : decode cX8_loadRest 79 = .ok (.aload_n 0, 1) := zdec_at bX8_loadRest_79 0 rfl
theorem dX8_loadRest_80 : decode cX8_loadRest 80 = .ok (.getfield 268, 3) := zdec_at bX8_loadRest_79 1 rfl
theorem dX8_loadRest_83 : decode cX8_loadRest 83 = .ok (.iload 4, 2) := zdec_at bX8_loadRest_79 2 rfl
theorem dX8_loadRest_85 : decode cX8_loadRest 85 = .ok (.aload_n 0, 1) := zdec_at bX8_loadRest_79 3 rfl
theorem dX8_loadRest_86 : decode cX8_loadRest 86 = .ok (.getfield 268, 3) := zdec_at bX8_loadRest_79 4 rfl
theorem dX8_loadRest_89 : decode cX8_loadRest 89 = .ok (.iload_n 3, 1) := zdec_at bX8_loadRest_79 5 rfl
theorem dX8_loadRest_90 : decode cX8_loadRest 90 = .ok (.laload, 1) := zdec_at bX8_loadRest_79 6 rfl
theorem dX8_loadRest_91 : decode cX8_loadRest 91 = .ok (.lastore, 1) := zdec_at bX8_loadRest_79 7 rfl
theorem dX8_loadRest_92 : decode cX8_loadRest 92 = .ok (.aload_n 0, 1) := zdec_at bX8_loadRest_79 8 rfl
theorem dX8_loadRest_93 : decode cX8_loadRest 93 = .ok (.getfield 271, 3) := zdec_at bX8_loadRest_79 9 rfl
theorem dX8_loadRest_96 : decode cX8_loadRest 96 = .ok (.iload 4, 2) := zdec_at bX8_loadRest_79 10 rfl
theorem dX8_loadRest_98 : decode cX8_loadRest 98 = .ok (.aload_n 0, 1) := zdec_at bX8_loadRest_79 11 rfl
theorem dX8_loadRest_99 : decode cX8_loadRest 99 = .ok (.getfield 271, 3) := zdec_at bX8_loadRest_79 12 rfl
theorem dX8_loadRest_102 : decode cX8_loadRest 102 = .ok (.iload_n 3, 1) := zdec_at bX8_loadRest_79 13 rfl
theorem dX8_loadRest_103 : decode cX8_loadRest 103 = .ok (.laload, 1) := zdec_at bX8_loadRest_79 14 rfl
theorem dX8_loadRest_104 : decode cX8_loadRest 104 = .ok (.lastore, 1) := zdec_at bX8_loadRest_79 15 rfl
theorem bX8_loadRest_105 : zdec cX8_loadRest 105 [(105, .iinc 2 1, 3), (108, .goto (-106), 3), (111, .return_, 1)] = true := by decide +kernel
theorem dX8_loadRest_105 : decode cX8_loadRest 105 = .ok (.iinc 2 1, 3) := zdec_at bX8_loadRest_105 0 rfl
theorem dX8_loadRest_108 : decode cX8_loadRest 108 = .ok (.goto (-106), 3) := zdec_at bX8_loadRest_105 1 rfl
theorem dX8_loadRest_111 : decode cX8_loadRest 111 = .ok (.return_, 1) := zdec_at bX8_loadRest_105 2 rfl
theorem sX8_loadRest_0 {E : zE} {d : Nat} {Q : zO → zM → Prop} (M : zM) (l1 : Int32) (k : Zm E YX8_loadRest (d + 1) M [(0, vr (some (97, 1, 0))), (1, vi l1), (2, vi (0 : Int32))] 2 [] Q) : Zm E YX8_loadRest (d + 1) M [(0, vr (some (97, 1, 0))), (1, vi l1)] 0 [] Q := by
  refine Zm.l (fun _ _ k_ => z_iconst (v := 0) dX8_loadRest_0 rfl k_) ?_
  refine Zm.l (fun _ _ k_ => z_ist_n dX8_loadRest_1 rfl (by decide) (lv' := [(0, vr (some (97, 1, 0))), (1, vi l1), (2, vi (0 : Int32))]) rfl k_) ?_
  exact k
theorem sX8_loadRest_2 {E : zE} {d : Nat} {Q : zO → zM → Prop} (M : zM) (l1 : Int32) (l2 : Int32) (k : if (gi M 97 71) ≤ l2 then (Q (.inl none) M) else (Zm E YX8_of d M (zargs 0 [vr (some (97, 1, 0)), vi l1, vi l2]) 0 [] (zma E YX8_loadRest (d + 1) [(0, vr (some (97, 1, 0))), (1, vi l1), (2, vi l2)] 13 3 [] Q))) : Zm E YX8_loadRest (d + 1) M [(0, vr (some (97, 1, 0))), (1, vi l1), (2, vi l2)] 2 [] Q := by
  refine Zm.l (fun _ _ k_ => z_iload_n dX8_loadRest_2 rfl rfl k_) ?_
  refine Zm.l (fun _ _ k_ => z_aload_n dX8_loadRest_3 rfl rfl k_) ?_
  refine zm_geti dX8_loadRest_4 fsX8_765_1 (by decide) (by decide) ?_
  refine Zm.br (fun _ _ k1_ k2_ => z_icmp_ge (tgt := 111) dX8_loadRest_7 rfl k1_ k2_) (fun h_ => ?_) (fun h_ => ?_)
  · have k := zit h_ k
    exact zm_vret dX8_loadRest_111 rfl k
  · have k := zif h_ k
    refine Zm.l (fun _ _ k_ => z_aload_n dX8_loadRest_10 rfl rfl k_) ?_
    refine Zm.l (fun _ _ k_ => z_iload_n dX8_loadRest_11 rfl rfl k_) ?_
    refine Zm.l (fun _ _ k_ => z_iload_n dX8_loadRest_12 rfl rfl k_) ?_
    exact zm_callV (as := [vi l1, vi l2]) (st := []) dX8_loadRest_13 vsX8_1101_1 (Nat.le_refl _) (Nat.le_of_ble_eq_true rfl) (Nat.le_of_ble_eq_true rfl) rfl k
theorem sX8_loadRest_16 {E : zE} {d : Nat} {Q : zO → zM → Prop} (M : zM) (l1 : Int32) (l2 : Int32) (s0 : Int32) (k : Zm E YX8_of d M (zargs 0 [vr (some (97, 1, 0)), vi (639 : Int32), vi l2]) 0 [] (zma E YX8_loadRest (d + 1) [(0, vr (some (97, 1, 0))), (1, vi l1), (2, vi l2), (3, vi s0)] 22 3 [] Q)) : Zm E YX8_loadRest (d + 1) M [(0, vr (some (97, 1, 0))), (1, vi l1), (2, vi l2)] 16 [vi s0] Q := by
  refine Zm.l (fun _ _ k_ => z_ist_n dX8_loadRest_16 rfl (by decide) (lv' := [(0, vr (some (97, 1, 0))), (1, vi l1), (2, vi l2), (3, vi s0)]) rfl k_) ?_
  refine Zm.l (fun _ _ k_ => z_aload_n dX8_loadRest_17 rfl rfl k_) ?_
  refine Zm.l (fun _ _ k_ => z_sipush (v := 639) dX8_loadRest_18 rfl k_) ?_
  refine Zm.l (fun _ _ k_ => z_iload_n dX8_loadRest_21 rfl rfl k_) ?_
  exact zm_callV (as := [vi (639 : Int32), vi l2]) (st := []) dX8_loadRest_22 vsX8_1101_1 (Nat.le_refl _) (Nat.le_of_ble_eq_true rfl) (Nat.le_of_ble_eq_true rfl) rfl k
theorem sX8_loadRest_25 {E : zE} {d : Nat} {Q : zO → zM → Prop} (M : zM) (l1 : Int32) (l2 : Int32) (l3 : Int32) (s0 : Int32) (k : vp_in l3 15128 ∧ (vp_in s0 15128 ∧ (vp_in l3 15128 ∧ (vp_in s0 15128 ∧ (vp_in l3 15128 ∧ (vp_in s0 15128 ∧ (vp_in l3 15128 ∧ (vp_in s0 15128 ∧ (vp_in l3 15128 ∧ (vp_in s0 15128 ∧ (vp_in l3 15128 ∧ (vp_in s0 15128 ∧ (Zm E YX8_loadRest (d + 1) (sl (sl (sl (sl (si (si M 178 (s0).toNatClampNeg (vp_nar .boolean (gi M 178 (l3).toNatClampNeg))) 179 (s0).toNatClampNeg (vp_nar .boolean (gi M 179 (l3).toNatClampNeg))) 180 (s0).toNatClampNeg (gl M 180 (l3).toNatClampNeg)) 181 (s0).toNatClampNeg (gl M 181 (l3).toNatClampNeg)) 182 (s0).toNatClampNeg (gl M 182 (l3).toNatClampNeg)) 183 (s0).toNatClampNeg (gl M 183 (l3).toNatClampNeg)) [(0, vr (some (97, 1, 0))), (1, vi l1), (2, vi (l2 + (1 : Int32)))] 2 [] Q))))))))))))) : Zm E YX8_loadRest (d + 1) M [(0, vr (some (97, 1, 0))), (1, vi l1), (2, vi l2), (3, vi l3)] 25 [vi s0] Q := by
  refine Zm.l (fun _ _ k_ => z_ist dX8_loadRest_25 (by decide) (lv' := [(0, vr (some (97, 1, 0))), (1, vi l1), (2, vi l2), (3, vi l3), (4, vi s0)]) rfl k_) ?_
  refine Zm.l (fun _ _ k_ => z_aload_n dX8_loadRest_27 rfl rfl k_) ?_
  refine zm_getr 75 dX8_loadRest_28 fsX8_256_1 rfl ?_
  refine Zm.l (fun _ _ k_ => z_iload dX8_loadRest_31 rfl k_) ?_
  refine Zm.l (fun _ _ k_ => z_aload_n dX8_loadRest_33 rfl rfl k_) ?_
  refine zm_getr 75 dX8_loadRest_34 fsX8_256_1 rfl ?_
  refine Zm.l (fun _ _ k_ => z_iload_n dX8_loadRest_37 rfl rfl k_) ?_
  obtain ⟨b_, k⟩ := k
  refine zm_zald dX8_loadRest_38 b_ (by decide) (by decide) ?_
  obtain ⟨b_, k⟩ := k
  refine zm_zast dX8_loadRest_39 b_ (by decide) (by decide) ?_
  refine Zm.l (fun _ _ k_ => z_aload_n dX8_loadRest_40 rfl rfl k_) ?_
  refine zm_getr 76 dX8_loadRest_41 fsX8_259_1 rfl ?_
  refine Zm.l (fun _ _ k_ => z_iload dX8_loadRest_44 rfl k_) ?_
  refine Zm.l (fun _ _ k_ => z_aload_n dX8_loadRest_46 rfl rfl k_) ?_
  refine zm_getr 76 dX8_loadRest_47 fsX8_259_1 rfl ?_
  refine Zm.l (fun _ _ k_ => z_iload_n dX8_loadRest_50 rfl rfl k_) ?_
  obtain ⟨b_, k⟩ := k
  refine zm_zald dX8_loadRest_51 b_ (by decide) (by decide) ?_
  obtain ⟨b_, k⟩ := k
  refine zm_zast dX8_loadRest_52 b_ (by decide) (by decide) ?_
  refine Zm.l (fun _ _ k_ => z_aload_n dX8_loadRest_53 rfl rfl k_) ?_
  refine zm_getr 77 dX8_loadRest_54 fsX8_262_1 rfl ?_
  refine Zm.l (fun _ _ k_ => z_iload dX8_loadRest_57 rfl k_) ?_
  refine Zm.l (fun _ _ k_ => z_aload_n dX8_loadRest_59 rfl rfl k_) ?_
  refine zm_getr 77 dX8_loadRest_60 fsX8_262_1 rfl ?_
  refine Zm.l (fun _ _ k_ => z_iload_n dX8_loadRest_63 rfl rfl k_) ?_
  obtain ⟨b_, k⟩ := k
  refine zm_lald dX8_loadRest_64 b_ (by decide) (by decide) ?_
  obtain ⟨b_, k⟩ := k
  refine zm_last dX8_loadRest_65 b_ (by decide) (by decide) ?_
  refine Zm.l (fun _ _ k_ => z_aload_n dX8_loadRest_66 rfl rfl k_) ?_
  refine zm_getr 78 dX8_loadRest_67 fsX8_265_1 rfl ?_
  refine Zm.l (fun _ _ k_ => z_iload dX8_loadRest_70 rfl k_) ?_
  refine Zm.l (fun _ _ k_ => z_aload_n dX8_loadRest_72 rfl rfl k_) ?_
  refine zm_getr 78 dX8_loadRest_73 fsX8_265_1 rfl ?_
  refine Zm.l (fun _ _ k_ => z_iload_n dX8_loadRest_76 rfl rfl k_) ?_
  obtain ⟨b_, k⟩ := k
  refine zm_lald dX8_loadRest_77 b_ (by decide) (by decide) ?_
  obtain ⟨b_, k⟩ := k
  refine zm_last dX8_loadRest_78 b_ (by decide) (by decide) ?_
  refine Zm.l (fun _ _ k_ => z_aload_n dX8_loadRest_79 rfl rfl k_) ?_
  refine zm_getr 79 dX8_loadRest_80 fsX8_268_1 rfl ?_
  refine Zm.l (fun _ _ k_ => z_iload dX8_loadRest_83 rfl k_) ?_
  refine Zm.l (fun _ _ k_ => z_aload_n dX8_loadRest_85 rfl rfl k_) ?_
  refine zm_getr 79 dX8_loadRest_86 fsX8_268_1 rfl ?_
  refine Zm.l (fun _ _ k_ => z_iload_n dX8_loadRest_89 rfl rfl k_) ?_
  obtain ⟨b_, k⟩ := k
  refine zm_lald dX8_loadRest_90 b_ (by decide) (by decide) ?_
  obtain ⟨b_, k⟩ := k
  refine zm_last dX8_loadRest_91 b_ (by decide) (by decide) ?_
  refine Zm.l (fun _ _ k_ => z_aload_n dX8_loadRest_92 rfl rfl k_) ?_
  refine zm_getr 80 dX8_loadRest_93 fsX8_271_1 rfl ?_
  refine Zm.l (fun _ _ k_ => z_iload dX8_loadRest_96 rfl k_) ?_
  refine Zm.l (fun _ _ k_ => z_aload_n dX8_loadRest_98 rfl rfl k_) ?_
  refine zm_getr 80 dX8_loadRest_99 fsX8_271_1 rfl ?_
  refine Zm.l (fun _ _ k_ => z_iload_n dX8_loadRest_102 rfl rfl k_) ?_
  obtain ⟨b_, k⟩ := k
  refine zm_lald dX8_loadRest_103 b_ (by decide) (by decide) ?_
  obtain ⟨b_, k⟩ := k
  refine zm_last dX8_loadRest_104 b_ (by decide) (by decide) ?_
  refine Zm.l (fun _ _ k_ => z_inc (v := (l2 + (1 : Int32))) dX8_loadRest_105 rfl rfl (by decide) (lv' := [(0, vr (some (97, 1, 0))), (1, vi l1), (2, vi (l2 + (1 : Int32))), (3, vi l3), (4, vi s0)]) rfl k_) ?_
  refine Zm.l (fun _ _ k_ => z_goto (tgt := 2) dX8_loadRest_108 rfl k_) ?_
  refine Zm.pick [0, 1, 2] rfl ?_
  exact k
/-! ScriptTypesModel.addValue(III)V -/
theorem bX8_addValue_0 : zdec cX8_addValue 0 [(0, .iload_n 2, 1), (1, .iconst 5, 1), (2, .if_icmp .ge 14, 3), (5, .aload_n 0, 1), (6, .iload_n 1, 1), (7, .iconst 1, 1), (8, .iload_n 2, 1), (9, .ishl, 1), (10, .invokevirtual 1072, 3), (13, .goto 38, 3), (16, .iload_n 2, 1), (17, .iconst 5, 1), (18, .if_icmp .ne 12, 3), (21, .aload_n 0, 1), (22, .iload_n 1, 1), (23, .iload_n 3, 1)] = true := by decide +kernel
theorem dX8_addValue_0 : decode cX8_addValue 0 = .ok (.iload_n 2, 1) := zdec_at bX8_addValue_0 0 rfl
theorem dX8_addValue_1 : decode cX8_addValue 1 = .ok (.iconst 5, 1) := zdec_at bX8_addValue_0 1 rfl
theorem dX8_addValue_2 : decode cX8_addValue 2 = .ok (.if_icmp .ge 14, 3) := zdec_at bX8_addValue_0 2 rfl
theorem dX8_addValue_5 : decode cX8_addValue 5 = .ok (.aload_n 0, 1) := zdec_at bX8_addValue_0 3 rfl
theorem dX8_addValue_6 : decode cX8_addValue 6 = .ok (.iload_n 1, 1) := zdec_at bX8_addValue_0 4 rfl
theorem dX8_addValue_7 : decode cX8_addValue 7 = .ok (.iconst 1, 1) := zdec_at bX8_addValue_0 5 rfl
theorem dX8_addValue_8 : decode cX8_addValue 8 = .ok (.iload_n 2, 1) := zdec_at bX8_addValue_0 6 rfl
theorem dX8_addValue_9 : decode cX8_addValue 9 = .ok (.ishl, 1) := zdec_at bX8_addValue_0 7 rfl
theorem dX8_addValue_10 : decode cX8_addValue 10 = .ok (.invokevirtual 1072, 3) := zdec_at bX8_addValue_0 8 rfl
theorem dX8_addValue_13 : decode cX8_addValue 13 = .ok (.goto 38, 3) := zdec_at bX8_addValue_0 9 rfl
theorem dX8_addValue_16 : decode cX8_addValue 16 = .ok (.iload_n 2, 1) := zdec_at bX8_addValue_0 10 rfl
theorem dX8_addValue_17 : decode cX8_addValue 17 = .ok (.iconst 5, 1) := zdec_at bX8_addValue_0 11 rfl
theorem dX8_addValue_18 : decode cX8_addValue 18 = .ok (.if_icmp .ne 12, 3) := zdec_at bX8_addValue_0 12 rfl
theorem dX8_addValue_21 : decode cX8_addValue 21 = .ok (.aload_n 0, 1) := zdec_at bX8_addValue_0 13 rfl
theorem dX8_addValue_22 : decode cX8_addValue 22 = .ok (.iload_n 1, 1) := zdec_at bX8_addValue_0 14 rfl
theorem dX8_addValue_23 : decode cX8_addValue 23 = .ok (.iload_n 3, 1) := zdec_at bX8_addValue_0 15 rfl
theorem bX8_addValue_24 : zdec cX8_addValue 24 [(24, .invokevirtual 1075, 3), (27, .goto 24, 3), (30, .iload_n 2, 1), (31, .bipush 6, 2), (33, .if_icmp .ne 12, 3), (36, .aload_n 0, 1), (37, .iload_n 1, 1), (38, .iload_n 3, 1), (39, .invokevirtual 1078, 3), (42, .goto 9, 3), (45, .aload_n 0, 1), (46, .iload_n 1, 1), (47, .iload_n 3, 1), (48, .invokevirtual 1081, 3), (51, .return_, 1)] = true := by decide +kernel
theorem dX8_addValue_24 : decode cX8_addValue 24 = .ok (.invokevirtual 1075, 3) := zdec_at bX8_addValue_24 0 rfl
theorem dX8_addValue_27 : decode cX8_addValue 27 = .ok (.goto 24, 3) := zdec_at bX8_addValue_24 1 rfl
theorem dX8_addValue_30 : decode cX8_addValue 30 = .ok (.iload_n 2, 1) := zdec_at bX8_addValue_24 2 rfl
theorem dX8_addValue_31 : decode cX8_addValue 31 = .ok (.bipush 6, 2) := zdec_at bX8_addValue_24 3 rfl
theorem dX8_addValue_33 : decode cX8_addValue 33 = .ok (.if_icmp .ne 12, 3) := zdec_at bX8_addValue_24 4 rfl
theorem dX8_addValue_36 : decode cX8_addValue 36 = .ok (.aload_n 0, 1) := zdec_at bX8_addValue_24 5 rfl
theorem dX8_addValue_37 : decode cX8_addValue 37 = .ok (.iload_n 1, 1) := zdec_at bX8_addValue_24 6 rfl
theorem dX8_addValue_38 : decode cX8_addValue 38 = .ok (.iload_n 3, 1) := zdec_at bX8_addValue_24 7 rfl
theorem dX8_addValue_39 : decode cX8_addValue 39 = .ok (.invokevirtual 1078, 3) := zdec_at bX8_addValue_24 8 rfl
theorem dX8_addValue_42 : decode cX8_addValue 42 = .ok (.goto 9, 3) := zdec_at bX8_addValue_24 9 rfl
theorem dX8_addValue_45 : decode cX8_addValue 45 = .ok (.aload_n 0, 1) := zdec_at bX8_addValue_24 10 rfl
theorem dX8_addValue_46 : decode cX8_addValue 46 = .ok (.iload_n 1, 1) := zdec_at bX8_addValue_24 11 rfl
theorem dX8_addValue_47 : decode cX8_addValue 47 = .ok (.iload_n 3, 1) := zdec_at bX8_addValue_24 12 rfl
theorem dX8_addValue_48 : decode cX8_addValue 48 = .ok (.invokevirtual 1081, 3) := zdec_at bX8_addValue_24 13 rfl
theorem dX8_addValue_51 : decode cX8_addValue 51 = .ok (.return_, 1) := zdec_at bX8_addValue_24 14 rfl
theorem sX8_addValue_0 {E : zE} {d : Nat} {Q : zO → zM → Prop} (M : zM) (l1 : Int32) (l2 : Int32) (l3 : Int32) (k : if (5 : Int32) ≤ l2 then (if l2 = (5 : Int32) then (Zm E YX8_addNumber d M (zargs 0 [vr (some (97, 1, 0)), vi l1, vi l3]) 0 [] (zma E YX8_addValue (d + 1) [] 24 3 [] Q)) else (if l2 = (6 : Int32) then (Zm E YX8_addString d M (zargs 0 [vr (some (97, 1, 0)), vi l1, vi l3]) 0 [] (zma E YX8_addValue (d + 1) [] 39 3 [] Q)) else (Zm E YX8_addLabel d M (zargs 0 [vr (some (97, 1, 0)), vi l1, vi l3]) 0 [] (zma E YX8_addValue (d + 1) [] 48 3 [] Q)))) else (Zm E YX8_addSort d M (zargs 0 [vr (some (97, 1, 0)), vi l1, vi ((1 : Int32) <<< (l2 &&& 31))]) 0 [] (zma E YX8_addValue (d + 1) [] 10 3 [] Q))) : Zm E YX8_addValue (d + 1) M [(0, vr (some (97, 1, 0))), (1, vi l1), (2, vi l2), (3, vi l3)] 0 [] Q := by
  refine Zm.l (fun _ _ k_ => z_iload_n dX8_addValue_0 rfl rfl k_) ?_
  refine Zm.l (fun _ _ k_ => z_iconst (v := 5) dX8_addValue_1 rfl k_) ?_
  refine Zm.br (fun _ _ k1_ k2_ => z_icmp_ge (tgt := 16) dX8_addValue_2 rfl k1_ k2_) (fun h_ => ?_) (fun h_ => ?_)
  · have k := zit h_ k
    refine Zm.l (fun _ _ k_ => z_iload_n dX8_addValue_16 rfl rfl k_) ?_
    refine Zm.l (fun _ _ k_ => z_iconst (v := 5) dX8_addValue_17 rfl k_) ?_
    refine Zm.brn (fun _ _ k1_ k2_ => z_icmp_ne (tgt := 30) dX8_addValue_18 rfl k1_ k2_) (fun h_ => ?_) (fun h_ => ?_)
    · have k := zif h_ k
      refine Zm.l (fun _ _ k_ => z_iload_n dX8_addValue_30 rfl rfl k_) ?_
      refine Zm.l (fun _ _ k_ => z_bipush (v := 6) dX8_addValue_31 rfl k_) ?_
      refine Zm.brn (fun _ _ k1_ k2_ => z_icmp_ne (tgt := 45) dX8_addValue_33 rfl k1_ k2_) (fun h_ => ?_) (fun h_ => ?_)
      · have k := zif h_ k
        refine Zm.l (fun _ _ k_ => z_aload_n dX8_addValue_45 rfl rfl k_) ?_
        refine Zm.l (fun _ _ k_ => z_iload_n dX8_addValue_46 rfl rfl k_) ?_
        refine Zm.l (fun _ _ k_ => z_iload_n dX8_addValue_47 rfl rfl k_) ?_
        refine Zm.pick [] rfl ?_
        exact zm_callV (as := [vi l1, vi l3]) (st := []) dX8_addValue_48 vsX8_1081_1 (Nat.le_refl _) (Nat.le_of_ble_eq_true rfl) (Nat.le_of_ble_eq_true rfl) rfl k
      · have k := zit h_ k
        refine Zm.l (fun _ _ k_ => z_aload_n dX8_addValue_36 rfl rfl k_) ?_
        refine Zm.l (fun _ _ k_ => z_iload_n dX8_addValue_37 rfl rfl k_) ?_
        refine Zm.l (fun _ _ k_ => z_iload_n dX8_addValue_38 rfl rfl k_) ?_
        refine Zm.pick [] rfl ?_
        exact zm_callV (as := [vi l1, vi l3]) (st := []) dX8_addValue_39 vsX8_1078_1 (Nat.le_refl _) (Nat.le_of_ble_eq_true rfl) (Nat.le_of_ble_eq_true rfl) rfl k
    · have k := zit h_ k
      refine Zm.l (fun _ _ k_ => z_aload_n dX8_addValue_21 rfl rfl k_) ?_
      refine Zm.l (fun _ _ k_ => z_iload_n dX8_addValue_22 rfl rfl k_) ?_
      refine Zm.l (fun _ _ k_ => z_iload_n dX8_addValue_23 rfl rfl k_) ?_
      refine Zm.pick [] rfl ?_
      exact zm_callV (as := [vi l1, vi l3]) (st := []) dX8_addValue_24 vsX8_1075_1 (Nat.le_refl _) (Nat.le_of_ble_eq_true rfl) (Nat.le_of_ble_eq_true rfl) rfl k
  · have k := zif h_ k
    refine Zm.l (fun _ _ k_ => z_aload_n dX8_addValue_5 rfl rfl k_) ?_
    refine Zm.l (fun _ _ k_ => z_iload_n dX8_addValue_6 rfl rfl k_) ?_
    refine Zm.l (fun _ _ k_ => z_iconst (v := 1) dX8_addValue_7 rfl k_) ?_
    refine Zm.l (fun _ _ k_ => z_iload_n dX8_addValue_8 rfl rfl k_) ?_
    refine Zm.l (fun _ _ k_ => z_ishl dX8_addValue_9 k_) ?_
    refine Zm.pick [] rfl ?_
    exact zm_callV (as := [vi l1, vi ((1 : Int32) <<< (l2 &&& 31))]) (st := []) dX8_addValue_10 vsX8_1072_1 (Nat.le_refl _) (Nat.le_of_ble_eq_true rfl) (Nat.le_of_ble_eq_true rfl) rfl k
theorem sX8_addValue_13 {E : zE} {d : Nat} {Q : zO → zM → Prop} (M : zM)  (k : Zm E YX8_addValue (d + 1) M [] 51 [] Q) : Zm E YX8_addValue (d + 1) M [] 13 [] Q := by
  refine Zm.l (fun _ _ k_ => z_goto (tgt := 51) dX8_addValue_13 rfl k_) ?_
  exact k
theorem sX8_addValue_27 {E : zE} {d : Nat} {Q : zO → zM → Prop} (M : zM)  (k : Zm E YX8_addValue (d + 1) M [] 51 [] Q) : Zm E YX8_addValue (d + 1) M [] 27 [] Q := by
  refine Zm.l (fun _ _ k_ => z_goto (tgt := 51) dX8_addValue_27 rfl k_) ?_
  exact k
theorem sX8_addValue_42 {E : zE} {d : Nat} {Q : zO → zM → Prop} (M : zM)  (k : Zm E YX8_addValue (d + 1) M [] 51 [] Q) : Zm E YX8_addValue (d + 1) M [] 42 [] Q := by
  refine Zm.l (fun _ _ k_ => z_goto (tgt := 51) dX8_addValue_42 rfl k_) ?_
  exact k
theorem sX8_addValue_51 {E : zE} {d : Nat} {Q : zO → zM → Prop} (M : zM)  (k : Q (.inl none) M) : Zm E YX8_addValue (d + 1) M [] 51 [] Q := by
  exact zm_vret dX8_addValue_51 rfl k
/-! ScriptTypesModel.addNumber(II)V -/
theorem bX8_addNumber_0 : zdec cX8_addNumber 0 [(0, .ldc_w 1065, 3), (3, .istore_n 3, 1), (4, .aload_n 0, 1), (5, .iload_n 3, 1), (6, .invokevirtual 1066, 3), (9, .aload_n 0, 1), (10, .iload_n 3, 1), (11, .bipush 32, 2), (13, .iconst 0, 1), (14, .iload_n 2, 1), (15, .invokevirtual 1056, 3), (18, .aload_n 0, 1), (19, .iload_n 3, 1), (20, .iload_n 1, 1), (21, .invokevirtual 1069, 3), (24, .istore 4, 2)] = true := by decide +kernel
theorem dX8_addNumber_0 : decode cX8_addNumber 0 = .ok (.ldc_w 1065, 3) := zdec_at bX8_addNumber_0 0 rfl
theorem dX8_addNumber_3 : decode cX8_addNumber 3 = .ok (.istore_n 3, 1) := zdec_at bX8_addNumber_0 1 rfl
theorem dX8_addNumber_4 : decode cX8_addNumber 4 = .ok (.aload_n 0, 1) := zdec_at bX8_addNumber_0 2 rfl
theorem dX8_addNumber_5 : decode cX8_addNumber 5 = .ok (.iload_n 3, 1) := zdec_at bX8_addNumber_0 3 rfl
theorem dX8_addNumber_6 : decode cX8_addNumber 6 = .ok (.invokevirtual 1066, 3) := zdec_at bX8_addNumber_0 4 rfl
theorem dX8_addNumber_9 : decode cX8_addNumber 9 = .ok (.aload_n 0, 1) := zdec_at bX8_addNumber_0 5 rfl
theorem dX8_addNumber_10 : decode cX8_addNumber 10 = .ok (.iload_n 3, 1) := zdec_at bX8_addNumber_0 6 rfl
theorem dX8_addNumber_11 : decode cX8_addNumber 11 = .ok (.bipush 32, 2) := zdec_at bX8_addNumber_0 7 rfl
theorem dX8_addNumber_13 : decode cX8_addNumber 13 = .ok (.iconst 0, 1) := zdec_at bX8_addNumber_0 8 rfl
theorem dX8_addNumber_14 : decode cX8_addNumber 14 = .ok (.iload_n 2, 1) := zdec_at bX8_addNumber_0 9 rfl
theorem dX8_addNumber_15 : decode cX8_addNumber 15 = .ok (.invokevirtual 1056, 3) := zdec_at bX8_addNumber_0 10 rfl
theorem dX8_addNumber_18 : decode cX8_addNumber 18 = .ok (.aload_n 0, 1) := zdec_at bX8_addNumber_0 11 rfl
theorem dX8_addNumber_19 : decode cX8_addNumber 19 = .ok (.iload_n 3, 1) := zdec_at bX8_addNumber_0 12 rfl
theorem dX8_addNumber_20 : decode cX8_addNumber 20 = .ok (.iload_n 1, 1) := zdec_at bX8_addNumber_0 13 rfl
theorem dX8_addNumber_21 : decode cX8_addNumber 21 = .ok (.invokevirtual 1069, 3) := zdec_at bX8_addNumber_0 14 rfl
theorem dX8_addNumber_24 : decode cX8_addNumber 24 = .ok (.istore 4, 2) := zdec_at bX8_addNumber_0 15 rfl
theorem bX8_addNumber_26 : zdec cX8_addNumber 26 [(26, .return_, 1)] = true := by decide +kernel
theorem dX8_addNumber_26 : decode cX8_addNumber 26 = .ok (.return_, 1) := zdec_at bX8_addNumber_26 0 rfl
theorem sX8_addNumber_0 {E : zE} {d : Nat} {Q : zO → zM → Prop} (M : zM) (l1 : Int32) (l2 : Int32) (k : Zm E YX8_empty d M (zargs 0 [vr (some (97, 1, 0)), vi (647790 : Int32)]) 0 [] (zma E YX8_addNumber (d + 1) [(0, vr (some (97, 1, 0))), (1, vi l1), (2, vi l2), (3, vi (647790 : Int32))] 6 3 [] Q)) : Zm E YX8_addNumber (d + 1) M [(0, vr (some (97, 1, 0))), (1, vi l1), (2, vi l2)] 0 [] Q := by
  refine Zm.l (fun _ _ k_ => z_ldcw (v := 647790) dX8_addNumber_0 q4832 k_) ?_
  refine Zm.l (fun _ _ k_ => z_ist_n dX8_addNumber_3 rfl (by decide) (lv' := [(0, vr (some (97, 1, 0))), (1, vi l1), (2, vi l2), (3, vi (647790 : Int32))]) rfl k_) ?_
  refine Zm.l (fun _ _ k_ => z_aload_n dX8_addNumber_4 rfl rfl k_) ?_
  refine Zm.l (fun _ _ k_ => z_iload_n dX8_addNumber_5 rfl rfl k_) ?_
  exact zm_callV (as := [vi (647790 : Int32)]) (st := []) dX8_addNumber_6 vsX8_1066_1 (Nat.le_refl _) (Nat.le_of_ble_eq_true rfl) (Nat.le_of_ble_eq_true rfl) rfl k
theorem sX8_addNumber_9 {E : zE} {d : Nat} {Q : zO → zM → Prop} (M : zM) (l1 : Int32) (l2 : Int32) (l3 : Int32) (k : Zm E YX8_write d M (zargs 0 [vr (some (97, 1, 0)), vi l3, vi (32 : Int32), vi (0 : Int32), vi l2]) 0 [] (zma E YX8_addNumber (d + 1) [(0, vr (some (97, 1, 0))), (1, vi l1), (3, vi l3)] 15 3 [] Q)) : Zm E YX8_addNumber (d + 1) M [(0, vr (some (97, 1, 0))), (1, vi l1), (2, vi l2), (3, vi l3)] 9 [] Q := by
  refine Zm.l (fun _ _ k_ => z_aload_n dX8_addNumber_9 rfl rfl k_) ?_
  refine Zm.l (fun _ _ k_ => z_iload_n dX8_addNumber_10 rfl rfl k_) ?_
  refine Zm.l (fun _ _ k_ => z_bipush (v := 32) dX8_addNumber_11 rfl k_) ?_
  refine Zm.l (fun _ _ k_ => z_iconst (v := 0) dX8_addNumber_13 rfl k_) ?_
  refine Zm.l (fun _ _ k_ => z_iload_n dX8_addNumber_14 rfl rfl k_) ?_
  refine Zm.pick [0, 1, 3] rfl ?_
  exact zm_callV (as := [vi l3, vi (32 : Int32), vi (0 : Int32), vi l2]) (st := []) dX8_addNumber_15 vsX8_1056_1 (Nat.le_refl _) (Nat.le_of_ble_eq_true rfl) (Nat.le_of_ble_eq_true rfl) rfl k
theorem sX8_addNumber_18 {E : zE} {d : Nat} {Q : zO → zM → Prop} (M : zM) (l1 : Int32) (l3 : Int32) (k : Zm E YX8_join d M (zargs 0 [vr (some (97, 1, 0)), vi l3, vi l1]) 0 [] (zma E YX8_addNumber (d + 1) [] 21 3 [] Q)) : Zm E YX8_addNumber (d + 1) M [(0, vr (some (97, 1, 0))), (1, vi l1), (3, vi l3)] 18 [] Q := by
  refine Zm.l (fun _ _ k_ => z_aload_n dX8_addNumber_18 rfl rfl k_) ?_
  refine Zm.l (fun _ _ k_ => z_iload_n dX8_addNumber_19 rfl rfl k_) ?_
  refine Zm.l (fun _ _ k_ => z_iload_n dX8_addNumber_20 rfl rfl k_) ?_
  refine Zm.pick [] rfl ?_
  exact zm_callV (as := [vi l3, vi l1]) (st := []) dX8_addNumber_21 vsX8_1069_1 (Nat.le_refl _) (Nat.le_of_ble_eq_true rfl) (Nat.le_of_ble_eq_true rfl) rfl k
theorem sX8_addNumber_24 {E : zE} {d : Nat} {Q : zO → zM → Prop} (M : zM) (s0 : Int32) (k : Q (.inl none) M) : Zm E YX8_addNumber (d + 1) M [] 24 [vi s0] Q := by
  refine Zm.l (fun _ _ k_ => z_ist dX8_addNumber_24 (by decide) (lv' := [(4, vi s0)]) rfl k_) ?_
  exact zm_vret dX8_addNumber_26 rfl k
/-! ScriptTypesModel.pushSet()I -/
theorem bX8_pushSet_0 : zdec cX8_pushSet 0 [(0, .aload_n 0, 1), (1, .getfield 238, 3), (4, .sipush 639, 3), (7, .iaload, 1), (8, .aload_n 0, 1), (9, .getfield 235, 3), (12, .sipush 639, 3), (15, .iaload, 1), (16, .iadd, 1), (17, .istore_n 1, 1), (18, .aload_n 0, 1), (19, .iload_n 1, 1), (20, .invokevirtual 1066, 3), (23, .aload_n 0, 1), (24, .getfield 235, 3), (27, .sipush 639, 3)] = true := by decide +kernel
theorem dX8_pushSet_0 : decode cX8_pushSet 0 = .ok (.aload_n 0, 1) := zdec_at bX8_pushSet_0 0 rfl
theorem dX8_pushSet_1 : decode cX8_pushSet 1 = .ok (.getfield 238, 3) := zdec_at bX8_pushSet_0 1 rfl
theorem dX8_pushSet_4 : decode cX8_pushSet 4 = .ok (.sipush 639, 3) := zdec_at bX8_pushSet_0 2 rfl
theorem dX8_pushSet_7 : decode cX8_pushSet 7 = .ok (.iaload, 1) := zdec_at bX8_pushSet_0 3 rfl
theorem dX8_pushSet_8 : decode cX8_pushSet 8 = .ok (.aload_n 0, 1) := zdec_at bX8_pushSet_0 4 rfl
theorem dX8_pushSet_9 : decode cX8_pushSet 9 = .ok (.getfield 235, 3) := zdec_at bX8_pushSet_0 5 rfl
theorem dX8_pushSet_12 : decode cX8_pushSet 12 = .ok (.sipush 639, 3) := zdec_at bX8_pushSet_0 6 rfl
theorem dX8_pushSet_15 : decode cX8_pushSet 15 = .ok (.iaload, 1) := zdec_at bX8_pushSet_0 7 rfl
theorem dX8_pushSet_16 : decode cX8_pushSet 16 = .ok (.iadd, 1) := zdec_at bX8_pushSet_0 8 rfl
theorem dX8_pushSet_17 : decode cX8_pushSet 17 = .ok (.istore_n 1, 1) := zdec_at bX8_pushSet_0 9 rfl
theorem dX8_pushSet_18 : decode cX8_pushSet 18 = .ok (.aload_n 0, 1) := zdec_at bX8_pushSet_0 10 rfl
theorem dX8_pushSet_19 : decode cX8_pushSet 19 = .ok (.iload_n 1, 1) := zdec_at bX8_pushSet_0 11 rfl
theorem dX8_pushSet_20 : decode cX8_pushSet 20 = .ok (.invokevirtual 1066, 3) := zdec_at bX8_pushSet_0 12 rfl
theorem dX8_pushSet_23 : decode cX8_pushSet 23 = .ok (.aload_n 0, 1) := zdec_at bX8_pushSet_0 13 rfl
theorem dX8_pushSet_24 : decode cX8_pushSet 24 = .ok (.getfield 235, 3) := zdec_at bX8_pushSet_0 14 rfl
theorem dX8_pushSet_27 : decode cX8_pushSet 27 = .ok (.sipush 639, 3) := zdec_at bX8_pushSet_0 15 rfl
theorem bX8_pushSet_30 : zdec cX8_pushSet 30 [(30, .dup2, 1), (31, .iaload, 1), (32, .iconst 1, 1), (33, .iadd, 1), (34, .iastore, 1), (35, .iload_n 1, 1), (36, .ireturn, 1)] = true := by decide +kernel
theorem dX8_pushSet_30 : decode cX8_pushSet 30 = .ok (.dup2, 1) := zdec_at bX8_pushSet_30 0 rfl
theorem dX8_pushSet_31 : decode cX8_pushSet 31 = .ok (.iaload, 1) := zdec_at bX8_pushSet_30 1 rfl
theorem dX8_pushSet_32 : decode cX8_pushSet 32 = .ok (.iconst 1, 1) := zdec_at bX8_pushSet_30 2 rfl
theorem dX8_pushSet_33 : decode cX8_pushSet 33 = .ok (.iadd, 1) := zdec_at bX8_pushSet_30 3 rfl
theorem dX8_pushSet_34 : decode cX8_pushSet 34 = .ok (.iastore, 1) := zdec_at bX8_pushSet_30 4 rfl
theorem dX8_pushSet_35 : decode cX8_pushSet 35 = .ok (.iload_n 1, 1) := zdec_at bX8_pushSet_30 5 rfl
theorem dX8_pushSet_36 : decode cX8_pushSet 36 = .ok (.ireturn, 1) := zdec_at bX8_pushSet_30 6 rfl
theorem sX8_pushSet_0 {E : zE} {d : Nat} {Q : zO → zM → Prop} (M : zM)  (k : vp_in (639 : Int32) 640 ∧ (vp_in (639 : Int32) 640 ∧ (Zm E YX8_empty d M (zargs 0 [vr (some (97, 1, 0)), vi ((gi M 172 ((639 : Int32)).toNatClampNeg) + (gi M 171 ((639 : Int32)).toNatClampNeg))]) 0 [] (zma E YX8_pushSet (d + 1) [(0, vr (some (97, 1, 0))), (1, vi ((gi M 172 ((639 : Int32)).toNatClampNeg) + (gi M 171 ((639 : Int32)).toNatClampNeg)))] 20 3 [] Q)))) : Zm E YX8_pushSet (d + 1) M [(0, vr (some (97, 1, 0)))] 0 [] Q := by
  refine Zm.l (fun _ _ k_ => z_aload_n dX8_pushSet_0 rfl rfl k_) ?_
  refine zm_getr 69 dX8_pushSet_1 fsX8_238_1 rfl ?_
  refine Zm.l (fun _ _ k_ => z_sipush (v := 639) dX8_pushSet_4 rfl k_) ?_
  obtain ⟨b_, k⟩ := k
  refine zm_iald dX8_pushSet_7 b_ (by decide) (by decide) ?_
  refine Zm.l (fun _ _ k_ => z_aload_n dX8_pushSet_8 rfl rfl k_) ?_
  refine zm_getr 68 dX8_pushSet_9 fsX8_235_1 rfl ?_
  refine Zm.l (fun _ _ k_ => z_sipush (v := 639) dX8_pushSet_12 rfl k_) ?_
  obtain ⟨b_, k⟩ := k
  refine zm_iald dX8_pushSet_15 b_ (by decide) (by decide) ?_
  refine Zm.l (fun _ _ k_ => z_iadd dX8_pushSet_16 k_) ?_
  refine Zm.l (fun _ _ k_ => z_ist_n dX8_pushSet_17 rfl (by decide) (lv' := [(0, vr (some (97, 1, 0))), (1, vi ((gi M 172 ((639 : Int32)).toNatClampNeg) + (gi M 171 ((639 : Int32)).toNatClampNeg)))]) rfl k_) ?_
  refine Zm.l (fun _ _ k_ => z_aload_n dX8_pushSet_18 rfl rfl k_) ?_
  refine Zm.l (fun _ _ k_ => z_iload_n dX8_pushSet_19 rfl rfl k_) ?_
  exact zm_callV (as := [vi ((gi M 172 ((639 : Int32)).toNatClampNeg) + (gi M 171 ((639 : Int32)).toNatClampNeg))]) (st := []) dX8_pushSet_20 vsX8_1066_1 (Nat.le_refl _) (Nat.le_of_ble_eq_true rfl) (Nat.le_of_ble_eq_true rfl) rfl k
theorem sX8_pushSet_23 {E : zE} {d : Nat} {Q : zO → zM → Prop} (M : zM) (l1 : Int32) (k : vp_in (639 : Int32) 640 ∧ (vp_in (639 : Int32) 640 ∧ (Q (.inl (some (vi l1))) (si M 171 ((639 : Int32)).toNatClampNeg ((gi M 171 ((639 : Int32)).toNatClampNeg) + (1 : Int32)))))) : Zm E YX8_pushSet (d + 1) M [(0, vr (some (97, 1, 0))), (1, vi l1)] 23 [] Q := by
  refine Zm.l (fun _ _ k_ => z_aload_n dX8_pushSet_23 rfl rfl k_) ?_
  refine zm_getr 68 dX8_pushSet_24 fsX8_235_1 rfl ?_
  refine Zm.l (fun _ _ k_ => z_sipush (v := 639) dX8_pushSet_27 rfl k_) ?_
  refine Zm.l (fun _ _ k_ => z_dup2 dX8_pushSet_30 rfl rfl k_) ?_
  obtain ⟨b_, k⟩ := k
  refine zm_iald dX8_pushSet_31 b_ (by decide) (by decide) ?_
  refine Zm.l (fun _ _ k_ => z_iconst (v := 1) dX8_pushSet_32 rfl k_) ?_
  refine Zm.l (fun _ _ k_ => z_iadd dX8_pushSet_33 k_) ?_
  obtain ⟨b_, k⟩ := k
  refine zm_iast dX8_pushSet_34 b_ (by decide) (by decide) ?_
  refine Zm.l (fun _ _ k_ => z_iload_n dX8_pushSet_35 rfl rfl k_) ?_
  exact zm_iret dX8_pushSet_36 rfl rfl k
/-! ScriptTypesModel.on()V -/
theorem bX8_on_0 : zdec cX8_on 0 [(0, .aload_n 0, 1), (1, .iconst 1, 1), (2, .putfield 1185, 3), (5, .aload_n 0, 1), (6, .aload_n 0, 1), (7, .getfield 1188, 3), (10, .iconst 1, 1), (11, .iadd, 1), (12, .invokevirtual 1191, 3), (15, .return_, 1)] = true := by decide +kernel
theorem dX8_on_0 : decode cX8_on 0 = .ok (.aload_n 0, 1) := zdec_at bX8_on_0 0 rfl
theorem dX8_on_1 : decode cX8_on 1 = .ok (.iconst 1, 1) := zdec_at bX8_on_0 1 rfl
theorem dX8_on_2 : decode cX8_on 2 = .ok (.putfield 1185, 3) := zdec_at bX8_on_0 2 rfl
theorem dX8_on_5 : decode cX8_on 5 = .ok (.aload_n 0, 1) := zdec_at bX8_on_0 3 rfl
theorem dX8_on_6 : decode cX8_on 6 = .ok (.aload_n 0, 1) := zdec_at bX8_on_0 4 rfl
theorem dX8_on_7 : decode cX8_on 7 = .ok (.getfield 1188, 3) := zdec_at bX8_on_0 5 rfl
theorem dX8_on_10 : decode cX8_on 10 = .ok (.iconst 1, 1) := zdec_at bX8_on_0 6 rfl
theorem dX8_on_11 : decode cX8_on 11 = .ok (.iadd, 1) := zdec_at bX8_on_0 7 rfl
theorem dX8_on_12 : decode cX8_on 12 = .ok (.invokevirtual 1191, 3) := zdec_at bX8_on_0 8 rfl
theorem dX8_on_15 : decode cX8_on 15 = .ok (.return_, 1) := zdec_at bX8_on_0 9 rfl
theorem sX8_on_0 {E : zE} {d : Nat} {Q : zO → zM → Prop} (M : zM)  (k : Zm E YX8_flow d (si M 97 150 (1 : Int32)) (zargs 0 [vr (some (97, 1, 0)), vi ((gi M 97 148) + (1 : Int32))]) 0 [] (zma E YX8_on (d + 1) [] 12 3 [] Q)) : Zm E YX8_on (d + 1) M [(0, vr (some (97, 1, 0)))] 0 [] Q := by
  refine Zm.l (fun _ _ k_ => z_aload_n dX8_on_0 rfl rfl k_) ?_
  refine Zm.l (fun _ _ k_ => z_iconst (v := 1) dX8_on_1 rfl k_) ?_
  refine zm_puti (by decide) (by decide) dX8_on_2 (zfwN.w fwX8_1185_1) rfl ⟨by decide, by decide⟩ ?_
  refine Zm.l (fun _ _ k_ => z_aload_n dX8_on_5 rfl rfl k_) ?_
  refine Zm.l (fun _ _ k_ => z_aload_n dX8_on_6 rfl rfl k_) ?_
  refine zm_geti dX8_on_7 fsX8_1188_1 (by decide) (by decide) ?_
  refine Zm.l (fun _ _ k_ => z_iconst (v := 1) dX8_on_10 rfl k_) ?_
  refine Zm.l (fun _ _ k_ => z_iadd dX8_on_11 k_) ?_
  refine Zm.pick [] rfl ?_
  exact zm_callV (as := [vi ((gi M 97 148) + (1 : Int32))]) (st := []) dX8_on_12 vsX8_1191_1 (Nat.le_refl _) (Nat.le_of_ble_eq_true rfl) (Nat.le_of_ble_eq_true rfl) rfl k
theorem sX8_on_15 {E : zE} {d : Nat} {Q : zO → zM → Prop} (M : zM)  (k : Q (.inl none) M) : Zm E YX8_on (d + 1) M [] 15 [] Q := by
  exact zm_vret dX8_on_15 rfl k
/-! ScriptTypesModel.scopesAt(II)V -/
theorem bX8_scopesAt_0 : zdec cX8_scopesAt 0 [(0, .aload_n 0, 1), (1, .iload_n 2, 1), (2, .invokevirtual 1066, 3), (5, .aload_n 0, 1), (6, .getfield 220, 3), (9, .iload_n 2, 1), (10, .aload_n 0, 1), (11, .getfield 241, 3), (14, .sipush 639, 3), (17, .laload, 1), (18, .lastore, 1), (19, .aload_n 0, 1), (20, .getfield 223, 3), (23, .iload_n 2, 1), (24, .aload_n 0, 1), (25, .getfield 244, 3)] = true := by decide +kernel
theorem dX8_scopesAt_0 : decode cX8_scopesAt 0 = .ok (.aload_n 0, 1) := zdec_at bX8_scopesAt_0 0 rfl
theorem dX8_scopesAt_1 : decode cX8_scopesAt 1 = .ok (.iload_n 2, 1) := zdec_at bX8_scopesAt_0 1 rfl
theorem dX8_scopesAt_2 : decode cX8_scopesAt 2 = .ok (.invokevirtual 1066, 3) := zdec_at bX8_scopesAt_0 2 rfl
theorem dX8_scopesAt_5 : decode cX8_scopesAt 5 = .ok (.aload_n 0, 1) := zdec_at bX8_scopesAt_0 3 rfl
theorem dX8_scopesAt_6 : decode cX8_scopesAt 6 = .ok (.getfield 220, 3) := zdec_at bX8_scopesAt_0 4 rfl
theorem dX8_scopesAt_9 : decode cX8_scopesAt 9 = .ok (.iload_n 2, 1) := zdec_at bX8_scopesAt_0 5 rfl
theorem dX8_scopesAt_10 : decode cX8_scopesAt 10 = .ok (.aload_n 0, 1) := zdec_at bX8_scopesAt_0 6 rfl
theorem dX8_scopesAt_11 : decode cX8_scopesAt 11 = .ok (.getfield 241, 3) := zdec_at bX8_scopesAt_0 7 rfl
theorem dX8_scopesAt_14 : decode cX8_scopesAt 14 = .ok (.sipush 639, 3) := zdec_at bX8_scopesAt_0 8 rfl
theorem dX8_scopesAt_17 : decode cX8_scopesAt 17 = .ok (.laload, 1) := zdec_at bX8_scopesAt_0 9 rfl
theorem dX8_scopesAt_18 : decode cX8_scopesAt 18 = .ok (.lastore, 1) := zdec_at bX8_scopesAt_0 10 rfl
theorem dX8_scopesAt_19 : decode cX8_scopesAt 19 = .ok (.aload_n 0, 1) := zdec_at bX8_scopesAt_0 11 rfl
theorem dX8_scopesAt_20 : decode cX8_scopesAt 20 = .ok (.getfield 223, 3) := zdec_at bX8_scopesAt_0 12 rfl
theorem dX8_scopesAt_23 : decode cX8_scopesAt 23 = .ok (.iload_n 2, 1) := zdec_at bX8_scopesAt_0 13 rfl
theorem dX8_scopesAt_24 : decode cX8_scopesAt 24 = .ok (.aload_n 0, 1) := zdec_at bX8_scopesAt_0 14 rfl
theorem dX8_scopesAt_25 : decode cX8_scopesAt 25 = .ok (.getfield 244, 3) := zdec_at bX8_scopesAt_0 15 rfl
theorem bX8_scopesAt_28 : zdec cX8_scopesAt 28 [(28, .sipush 639, 3), (31, .laload, 1), (32, .lastore, 1), (33, .ldc_w 1217, 3), (36, .istore_n 3, 1), (37, .iconst 0, 1), (38, .istore 4, 2), (40, .iload 4, 2), (42, .iload_n 1, 1), (43, .if_icmp .ge 115, 3), (46, .aload_n 0, 1), (47, .iload_n 3, 1), (48, .invokevirtual 1066, 3), (51, .iconst 0, 1), (52, .istore 5, 2), (54, .iload 5, 2)] = true := by decide +kernel
theorem dX8_scopesAt_28 : decode cX8_scopesAt 28 = .ok (.sipush 639, 3) := zdec_at bX8_scopesAt_28 0 rfl
theorem dX8_scopesAt_31 : decode cX8_scopesAt 31 = .ok (.laload, 1) := zdec_at bX8_scopesAt_28 1 rfl
theorem dX8_scopesAt_32 : decode cX8_scopesAt 32 = .ok (.lastore, 1) := zdec_at bX8_scopesAt_28 2 rfl
theorem dX8_scopesAt_33 : decode cX8_scopesAt 33 = .ok (.ldc_w 1217, 3) := zdec_at bX8_scopesAt_28 3 rfl
theorem dX8_scopesAt_36 : decode cX8_scopesAt 36 = .ok (.istore_n 3, 1) := zdec_at bX8_scopesAt_28 4 rfl
theorem dX8_scopesAt_37 : decode cX8_scopesAt 37 = .ok (.iconst 0, 1) := zdec_at bX8_scopesAt_28 5 rfl
theorem dX8_scopesAt_38 : decode cX8_scopesAt 38 = .ok (.istore 4, 2) := zdec_at bX8_scopesAt_28 6 rfl
theorem dX8_scopesAt_40 : decode cX8_scopesAt 40 = .ok (.iload 4, 2) := zdec_at bX8_scopesAt_28 7 rfl
theorem dX8_scopesAt_42 : decode cX8_scopesAt 42 = .ok (.iload_n 1, 1) := zdec_at bX8_scopesAt_28 8 rfl
theorem dX8_scopesAt_43 : decode cX8_scopesAt 43 = .ok (.if_icmp .ge 115, 3) := zdec_at bX8_scopesAt_28 9 rfl
theorem dX8_scopesAt_46 : decode cX8_scopesAt 46 = .ok (.aload_n 0, 1) := zdec_at bX8_scopesAt_28 10 rfl
theorem dX8_scopesAt_47 : decode cX8_scopesAt 47 = .ok (.iload_n 3, 1) := zdec_at bX8_scopesAt_28 11 rfl
theorem dX8_scopesAt_48 : decode cX8_scopesAt 48 = .ok (.invokevirtual 1066, 3) := zdec_at bX8_scopesAt_28 12 rfl
theorem dX8_scopesAt_51 : decode cX8_scopesAt 51 = .ok (.iconst 0, 1) := zdec_at bX8_scopesAt_28 13 rfl
theorem dX8_scopesAt_52 : decode cX8_scopesAt 52 = .ok (.istore 5, 2) := zdec_at bX8_scopesAt_28 14 rfl
theorem dX8_scopesAt_54 : decode cX8_scopesAt 54 = .ok (.iload 5, 2) := zdec_at bX8_scopesAt_28 15 rfl
theorem bX8_scopesAt_56 : zdec cX8_scopesAt 56 [(56, .aload_n 0, 1), (57, .getfield 765, 3), (60, .if_icmp .ge 86, 3), (63, .aload_n 0, 1), (64, .getfield 220, 3), (67, .iload_n 2, 1), (68, .laload, 1), (69, .aload_n 0, 1), (70, .getfield 223, 3), (73, .iload_n 2, 1), (74, .laload, 1), (75, .iload 5, 2), (77, .invokestatic 1125, 3), (80, .ifCond .ne 6, 3), (83, .goto 57, 3), (86, .aload_n 0, 1)] = true := by decide +kernel
theorem dX8_scopesAt_56 : decode cX8_scopesAt 56 = .ok (.aload_n 0, 1) := zdec_at bX8_scopesAt_56 0 rfl
theorem dX8_scopesAt_57 : decode cX8_scopesAt 57 = .ok (.getfield 765, 3) := zdec_at bX8_scopesAt_56 1 rfl
theorem dX8_scopesAt_60 : decode cX8_scopesAt 60 = .ok (.if_icmp .ge 86, 3) := zdec_at bX8_scopesAt_56 2 rfl
theorem dX8_scopesAt_63 : decode cX8_scopesAt 63 = .ok (.aload_n 0, 1) := zdec_at bX8_scopesAt_56 3 rfl
theorem dX8_scopesAt_64 : decode cX8_scopesAt 64 = .ok (.getfield 220, 3) := zdec_at bX8_scopesAt_56 4 rfl
theorem dX8_scopesAt_67 : decode cX8_scopesAt 67 = .ok (.iload_n 2, 1) := zdec_at bX8_scopesAt_56 5 rfl
theorem dX8_scopesAt_68 : decode cX8_scopesAt 68 = .ok (.laload, 1) := zdec_at bX8_scopesAt_56 6 rfl
theorem dX8_scopesAt_69 : decode cX8_scopesAt 69 = .ok (.aload_n 0, 1) := zdec_at bX8_scopesAt_56 7 rfl
theorem dX8_scopesAt_70 : decode cX8_scopesAt 70 = .ok (.getfield 223, 3) := zdec_at bX8_scopesAt_56 8 rfl
theorem dX8_scopesAt_73 : decode cX8_scopesAt 73 = .ok (.iload_n 2, 1) := zdec_at bX8_scopesAt_56 9 rfl
theorem dX8_scopesAt_74 : decode cX8_scopesAt 74 = .ok (.laload, 1) := zdec_at bX8_scopesAt_56 10 rfl
theorem dX8_scopesAt_75 : decode cX8_scopesAt 75 = .ok (.iload 5, 2) := zdec_at bX8_scopesAt_56 11 rfl
theorem dX8_scopesAt_77 : decode cX8_scopesAt 77 = .ok (.invokestatic 1125, 3) := zdec_at bX8_scopesAt_56 12 rfl
theorem dX8_scopesAt_80 : decode cX8_scopesAt 80 = .ok (.ifCond .ne 6, 3) := zdec_at bX8_scopesAt_56 13 rfl
theorem dX8_scopesAt_83 : decode cX8_scopesAt 83 = .ok (.goto 57, 3) := zdec_at bX8_scopesAt_56 14 rfl
theorem dX8_scopesAt_86 : decode cX8_scopesAt 86 = .ok (.aload_n 0, 1) := zdec_at bX8_scopesAt_56 15 rfl
theorem bX8_scopesAt_87 : zdec cX8_scopesAt 87 [(87, .getfield 220, 3), (90, .iload_n 3, 1), (91, .aload_n 0, 1), (92, .getfield 220, 3), (95, .iload_n 3, 1), (96, .laload, 1), (97, .aload_n 0, 1), (98, .getfield 268, 3), (101, .aload_n 0, 1), (102, .sipush 639, 3), (105, .iload 5, 2), (107, .invokevirtual 1101, 3), (110, .laload, 1), (111, .lor, 1), (112, .lastore, 1), (113, .aload_n 0, 1)] = true := by decide +kernel
theorem dX8_scopesAt_87 : decode cX8_scopesAt 87 = .ok (.getfield 220, 3) := zdec_at bX8_scopesAt_87 0 rfl
theorem dX8_scopesAt_90 : decode cX8_scopesAt 90 = .ok (.iload_n 3, 1) := zdec_at bX8_scopesAt_87 1 rfl
theorem dX8_scopesAt_91 : decode cX8_scopesAt 91 = .ok (.aload_n 0, 1) := zdec_at bX8_scopesAt_87 2 rfl
theorem dX8_scopesAt_92 : decode cX8_scopesAt 92 = .ok (.getfield 220, 3) := zdec_at bX8_scopesAt_87 3 rfl
theorem dX8_scopesAt_95 : decode cX8_scopesAt 95 = .ok (.iload_n 3, 1) := zdec_at bX8_scopesAt_87 4 rfl
theorem dX8_scopesAt_96 : decode cX8_scopesAt 96 = .ok (.laload, 1) := zdec_at bX8_scopesAt_87 5 rfl
theorem dX8_scopesAt_97 : decode cX8_scopesAt 97 = .ok (.aload_n 0, 1) := zdec_at bX8_scopesAt_87 6 rfl
theorem dX8_scopesAt_98 : decode cX8_scopesAt 98 = .ok (.getfield 268, 3) := zdec_at bX8_scopesAt_87 7 rfl
theorem dX8_scopesAt_101 : decode cX8_scopesAt 101 = .ok (.aload_n 0, 1) := zdec_at bX8_scopesAt_87 8 rfl
theorem dX8_scopesAt_102 : decode cX8_scopesAt 102 = .ok (.sipush 639, 3) := zdec_at bX8_scopesAt_87 9 rfl
theorem dX8_scopesAt_105 : decode cX8_scopesAt 105 = .ok (.iload 5, 2) := zdec_at bX8_scopesAt_87 10 rfl
theorem dX8_scopesAt_107 : decode cX8_scopesAt 107 = .ok (.invokevirtual 1101, 3) := zdec_at bX8_scopesAt_87 11 rfl
theorem dX8_scopesAt_110 : decode cX8_scopesAt 110 = .ok (.laload, 1) := zdec_at bX8_scopesAt_87 12 rfl
theorem dX8_scopesAt_111 : decode cX8_scopesAt 111 = .ok (.lor, 1) := zdec_at bX8_scopesAt_87 13 rfl
theorem dX8_scopesAt_112 : decode cX8_scopesAt 112 = .ok (.lastore, 1) := zdec_at bX8_scopesAt_87 14 rfl
theorem dX8_scopesAt_113 : decode cX8_scopesAt 113 = .ok (.aload_n 0, 1) := zdec_at bX8_scopesAt_87 15 rfl
theorem bX8_scopesAt_114 : zdec cX8_scopesAt 114 [(114, .getfield 223, 3), (117, .iload_n 3, 1), (118, .aload_n 0, 1), (119, .getfield 223, 3), (122, .iload_n 3, 1), (123, .laload, 1), (124, .aload_n 0, 1), (125, .getfield 271, 3), (128, .aload_n 0, 1), (129, .sipush 639, 3), (132, .iload 5, 2), (134, .invokevirtual 1101, 3), (137, .laload, 1), (138, .lor, 1), (139, .lastore, 1), (140, .iinc 5 1, 3)] = true := by decide +kernel
theorem dX8_scopesAt_114 : decode cX8_scopesAt 114 = .ok (.getfield 223, 3) := zdec_at bX8_scopesAt_114 0 rfl
theorem dX8_scopesAt_117 : decode cX8_scopesAt 117 = .ok (.iload_n 3, 1) := zdec_at bX8_scopesAt_114 1 rfl
theorem dX8_scopesAt_118 : decode cX8_scopesAt 118 = .ok (.aload_n 0, 1) := zdec_at bX8_scopesAt_114 2 rfl
theorem dX8_scopesAt_119 : decode cX8_scopesAt 119 = .ok (.getfield 223, 3) := zdec_at bX8_scopesAt_114 3 rfl
theorem dX8_scopesAt_122 : decode cX8_scopesAt 122 = .ok (.iload_n 3, 1) := zdec_at bX8_scopesAt_114 4 rfl
theorem dX8_scopesAt_123 : decode cX8_scopesAt 123 = .ok (.laload, 1) := zdec_at bX8_scopesAt_114 5 rfl
theorem dX8_scopesAt_124 : decode cX8_scopesAt 124 = .ok (.aload_n 0, 1) := zdec_at bX8_scopesAt_114 6 rfl
theorem dX8_scopesAt_125 : decode cX8_scopesAt 125 = .ok (.getfield 271, 3) := zdec_at bX8_scopesAt_114 7 rfl
theorem dX8_scopesAt_128 : decode cX8_scopesAt 128 = .ok (.aload_n 0, 1) := zdec_at bX8_scopesAt_114 8 rfl
theorem dX8_scopesAt_129 : decode cX8_scopesAt 129 = .ok (.sipush 639, 3) := zdec_at bX8_scopesAt_114 9 rfl
theorem dX8_scopesAt_132 : decode cX8_scopesAt 132 = .ok (.iload 5, 2) := zdec_at bX8_scopesAt_114 10 rfl
theorem dX8_scopesAt_134 : decode cX8_scopesAt 134 = .ok (.invokevirtual 1101, 3) := zdec_at bX8_scopesAt_114 11 rfl
theorem dX8_scopesAt_137 : decode cX8_scopesAt 137 = .ok (.laload, 1) := zdec_at bX8_scopesAt_114 12 rfl
theorem dX8_scopesAt_138 : decode cX8_scopesAt 138 = .ok (.lor, 1) := zdec_at bX8_scopesAt_114 13 rfl
theorem dX8_scopesAt_139 : decode cX8_scopesAt 139 = .ok (.lastore, 1) := zdec_at bX8_scopesAt_114 14 rfl
theorem dX8_scopesAt_140 : decode cX8_scopesAt 140 = .ok (.iinc 5 1, 3) := zdec_at bX8_scopesAt_114 15 rfl
theorem bX8_scopesAt_143 : zdec cX8_scopesAt 143 [(143, .goto (-89), 3), (146, .aload_n 0, 1), (147, .iload_n 3, 1), (148, .iload_n 2, 1), (149, .invokevirtual 1092, 3), (152, .iinc 4 1, 3), (155, .goto (-115), 3), (158, .return_, 1)] = true := by decide +kernel
theorem dX8_scopesAt_143 : decode cX8_scopesAt 143 = .ok (.goto (-89), 3) := zdec_at bX8_scopesAt_143 0 rfl
theorem dX8_scopesAt_146 : decode cX8_scopesAt 146 = .ok (.aload_n 0, 1) := zdec_at bX8_scopesAt_143 1 rfl
theorem dX8_scopesAt_147 : decode cX8_scopesAt 147 = .ok (.iload_n 3, 1) := zdec_at bX8_scopesAt_143 2 rfl
theorem dX8_scopesAt_148 : decode cX8_scopesAt 148 = .ok (.iload_n 2, 1) := zdec_at bX8_scopesAt_143 3 rfl
theorem dX8_scopesAt_149 : decode cX8_scopesAt 149 = .ok (.invokevirtual 1092, 3) := zdec_at bX8_scopesAt_143 4 rfl
theorem dX8_scopesAt_152 : decode cX8_scopesAt 152 = .ok (.iinc 4 1, 3) := zdec_at bX8_scopesAt_143 5 rfl
theorem dX8_scopesAt_155 : decode cX8_scopesAt 155 = .ok (.goto (-115), 3) := zdec_at bX8_scopesAt_143 6 rfl
theorem dX8_scopesAt_158 : decode cX8_scopesAt 158 = .ok (.return_, 1) := zdec_at bX8_scopesAt_143 7 rfl
theorem sX8_scopesAt_0 {E : zE} {d : Nat} {Q : zO → zM → Prop} (M : zM) (l1 : Int32) (l2 : Int32) (k : Zm E YX8_empty d M (zargs 0 [vr (some (97, 1, 0)), vi l2]) 0 [] (zma E YX8_scopesAt (d + 1) [(0, vr (some (97, 1, 0))), (1, vi l1), (2, vi l2)] 2 3 [] Q)) : Zm E YX8_scopesAt (d + 1) M [(0, vr (some (97, 1, 0))), (1, vi l1), (2, vi l2)] 0 [] Q := by
  refine Zm.l (fun _ _ k_ => z_aload_n dX8_scopesAt_0 rfl rfl k_) ?_
  refine Zm.l (fun _ _ k_ => z_iload_n dX8_scopesAt_1 rfl rfl k_) ?_
  exact zm_callV (as := [vi l2]) (st := []) dX8_scopesAt_2 vsX8_1066_1 (Nat.le_refl _) (Nat.le_of_ble_eq_true rfl) (Nat.le_of_ble_eq_true rfl) rfl k
theorem sX8_scopesAt_5 {E : zE} {d : Nat} {Q : zO → zM → Prop} (M : zM) (l1 : Int32) (l2 : Int32) (k : vp_in (639 : Int32) 640 ∧ (vp_in l2 647800 ∧ (vp_in (639 : Int32) 640 ∧ (vp_in l2 647800 ∧ (Zm E YX8_scopesAt (d + 1) (sl (sl M 166 (l2).toNatClampNeg (gl M 173 ((639 : Int32)).toNatClampNeg)) 167 (l2).toNatClampNeg (gl M 174 ((639 : Int32)).toNatClampNeg)) [(0, vr (some (97, 1, 0))), (1, vi l1), (2, vi l2), (3, vi (647793 : Int32)), (4, vi (0 : Int32))] 40 [] Q))))) : Zm E YX8_scopesAt (d + 1) M [(0, vr (some (97, 1, 0))), (1, vi l1), (2, vi l2)] 5 [] Q := by
  refine Zm.l (fun _ _ k_ => z_aload_n dX8_scopesAt_5 rfl rfl k_) ?_
  refine zm_getr 63 dX8_scopesAt_6 fsX8_220_1 rfl ?_
  refine Zm.l (fun _ _ k_ => z_iload_n dX8_scopesAt_9 rfl rfl k_) ?_
  refine Zm.l (fun _ _ k_ => z_aload_n dX8_scopesAt_10 rfl rfl k_) ?_
  refine zm_getr 70 dX8_scopesAt_11 fsX8_241_1 rfl ?_
  refine Zm.l (fun _ _ k_ => z_sipush (v := 639) dX8_scopesAt_14 rfl k_) ?_
  obtain ⟨b_, k⟩ := k
  refine zm_lald dX8_scopesAt_17 b_ (by decide) (by decide) ?_
  obtain ⟨b_, k⟩ := k
  refine zm_last dX8_scopesAt_18 b_ (by decide) (by decide) ?_
  refine Zm.l (fun _ _ k_ => z_aload_n dX8_scopesAt_19 rfl rfl k_) ?_
  refine zm_getr 64 dX8_scopesAt_20 fsX8_223_1 rfl ?_
  refine Zm.l (fun _ _ k_ => z_iload_n dX8_scopesAt_23 rfl rfl k_) ?_
  refine Zm.l (fun _ _ k_ => z_aload_n dX8_scopesAt_24 rfl rfl k_) ?_
  refine zm_getr 71 dX8_scopesAt_25 fsX8_244_1 rfl ?_
  refine Zm.l (fun _ _ k_ => z_sipush (v := 639) dX8_scopesAt_28 rfl k_) ?_
  obtain ⟨b_, k⟩ := k
  refine zm_lald dX8_scopesAt_31 b_ (by decide) (by decide) ?_
  obtain ⟨b_, k⟩ := k
  refine zm_last dX8_scopesAt_32 b_ (by decide) (by decide) ?_
  refine Zm.l (fun _ _ k_ => z_ldcw (v := 647793) dX8_scopesAt_33 q4901 k_) ?_
  refine Zm.l (fun _ _ k_ => z_ist_n dX8_scopesAt_36 rfl (by decide) (lv' := [(0, vr (some (97, 1, 0))), (1, vi l1), (2, vi l2), (3, vi (647793 : Int32))]) rfl k_) ?_
  refine Zm.l (fun _ _ k_ => z_iconst (v := 0) dX8_scopesAt_37 rfl k_) ?_
  refine Zm.l (fun _ _ k_ => z_ist dX8_scopesAt_38 (by decide) (lv' := [(0, vr (some (97, 1, 0))), (1, vi l1), (2, vi l2), (3, vi (647793 : Int32)), (4, vi (0 : Int32))]) rfl k_) ?_
  exact k
theorem sX8_scopesAt_40 {E : zE} {d : Nat} {Q : zO → zM → Prop} (M : zM) (l1 : Int32) (l2 : Int32) (l3 : Int32) (l4 : Int32) (k : if l1 ≤ l4 then (Q (.inl none) M) else (Zm E YX8_empty d M (zargs 0 [vr (some (97, 1, 0)), vi l3]) 0 [] (zma E YX8_scopesAt (d + 1) [(0, vr (some (97, 1, 0))), (1, vi l1), (2, vi l2), (3, vi l3), (4, vi l4)] 48 3 [] Q))) : Zm E YX8_scopesAt (d + 1) M [(0, vr (some (97, 1, 0))), (1, vi l1), (2, vi l2), (3, vi l3), (4, vi l4)] 40 [] Q := by
  refine Zm.l (fun _ _ k_ => z_iload dX8_scopesAt_40 rfl k_) ?_
  refine Zm.l (fun _ _ k_ => z_iload_n dX8_scopesAt_42 rfl rfl k_) ?_
  refine Zm.br (fun _ _ k1_ k2_ => z_icmp_ge (tgt := 158) dX8_scopesAt_43 rfl k1_ k2_) (fun h_ => ?_) (fun h_ => ?_)
  · have k := zit h_ k
    exact zm_vret dX8_scopesAt_158 rfl k
  · have k := zif h_ k
    refine Zm.l (fun _ _ k_ => z_aload_n dX8_scopesAt_46 rfl rfl k_) ?_
    refine Zm.l (fun _ _ k_ => z_iload_n dX8_scopesAt_47 rfl rfl k_) ?_
    exact zm_callV (as := [vi l3]) (st := []) dX8_scopesAt_48 vsX8_1066_1 (Nat.le_refl _) (Nat.le_of_ble_eq_true rfl) (Nat.le_of_ble_eq_true rfl) rfl k
theorem sX8_scopesAt_51 {E : zE} {d : Nat} {Q : zO → zM → Prop} (M : zM) (l1 : Int32) (l2 : Int32) (l3 : Int32) (l4 : Int32) (k : Zm E YX8_scopesAt (d + 1) M [(0, vr (some (97, 1, 0))), (1, vi l1), (2, vi l2), (3, vi l3), (4, vi l4), (5, vi (0 : Int32))] 54 [] Q) : Zm E YX8_scopesAt (d + 1) M [(0, vr (some (97, 1, 0))), (1, vi l1), (2, vi l2), (3, vi l3), (4, vi l4)] 51 [] Q := by
  refine Zm.l (fun _ _ k_ => z_iconst (v := 0) dX8_scopesAt_51 rfl k_) ?_
  refine Zm.l (fun _ _ k_ => z_ist dX8_scopesAt_52 (by decide) (lv' := [(0, vr (some (97, 1, 0))), (1, vi l1), (2, vi l2), (3, vi l3), (4, vi l4), (5, vi (0 : Int32))]) rfl k_) ?_
  exact k
theorem sX8_scopesAt_54 {E : zE} {d : Nat} {Q : zO → zM → Prop} (M : zM) (l1 : Int32) (l2 : Int32) (l3 : Int32) (l4 : Int32) (l5 : Int32) (k : if (gi M 97 71) ≤ l5 then (Zm E YX8_copySet d M (zargs 0 [vr (some (97, 1, 0)), vi l3, vi l2]) 0 [] (zma E YX8_scopesAt (d + 1) [(0, vr (some (97, 1, 0))), (1, vi l1), (2, vi l2), (3, vi l3), (4, vi l4)] 149 3 [] Q)) else (vp_in l2 647800 ∧ (vp_in l2 647800 ∧ (Zm E YX8_isIn d M (zargs 0 [vl (gl M 166 (l2).toNatClampNeg), vl (gl M 167 (l2).toNatClampNeg), vi l5]) 0 [] (zma E YX8_scopesAt (d + 1) [(0, vr (some (97, 1, 0))), (1, vi l1), (2, vi l2), (3, vi l3), (4, vi l4), (5, vi l5)] 77 3 [] Q))))) : Zm E YX8_scopesAt (d + 1) M [(0, vr (some (97, 1, 0))), (1, vi l1), (2, vi l2), (3, vi l3), (4, vi l4), (5, vi l5)] 54 [] Q := by
  refine Zm.l (fun _ _ k_ => z_iload dX8_scopesAt_54 rfl k_) ?_
  refine Zm.l (fun _ _ k_ => z_aload_n dX8_scopesAt_56 rfl rfl k_) ?_
  refine zm_geti dX8_scopesAt_57 fsX8_765_1 (by decide) (by decide) ?_
  refine Zm.br (fun _ _ k1_ k2_ => z_icmp_ge (tgt := 146) dX8_scopesAt_60 rfl k1_ k2_) (fun h_ => ?_) (fun h_ => ?_)
  · have k := zit h_ k
    refine Zm.l (fun _ _ k_ => z_aload_n dX8_scopesAt_146 rfl rfl k_) ?_
    refine Zm.l (fun _ _ k_ => z_iload_n dX8_scopesAt_147 rfl rfl k_) ?_
    refine Zm.l (fun _ _ k_ => z_iload_n dX8_scopesAt_148 rfl rfl k_) ?_
    refine Zm.pick [0, 1, 2, 3, 4] rfl ?_
    exact zm_callV (as := [vi l3, vi l2]) (st := []) dX8_scopesAt_149 vsX8_1092_1 (Nat.le_refl _) (Nat.le_of_ble_eq_true rfl) (Nat.le_of_ble_eq_true rfl) rfl k
  · have k := zif h_ k
    refine Zm.l (fun _ _ k_ => z_aload_n dX8_scopesAt_63 rfl rfl k_) ?_
    refine zm_getr 63 dX8_scopesAt_64 fsX8_220_1 rfl ?_
    refine Zm.l (fun _ _ k_ => z_iload_n dX8_scopesAt_67 rfl rfl k_) ?_
    obtain ⟨b_, k⟩ := k
    refine zm_lald dX8_scopesAt_68 b_ (by decide) (by decide) ?_
    refine Zm.l (fun _ _ k_ => z_aload_n dX8_scopesAt_69 rfl rfl k_) ?_
    refine zm_getr 64 dX8_scopesAt_70 fsX8_223_1 rfl ?_
    refine Zm.l (fun _ _ k_ => z_iload_n dX8_scopesAt_73 rfl rfl k_) ?_
    obtain ⟨b_, k⟩ := k
    refine zm_lald dX8_scopesAt_74 b_ (by decide) (by decide) ?_
    refine Zm.l (fun _ _ k_ => z_iload dX8_scopesAt_75 rfl k_) ?_
    exact zm_callS (as := [vl (gl M 166 (l2).toNatClampNeg), vl (gl M 167 (l2).toNatClampNeg), vi l5]) (st := []) dX8_scopesAt_77 ssX8_1125 (Nat.le_refl _) (Nat.le_of_ble_eq_true rfl) (Nat.le_of_ble_eq_true rfl) rfl k
theorem sX8_scopesAt_80 {E : zE} {d : Nat} {Q : zO → zM → Prop} (M : zM) (l1 : Int32) (l2 : Int32) (l3 : Int32) (l4 : Int32) (l5 : Int32) (s0 : Int32) (k : if s0 = 0 then (Zm E YX8_scopesAt (d + 1) M [(0, vr (some (97, 1, 0))), (1, vi l1), (2, vi l2), (3, vi l3), (4, vi l4), (5, vi (l5 + (1 : Int32)))] 54 [] Q) else (vp_in l3 647800 ∧ (Zm E YX8_of d M (zargs 0 [vr (some (97, 1, 0)), vi (639 : Int32), vi l5]) 0 [] (zma E YX8_scopesAt (d + 1) [(0, vr (some (97, 1, 0))), (1, vi l1), (2, vi l2), (3, vi l3), (4, vi l4), (5, vi l5)] 107 3 [vr (some (182, 105, 15128)), vl (gl M 166 (l3).toNatClampNeg), vi l3, vr (some (166, 105, 647800))] Q)))) : Zm E YX8_scopesAt (d + 1) M [(0, vr (some (97, 1, 0))), (1, vi l1), (2, vi l2), (3, vi l3), (4, vi l4), (5, vi l5)] 80 [vi s0] Q := by
  refine Zm.brn (fun _ _ k1_ k2_ => z_if_ne (tgt := 86) dX8_scopesAt_80 rfl k1_ k2_) (fun h_ => ?_) (fun h_ => ?_)
  · have k := zif h_ k
    refine Zm.l (fun _ _ k_ => z_aload_n dX8_scopesAt_86 rfl rfl k_) ?_
    refine zm_getr 63 dX8_scopesAt_87 fsX8_220_1 rfl ?_
    refine Zm.l (fun _ _ k_ => z_iload_n dX8_scopesAt_90 rfl rfl k_) ?_
    refine Zm.l (fun _ _ k_ => z_aload_n dX8_scopesAt_91 rfl rfl k_) ?_
    refine zm_getr 63 dX8_scopesAt_92 fsX8_220_1 rfl ?_
    refine Zm.l (fun _ _ k_ => z_iload_n dX8_scopesAt_95 rfl rfl k_) ?_
    obtain ⟨b_, k⟩ := k
    refine zm_lald dX8_scopesAt_96 b_ (by decide) (by decide) ?_
    refine Zm.l (fun _ _ k_ => z_aload_n dX8_scopesAt_97 rfl rfl k_) ?_
    refine zm_getr 79 dX8_scopesAt_98 fsX8_268_1 rfl ?_
    refine Zm.l (fun _ _ k_ => z_aload_n dX8_scopesAt_101 rfl rfl k_) ?_
    refine Zm.l (fun _ _ k_ => z_sipush (v := 639) dX8_scopesAt_102 rfl k_) ?_
    refine Zm.l (fun _ _ k_ => z_iload dX8_scopesAt_105 rfl k_) ?_
    exact zm_callV (as := [vi (639 : Int32), vi l5]) (st := [vr (some (182, 105, 15128)), vl (gl M 166 (l3).toNatClampNeg), vi l3, vr (some (166, 105, 647800))]) dX8_scopesAt_107 vsX8_1101_1 (Nat.le_refl _) (Nat.le_of_ble_eq_true rfl) (Nat.le_of_ble_eq_true rfl) rfl k
  · have k := zit h_ k
    refine Zm.l (fun _ _ k_ => z_goto (tgt := 140) dX8_scopesAt_83 rfl k_) ?_
    refine Zm.l (fun _ _ k_ => z_inc (v := (l5 + (1 : Int32))) dX8_scopesAt_140 rfl rfl (by decide) (lv' := [(0, vr (some (97, 1, 0))), (1, vi l1), (2, vi l2), (3, vi l3), (4, vi l4), (5, vi (l5 + (1 : Int32)))]) rfl k_) ?_
    refine Zm.l (fun _ _ k_ => z_goto (tgt := 54) dX8_scopesAt_143 rfl k_) ?_
    exact k
theorem sX8_scopesAt_110 {E : zE} {d : Nat} {Q : zO → zM → Prop} (M : zM) (l1 : Int32) (l2 : Int32) (l3 : Int32) (l4 : Int32) (l5 : Int32) (s0 : Int32) (s2 : Int64) (s3 : Int32) (k : vp_in s0 15128 ∧ (vp_in s3 647800 ∧ (vp_in l3 647800 ∧ (Zm E YX8_of d (sl M 166 (s3).toNatClampNeg (s2 ||| (gl M 182 (s0).toNatClampNeg))) (zargs 0 [vr (some (97, 1, 0)), vi (639 : Int32), vi l5]) 0 [] (zma E YX8_scopesAt (d + 1) [(0, vr (some (97, 1, 0))), (1, vi l1), (2, vi l2), (3, vi l3), (4, vi l4), (5, vi l5)] 134 3 [vr (some (183, 105, 15128)), vl (gl M 167 (l3).toNatClampNeg), vi l3, vr (some (167, 105, 647800))] Q))))) : Zm E YX8_scopesAt (d + 1) M [(0, vr (some (97, 1, 0))), (1, vi l1), (2, vi l2), (3, vi l3), (4, vi l4), (5, vi l5)] 110 [vi s0, vr (some (182, 105, 15128)), vl s2, vi s3, vr (some (166, 105, 647800))] Q := by
  obtain ⟨b_, k⟩ := k
  refine zm_lald dX8_scopesAt_110 b_ (by decide) (by decide) ?_
  refine Zm.l (fun _ _ k_ => z_lor dX8_scopesAt_111 k_) ?_
  obtain ⟨b_, k⟩ := k
  refine zm_last dX8_scopesAt_112 b_ (by decide) (by decide) ?_
  refine Zm.l (fun _ _ k_ => z_aload_n dX8_scopesAt_113 rfl rfl k_) ?_
  refine zm_getr 64 dX8_scopesAt_114 fsX8_223_1 rfl ?_
  refine Zm.l (fun _ _ k_ => z_iload_n dX8_scopesAt_117 rfl rfl k_) ?_
  refine Zm.l (fun _ _ k_ => z_aload_n dX8_scopesAt_118 rfl rfl k_) ?_
  refine zm_getr 64 dX8_scopesAt_119 fsX8_223_1 rfl ?_
  refine Zm.l (fun _ _ k_ => z_iload_n dX8_scopesAt_122 rfl rfl k_) ?_
  obtain ⟨b_, k⟩ := k
  refine zm_lald dX8_scopesAt_123 b_ (by decide) (by decide) ?_
  refine Zm.l (fun _ _ k_ => z_aload_n dX8_scopesAt_124 rfl rfl k_) ?_
  refine zm_getr 80 dX8_scopesAt_125 fsX8_271_1 rfl ?_
  refine Zm.l (fun _ _ k_ => z_aload_n dX8_scopesAt_128 rfl rfl k_) ?_
  refine Zm.l (fun _ _ k_ => z_sipush (v := 639) dX8_scopesAt_129 rfl k_) ?_
  refine Zm.l (fun _ _ k_ => z_iload dX8_scopesAt_132 rfl k_) ?_
  exact zm_callV (as := [vi (639 : Int32), vi l5]) (st := [vr (some (183, 105, 15128)), vl (gl M 167 (l3).toNatClampNeg), vi l3, vr (some (167, 105, 647800))]) dX8_scopesAt_134 vsX8_1101_1 (Nat.le_refl _) (Nat.le_of_ble_eq_true rfl) (Nat.le_of_ble_eq_true rfl) rfl k
theorem sX8_scopesAt_137 {E : zE} {d : Nat} {Q : zO → zM → Prop} (M : zM) (l1 : Int32) (l2 : Int32) (l3 : Int32) (l4 : Int32) (l5 : Int32) (s0 : Int32) (s2 : Int64) (s3 : Int32) (k : vp_in s0 15128 ∧ (vp_in s3 647800 ∧ (Zm E YX8_scopesAt (d + 1) (sl M 167 (s3).toNatClampNeg (s2 ||| (gl M 183 (s0).toNatClampNeg))) [(0, vr (some (97, 1, 0))), (1, vi l1), (2, vi l2), (3, vi l3), (4, vi l4), (5, vi (l5 + (1 : Int32)))] 54 [] Q))) : Zm E YX8_scopesAt (d + 1) M [(0, vr (some (97, 1, 0))), (1, vi l1), (2, vi l2), (3, vi l3), (4, vi l4), (5, vi l5)] 137 [vi s0, vr (some (183, 105, 15128)), vl s2, vi s3, vr (some (167, 105, 647800))] Q := by
  obtain ⟨b_, k⟩ := k
  refine zm_lald dX8_scopesAt_137 b_ (by decide) (by decide) ?_
  refine Zm.l (fun _ _ k_ => z_lor dX8_scopesAt_138 k_) ?_
  obtain ⟨b_, k⟩ := k
  refine zm_last dX8_scopesAt_139 b_ (by decide) (by decide) ?_
  refine Zm.l (fun _ _ k_ => z_inc (v := (l5 + (1 : Int32))) dX8_scopesAt_140 rfl rfl (by decide) (lv' := [(0, vr (some (97, 1, 0))), (1, vi l1), (2, vi l2), (3, vi l3), (4, vi l4), (5, vi (l5 + (1 : Int32)))]) rfl k_) ?_
  refine Zm.l (fun _ _ k_ => z_goto (tgt := 54) dX8_scopesAt_143 rfl k_) ?_
  exact k
theorem sX8_scopesAt_152 {E : zE} {d : Nat} {Q : zO → zM → Prop} (M : zM) (l1 : Int32) (l2 : Int32) (l3 : Int32) (l4 : Int32) (k : Zm E YX8_scopesAt (d + 1) M [(0, vr (some (97, 1, 0))), (1, vi l1), (2, vi l2), (3, vi l3), (4, vi (l4 + (1 : Int32)))] 40 [] Q) : Zm E YX8_scopesAt (d + 1) M [(0, vr (some (97, 1, 0))), (1, vi l1), (2, vi l2), (3, vi l3), (4, vi l4)] 152 [] Q := by
  refine Zm.l (fun _ _ k_ => z_inc (v := (l4 + (1 : Int32))) dX8_scopesAt_152 rfl rfl (by decide) (lv' := [(0, vr (some (97, 1, 0))), (1, vi l1), (2, vi l2), (3, vi l3), (4, vi (l4 + (1 : Int32)))]) rfl k_) ?_
  refine Zm.l (fun _ _ k_ => z_goto (tgt := 40) dX8_scopesAt_155 rfl k_) ?_
  exact k
/-! ScriptTypesModel.isIn(JJI)Z -/
theorem bX8_isIn_0 : zdec cX8_isIn 0 [(0, .iload 4, 2), (2, .bipush 64, 2), (4, .if_icmp .ge 10, 3), (7, .lload_n 0, 1), (8, .iload 4, 2), (10, .lshr, 1), (11, .goto 10, 3), (14, .lload_n 2, 1), (15, .iload 4, 2), (17, .bipush 64, 2), (19, .isub, 1), (20, .lshr, 1), (21, .lconst 1, 1), (22, .land, 1), (23, .lconst 1, 1), (24, .lcmp, 1)] = true := by decide +kernel
theorem dX8_isIn_0 : decode cX8_isIn 0 = .ok (.iload 4, 2) := zdec_at bX8_isIn_0 0 rfl
theorem dX8_isIn_2 : decode cX8_isIn 2 = .ok (.bipush 64, 2) := zdec_at bX8_isIn_0 1 rfl
theorem dX8_isIn_4 : decode cX8_isIn 4 = .ok (.if_icmp .ge 10, 3) := zdec_at bX8_isIn_0 2 rfl
theorem dX8_isIn_7 : decode cX8_isIn 7 = .ok (.lload_n 0, 1) := zdec_at bX8_isIn_0 3 rfl
theorem dX8_isIn_8 : decode cX8_isIn 8 = .ok (.iload 4, 2) := zdec_at bX8_isIn_0 4 rfl
theorem dX8_isIn_10 : decode cX8_isIn 10 = .ok (.lshr, 1) := zdec_at bX8_isIn_0 5 rfl
theorem dX8_isIn_11 : decode cX8_isIn 11 = .ok (.goto 10, 3) := zdec_at bX8_isIn_0 6 rfl
theorem dX8_isIn_14 : decode cX8_isIn 14 = .ok (.lload_n 2, 1) := zdec_at bX8_isIn_0 7 rfl
theorem dX8_isIn_15 : decode cX8_isIn 15 = .ok (.iload 4, 2) := zdec_at bX8_isIn_0 8 rfl
theorem dX8_isIn_17 : decode cX8_isIn 17 = .ok (.bipush 64, 2) := zdec_at bX8_isIn_0 9 rfl
theorem dX8_isIn_19 : decode cX8_isIn 19 = .ok (.isub, 1) := zdec_at bX8_isIn_0 10 rfl
theorem dX8_isIn_20 : decode cX8_isIn 20 = .ok (.lshr, 1) := zdec_at bX8_isIn_0 11 rfl
theorem dX8_isIn_21 : decode cX8_isIn 21 = .ok (.lconst 1, 1) := zdec_at bX8_isIn_0 12 rfl
theorem dX8_isIn_22 : decode cX8_isIn 22 = .ok (.land, 1) := zdec_at bX8_isIn_0 13 rfl
theorem dX8_isIn_23 : decode cX8_isIn 23 = .ok (.lconst 1, 1) := zdec_at bX8_isIn_0 14 rfl
theorem dX8_isIn_24 : decode cX8_isIn 24 = .ok (.lcmp, 1) := zdec_at bX8_isIn_0 15 rfl
theorem bX8_isIn_25 : zdec cX8_isIn 25 [(25, .ifCond .ne 7, 3), (28, .iconst 1, 1), (29, .goto 4, 3), (32, .iconst 0, 1), (33, .ireturn, 1)] = true := by decide +kernel
theorem dX8_isIn_25 : decode cX8_isIn 25 = .ok (.ifCond .ne 7, 3) := zdec_at bX8_isIn_25 0 rfl
theorem dX8_isIn_28 : decode cX8_isIn 28 = .ok (.iconst 1, 1) := zdec_at bX8_isIn_25 1 rfl
theorem dX8_isIn_29 : decode cX8_isIn 29 = .ok (.goto 4, 3) := zdec_at bX8_isIn_25 2 rfl
theorem dX8_isIn_32 : decode cX8_isIn 32 = .ok (.iconst 0, 1) := zdec_at bX8_isIn_25 3 rfl
theorem dX8_isIn_33 : decode cX8_isIn 33 = .ok (.ireturn, 1) := zdec_at bX8_isIn_25 4 rfl
theorem sX8_isIn_0 {E : zE} {d : Nat} {Q : zO → zM → Prop} (M : zM) (l0 : Int64) (l2 : Int64) (l4 : Int32) (k : if (64 : Int32) ≤ l4 then (Zm E YX8_isIn d M [] 21 [vl (zlr l2 (l4 - (64 : Int32)))] Q) else (Zm E YX8_isIn d M [] 21 [vl (zlr l0 l4)] Q)) : Zm E YX8_isIn d M [(0, vl l0), (2, vl l2), (4, vi l4)] 0 [] Q := by
  refine Zm.l (fun _ _ k_ => z_iload dX8_isIn_0 rfl k_) ?_
  refine Zm.l (fun _ _ k_ => z_bipush (v := 64) dX8_isIn_2 rfl k_) ?_
  refine Zm.br (fun _ _ k1_ k2_ => z_icmp_ge (tgt := 14) dX8_isIn_4 rfl k1_ k2_) (fun h_ => ?_) (fun h_ => ?_)
  · have k := zit h_ k
    refine Zm.l (fun _ _ k_ => z_lload_n dX8_isIn_14 rfl rfl k_) ?_
    refine Zm.l (fun _ _ k_ => z_iload dX8_isIn_15 rfl k_) ?_
    refine Zm.l (fun _ _ k_ => z_bipush (v := 64) dX8_isIn_17 rfl k_) ?_
    refine Zm.l (fun _ _ k_ => z_isub dX8_isIn_19 k_) ?_
    refine Zm.l (fun _ _ k_ => z_lshr dX8_isIn_20 k_) ?_
    refine Zm.pick [] rfl ?_
    exact k
  · have k := zif h_ k
    refine Zm.l (fun _ _ k_ => z_lload_n dX8_isIn_7 rfl rfl k_) ?_
    refine Zm.l (fun _ _ k_ => z_iload dX8_isIn_8 rfl k_) ?_
    refine Zm.l (fun _ _ k_ => z_lshr dX8_isIn_10 k_) ?_
    refine Zm.l (fun _ _ k_ => z_goto (tgt := 21) dX8_isIn_11 rfl k_) ?_
    refine Zm.pick [] rfl ?_
    exact k
theorem sX8_isIn_21 {E : zE} {d : Nat} {Q : zO → zM → Prop} (M : zM) (s0 : Int64) (k : if (lg_cmp (s0 &&& (1 : Int64)) (1 : Int64)) = 0 then (Q (.inl (some (vi (1 : Int32)))) M) else (Q (.inl (some (vi (0 : Int32)))) M)) : Zm E YX8_isIn d M [] 21 [vl s0] Q := by
  refine Zm.l (fun _ _ k_ => z_lconst (v := 1) dX8_isIn_21 rfl k_) ?_
  refine Zm.l (fun _ _ k_ => z_land dX8_isIn_22 k_) ?_
  refine Zm.l (fun _ _ k_ => z_lconst (v := 1) dX8_isIn_23 rfl k_) ?_
  refine Zm.l (fun _ _ k_ => z_lcmp dX8_isIn_24 k_) ?_
  refine Zm.brn (fun _ _ k1_ k2_ => z_if_ne (tgt := 32) dX8_isIn_25 rfl k1_ k2_) (fun h_ => ?_) (fun h_ => ?_)
  · have k := zif h_ k
    refine Zm.l (fun _ _ k_ => z_iconst (v := 0) dX8_isIn_32 rfl k_) ?_
    exact zm_iret dX8_isIn_33 rfl (by decide) k
  · have k := zit h_ k
    refine Zm.l (fun _ _ k_ => z_iconst (v := 1) dX8_isIn_28 rfl k_) ?_
    refine Zm.l (fun _ _ k_ => z_goto (tgt := 33) dX8_isIn_29 rfl k_) ?_
    exact zm_iret dX8_isIn_33 rfl (by decide) k
/-! ScriptTypesModel.noKeys()V -/
theorem bX8_noKeys_0 : zdec cX8_noKeys 0 [(0, .aload_n 0, 1), (1, .lconst 0, 1), (2, .putfield 1118, 3), (5, .aload_n 0, 1), (6, .lconst 0, 1), (7, .putfield 1122, 3), (10, .return_, 1)] = true := by decide +kernel
theorem dX8_noKeys_0 : decode cX8_noKeys 0 = .ok (.aload_n 0, 1) := zdec_at bX8_noKeys_0 0 rfl
theorem dX8_noKeys_1 : decode cX8_noKeys 1 = .ok (.lconst 0, 1) := zdec_at bX8_noKeys_0 1 rfl
theorem dX8_noKeys_2 : decode cX8_noKeys 2 = .ok (.putfield 1118, 3) := zdec_at bX8_noKeys_0 2 rfl
theorem dX8_noKeys_5 : decode cX8_noKeys 5 = .ok (.aload_n 0, 1) := zdec_at bX8_noKeys_0 3 rfl
theorem dX8_noKeys_6 : decode cX8_noKeys 6 = .ok (.lconst 0, 1) := zdec_at bX8_noKeys_0 4 rfl
theorem dX8_noKeys_7 : decode cX8_noKeys 7 = .ok (.putfield 1122, 3) := zdec_at bX8_noKeys_0 5 rfl
theorem dX8_noKeys_10 : decode cX8_noKeys 10 = .ok (.return_, 1) := zdec_at bX8_noKeys_0 6 rfl
theorem sX8_noKeys_0 {E : zE} {d : Nat} {Q : zO → zM → Prop} (M : zM)  (k : Q (.inl none) (sl (sl M 97 143 (0 : Int64)) 97 144 (0 : Int64))) : Zm E YX8_noKeys d M [(0, vr (some (97, 1, 0)))] 0 [] Q := by
  refine Zm.l (fun _ _ k_ => z_aload_n dX8_noKeys_0 rfl rfl k_) ?_
  refine Zm.l (fun _ _ k_ => z_lconst (v := 0) dX8_noKeys_1 rfl k_) ?_
  refine zm_putl (by decide) (by decide) dX8_noKeys_2 (zfwN.w fwX8_1118_1) ?_
  refine Zm.l (fun _ _ k_ => z_aload_n dX8_noKeys_5 rfl rfl k_) ?_
  refine Zm.l (fun _ _ k_ => z_lconst (v := 0) dX8_noKeys_6 rfl k_) ?_
  refine zm_putl (by decide) (by decide) dX8_noKeys_7 (zfwN.w fwX8_1122_1) ?_
  exact zm_vret dX8_noKeys_10 rfl k
/-! ScriptTypesModel.addKey(I)V -/
theorem bX8_addKey_0 : zdec cX8_addKey 0 [(0, .iload_n 1, 1), (1, .bipush 64, 2), (3, .if_icmp .ge 18, 3), (6, .aload_n 0, 1), (7, .aload_n 0, 1), (8, .getfield 1118, 3), (11, .lconst 1, 1), (12, .iload_n 1, 1), (13, .lshl, 1), (14, .lor, 1), (15, .putfield 1118, 3), (18, .goto 18, 3), (21, .aload_n 0, 1), (22, .aload_n 0, 1), (23, .getfield 1122, 3), (26, .lconst 1, 1)] = true := by decide +kernel
theorem dX8_addKey_0 : decode cX8_addKey 0 = .ok (.iload_n 1, 1) := zdec_at bX8_addKey_0 0 rfl
theorem dX8_addKey_1 : decode cX8_addKey 1 = .ok (.bipush 64, 2) := zdec_at bX8_addKey_0 1 rfl
theorem dX8_addKey_3 : decode cX8_addKey 3 = .ok (.if_icmp .ge 18, 3) := zdec_at bX8_addKey_0 2 rfl
theorem dX8_addKey_6 : decode cX8_addKey 6 = .ok (.aload_n 0, 1) := zdec_at bX8_addKey_0 3 rfl
theorem dX8_addKey_7 : decode cX8_addKey 7 = .ok (.aload_n 0, 1) := zdec_at bX8_addKey_0 4 rfl
theorem dX8_addKey_8 : decode cX8_addKey 8 = .ok (.getfield 1118, 3) := zdec_at bX8_addKey_0 5 rfl
theorem dX8_addKey_11 : decode cX8_addKey 11 = .ok (.lconst 1, 1) := zdec_at bX8_addKey_0 6 rfl
theorem dX8_addKey_12 : decode cX8_addKey 12 = .ok (.iload_n 1, 1) := zdec_at bX8_addKey_0 7 rfl
theorem dX8_addKey_13 : decode cX8_addKey 13 = .ok (.lshl, 1) := zdec_at bX8_addKey_0 8 rfl
theorem dX8_addKey_14 : decode cX8_addKey 14 = .ok (.lor, 1) := zdec_at bX8_addKey_0 9 rfl
theorem dX8_addKey_15 : decode cX8_addKey 15 = .ok (.putfield 1118, 3) := zdec_at bX8_addKey_0 10 rfl
theorem dX8_addKey_18 : decode cX8_addKey 18 = .ok (.goto 18, 3) := zdec_at bX8_addKey_0 11 rfl
theorem dX8_addKey_21 : decode cX8_addKey 21 = .ok (.aload_n 0, 1) := zdec_at bX8_addKey_0 12 rfl
theorem dX8_addKey_22 : decode cX8_addKey 22 = .ok (.aload_n 0, 1) := zdec_at bX8_addKey_0 13 rfl
theorem dX8_addKey_23 : decode cX8_addKey 23 = .ok (.getfield 1122, 3) := zdec_at bX8_addKey_0 14 rfl
theorem dX8_addKey_26 : decode cX8_addKey 26 = .ok (.lconst 1, 1) := zdec_at bX8_addKey_0 15 rfl
theorem bX8_addKey_27 : zdec cX8_addKey 27 [(27, .iload_n 1, 1), (28, .bipush 64, 2), (30, .isub, 1), (31, .lshl, 1), (32, .lor, 1), (33, .putfield 1122, 3), (36, .return_, 1)] = true := by decide +kernel
theorem dX8_addKey_27 : decode cX8_addKey 27 = .ok (.iload_n 1, 1) := zdec_at bX8_addKey_27 0 rfl
theorem dX8_addKey_28 : decode cX8_addKey 28 = .ok (.bipush 64, 2) := zdec_at bX8_addKey_27 1 rfl
theorem dX8_addKey_30 : decode cX8_addKey 30 = .ok (.isub, 1) := zdec_at bX8_addKey_27 2 rfl
theorem dX8_addKey_31 : decode cX8_addKey 31 = .ok (.lshl, 1) := zdec_at bX8_addKey_27 3 rfl
theorem dX8_addKey_32 : decode cX8_addKey 32 = .ok (.lor, 1) := zdec_at bX8_addKey_27 4 rfl
theorem dX8_addKey_33 : decode cX8_addKey 33 = .ok (.putfield 1122, 3) := zdec_at bX8_addKey_27 5 rfl
theorem dX8_addKey_36 : decode cX8_addKey 36 = .ok (.return_, 1) := zdec_at bX8_addKey_27 6 rfl
theorem sX8_addKey_0 {E : zE} {d : Nat} {Q : zO → zM → Prop} (M : zM) (l1 : Int32) (k : if (64 : Int32) ≤ l1 then (Q (.inl none) (sl M 97 144 ((gl M 97 144) ||| (zls (1 : Int64) (l1 - (64 : Int32)))))) else (Q (.inl none) (sl M 97 143 ((gl M 97 143) ||| (zls (1 : Int64) l1))))) : Zm E YX8_addKey d M [(0, vr (some (97, 1, 0))), (1, vi l1)] 0 [] Q := by
  refine Zm.l (fun _ _ k_ => z_iload_n dX8_addKey_0 rfl rfl k_) ?_
  refine Zm.l (fun _ _ k_ => z_bipush (v := 64) dX8_addKey_1 rfl k_) ?_
  refine Zm.br (fun _ _ k1_ k2_ => z_icmp_ge (tgt := 21) dX8_addKey_3 rfl k1_ k2_) (fun h_ => ?_) (fun h_ => ?_)
  · have k := zit h_ k
    refine Zm.l (fun _ _ k_ => z_aload_n dX8_addKey_21 rfl rfl k_) ?_
    refine Zm.l (fun _ _ k_ => z_aload_n dX8_addKey_22 rfl rfl k_) ?_
    refine zm_getl dX8_addKey_23 fsX8_1122_1 (by decide) (by decide) ?_
    refine Zm.l (fun _ _ k_ => z_lconst (v := 1) dX8_addKey_26 rfl k_) ?_
    refine Zm.l (fun _ _ k_ => z_iload_n dX8_addKey_27 rfl rfl k_) ?_
    refine Zm.l (fun _ _ k_ => z_bipush (v := 64) dX8_addKey_28 rfl k_) ?_
    refine Zm.l (fun _ _ k_ => z_isub dX8_addKey_30 k_) ?_
    refine Zm.l (fun _ _ k_ => z_lshl dX8_addKey_31 k_) ?_
    refine Zm.l (fun _ _ k_ => z_lor dX8_addKey_32 k_) ?_
    refine zm_putl (by decide) (by decide) dX8_addKey_33 (zfwN.w fwX8_1122_1) ?_
    exact zm_vret dX8_addKey_36 rfl k
  · have k := zif h_ k
    refine Zm.l (fun _ _ k_ => z_aload_n dX8_addKey_6 rfl rfl k_) ?_
    refine Zm.l (fun _ _ k_ => z_aload_n dX8_addKey_7 rfl rfl k_) ?_
    refine zm_getl dX8_addKey_8 fsX8_1118_1 (by decide) (by decide) ?_
    refine Zm.l (fun _ _ k_ => z_lconst (v := 1) dX8_addKey_11 rfl k_) ?_
    refine Zm.l (fun _ _ k_ => z_iload_n dX8_addKey_12 rfl rfl k_) ?_
    refine Zm.l (fun _ _ k_ => z_lshl dX8_addKey_13 k_) ?_
    refine Zm.l (fun _ _ k_ => z_lor dX8_addKey_14 k_) ?_
    refine zm_putl (by decide) (by decide) dX8_addKey_15 (zfwN.w fwX8_1118_1) ?_
    refine Zm.l (fun _ _ k_ => z_goto (tgt := 36) dX8_addKey_18 rfl k_) ?_
    exact zm_vret dX8_addKey_36 rfl k
/-! ScriptTypesModel.joinPlain(II)V -/
theorem bX8_joinPlain_0 : zdec cX8_joinPlain 0 [(0, .ldc_w 1273, 3), (3, .istore_n 3, 1), (4, .aload_n 0, 1), (5, .iload_n 1, 1), (6, .iload_n 3, 1), (7, .invokevirtual 1092, 3), (10, .aload_n 0, 1), (11, .iload_n 3, 1), (12, .aload_n 0, 1), (13, .iload_n 3, 1), (14, .invokevirtual 1059, 3), (17, .aload_n 0, 1), (18, .iload_n 3, 1), (19, .invokevirtual 1053, 3), (22, .aload_n 0, 1), (23, .iload_n 3, 1)] = true := by decide +kernel
theorem dX8_joinPlain_0 : decode cX8_joinPlain 0 = .ok (.ldc_w 1273, 3) := zdec_at bX8_joinPlain_0 0 rfl
theorem dX8_joinPlain_3 : decode cX8_joinPlain 3 = .ok (.istore_n 3, 1) := zdec_at bX8_joinPlain_0 1 rfl
theorem dX8_joinPlain_4 : decode cX8_joinPlain 4 = .ok (.aload_n 0, 1) := zdec_at bX8_joinPlain_0 2 rfl
theorem dX8_joinPlain_5 : decode cX8_joinPlain 5 = .ok (.iload_n 1, 1) := zdec_at bX8_joinPlain_0 3 rfl
theorem dX8_joinPlain_6 : decode cX8_joinPlain 6 = .ok (.iload_n 3, 1) := zdec_at bX8_joinPlain_0 4 rfl
theorem dX8_joinPlain_7 : decode cX8_joinPlain 7 = .ok (.invokevirtual 1092, 3) := zdec_at bX8_joinPlain_0 5 rfl
theorem dX8_joinPlain_10 : decode cX8_joinPlain 10 = .ok (.aload_n 0, 1) := zdec_at bX8_joinPlain_0 6 rfl
theorem dX8_joinPlain_11 : decode cX8_joinPlain 11 = .ok (.iload_n 3, 1) := zdec_at bX8_joinPlain_0 7 rfl
theorem dX8_joinPlain_12 : decode cX8_joinPlain 12 = .ok (.aload_n 0, 1) := zdec_at bX8_joinPlain_0 8 rfl
theorem dX8_joinPlain_13 : decode cX8_joinPlain 13 = .ok (.iload_n 3, 1) := zdec_at bX8_joinPlain_0 9 rfl
theorem dX8_joinPlain_14 : decode cX8_joinPlain 14 = .ok (.invokevirtual 1059, 3) := zdec_at bX8_joinPlain_0 10 rfl
theorem dX8_joinPlain_17 : decode cX8_joinPlain 17 = .ok (.aload_n 0, 1) := zdec_at bX8_joinPlain_0 11 rfl
theorem dX8_joinPlain_18 : decode cX8_joinPlain 18 = .ok (.iload_n 3, 1) := zdec_at bX8_joinPlain_0 12 rfl
theorem dX8_joinPlain_19 : decode cX8_joinPlain 19 = .ok (.invokevirtual 1053, 3) := zdec_at bX8_joinPlain_0 13 rfl
theorem dX8_joinPlain_22 : decode cX8_joinPlain 22 = .ok (.aload_n 0, 1) := zdec_at bX8_joinPlain_0 14 rfl
theorem dX8_joinPlain_23 : decode cX8_joinPlain 23 = .ok (.iload_n 3, 1) := zdec_at bX8_joinPlain_0 15 rfl
theorem bX8_joinPlain_24 : zdec cX8_joinPlain 24 [(24, .invokevirtual 1050, 3), (27, .invokevirtual 1056, 3), (30, .aload_n 0, 1), (31, .iload_n 3, 1), (32, .iload_n 2, 1), (33, .invokevirtual 1069, 3), (36, .istore 4, 2), (38, .return_, 1)] = true := by decide +kernel
theorem dX8_joinPlain_24 : decode cX8_joinPlain 24 = .ok (.invokevirtual 1050, 3) := zdec_at bX8_joinPlain_24 0 rfl
theorem dX8_joinPlain_27 : decode cX8_joinPlain 27 = .ok (.invokevirtual 1056, 3) := zdec_at bX8_joinPlain_24 1 rfl
theorem dX8_joinPlain_30 : decode cX8_joinPlain 30 = .ok (.aload_n 0, 1) := zdec_at bX8_joinPlain_24 2 rfl
theorem dX8_joinPlain_31 : decode cX8_joinPlain 31 = .ok (.iload_n 3, 1) := zdec_at bX8_joinPlain_24 3 rfl
theorem dX8_joinPlain_32 : decode cX8_joinPlain 32 = .ok (.iload_n 2, 1) := zdec_at bX8_joinPlain_24 4 rfl
theorem dX8_joinPlain_33 : decode cX8_joinPlain 33 = .ok (.invokevirtual 1069, 3) := zdec_at bX8_joinPlain_24 5 rfl
theorem dX8_joinPlain_36 : decode cX8_joinPlain 36 = .ok (.istore 4, 2) := zdec_at bX8_joinPlain_24 6 rfl
theorem dX8_joinPlain_38 : decode cX8_joinPlain 38 = .ok (.return_, 1) := zdec_at bX8_joinPlain_24 7 rfl
theorem sX8_joinPlain_0 {E : zE} {d : Nat} {Q : zO → zM → Prop} (M : zM) (l1 : Int32) (l2 : Int32) (k : Zm E YX8_copySet d M (zargs 0 [vr (some (97, 1, 0)), vi l1, vi (647794 : Int32)]) 0 [] (zma E YX8_joinPlain (d + 1) [(0, vr (some (97, 1, 0))), (2, vi l2), (3, vi (647794 : Int32))] 7 3 [] Q)) : Zm E YX8_joinPlain (d + 1) M [(0, vr (some (97, 1, 0))), (1, vi l1), (2, vi l2)] 0 [] Q := by
  refine Zm.l (fun _ _ k_ => z_ldcw (v := 647794) dX8_joinPlain_0 q4917 k_) ?_
  refine Zm.l (fun _ _ k_ => z_ist_n dX8_joinPlain_3 rfl (by decide) (lv' := [(0, vr (some (97, 1, 0))), (1, vi l1), (2, vi l2), (3, vi (647794 : Int32))]) rfl k_) ?_
  refine Zm.l (fun _ _ k_ => z_aload_n dX8_joinPlain_4 rfl rfl k_) ?_
  refine Zm.l (fun _ _ k_ => z_iload_n dX8_joinPlain_5 rfl rfl k_) ?_
  refine Zm.l (fun _ _ k_ => z_iload_n dX8_joinPlain_6 rfl rfl k_) ?_
  refine Zm.pick [0, 2, 3] rfl ?_
  exact zm_callV (as := [vi l1, vi (647794 : Int32)]) (st := []) dX8_joinPlain_7 vsX8_1092_1 (Nat.le_refl _) (Nat.le_of_ble_eq_true rfl) (Nat.le_of_ble_eq_true rfl) rfl k
theorem sX8_joinPlain_10 {E : zE} {d : Nat} {Q : zO → zM → Prop} (M : zM) (l2 : Int32) (l3 : Int32) (k : Zm E YX8_plainly d M (zargs 0 [vr (some (97, 1, 0)), vi l3]) 0 [] (zma E YX8_joinPlain (d + 1) [(0, vr (some (97, 1, 0))), (2, vi l2), (3, vi l3)] 14 3 [vi l3, vr (some (97, 1, 0))] Q)) : Zm E YX8_joinPlain (d + 1) M [(0, vr (some (97, 1, 0))), (2, vi l2), (3, vi l3)] 10 [] Q := by
  refine Zm.l (fun _ _ k_ => z_aload_n dX8_joinPlain_10 rfl rfl k_) ?_
  refine Zm.l (fun _ _ k_ => z_iload_n dX8_joinPlain_11 rfl rfl k_) ?_
  refine Zm.l (fun _ _ k_ => z_aload_n dX8_joinPlain_12 rfl rfl k_) ?_
  refine Zm.l (fun _ _ k_ => z_iload_n dX8_joinPlain_13 rfl rfl k_) ?_
  exact zm_callV (as := [vi l3]) (st := [vi l3, vr (some (97, 1, 0))]) dX8_joinPlain_14 vsX8_1059_1 (Nat.le_refl _) (Nat.le_of_ble_eq_true rfl) (Nat.le_of_ble_eq_true rfl) rfl k
theorem sX8_joinPlain_17 {E : zE} {d : Nat} {Q : zO → zM → Prop} (M : zM) (l2 : Int32) (l3 : Int32) (s0 : Int32) (s1 : Int32) (k : Zm E YX8_name d M (zargs 0 [vr (some (97, 1, 0)), vi l3]) 0 [] (zma E YX8_joinPlain (d + 1) [(0, vr (some (97, 1, 0))), (2, vi l2), (3, vi l3)] 19 3 [vi s0, vi s1, vr (some (97, 1, 0))] Q)) : Zm E YX8_joinPlain (d + 1) M [(0, vr (some (97, 1, 0))), (2, vi l2), (3, vi l3)] 17 [vi s0, vi s1, vr (some (97, 1, 0))] Q := by
  refine Zm.l (fun _ _ k_ => z_aload_n dX8_joinPlain_17 rfl rfl k_) ?_
  refine Zm.l (fun _ _ k_ => z_iload_n dX8_joinPlain_18 rfl rfl k_) ?_
  exact zm_callV (as := [vi l3]) (st := [vi s0, vi s1, vr (some (97, 1, 0))]) dX8_joinPlain_19 vsX8_1053_1 (Nat.le_refl _) (Nat.le_of_ble_eq_true rfl) (Nat.le_of_ble_eq_true rfl) rfl k
theorem sX8_joinPlain_22 {E : zE} {d : Nat} {Q : zO → zM → Prop} (M : zM) (l2 : Int32) (l3 : Int32) (s0 : Int32) (s1 : Int32) (s2 : Int32) (k : Zm E YX8_number d M (zargs 0 [vr (some (97, 1, 0)), vi l3]) 0 [] (zma E YX8_joinPlain (d + 1) [(0, vr (some (97, 1, 0))), (2, vi l2), (3, vi l3)] 24 3 [vi s0, vi s1, vi s2, vr (some (97, 1, 0))] Q)) : Zm E YX8_joinPlain (d + 1) M [(0, vr (some (97, 1, 0))), (2, vi l2), (3, vi l3)] 22 [vi s0, vi s1, vi s2, vr (some (97, 1, 0))] Q := by
  refine Zm.l (fun _ _ k_ => z_aload_n dX8_joinPlain_22 rfl rfl k_) ?_
  refine Zm.l (fun _ _ k_ => z_iload_n dX8_joinPlain_23 rfl rfl k_) ?_
  exact zm_callV (as := [vi l3]) (st := [vi s0, vi s1, vi s2, vr (some (97, 1, 0))]) dX8_joinPlain_24 vsX8_1050_1 (Nat.le_refl _) (Nat.le_of_ble_eq_true rfl) (Nat.le_of_ble_eq_true rfl) rfl k
theorem sX8_joinPlain_27 {E : zE} {d : Nat} {Q : zO → zM → Prop} (M : zM) (l2 : Int32) (l3 : Int32) (s0 : Int32) (s1 : Int32) (s2 : Int32) (s3 : Int32) (k : Zm E YX8_write d M (zargs 0 [vr (some (97, 1, 0)), vi s3, vi s2, vi s1, vi s0]) 0 [] (zma E YX8_joinPlain (d + 1) [(0, vr (some (97, 1, 0))), (2, vi l2), (3, vi l3)] 27 3 [] Q)) : Zm E YX8_joinPlain (d + 1) M [(0, vr (some (97, 1, 0))), (2, vi l2), (3, vi l3)] 27 [vi s0, vi s1, vi s2, vi s3, vr (some (97, 1, 0))] Q := by
  exact zm_callV (as := [vi s3, vi s2, vi s1, vi s0]) (st := []) dX8_joinPlain_27 vsX8_1056_1 (Nat.le_refl _) (Nat.le_of_ble_eq_true rfl) (Nat.le_of_ble_eq_true rfl) rfl k
theorem sX8_joinPlain_30 {E : zE} {d : Nat} {Q : zO → zM → Prop} (M : zM) (l2 : Int32) (l3 : Int32) (k : Zm E YX8_join d M (zargs 0 [vr (some (97, 1, 0)), vi l3, vi l2]) 0 [] (zma E YX8_joinPlain (d + 1) [] 33 3 [] Q)) : Zm E YX8_joinPlain (d + 1) M [(0, vr (some (97, 1, 0))), (2, vi l2), (3, vi l3)] 30 [] Q := by
  refine Zm.l (fun _ _ k_ => z_aload_n dX8_joinPlain_30 rfl rfl k_) ?_
  refine Zm.l (fun _ _ k_ => z_iload_n dX8_joinPlain_31 rfl rfl k_) ?_
  refine Zm.l (fun _ _ k_ => z_iload_n dX8_joinPlain_32 rfl rfl k_) ?_
  refine Zm.pick [] rfl ?_
  exact zm_callV (as := [vi l3, vi l2]) (st := []) dX8_joinPlain_33 vsX8_1069_1 (Nat.le_refl _) (Nat.le_of_ble_eq_true rfl) (Nat.le_of_ble_eq_true rfl) rfl k
theorem sX8_joinPlain_36 {E : zE} {d : Nat} {Q : zO → zM → Prop} (M : zM) (s0 : Int32) (k : Q (.inl none) M) : Zm E YX8_joinPlain (d + 1) M [] 36 [vi s0] Q := by
  refine Zm.l (fun _ _ k_ => z_ist dX8_joinPlain_36 (by decide) (lv' := [(4, vi s0)]) rfl k_) ?_
  exact zm_vret dX8_joinPlain_38 rfl k
/-! ScriptTypesModel.plainly(I)I -/
theorem bX8_plainly_0 : zdec cX8_plainly 0 [(0, .aload_n 0, 1), (1, .iload_n 1, 1), (2, .invokevirtual 1047, 3), (5, .sipush (-513), 3), (8, .iand, 1), (9, .ireturn, 1)] = true := by decide +kernel
theorem dX8_plainly_0 : decode cX8_plainly 0 = .ok (.aload_n 0, 1) := zdec_at bX8_plainly_0 0 rfl
theorem dX8_plainly_1 : decode cX8_plainly 1 = .ok (.iload_n 1, 1) := zdec_at bX8_plainly_0 1 rfl
theorem dX8_plainly_2 : decode cX8_plainly 2 = .ok (.invokevirtual 1047, 3) := zdec_at bX8_plainly_0 2 rfl
theorem dX8_plainly_5 : decode cX8_plainly 5 = .ok (.sipush (-513), 3) := zdec_at bX8_plainly_0 3 rfl
theorem dX8_plainly_8 : decode cX8_plainly 8 = .ok (.iand, 1) := zdec_at bX8_plainly_0 4 rfl
theorem dX8_plainly_9 : decode cX8_plainly 9 = .ok (.ireturn, 1) := zdec_at bX8_plainly_0 5 rfl
theorem sX8_plainly_0 {E : zE} {d : Nat} {Q : zO → zM → Prop} (M : zM) (l1 : Int32) (k : Zm E YX8_has d M (zargs 0 [vr (some (97, 1, 0)), vi l1]) 0 [] (zma E YX8_plainly (d + 1) [] 2 3 [] Q)) : Zm E YX8_plainly (d + 1) M [(0, vr (some (97, 1, 0))), (1, vi l1)] 0 [] Q := by
  refine Zm.l (fun _ _ k_ => z_aload_n dX8_plainly_0 rfl rfl k_) ?_
  refine Zm.l (fun _ _ k_ => z_iload_n dX8_plainly_1 rfl rfl k_) ?_
  refine Zm.pick [] rfl ?_
  exact zm_callV (as := [vi l1]) (st := []) dX8_plainly_2 vsX8_1047_1 (Nat.le_refl _) (Nat.le_of_ble_eq_true rfl) (Nat.le_of_ble_eq_true rfl) rfl k
theorem sX8_plainly_5 {E : zE} {d : Nat} {Q : zO → zM → Prop} (M : zM) (s0 : Int32) (k : Q (.inl (some (vi (s0 &&& (-513 : Int32))))) M) : Zm E YX8_plainly (d + 1) M [] 5 [vi s0] Q := by
  refine Zm.l (fun _ _ k_ => z_sipush (v := -513) dX8_plainly_5 rfl k_) ?_
  refine Zm.l (fun _ _ k_ => z_iand dX8_plainly_8 k_) ?_
  exact zm_iret dX8_plainly_9 rfl rfl k
/-! ScriptTypesModel.isEmpty(I)Z -/
theorem bX8_isEmpty_0 : zdec cX8_isEmpty 0 [(0, .aload_n 0, 1), (1, .iload_n 1, 1), (2, .invokevirtual 1059, 3), (5, .ifCond .ne 15, 3), (8, .aload_n 0, 1), (9, .iload_n 1, 1), (10, .invokevirtual 1062, 3), (13, .ifCond .ne 7, 3), (16, .iconst 1, 1), (17, .goto 4, 3), (20, .iconst 0, 1), (21, .ireturn, 1)] = true := by decide +kernel
theorem dX8_isEmpty_0 : decode cX8_isEmpty 0 = .ok (.aload_n 0, 1) := zdec_at bX8_isEmpty_0 0 rfl
theorem dX8_isEmpty_1 : decode cX8_isEmpty 1 = .ok (.iload_n 1, 1) := zdec_at bX8_isEmpty_0 1 rfl
theorem dX8_isEmpty_2 : decode cX8_isEmpty 2 = .ok (.invokevirtual 1059, 3) := zdec_at bX8_isEmpty_0 2 rfl
theorem dX8_isEmpty_5 : decode cX8_isEmpty 5 = .ok (.ifCond .ne 15, 3) := zdec_at bX8_isEmpty_0 3 rfl
theorem dX8_isEmpty_8 : decode cX8_isEmpty 8 = .ok (.aload_n 0, 1) := zdec_at bX8_isEmpty_0 4 rfl
theorem dX8_isEmpty_9 : decode cX8_isEmpty 9 = .ok (.iload_n 1, 1) := zdec_at bX8_isEmpty_0 5 rfl
theorem dX8_isEmpty_10 : decode cX8_isEmpty 10 = .ok (.invokevirtual 1062, 3) := zdec_at bX8_isEmpty_0 6 rfl
theorem dX8_isEmpty_13 : decode cX8_isEmpty 13 = .ok (.ifCond .ne 7, 3) := zdec_at bX8_isEmpty_0 7 rfl
theorem dX8_isEmpty_16 : decode cX8_isEmpty 16 = .ok (.iconst 1, 1) := zdec_at bX8_isEmpty_0 8 rfl
theorem dX8_isEmpty_17 : decode cX8_isEmpty 17 = .ok (.goto 4, 3) := zdec_at bX8_isEmpty_0 9 rfl
theorem dX8_isEmpty_20 : decode cX8_isEmpty 20 = .ok (.iconst 0, 1) := zdec_at bX8_isEmpty_0 10 rfl
theorem dX8_isEmpty_21 : decode cX8_isEmpty 21 = .ok (.ireturn, 1) := zdec_at bX8_isEmpty_0 11 rfl
theorem sX8_isEmpty_0 {E : zE} {d : Nat} {Q : zO → zM → Prop} (M : zM) (l1 : Int32) (k : Zm E YX8_plainly d M (zargs 0 [vr (some (97, 1, 0)), vi l1]) 0 [] (zma E YX8_isEmpty (d + 1) [(0, vr (some (97, 1, 0))), (1, vi l1)] 2 3 [] Q)) : Zm E YX8_isEmpty (d + 1) M [(0, vr (some (97, 1, 0))), (1, vi l1)] 0 [] Q := by
  refine Zm.l (fun _ _ k_ => z_aload_n dX8_isEmpty_0 rfl rfl k_) ?_
  refine Zm.l (fun _ _ k_ => z_iload_n dX8_isEmpty_1 rfl rfl k_) ?_
  exact zm_callV (as := [vi l1]) (st := []) dX8_isEmpty_2 vsX8_1059_1 (Nat.le_refl _) (Nat.le_of_ble_eq_true rfl) (Nat.le_of_ble_eq_true rfl) rfl k
theorem sX8_isEmpty_5 {E : zE} {d : Nat} {Q : zO → zM → Prop} (M : zM) (l1 : Int32) (s0 : Int32) (k : if s0 = 0 then (Zm E YX8_hasLabels d M (zargs 0 [vr (some (97, 1, 0)), vi l1]) 0 [] (zma E YX8_isEmpty (d + 1) [] 10 3 [] Q)) else (Q (.inl (some (vi (0 : Int32)))) M)) : Zm E YX8_isEmpty (d + 1) M [(0, vr (some (97, 1, 0))), (1, vi l1)] 5 [vi s0] Q := by
  refine Zm.brn (fun _ _ k1_ k2_ => z_if_ne (tgt := 20) dX8_isEmpty_5 rfl k1_ k2_) (fun h_ => ?_) (fun h_ => ?_)
  · have k := zif h_ k
    refine Zm.l (fun _ _ k_ => z_iconst (v := 0) dX8_isEmpty_20 rfl k_) ?_
    exact zm_iret dX8_isEmpty_21 rfl (by decide) k
  · have k := zit h_ k
    refine Zm.l (fun _ _ k_ => z_aload_n dX8_isEmpty_8 rfl rfl k_) ?_
    refine Zm.l (fun _ _ k_ => z_iload_n dX8_isEmpty_9 rfl rfl k_) ?_
    refine Zm.pick [] rfl ?_
    exact zm_callV (as := [vi l1]) (st := []) dX8_isEmpty_10 vsX8_1062_1 (Nat.le_refl _) (Nat.le_of_ble_eq_true rfl) (Nat.le_of_ble_eq_true rfl) rfl k
theorem sX8_isEmpty_13 {E : zE} {d : Nat} {Q : zO → zM → Prop} (M : zM) (s0 : Int32) (k : if s0 = 0 then (Q (.inl (some (vi (1 : Int32)))) M) else (Q (.inl (some (vi (0 : Int32)))) M)) : Zm E YX8_isEmpty (d + 1) M [] 13 [vi s0] Q := by
  refine Zm.brn (fun _ _ k1_ k2_ => z_if_ne (tgt := 20) dX8_isEmpty_13 rfl k1_ k2_) (fun h_ => ?_) (fun h_ => ?_)
  · have k := zif h_ k
    refine Zm.l (fun _ _ k_ => z_iconst (v := 0) dX8_isEmpty_20 rfl k_) ?_
    exact zm_iret dX8_isEmpty_21 rfl (by decide) k
  · have k := zit h_ k
    refine Zm.l (fun _ _ k_ => z_iconst (v := 1) dX8_isEmpty_16 rfl k_) ?_
    refine Zm.l (fun _ _ k_ => z_goto (tgt := 21) dX8_isEmpty_17 rfl k_) ?_
    exact zm_iret dX8_isEmpty_21 rfl (by decide) k
/-! ScriptTypesModel.hasLabels(I)Z -/
theorem bX8_hasLabels_0 : zdec cX8_hasLabels 0 [(0, .aload_n 0, 1), (1, .getfield 220, 3), (4, .iload_n 1, 1), (5, .laload, 1), (6, .aload_n 0, 1), (7, .getfield 223, 3), (10, .iload_n 1, 1), (11, .laload, 1), (12, .lor, 1), (13, .lconst 0, 1), (14, .lcmp, 1), (15, .ifCond .eq 7, 3), (18, .iconst 1, 1), (19, .goto 4, 3), (22, .iconst 0, 1), (23, .ireturn, 1)] = true := by decide +kernel
theorem dX8_hasLabels_0 : decode cX8_hasLabels 0 = .ok (.aload_n 0, 1) := zdec_at bX8_hasLabels_0 0 rfl
theorem dX8_hasLabels_1 : decode cX8_hasLabels 1 = .ok (.getfield 220, 3) := zdec_at bX8_hasLabels_0 1 rfl
theorem dX8_hasLabels_4 : decode cX8_hasLabels 4 = .ok (.iload_n 1, 1) := zdec_at bX8_hasLabels_0 2 rfl
theorem dX8_hasLabels_5 : decode cX8_hasLabels 5 = .ok (.laload, 1) := zdec_at bX8_hasLabels_0 3 rfl
theorem dX8_hasLabels_6 : decode cX8_hasLabels 6 = .ok (.aload_n 0, 1) := zdec_at bX8_hasLabels_0 4 rfl
theorem dX8_hasLabels_7 : decode cX8_hasLabels 7 = .ok (.getfield 223, 3) := zdec_at bX8_hasLabels_0 5 rfl
theorem dX8_hasLabels_10 : decode cX8_hasLabels 10 = .ok (.iload_n 1, 1) := zdec_at bX8_hasLabels_0 6 rfl
theorem dX8_hasLabels_11 : decode cX8_hasLabels 11 = .ok (.laload, 1) := zdec_at bX8_hasLabels_0 7 rfl
theorem dX8_hasLabels_12 : decode cX8_hasLabels 12 = .ok (.lor, 1) := zdec_at bX8_hasLabels_0 8 rfl
theorem dX8_hasLabels_13 : decode cX8_hasLabels 13 = .ok (.lconst 0, 1) := zdec_at bX8_hasLabels_0 9 rfl
theorem dX8_hasLabels_14 : decode cX8_hasLabels 14 = .ok (.lcmp, 1) := zdec_at bX8_hasLabels_0 10 rfl
theorem dX8_hasLabels_15 : decode cX8_hasLabels 15 = .ok (.ifCond .eq 7, 3) := zdec_at bX8_hasLabels_0 11 rfl
theorem dX8_hasLabels_18 : decode cX8_hasLabels 18 = .ok (.iconst 1, 1) := zdec_at bX8_hasLabels_0 12 rfl
theorem dX8_hasLabels_19 : decode cX8_hasLabels 19 = .ok (.goto 4, 3) := zdec_at bX8_hasLabels_0 13 rfl
theorem dX8_hasLabels_22 : decode cX8_hasLabels 22 = .ok (.iconst 0, 1) := zdec_at bX8_hasLabels_0 14 rfl
theorem dX8_hasLabels_23 : decode cX8_hasLabels 23 = .ok (.ireturn, 1) := zdec_at bX8_hasLabels_0 15 rfl
theorem sX8_hasLabels_0 {E : zE} {d : Nat} {Q : zO → zM → Prop} (M : zM) (l1 : Int32) (k : vp_in l1 647800 ∧ (vp_in l1 647800 ∧ (if (lg_cmp ((gl M 166 (l1).toNatClampNeg) ||| (gl M 167 (l1).toNatClampNeg)) (0 : Int64)) = 0 then (Q (.inl (some (vi (0 : Int32)))) M) else (Q (.inl (some (vi (1 : Int32)))) M)))) : Zm E YX8_hasLabels d M [(0, vr (some (97, 1, 0))), (1, vi l1)] 0 [] Q := by
  refine Zm.l (fun _ _ k_ => z_aload_n dX8_hasLabels_0 rfl rfl k_) ?_
  refine zm_getr 63 dX8_hasLabels_1 fsX8_220_1 rfl ?_
  refine Zm.l (fun _ _ k_ => z_iload_n dX8_hasLabels_4 rfl rfl k_) ?_
  obtain ⟨b_, k⟩ := k
  refine zm_lald dX8_hasLabels_5 b_ (by decide) (by decide) ?_
  refine Zm.l (fun _ _ k_ => z_aload_n dX8_hasLabels_6 rfl rfl k_) ?_
  refine zm_getr 64 dX8_hasLabels_7 fsX8_223_1 rfl ?_
  refine Zm.l (fun _ _ k_ => z_iload_n dX8_hasLabels_10 rfl rfl k_) ?_
  obtain ⟨b_, k⟩ := k
  refine zm_lald dX8_hasLabels_11 b_ (by decide) (by decide) ?_
  refine Zm.l (fun _ _ k_ => z_lor dX8_hasLabels_12 k_) ?_
  refine Zm.l (fun _ _ k_ => z_lconst (v := 0) dX8_hasLabels_13 rfl k_) ?_
  refine Zm.l (fun _ _ k_ => z_lcmp dX8_hasLabels_14 k_) ?_
  refine Zm.br (fun _ _ k1_ k2_ => z_if_eq (tgt := 22) dX8_hasLabels_15 rfl k1_ k2_) (fun h_ => ?_) (fun h_ => ?_)
  · have k := zit h_ k
    refine Zm.l (fun _ _ k_ => z_iconst (v := 0) dX8_hasLabels_22 rfl k_) ?_
    exact zm_iret dX8_hasLabels_23 rfl (by decide) k
  · have k := zif h_ k
    refine Zm.l (fun _ _ k_ => z_iconst (v := 1) dX8_hasLabels_18 rfl k_) ?_
    refine Zm.l (fun _ _ k_ => z_goto (tgt := 23) dX8_hasLabels_19 rfl k_) ?_
    exact zm_iret dX8_hasLabels_23 rfl (by decide) k
/-! ScriptTypesModel.fromTop(I)I -/
theorem bX8_fromTop_0 : zdec cX8_fromTop 0 [(0, .aload_n 0, 1), (1, .getfield 238, 3), (4, .sipush 639, 3), (7, .iaload, 1), (8, .aload_n 0, 1), (9, .getfield 235, 3), (12, .sipush 639, 3), (15, .iaload, 1), (16, .iadd, 1), (17, .iconst 1, 1), (18, .isub, 1), (19, .iload_n 1, 1), (20, .isub, 1), (21, .ireturn, 1)] = true := by decide +kernel
theorem dX8_fromTop_0 : decode cX8_fromTop 0 = .ok (.aload_n 0, 1) := zdec_at bX8_fromTop_0 0 rfl
theorem dX8_fromTop_1 : decode cX8_fromTop 1 = .ok (.getfield 238, 3) := zdec_at bX8_fromTop_0 1 rfl
theorem dX8_fromTop_4 : decode cX8_fromTop 4 = .ok (.sipush 639, 3) := zdec_at bX8_fromTop_0 2 rfl
theorem dX8_fromTop_7 : decode cX8_fromTop 7 = .ok (.iaload, 1) := zdec_at bX8_fromTop_0 3 rfl
theorem dX8_fromTop_8 : decode cX8_fromTop 8 = .ok (.aload_n 0, 1) := zdec_at bX8_fromTop_0 4 rfl
theorem dX8_fromTop_9 : decode cX8_fromTop 9 = .ok (.getfield 235, 3) := zdec_at bX8_fromTop_0 5 rfl
theorem dX8_fromTop_12 : decode cX8_fromTop 12 = .ok (.sipush 639, 3) := zdec_at bX8_fromTop_0 6 rfl
theorem dX8_fromTop_15 : decode cX8_fromTop 15 = .ok (.iaload, 1) := zdec_at bX8_fromTop_0 7 rfl
theorem dX8_fromTop_16 : decode cX8_fromTop 16 = .ok (.iadd, 1) := zdec_at bX8_fromTop_0 8 rfl
theorem dX8_fromTop_17 : decode cX8_fromTop 17 = .ok (.iconst 1, 1) := zdec_at bX8_fromTop_0 9 rfl
theorem dX8_fromTop_18 : decode cX8_fromTop 18 = .ok (.isub, 1) := zdec_at bX8_fromTop_0 10 rfl
theorem dX8_fromTop_19 : decode cX8_fromTop 19 = .ok (.iload_n 1, 1) := zdec_at bX8_fromTop_0 11 rfl
theorem dX8_fromTop_20 : decode cX8_fromTop 20 = .ok (.isub, 1) := zdec_at bX8_fromTop_0 12 rfl
theorem dX8_fromTop_21 : decode cX8_fromTop 21 = .ok (.ireturn, 1) := zdec_at bX8_fromTop_0 13 rfl
theorem sX8_fromTop_0 {E : zE} {d : Nat} {Q : zO → zM → Prop} (M : zM) (l1 : Int32) (k : vp_in (639 : Int32) 640 ∧ (vp_in (639 : Int32) 640 ∧ (Q (.inl (some (vi ((((gi M 172 ((639 : Int32)).toNatClampNeg) + (gi M 171 ((639 : Int32)).toNatClampNeg)) - (1 : Int32)) - l1)))) M))) : Zm E YX8_fromTop d M [(0, vr (some (97, 1, 0))), (1, vi l1)] 0 [] Q := by
  refine Zm.l (fun _ _ k_ => z_aload_n dX8_fromTop_0 rfl rfl k_) ?_
  refine zm_getr 69 dX8_fromTop_1 fsX8_238_1 rfl ?_
  refine Zm.l (fun _ _ k_ => z_sipush (v := 639) dX8_fromTop_4 rfl k_) ?_
  obtain ⟨b_, k⟩ := k
  refine zm_iald dX8_fromTop_7 b_ (by decide) (by decide) ?_
  refine Zm.l (fun _ _ k_ => z_aload_n dX8_fromTop_8 rfl rfl k_) ?_
  refine zm_getr 68 dX8_fromTop_9 fsX8_235_1 rfl ?_
  refine Zm.l (fun _ _ k_ => z_sipush (v := 639) dX8_fromTop_12 rfl k_) ?_
  obtain ⟨b_, k⟩ := k
  refine zm_iald dX8_fromTop_15 b_ (by decide) (by decide) ?_
  refine Zm.l (fun _ _ k_ => z_iadd dX8_fromTop_16 k_) ?_
  refine Zm.l (fun _ _ k_ => z_iconst (v := 1) dX8_fromTop_17 rfl k_) ?_
  refine Zm.l (fun _ _ k_ => z_isub dX8_fromTop_18 k_) ?_
  refine Zm.l (fun _ _ k_ => z_iload_n dX8_fromTop_19 rfl rfl k_) ?_
  refine Zm.l (fun _ _ k_ => z_isub dX8_fromTop_20 k_) ?_
  exact zm_iret dX8_fromTop_21 rfl rfl k
/-! ScriptTypesModel.writeTo(JJIZZ)V -/
theorem bX8_writeTo_0 : zdec cX8_writeTo 0 [(0, .lload_n 1, 1), (1, .invokestatic 1129, 3), (4, .lload_n 3, 1), (5, .invokestatic 1129, 3), (8, .iadd, 1), (9, .istore 8, 2), (11, .iconst 0, 1), (12, .istore 9, 2), (14, .iload 9, 2), (16, .aload_n 0, 1), (17, .getfield 765, 3), (20, .if_icmp .ge 167, 3), (23, .lload_n 1, 1), (24, .lload_n 3, 1), (25, .iload 9, 2), (27, .invokestatic 1125, 3)] = true := by decide +kernel
theorem dX8_writeTo_0 : decode cX8_writeTo 0 = .ok (.lload_n 1, 1) := zdec_at bX8_writeTo_0 0 rfl
theorem dX8_writeTo_1 : decode cX8_writeTo 1 = .ok (.invokestatic 1129, 3) := zdec_at bX8_writeTo_0 1 rfl
theorem dX8_writeTo_4 : decode cX8_writeTo 4 = .ok (.lload_n 3, 1) := zdec_at bX8_writeTo_0 2 rfl
theorem dX8_writeTo_5 : decode cX8_writeTo 5 = .ok (.invokestatic 1129, 3) := zdec_at bX8_writeTo_0 3 rfl
theorem dX8_writeTo_8 : decode cX8_writeTo 8 = .ok (.iadd, 1) := zdec_at bX8_writeTo_0 4 rfl
theorem dX8_writeTo_9 : decode cX8_writeTo 9 = .ok (.istore 8, 2) := zdec_at bX8_writeTo_0 5 rfl
theorem dX8_writeTo_11 : decode cX8_writeTo 11 = .ok (.iconst 0, 1) := zdec_at bX8_writeTo_0 6 rfl
theorem dX8_writeTo_12 : decode cX8_writeTo 12 = .ok (.istore 9, 2) := zdec_at bX8_writeTo_0 7 rfl
theorem dX8_writeTo_14 : decode cX8_writeTo 14 = .ok (.iload 9, 2) := zdec_at bX8_writeTo_0 8 rfl
theorem dX8_writeTo_16 : decode cX8_writeTo 16 = .ok (.aload_n 0, 1) := zdec_at bX8_writeTo_0 9 rfl
theorem dX8_writeTo_17 : decode cX8_writeTo 17 = .ok (.getfield 765, 3) := zdec_at bX8_writeTo_0 10 rfl
theorem dX8_writeTo_20 : decode cX8_writeTo 20 = .ok (.if_icmp .ge 167, 3) := zdec_at bX8_writeTo_0 11 rfl
theorem dX8_writeTo_23 : decode cX8_writeTo 23 = .ok (.lload_n 1, 1) := zdec_at bX8_writeTo_0 12 rfl
theorem dX8_writeTo_24 : decode cX8_writeTo 24 = .ok (.lload_n 3, 1) := zdec_at bX8_writeTo_0 13 rfl
theorem dX8_writeTo_25 : decode cX8_writeTo 25 = .ok (.iload 9, 2) := zdec_at bX8_writeTo_0 14 rfl
theorem dX8_writeTo_27 : decode cX8_writeTo 27 = .ok (.invokestatic 1125, 3) := zdec_at bX8_writeTo_0 15 rfl
theorem bX8_writeTo_30 : zdec cX8_writeTo 30 [(30, .ifCond .eq 151, 3), (33, .aload_n 0, 1), (34, .getfield 256, 3), (37, .aload_n 0, 1), (38, .sipush 639, 3), (41, .iload 9, 2), (43, .invokevirtual 1101, 3), (46, .baload, 1), (47, .ifCond .ne 6, 3), (50, .goto 131, 3), (53, .iload 6, 2), (55, .ifCond .eq 40, 3), (58, .iload 8, 2), (60, .iconst 1, 1), (61, .if_icmp .ne 34, 3), (64, .iload 9, 2)] = true := by decide +kernel
theorem dX8_writeTo_30 : decode cX8_writeTo 30 = .ok (.ifCond .eq 151, 3) := zdec_at bX8_writeTo_30 0 rfl
theorem dX8_writeTo_33 : decode cX8_writeTo 33 = .ok (.aload_n 0, 1) := zdec_at bX8_writeTo_30 1 rfl
theorem dX8_writeTo_34 : decode cX8_writeTo 34 = .ok (.getfield 256, 3) := zdec_at bX8_writeTo_30 2 rfl
theorem dX8_writeTo_37 : decode cX8_writeTo 37 = .ok (.aload_n 0, 1) := zdec_at bX8_writeTo_30 3 rfl
theorem dX8_writeTo_38 : decode cX8_writeTo 38 = .ok (.sipush 639, 3) := zdec_at bX8_writeTo_30 4 rfl
theorem dX8_writeTo_41 : decode cX8_writeTo 41 = .ok (.iload 9, 2) := zdec_at bX8_writeTo_30 5 rfl
theorem dX8_writeTo_43 : decode cX8_writeTo 43 = .ok (.invokevirtual 1101, 3) := zdec_at bX8_writeTo_30 6 rfl
theorem dX8_writeTo_46 : decode cX8_writeTo 46 = .ok (.baload, 1) := zdec_at bX8_writeTo_30 7 rfl
theorem dX8_writeTo_47 : decode cX8_writeTo 47 = .ok (.ifCond .ne 6, 3) := zdec_at bX8_writeTo_30 8 rfl
theorem dX8_writeTo_50 : decode cX8_writeTo 50 = .ok (.goto 131, 3) := zdec_at bX8_writeTo_30 9 rfl
theorem dX8_writeTo_53 : decode cX8_writeTo 53 = .ok (.iload 6, 2) := zdec_at bX8_writeTo_30 10 rfl
theorem dX8_writeTo_55 : decode cX8_writeTo 55 = .ok (.ifCond .eq 40, 3) := zdec_at bX8_writeTo_30 11 rfl
theorem dX8_writeTo_58 : decode cX8_writeTo 58 = .ok (.iload 8, 2) := zdec_at bX8_writeTo_30 12 rfl
theorem dX8_writeTo_60 : decode cX8_writeTo 60 = .ok (.iconst 1, 1) := zdec_at bX8_writeTo_30 13 rfl
theorem dX8_writeTo_61 : decode cX8_writeTo 61 = .ok (.if_icmp .ne 34, 3) := zdec_at bX8_writeTo_30 14 rfl
theorem dX8_writeTo_64 : decode cX8_writeTo 64 = .ok (.iload 9, 2) := zdec_at bX8_writeTo_30 15 rfl
theorem bX8_writeTo_66 : zdec cX8_writeTo 66 [(66, .invokestatic 1166, 3), (69, .ifCond .eq 26, 3), (72, .aload_n 0, 1), (73, .invokevirtual 1150, 3), (76, .iconst 1, 1), (77, .if_icmp .ne 18, 3), (80, .aload_n 0, 1), (81, .aload_n 0, 1), (82, .getfield 762, 3), (85, .invokevirtual 1153, 3), (88, .ifCond .ne 7, 3), (91, .iconst 1, 1), (92, .goto 4, 3), (95, .iconst 0, 1), (96, .istore 10, 2), (98, .iconst 0, 1)] = true := by decide +kernel
theorem dX8_writeTo_66 : decode cX8_writeTo 66 = .ok (.invokestatic 1166, 3) := zdec_at bX8_writeTo_66 0 rfl
theorem dX8_writeTo_69 : decode cX8_writeTo 69 = .ok (.ifCond .eq 26, 3) := zdec_at bX8_writeTo_66 1 rfl
theorem dX8_writeTo_72 : decode cX8_writeTo 72 = .ok (.aload_n 0, 1) := zdec_at bX8_writeTo_66 2 rfl
theorem dX8_writeTo_73 : decode cX8_writeTo 73 = .ok (.invokevirtual 1150, 3) := zdec_at bX8_writeTo_66 3 rfl
theorem dX8_writeTo_76 : decode cX8_writeTo 76 = .ok (.iconst 1, 1) := zdec_at bX8_writeTo_66 4 rfl
theorem dX8_writeTo_77 : decode cX8_writeTo 77 = .ok (.if_icmp .ne 18, 3) := zdec_at bX8_writeTo_66 5 rfl
theorem dX8_writeTo_80 : decode cX8_writeTo 80 = .ok (.aload_n 0, 1) := zdec_at bX8_writeTo_66 6 rfl
theorem dX8_writeTo_81 : decode cX8_writeTo 81 = .ok (.aload_n 0, 1) := zdec_at bX8_writeTo_66 7 rfl
theorem dX8_writeTo_82 : decode cX8_writeTo 82 = .ok (.getfield 762, 3) := zdec_at bX8_writeTo_66 8 rfl
theorem dX8_writeTo_85 : decode cX8_writeTo 85 = .ok (.invokevirtual 1153, 3) := zdec_at bX8_writeTo_66 9 rfl
theorem dX8_writeTo_88 : decode cX8_writeTo 88 = .ok (.ifCond .ne 7, 3) := zdec_at bX8_writeTo_66 10 rfl
theorem dX8_writeTo_91 : decode cX8_writeTo 91 = .ok (.iconst 1, 1) := zdec_at bX8_writeTo_66 11 rfl
theorem dX8_writeTo_92 : decode cX8_writeTo 92 = .ok (.goto 4, 3) := zdec_at bX8_writeTo_66 12 rfl
theorem dX8_writeTo_95 : decode cX8_writeTo 95 = .ok (.iconst 0, 1) := zdec_at bX8_writeTo_66 13 rfl
theorem dX8_writeTo_96 : decode cX8_writeTo 96 = .ok (.istore 10, 2) := zdec_at bX8_writeTo_66 14 rfl
theorem dX8_writeTo_98 : decode cX8_writeTo 98 = .ok (.iconst 0, 1) := zdec_at bX8_writeTo_66 15 rfl
theorem bX8_writeTo_99 : zdec cX8_writeTo 99 [(99, .istore 11, 2), (101, .iload 11, 2), (103, .aload_n 0, 1), (104, .getfield 762, 3), (107, .if_icmp .gt 74, 3), (110, .aload_n 0, 1), (111, .iload 11, 2), (113, .invokevirtual 1153, 3), (116, .ifCond .eq 59, 3), (119, .iload 7, 2), (121, .ifCond .eq 20, 3), (124, .iload 11, 2), (126, .ifCond .ne 15, 3), (129, .aload_n 0, 1), (130, .iload 9, 2), (132, .invokevirtual 1169, 3)] = true := by decide +kernel
theorem dX8_writeTo_99 : decode cX8_writeTo 99 = .ok (.istore 11, 2) := zdec_at bX8_writeTo_99 0 rfl
theorem dX8_writeTo_101 : decode cX8_writeTo 101 = .ok (.iload 11, 2) := zdec_at bX8_writeTo_99 1 rfl
theorem dX8_writeTo_103 : decode cX8_writeTo 103 = .ok (.aload_n 0, 1) := zdec_at bX8_writeTo_99 2 rfl
theorem dX8_writeTo_104 : decode cX8_writeTo 104 = .ok (.getfield 762, 3) := zdec_at bX8_writeTo_99 3 rfl
theorem dX8_writeTo_107 : decode cX8_writeTo 107 = .ok (.if_icmp .gt 74, 3) := zdec_at bX8_writeTo_99 4 rfl
theorem dX8_writeTo_110 : decode cX8_writeTo 110 = .ok (.aload_n 0, 1) := zdec_at bX8_writeTo_99 5 rfl
theorem dX8_writeTo_111 : decode cX8_writeTo 111 = .ok (.iload 11, 2) := zdec_at bX8_writeTo_99 6 rfl
theorem dX8_writeTo_113 : decode cX8_writeTo 113 = .ok (.invokevirtual 1153, 3) := zdec_at bX8_writeTo_99 7 rfl
theorem dX8_writeTo_116 : decode cX8_writeTo 116 = .ok (.ifCond .eq 59, 3) := zdec_at bX8_writeTo_99 8 rfl
theorem dX8_writeTo_119 : decode cX8_writeTo 119 = .ok (.iload 7, 2) := zdec_at bX8_writeTo_99 9 rfl
theorem dX8_writeTo_121 : decode cX8_writeTo 121 = .ok (.ifCond .eq 20, 3) := zdec_at bX8_writeTo_99 10 rfl
theorem dX8_writeTo_124 : decode cX8_writeTo 124 = .ok (.iload 11, 2) := zdec_at bX8_writeTo_99 11 rfl
theorem dX8_writeTo_126 : decode cX8_writeTo 126 = .ok (.ifCond .ne 15, 3) := zdec_at bX8_writeTo_99 12 rfl
theorem dX8_writeTo_129 : decode cX8_writeTo 129 = .ok (.aload_n 0, 1) := zdec_at bX8_writeTo_99 13 rfl
theorem dX8_writeTo_130 : decode cX8_writeTo 130 = .ok (.iload 9, 2) := zdec_at bX8_writeTo_99 14 rfl
theorem dX8_writeTo_132 : decode cX8_writeTo 132 = .ok (.invokevirtual 1169, 3) := zdec_at bX8_writeTo_99 15 rfl
theorem bX8_writeTo_135 : zdec cX8_writeTo 135 [(135, .ifCond .eq 6, 3), (138, .goto 37, 3), (141, .aload_n 0, 1), (142, .sipush 639, 3), (145, .iload 9, 2), (147, .iload 11, 2), (149, .invokevirtual 1163, 3), (152, .istore 12, 2), (154, .iload 10, 2), (156, .ifCond .eq 9, 3), (159, .aload_n 0, 1), (160, .iload 12, 2), (162, .invokevirtual 1066, 3), (165, .aload_n 0, 1), (166, .iload 5, 2), (168, .iload 12, 2)] = true := by decide +kernel
theorem dX8_writeTo_135 : decode cX8_writeTo 135 = .ok (.ifCond .eq 6, 3) := zdec_at bX8_writeTo_135 0 rfl
theorem dX8_writeTo_138 : decode cX8_writeTo 138 = .ok (.goto 37, 3) := zdec_at bX8_writeTo_135 1 rfl
theorem dX8_writeTo_141 : decode cX8_writeTo 141 = .ok (.aload_n 0, 1) := zdec_at bX8_writeTo_135 2 rfl
theorem dX8_writeTo_142 : decode cX8_writeTo 142 = .ok (.sipush 639, 3) := zdec_at bX8_writeTo_135 3 rfl
theorem dX8_writeTo_145 : decode cX8_writeTo 145 = .ok (.iload 9, 2) := zdec_at bX8_writeTo_135 4 rfl
theorem dX8_writeTo_147 : decode cX8_writeTo 147 = .ok (.iload 11, 2) := zdec_at bX8_writeTo_135 5 rfl
theorem dX8_writeTo_149 : decode cX8_writeTo 149 = .ok (.invokevirtual 1163, 3) := zdec_at bX8_writeTo_135 6 rfl
theorem dX8_writeTo_152 : decode cX8_writeTo 152 = .ok (.istore 12, 2) := zdec_at bX8_writeTo_135 7 rfl
theorem dX8_writeTo_154 : decode cX8_writeTo 154 = .ok (.iload 10, 2) := zdec_at bX8_writeTo_135 8 rfl
theorem dX8_writeTo_156 : decode cX8_writeTo 156 = .ok (.ifCond .eq 9, 3) := zdec_at bX8_writeTo_135 9 rfl
theorem dX8_writeTo_159 : decode cX8_writeTo 159 = .ok (.aload_n 0, 1) := zdec_at bX8_writeTo_135 10 rfl
theorem dX8_writeTo_160 : decode cX8_writeTo 160 = .ok (.iload 12, 2) := zdec_at bX8_writeTo_135 11 rfl
theorem dX8_writeTo_162 : decode cX8_writeTo 162 = .ok (.invokevirtual 1066, 3) := zdec_at bX8_writeTo_135 12 rfl
theorem dX8_writeTo_165 : decode cX8_writeTo 165 = .ok (.aload_n 0, 1) := zdec_at bX8_writeTo_135 13 rfl
theorem dX8_writeTo_166 : decode cX8_writeTo 166 = .ok (.iload 5, 2) := zdec_at bX8_writeTo_135 14 rfl
theorem dX8_writeTo_168 : decode cX8_writeTo 168 = .ok (.iload 12, 2) := zdec_at bX8_writeTo_135 15 rfl
theorem bX8_writeTo_170 : zdec cX8_writeTo 170 [(170, .invokevirtual 1069, 3), (173, .istore 13, 2), (175, .iinc 11 1, 3), (178, .goto (-77), 3), (181, .iinc 9 1, 3), (184, .goto (-170), 3), (187, .return_, 1)] = true := by decide +kernel
theorem dX8_writeTo_170 : decode cX8_writeTo 170 = .ok (.invokevirtual 1069, 3) := zdec_at bX8_writeTo_170 0 rfl
theorem dX8_writeTo_173 : decode cX8_writeTo 173 = .ok (.istore 13, 2) := zdec_at bX8_writeTo_170 1 rfl
theorem dX8_writeTo_175 : decode cX8_writeTo 175 = .ok (.iinc 11 1, 3) := zdec_at bX8_writeTo_170 2 rfl
theorem dX8_writeTo_178 : decode cX8_writeTo 178 = .ok (.goto (-77), 3) := zdec_at bX8_writeTo_170 3 rfl
theorem dX8_writeTo_181 : decode cX8_writeTo 181 = .ok (.iinc 9 1, 3) := zdec_at bX8_writeTo_170 4 rfl
theorem dX8_writeTo_184 : decode cX8_writeTo 184 = .ok (.goto (-170), 3) := zdec_at bX8_writeTo_170 5 rfl
theorem dX8_writeTo_187 : decode cX8_writeTo 187 = .ok (.return_, 1) := zdec_at bX8_writeTo_170 6 rfl
theorem sX8_writeTo_0 {E : zE} {d : Nat} {Q : zO → zM → Prop} (M : zM) (l1 : Int64) (l3 : Int64) (l5 : Int32) (l6 : Int32) (l7 : Int32) (k : Zm E YJ17_bitCount d M (zargs 0 [vl l1]) 0 [] (zma E YX8_writeTo (d + 1) [(0, vr (some (97, 1, 0))), (1, vl l1), (3, vl l3), (5, vi l5), (6, vi l6), (7, vi l7)] 1 3 [] Q)) : Zm E YX8_writeTo (d + 1) M [(0, vr (some (97, 1, 0))), (1, vl l1), (3, vl l3), (5, vi l5), (6, vi l6), (7, vi l7)] 0 [] Q := by
  refine Zm.l (fun _ _ k_ => z_lload_n dX8_writeTo_0 rfl rfl k_) ?_
  exact zm_callS (as := [vl l1]) (st := []) dX8_writeTo_1 ssX8_1129 (Nat.le_refl _) (Nat.le_of_ble_eq_true rfl) (Nat.le_of_ble_eq_true rfl) rfl k
theorem sX8_writeTo_4 {E : zE} {d : Nat} {Q : zO → zM → Prop} (M : zM) (l1 : Int64) (l3 : Int64) (l5 : Int32) (l6 : Int32) (l7 : Int32) (s0 : Int32) (k : Zm E YJ17_bitCount d M (zargs 0 [vl l3]) 0 [] (zma E YX8_writeTo (d + 1) [(0, vr (some (97, 1, 0))), (1, vl l1), (3, vl l3), (5, vi l5), (6, vi l6), (7, vi l7)] 5 3 [vi s0] Q)) : Zm E YX8_writeTo (d + 1) M [(0, vr (some (97, 1, 0))), (1, vl l1), (3, vl l3), (5, vi l5), (6, vi l6), (7, vi l7)] 4 [vi s0] Q := by
  refine Zm.l (fun _ _ k_ => z_lload_n dX8_writeTo_4 rfl rfl k_) ?_
  exact zm_callS (as := [vl l3]) (st := [vi s0]) dX8_writeTo_5 ssX8_1129 (Nat.le_refl _) (Nat.le_of_ble_eq_true rfl) (Nat.le_of_ble_eq_true rfl) rfl k
theorem sX8_writeTo_8 {E : zE} {d : Nat} {Q : zO → zM → Prop} (M : zM) (l1 : Int64) (l3 : Int64) (l5 : Int32) (l6 : Int32) (l7 : Int32) (s0 : Int32) (s1 : Int32) (k : Zm E YX8_writeTo (d + 1) M [(0, vr (some (97, 1, 0))), (1, vl l1), (3, vl l3), (5, vi l5), (6, vi l6), (7, vi l7), (8, vi (s1 + s0)), (9, vi (0 : Int32))] 14 [] Q) : Zm E YX8_writeTo (d + 1) M [(0, vr (some (97, 1, 0))), (1, vl l1), (3, vl l3), (5, vi l5), (6, vi l6), (7, vi l7)] 8 [vi s0, vi s1] Q := by
  refine Zm.l (fun _ _ k_ => z_iadd dX8_writeTo_8 k_) ?_
  refine Zm.l (fun _ _ k_ => z_ist dX8_writeTo_9 (by decide) (lv' := [(0, vr (some (97, 1, 0))), (1, vl l1), (3, vl l3), (5, vi l5), (6, vi l6), (7, vi l7), (8, vi (s1 + s0))]) rfl k_) ?_
  refine Zm.l (fun _ _ k_ => z_iconst (v := 0) dX8_writeTo_11 rfl k_) ?_
  refine Zm.l (fun _ _ k_ => z_ist dX8_writeTo_12 (by decide) (lv' := [(0, vr (some (97, 1, 0))), (1, vl l1), (3, vl l3), (5, vi l5), (6, vi l6), (7, vi l7), (8, vi (s1 + s0)), (9, vi (0 : Int32))]) rfl k_) ?_
  exact k
theorem sX8_writeTo_14 {E : zE} {d : Nat} {Q : zO → zM → Prop} (M : zM) (l1 : Int64) (l3 : Int64) (l5 : Int32) (l6 : Int32) (l7 : Int32) (l8 : Int32) (l9 : Int32) (k : if (gi M 97 71) ≤ l9 then (Q (.inl none) M) else (Zm E YX8_isIn d M (zargs 0 [vl l1, vl l3, vi l9]) 0 [] (zma E YX8_writeTo (d + 1) [(0, vr (some (97, 1, 0))), (1, vl l1), (3, vl l3), (5, vi l5), (6, vi l6), (7, vi l7), (8, vi l8), (9, vi l9)] 27 3 [] Q))) : Zm E YX8_writeTo (d + 1) M [(0, vr (some (97, 1, 0))), (1, vl l1), (3, vl l3), (5, vi l5), (6, vi l6), (7, vi l7), (8, vi l8), (9, vi l9)] 14 [] Q := by
  refine Zm.l (fun _ _ k_ => z_iload dX8_writeTo_14 rfl k_) ?_
  refine Zm.l (fun _ _ k_ => z_aload_n dX8_writeTo_16 rfl rfl k_) ?_
  refine zm_geti dX8_writeTo_17 fsX8_765_1 (by decide) (by decide) ?_
  refine Zm.br (fun _ _ k1_ k2_ => z_icmp_ge (tgt := 187) dX8_writeTo_20 rfl k1_ k2_) (fun h_ => ?_) (fun h_ => ?_)
  · have k := zit h_ k
    exact zm_vret dX8_writeTo_187 rfl k
  · have k := zif h_ k
    refine Zm.l (fun _ _ k_ => z_lload_n dX8_writeTo_23 rfl rfl k_) ?_
    refine Zm.l (fun _ _ k_ => z_lload_n dX8_writeTo_24 rfl rfl k_) ?_
    refine Zm.l (fun _ _ k_ => z_iload dX8_writeTo_25 rfl k_) ?_
    exact zm_callS (as := [vl l1, vl l3, vi l9]) (st := []) dX8_writeTo_27 ssX8_1125 (Nat.le_refl _) (Nat.le_of_ble_eq_true rfl) (Nat.le_of_ble_eq_true rfl) rfl k
theorem sX8_writeTo_30 {E : zE} {d : Nat} {Q : zO → zM → Prop} (M : zM) (l1 : Int64) (l3 : Int64) (l5 : Int32) (l6 : Int32) (l7 : Int32) (l8 : Int32) (l9 : Int32) (s0 : Int32) (k : if s0 = 0 then (Zm E YX8_writeTo (d + 1) M [(0, vr (some (97, 1, 0))), (1, vl l1), (3, vl l3), (5, vi l5), (6, vi l6), (7, vi l7), (8, vi l8), (9, vi (l9 + (1 : Int32)))] 14 [] Q) else (Zm E YX8_of d M (zargs 0 [vr (some (97, 1, 0)), vi (639 : Int32), vi l9]) 0 [] (zma E YX8_writeTo (d + 1) [(0, vr (some (97, 1, 0))), (1, vl l1), (3, vl l3), (5, vi l5), (6, vi l6), (7, vi l7), (8, vi l8), (9, vi l9)] 43 3 [vr (some (178, 104, 15128))] Q))) : Zm E YX8_writeTo (d + 1) M [(0, vr (some (97, 1, 0))), (1, vl l1), (3, vl l3), (5, vi l5), (6, vi l6), (7, vi l7), (8, vi l8), (9, vi l9)] 30 [vi s0] Q := by
  refine Zm.br (fun _ _ k1_ k2_ => z_if_eq (tgt := 181) dX8_writeTo_30 rfl k1_ k2_) (fun h_ => ?_) (fun h_ => ?_)
  · have k := zit h_ k
    refine Zm.l (fun _ _ k_ => z_inc (v := (l9 + (1 : Int32))) dX8_writeTo_181 rfl rfl (by decide) (lv' := [(0, vr (some (97, 1, 0))), (1, vl l1), (3, vl l3), (5, vi l5), (6, vi l6), (7, vi l7), (8, vi l8), (9, vi (l9 + (1 : Int32)))]) rfl k_) ?_
    refine Zm.l (fun _ _ k_ => z_goto (tgt := 14) dX8_writeTo_184 rfl k_) ?_
    exact k
  · have k := zif h_ k
    refine Zm.l (fun _ _ k_ => z_aload_n dX8_writeTo_33 rfl rfl k_) ?_
    refine zm_getr 75 dX8_writeTo_34 fsX8_256_1 rfl ?_
    refine Zm.l (fun _ _ k_ => z_aload_n dX8_writeTo_37 rfl rfl k_) ?_
    refine Zm.l (fun _ _ k_ => z_sipush (v := 639) dX8_writeTo_38 rfl k_) ?_
    refine Zm.l (fun _ _ k_ => z_iload dX8_writeTo_41 rfl k_) ?_
    exact zm_callV (as := [vi (639 : Int32), vi l9]) (st := [vr (some (178, 104, 15128))]) dX8_writeTo_43 vsX8_1101_1 (Nat.le_refl _) (Nat.le_of_ble_eq_true rfl) (Nat.le_of_ble_eq_true rfl) rfl k
theorem sX8_writeTo_46 {E : zE} {d : Nat} {Q : zO → zM → Prop} (M : zM) (l1 : Int64) (l3 : Int64) (l5 : Int32) (l6 : Int32) (l7 : Int32) (l8 : Int32) (l9 : Int32) (s0 : Int32) (k : vp_in s0 15128 ∧ (if (gi M 178 (s0).toNatClampNeg) = 0 then (Zm E YX8_writeTo (d + 1) M [(0, vr (some (97, 1, 0))), (1, vl l1), (3, vl l3), (5, vi l5), (6, vi l6), (7, vi l7), (8, vi l8), (9, vi (l9 + (1 : Int32)))] 14 [] Q) else (if l6 = 0 then (Zm E YX8_writeTo (d + 1) M [(0, vr (some (97, 1, 0))), (1, vl l1), (3, vl l3), (5, vi l5), (6, vi l6), (7, vi l7), (8, vi l8), (9, vi l9), (10, vi (0 : Int32)), (11, vi (0 : Int32))] 101 [] Q) else (if l8 = (1 : Int32) then (Zm E YX8_isSingle d M (zargs 0 [vi l9]) 0 [] (zma E YX8_writeTo (d + 1) [(0, vr (some (97, 1, 0))), (1, vl l1), (3, vl l3), (5, vi l5), (6, vi l6), (7, vi l7), (8, vi l8), (9, vi l9)] 66 3 [] Q)) else (Zm E YX8_writeTo (d + 1) M [(0, vr (some (97, 1, 0))), (1, vl l1), (3, vl l3), (5, vi l5), (6, vi l6), (7, vi l7), (8, vi l8), (9, vi l9), (10, vi (0 : Int32)), (11, vi (0 : Int32))] 101 [] Q))))) : Zm E YX8_writeTo (d + 1) M [(0, vr (some (97, 1, 0))), (1, vl l1), (3, vl l3), (5, vi l5), (6, vi l6), (7, vi l7), (8, vi l8), (9, vi l9)] 46 [vi s0, vr (some (178, 104, 15128))] Q := by
  obtain ⟨b_, k⟩ := k
  refine zm_zald dX8_writeTo_46 b_ (by decide) (by decide) ?_
  refine Zm.brn (fun _ _ k1_ k2_ => z_if_ne (tgt := 53) dX8_writeTo_47 rfl k1_ k2_) (fun h_ => ?_) (fun h_ => ?_)
  · have k := zif h_ k
    refine Zm.l (fun _ _ k_ => z_iload dX8_writeTo_53 rfl k_) ?_
    refine Zm.br (fun _ _ k1_ k2_ => z_if_eq (tgt := 95) dX8_writeTo_55 rfl k1_ k2_) (fun h_ => ?_) (fun h_ => ?_)
    · have k := zit h_ k
      refine Zm.l (fun _ _ k_ => z_iconst (v := 0) dX8_writeTo_95 rfl k_) ?_
      refine Zm.l (fun _ _ k_ => z_ist dX8_writeTo_96 (by decide) (lv' := [(0, vr (some (97, 1, 0))), (1, vl l1), (3, vl l3), (5, vi l5), (6, vi l6), (7, vi l7), (8, vi l8), (9, vi l9), (10, vi (0 : Int32))]) rfl k_) ?_
      refine Zm.l (fun _ _ k_ => z_iconst (v := 0) dX8_writeTo_98 rfl k_) ?_
      refine Zm.l (fun _ _ k_ => z_ist dX8_writeTo_99 (by decide) (lv' := [(0, vr (some (97, 1, 0))), (1, vl l1), (3, vl l3), (5, vi l5), (6, vi l6), (7, vi l7), (8, vi l8), (9, vi l9), (10, vi (0 : Int32)), (11, vi (0 : Int32))]) rfl k_) ?_
      exact k
    · have k := zif h_ k
      refine Zm.l (fun _ _ k_ => z_iload dX8_writeTo_58 rfl k_) ?_
      refine Zm.l (fun _ _ k_ => z_iconst (v := 1) dX8_writeTo_60 rfl k_) ?_
      refine Zm.brn (fun _ _ k1_ k2_ => z_icmp_ne (tgt := 95) dX8_writeTo_61 rfl k1_ k2_) (fun h_ => ?_) (fun h_ => ?_)
      · have k := zif h_ k
        refine Zm.l (fun _ _ k_ => z_iconst (v := 0) dX8_writeTo_95 rfl k_) ?_
        refine Zm.l (fun _ _ k_ => z_ist dX8_writeTo_96 (by decide) (lv' := [(0, vr (some (97, 1, 0))), (1, vl l1), (3, vl l3), (5, vi l5), (6, vi l6), (7, vi l7), (8, vi l8), (9, vi l9), (10, vi (0 : Int32))]) rfl k_) ?_
        refine Zm.l (fun _ _ k_ => z_iconst (v := 0) dX8_writeTo_98 rfl k_) ?_
        refine Zm.l (fun _ _ k_ => z_ist dX8_writeTo_99 (by decide) (lv' := [(0, vr (some (97, 1, 0))), (1, vl l1), (3, vl l3), (5, vi l5), (6, vi l6), (7, vi l7), (8, vi l8), (9, vi l9), (10, vi (0 : Int32)), (11, vi (0 : Int32))]) rfl k_) ?_
        exact k
      · have k := zit h_ k
        refine Zm.l (fun _ _ k_ => z_iload dX8_writeTo_64 rfl k_) ?_
        exact zm_callS (as := [vi l9]) (st := []) dX8_writeTo_66 ssX8_1166 (Nat.le_refl _) (Nat.le_of_ble_eq_true rfl) (Nat.le_of_ble_eq_true rfl) rfl k
  · have k := zit h_ k
    refine Zm.l (fun _ _ k_ => z_goto (tgt := 181) dX8_writeTo_50 rfl k_) ?_
    refine Zm.l (fun _ _ k_ => z_inc (v := (l9 + (1 : Int32))) dX8_writeTo_181 rfl rfl (by decide) (lv' := [(0, vr (some (97, 1, 0))), (1, vl l1), (3, vl l3), (5, vi l5), (6, vi l6), (7, vi l7), (8, vi l8), (9, vi (l9 + (1 : Int32)))]) rfl k_) ?_
    refine Zm.l (fun _ _ k_ => z_goto (tgt := 14) dX8_writeTo_184 rfl k_) ?_
    exact k
theorem sX8_writeTo_69 {E : zE} {d : Nat} {Q : zO → zM → Prop} (M : zM) (l1 : Int64) (l3 : Int64) (l5 : Int32) (l6 : Int32) (l7 : Int32) (l8 : Int32) (l9 : Int32) (s0 : Int32) (k : if s0 = 0 then (Zm E YX8_writeTo (d + 1) M [(0, vr (some (97, 1, 0))), (1, vl l1), (3, vl l3), (5, vi l5), (6, vi l6), (7, vi l7), (8, vi l8), (9, vi l9), (10, vi (0 : Int32)), (11, vi (0 : Int32))] 101 [] Q) else (Zm E YX8_manyKeys d M (zargs 0 [vr (some (97, 1, 0))]) 0 [] (zma E YX8_writeTo (d + 1) [(0, vr (some (97, 1, 0))), (1, vl l1), (3, vl l3), (5, vi l5), (6, vi l6), (7, vi l7), (8, vi l8), (9, vi l9)] 73 3 [] Q))) : Zm E YX8_writeTo (d + 1) M [(0, vr (some (97, 1, 0))), (1, vl l1), (3, vl l3), (5, vi l5), (6, vi l6), (7, vi l7), (8, vi l8), (9, vi l9)] 69 [vi s0] Q := by
  refine Zm.br (fun _ _ k1_ k2_ => z_if_eq (tgt := 95) dX8_writeTo_69 rfl k1_ k2_) (fun h_ => ?_) (fun h_ => ?_)
  · have k := zit h_ k
    refine Zm.l (fun _ _ k_ => z_iconst (v := 0) dX8_writeTo_95 rfl k_) ?_
    refine Zm.l (fun _ _ k_ => z_ist dX8_writeTo_96 (by decide) (lv' := [(0, vr (some (97, 1, 0))), (1, vl l1), (3, vl l3), (5, vi l5), (6, vi l6), (7, vi l7), (8, vi l8), (9, vi l9), (10, vi (0 : Int32))]) rfl k_) ?_
    refine Zm.l (fun _ _ k_ => z_iconst (v := 0) dX8_writeTo_98 rfl k_) ?_
    refine Zm.l (fun _ _ k_ => z_ist dX8_writeTo_99 (by decide) (lv' := [(0, vr (some (97, 1, 0))), (1, vl l1), (3, vl l3), (5, vi l5), (6, vi l6), (7, vi l7), (8, vi l8), (9, vi l9), (10, vi (0 : Int32)), (11, vi (0 : Int32))]) rfl k_) ?_
    exact k
  · have k := zif h_ k
    refine Zm.l (fun _ _ k_ => z_aload_n dX8_writeTo_72 rfl rfl k_) ?_
    exact zm_callV (as := []) (st := []) dX8_writeTo_73 vsX8_1150_1 (Nat.le_refl _) (Nat.le_of_ble_eq_true rfl) (Nat.le_of_ble_eq_true rfl) rfl k
theorem sX8_writeTo_76 {E : zE} {d : Nat} {Q : zO → zM → Prop} (M : zM) (l1 : Int64) (l3 : Int64) (l5 : Int32) (l6 : Int32) (l7 : Int32) (l8 : Int32) (l9 : Int32) (s0 : Int32) (k : if s0 = (1 : Int32) then (Zm E YX8_hasKey d M (zargs 0 [vr (some (97, 1, 0)), vi (gi M 97 8)]) 0 [] (zma E YX8_writeTo (d + 1) [(0, vr (some (97, 1, 0))), (1, vl l1), (3, vl l3), (5, vi l5), (6, vi l6), (7, vi l7), (8, vi l8), (9, vi l9)] 85 3 [] Q)) else (Zm E YX8_writeTo (d + 1) M [(0, vr (some (97, 1, 0))), (1, vl l1), (3, vl l3), (5, vi l5), (6, vi l6), (7, vi l7), (8, vi l8), (9, vi l9), (10, vi (0 : Int32)), (11, vi (0 : Int32))] 101 [] Q)) : Zm E YX8_writeTo (d + 1) M [(0, vr (some (97, 1, 0))), (1, vl l1), (3, vl l3), (5, vi l5), (6, vi l6), (7, vi l7), (8, vi l8), (9, vi l9)] 76 [vi s0] Q := by
  refine Zm.l (fun _ _ k_ => z_iconst (v := 1) dX8_writeTo_76 rfl k_) ?_
  refine Zm.brn (fun _ _ k1_ k2_ => z_icmp_ne (tgt := 95) dX8_writeTo_77 rfl k1_ k2_) (fun h_ => ?_) (fun h_ => ?_)
  · have k := zif h_ k
    refine Zm.l (fun _ _ k_ => z_iconst (v := 0) dX8_writeTo_95 rfl k_) ?_
    refine Zm.l (fun _ _ k_ => z_ist dX8_writeTo_96 (by decide) (lv' := [(0, vr (some (97, 1, 0))), (1, vl l1), (3, vl l3), (5, vi l5), (6, vi l6), (7, vi l7), (8, vi l8), (9, vi l9), (10, vi (0 : Int32))]) rfl k_) ?_
    refine Zm.l (fun _ _ k_ => z_iconst (v := 0) dX8_writeTo_98 rfl k_) ?_
    refine Zm.l (fun _ _ k_ => z_ist dX8_writeTo_99 (by decide) (lv' := [(0, vr (some (97, 1, 0))), (1, vl l1), (3, vl l3), (5, vi l5), (6, vi l6), (7, vi l7), (8, vi l8), (9, vi l9), (10, vi (0 : Int32)), (11, vi (0 : Int32))]) rfl k_) ?_
    exact k
  · have k := zit h_ k
    refine Zm.l (fun _ _ k_ => z_aload_n dX8_writeTo_80 rfl rfl k_) ?_
    refine Zm.l (fun _ _ k_ => z_aload_n dX8_writeTo_81 rfl rfl k_) ?_
    refine zm_geti dX8_writeTo_82 fsX8_762_1 (by decide) (by decide) ?_
    exact zm_callV (as := [vi (gi M 97 8)]) (st := []) dX8_writeTo_85 vsX8_1153_1 (Nat.le_refl _) (Nat.le_of_ble_eq_true rfl) (Nat.le_of_ble_eq_true rfl) rfl k
theorem sX8_writeTo_88 {E : zE} {d : Nat} {Q : zO → zM → Prop} (M : zM) (l1 : Int64) (l3 : Int64) (l5 : Int32) (l6 : Int32) (l7 : Int32) (l8 : Int32) (l9 : Int32) (s0 : Int32) (k : if s0 = 0 then (Zm E YX8_writeTo (d + 1) M [(0, vr (some (97, 1, 0))), (1, vl l1), (3, vl l3), (5, vi l5), (6, vi l6), (7, vi l7), (8, vi l8), (9, vi l9), (10, vi (1 : Int32)), (11, vi (0 : Int32))] 101 [] Q) else (Zm E YX8_writeTo (d + 1) M [(0, vr (some (97, 1, 0))), (1, vl l1), (3, vl l3), (5, vi l5), (6, vi l6), (7, vi l7), (8, vi l8), (9, vi l9), (10, vi (0 : Int32)), (11, vi (0 : Int32))] 101 [] Q)) : Zm E YX8_writeTo (d + 1) M [(0, vr (some (97, 1, 0))), (1, vl l1), (3, vl l3), (5, vi l5), (6, vi l6), (7, vi l7), (8, vi l8), (9, vi l9)] 88 [vi s0] Q := by
  refine Zm.brn (fun _ _ k1_ k2_ => z_if_ne (tgt := 95) dX8_writeTo_88 rfl k1_ k2_) (fun h_ => ?_) (fun h_ => ?_)
  · have k := zif h_ k
    refine Zm.l (fun _ _ k_ => z_iconst (v := 0) dX8_writeTo_95 rfl k_) ?_
    refine Zm.l (fun _ _ k_ => z_ist dX8_writeTo_96 (by decide) (lv' := [(0, vr (some (97, 1, 0))), (1, vl l1), (3, vl l3), (5, vi l5), (6, vi l6), (7, vi l7), (8, vi l8), (9, vi l9), (10, vi (0 : Int32))]) rfl k_) ?_
    refine Zm.l (fun _ _ k_ => z_iconst (v := 0) dX8_writeTo_98 rfl k_) ?_
    refine Zm.l (fun _ _ k_ => z_ist dX8_writeTo_99 (by decide) (lv' := [(0, vr (some (97, 1, 0))), (1, vl l1), (3, vl l3), (5, vi l5), (6, vi l6), (7, vi l7), (8, vi l8), (9, vi l9), (10, vi (0 : Int32)), (11, vi (0 : Int32))]) rfl k_) ?_
    exact k
  · have k := zit h_ k
    refine Zm.l (fun _ _ k_ => z_iconst (v := 1) dX8_writeTo_91 rfl k_) ?_
    refine Zm.l (fun _ _ k_ => z_goto (tgt := 96) dX8_writeTo_92 rfl k_) ?_
    refine Zm.l (fun _ _ k_ => z_ist dX8_writeTo_96 (by decide) (lv' := [(0, vr (some (97, 1, 0))), (1, vl l1), (3, vl l3), (5, vi l5), (6, vi l6), (7, vi l7), (8, vi l8), (9, vi l9), (10, vi (1 : Int32))]) rfl k_) ?_
    refine Zm.l (fun _ _ k_ => z_iconst (v := 0) dX8_writeTo_98 rfl k_) ?_
    refine Zm.l (fun _ _ k_ => z_ist dX8_writeTo_99 (by decide) (lv' := [(0, vr (some (97, 1, 0))), (1, vl l1), (3, vl l3), (5, vi l5), (6, vi l6), (7, vi l7), (8, vi l8), (9, vi l9), (10, vi (1 : Int32)), (11, vi (0 : Int32))]) rfl k_) ?_
    exact k
theorem sX8_writeTo_101 {E : zE} {d : Nat} {Q : zO → zM → Prop} (M : zM) (l1 : Int64) (l3 : Int64) (l5 : Int32) (l6 : Int32) (l7 : Int32) (l8 : Int32) (l9 : Int32) (l10 : Int32) (l11 : Int32) (k : if (gi M 97 8) < l11 then (Zm E YX8_writeTo (d + 1) M [(0, vr (some (97, 1, 0))), (1, vl l1), (3, vl l3), (5, vi l5), (6, vi l6), (7, vi l7), (8, vi l8), (9, vi (l9 + (1 : Int32)))] 14 [] Q) else (Zm E YX8_hasKey d M (zargs 0 [vr (some (97, 1, 0)), vi l11]) 0 [] (zma E YX8_writeTo (d + 1) [(0, vr (some (97, 1, 0))), (1, vl l1), (3, vl l3), (5, vi l5), (6, vi l6), (7, vi l7), (8, vi l8), (9, vi l9), (10, vi l10), (11, vi l11)] 113 3 [] Q))) : Zm E YX8_writeTo (d + 1) M [(0, vr (some (97, 1, 0))), (1, vl l1), (3, vl l3), (5, vi l5), (6, vi l6), (7, vi l7), (8, vi l8), (9, vi l9), (10, vi l10), (11, vi l11)] 101 [] Q := by
  refine Zm.l (fun _ _ k_ => z_iload dX8_writeTo_101 rfl k_) ?_
  refine Zm.l (fun _ _ k_ => z_aload_n dX8_writeTo_103 rfl rfl k_) ?_
  refine zm_geti dX8_writeTo_104 fsX8_762_1 (by decide) (by decide) ?_
  refine Zm.br (fun _ _ k1_ k2_ => z_icmp_gt (tgt := 181) dX8_writeTo_107 rfl k1_ k2_) (fun h_ => ?_) (fun h_ => ?_)
  · have k := zit h_ k
    refine Zm.l (fun _ _ k_ => z_inc (v := (l9 + (1 : Int32))) dX8_writeTo_181 rfl rfl (by decide) (lv' := [(0, vr (some (97, 1, 0))), (1, vl l1), (3, vl l3), (5, vi l5), (6, vi l6), (7, vi l7), (8, vi l8), (9, vi (l9 + (1 : Int32))), (10, vi l10), (11, vi l11)]) rfl k_) ?_
    refine Zm.l (fun _ _ k_ => z_goto (tgt := 14) dX8_writeTo_184 rfl k_) ?_
    refine Zm.pick [0, 1, 2, 3, 4, 5, 6, 7] rfl ?_
    exact k
  · have k := zif h_ k
    refine Zm.l (fun _ _ k_ => z_aload_n dX8_writeTo_110 rfl rfl k_) ?_
    refine Zm.l (fun _ _ k_ => z_iload dX8_writeTo_111 rfl k_) ?_
    exact zm_callV (as := [vi l11]) (st := []) dX8_writeTo_113 vsX8_1153_1 (Nat.le_refl _) (Nat.le_of_ble_eq_true rfl) (Nat.le_of_ble_eq_true rfl) rfl k
theorem sX8_writeTo_116 {E : zE} {d : Nat} {Q : zO → zM → Prop} (M : zM) (l1 : Int64) (l3 : Int64) (l5 : Int32) (l6 : Int32) (l7 : Int32) (l8 : Int32) (l9 : Int32) (l10 : Int32) (l11 : Int32) (s0 : Int32) (k : if s0 = 0 then (Zm E YX8_writeTo (d + 1) M [(0, vr (some (97, 1, 0))), (1, vl l1), (3, vl l3), (5, vi l5), (6, vi l6), (7, vi l7), (8, vi l8), (9, vi l9), (10, vi l10), (11, vi (l11 + (1 : Int32)))] 101 [] Q) else (if l7 = 0 then (Zm E YX8_field d M (zargs 0 [vr (some (97, 1, 0)), vi (639 : Int32), vi l9, vi l11]) 0 [] (zma E YX8_writeTo (d + 1) [(0, vr (some (97, 1, 0))), (1, vl l1), (3, vl l3), (5, vi l5), (6, vi l6), (7, vi l7), (8, vi l8), (9, vi l9), (10, vi l10), (11, vi l11)] 149 3 [] Q)) else (if l11 = 0 then (Zm E YX8_isArrayLabel d M (zargs 0 [vr (some (97, 1, 0)), vi l9]) 0 [] (zma E YX8_writeTo (d + 1) [(0, vr (some (97, 1, 0))), (1, vl l1), (3, vl l3), (5, vi l5), (6, vi l6), (7, vi l7), (8, vi l8), (9, vi l9), (10, vi l10), (11, vi l11)] 132 3 [] Q)) else (Zm E YX8_field d M (zargs 0 [vr (some (97, 1, 0)), vi (639 : Int32), vi l9, vi l11]) 0 [] (zma E YX8_writeTo (d + 1) [(0, vr (some (97, 1, 0))), (1, vl l1), (3, vl l3), (5, vi l5), (6, vi l6), (7, vi l7), (8, vi l8), (9, vi l9), (10, vi l10), (11, vi l11)] 149 3 [] Q))))) : Zm E YX8_writeTo (d + 1) M [(0, vr (some (97, 1, 0))), (1, vl l1), (3, vl l3), (5, vi l5), (6, vi l6), (7, vi l7), (8, vi l8), (9, vi l9), (10, vi l10), (11, vi l11)] 116 [vi s0] Q := by
  refine Zm.br (fun _ _ k1_ k2_ => z_if_eq (tgt := 175) dX8_writeTo_116 rfl k1_ k2_) (fun h_ => ?_) (fun h_ => ?_)
  · have k := zit h_ k
    refine Zm.l (fun _ _ k_ => z_inc (v := (l11 + (1 : Int32))) dX8_writeTo_175 rfl rfl (by decide) (lv' := [(0, vr (some (97, 1, 0))), (1, vl l1), (3, vl l3), (5, vi l5), (6, vi l6), (7, vi l7), (8, vi l8), (9, vi l9), (10, vi l10), (11, vi (l11 + (1 : Int32)))]) rfl k_) ?_
    refine Zm.l (fun _ _ k_ => z_goto (tgt := 101) dX8_writeTo_178 rfl k_) ?_
    exact k
  · have k := zif h_ k
    refine Zm.l (fun _ _ k_ => z_iload dX8_writeTo_119 rfl k_) ?_
    refine Zm.br (fun _ _ k1_ k2_ => z_if_eq (tgt := 141) dX8_writeTo_121 rfl k1_ k2_) (fun h_ => ?_) (fun h_ => ?_)
    · have k := zit h_ k
      refine Zm.l (fun _ _ k_ => z_aload_n dX8_writeTo_141 rfl rfl k_) ?_
      refine Zm.l (fun _ _ k_ => z_sipush (v := 639) dX8_writeTo_142 rfl k_) ?_
      refine Zm.l (fun _ _ k_ => z_iload dX8_writeTo_145 rfl k_) ?_
      refine Zm.l (fun _ _ k_ => z_iload dX8_writeTo_147 rfl k_) ?_
      exact zm_callV (as := [vi (639 : Int32), vi l9, vi l11]) (st := []) dX8_writeTo_149 vsX8_1163_1 (Nat.le_refl _) (Nat.le_of_ble_eq_true rfl) (Nat.le_of_ble_eq_true rfl) rfl k
    · have k := zif h_ k
      refine Zm.l (fun _ _ k_ => z_iload dX8_writeTo_124 rfl k_) ?_
      refine Zm.brn (fun _ _ k1_ k2_ => z_if_ne (tgt := 141) dX8_writeTo_126 rfl k1_ k2_) (fun h_ => ?_) (fun h_ => ?_)
      · have k := zif h_ k
        refine Zm.l (fun _ _ k_ => z_aload_n dX8_writeTo_141 rfl rfl k_) ?_
        refine Zm.l (fun _ _ k_ => z_sipush (v := 639) dX8_writeTo_142 rfl k_) ?_
        refine Zm.l (fun _ _ k_ => z_iload dX8_writeTo_145 rfl k_) ?_
        refine Zm.l (fun _ _ k_ => z_iload dX8_writeTo_147 rfl k_) ?_
        exact zm_callV (as := [vi (639 : Int32), vi l9, vi l11]) (st := []) dX8_writeTo_149 vsX8_1163_1 (Nat.le_refl _) (Nat.le_of_ble_eq_true rfl) (Nat.le_of_ble_eq_true rfl) rfl k
      · have k := zit h_ k
        refine Zm.l (fun _ _ k_ => z_aload_n dX8_writeTo_129 rfl rfl k_) ?_
        refine Zm.l (fun _ _ k_ => z_iload dX8_writeTo_130 rfl k_) ?_
        exact zm_callV (as := [vi l9]) (st := []) dX8_writeTo_132 vsX8_1169_1 (Nat.le_refl _) (Nat.le_of_ble_eq_true rfl) (Nat.le_of_ble_eq_true rfl) rfl k
theorem sX8_writeTo_135 {E : zE} {d : Nat} {Q : zO → zM → Prop} (M : zM) (l1 : Int64) (l3 : Int64) (l5 : Int32) (l6 : Int32) (l7 : Int32) (l8 : Int32) (l9 : Int32) (l10 : Int32) (l11 : Int32) (s0 : Int32) (k : if s0 = 0 then (Zm E YX8_field d M (zargs 0 [vr (some (97, 1, 0)), vi (639 : Int32), vi l9, vi l11]) 0 [] (zma E YX8_writeTo (d + 1) [(0, vr (some (97, 1, 0))), (1, vl l1), (3, vl l3), (5, vi l5), (6, vi l6), (7, vi l7), (8, vi l8), (9, vi l9), (10, vi l10), (11, vi l11)] 149 3 [] Q)) else (Zm E YX8_writeTo (d + 1) M [(0, vr (some (97, 1, 0))), (1, vl l1), (3, vl l3), (5, vi l5), (6, vi l6), (7, vi l7), (8, vi l8), (9, vi l9), (10, vi l10), (11, vi (l11 + (1 : Int32)))] 101 [] Q)) : Zm E YX8_writeTo (d + 1) M [(0, vr (some (97, 1, 0))), (1, vl l1), (3, vl l3), (5, vi l5), (6, vi l6), (7, vi l7), (8, vi l8), (9, vi l9), (10, vi l10), (11, vi l11)] 135 [vi s0] Q := by
  refine Zm.br (fun _ _ k1_ k2_ => z_if_eq (tgt := 141) dX8_writeTo_135 rfl k1_ k2_) (fun h_ => ?_) (fun h_ => ?_)
  · have k := zit h_ k
    refine Zm.l (fun _ _ k_ => z_aload_n dX8_writeTo_141 rfl rfl k_) ?_
    refine Zm.l (fun _ _ k_ => z_sipush (v := 639) dX8_writeTo_142 rfl k_) ?_
    refine Zm.l (fun _ _ k_ => z_iload dX8_writeTo_145 rfl k_) ?_
    refine Zm.l (fun _ _ k_ => z_iload dX8_writeTo_147 rfl k_) ?_
    exact zm_callV (as := [vi (639 : Int32), vi l9, vi l11]) (st := []) dX8_writeTo_149 vsX8_1163_1 (Nat.le_refl _) (Nat.le_of_ble_eq_true rfl) (Nat.le_of_ble_eq_true rfl) rfl k
  · have k := zif h_ k
    refine Zm.l (fun _ _ k_ => z_goto (tgt := 175) dX8_writeTo_138 rfl k_) ?_
    refine Zm.l (fun _ _ k_ => z_inc (v := (l11 + (1 : Int32))) dX8_writeTo_175 rfl rfl (by decide) (lv' := [(0, vr (some (97, 1, 0))), (1, vl l1), (3, vl l3), (5, vi l5), (6, vi l6), (7, vi l7), (8, vi l8), (9, vi l9), (10, vi l10), (11, vi (l11 + (1 : Int32)))]) rfl k_) ?_
    refine Zm.l (fun _ _ k_ => z_goto (tgt := 101) dX8_writeTo_178 rfl k_) ?_
    exact k
theorem sX8_writeTo_152 {E : zE} {d : Nat} {Q : zO → zM → Prop} (M : zM) (l1 : Int64) (l3 : Int64) (l5 : Int32) (l6 : Int32) (l7 : Int32) (l8 : Int32) (l9 : Int32) (l10 : Int32) (l11 : Int32) (s0 : Int32) (k : if l10 = 0 then (Zm E YX8_writeTo (d + 1) M [(0, vr (some (97, 1, 0))), (1, vl l1), (3, vl l3), (5, vi l5), (6, vi l6), (7, vi l7), (8, vi l8), (9, vi l9), (10, vi l10), (11, vi l11), (12, vi s0)] 165 [] Q) else (Zm E YX8_empty d M (zargs 0 [vr (some (97, 1, 0)), vi s0]) 0 [] (zma E YX8_writeTo (d + 1) [(0, vr (some (97, 1, 0))), (1, vl l1), (3, vl l3), (5, vi l5), (6, vi l6), (7, vi l7), (8, vi l8), (9, vi l9), (10, vi l10), (11, vi l11), (12, vi s0)] 162 3 [] Q))) : Zm E YX8_writeTo (d + 1) M [(0, vr (some (97, 1, 0))), (1, vl l1), (3, vl l3), (5, vi l5), (6, vi l6), (7, vi l7), (8, vi l8), (9, vi l9), (10, vi l10), (11, vi l11)] 152 [vi s0] Q := by
  refine Zm.l (fun _ _ k_ => z_ist dX8_writeTo_152 (by decide) (lv' := [(0, vr (some (97, 1, 0))), (1, vl l1), (3, vl l3), (5, vi l5), (6, vi l6), (7, vi l7), (8, vi l8), (9, vi l9), (10, vi l10), (11, vi l11), (12, vi s0)]) rfl k_) ?_
  refine Zm.l (fun _ _ k_ => z_iload dX8_writeTo_154 rfl k_) ?_
  refine Zm.br (fun _ _ k1_ k2_ => z_if_eq (tgt := 165) dX8_writeTo_156 rfl k1_ k2_) (fun h_ => ?_) (fun h_ => ?_)
  · have k := zit h_ k
    exact k
  · have k := zif h_ k
    refine Zm.l (fun _ _ k_ => z_aload_n dX8_writeTo_159 rfl rfl k_) ?_
    refine Zm.l (fun _ _ k_ => z_iload dX8_writeTo_160 rfl k_) ?_
    exact zm_callV (as := [vi s0]) (st := []) dX8_writeTo_162 vsX8_1066_1 (Nat.le_refl _) (Nat.le_of_ble_eq_true rfl) (Nat.le_of_ble_eq_true rfl) rfl k
theorem sX8_writeTo_165 {E : zE} {d : Nat} {Q : zO → zM → Prop} (M : zM) (l1 : Int64) (l3 : Int64) (l5 : Int32) (l6 : Int32) (l7 : Int32) (l8 : Int32) (l9 : Int32) (l10 : Int32) (l11 : Int32) (l12 : Int32) (k : Zm E YX8_join d M (zargs 0 [vr (some (97, 1, 0)), vi l5, vi l12]) 0 [] (zma E YX8_writeTo (d + 1) [(0, vr (some (97, 1, 0))), (1, vl l1), (3, vl l3), (5, vi l5), (6, vi l6), (7, vi l7), (8, vi l8), (9, vi l9), (10, vi l10), (11, vi l11)] 170 3 [] Q)) : Zm E YX8_writeTo (d + 1) M [(0, vr (some (97, 1, 0))), (1, vl l1), (3, vl l3), (5, vi l5), (6, vi l6), (7, vi l7), (8, vi l8), (9, vi l9), (10, vi l10), (11, vi l11), (12, vi l12)] 165 [] Q := by
  refine Zm.l (fun _ _ k_ => z_aload_n dX8_writeTo_165 rfl rfl k_) ?_
  refine Zm.l (fun _ _ k_ => z_iload dX8_writeTo_166 rfl k_) ?_
  refine Zm.l (fun _ _ k_ => z_iload dX8_writeTo_168 rfl k_) ?_
  refine Zm.pick [0, 1, 2, 3, 4, 5, 6, 7, 8, 9] rfl ?_
  exact zm_callV (as := [vi l5, vi l12]) (st := []) dX8_writeTo_170 vsX8_1069_1 (Nat.le_refl _) (Nat.le_of_ble_eq_true rfl) (Nat.le_of_ble_eq_true rfl) rfl k
theorem sX8_writeTo_173 {E : zE} {d : Nat} {Q : zO → zM → Prop} (M : zM) (l1 : Int64) (l3 : Int64) (l5 : Int32) (l6 : Int32) (l7 : Int32) (l8 : Int32) (l9 : Int32) (l10 : Int32) (l11 : Int32) (s0 : Int32) (k : Zm E YX8_writeTo (d + 1) M [(0, vr (some (97, 1, 0))), (1, vl l1), (3, vl l3), (5, vi l5), (6, vi l6), (7, vi l7), (8, vi l8), (9, vi l9), (10, vi l10), (11, vi (l11 + (1 : Int32)))] 101 [] Q) : Zm E YX8_writeTo (d + 1) M [(0, vr (some (97, 1, 0))), (1, vl l1), (3, vl l3), (5, vi l5), (6, vi l6), (7, vi l7), (8, vi l8), (9, vi l9), (10, vi l10), (11, vi l11)] 173 [vi s0] Q := by
  refine Zm.l (fun _ _ k_ => z_ist dX8_writeTo_173 (by decide) (lv' := [(0, vr (some (97, 1, 0))), (1, vl l1), (3, vl l3), (5, vi l5), (6, vi l6), (7, vi l7), (8, vi l8), (9, vi l9), (10, vi l10), (11, vi l11), (13, vi s0)]) rfl k_) ?_
  refine Zm.l (fun _ _ k_ => z_inc (v := (l11 + (1 : Int32))) dX8_writeTo_175 rfl rfl (by decide) (lv' := [(0, vr (some (97, 1, 0))), (1, vl l1), (3, vl l3), (5, vi l5), (6, vi l6), (7, vi l7), (8, vi l8), (9, vi l9), (10, vi l10), (11, vi (l11 + (1 : Int32))), (13, vi s0)]) rfl k_) ?_
  refine Zm.l (fun _ _ k_ => z_goto (tgt := 101) dX8_writeTo_178 rfl k_) ?_
  refine Zm.pick [0, 1, 2, 3, 4, 5, 6, 7, 8, 9] rfl ?_
  exact k
/-! ScriptTypesModel.isSingle(I)Z -/
theorem bX8_isSingle_0 : zdec cX8_isSingle 0 [(0, .iload_n 0, 1), (1, .bipush 23, 2), (3, .if_icmp .lt 18, 3), (6, .iload_n 0, 1), (7, .bipush 29, 2), (9, .if_icmp .lt 16, 3), (12, .iload_n 0, 1), (13, .bipush 29, 2), (15, .isub, 1), (16, .iconst 2, 1), (17, .irem, 1), (18, .ifCond .ne 7, 3), (21, .iconst 1, 1), (22, .goto 4, 3), (25, .iconst 0, 1), (26, .ireturn, 1)] = true := by decide +kernel
theorem dX8_isSingle_0 : decode cX8_isSingle 0 = .ok (.iload_n 0, 1) := zdec_at bX8_isSingle_0 0 rfl
theorem dX8_isSingle_1 : decode cX8_isSingle 1 = .ok (.bipush 23, 2) := zdec_at bX8_isSingle_0 1 rfl
theorem dX8_isSingle_3 : decode cX8_isSingle 3 = .ok (.if_icmp .lt 18, 3) := zdec_at bX8_isSingle_0 2 rfl
theorem dX8_isSingle_6 : decode cX8_isSingle 6 = .ok (.iload_n 0, 1) := zdec_at bX8_isSingle_0 3 rfl
theorem dX8_isSingle_7 : decode cX8_isSingle 7 = .ok (.bipush 29, 2) := zdec_at bX8_isSingle_0 4 rfl
theorem dX8_isSingle_9 : decode cX8_isSingle 9 = .ok (.if_icmp .lt 16, 3) := zdec_at bX8_isSingle_0 5 rfl
theorem dX8_isSingle_12 : decode cX8_isSingle 12 = .ok (.iload_n 0, 1) := zdec_at bX8_isSingle_0 6 rfl
theorem dX8_isSingle_13 : decode cX8_isSingle 13 = .ok (.bipush 29, 2) := zdec_at bX8_isSingle_0 7 rfl
theorem dX8_isSingle_15 : decode cX8_isSingle 15 = .ok (.isub, 1) := zdec_at bX8_isSingle_0 8 rfl
theorem dX8_isSingle_16 : decode cX8_isSingle 16 = .ok (.iconst 2, 1) := zdec_at bX8_isSingle_0 9 rfl
theorem dX8_isSingle_17 : decode cX8_isSingle 17 = .ok (.irem, 1) := zdec_at bX8_isSingle_0 10 rfl
theorem dX8_isSingle_18 : decode cX8_isSingle 18 = .ok (.ifCond .ne 7, 3) := zdec_at bX8_isSingle_0 11 rfl
theorem dX8_isSingle_21 : decode cX8_isSingle 21 = .ok (.iconst 1, 1) := zdec_at bX8_isSingle_0 12 rfl
theorem dX8_isSingle_22 : decode cX8_isSingle 22 = .ok (.goto 4, 3) := zdec_at bX8_isSingle_0 13 rfl
theorem dX8_isSingle_25 : decode cX8_isSingle 25 = .ok (.iconst 0, 1) := zdec_at bX8_isSingle_0 14 rfl
theorem dX8_isSingle_26 : decode cX8_isSingle 26 = .ok (.ireturn, 1) := zdec_at bX8_isSingle_0 15 rfl
theorem sX8_isSingle_0 {E : zE} {d : Nat} {Q : zO → zM → Prop} (M : zM) (l0 : Int32) (k : if l0 < (23 : Int32) then (Q (.inl (some (vi (1 : Int32)))) M) else (if l0 < (29 : Int32) then (Q (.inl (some (vi (0 : Int32)))) M) else (if ((l0 - (29 : Int32)) - (l0 - (29 : Int32)) / (2 : Int32) * (2 : Int32)) = 0 then (Q (.inl (some (vi (1 : Int32)))) M) else (Q (.inl (some (vi (0 : Int32)))) M)))) : Zm E YX8_isSingle d M [(0, vi l0)] 0 [] Q := by
  refine Zm.l (fun _ _ k_ => z_iload_n dX8_isSingle_0 rfl rfl k_) ?_
  refine Zm.l (fun _ _ k_ => z_bipush (v := 23) dX8_isSingle_1 rfl k_) ?_
  refine Zm.br (fun _ _ k1_ k2_ => z_icmp_lt (tgt := 21) dX8_isSingle_3 rfl k1_ k2_) (fun h_ => ?_) (fun h_ => ?_)
  · have k := zit h_ k
    refine Zm.l (fun _ _ k_ => z_iconst (v := 1) dX8_isSingle_21 rfl k_) ?_
    refine Zm.l (fun _ _ k_ => z_goto (tgt := 26) dX8_isSingle_22 rfl k_) ?_
    exact zm_iret dX8_isSingle_26 rfl (by decide) k
  · have k := zif h_ k
    refine Zm.l (fun _ _ k_ => z_iload_n dX8_isSingle_6 rfl rfl k_) ?_
    refine Zm.l (fun _ _ k_ => z_bipush (v := 29) dX8_isSingle_7 rfl k_) ?_
    refine Zm.br (fun _ _ k1_ k2_ => z_icmp_lt (tgt := 25) dX8_isSingle_9 rfl k1_ k2_) (fun h_ => ?_) (fun h_ => ?_)
    · have k := zit h_ k
      refine Zm.l (fun _ _ k_ => z_iconst (v := 0) dX8_isSingle_25 rfl k_) ?_
      exact zm_iret dX8_isSingle_26 rfl (by decide) k
    · have k := zif h_ k
      refine Zm.l (fun _ _ k_ => z_iload_n dX8_isSingle_12 rfl rfl k_) ?_
      refine Zm.l (fun _ _ k_ => z_bipush (v := 29) dX8_isSingle_13 rfl k_) ?_
      refine Zm.l (fun _ _ k_ => z_isub dX8_isSingle_15 k_) ?_
      refine Zm.l (fun _ _ k_ => z_iconst (v := 2) dX8_isSingle_16 rfl k_) ?_
      refine Zm.l (fun _ _ k_ => z_irem dX8_isSingle_17 (by decide) k_) ?_
      refine Zm.brn (fun _ _ k1_ k2_ => z_if_ne (tgt := 25) dX8_isSingle_18 rfl k1_ k2_) (fun h_ => ?_) (fun h_ => ?_)
      · have k := zif h_ k
        refine Zm.l (fun _ _ k_ => z_iconst (v := 0) dX8_isSingle_25 rfl k_) ?_
        exact zm_iret dX8_isSingle_26 rfl (by decide) k
      · have k := zit h_ k
        refine Zm.l (fun _ _ k_ => z_iconst (v := 1) dX8_isSingle_21 rfl k_) ?_
        refine Zm.l (fun _ _ k_ => z_goto (tgt := 26) dX8_isSingle_22 rfl k_) ?_
        exact zm_iret dX8_isSingle_26 rfl (by decide) k
/-! ScriptTypesModel.manyKeys()I -/
theorem bX8_manyKeys_0 : zdec cX8_manyKeys 0 [(0, .aload_n 0, 1), (1, .getfield 1118, 3), (4, .invokestatic 1129, 3), (7, .aload_n 0, 1), (8, .getfield 1122, 3), (11, .invokestatic 1129, 3), (14, .iadd, 1), (15, .ireturn, 1)] = true := by decide +kernel
theorem dX8_manyKeys_0 : decode cX8_manyKeys 0 = .ok (.aload_n 0, 1) := zdec_at bX8_manyKeys_0 0 rfl
theorem dX8_manyKeys_1 : decode cX8_manyKeys 1 = .ok (.getfield 1118, 3) := zdec_at bX8_manyKeys_0 1 rfl
theorem dX8_manyKeys_4 : decode cX8_manyKeys 4 = .ok (.invokestatic 1129, 3) := zdec_at bX8_manyKeys_0 2 rfl
theorem dX8_manyKeys_7 : decode cX8_manyKeys 7 = .ok (.aload_n 0, 1) := zdec_at bX8_manyKeys_0 3 rfl
theorem dX8_manyKeys_8 : decode cX8_manyKeys 8 = .ok (.getfield 1122, 3) := zdec_at bX8_manyKeys_0 4 rfl
theorem dX8_manyKeys_11 : decode cX8_manyKeys 11 = .ok (.invokestatic 1129, 3) := zdec_at bX8_manyKeys_0 5 rfl
theorem dX8_manyKeys_14 : decode cX8_manyKeys 14 = .ok (.iadd, 1) := zdec_at bX8_manyKeys_0 6 rfl
theorem dX8_manyKeys_15 : decode cX8_manyKeys 15 = .ok (.ireturn, 1) := zdec_at bX8_manyKeys_0 7 rfl
theorem sX8_manyKeys_0 {E : zE} {d : Nat} {Q : zO → zM → Prop} (M : zM)  (k : Zm E YJ17_bitCount d M (zargs 0 [vl (gl M 97 143)]) 0 [] (zma E YX8_manyKeys (d + 1) [(0, vr (some (97, 1, 0)))] 4 3 [] Q)) : Zm E YX8_manyKeys (d + 1) M [(0, vr (some (97, 1, 0)))] 0 [] Q := by
  refine Zm.l (fun _ _ k_ => z_aload_n dX8_manyKeys_0 rfl rfl k_) ?_
  refine zm_getl dX8_manyKeys_1 fsX8_1118_1 (by decide) (by decide) ?_
  exact zm_callS (as := [vl (gl M 97 143)]) (st := []) dX8_manyKeys_4 ssX8_1129 (Nat.le_refl _) (Nat.le_of_ble_eq_true rfl) (Nat.le_of_ble_eq_true rfl) rfl k
theorem sX8_manyKeys_7 {E : zE} {d : Nat} {Q : zO → zM → Prop} (M : zM) (s0 : Int32) (k : Zm E YJ17_bitCount d M (zargs 0 [vl (gl M 97 144)]) 0 [] (zma E YX8_manyKeys (d + 1) [] 11 3 [vi s0] Q)) : Zm E YX8_manyKeys (d + 1) M [(0, vr (some (97, 1, 0)))] 7 [vi s0] Q := by
  refine Zm.l (fun _ _ k_ => z_aload_n dX8_manyKeys_7 rfl rfl k_) ?_
  refine zm_getl dX8_manyKeys_8 fsX8_1122_1 (by decide) (by decide) ?_
  refine Zm.pick [] rfl ?_
  exact zm_callS (as := [vl (gl M 97 144)]) (st := [vi s0]) dX8_manyKeys_11 ssX8_1129 (Nat.le_refl _) (Nat.le_of_ble_eq_true rfl) (Nat.le_of_ble_eq_true rfl) rfl k
theorem sX8_manyKeys_14 {E : zE} {d : Nat} {Q : zO → zM → Prop} (M : zM) (s0 : Int32) (s1 : Int32) (k : Q (.inl (some (vi (s1 + s0)))) M) : Zm E YX8_manyKeys (d + 1) M [] 14 [vi s0, vi s1] Q := by
  refine Zm.l (fun _ _ k_ => z_iadd dX8_manyKeys_14 k_) ?_
  exact zm_iret dX8_manyKeys_15 rfl rfl k
/-! ScriptTypesModel.hasKey(I)Z -/
theorem bX8_hasKey_0 : zdec cX8_hasKey 0 [(0, .aload_n 0, 1), (1, .getfield 1118, 3), (4, .aload_n 0, 1), (5, .getfield 1122, 3), (8, .iload_n 1, 1), (9, .invokestatic 1125, 3), (12, .ireturn, 1)] = true := by decide +kernel
theorem dX8_hasKey_0 : decode cX8_hasKey 0 = .ok (.aload_n 0, 1) := zdec_at bX8_hasKey_0 0 rfl
theorem dX8_hasKey_1 : decode cX8_hasKey 1 = .ok (.getfield 1118, 3) := zdec_at bX8_hasKey_0 1 rfl
theorem dX8_hasKey_4 : decode cX8_hasKey 4 = .ok (.aload_n 0, 1) := zdec_at bX8_hasKey_0 2 rfl
theorem dX8_hasKey_5 : decode cX8_hasKey 5 = .ok (.getfield 1122, 3) := zdec_at bX8_hasKey_0 3 rfl
theorem dX8_hasKey_8 : decode cX8_hasKey 8 = .ok (.iload_n 1, 1) := zdec_at bX8_hasKey_0 4 rfl
theorem dX8_hasKey_9 : decode cX8_hasKey 9 = .ok (.invokestatic 1125, 3) := zdec_at bX8_hasKey_0 5 rfl
theorem dX8_hasKey_12 : decode cX8_hasKey 12 = .ok (.ireturn, 1) := zdec_at bX8_hasKey_0 6 rfl
theorem sX8_hasKey_0 {E : zE} {d : Nat} {Q : zO → zM → Prop} (M : zM) (l1 : Int32) (k : Zm E YX8_isIn d M (zargs 0 [vl (gl M 97 143), vl (gl M 97 144), vi l1]) 0 [] (zma E YX8_hasKey (d + 1) [] 9 3 [] Q)) : Zm E YX8_hasKey (d + 1) M [(0, vr (some (97, 1, 0))), (1, vi l1)] 0 [] Q := by
  refine Zm.l (fun _ _ k_ => z_aload_n dX8_hasKey_0 rfl rfl k_) ?_
  refine zm_getl dX8_hasKey_1 fsX8_1118_1 (by decide) (by decide) ?_
  refine Zm.l (fun _ _ k_ => z_aload_n dX8_hasKey_4 rfl rfl k_) ?_
  refine zm_getl dX8_hasKey_5 fsX8_1122_1 (by decide) (by decide) ?_
  refine Zm.l (fun _ _ k_ => z_iload_n dX8_hasKey_8 rfl rfl k_) ?_
  refine Zm.pick [] rfl ?_
  exact zm_callS (as := [vl (gl M 97 143), vl (gl M 97 144), vi l1]) (st := []) dX8_hasKey_9 ssX8_1125 (Nat.le_refl _) (Nat.le_of_ble_eq_true rfl) (Nat.le_of_ble_eq_true rfl) rfl k
theorem sX8_hasKey_12 {E : zE} {d : Nat} {Q : zO → zM → Prop} (M : zM) (s0 : Int32) (k : (narrow .boolean (.int s0) = .int s0) ∧ Q (.inl (some (vi s0))) M) : Zm E YX8_hasKey (d + 1) M [] 12 [vi s0] Q := by
  exact zm_iret dX8_hasKey_12 rfl k.1 k.2
/-! ScriptTypesModel.isArrayLabel(I)Z -/
theorem bX8_isArrayLabel_0 : zdec cX8_isArrayLabel 0 [(0, .iload_n 1, 1), (1, .bipush 29, 2), (3, .isub, 1), (4, .bipush 6, 2), (6, .aload_n 0, 1), (7, .getfield 527, 3), (10, .iconst 1, 1), (11, .isub, 1), (12, .imul, 1), (13, .isub, 1), (14, .iconst 2, 1), (15, .idiv, 1), (16, .istore_n 2, 1), (17, .iload_n 1, 1), (18, .bipush 24, 2), (20, .if_icmp .eq 28, 3)] = true := by decide +kernel
theorem dX8_isArrayLabel_0 : decode cX8_isArrayLabel 0 = .ok (.iload_n 1, 1) := zdec_at bX8_isArrayLabel_0 0 rfl
theorem dX8_isArrayLabel_1 : decode cX8_isArrayLabel 1 = .ok (.bipush 29, 2) := zdec_at bX8_isArrayLabel_0 1 rfl
theorem dX8_isArrayLabel_3 : decode cX8_isArrayLabel 3 = .ok (.isub, 1) := zdec_at bX8_isArrayLabel_0 2 rfl
theorem dX8_isArrayLabel_4 : decode cX8_isArrayLabel 4 = .ok (.bipush 6, 2) := zdec_at bX8_isArrayLabel_0 3 rfl
theorem dX8_isArrayLabel_6 : decode cX8_isArrayLabel 6 = .ok (.aload_n 0, 1) := zdec_at bX8_isArrayLabel_0 4 rfl
theorem dX8_isArrayLabel_7 : decode cX8_isArrayLabel 7 = .ok (.getfield 527, 3) := zdec_at bX8_isArrayLabel_0 5 rfl
theorem dX8_isArrayLabel_10 : decode cX8_isArrayLabel 10 = .ok (.iconst 1, 1) := zdec_at bX8_isArrayLabel_0 6 rfl
theorem dX8_isArrayLabel_11 : decode cX8_isArrayLabel 11 = .ok (.isub, 1) := zdec_at bX8_isArrayLabel_0 7 rfl
theorem dX8_isArrayLabel_12 : decode cX8_isArrayLabel 12 = .ok (.imul, 1) := zdec_at bX8_isArrayLabel_0 8 rfl
theorem dX8_isArrayLabel_13 : decode cX8_isArrayLabel 13 = .ok (.isub, 1) := zdec_at bX8_isArrayLabel_0 9 rfl
theorem dX8_isArrayLabel_14 : decode cX8_isArrayLabel 14 = .ok (.iconst 2, 1) := zdec_at bX8_isArrayLabel_0 10 rfl
theorem dX8_isArrayLabel_15 : decode cX8_isArrayLabel 15 = .ok (.idiv, 1) := zdec_at bX8_isArrayLabel_0 11 rfl
theorem dX8_isArrayLabel_16 : decode cX8_isArrayLabel 16 = .ok (.istore_n 2, 1) := zdec_at bX8_isArrayLabel_0 12 rfl
theorem dX8_isArrayLabel_17 : decode cX8_isArrayLabel 17 = .ok (.iload_n 1, 1) := zdec_at bX8_isArrayLabel_0 13 rfl
theorem dX8_isArrayLabel_18 : decode cX8_isArrayLabel 18 = .ok (.bipush 24, 2) := zdec_at bX8_isArrayLabel_0 14 rfl
theorem dX8_isArrayLabel_20 : decode cX8_isArrayLabel 20 = .ok (.if_icmp .eq 28, 3) := zdec_at bX8_isArrayLabel_0 15 rfl
theorem bX8_isArrayLabel_23 : zdec cX8_isArrayLabel 23 [(23, .iload_n 1, 1), (24, .bipush 29, 2), (26, .bipush 6, 2), (28, .aload_n 0, 1), (29, .getfield 527, 3), (32, .iconst 1, 1), (33, .isub, 1), (34, .imul, 1), (35, .iadd, 1), (36, .if_icmp .lt 16, 3), (39, .aload_n 0, 1), (40, .getfield 283, 3), (43, .iload_n 2, 1), (44, .baload, 1), (45, .ifCond .eq 7, 3), (48, .iconst 1, 1)] = true := by decide +kernel
theorem dX8_isArrayLabel_23 : decode cX8_isArrayLabel 23 = .ok (.iload_n 1, 1) := zdec_at bX8_isArrayLabel_23 0 rfl
theorem dX8_isArrayLabel_24 : decode cX8_isArrayLabel 24 = .ok (.bipush 29, 2) := zdec_at bX8_isArrayLabel_23 1 rfl
theorem dX8_isArrayLabel_26 : decode cX8_isArrayLabel 26 = .ok (.bipush 6, 2) := zdec_at bX8_isArrayLabel_23 2 rfl
theorem dX8_isArrayLabel_28 : decode cX8_isArrayLabel 28 = .ok (.aload_n 0, 1) := zdec_at bX8_isArrayLabel_23 3 rfl
theorem dX8_isArrayLabel_29 : decode cX8_isArrayLabel 29 = .ok (.getfield 527, 3) := zdec_at bX8_isArrayLabel_23 4 rfl
theorem dX8_isArrayLabel_32 : decode cX8_isArrayLabel 32 = .ok (.iconst 1, 1) := zdec_at bX8_isArrayLabel_23 5 rfl
theorem dX8_isArrayLabel_33 : decode cX8_isArrayLabel 33 = .ok (.isub, 1) := zdec_at bX8_isArrayLabel_23 6 rfl
theorem dX8_isArrayLabel_34 : decode cX8_isArrayLabel 34 = .ok (.imul, 1) := zdec_at bX8_isArrayLabel_23 7 rfl
theorem dX8_isArrayLabel_35 : decode cX8_isArrayLabel 35 = .ok (.iadd, 1) := zdec_at bX8_isArrayLabel_23 8 rfl
theorem dX8_isArrayLabel_36 : decode cX8_isArrayLabel 36 = .ok (.if_icmp .lt 16, 3) := zdec_at bX8_isArrayLabel_23 9 rfl
theorem dX8_isArrayLabel_39 : decode cX8_isArrayLabel 39 = .ok (.aload_n 0, 1) := zdec_at bX8_isArrayLabel_23 10 rfl
theorem dX8_isArrayLabel_40 : decode cX8_isArrayLabel 40 = .ok (.getfield 283, 3) := zdec_at bX8_isArrayLabel_23 11 rfl
theorem dX8_isArrayLabel_43 : decode cX8_isArrayLabel 43 = .ok (.iload_n 2, 1) := zdec_at bX8_isArrayLabel_23 12 rfl
theorem dX8_isArrayLabel_44 : decode cX8_isArrayLabel 44 = .ok (.baload, 1) := zdec_at bX8_isArrayLabel_23 13 rfl
theorem dX8_isArrayLabel_45 : decode cX8_isArrayLabel 45 = .ok (.ifCond .eq 7, 3) := zdec_at bX8_isArrayLabel_23 14 rfl
theorem dX8_isArrayLabel_48 : decode cX8_isArrayLabel 48 = .ok (.iconst 1, 1) := zdec_at bX8_isArrayLabel_23 15 rfl
theorem bX8_isArrayLabel_49 : zdec cX8_isArrayLabel 49 [(49, .goto 4, 3), (52, .iconst 0, 1), (53, .ireturn, 1)] = true := by decide +kernel
theorem dX8_isArrayLabel_49 : decode cX8_isArrayLabel 49 = .ok (.goto 4, 3) := zdec_at bX8_isArrayLabel_49 0 rfl
theorem dX8_isArrayLabel_52 : decode cX8_isArrayLabel 52 = .ok (.iconst 0, 1) := zdec_at bX8_isArrayLabel_49 1 rfl
theorem dX8_isArrayLabel_53 : decode cX8_isArrayLabel 53 = .ok (.ireturn, 1) := zdec_at bX8_isArrayLabel_49 2 rfl
theorem sX8_isArrayLabel_0 {E : zE} {d : Nat} {Q : zO → zM → Prop} (M : zM) (l1 : Int32) (k : if l1 = (24 : Int32) then (Q (.inl (some (vi (1 : Int32)))) M) else (if l1 < ((29 : Int32) + ((6 : Int32) * ((gi M 97 32) - (1 : Int32)))) then (Q (.inl (some (vi (0 : Int32)))) M) else (vp_in (((l1 - (29 : Int32)) - ((6 : Int32) * ((gi M 97 32) - (1 : Int32)))) / (2 : Int32)) 20 ∧ (if (gi M 187 ((((l1 - (29 : Int32)) - ((6 : Int32) * ((gi M 97 32) - (1 : Int32)))) / (2 : Int32))).toNatClampNeg) = 0 then (Q (.inl (some (vi (0 : Int32)))) M) else (Q (.inl (some (vi (1 : Int32)))) M))))) : Zm E YX8_isArrayLabel d M [(0, vr (some (97, 1, 0))), (1, vi l1)] 0 [] Q := by
  refine Zm.l (fun _ _ k_ => z_iload_n dX8_isArrayLabel_0 rfl rfl k_) ?_
  refine Zm.l (fun _ _ k_ => z_bipush (v := 29) dX8_isArrayLabel_1 rfl k_) ?_
  refine Zm.l (fun _ _ k_ => z_isub dX8_isArrayLabel_3 k_) ?_
  refine Zm.l (fun _ _ k_ => z_bipush (v := 6) dX8_isArrayLabel_4 rfl k_) ?_
  refine Zm.l (fun _ _ k_ => z_aload_n dX8_isArrayLabel_6 rfl rfl k_) ?_
  refine zm_geti dX8_isArrayLabel_7 fsX8_527_1 (by decide) (by decide) ?_
  refine Zm.l (fun _ _ k_ => z_iconst (v := 1) dX8_isArrayLabel_10 rfl k_) ?_
  refine Zm.l (fun _ _ k_ => z_isub dX8_isArrayLabel_11 k_) ?_
  refine Zm.l (fun _ _ k_ => z_imul dX8_isArrayLabel_12 k_) ?_
  refine Zm.l (fun _ _ k_ => z_isub dX8_isArrayLabel_13 k_) ?_
  refine Zm.l (fun _ _ k_ => z_iconst (v := 2) dX8_isArrayLabel_14 rfl k_) ?_
  refine Zm.l (fun _ _ k_ => z_idiv dX8_isArrayLabel_15 (by decide) k_) ?_
  refine Zm.l (fun _ _ k_ => z_ist_n dX8_isArrayLabel_16 rfl (by decide) (lv' := [(0, vr (some (97, 1, 0))), (1, vi l1), (2, vi (((l1 - (29 : Int32)) - ((6 : Int32) * ((gi M 97 32) - (1 : Int32)))) / (2 : Int32)))]) rfl k_) ?_
  refine Zm.l (fun _ _ k_ => z_iload_n dX8_isArrayLabel_17 rfl rfl k_) ?_
  refine Zm.l (fun _ _ k_ => z_bipush (v := 24) dX8_isArrayLabel_18 rfl k_) ?_
  refine Zm.br (fun _ _ k1_ k2_ => z_icmp_eq (tgt := 48) dX8_isArrayLabel_20 rfl k1_ k2_) (fun h_ => ?_) (fun h_ => ?_)
  · have k := zit h_ k
    refine Zm.l (fun _ _ k_ => z_iconst (v := 1) dX8_isArrayLabel_48 rfl k_) ?_
    refine Zm.l (fun _ _ k_ => z_goto (tgt := 53) dX8_isArrayLabel_49 rfl k_) ?_
    exact zm_iret dX8_isArrayLabel_53 rfl (by decide) k
  · have k := zif h_ k
    refine Zm.l (fun _ _ k_ => z_iload_n dX8_isArrayLabel_23 rfl rfl k_) ?_
    refine Zm.l (fun _ _ k_ => z_bipush (v := 29) dX8_isArrayLabel_24 rfl k_) ?_
    refine Zm.l (fun _ _ k_ => z_bipush (v := 6) dX8_isArrayLabel_26 rfl k_) ?_
    refine Zm.l (fun _ _ k_ => z_aload_n dX8_isArrayLabel_28 rfl rfl k_) ?_
    refine zm_geti dX8_isArrayLabel_29 fsX8_527_1 (by decide) (by decide) ?_
    refine Zm.l (fun _ _ k_ => z_iconst (v := 1) dX8_isArrayLabel_32 rfl k_) ?_
    refine Zm.l (fun _ _ k_ => z_isub dX8_isArrayLabel_33 k_) ?_
    refine Zm.l (fun _ _ k_ => z_imul dX8_isArrayLabel_34 k_) ?_
    refine Zm.l (fun _ _ k_ => z_iadd dX8_isArrayLabel_35 k_) ?_
    refine Zm.br (fun _ _ k1_ k2_ => z_icmp_lt (tgt := 52) dX8_isArrayLabel_36 rfl k1_ k2_) (fun h_ => ?_) (fun h_ => ?_)
    · have k := zit h_ k
      refine Zm.l (fun _ _ k_ => z_iconst (v := 0) dX8_isArrayLabel_52 rfl k_) ?_
      exact zm_iret dX8_isArrayLabel_53 rfl (by decide) k
    · have k := zif h_ k
      refine Zm.l (fun _ _ k_ => z_aload_n dX8_isArrayLabel_39 rfl rfl k_) ?_
      refine zm_getr 84 dX8_isArrayLabel_40 fsX8_283_1 rfl ?_
      refine Zm.l (fun _ _ k_ => z_iload_n dX8_isArrayLabel_43 rfl rfl k_) ?_
      obtain ⟨b_, k⟩ := k
      refine zm_zald dX8_isArrayLabel_44 b_ (by decide) (by decide) ?_
      refine Zm.br (fun _ _ k1_ k2_ => z_if_eq (tgt := 52) dX8_isArrayLabel_45 rfl k1_ k2_) (fun h_ => ?_) (fun h_ => ?_)
      · have k := zit h_ k
        refine Zm.l (fun _ _ k_ => z_iconst (v := 0) dX8_isArrayLabel_52 rfl k_) ?_
        exact zm_iret dX8_isArrayLabel_53 rfl (by decide) k
      · have k := zif h_ k
        refine Zm.l (fun _ _ k_ => z_iconst (v := 1) dX8_isArrayLabel_48 rfl k_) ?_
        refine Zm.l (fun _ _ k_ => z_goto (tgt := 53) dX8_isArrayLabel_49 rfl k_) ?_
        exact zm_iret dX8_isArrayLabel_53 rfl (by decide) k
/-! ScriptTypesModel.waysOfGlobal(IZ)V -/
theorem bX8_waysOfGlobal_0 : zdec cX8_waysOfGlobal 0 [(0, .aload_n 0, 1), (1, .sipush 639, 3), (4, .iconst 0, 1), (5, .iload_n 1, 1), (6, .invokevirtual 1163, 3), (9, .istore_n 3, 1), (10, .aload_n 0, 1), (11, .iload_n 3, 1), (12, .invokevirtual 1047, 3), (15, .sipush 512, 3), (18, .iand, 1), (19, .ifCond .eq 7, 3), (22, .iconst 1, 1), (23, .goto 4, 3), (26, .iconst 0, 1), (27, .istore 4, 2)] = true := by decide +kernel
theorem dX8_waysOfGlobal_0 : decode cX8_waysOfGlobal 0 = .ok (.aload_n 0, 1) := zdec_at bX8_waysOfGlobal_0 0 rfl
theorem dX8_waysOfGlobal_1 : decode cX8_waysOfGlobal 1 = .ok (.sipush 639, 3) := zdec_at bX8_waysOfGlobal_0 1 rfl
theorem dX8_waysOfGlobal_4 : decode cX8_waysOfGlobal 4 = .ok (.iconst 0, 1) := zdec_at bX8_waysOfGlobal_0 2 rfl
theorem dX8_waysOfGlobal_5 : decode cX8_waysOfGlobal 5 = .ok (.iload_n 1, 1) := zdec_at bX8_waysOfGlobal_0 3 rfl
theorem dX8_waysOfGlobal_6 : decode cX8_waysOfGlobal 6 = .ok (.invokevirtual 1163, 3) := zdec_at bX8_waysOfGlobal_0 4 rfl
theorem dX8_waysOfGlobal_9 : decode cX8_waysOfGlobal 9 = .ok (.istore_n 3, 1) := zdec_at bX8_waysOfGlobal_0 5 rfl
theorem dX8_waysOfGlobal_10 : decode cX8_waysOfGlobal 10 = .ok (.aload_n 0, 1) := zdec_at bX8_waysOfGlobal_0 6 rfl
theorem dX8_waysOfGlobal_11 : decode cX8_waysOfGlobal 11 = .ok (.iload_n 3, 1) := zdec_at bX8_waysOfGlobal_0 7 rfl
theorem dX8_waysOfGlobal_12 : decode cX8_waysOfGlobal 12 = .ok (.invokevirtual 1047, 3) := zdec_at bX8_waysOfGlobal_0 8 rfl
theorem dX8_waysOfGlobal_15 : decode cX8_waysOfGlobal 15 = .ok (.sipush 512, 3) := zdec_at bX8_waysOfGlobal_0 9 rfl
theorem dX8_waysOfGlobal_18 : decode cX8_waysOfGlobal 18 = .ok (.iand, 1) := zdec_at bX8_waysOfGlobal_0 10 rfl
theorem dX8_waysOfGlobal_19 : decode cX8_waysOfGlobal 19 = .ok (.ifCond .eq 7, 3) := zdec_at bX8_waysOfGlobal_0 11 rfl
theorem dX8_waysOfGlobal_22 : decode cX8_waysOfGlobal 22 = .ok (.iconst 1, 1) := zdec_at bX8_waysOfGlobal_0 12 rfl
theorem dX8_waysOfGlobal_23 : decode cX8_waysOfGlobal 23 = .ok (.goto 4, 3) := zdec_at bX8_waysOfGlobal_0 13 rfl
theorem dX8_waysOfGlobal_26 : decode cX8_waysOfGlobal 26 = .ok (.iconst 0, 1) := zdec_at bX8_waysOfGlobal_0 14 rfl
theorem dX8_waysOfGlobal_27 : decode cX8_waysOfGlobal 27 = .ok (.istore 4, 2) := zdec_at bX8_waysOfGlobal_0 15 rfl
theorem bX8_waysOfGlobal_29 : zdec cX8_waysOfGlobal 29 [(29, .ldc_w 1218, 3), (32, .istore 5, 2), (34, .aload_n 0, 1), (35, .iload 5, 2), (37, .invokevirtual 1066, 3), (40, .aload_n 0, 1), (41, .iload_n 3, 1), (42, .iload 5, 2), (44, .invokevirtual 1228, 3), (47, .iload 5, 2), (49, .iconst 1, 1), (50, .iadd, 1), (51, .istore 6, 2), (53, .iload_n 2, 1), (54, .ifCond .eq 14, 3), (57, .aload_n 0, 1)] = true := by decide +kernel
theorem dX8_waysOfGlobal_29 : decode cX8_waysOfGlobal 29 = .ok (.ldc_w 1218, 3) := zdec_at bX8_waysOfGlobal_29 0 rfl
theorem dX8_waysOfGlobal_32 : decode cX8_waysOfGlobal 32 = .ok (.istore 5, 2) := zdec_at bX8_waysOfGlobal_29 1 rfl
theorem dX8_waysOfGlobal_34 : decode cX8_waysOfGlobal 34 = .ok (.aload_n 0, 1) := zdec_at bX8_waysOfGlobal_29 2 rfl
theorem dX8_waysOfGlobal_35 : decode cX8_waysOfGlobal 35 = .ok (.iload 5, 2) := zdec_at bX8_waysOfGlobal_29 3 rfl
theorem dX8_waysOfGlobal_37 : decode cX8_waysOfGlobal 37 = .ok (.invokevirtual 1066, 3) := zdec_at bX8_waysOfGlobal_29 4 rfl
theorem dX8_waysOfGlobal_40 : decode cX8_waysOfGlobal 40 = .ok (.aload_n 0, 1) := zdec_at bX8_waysOfGlobal_29 5 rfl
theorem dX8_waysOfGlobal_41 : decode cX8_waysOfGlobal 41 = .ok (.iload_n 3, 1) := zdec_at bX8_waysOfGlobal_29 6 rfl
theorem dX8_waysOfGlobal_42 : decode cX8_waysOfGlobal 42 = .ok (.iload 5, 2) := zdec_at bX8_waysOfGlobal_29 7 rfl
theorem dX8_waysOfGlobal_44 : decode cX8_waysOfGlobal 44 = .ok (.invokevirtual 1228, 3) := zdec_at bX8_waysOfGlobal_29 8 rfl
theorem dX8_waysOfGlobal_47 : decode cX8_waysOfGlobal 47 = .ok (.iload 5, 2) := zdec_at bX8_waysOfGlobal_29 9 rfl
theorem dX8_waysOfGlobal_49 : decode cX8_waysOfGlobal 49 = .ok (.iconst 1, 1) := zdec_at bX8_waysOfGlobal_29 10 rfl
theorem dX8_waysOfGlobal_50 : decode cX8_waysOfGlobal 50 = .ok (.iadd, 1) := zdec_at bX8_waysOfGlobal_29 11 rfl
theorem dX8_waysOfGlobal_51 : decode cX8_waysOfGlobal 51 = .ok (.istore 6, 2) := zdec_at bX8_waysOfGlobal_29 12 rfl
theorem dX8_waysOfGlobal_53 : decode cX8_waysOfGlobal 53 = .ok (.iload_n 2, 1) := zdec_at bX8_waysOfGlobal_29 13 rfl
theorem dX8_waysOfGlobal_54 : decode cX8_waysOfGlobal 54 = .ok (.ifCond .eq 14, 3) := zdec_at bX8_waysOfGlobal_29 14 rfl
theorem dX8_waysOfGlobal_57 : decode cX8_waysOfGlobal 57 = .ok (.aload_n 0, 1) := zdec_at bX8_waysOfGlobal_29 15 rfl
theorem bX8_waysOfGlobal_58 : zdec cX8_waysOfGlobal 58 [(58, .iload 5, 2), (60, .iload 6, 2), (62, .invokevirtual 1092, 3), (65, .goto 30, 3), (68, .aload_n 0, 1), (69, .iload 6, 2), (71, .invokevirtual 1066, 3), (74, .aload_n 0, 1), (75, .iload 5, 2), (77, .iload 6, 2), (79, .invokevirtual 1289, 3), (82, .iload 4, 2), (84, .ifCond .eq 11, 3), (87, .aload_n 0, 1), (88, .iload 6, 2), (90, .bipush 19, 2)] = true := by decide +kernel
theorem dX8_waysOfGlobal_58 : decode cX8_waysOfGlobal 58 = .ok (.iload 5, 2) := zdec_at bX8_waysOfGlobal_58 0 rfl
theorem dX8_waysOfGlobal_60 : decode cX8_waysOfGlobal 60 = .ok (.iload 6, 2) := zdec_at bX8_waysOfGlobal_58 1 rfl
theorem dX8_waysOfGlobal_62 : decode cX8_waysOfGlobal 62 = .ok (.invokevirtual 1092, 3) := zdec_at bX8_waysOfGlobal_58 2 rfl
theorem dX8_waysOfGlobal_65 : decode cX8_waysOfGlobal 65 = .ok (.goto 30, 3) := zdec_at bX8_waysOfGlobal_58 3 rfl
theorem dX8_waysOfGlobal_68 : decode cX8_waysOfGlobal 68 = .ok (.aload_n 0, 1) := zdec_at bX8_waysOfGlobal_58 4 rfl
theorem dX8_waysOfGlobal_69 : decode cX8_waysOfGlobal 69 = .ok (.iload 6, 2) := zdec_at bX8_waysOfGlobal_58 5 rfl
theorem dX8_waysOfGlobal_71 : decode cX8_waysOfGlobal 71 = .ok (.invokevirtual 1066, 3) := zdec_at bX8_waysOfGlobal_58 6 rfl
theorem dX8_waysOfGlobal_74 : decode cX8_waysOfGlobal 74 = .ok (.aload_n 0, 1) := zdec_at bX8_waysOfGlobal_58 7 rfl
theorem dX8_waysOfGlobal_75 : decode cX8_waysOfGlobal 75 = .ok (.iload 5, 2) := zdec_at bX8_waysOfGlobal_58 8 rfl
theorem dX8_waysOfGlobal_77 : decode cX8_waysOfGlobal 77 = .ok (.iload 6, 2) := zdec_at bX8_waysOfGlobal_58 9 rfl
theorem dX8_waysOfGlobal_79 : decode cX8_waysOfGlobal 79 = .ok (.invokevirtual 1289, 3) := zdec_at bX8_waysOfGlobal_58 10 rfl
theorem dX8_waysOfGlobal_82 : decode cX8_waysOfGlobal 82 = .ok (.iload 4, 2) := zdec_at bX8_waysOfGlobal_58 11 rfl
theorem dX8_waysOfGlobal_84 : decode cX8_waysOfGlobal 84 = .ok (.ifCond .eq 11, 3) := zdec_at bX8_waysOfGlobal_58 12 rfl
theorem dX8_waysOfGlobal_87 : decode cX8_waysOfGlobal 87 = .ok (.aload_n 0, 1) := zdec_at bX8_waysOfGlobal_58 13 rfl
theorem dX8_waysOfGlobal_88 : decode cX8_waysOfGlobal 88 = .ok (.iload 6, 2) := zdec_at bX8_waysOfGlobal_58 14 rfl
theorem dX8_waysOfGlobal_90 : decode cX8_waysOfGlobal 90 = .ok (.bipush 19, 2) := zdec_at bX8_waysOfGlobal_58 15 rfl
theorem bX8_waysOfGlobal_92 : zdec cX8_waysOfGlobal 92 [(92, .invokevirtual 1078, 3), (95, .aload_n 0, 1), (96, .iconst 0, 1), (97, .iload 6, 2), (99, .invokevirtual 1258, 3), (102, .iload_n 2, 1), (103, .ifCond .eq 18, 3), (106, .iload 4, 2), (108, .ifCond .eq 13, 3), (111, .aload_n 0, 1), (112, .aload_n 0, 1), (113, .getfield 1188, 3), (116, .bipush 7, 2), (118, .invokevirtual 1292, 3), (121, .return_, 1)] = true := by decide +kernel
theorem dX8_waysOfGlobal_92 : decode cX8_waysOfGlobal 92 = .ok (.invokevirtual 1078, 3) := zdec_at bX8_waysOfGlobal_92 0 rfl
theorem dX8_waysOfGlobal_95 : decode cX8_waysOfGlobal 95 = .ok (.aload_n 0, 1) := zdec_at bX8_waysOfGlobal_92 1 rfl
theorem dX8_waysOfGlobal_96 : decode cX8_waysOfGlobal 96 = .ok (.iconst 0, 1) := zdec_at bX8_waysOfGlobal_92 2 rfl
theorem dX8_waysOfGlobal_97 : decode cX8_waysOfGlobal 97 = .ok (.iload 6, 2) := zdec_at bX8_waysOfGlobal_92 3 rfl
theorem dX8_waysOfGlobal_99 : decode cX8_waysOfGlobal 99 = .ok (.invokevirtual 1258, 3) := zdec_at bX8_waysOfGlobal_92 4 rfl
theorem dX8_waysOfGlobal_102 : decode cX8_waysOfGlobal 102 = .ok (.iload_n 2, 1) := zdec_at bX8_waysOfGlobal_92 5 rfl
theorem dX8_waysOfGlobal_103 : decode cX8_waysOfGlobal 103 = .ok (.ifCond .eq 18, 3) := zdec_at bX8_waysOfGlobal_92 6 rfl
theorem dX8_waysOfGlobal_106 : decode cX8_waysOfGlobal 106 = .ok (.iload 4, 2) := zdec_at bX8_waysOfGlobal_92 7 rfl
theorem dX8_waysOfGlobal_108 : decode cX8_waysOfGlobal 108 = .ok (.ifCond .eq 13, 3) := zdec_at bX8_waysOfGlobal_92 8 rfl
theorem dX8_waysOfGlobal_111 : decode cX8_waysOfGlobal 111 = .ok (.aload_n 0, 1) := zdec_at bX8_waysOfGlobal_92 9 rfl
theorem dX8_waysOfGlobal_112 : decode cX8_waysOfGlobal 112 = .ok (.aload_n 0, 1) := zdec_at bX8_waysOfGlobal_92 10 rfl
theorem dX8_waysOfGlobal_113 : decode cX8_waysOfGlobal 113 = .ok (.getfield 1188, 3) := zdec_at bX8_waysOfGlobal_92 11 rfl
theorem dX8_waysOfGlobal_116 : decode cX8_waysOfGlobal 116 = .ok (.bipush 7, 2) := zdec_at bX8_waysOfGlobal_92 12 rfl
theorem dX8_waysOfGlobal_118 : decode cX8_waysOfGlobal 118 = .ok (.invokevirtual 1292, 3) := zdec_at bX8_waysOfGlobal_92 13 rfl
theorem dX8_waysOfGlobal_121 : decode cX8_waysOfGlobal 121 = .ok (.return_, 1) := zdec_at bX8_waysOfGlobal_92 14 rfl
theorem sX8_waysOfGlobal_0 {E : zE} {d : Nat} {Q : zO → zM → Prop} (M : zM) (l1 : Int32) (l2 : Int32) (k : Zm E YX8_field d M (zargs 0 [vr (some (97, 1, 0)), vi (639 : Int32), vi (0 : Int32), vi l1]) 0 [] (zma E YX8_waysOfGlobal (d + 1) [(0, vr (some (97, 1, 0))), (2, vi l2)] 6 3 [] Q)) : Zm E YX8_waysOfGlobal (d + 1) M [(0, vr (some (97, 1, 0))), (1, vi l1), (2, vi l2)] 0 [] Q := by
  refine Zm.l (fun _ _ k_ => z_aload_n dX8_waysOfGlobal_0 rfl rfl k_) ?_
  refine Zm.l (fun _ _ k_ => z_sipush (v := 639) dX8_waysOfGlobal_1 rfl k_) ?_
  refine Zm.l (fun _ _ k_ => z_iconst (v := 0) dX8_waysOfGlobal_4 rfl k_) ?_
  refine Zm.l (fun _ _ k_ => z_iload_n dX8_waysOfGlobal_5 rfl rfl k_) ?_
  refine Zm.pick [0, 2] rfl ?_
  exact zm_callV (as := [vi (639 : Int32), vi (0 : Int32), vi l1]) (st := []) dX8_waysOfGlobal_6 vsX8_1163_1 (Nat.le_refl _) (Nat.le_of_ble_eq_true rfl) (Nat.le_of_ble_eq_true rfl) rfl k
theorem sX8_waysOfGlobal_9 {E : zE} {d : Nat} {Q : zO → zM → Prop} (M : zM) (l2 : Int32) (s0 : Int32) (k : Zm E YX8_has d M (zargs 0 [vr (some (97, 1, 0)), vi s0]) 0 [] (zma E YX8_waysOfGlobal (d + 1) [(0, vr (some (97, 1, 0))), (2, vi l2), (3, vi s0)] 12 3 [] Q)) : Zm E YX8_waysOfGlobal (d + 1) M [(0, vr (some (97, 1, 0))), (2, vi l2)] 9 [vi s0] Q := by
  refine Zm.l (fun _ _ k_ => z_ist_n dX8_waysOfGlobal_9 rfl (by decide) (lv' := [(0, vr (some (97, 1, 0))), (2, vi l2), (3, vi s0)]) rfl k_) ?_
  refine Zm.l (fun _ _ k_ => z_aload_n dX8_waysOfGlobal_10 rfl rfl k_) ?_
  refine Zm.l (fun _ _ k_ => z_iload_n dX8_waysOfGlobal_11 rfl rfl k_) ?_
  exact zm_callV (as := [vi s0]) (st := []) dX8_waysOfGlobal_12 vsX8_1047_1 (Nat.le_refl _) (Nat.le_of_ble_eq_true rfl) (Nat.le_of_ble_eq_true rfl) rfl k
theorem sX8_waysOfGlobal_15 {E : zE} {d : Nat} {Q : zO → zM → Prop} (M : zM) (l2 : Int32) (l3 : Int32) (s0 : Int32) (k : if (s0 &&& (512 : Int32)) = 0 then (Zm E YX8_empty d M (zargs 0 [vr (some (97, 1, 0)), vi (647740 : Int32)]) 0 [] (zma E YX8_waysOfGlobal (d + 1) [(0, vr (some (97, 1, 0))), (2, vi l2), (3, vi l3), (4, vi (0 : Int32)), (5, vi (647740 : Int32))] 37 3 [] Q)) else (Zm E YX8_empty d M (zargs 0 [vr (some (97, 1, 0)), vi (647740 : Int32)]) 0 [] (zma E YX8_waysOfGlobal (d + 1) [(0, vr (some (97, 1, 0))), (2, vi l2), (3, vi l3), (4, vi (1 : Int32)), (5, vi (647740 : Int32))] 37 3 [] Q))) : Zm E YX8_waysOfGlobal (d + 1) M [(0, vr (some (97, 1, 0))), (2, vi l2), (3, vi l3)] 15 [vi s0] Q := by
  refine Zm.l (fun _ _ k_ => z_sipush (v := 512) dX8_waysOfGlobal_15 rfl k_) ?_
  refine Zm.l (fun _ _ k_ => z_iand dX8_waysOfGlobal_18 k_) ?_
  refine Zm.br (fun _ _ k1_ k2_ => z_if_eq (tgt := 26) dX8_waysOfGlobal_19 rfl k1_ k2_) (fun h_ => ?_) (fun h_ => ?_)
  · have k := zit h_ k
    refine Zm.l (fun _ _ k_ => z_iconst (v := 0) dX8_waysOfGlobal_26 rfl k_) ?_
    refine Zm.l (fun _ _ k_ => z_ist dX8_waysOfGlobal_27 (by decide) (lv' := [(0, vr (some (97, 1, 0))), (2, vi l2), (3, vi l3), (4, vi (0 : Int32))]) rfl k_) ?_
    refine Zm.l (fun _ _ k_ => z_ldcw (v := 647740) dX8_waysOfGlobal_29 q4880 k_) ?_
    refine Zm.l (fun _ _ k_ => z_ist dX8_waysOfGlobal_32 (by decide) (lv' := [(0, vr (some (97, 1, 0))), (2, vi l2), (3, vi l3), (4, vi (0 : Int32)), (5, vi (647740 : Int32))]) rfl k_) ?_
    refine Zm.l (fun _ _ k_ => z_aload_n dX8_waysOfGlobal_34 rfl rfl k_) ?_
    refine Zm.l (fun _ _ k_ => z_iload dX8_waysOfGlobal_35 rfl k_) ?_
    exact zm_callV (as := [vi (647740 : Int32)]) (st := []) dX8_waysOfGlobal_37 vsX8_1066_1 (Nat.le_refl _) (Nat.le_of_ble_eq_true rfl) (Nat.le_of_ble_eq_true rfl) rfl k
  · have k := zif h_ k
    refine Zm.l (fun _ _ k_ => z_iconst (v := 1) dX8_waysOfGlobal_22 rfl k_) ?_
    refine Zm.l (fun _ _ k_ => z_goto (tgt := 27) dX8_waysOfGlobal_23 rfl k_) ?_
    refine Zm.l (fun _ _ k_ => z_ist dX8_waysOfGlobal_27 (by decide) (lv' := [(0, vr (some (97, 1, 0))), (2, vi l2), (3, vi l3), (4, vi (1 : Int32))]) rfl k_) ?_
    refine Zm.l (fun _ _ k_ => z_ldcw (v := 647740) dX8_waysOfGlobal_29 q4880 k_) ?_
    refine Zm.l (fun _ _ k_ => z_ist dX8_waysOfGlobal_32 (by decide) (lv' := [(0, vr (some (97, 1, 0))), (2, vi l2), (3, vi l3), (4, vi (1 : Int32)), (5, vi (647740 : Int32))]) rfl k_) ?_
    refine Zm.l (fun _ _ k_ => z_aload_n dX8_waysOfGlobal_34 rfl rfl k_) ?_
    refine Zm.l (fun _ _ k_ => z_iload dX8_waysOfGlobal_35 rfl k_) ?_
    exact zm_callV (as := [vi (647740 : Int32)]) (st := []) dX8_waysOfGlobal_37 vsX8_1066_1 (Nat.le_refl _) (Nat.le_of_ble_eq_true rfl) (Nat.le_of_ble_eq_true rfl) rfl k
theorem sX8_waysOfGlobal_40 {E : zE} {d : Nat} {Q : zO → zM → Prop} (M : zM) (l2 : Int32) (l3 : Int32) (l4 : Int32) (l5 : Int32) (k : Zm E YX8_joinPlain d M (zargs 0 [vr (some (97, 1, 0)), vi l3, vi l5]) 0 [] (zma E YX8_waysOfGlobal (d + 1) [(0, vr (some (97, 1, 0))), (2, vi l2), (4, vi l4), (5, vi l5)] 44 3 [] Q)) : Zm E YX8_waysOfGlobal (d + 1) M [(0, vr (some (97, 1, 0))), (2, vi l2), (3, vi l3), (4, vi l4), (5, vi l5)] 40 [] Q := by
  refine Zm.l (fun _ _ k_ => z_aload_n dX8_waysOfGlobal_40 rfl rfl k_) ?_
  refine Zm.l (fun _ _ k_ => z_iload_n dX8_waysOfGlobal_41 rfl rfl k_) ?_
  refine Zm.l (fun _ _ k_ => z_iload dX8_waysOfGlobal_42 rfl k_) ?_
  refine Zm.pick [0, 1, 3, 4] rfl ?_
  exact zm_callV (as := [vi l3, vi l5]) (st := []) dX8_waysOfGlobal_44 vsX8_1228_1 (Nat.le_refl _) (Nat.le_of_ble_eq_true rfl) (Nat.le_of_ble_eq_true rfl) rfl k
theorem sX8_waysOfGlobal_47 {E : zE} {d : Nat} {Q : zO → zM → Prop} (M : zM) (l2 : Int32) (l4 : Int32) (l5 : Int32) (k : if l2 = 0 then (Zm E YX8_empty d M (zargs 0 [vr (some (97, 1, 0)), vi (l5 + (1 : Int32))]) 0 [] (zma E YX8_waysOfGlobal (d + 1) [(0, vr (some (97, 1, 0))), (2, vi l2), (4, vi l4), (5, vi l5), (6, vi (l5 + (1 : Int32)))] 71 3 [] Q)) else (Zm E YX8_copySet d M (zargs 0 [vr (some (97, 1, 0)), vi l5, vi (l5 + (1 : Int32))]) 0 [] (zma E YX8_waysOfGlobal (d + 1) [(0, vr (some (97, 1, 0))), (2, vi l2), (4, vi l4), (6, vi (l5 + (1 : Int32)))] 62 3 [] Q))) : Zm E YX8_waysOfGlobal (d + 1) M [(0, vr (some (97, 1, 0))), (2, vi l2), (4, vi l4), (5, vi l5)] 47 [] Q := by
  refine Zm.l (fun _ _ k_ => z_iload dX8_waysOfGlobal_47 rfl k_) ?_
  refine Zm.l (fun _ _ k_ => z_iconst (v := 1) dX8_waysOfGlobal_49 rfl k_) ?_
  refine Zm.l (fun _ _ k_ => z_iadd dX8_waysOfGlobal_50 k_) ?_
  refine Zm.l (fun _ _ k_ => z_ist dX8_waysOfGlobal_51 (by decide) (lv' := [(0, vr (some (97, 1, 0))), (2, vi l2), (4, vi l4), (5, vi l5), (6, vi (l5 + (1 : Int32)))]) rfl k_) ?_
  refine Zm.l (fun _ _ k_ => z_iload_n dX8_waysOfGlobal_53 rfl rfl k_) ?_
  refine Zm.br (fun _ _ k1_ k2_ => z_if_eq (tgt := 68) dX8_waysOfGlobal_54 rfl k1_ k2_) (fun h_ => ?_) (fun h_ => ?_)
  · have k := zit h_ k
    refine Zm.l (fun _ _ k_ => z_aload_n dX8_waysOfGlobal_68 rfl rfl k_) ?_
    refine Zm.l (fun _ _ k_ => z_iload dX8_waysOfGlobal_69 rfl k_) ?_
    exact zm_callV (as := [vi (l5 + (1 : Int32))]) (st := []) dX8_waysOfGlobal_71 vsX8_1066_1 (Nat.le_refl _) (Nat.le_of_ble_eq_true rfl) (Nat.le_of_ble_eq_true rfl) rfl k
  · have k := zif h_ k
    refine Zm.l (fun _ _ k_ => z_aload_n dX8_waysOfGlobal_57 rfl rfl k_) ?_
    refine Zm.l (fun _ _ k_ => z_iload dX8_waysOfGlobal_58 rfl k_) ?_
    refine Zm.l (fun _ _ k_ => z_iload dX8_waysOfGlobal_60 rfl k_) ?_
    refine Zm.pick [0, 1, 2, 4] rfl ?_
    exact zm_callV (as := [vi l5, vi (l5 + (1 : Int32))]) (st := []) dX8_waysOfGlobal_62 vsX8_1092_1 (Nat.le_refl _) (Nat.le_of_ble_eq_true rfl) (Nat.le_of_ble_eq_true rfl) rfl k
theorem sX8_waysOfGlobal_65 {E : zE} {d : Nat} {Q : zO → zM → Prop} (M : zM) (l2 : Int32) (l4 : Int32) (l6 : Int32) (k : Zm E YX8_waysOfGlobal (d + 1) M [(0, vr (some (97, 1, 0))), (2, vi l2), (4, vi l4), (6, vi l6)] 95 [] Q) : Zm E YX8_waysOfGlobal (d + 1) M [(0, vr (some (97, 1, 0))), (2, vi l2), (4, vi l4), (6, vi l6)] 65 [] Q := by
  refine Zm.l (fun _ _ k_ => z_goto (tgt := 95) dX8_waysOfGlobal_65 rfl k_) ?_
  exact k
theorem sX8_waysOfGlobal_74 {E : zE} {d : Nat} {Q : zO → zM → Prop} (M : zM) (l2 : Int32) (l4 : Int32) (l5 : Int32) (l6 : Int32) (k : Zm E YX8_typesOf d M (zargs 0 [vr (some (97, 1, 0)), vi l5, vi l6]) 0 [] (zma E YX8_waysOfGlobal (d + 1) [(0, vr (some (97, 1, 0))), (2, vi l2), (4, vi l4), (6, vi l6)] 79 3 [] Q)) : Zm E YX8_waysOfGlobal (d + 1) M [(0, vr (some (97, 1, 0))), (2, vi l2), (4, vi l4), (5, vi l5), (6, vi l6)] 74 [] Q := by
  refine Zm.l (fun _ _ k_ => z_aload_n dX8_waysOfGlobal_74 rfl rfl k_) ?_
  refine Zm.l (fun _ _ k_ => z_iload dX8_waysOfGlobal_75 rfl k_) ?_
  refine Zm.l (fun _ _ k_ => z_iload dX8_waysOfGlobal_77 rfl k_) ?_
  refine Zm.pick [0, 1, 2, 4] rfl ?_
  exact zm_callV (as := [vi l5, vi l6]) (st := []) dX8_waysOfGlobal_79 vsX8_1289_1 (Nat.le_refl _) (Nat.le_of_ble_eq_true rfl) (Nat.le_of_ble_eq_true rfl) rfl k
theorem sX8_waysOfGlobal_82 {E : zE} {d : Nat} {Q : zO → zM → Prop} (M : zM) (l2 : Int32) (l4 : Int32) (l6 : Int32) (k : if l4 = 0 then (Zm E YX8_waysOfGlobal (d + 1) M [(0, vr (some (97, 1, 0))), (2, vi l2), (4, vi l4), (6, vi l6)] 95 [] Q) else (Zm E YX8_addString d M (zargs 0 [vr (some (97, 1, 0)), vi l6, vi (19 : Int32)]) 0 [] (zma E YX8_waysOfGlobal (d + 1) [(0, vr (some (97, 1, 0))), (2, vi l2), (4, vi l4), (6, vi l6)] 92 3 [] Q))) : Zm E YX8_waysOfGlobal (d + 1) M [(0, vr (some (97, 1, 0))), (2, vi l2), (4, vi l4), (6, vi l6)] 82 [] Q := by
  refine Zm.l (fun _ _ k_ => z_iload dX8_waysOfGlobal_82 rfl k_) ?_
  refine Zm.br (fun _ _ k1_ k2_ => z_if_eq (tgt := 95) dX8_waysOfGlobal_84 rfl k1_ k2_) (fun h_ => ?_) (fun h_ => ?_)
  · have k := zit h_ k
    exact k
  · have k := zif h_ k
    refine Zm.l (fun _ _ k_ => z_aload_n dX8_waysOfGlobal_87 rfl rfl k_) ?_
    refine Zm.l (fun _ _ k_ => z_iload dX8_waysOfGlobal_88 rfl k_) ?_
    refine Zm.l (fun _ _ k_ => z_bipush (v := 19) dX8_waysOfGlobal_90 rfl k_) ?_
    exact zm_callV (as := [vi l6, vi (19 : Int32)]) (st := []) dX8_waysOfGlobal_92 vsX8_1078_1 (Nat.le_refl _) (Nat.le_of_ble_eq_true rfl) (Nat.le_of_ble_eq_true rfl) rfl k
theorem sX8_waysOfGlobal_95 {E : zE} {d : Nat} {Q : zO → zM → Prop} (M : zM) (l2 : Int32) (l4 : Int32) (l6 : Int32) (k : Zm E YX8_replace d M (zargs 0 [vr (some (97, 1, 0)), vi (0 : Int32), vi l6]) 0 [] (zma E YX8_waysOfGlobal (d + 1) [(0, vr (some (97, 1, 0))), (2, vi l2), (4, vi l4)] 99 3 [] Q)) : Zm E YX8_waysOfGlobal (d + 1) M [(0, vr (some (97, 1, 0))), (2, vi l2), (4, vi l4), (6, vi l6)] 95 [] Q := by
  refine Zm.l (fun _ _ k_ => z_aload_n dX8_waysOfGlobal_95 rfl rfl k_) ?_
  refine Zm.l (fun _ _ k_ => z_iconst (v := 0) dX8_waysOfGlobal_96 rfl k_) ?_
  refine Zm.l (fun _ _ k_ => z_iload dX8_waysOfGlobal_97 rfl k_) ?_
  refine Zm.pick [0, 1, 2] rfl ?_
  exact zm_callV (as := [vi (0 : Int32), vi l6]) (st := []) dX8_waysOfGlobal_99 vsX8_1258_1 (Nat.le_refl _) (Nat.le_of_ble_eq_true rfl) (Nat.le_of_ble_eq_true rfl) rfl k
theorem sX8_waysOfGlobal_102 {E : zE} {d : Nat} {Q : zO → zM → Prop} (M : zM) (l2 : Int32) (l4 : Int32) (k : if l2 = 0 then (Zm E YX8_waysOfGlobal (d + 1) M [] 121 [] Q) else (if l4 = 0 then (Zm E YX8_waysOfGlobal (d + 1) M [] 121 [] Q) else (Zm E YX8_error_2 d M (zargs 0 [vr (some (97, 1, 0)), vi (gi M 97 148), vi (7 : Int32)]) 0 [] (zma E YX8_waysOfGlobal (d + 1) [] 118 3 [] Q)))) : Zm E YX8_waysOfGlobal (d + 1) M [(0, vr (some (97, 1, 0))), (2, vi l2), (4, vi l4)] 102 [] Q := by
  refine Zm.l (fun _ _ k_ => z_iload_n dX8_waysOfGlobal_102 rfl rfl k_) ?_
  refine Zm.br (fun _ _ k1_ k2_ => z_if_eq (tgt := 121) dX8_waysOfGlobal_103 rfl k1_ k2_) (fun h_ => ?_) (fun h_ => ?_)
  · have k := zit h_ k
    refine Zm.pick [] rfl ?_
    exact k
  · have k := zif h_ k
    refine Zm.l (fun _ _ k_ => z_iload dX8_waysOfGlobal_106 rfl k_) ?_
    refine Zm.br (fun _ _ k1_ k2_ => z_if_eq (tgt := 121) dX8_waysOfGlobal_108 rfl k1_ k2_) (fun h_ => ?_) (fun h_ => ?_)
    · have k := zit h_ k
      refine Zm.pick [] rfl ?_
      exact k
    · have k := zif h_ k
      refine Zm.l (fun _ _ k_ => z_aload_n dX8_waysOfGlobal_111 rfl rfl k_) ?_
      refine Zm.l (fun _ _ k_ => z_aload_n dX8_waysOfGlobal_112 rfl rfl k_) ?_
      refine zm_geti dX8_waysOfGlobal_113 fsX8_1188_1 (by decide) (by decide) ?_
      refine Zm.l (fun _ _ k_ => z_bipush (v := 7) dX8_waysOfGlobal_116 rfl k_) ?_
      refine Zm.pick [] rfl ?_
      exact zm_callV (as := [vi (gi M 97 148), vi (7 : Int32)]) (st := []) dX8_waysOfGlobal_118 vsX8_1292_1 (Nat.le_refl _) (Nat.le_of_ble_eq_true rfl) (Nat.le_of_ble_eq_true rfl) rfl k
theorem sX8_waysOfGlobal_121 {E : zE} {d : Nat} {Q : zO → zM → Prop} (M : zM)  (k : Q (.inl none) M) : Zm E YX8_waysOfGlobal (d + 1) M [] 121 [] Q := by
  exact zm_vret dX8_waysOfGlobal_121 rfl k
/-! ScriptTypesModel.typesOf(II)V -/
theorem bX8_typesOf_0 : zdec cX8_typesOf 0 [(0, .aload_n 0, 1), (1, .iload_n 1, 1), (2, .invokevirtual 1047, 3), (5, .istore_n 3, 1), (6, .iload_n 3, 1), (7, .iconst 1, 1), (8, .iand, 1), (9, .ifCond .eq 10, 3), (12, .aload_n 0, 1), (13, .iload_n 2, 1), (14, .bipush 19, 2), (16, .invokevirtual 1078, 3), (19, .iload_n 3, 1), (20, .iconst 2, 1), (21, .iand, 1), (22, .ifCond .eq 10, 3)] = true := by decide +kernel
theorem dX8_typesOf_0 : decode cX8_typesOf 0 = .ok (.aload_n 0, 1) := zdec_at bX8_typesOf_0 0 rfl
theorem dX8_typesOf_1 : decode cX8_typesOf 1 = .ok (.iload_n 1, 1) := zdec_at bX8_typesOf_0 1 rfl
theorem dX8_typesOf_2 : decode cX8_typesOf 2 = .ok (.invokevirtual 1047, 3) := zdec_at bX8_typesOf_0 2 rfl
theorem dX8_typesOf_5 : decode cX8_typesOf 5 = .ok (.istore_n 3, 1) := zdec_at bX8_typesOf_0 3 rfl
theorem dX8_typesOf_6 : decode cX8_typesOf 6 = .ok (.iload_n 3, 1) := zdec_at bX8_typesOf_0 4 rfl
theorem dX8_typesOf_7 : decode cX8_typesOf 7 = .ok (.iconst 1, 1) := zdec_at bX8_typesOf_0 5 rfl
theorem dX8_typesOf_8 : decode cX8_typesOf 8 = .ok (.iand, 1) := zdec_at bX8_typesOf_0 6 rfl
theorem dX8_typesOf_9 : decode cX8_typesOf 9 = .ok (.ifCond .eq 10, 3) := zdec_at bX8_typesOf_0 7 rfl
theorem dX8_typesOf_12 : decode cX8_typesOf 12 = .ok (.aload_n 0, 1) := zdec_at bX8_typesOf_0 8 rfl
theorem dX8_typesOf_13 : decode cX8_typesOf 13 = .ok (.iload_n 2, 1) := zdec_at bX8_typesOf_0 9 rfl
theorem dX8_typesOf_14 : decode cX8_typesOf 14 = .ok (.bipush 19, 2) := zdec_at bX8_typesOf_0 10 rfl
theorem dX8_typesOf_16 : decode cX8_typesOf 16 = .ok (.invokevirtual 1078, 3) := zdec_at bX8_typesOf_0 11 rfl
theorem dX8_typesOf_19 : decode cX8_typesOf 19 = .ok (.iload_n 3, 1) := zdec_at bX8_typesOf_0 12 rfl
theorem dX8_typesOf_20 : decode cX8_typesOf 20 = .ok (.iconst 2, 1) := zdec_at bX8_typesOf_0 13 rfl
theorem dX8_typesOf_21 : decode cX8_typesOf 21 = .ok (.iand, 1) := zdec_at bX8_typesOf_0 14 rfl
theorem dX8_typesOf_22 : decode cX8_typesOf 22 = .ok (.ifCond .eq 10, 3) := zdec_at bX8_typesOf_0 15 rfl
theorem bX8_typesOf_25 : zdec cX8_typesOf 25 [(25, .aload_n 0, 1), (26, .iload_n 2, 1), (27, .bipush 20, 2), (29, .invokevirtual 1078, 3), (32, .iload_n 3, 1), (33, .bipush 12, 2), (35, .iand, 1), (36, .ifCond .eq 10, 3), (39, .aload_n 0, 1), (40, .iload_n 2, 1), (41, .bipush 21, 2), (43, .invokevirtual 1078, 3), (46, .iload_n 3, 1), (47, .bipush 112, 2), (49, .iand, 1), (50, .ifCond .eq 10, 3)] = true := by decide +kernel
theorem dX8_typesOf_25 : decode cX8_typesOf 25 = .ok (.aload_n 0, 1) := zdec_at bX8_typesOf_25 0 rfl
theorem dX8_typesOf_26 : decode cX8_typesOf 26 = .ok (.iload_n 2, 1) := zdec_at bX8_typesOf_25 1 rfl
theorem dX8_typesOf_27 : decode cX8_typesOf 27 = .ok (.bipush 20, 2) := zdec_at bX8_typesOf_25 2 rfl
theorem dX8_typesOf_29 : decode cX8_typesOf 29 = .ok (.invokevirtual 1078, 3) := zdec_at bX8_typesOf_25 3 rfl
theorem dX8_typesOf_32 : decode cX8_typesOf 32 = .ok (.iload_n 3, 1) := zdec_at bX8_typesOf_25 4 rfl
theorem dX8_typesOf_33 : decode cX8_typesOf 33 = .ok (.bipush 12, 2) := zdec_at bX8_typesOf_25 5 rfl
theorem dX8_typesOf_35 : decode cX8_typesOf 35 = .ok (.iand, 1) := zdec_at bX8_typesOf_25 6 rfl
theorem dX8_typesOf_36 : decode cX8_typesOf 36 = .ok (.ifCond .eq 10, 3) := zdec_at bX8_typesOf_25 7 rfl
theorem dX8_typesOf_39 : decode cX8_typesOf 39 = .ok (.aload_n 0, 1) := zdec_at bX8_typesOf_25 8 rfl
theorem dX8_typesOf_40 : decode cX8_typesOf 40 = .ok (.iload_n 2, 1) := zdec_at bX8_typesOf_25 9 rfl
theorem dX8_typesOf_41 : decode cX8_typesOf 41 = .ok (.bipush 21, 2) := zdec_at bX8_typesOf_25 10 rfl
theorem dX8_typesOf_43 : decode cX8_typesOf 43 = .ok (.invokevirtual 1078, 3) := zdec_at bX8_typesOf_25 11 rfl
theorem dX8_typesOf_46 : decode cX8_typesOf 46 = .ok (.iload_n 3, 1) := zdec_at bX8_typesOf_25 12 rfl
theorem dX8_typesOf_47 : decode cX8_typesOf 47 = .ok (.bipush 112, 2) := zdec_at bX8_typesOf_25 13 rfl
theorem dX8_typesOf_49 : decode cX8_typesOf 49 = .ok (.iand, 1) := zdec_at bX8_typesOf_25 14 rfl
theorem dX8_typesOf_50 : decode cX8_typesOf 50 = .ok (.ifCond .eq 10, 3) := zdec_at bX8_typesOf_25 15 rfl
theorem bX8_typesOf_53 : zdec cX8_typesOf 53 [(53, .aload_n 0, 1), (54, .iload_n 2, 1), (55, .bipush 22, 2), (57, .invokevirtual 1078, 3), (60, .iload_n 3, 1), (61, .sipush 384, 3), (64, .iand, 1), (65, .ifCond .eq 10, 3), (68, .aload_n 0, 1), (69, .iload_n 2, 1), (70, .bipush 23, 2), (72, .invokevirtual 1078, 3), (75, .iconst 0, 1), (76, .istore 4, 2), (78, .iload 4, 2), (80, .aload_n 0, 1)] = true := by decide +kernel
theorem dX8_typesOf_53 : decode cX8_typesOf 53 = .ok (.aload_n 0, 1) := zdec_at bX8_typesOf_53 0 rfl
theorem dX8_typesOf_54 : decode cX8_typesOf 54 = .ok (.iload_n 2, 1) := zdec_at bX8_typesOf_53 1 rfl
theorem dX8_typesOf_55 : decode cX8_typesOf 55 = .ok (.bipush 22, 2) := zdec_at bX8_typesOf_53 2 rfl
theorem dX8_typesOf_57 : decode cX8_typesOf 57 = .ok (.invokevirtual 1078, 3) := zdec_at bX8_typesOf_53 3 rfl
theorem dX8_typesOf_60 : decode cX8_typesOf 60 = .ok (.iload_n 3, 1) := zdec_at bX8_typesOf_53 4 rfl
theorem dX8_typesOf_61 : decode cX8_typesOf 61 = .ok (.sipush 384, 3) := zdec_at bX8_typesOf_53 5 rfl
theorem dX8_typesOf_64 : decode cX8_typesOf 64 = .ok (.iand, 1) := zdec_at bX8_typesOf_53 6 rfl
theorem dX8_typesOf_65 : decode cX8_typesOf 65 = .ok (.ifCond .eq 10, 3) := zdec_at bX8_typesOf_53 7 rfl
theorem dX8_typesOf_68 : decode cX8_typesOf 68 = .ok (.aload_n 0, 1) := zdec_at bX8_typesOf_53 8 rfl
theorem dX8_typesOf_69 : decode cX8_typesOf 69 = .ok (.iload_n 2, 1) := zdec_at bX8_typesOf_53 9 rfl
theorem dX8_typesOf_70 : decode cX8_typesOf 70 = .ok (.bipush 23, 2) := zdec_at bX8_typesOf_53 10 rfl
theorem dX8_typesOf_72 : decode cX8_typesOf 72 = .ok (.invokevirtual 1078, 3) := zdec_at bX8_typesOf_53 11 rfl
theorem dX8_typesOf_75 : decode cX8_typesOf 75 = .ok (.iconst 0, 1) := zdec_at bX8_typesOf_53 12 rfl
theorem dX8_typesOf_76 : decode cX8_typesOf 76 = .ok (.istore 4, 2) := zdec_at bX8_typesOf_53 13 rfl
theorem dX8_typesOf_78 : decode cX8_typesOf 78 = .ok (.iload 4, 2) := zdec_at bX8_typesOf_53 14 rfl
theorem dX8_typesOf_80 : decode cX8_typesOf 80 = .ok (.aload_n 0, 1) := zdec_at bX8_typesOf_53 15 rfl
theorem bX8_typesOf_81 : zdec cX8_typesOf 81 [(81, .getfield 765, 3), (84, .if_icmp .ge 50, 3), (87, .aload_n 0, 1), (88, .getfield 220, 3), (91, .iload_n 1, 1), (92, .laload, 1), (93, .aload_n 0, 1), (94, .getfield 223, 3), (97, .iload_n 1, 1), (98, .laload, 1), (99, .iload 4, 2), (101, .invokestatic 1125, 3), (104, .ifCond .eq 24, 3), (107, .aload_n 0, 1), (108, .iload_n 2, 1), (109, .aload_n 0, 1)] = true := by decide +kernel
theorem dX8_typesOf_81 : decode cX8_typesOf 81 = .ok (.getfield 765, 3) := zdec_at bX8_typesOf_81 0 rfl
theorem dX8_typesOf_84 : decode cX8_typesOf 84 = .ok (.if_icmp .ge 50, 3) := zdec_at bX8_typesOf_81 1 rfl
theorem dX8_typesOf_87 : decode cX8_typesOf 87 = .ok (.aload_n 0, 1) := zdec_at bX8_typesOf_81 2 rfl
theorem dX8_typesOf_88 : decode cX8_typesOf 88 = .ok (.getfield 220, 3) := zdec_at bX8_typesOf_81 3 rfl
theorem dX8_typesOf_91 : decode cX8_typesOf 91 = .ok (.iload_n 1, 1) := zdec_at bX8_typesOf_81 4 rfl
theorem dX8_typesOf_92 : decode cX8_typesOf 92 = .ok (.laload, 1) := zdec_at bX8_typesOf_81 5 rfl
theorem dX8_typesOf_93 : decode cX8_typesOf 93 = .ok (.aload_n 0, 1) := zdec_at bX8_typesOf_81 6 rfl
theorem dX8_typesOf_94 : decode cX8_typesOf 94 = .ok (.getfield 223, 3) := zdec_at bX8_typesOf_81 7 rfl
theorem dX8_typesOf_97 : decode cX8_typesOf 97 = .ok (.iload_n 1, 1) := zdec_at bX8_typesOf_81 8 rfl
theorem dX8_typesOf_98 : decode cX8_typesOf 98 = .ok (.laload, 1) := zdec_at bX8_typesOf_81 9 rfl
theorem dX8_typesOf_99 : decode cX8_typesOf 99 = .ok (.iload 4, 2) := zdec_at bX8_typesOf_81 10 rfl
theorem dX8_typesOf_101 : decode cX8_typesOf 101 = .ok (.invokestatic 1125, 3) := zdec_at bX8_typesOf_81 11 rfl
theorem dX8_typesOf_104 : decode cX8_typesOf 104 = .ok (.ifCond .eq 24, 3) := zdec_at bX8_typesOf_81 12 rfl
theorem dX8_typesOf_107 : decode cX8_typesOf 107 = .ok (.aload_n 0, 1) := zdec_at bX8_typesOf_81 13 rfl
theorem dX8_typesOf_108 : decode cX8_typesOf 108 = .ok (.iload_n 2, 1) := zdec_at bX8_typesOf_81 14 rfl
theorem dX8_typesOf_109 : decode cX8_typesOf 109 = .ok (.aload_n 0, 1) := zdec_at bX8_typesOf_81 15 rfl
theorem bX8_typesOf_110 : zdec cX8_typesOf 110 [(110, .iload 4, 2), (112, .invokevirtual 1115, 3), (115, .ifCond .eq 8, 3), (118, .bipush 24, 2), (120, .goto 5, 3), (123, .bipush 20, 2), (125, .invokevirtual 1078, 3), (128, .iinc 4 1, 3), (131, .goto (-53), 3), (134, .return_, 1)] = true := by decide +kernel
theorem dX8_typesOf_110 : decode cX8_typesOf 110 = .ok (.iload 4, 2) := zdec_at bX8_typesOf_110 0 rfl
theorem dX8_typesOf_112 : decode cX8_typesOf 112 = .ok (.invokevirtual 1115, 3) := zdec_at bX8_typesOf_110 1 rfl
theorem dX8_typesOf_115 : decode cX8_typesOf 115 = .ok (.ifCond .eq 8, 3) := zdec_at bX8_typesOf_110 2 rfl
theorem dX8_typesOf_118 : decode cX8_typesOf 118 = .ok (.bipush 24, 2) := zdec_at bX8_typesOf_110 3 rfl
theorem dX8_typesOf_120 : decode cX8_typesOf 120 = .ok (.goto 5, 3) := zdec_at bX8_typesOf_110 4 rfl
theorem dX8_typesOf_123 : decode cX8_typesOf 123 = .ok (.bipush 20, 2) := zdec_at bX8_typesOf_110 5 rfl
theorem dX8_typesOf_125 : decode cX8_typesOf 125 = .ok (.invokevirtual 1078, 3) := zdec_at bX8_typesOf_110 6 rfl
theorem dX8_typesOf_128 : decode cX8_typesOf 128 = .ok (.iinc 4 1, 3) := zdec_at bX8_typesOf_110 7 rfl
theorem dX8_typesOf_131 : decode cX8_typesOf 131 = .ok (.goto (-53), 3) := zdec_at bX8_typesOf_110 8 rfl
theorem dX8_typesOf_134 : decode cX8_typesOf 134 = .ok (.return_, 1) := zdec_at bX8_typesOf_110 9 rfl
theorem sX8_typesOf_0 {E : zE} {d : Nat} {Q : zO → zM → Prop} (M : zM) (l1 : Int32) (l2 : Int32) (k : Zm E YX8_has d M (zargs 0 [vr (some (97, 1, 0)), vi l1]) 0 [] (zma E YX8_typesOf (d + 1) [(0, vr (some (97, 1, 0))), (1, vi l1), (2, vi l2)] 2 3 [] Q)) : Zm E YX8_typesOf (d + 1) M [(0, vr (some (97, 1, 0))), (1, vi l1), (2, vi l2)] 0 [] Q := by
  refine Zm.l (fun _ _ k_ => z_aload_n dX8_typesOf_0 rfl rfl k_) ?_
  refine Zm.l (fun _ _ k_ => z_iload_n dX8_typesOf_1 rfl rfl k_) ?_
  exact zm_callV (as := [vi l1]) (st := []) dX8_typesOf_2 vsX8_1047_1 (Nat.le_refl _) (Nat.le_of_ble_eq_true rfl) (Nat.le_of_ble_eq_true rfl) rfl k
theorem sX8_typesOf_5 {E : zE} {d : Nat} {Q : zO → zM → Prop} (M : zM) (l1 : Int32) (l2 : Int32) (s0 : Int32) (k : if (s0 &&& (1 : Int32)) = 0 then (Zm E YX8_typesOf (d + 1) M [(0, vr (some (97, 1, 0))), (1, vi l1), (2, vi l2), (3, vi s0)] 19 [] Q) else (Zm E YX8_addString d M (zargs 0 [vr (some (97, 1, 0)), vi l2, vi (19 : Int32)]) 0 [] (zma E YX8_typesOf (d + 1) [(0, vr (some (97, 1, 0))), (1, vi l1), (2, vi l2), (3, vi s0)] 16 3 [] Q))) : Zm E YX8_typesOf (d + 1) M [(0, vr (some (97, 1, 0))), (1, vi l1), (2, vi l2)] 5 [vi s0] Q := by
  refine Zm.l (fun _ _ k_ => z_ist_n dX8_typesOf_5 rfl (by decide) (lv' := [(0, vr (some (97, 1, 0))), (1, vi l1), (2, vi l2), (3, vi s0)]) rfl k_) ?_
  refine Zm.l (fun _ _ k_ => z_iload_n dX8_typesOf_6 rfl rfl k_) ?_
  refine Zm.l (fun _ _ k_ => z_iconst (v := 1) dX8_typesOf_7 rfl k_) ?_
  refine Zm.l (fun _ _ k_ => z_iand dX8_typesOf_8 k_) ?_
  refine Zm.br (fun _ _ k1_ k2_ => z_if_eq (tgt := 19) dX8_typesOf_9 rfl k1_ k2_) (fun h_ => ?_) (fun h_ => ?_)
  · have k := zit h_ k
    exact k
  · have k := zif h_ k
    refine Zm.l (fun _ _ k_ => z_aload_n dX8_typesOf_12 rfl rfl k_) ?_
    refine Zm.l (fun _ _ k_ => z_iload_n dX8_typesOf_13 rfl rfl k_) ?_
    refine Zm.l (fun _ _ k_ => z_bipush (v := 19) dX8_typesOf_14 rfl k_) ?_
    exact zm_callV (as := [vi l2, vi (19 : Int32)]) (st := []) dX8_typesOf_16 vsX8_1078_1 (Nat.le_refl _) (Nat.le_of_ble_eq_true rfl) (Nat.le_of_ble_eq_true rfl) rfl k
theorem sX8_typesOf_19 {E : zE} {d : Nat} {Q : zO → zM → Prop} (M : zM) (l1 : Int32) (l2 : Int32) (l3 : Int32) (k : if (l3 &&& (2 : Int32)) = 0 then (Zm E YX8_typesOf (d + 1) M [(0, vr (some (97, 1, 0))), (1, vi l1), (2, vi l2), (3, vi l3)] 32 [] Q) else (Zm E YX8_addString d M (zargs 0 [vr (some (97, 1, 0)), vi l2, vi (20 : Int32)]) 0 [] (zma E YX8_typesOf (d + 1) [(0, vr (some (97, 1, 0))), (1, vi l1), (2, vi l2), (3, vi l3)] 29 3 [] Q))) : Zm E YX8_typesOf (d + 1) M [(0, vr (some (97, 1, 0))), (1, vi l1), (2, vi l2), (3, vi l3)] 19 [] Q := by
  refine Zm.l (fun _ _ k_ => z_iload_n dX8_typesOf_19 rfl rfl k_) ?_
  refine Zm.l (fun _ _ k_ => z_iconst (v := 2) dX8_typesOf_20 rfl k_) ?_
  refine Zm.l (fun _ _ k_ => z_iand dX8_typesOf_21 k_) ?_
  refine Zm.br (fun _ _ k1_ k2_ => z_if_eq (tgt := 32) dX8_typesOf_22 rfl k1_ k2_) (fun h_ => ?_) (fun h_ => ?_)
  · have k := zit h_ k
    exact k
  · have k := zif h_ k
    refine Zm.l (fun _ _ k_ => z_aload_n dX8_typesOf_25 rfl rfl k_) ?_
    refine Zm.l (fun _ _ k_ => z_iload_n dX8_typesOf_26 rfl rfl k_) ?_
    refine Zm.l (fun _ _ k_ => z_bipush (v := 20) dX8_typesOf_27 rfl k_) ?_
    exact zm_callV (as := [vi l2, vi (20 : Int32)]) (st := []) dX8_typesOf_29 vsX8_1078_1 (Nat.le_refl _) (Nat.le_of_ble_eq_true rfl) (Nat.le_of_ble_eq_true rfl) rfl k
theorem sX8_typesOf_32 {E : zE} {d : Nat} {Q : zO → zM → Prop} (M : zM) (l1 : Int32) (l2 : Int32) (l3 : Int32) (k : if (l3 &&& (12 : Int32)) = 0 then (Zm E YX8_typesOf (d + 1) M [(0, vr (some (97, 1, 0))), (1, vi l1), (2, vi l2), (3, vi l3)] 46 [] Q) else (Zm E YX8_addString d M (zargs 0 [vr (some (97, 1, 0)), vi l2, vi (21 : Int32)]) 0 [] (zma E YX8_typesOf (d + 1) [(0, vr (some (97, 1, 0))), (1, vi l1), (2, vi l2), (3, vi l3)] 43 3 [] Q))) : Zm E YX8_typesOf (d + 1) M [(0, vr (some (97, 1, 0))), (1, vi l1), (2, vi l2), (3, vi l3)] 32 [] Q := by
  refine Zm.l (fun _ _ k_ => z_iload_n dX8_typesOf_32 rfl rfl k_) ?_
  refine Zm.l (fun _ _ k_ => z_bipush (v := 12) dX8_typesOf_33 rfl k_) ?_
  refine Zm.l (fun _ _ k_ => z_iand dX8_typesOf_35 k_) ?_
  refine Zm.br (fun _ _ k1_ k2_ => z_if_eq (tgt := 46) dX8_typesOf_36 rfl k1_ k2_) (fun h_ => ?_) (fun h_ => ?_)
  · have k := zit h_ k
    exact k
  · have k := zif h_ k
    refine Zm.l (fun _ _ k_ => z_aload_n dX8_typesOf_39 rfl rfl k_) ?_
    refine Zm.l (fun _ _ k_ => z_iload_n dX8_typesOf_40 rfl rfl k_) ?_
    refine Zm.l (fun _ _ k_ => z_bipush (v := 21) dX8_typesOf_41 rfl k_) ?_
    exact zm_callV (as := [vi l2, vi (21 : Int32)]) (st := []) dX8_typesOf_43 vsX8_1078_1 (Nat.le_refl _) (Nat.le_of_ble_eq_true rfl) (Nat.le_of_ble_eq_true rfl) rfl k
theorem sX8_typesOf_46 {E : zE} {d : Nat} {Q : zO → zM → Prop} (M : zM) (l1 : Int32) (l2 : Int32) (l3 : Int32) (k : if (l3 &&& (112 : Int32)) = 0 then (Zm E YX8_typesOf (d + 1) M [(0, vr (some (97, 1, 0))), (1, vi l1), (2, vi l2), (3, vi l3)] 60 [] Q) else (Zm E YX8_addString d M (zargs 0 [vr (some (97, 1, 0)), vi l2, vi (22 : Int32)]) 0 [] (zma E YX8_typesOf (d + 1) [(0, vr (some (97, 1, 0))), (1, vi l1), (2, vi l2), (3, vi l3)] 57 3 [] Q))) : Zm E YX8_typesOf (d + 1) M [(0, vr (some (97, 1, 0))), (1, vi l1), (2, vi l2), (3, vi l3)] 46 [] Q := by
  refine Zm.l (fun _ _ k_ => z_iload_n dX8_typesOf_46 rfl rfl k_) ?_
  refine Zm.l (fun _ _ k_ => z_bipush (v := 112) dX8_typesOf_47 rfl k_) ?_
  refine Zm.l (fun _ _ k_ => z_iand dX8_typesOf_49 k_) ?_
  refine Zm.br (fun _ _ k1_ k2_ => z_if_eq (tgt := 60) dX8_typesOf_50 rfl k1_ k2_) (fun h_ => ?_) (fun h_ => ?_)
  · have k := zit h_ k
    exact k
  · have k := zif h_ k
    refine Zm.l (fun _ _ k_ => z_aload_n dX8_typesOf_53 rfl rfl k_) ?_
    refine Zm.l (fun _ _ k_ => z_iload_n dX8_typesOf_54 rfl rfl k_) ?_
    refine Zm.l (fun _ _ k_ => z_bipush (v := 22) dX8_typesOf_55 rfl k_) ?_
    exact zm_callV (as := [vi l2, vi (22 : Int32)]) (st := []) dX8_typesOf_57 vsX8_1078_1 (Nat.le_refl _) (Nat.le_of_ble_eq_true rfl) (Nat.le_of_ble_eq_true rfl) rfl k
theorem sX8_typesOf_60 {E : zE} {d : Nat} {Q : zO → zM → Prop} (M : zM) (l1 : Int32) (l2 : Int32) (l3 : Int32) (k : if (l3 &&& (384 : Int32)) = 0 then (Zm E YX8_typesOf (d + 1) M [(0, vr (some (97, 1, 0))), (1, vi l1), (2, vi l2)] 75 [] Q) else (Zm E YX8_addString d M (zargs 0 [vr (some (97, 1, 0)), vi l2, vi (23 : Int32)]) 0 [] (zma E YX8_typesOf (d + 1) [(0, vr (some (97, 1, 0))), (1, vi l1), (2, vi l2)] 72 3 [] Q))) : Zm E YX8_typesOf (d + 1) M [(0, vr (some (97, 1, 0))), (1, vi l1), (2, vi l2), (3, vi l3)] 60 [] Q := by
  refine Zm.l (fun _ _ k_ => z_iload_n dX8_typesOf_60 rfl rfl k_) ?_
  refine Zm.l (fun _ _ k_ => z_sipush (v := 384) dX8_typesOf_61 rfl k_) ?_
  refine Zm.l (fun _ _ k_ => z_iand dX8_typesOf_64 k_) ?_
  refine Zm.br (fun _ _ k1_ k2_ => z_if_eq (tgt := 75) dX8_typesOf_65 rfl k1_ k2_) (fun h_ => ?_) (fun h_ => ?_)
  · have k := zit h_ k
    refine Zm.pick [0, 1, 2] rfl ?_
    exact k
  · have k := zif h_ k
    refine Zm.l (fun _ _ k_ => z_aload_n dX8_typesOf_68 rfl rfl k_) ?_
    refine Zm.l (fun _ _ k_ => z_iload_n dX8_typesOf_69 rfl rfl k_) ?_
    refine Zm.l (fun _ _ k_ => z_bipush (v := 23) dX8_typesOf_70 rfl k_) ?_
    refine Zm.pick [0, 1, 2] rfl ?_
    exact zm_callV (as := [vi l2, vi (23 : Int32)]) (st := []) dX8_typesOf_72 vsX8_1078_1 (Nat.le_refl _) (Nat.le_of_ble_eq_true rfl) (Nat.le_of_ble_eq_true rfl) rfl k
theorem sX8_typesOf_75 {E : zE} {d : Nat} {Q : zO → zM → Prop} (M : zM) (l1 : Int32) (l2 : Int32) (k : Zm E YX8_typesOf (d + 1) M [(0, vr (some (97, 1, 0))), (1, vi l1), (2, vi l2), (4, vi (0 : Int32))] 78 [] Q) : Zm E YX8_typesOf (d + 1) M [(0, vr (some (97, 1, 0))), (1, vi l1), (2, vi l2)] 75 [] Q := by
  refine Zm.l (fun _ _ k_ => z_iconst (v := 0) dX8_typesOf_75 rfl k_) ?_
  refine Zm.l (fun _ _ k_ => z_ist dX8_typesOf_76 (by decide) (lv' := [(0, vr (some (97, 1, 0))), (1, vi l1), (2, vi l2), (4, vi (0 : Int32))]) rfl k_) ?_
  exact k
theorem sX8_typesOf_78 {E : zE} {d : Nat} {Q : zO → zM → Prop} (M : zM) (l1 : Int32) (l2 : Int32) (l4 : Int32) (k : if (gi M 97 71) ≤ l4 then (Q (.inl none) M) else (vp_in l1 647800 ∧ (vp_in l1 647800 ∧ (Zm E YX8_isIn d M (zargs 0 [vl (gl M 166 (l1).toNatClampNeg), vl (gl M 167 (l1).toNatClampNeg), vi l4]) 0 [] (zma E YX8_typesOf (d + 1) [(0, vr (some (97, 1, 0))), (1, vi l1), (2, vi l2), (4, vi l4)] 101 3 [] Q))))) : Zm E YX8_typesOf (d + 1) M [(0, vr (some (97, 1, 0))), (1, vi l1), (2, vi l2), (4, vi l4)] 78 [] Q := by
  refine Zm.l (fun _ _ k_ => z_iload dX8_typesOf_78 rfl k_) ?_
  refine Zm.l (fun _ _ k_ => z_aload_n dX8_typesOf_80 rfl rfl k_) ?_
  refine zm_geti dX8_typesOf_81 fsX8_765_1 (by decide) (by decide) ?_
  refine Zm.br (fun _ _ k1_ k2_ => z_icmp_ge (tgt := 134) dX8_typesOf_84 rfl k1_ k2_) (fun h_ => ?_) (fun h_ => ?_)
  · have k := zit h_ k
    exact zm_vret dX8_typesOf_134 rfl k
  · have k := zif h_ k
    refine Zm.l (fun _ _ k_ => z_aload_n dX8_typesOf_87 rfl rfl k_) ?_
    refine zm_getr 63 dX8_typesOf_88 fsX8_220_1 rfl ?_
    refine Zm.l (fun _ _ k_ => z_iload_n dX8_typesOf_91 rfl rfl k_) ?_
    obtain ⟨b_, k⟩ := k
    refine zm_lald dX8_typesOf_92 b_ (by decide) (by decide) ?_
    refine Zm.l (fun _ _ k_ => z_aload_n dX8_typesOf_93 rfl rfl k_) ?_
    refine zm_getr 64 dX8_typesOf_94 fsX8_223_1 rfl ?_
    refine Zm.l (fun _ _ k_ => z_iload_n dX8_typesOf_97 rfl rfl k_) ?_
    obtain ⟨b_, k⟩ := k
    refine zm_lald dX8_typesOf_98 b_ (by decide) (by decide) ?_
    refine Zm.l (fun _ _ k_ => z_iload dX8_typesOf_99 rfl k_) ?_
    exact zm_callS (as := [vl (gl M 166 (l1).toNatClampNeg), vl (gl M 167 (l1).toNatClampNeg), vi l4]) (st := []) dX8_typesOf_101 ssX8_1125 (Nat.le_refl _) (Nat.le_of_ble_eq_true rfl) (Nat.le_of_ble_eq_true rfl) rfl k
theorem sX8_typesOf_104 {E : zE} {d : Nat} {Q : zO → zM → Prop} (M : zM) (l1 : Int32) (l2 : Int32) (l4 : Int32) (s0 : Int32) (k : if s0 = 0 then (Zm E YX8_typesOf (d + 1) M [(0, vr (some (97, 1, 0))), (1, vi l1), (2, vi l2), (4, vi l4)] 128 [] Q) else (Zm E YX8_isFunctionLabel d M (zargs 0 [vr (some (97, 1, 0)), vi l4]) 0 [] (zma E YX8_typesOf (d + 1) [(0, vr (some (97, 1, 0))), (1, vi l1), (2, vi l2), (4, vi l4)] 112 3 [vi l2, vr (some (97, 1, 0))] Q))) : Zm E YX8_typesOf (d + 1) M [(0, vr (some (97, 1, 0))), (1, vi l1), (2, vi l2), (4, vi l4)] 104 [vi s0] Q := by
  refine Zm.br (fun _ _ k1_ k2_ => z_if_eq (tgt := 128) dX8_typesOf_104 rfl k1_ k2_) (fun h_ => ?_) (fun h_ => ?_)
  · have k := zit h_ k
    exact k
  · have k := zif h_ k
    refine Zm.l (fun _ _ k_ => z_aload_n dX8_typesOf_107 rfl rfl k_) ?_
    refine Zm.l (fun _ _ k_ => z_iload_n dX8_typesOf_108 rfl rfl k_) ?_
    refine Zm.l (fun _ _ k_ => z_aload_n dX8_typesOf_109 rfl rfl k_) ?_
    refine Zm.l (fun _ _ k_ => z_iload dX8_typesOf_110 rfl k_) ?_
    exact zm_callV (as := [vi l4]) (st := [vi l2, vr (some (97, 1, 0))]) dX8_typesOf_112 vsX8_1115_1 (Nat.le_refl _) (Nat.le_of_ble_eq_true rfl) (Nat.le_of_ble_eq_true rfl) rfl k
theorem sX8_typesOf_115 {E : zE} {d : Nat} {Q : zO → zM → Prop} (M : zM) (l1 : Int32) (l2 : Int32) (l4 : Int32) (s0 : Int32) (s1 : Int32) (k : if s0 = 0 then (Zm E YX8_addString d M (zargs 0 [vr (some (97, 1, 0)), vi s1, vi (20 : Int32)]) 0 [] (zma E YX8_typesOf (d + 1) [(0, vr (some (97, 1, 0))), (1, vi l1), (2, vi l2), (4, vi l4)] 125 3 [] Q)) else (Zm E YX8_addString d M (zargs 0 [vr (some (97, 1, 0)), vi s1, vi (24 : Int32)]) 0 [] (zma E YX8_typesOf (d + 1) [(0, vr (some (97, 1, 0))), (1, vi l1), (2, vi l2), (4, vi l4)] 125 3 [] Q))) : Zm E YX8_typesOf (d + 1) M [(0, vr (some (97, 1, 0))), (1, vi l1), (2, vi l2), (4, vi l4)] 115 [vi s0, vi s1, vr (some (97, 1, 0))] Q := by
  refine Zm.br (fun _ _ k1_ k2_ => z_if_eq (tgt := 123) dX8_typesOf_115 rfl k1_ k2_) (fun h_ => ?_) (fun h_ => ?_)
  · have k := zit h_ k
    refine Zm.l (fun _ _ k_ => z_bipush (v := 20) dX8_typesOf_123 rfl k_) ?_
    exact zm_callV (as := [vi s1, vi (20 : Int32)]) (st := []) dX8_typesOf_125 vsX8_1078_1 (Nat.le_refl _) (Nat.le_of_ble_eq_true rfl) (Nat.le_of_ble_eq_true rfl) rfl k
  · have k := zif h_ k
    refine Zm.l (fun _ _ k_ => z_bipush (v := 24) dX8_typesOf_118 rfl k_) ?_
    refine Zm.l (fun _ _ k_ => z_goto (tgt := 125) dX8_typesOf_120 rfl k_) ?_
    exact zm_callV (as := [vi s1, vi (24 : Int32)]) (st := []) dX8_typesOf_125 vsX8_1078_1 (Nat.le_refl _) (Nat.le_of_ble_eq_true rfl) (Nat.le_of_ble_eq_true rfl) rfl k
theorem sX8_typesOf_128 {E : zE} {d : Nat} {Q : zO → zM → Prop} (M : zM) (l1 : Int32) (l2 : Int32) (l4 : Int32) (k : Zm E YX8_typesOf (d + 1) M [(0, vr (some (97, 1, 0))), (1, vi l1), (2, vi l2), (4, vi (l4 + (1 : Int32)))] 78 [] Q) : Zm E YX8_typesOf (d + 1) M [(0, vr (some (97, 1, 0))), (1, vi l1), (2, vi l2), (4, vi l4)] 128 [] Q := by
  refine Zm.l (fun _ _ k_ => z_inc (v := (l4 + (1 : Int32))) dX8_typesOf_128 rfl rfl (by decide) (lv' := [(0, vr (some (97, 1, 0))), (1, vi l1), (2, vi l2), (4, vi (l4 + (1 : Int32)))]) rfl k_) ?_
  refine Zm.l (fun _ _ k_ => z_goto (tgt := 78) dX8_typesOf_131 rfl k_) ?_
  exact k
/-! ScriptTypesModel.isFunctionLabel(I)Z -/
theorem bX8_isFunctionLabel_0 : zdec cX8_isFunctionLabel 0 [(0, .iload_n 1, 1), (1, .bipush 9, 2), (3, .if_icmp .lt 9, 3), (6, .iload_n 1, 1), (7, .bipush 23, 2), (9, .if_icmp .lt 47, 3), (12, .iload_n 1, 1), (13, .bipush 29, 2), (15, .if_icmp .lt 45, 3), (18, .iload_n 1, 1), (19, .bipush 29, 2), (21, .bipush 6, 2), (23, .aload_n 0, 1), (24, .getfield 527, 3), (27, .iconst 1, 1), (28, .isub, 1)] = true := by decide +kernel
theorem dX8_isFunctionLabel_0 : decode cX8_isFunctionLabel 0 = .ok (.iload_n 1, 1) := zdec_at bX8_isFunctionLabel_0 0 rfl
theorem dX8_isFunctionLabel_1 : decode cX8_isFunctionLabel 1 = .ok (.bipush 9, 2) := zdec_at bX8_isFunctionLabel_0 1 rfl
theorem dX8_isFunctionLabel_3 : decode cX8_isFunctionLabel 3 = .ok (.if_icmp .lt 9, 3) := zdec_at bX8_isFunctionLabel_0 2 rfl
theorem dX8_isFunctionLabel_6 : decode cX8_isFunctionLabel 6 = .ok (.iload_n 1, 1) := zdec_at bX8_isFunctionLabel_0 3 rfl
theorem dX8_isFunctionLabel_7 : decode cX8_isFunctionLabel 7 = .ok (.bipush 23, 2) := zdec_at bX8_isFunctionLabel_0 4 rfl
theorem dX8_isFunctionLabel_9 : decode cX8_isFunctionLabel 9 = .ok (.if_icmp .lt 47, 3) := zdec_at bX8_isFunctionLabel_0 5 rfl
theorem dX8_isFunctionLabel_12 : decode cX8_isFunctionLabel 12 = .ok (.iload_n 1, 1) := zdec_at bX8_isFunctionLabel_0 6 rfl
theorem dX8_isFunctionLabel_13 : decode cX8_isFunctionLabel 13 = .ok (.bipush 29, 2) := zdec_at bX8_isFunctionLabel_0 7 rfl
theorem dX8_isFunctionLabel_15 : decode cX8_isFunctionLabel 15 = .ok (.if_icmp .lt 45, 3) := zdec_at bX8_isFunctionLabel_0 8 rfl
theorem dX8_isFunctionLabel_18 : decode cX8_isFunctionLabel 18 = .ok (.iload_n 1, 1) := zdec_at bX8_isFunctionLabel_0 9 rfl
theorem dX8_isFunctionLabel_19 : decode cX8_isFunctionLabel 19 = .ok (.bipush 29, 2) := zdec_at bX8_isFunctionLabel_0 10 rfl
theorem dX8_isFunctionLabel_21 : decode cX8_isFunctionLabel 21 = .ok (.bipush 6, 2) := zdec_at bX8_isFunctionLabel_0 11 rfl
theorem dX8_isFunctionLabel_23 : decode cX8_isFunctionLabel 23 = .ok (.aload_n 0, 1) := zdec_at bX8_isFunctionLabel_0 12 rfl
theorem dX8_isFunctionLabel_24 : decode cX8_isFunctionLabel 24 = .ok (.getfield 527, 3) := zdec_at bX8_isFunctionLabel_0 13 rfl
theorem dX8_isFunctionLabel_27 : decode cX8_isFunctionLabel 27 = .ok (.iconst 1, 1) := zdec_at bX8_isFunctionLabel_0 14 rfl
theorem dX8_isFunctionLabel_28 : decode cX8_isFunctionLabel 28 = .ok (.isub, 1) := zdec_at bX8_isFunctionLabel_0 15 rfl
theorem bX8_isFunctionLabel_29 : zdec cX8_isFunctionLabel 29 [(29, .imul, 1), (30, .iadd, 1), (31, .if_icmp .ge 29, 3), (34, .iload_n 1, 1), (35, .bipush 29, 2), (37, .isub, 1), (38, .bipush 6, 2), (40, .irem, 1), (41, .iconst 2, 1), (42, .if_icmp .eq 14, 3), (45, .iload_n 1, 1), (46, .bipush 29, 2), (48, .isub, 1), (49, .bipush 6, 2), (51, .irem, 1), (52, .iconst 3, 1)] = true := by decide +kernel
theorem dX8_isFunctionLabel_29 : decode cX8_isFunctionLabel 29 = .ok (.imul, 1) := zdec_at bX8_isFunctionLabel_29 0 rfl
theorem dX8_isFunctionLabel_30 : decode cX8_isFunctionLabel 30 = .ok (.iadd, 1) := zdec_at bX8_isFunctionLabel_29 1 rfl
theorem dX8_isFunctionLabel_31 : decode cX8_isFunctionLabel 31 = .ok (.if_icmp .ge 29, 3) := zdec_at bX8_isFunctionLabel_29 2 rfl
theorem dX8_isFunctionLabel_34 : decode cX8_isFunctionLabel 34 = .ok (.iload_n 1, 1) := zdec_at bX8_isFunctionLabel_29 3 rfl
theorem dX8_isFunctionLabel_35 : decode cX8_isFunctionLabel 35 = .ok (.bipush 29, 2) := zdec_at bX8_isFunctionLabel_29 4 rfl
theorem dX8_isFunctionLabel_37 : decode cX8_isFunctionLabel 37 = .ok (.isub, 1) := zdec_at bX8_isFunctionLabel_29 5 rfl
theorem dX8_isFunctionLabel_38 : decode cX8_isFunctionLabel 38 = .ok (.bipush 6, 2) := zdec_at bX8_isFunctionLabel_29 6 rfl
theorem dX8_isFunctionLabel_40 : decode cX8_isFunctionLabel 40 = .ok (.irem, 1) := zdec_at bX8_isFunctionLabel_29 7 rfl
theorem dX8_isFunctionLabel_41 : decode cX8_isFunctionLabel 41 = .ok (.iconst 2, 1) := zdec_at bX8_isFunctionLabel_29 8 rfl
theorem dX8_isFunctionLabel_42 : decode cX8_isFunctionLabel 42 = .ok (.if_icmp .eq 14, 3) := zdec_at bX8_isFunctionLabel_29 9 rfl
theorem dX8_isFunctionLabel_45 : decode cX8_isFunctionLabel 45 = .ok (.iload_n 1, 1) := zdec_at bX8_isFunctionLabel_29 10 rfl
theorem dX8_isFunctionLabel_46 : decode cX8_isFunctionLabel 46 = .ok (.bipush 29, 2) := zdec_at bX8_isFunctionLabel_29 11 rfl
theorem dX8_isFunctionLabel_48 : decode cX8_isFunctionLabel 48 = .ok (.isub, 1) := zdec_at bX8_isFunctionLabel_29 12 rfl
theorem dX8_isFunctionLabel_49 : decode cX8_isFunctionLabel 49 = .ok (.bipush 6, 2) := zdec_at bX8_isFunctionLabel_29 13 rfl
theorem dX8_isFunctionLabel_51 : decode cX8_isFunctionLabel 51 = .ok (.irem, 1) := zdec_at bX8_isFunctionLabel_29 14 rfl
theorem dX8_isFunctionLabel_52 : decode cX8_isFunctionLabel 52 = .ok (.iconst 3, 1) := zdec_at bX8_isFunctionLabel_29 15 rfl
theorem bX8_isFunctionLabel_53 : zdec cX8_isFunctionLabel 53 [(53, .if_icmp .ne 7, 3), (56, .iconst 1, 1), (57, .goto 4, 3), (60, .iconst 0, 1), (61, .ireturn, 1)] = true := by decide +kernel
theorem dX8_isFunctionLabel_53 : decode cX8_isFunctionLabel 53 = .ok (.if_icmp .ne 7, 3) := zdec_at bX8_isFunctionLabel_53 0 rfl
theorem dX8_isFunctionLabel_56 : decode cX8_isFunctionLabel 56 = .ok (.iconst 1, 1) := zdec_at bX8_isFunctionLabel_53 1 rfl
theorem dX8_isFunctionLabel_57 : decode cX8_isFunctionLabel 57 = .ok (.goto 4, 3) := zdec_at bX8_isFunctionLabel_53 2 rfl
theorem dX8_isFunctionLabel_60 : decode cX8_isFunctionLabel 60 = .ok (.iconst 0, 1) := zdec_at bX8_isFunctionLabel_53 3 rfl
theorem dX8_isFunctionLabel_61 : decode cX8_isFunctionLabel 61 = .ok (.ireturn, 1) := zdec_at bX8_isFunctionLabel_53 4 rfl
theorem sX8_isFunctionLabel_0 {E : zE} {d : Nat} {Q : zO → zM → Prop} (M : zM) (l1 : Int32) (k : if l1 < (9 : Int32) then (Zm E YX8_isFunctionLabel d M [(0, vr (some (97, 1, 0))), (1, vi l1)] 12 [] Q) else (if l1 < (23 : Int32) then (Q (.inl (some (vi (1 : Int32)))) M) else (Zm E YX8_isFunctionLabel d M [(0, vr (some (97, 1, 0))), (1, vi l1)] 12 [] Q))) : Zm E YX8_isFunctionLabel d M [(0, vr (some (97, 1, 0))), (1, vi l1)] 0 [] Q := by
  refine Zm.l (fun _ _ k_ => z_iload_n dX8_isFunctionLabel_0 rfl rfl k_) ?_
  refine Zm.l (fun _ _ k_ => z_bipush (v := 9) dX8_isFunctionLabel_1 rfl k_) ?_
  refine Zm.br (fun _ _ k1_ k2_ => z_icmp_lt (tgt := 12) dX8_isFunctionLabel_3 rfl k1_ k2_) (fun h_ => ?_) (fun h_ => ?_)
  · have k := zit h_ k
    exact k
  · have k := zif h_ k
    refine Zm.l (fun _ _ k_ => z_iload_n dX8_isFunctionLabel_6 rfl rfl k_) ?_
    refine Zm.l (fun _ _ k_ => z_bipush (v := 23) dX8_isFunctionLabel_7 rfl k_) ?_
    refine Zm.br (fun _ _ k1_ k2_ => z_icmp_lt (tgt := 56) dX8_isFunctionLabel_9 rfl k1_ k2_) (fun h_ => ?_) (fun h_ => ?_)
    · have k := zit h_ k
      refine Zm.l (fun _ _ k_ => z_iconst (v := 1) dX8_isFunctionLabel_56 rfl k_) ?_
      refine Zm.l (fun _ _ k_ => z_goto (tgt := 61) dX8_isFunctionLabel_57 rfl k_) ?_
      exact zm_iret dX8_isFunctionLabel_61 rfl (by decide) k
    · have k := zif h_ k
      exact k
theorem sX8_isFunctionLabel_12 {E : zE} {d : Nat} {Q : zO → zM → Prop} (M : zM) (l1 : Int32) (k : if l1 < (29 : Int32) then (Q (.inl (some (vi (0 : Int32)))) M) else (if ((29 : Int32) + ((6 : Int32) * ((gi M 97 32) - (1 : Int32)))) ≤ l1 then (Q (.inl (some (vi (0 : Int32)))) M) else (if ((l1 - (29 : Int32)) - (l1 - (29 : Int32)) / (6 : Int32) * (6 : Int32)) = (2 : Int32) then (Q (.inl (some (vi (1 : Int32)))) M) else (if ((l1 - (29 : Int32)) - (l1 - (29 : Int32)) / (6 : Int32) * (6 : Int32)) = (3 : Int32) then (Q (.inl (some (vi (1 : Int32)))) M) else (Q (.inl (some (vi (0 : Int32)))) M))))) : Zm E YX8_isFunctionLabel d M [(0, vr (some (97, 1, 0))), (1, vi l1)] 12 [] Q := by
  refine Zm.l (fun _ _ k_ => z_iload_n dX8_isFunctionLabel_12 rfl rfl k_) ?_
  refine Zm.l (fun _ _ k_ => z_bipush (v := 29) dX8_isFunctionLabel_13 rfl k_) ?_
  refine Zm.br (fun _ _ k1_ k2_ => z_icmp_lt (tgt := 60) dX8_isFunctionLabel_15 rfl k1_ k2_) (fun h_ => ?_) (fun h_ => ?_)
  · have k := zit h_ k
    refine Zm.l (fun _ _ k_ => z_iconst (v := 0) dX8_isFunctionLabel_60 rfl k_) ?_
    exact zm_iret dX8_isFunctionLabel_61 rfl (by decide) k
  · have k := zif h_ k
    refine Zm.l (fun _ _ k_ => z_iload_n dX8_isFunctionLabel_18 rfl rfl k_) ?_
    refine Zm.l (fun _ _ k_ => z_bipush (v := 29) dX8_isFunctionLabel_19 rfl k_) ?_
    refine Zm.l (fun _ _ k_ => z_bipush (v := 6) dX8_isFunctionLabel_21 rfl k_) ?_
    refine Zm.l (fun _ _ k_ => z_aload_n dX8_isFunctionLabel_23 rfl rfl k_) ?_
    refine zm_geti dX8_isFunctionLabel_24 fsX8_527_1 (by decide) (by decide) ?_
    refine Zm.l (fun _ _ k_ => z_iconst (v := 1) dX8_isFunctionLabel_27 rfl k_) ?_
    refine Zm.l (fun _ _ k_ => z_isub dX8_isFunctionLabel_28 k_) ?_
    refine Zm.l (fun _ _ k_ => z_imul dX8_isFunctionLabel_29 k_) ?_
    refine Zm.l (fun _ _ k_ => z_iadd dX8_isFunctionLabel_30 k_) ?_
    refine Zm.br (fun _ _ k1_ k2_ => z_icmp_ge (tgt := 60) dX8_isFunctionLabel_31 rfl k1_ k2_) (fun h_ => ?_) (fun h_ => ?_)
    · have k := zit h_ k
      refine Zm.l (fun _ _ k_ => z_iconst (v := 0) dX8_isFunctionLabel_60 rfl k_) ?_
      exact zm_iret dX8_isFunctionLabel_61 rfl (by decide) k
    · have k := zif h_ k
      refine Zm.l (fun _ _ k_ => z_iload_n dX8_isFunctionLabel_34 rfl rfl k_) ?_
      refine Zm.l (fun _ _ k_ => z_bipush (v := 29) dX8_isFunctionLabel_35 rfl k_) ?_
      refine Zm.l (fun _ _ k_ => z_isub dX8_isFunctionLabel_37 k_) ?_
      refine Zm.l (fun _ _ k_ => z_bipush (v := 6) dX8_isFunctionLabel_38 rfl k_) ?_
      refine Zm.l (fun _ _ k_ => z_irem dX8_isFunctionLabel_40 (by decide) k_) ?_
      refine Zm.l (fun _ _ k_ => z_iconst (v := 2) dX8_isFunctionLabel_41 rfl k_) ?_
      refine Zm.br (fun _ _ k1_ k2_ => z_icmp_eq (tgt := 56) dX8_isFunctionLabel_42 rfl k1_ k2_) (fun h_ => ?_) (fun h_ => ?_)
      · have k := zit h_ k
        refine Zm.l (fun _ _ k_ => z_iconst (v := 1) dX8_isFunctionLabel_56 rfl k_) ?_
        refine Zm.l (fun _ _ k_ => z_goto (tgt := 61) dX8_isFunctionLabel_57 rfl k_) ?_
        exact zm_iret dX8_isFunctionLabel_61 rfl (by decide) k
      · have k := zif h_ k
        refine Zm.l (fun _ _ k_ => z_iload_n dX8_isFunctionLabel_45 rfl rfl k_) ?_
        refine Zm.l (fun _ _ k_ => z_bipush (v := 29) dX8_isFunctionLabel_46 rfl k_) ?_
        refine Zm.l (fun _ _ k_ => z_isub dX8_isFunctionLabel_48 k_) ?_
        refine Zm.l (fun _ _ k_ => z_bipush (v := 6) dX8_isFunctionLabel_49 rfl k_) ?_
        refine Zm.l (fun _ _ k_ => z_irem dX8_isFunctionLabel_51 (by decide) k_) ?_
        refine Zm.l (fun _ _ k_ => z_iconst (v := 3) dX8_isFunctionLabel_52 rfl k_) ?_
        refine Zm.brn (fun _ _ k1_ k2_ => z_icmp_ne (tgt := 60) dX8_isFunctionLabel_53 rfl k1_ k2_) (fun h_ => ?_) (fun h_ => ?_)
        · have k := zif h_ k
          refine Zm.l (fun _ _ k_ => z_iconst (v := 0) dX8_isFunctionLabel_60 rfl k_) ?_
          exact zm_iret dX8_isFunctionLabel_61 rfl (by decide) k
        · have k := zit h_ k
          refine Zm.l (fun _ _ k_ => z_iconst (v := 1) dX8_isFunctionLabel_56 rfl k_) ?_
          refine Zm.l (fun _ _ k_ => z_goto (tgt := 61) dX8_isFunctionLabel_57 rfl k_) ?_
          exact zm_iret dX8_isFunctionLabel_61 rfl (by decide) k
/-! ScriptTypesModel.replace(II)V -/
theorem bX8_replace_0 : zdec cX8_replace 0 [(0, .aload_n 0, 1), (1, .getfield 235, 3), (4, .sipush 639, 3), (7, .dup2, 1), (8, .iaload, 1), (9, .iload_n 1, 1), (10, .isub, 1), (11, .iastore, 1), (12, .aload_n 0, 1), (13, .iload_n 2, 1), (14, .aload_n 0, 1), (15, .invokevirtual 1201, 3), (18, .invokevirtual 1092, 3), (21, .aload_n 0, 1), (22, .iload_n 2, 1), (23, .invokevirtual 1231, 3)] = true := by decide +kernel
theorem dX8_replace_0 : decode cX8_replace 0 = .ok (.aload_n 0, 1) := zdec_at bX8_replace_0 0 rfl
theorem dX8_replace_1 : decode cX8_replace 1 = .ok (.getfield 235, 3) := zdec_at bX8_replace_0 1 rfl
theorem dX8_replace_4 : decode cX8_replace 4 = .ok (.sipush 639, 3) := zdec_at bX8_replace_0 2 rfl
theorem dX8_replace_7 : decode cX8_replace 7 = .ok (.dup2, 1) := zdec_at bX8_replace_0 3 rfl
theorem dX8_replace_8 : decode cX8_replace 8 = .ok (.iaload, 1) := zdec_at bX8_replace_0 4 rfl
theorem dX8_replace_9 : decode cX8_replace 9 = .ok (.iload_n 1, 1) := zdec_at bX8_replace_0 5 rfl
theorem dX8_replace_10 : decode cX8_replace 10 = .ok (.isub, 1) := zdec_at bX8_replace_0 6 rfl
theorem dX8_replace_11 : decode cX8_replace 11 = .ok (.iastore, 1) := zdec_at bX8_replace_0 7 rfl
theorem dX8_replace_12 : decode cX8_replace 12 = .ok (.aload_n 0, 1) := zdec_at bX8_replace_0 8 rfl
theorem dX8_replace_13 : decode cX8_replace 13 = .ok (.iload_n 2, 1) := zdec_at bX8_replace_0 9 rfl
theorem dX8_replace_14 : decode cX8_replace 14 = .ok (.aload_n 0, 1) := zdec_at bX8_replace_0 10 rfl
theorem dX8_replace_15 : decode cX8_replace 15 = .ok (.invokevirtual 1201, 3) := zdec_at bX8_replace_0 11 rfl
theorem dX8_replace_18 : decode cX8_replace 18 = .ok (.invokevirtual 1092, 3) := zdec_at bX8_replace_0 12 rfl
theorem dX8_replace_21 : decode cX8_replace 21 = .ok (.aload_n 0, 1) := zdec_at bX8_replace_0 13 rfl
theorem dX8_replace_22 : decode cX8_replace 22 = .ok (.iload_n 2, 1) := zdec_at bX8_replace_0 14 rfl
theorem dX8_replace_23 : decode cX8_replace 23 = .ok (.invokevirtual 1231, 3) := zdec_at bX8_replace_0 15 rfl
theorem bX8_replace_26 : zdec cX8_replace 26 [(26, .ifCond .ne 7, 3), (29, .aload_n 0, 1), (30, .invokevirtual 1222, 3), (33, .return_, 1)] = true := by decide +kernel
theorem dX8_replace_26 : decode cX8_replace 26 = .ok (.ifCond .ne 7, 3) := zdec_at bX8_replace_26 0 rfl
theorem dX8_replace_29 : decode cX8_replace 29 = .ok (.aload_n 0, 1) := zdec_at bX8_replace_26 1 rfl
theorem dX8_replace_30 : decode cX8_replace 30 = .ok (.invokevirtual 1222, 3) := zdec_at bX8_replace_26 2 rfl
theorem dX8_replace_33 : decode cX8_replace 33 = .ok (.return_, 1) := zdec_at bX8_replace_26 3 rfl
theorem sX8_replace_0 {E : zE} {d : Nat} {Q : zO → zM → Prop} (M : zM) (l1 : Int32) (l2 : Int32) (k : vp_in (639 : Int32) 640 ∧ (vp_in (639 : Int32) 640 ∧ (Zm E YX8_pushSet d (si M 171 ((639 : Int32)).toNatClampNeg ((gi M 171 ((639 : Int32)).toNatClampNeg) - l1)) (zargs 0 [vr (some (97, 1, 0))]) 0 [] (zma E YX8_replace (d + 1) [(0, vr (some (97, 1, 0))), (2, vi l2)] 15 3 [vi l2, vr (some (97, 1, 0))] Q)))) : Zm E YX8_replace (d + 1) M [(0, vr (some (97, 1, 0))), (1, vi l1), (2, vi l2)] 0 [] Q := by
  refine Zm.l (fun _ _ k_ => z_aload_n dX8_replace_0 rfl rfl k_) ?_
  refine zm_getr 68 dX8_replace_1 fsX8_235_1 rfl ?_
  refine Zm.l (fun _ _ k_ => z_sipush (v := 639) dX8_replace_4 rfl k_) ?_
  refine Zm.l (fun _ _ k_ => z_dup2 dX8_replace_7 rfl rfl k_) ?_
  obtain ⟨b_, k⟩ := k
  refine zm_iald dX8_replace_8 b_ (by decide) (by decide) ?_
  refine Zm.l (fun _ _ k_ => z_iload_n dX8_replace_9 rfl rfl k_) ?_
  refine Zm.l (fun _ _ k_ => z_isub dX8_replace_10 k_) ?_
  obtain ⟨b_, k⟩ := k
  refine zm_iast dX8_replace_11 b_ (by decide) (by decide) ?_
  refine Zm.l (fun _ _ k_ => z_aload_n dX8_replace_12 rfl rfl k_) ?_
  refine Zm.l (fun _ _ k_ => z_iload_n dX8_replace_13 rfl rfl k_) ?_
  refine Zm.l (fun _ _ k_ => z_aload_n dX8_replace_14 rfl rfl k_) ?_
  refine Zm.pick [0, 2] rfl ?_
  exact zm_callV (as := []) (st := [vi l2, vr (some (97, 1, 0))]) dX8_replace_15 vsX8_1201_1 (Nat.le_refl _) (Nat.le_of_ble_eq_true rfl) (Nat.le_of_ble_eq_true rfl) rfl k
theorem sX8_replace_18 {E : zE} {d : Nat} {Q : zO → zM → Prop} (M : zM) (l2 : Int32) (s0 : Int32) (s1 : Int32) (k : Zm E YX8_copySet d M (zargs 0 [vr (some (97, 1, 0)), vi s1, vi s0]) 0 [] (zma E YX8_replace (d + 1) [(0, vr (some (97, 1, 0))), (2, vi l2)] 18 3 [] Q)) : Zm E YX8_replace (d + 1) M [(0, vr (some (97, 1, 0))), (2, vi l2)] 18 [vi s0, vi s1, vr (some (97, 1, 0))] Q := by
  exact zm_callV (as := [vi s1, vi s0]) (st := []) dX8_replace_18 vsX8_1092_1 (Nat.le_refl _) (Nat.le_of_ble_eq_true rfl) (Nat.le_of_ble_eq_true rfl) rfl k
theorem sX8_replace_21 {E : zE} {d : Nat} {Q : zO → zM → Prop} (M : zM) (l2 : Int32) (k : Zm E YX8_isEmpty d M (zargs 0 [vr (some (97, 1, 0)), vi l2]) 0 [] (zma E YX8_replace (d + 1) [(0, vr (some (97, 1, 0)))] 23 3 [] Q)) : Zm E YX8_replace (d + 1) M [(0, vr (some (97, 1, 0))), (2, vi l2)] 21 [] Q := by
  refine Zm.l (fun _ _ k_ => z_aload_n dX8_replace_21 rfl rfl k_) ?_
  refine Zm.l (fun _ _ k_ => z_iload_n dX8_replace_22 rfl rfl k_) ?_
  refine Zm.pick [0] rfl ?_
  exact zm_callV (as := [vi l2]) (st := []) dX8_replace_23 vsX8_1231_1 (Nat.le_refl _) (Nat.le_of_ble_eq_true rfl) (Nat.le_of_ble_eq_true rfl) rfl k
theorem sX8_replace_26 {E : zE} {d : Nat} {Q : zO → zM → Prop} (M : zM) (s0 : Int32) (k : if s0 = 0 then (Zm E YX8_on d M (zargs 0 [vr (some (97, 1, 0))]) 0 [] (zma E YX8_replace (d + 1) [] 30 3 [] Q)) else (Zm E YX8_replace (d + 1) M [] 33 [] Q)) : Zm E YX8_replace (d + 1) M [(0, vr (some (97, 1, 0)))] 26 [vi s0] Q := by
  refine Zm.brn (fun _ _ k1_ k2_ => z_if_ne (tgt := 33) dX8_replace_26 rfl k1_ k2_) (fun h_ => ?_) (fun h_ => ?_)
  · have k := zif h_ k
    refine Zm.pick [] rfl ?_
    exact k
  · have k := zit h_ k
    refine Zm.l (fun _ _ k_ => z_aload_n dX8_replace_29 rfl rfl k_) ?_
    refine Zm.pick [] rfl ?_
    exact zm_callV (as := []) (st := []) dX8_replace_30 vsX8_1222_1 (Nat.le_refl _) (Nat.le_of_ble_eq_true rfl) (Nat.le_of_ble_eq_true rfl) rfl k
theorem sX8_replace_33 {E : zE} {d : Nat} {Q : zO → zM → Prop} (M : zM)  (k : Q (.inl none) M) : Zm E YX8_replace (d + 1) M [] 33 [] Q := by
  exact zm_vret dX8_replace_33 rfl k
/-! ScriptTypesModel.error(II)V -/
theorem bX8_error_2_0 : zdec cX8_error_2 0 [(0, .aload_n 0, 1), (1, .iload_n 1, 1), (2, .invokevirtual 1211, 3), (5, .aload_n 0, 1), (6, .iload_n 2, 1), (7, .invokevirtual 1214, 3), (10, .return_, 1)] = true := by decide +kernel
theorem dX8_error_2_0 : decode cX8_error_2 0 = .ok (.aload_n 0, 1) := zdec_at bX8_error_2_0 0 rfl
theorem dX8_error_2_1 : decode cX8_error_2 1 = .ok (.iload_n 1, 1) := zdec_at bX8_error_2_0 1 rfl
theorem dX8_error_2_2 : decode cX8_error_2 2 = .ok (.invokevirtual 1211, 3) := zdec_at bX8_error_2_0 2 rfl
theorem dX8_error_2_5 : decode cX8_error_2 5 = .ok (.aload_n 0, 1) := zdec_at bX8_error_2_0 3 rfl
theorem dX8_error_2_6 : decode cX8_error_2 6 = .ok (.iload_n 2, 1) := zdec_at bX8_error_2_0 4 rfl
theorem dX8_error_2_7 : decode cX8_error_2 7 = .ok (.invokevirtual 1214, 3) := zdec_at bX8_error_2_0 5 rfl
theorem dX8_error_2_10 : decode cX8_error_2 10 = .ok (.return_, 1) := zdec_at bX8_error_2_0 6 rfl
theorem sX8_error_2_0 {E : zE} {d : Nat} {Q : zO → zM → Prop} (M : zM) (l1 : Int32) (l2 : Int32) (k : Zm E YX8_load d M (zargs 0 [vr (some (97, 1, 0)), vi l1]) 0 [] (zma E YX8_error_2 (d + 1) [(0, vr (some (97, 1, 0))), (2, vi l2)] 2 3 [] Q)) : Zm E YX8_error_2 (d + 1) M [(0, vr (some (97, 1, 0))), (1, vi l1), (2, vi l2)] 0 [] Q := by
  refine Zm.l (fun _ _ k_ => z_aload_n dX8_error_2_0 rfl rfl k_) ?_
  refine Zm.l (fun _ _ k_ => z_iload_n dX8_error_2_1 rfl rfl k_) ?_
  refine Zm.pick [0, 2] rfl ?_
  exact zm_callV (as := [vi l1]) (st := []) dX8_error_2_2 vsX8_1211_1 (Nat.le_refl _) (Nat.le_of_ble_eq_true rfl) (Nat.le_of_ble_eq_true rfl) rfl k
theorem sX8_error_2_5 {E : zE} {d : Nat} {Q : zO → zM → Prop} (M : zM) (l2 : Int32) (k : Zm E YX8_errorNow d M (zargs 0 [vr (some (97, 1, 0)), vi l2]) 0 [] (zma E YX8_error_2 (d + 1) [] 7 3 [] Q)) : Zm E YX8_error_2 (d + 1) M [(0, vr (some (97, 1, 0))), (2, vi l2)] 5 [] Q := by
  refine Zm.l (fun _ _ k_ => z_aload_n dX8_error_2_5 rfl rfl k_) ?_
  refine Zm.l (fun _ _ k_ => z_iload_n dX8_error_2_6 rfl rfl k_) ?_
  refine Zm.pick [] rfl ?_
  exact zm_callV (as := [vi l2]) (st := []) dX8_error_2_7 vsX8_1214_1 (Nat.le_refl _) (Nat.le_of_ble_eq_true rfl) (Nat.le_of_ble_eq_true rfl) rfl k
theorem sX8_error_2_10 {E : zE} {d : Nat} {Q : zO → zM → Prop} (M : zM)  (k : Q (.inl none) M) : Zm E YX8_error_2 (d + 1) M [] 10 [] Q := by
  exact zm_vret dX8_error_2_10 rfl k
/-! ScriptTypesModel.errorNow(I)V -/
theorem bX8_errorNow_0 : zdec cX8_errorNow 0 [(0, .aload_n 0, 1), (1, .iload_n 1, 1), (2, .bipush 20, 2), (4, .iadd, 1), (5, .iload_n 1, 1), (6, .iconst 0, 1), (7, .iconst (-1), 1), (8, .invokevirtual 1204, 3), (11, .ldc_w 1194, 3), (14, .istore_n 2, 1), (15, .aload_n 0, 1), (16, .iload_n 2, 1), (17, .invokevirtual 1066, 3), (20, .aload_n 0, 1), (21, .iload_n 2, 1), (22, .iload_n 1, 1)] = true := by decide +kernel
theorem dX8_errorNow_0 : decode cX8_errorNow 0 = .ok (.aload_n 0, 1) := zdec_at bX8_errorNow_0 0 rfl
theorem dX8_errorNow_1 : decode cX8_errorNow 1 = .ok (.iload_n 1, 1) := zdec_at bX8_errorNow_0 1 rfl
theorem dX8_errorNow_2 : decode cX8_errorNow 2 = .ok (.bipush 20, 2) := zdec_at bX8_errorNow_0 2 rfl
theorem dX8_errorNow_4 : decode cX8_errorNow 4 = .ok (.iadd, 1) := zdec_at bX8_errorNow_0 3 rfl
theorem dX8_errorNow_5 : decode cX8_errorNow 5 = .ok (.iload_n 1, 1) := zdec_at bX8_errorNow_0 4 rfl
theorem dX8_errorNow_6 : decode cX8_errorNow 6 = .ok (.iconst 0, 1) := zdec_at bX8_errorNow_0 5 rfl
theorem dX8_errorNow_7 : decode cX8_errorNow 7 = .ok (.iconst (-1), 1) := zdec_at bX8_errorNow_0 6 rfl
theorem dX8_errorNow_8 : decode cX8_errorNow 8 = .ok (.invokevirtual 1204, 3) := zdec_at bX8_errorNow_0 7 rfl
theorem dX8_errorNow_11 : decode cX8_errorNow 11 = .ok (.ldc_w 1194, 3) := zdec_at bX8_errorNow_0 8 rfl
theorem dX8_errorNow_14 : decode cX8_errorNow 14 = .ok (.istore_n 2, 1) := zdec_at bX8_errorNow_0 9 rfl
theorem dX8_errorNow_15 : decode cX8_errorNow 15 = .ok (.aload_n 0, 1) := zdec_at bX8_errorNow_0 10 rfl
theorem dX8_errorNow_16 : decode cX8_errorNow 16 = .ok (.iload_n 2, 1) := zdec_at bX8_errorNow_0 11 rfl
theorem dX8_errorNow_17 : decode cX8_errorNow 17 = .ok (.invokevirtual 1066, 3) := zdec_at bX8_errorNow_0 12 rfl
theorem dX8_errorNow_20 : decode cX8_errorNow 20 = .ok (.aload_n 0, 1) := zdec_at bX8_errorNow_0 13 rfl
theorem dX8_errorNow_21 : decode cX8_errorNow 21 = .ok (.iload_n 2, 1) := zdec_at bX8_errorNow_0 14 rfl
theorem dX8_errorNow_22 : decode cX8_errorNow 22 = .ok (.iload_n 1, 1) := zdec_at bX8_errorNow_0 15 rfl
theorem bX8_errorNow_23 : zdec cX8_errorNow 23 [(23, .bipush 20, 2), (25, .iadd, 1), (26, .invokevirtual 1081, 3), (29, .aload_n 0, 1), (30, .aload_n 0, 1), (31, .getfield 1208, 3), (34, .iload_n 1, 1), (35, .bipush 6, 2), (37, .if_icmp .ne 7, 3), (40, .iconst 1, 1), (41, .goto 14, 3), (44, .iload_n 1, 1), (45, .bipush 7, 2), (47, .if_icmp .ne 7, 3), (50, .iconst 2, 1), (51, .goto 4, 3)] = true := by decide +kernel
theorem dX8_errorNow_23 : decode cX8_errorNow 23 = .ok (.bipush 20, 2) := zdec_at bX8_errorNow_23 0 rfl
theorem dX8_errorNow_25 : decode cX8_errorNow 25 = .ok (.iadd, 1) := zdec_at bX8_errorNow_23 1 rfl
theorem dX8_errorNow_26 : decode cX8_errorNow 26 = .ok (.invokevirtual 1081, 3) := zdec_at bX8_errorNow_23 2 rfl
theorem dX8_errorNow_29 : decode cX8_errorNow 29 = .ok (.aload_n 0, 1) := zdec_at bX8_errorNow_23 3 rfl
theorem dX8_errorNow_30 : decode cX8_errorNow 30 = .ok (.aload_n 0, 1) := zdec_at bX8_errorNow_23 4 rfl
theorem dX8_errorNow_31 : decode cX8_errorNow 31 = .ok (.getfield 1208, 3) := zdec_at bX8_errorNow_23 5 rfl
theorem dX8_errorNow_34 : decode cX8_errorNow 34 = .ok (.iload_n 1, 1) := zdec_at bX8_errorNow_23 6 rfl
theorem dX8_errorNow_35 : decode cX8_errorNow 35 = .ok (.bipush 6, 2) := zdec_at bX8_errorNow_23 7 rfl
theorem dX8_errorNow_37 : decode cX8_errorNow 37 = .ok (.if_icmp .ne 7, 3) := zdec_at bX8_errorNow_23 8 rfl
theorem dX8_errorNow_40 : decode cX8_errorNow 40 = .ok (.iconst 1, 1) := zdec_at bX8_errorNow_23 9 rfl
theorem dX8_errorNow_41 : decode cX8_errorNow 41 = .ok (.goto 14, 3) := zdec_at bX8_errorNow_23 10 rfl
theorem dX8_errorNow_44 : decode cX8_errorNow 44 = .ok (.iload_n 1, 1) := zdec_at bX8_errorNow_23 11 rfl
theorem dX8_errorNow_45 : decode cX8_errorNow 45 = .ok (.bipush 7, 2) := zdec_at bX8_errorNow_23 12 rfl
theorem dX8_errorNow_47 : decode cX8_errorNow 47 = .ok (.if_icmp .ne 7, 3) := zdec_at bX8_errorNow_23 13 rfl
theorem dX8_errorNow_50 : decode cX8_errorNow 50 = .ok (.iconst 2, 1) := zdec_at bX8_errorNow_23 14 rfl
theorem dX8_errorNow_51 : decode cX8_errorNow 51 = .ok (.goto 4, 3) := zdec_at bX8_errorNow_23 15 rfl
theorem bX8_errorNow_54 : zdec cX8_errorNow 54 [(54, .iconst 0, 1), (55, .ior, 1), (56, .putfield 1208, 3), (59, .aload_n 0, 1), (60, .iload_n 2, 1), (61, .invokevirtual 1198, 3), (64, .return_, 1)] = true := by decide +kernel
theorem dX8_errorNow_54 : decode cX8_errorNow 54 = .ok (.iconst 0, 1) := zdec_at bX8_errorNow_54 0 rfl
theorem dX8_errorNow_55 : decode cX8_errorNow 55 = .ok (.ior, 1) := zdec_at bX8_errorNow_54 1 rfl
theorem dX8_errorNow_56 : decode cX8_errorNow 56 = .ok (.putfield 1208, 3) := zdec_at bX8_errorNow_54 2 rfl
theorem dX8_errorNow_59 : decode cX8_errorNow 59 = .ok (.aload_n 0, 1) := zdec_at bX8_errorNow_54 3 rfl
theorem dX8_errorNow_60 : decode cX8_errorNow 60 = .ok (.iload_n 2, 1) := zdec_at bX8_errorNow_54 4 rfl
theorem dX8_errorNow_61 : decode cX8_errorNow 61 = .ok (.invokevirtual 1198, 3) := zdec_at bX8_errorNow_54 5 rfl
theorem dX8_errorNow_64 : decode cX8_errorNow 64 = .ok (.return_, 1) := zdec_at bX8_errorNow_54 6 rfl
theorem sX8_errorNow_0 {E : zE} {d : Nat} {Q : zO → zM → Prop} (M : zM) (l1 : Int32) (k : Zm E YX8_addNew d M (zargs 0 [vr (some (97, 1, 0)), vi (l1 + (20 : Int32)), vi l1, vi (0 : Int32), vi (-1 : Int32)]) 0 [] (zma E YX8_errorNow (d + 1) [(0, vr (some (97, 1, 0))), (1, vi l1)] 8 3 [] Q)) : Zm E YX8_errorNow (d + 1) M [(0, vr (some (97, 1, 0))), (1, vi l1)] 0 [] Q := by
  refine Zm.l (fun _ _ k_ => z_aload_n dX8_errorNow_0 rfl rfl k_) ?_
  refine Zm.l (fun _ _ k_ => z_iload_n dX8_errorNow_1 rfl rfl k_) ?_
  refine Zm.l (fun _ _ k_ => z_bipush (v := 20) dX8_errorNow_2 rfl k_) ?_
  refine Zm.l (fun _ _ k_ => z_iadd dX8_errorNow_4 k_) ?_
  refine Zm.l (fun _ _ k_ => z_iload_n dX8_errorNow_5 rfl rfl k_) ?_
  refine Zm.l (fun _ _ k_ => z_iconst (v := 0) dX8_errorNow_6 rfl k_) ?_
  refine Zm.l (fun _ _ k_ => z_iconst (v := -1) dX8_errorNow_7 rfl k_) ?_
  exact zm_callV (as := [vi (l1 + (20 : Int32)), vi l1, vi (0 : Int32), vi (-1 : Int32)]) (st := []) dX8_errorNow_8 vsX8_1204_1 (Nat.le_refl _) (Nat.le_of_ble_eq_true rfl) (Nat.le_of_ble_eq_true rfl) rfl k
theorem sX8_errorNow_11 {E : zE} {d : Nat} {Q : zO → zM → Prop} (M : zM) (l1 : Int32) (k : Zm E YX8_empty d M (zargs 0 [vr (some (97, 1, 0)), vi (647792 : Int32)]) 0 [] (zma E YX8_errorNow (d + 1) [(0, vr (some (97, 1, 0))), (1, vi l1), (2, vi (647792 : Int32))] 17 3 [] Q)) : Zm E YX8_errorNow (d + 1) M [(0, vr (some (97, 1, 0))), (1, vi l1)] 11 [] Q := by
  refine Zm.l (fun _ _ k_ => z_ldcw (v := 647792) dX8_errorNow_11 q4998 k_) ?_
  refine Zm.l (fun _ _ k_ => z_ist_n dX8_errorNow_14 rfl (by decide) (lv' := [(0, vr (some (97, 1, 0))), (1, vi l1), (2, vi (647792 : Int32))]) rfl k_) ?_
  refine Zm.l (fun _ _ k_ => z_aload_n dX8_errorNow_15 rfl rfl k_) ?_
  refine Zm.l (fun _ _ k_ => z_iload_n dX8_errorNow_16 rfl rfl k_) ?_
  exact zm_callV (as := [vi (647792 : Int32)]) (st := []) dX8_errorNow_17 vsX8_1066_1 (Nat.le_refl _) (Nat.le_of_ble_eq_true rfl) (Nat.le_of_ble_eq_true rfl) rfl k
theorem sX8_errorNow_20 {E : zE} {d : Nat} {Q : zO → zM → Prop} (M : zM) (l1 : Int32) (l2 : Int32) (k : Zm E YX8_addLabel d M (zargs 0 [vr (some (97, 1, 0)), vi l2, vi (l1 + (20 : Int32))]) 0 [] (zma E YX8_errorNow (d + 1) [(0, vr (some (97, 1, 0))), (1, vi l1), (2, vi l2)] 26 3 [] Q)) : Zm E YX8_errorNow (d + 1) M [(0, vr (some (97, 1, 0))), (1, vi l1), (2, vi l2)] 20 [] Q := by
  refine Zm.l (fun _ _ k_ => z_aload_n dX8_errorNow_20 rfl rfl k_) ?_
  refine Zm.l (fun _ _ k_ => z_iload_n dX8_errorNow_21 rfl rfl k_) ?_
  refine Zm.l (fun _ _ k_ => z_iload_n dX8_errorNow_22 rfl rfl k_) ?_
  refine Zm.l (fun _ _ k_ => z_bipush (v := 20) dX8_errorNow_23 rfl k_) ?_
  refine Zm.l (fun _ _ k_ => z_iadd dX8_errorNow_25 k_) ?_
  exact zm_callV (as := [vi l2, vi (l1 + (20 : Int32))]) (st := []) dX8_errorNow_26 vsX8_1081_1 (Nat.le_refl _) (Nat.le_of_ble_eq_true rfl) (Nat.le_of_ble_eq_true rfl) rfl k
theorem sX8_errorNow_29 {E : zE} {d : Nat} {Q : zO → zM → Prop} (M : zM) (l1 : Int32) (l2 : Int32) (k : if l1 = (6 : Int32) then (Zm E YX8_tossSet d (si M 97 149 ((gi M 97 149) ||| (1 : Int32))) (zargs 0 [vr (some (97, 1, 0)), vi l2]) 0 [] (zma E YX8_errorNow (d + 1) [] 61 3 [] Q)) else (if l1 = (7 : Int32) then (Zm E YX8_tossSet d (si M 97 149 ((gi M 97 149) ||| (2 : Int32))) (zargs 0 [vr (some (97, 1, 0)), vi l2]) 0 [] (zma E YX8_errorNow (d + 1) [] 61 3 [] Q)) else (Zm E YX8_tossSet d (si M 97 149 ((gi M 97 149) ||| (0 : Int32))) (zargs 0 [vr (some (97, 1, 0)), vi l2]) 0 [] (zma E YX8_errorNow (d + 1) [] 61 3 [] Q)))) : Zm E YX8_errorNow (d + 1) M [(0, vr (some (97, 1, 0))), (1, vi l1), (2, vi l2)] 29 [] Q := by
  refine Zm.l (fun _ _ k_ => z_aload_n dX8_errorNow_29 rfl rfl k_) ?_
  refine Zm.l (fun _ _ k_ => z_aload_n dX8_errorNow_30 rfl rfl k_) ?_
  refine zm_geti dX8_errorNow_31 fsX8_1208_1 (by decide) (by decide) ?_
  refine Zm.l (fun _ _ k_ => z_iload_n dX8_errorNow_34 rfl rfl k_) ?_
  refine Zm.l (fun _ _ k_ => z_bipush (v := 6) dX8_errorNow_35 rfl k_) ?_
  refine Zm.brn (fun _ _ k1_ k2_ => z_icmp_ne (tgt := 44) dX8_errorNow_37 rfl k1_ k2_) (fun h_ => ?_) (fun h_ => ?_)
  · have k := zif h_ k
    refine Zm.l (fun _ _ k_ => z_iload_n dX8_errorNow_44 rfl rfl k_) ?_
    refine Zm.l (fun _ _ k_ => z_bipush (v := 7) dX8_errorNow_45 rfl k_) ?_
    refine Zm.brn (fun _ _ k1_ k2_ => z_icmp_ne (tgt := 54) dX8_errorNow_47 rfl k1_ k2_) (fun h_ => ?_) (fun h_ => ?_)
    · have k := zif h_ k
      refine Zm.l (fun _ _ k_ => z_iconst (v := 0) dX8_errorNow_54 rfl k_) ?_
      refine Zm.l (fun _ _ k_ => z_ior dX8_errorNow_55 k_) ?_
      refine zm_puti (by decide) (by decide) dX8_errorNow_56 (zfwN.w fwX8_1208_1) rfl ⟨rfl, rfl⟩ ?_
      refine Zm.l (fun _ _ k_ => z_aload_n dX8_errorNow_59 rfl rfl k_) ?_
      refine Zm.l (fun _ _ k_ => z_iload_n dX8_errorNow_60 rfl rfl k_) ?_
      refine Zm.pick [] rfl ?_
      exact zm_callV (as := [vi l2]) (st := []) dX8_errorNow_61 vsX8_1198_1 (Nat.le_refl _) (Nat.le_of_ble_eq_true rfl) (Nat.le_of_ble_eq_true rfl) rfl k
    · have k := zit h_ k
      refine Zm.l (fun _ _ k_ => z_iconst (v := 2) dX8_errorNow_50 rfl k_) ?_
      refine Zm.l (fun _ _ k_ => z_goto (tgt := 55) dX8_errorNow_51 rfl k_) ?_
      refine Zm.l (fun _ _ k_ => z_ior dX8_errorNow_55 k_) ?_
      refine zm_puti (by decide) (by decide) dX8_errorNow_56 (zfwN.w fwX8_1208_1) rfl ⟨rfl, rfl⟩ ?_
      refine Zm.l (fun _ _ k_ => z_aload_n dX8_errorNow_59 rfl rfl k_) ?_
      refine Zm.l (fun _ _ k_ => z_iload_n dX8_errorNow_60 rfl rfl k_) ?_
      refine Zm.pick [] rfl ?_
      exact zm_callV (as := [vi l2]) (st := []) dX8_errorNow_61 vsX8_1198_1 (Nat.le_refl _) (Nat.le_of_ble_eq_true rfl) (Nat.le_of_ble_eq_true rfl) rfl k
  · have k := zit h_ k
    refine Zm.l (fun _ _ k_ => z_iconst (v := 1) dX8_errorNow_40 rfl k_) ?_
    refine Zm.l (fun _ _ k_ => z_goto (tgt := 55) dX8_errorNow_41 rfl k_) ?_
    refine Zm.l (fun _ _ k_ => z_ior dX8_errorNow_55 k_) ?_
    refine zm_puti (by decide) (by decide) dX8_errorNow_56 (zfwN.w fwX8_1208_1) rfl ⟨rfl, rfl⟩ ?_
    refine Zm.l (fun _ _ k_ => z_aload_n dX8_errorNow_59 rfl rfl k_) ?_
    refine Zm.l (fun _ _ k_ => z_iload_n dX8_errorNow_60 rfl rfl k_) ?_
    refine Zm.pick [] rfl ?_
    exact zm_callV (as := [vi l2]) (st := []) dX8_errorNow_61 vsX8_1198_1 (Nat.le_refl _) (Nat.le_of_ble_eq_true rfl) (Nat.le_of_ble_eq_true rfl) rfl k
theorem sX8_errorNow_64 {E : zE} {d : Nat} {Q : zO → zM → Prop} (M : zM)  (k : Q (.inl none) M) : Zm E YX8_errorNow (d + 1) M [] 64 [] Q := by
  exact zm_vret dX8_errorNow_64 rfl k
/-! ScriptTypesModel.addNew(IIZI)V -/
theorem bX8_addNew_0 : zdec cX8_addNew 0 [(0, .aload_n 0, 1), (1, .sipush 639, 3), (4, .iload_n 1, 1), (5, .invokevirtual 1101, 3), (8, .istore 5, 2), (10, .aload_n 0, 1), (11, .getfield 256, 3), (14, .iload 5, 2), (16, .iconst 1, 1), (17, .bastore, 1), (18, .aload_n 0, 1), (19, .getfield 262, 3), (22, .iload 5, 2), (24, .aload_n 0, 1), (25, .getfield 262, 3), (28, .iload 5, 2)] = true := by decide +kernel
theorem dX8_addNew_0 : decode cX8_addNew 0 = .ok (.aload_n 0, 1) := zdec_at bX8_addNew_0 0 rfl
theorem dX8_addNew_1 : decode cX8_addNew 1 = .ok (.sipush 639, 3) := zdec_at bX8_addNew_0 1 rfl
theorem dX8_addNew_4 : decode cX8_addNew 4 = .ok (.iload_n 1, 1) := zdec_at bX8_addNew_0 2 rfl
theorem dX8_addNew_5 : decode cX8_addNew 5 = .ok (.invokevirtual 1101, 3) := zdec_at bX8_addNew_0 3 rfl
theorem dX8_addNew_8 : decode cX8_addNew 8 = .ok (.istore 5, 2) := zdec_at bX8_addNew_0 4 rfl
theorem dX8_addNew_10 : decode cX8_addNew 10 = .ok (.aload_n 0, 1) := zdec_at bX8_addNew_0 5 rfl
theorem dX8_addNew_11 : decode cX8_addNew 11 = .ok (.getfield 256, 3) := zdec_at bX8_addNew_0 6 rfl
theorem dX8_addNew_14 : decode cX8_addNew 14 = .ok (.iload 5, 2) := zdec_at bX8_addNew_0 7 rfl
theorem dX8_addNew_16 : decode cX8_addNew 16 = .ok (.iconst 1, 1) := zdec_at bX8_addNew_0 8 rfl
theorem dX8_addNew_17 : decode cX8_addNew 17 = .ok (.bastore, 1) := zdec_at bX8_addNew_0 9 rfl
theorem dX8_addNew_18 : decode cX8_addNew 18 = .ok (.aload_n 0, 1) := zdec_at bX8_addNew_0 10 rfl
theorem dX8_addNew_19 : decode cX8_addNew 19 = .ok (.getfield 262, 3) := zdec_at bX8_addNew_0 11 rfl
theorem dX8_addNew_22 : decode cX8_addNew 22 = .ok (.iload 5, 2) := zdec_at bX8_addNew_0 12 rfl
theorem dX8_addNew_24 : decode cX8_addNew 24 = .ok (.aload_n 0, 1) := zdec_at bX8_addNew_0 13 rfl
theorem dX8_addNew_25 : decode cX8_addNew 25 = .ok (.getfield 262, 3) := zdec_at bX8_addNew_0 14 rfl
theorem dX8_addNew_28 : decode cX8_addNew 28 = .ok (.iload 5, 2) := zdec_at bX8_addNew_0 15 rfl
theorem bX8_addNew_30 : zdec cX8_addNew 30 [(30, .laload, 1), (31, .lconst 1, 1), (32, .iload_n 2, 1), (33, .lshl, 1), (34, .lor, 1), (35, .lastore, 1), (36, .iconst 0, 1), (37, .istore 6, 2), (39, .iload 6, 2), (41, .aload_n 0, 1), (42, .getfield 762, 3), (45, .if_icmp .gt 72, 3), (48, .aload_n 0, 1), (49, .sipush 639, 3), (52, .iload_n 1, 1), (53, .iload 6, 2)] = true := by decide +kernel
theorem dX8_addNew_30 : decode cX8_addNew 30 = .ok (.laload, 1) := zdec_at bX8_addNew_30 0 rfl
theorem dX8_addNew_31 : decode cX8_addNew 31 = .ok (.lconst 1, 1) := zdec_at bX8_addNew_30 1 rfl
theorem dX8_addNew_32 : decode cX8_addNew 32 = .ok (.iload_n 2, 1) := zdec_at bX8_addNew_30 2 rfl
theorem dX8_addNew_33 : decode cX8_addNew 33 = .ok (.lshl, 1) := zdec_at bX8_addNew_30 3 rfl
theorem dX8_addNew_34 : decode cX8_addNew 34 = .ok (.lor, 1) := zdec_at bX8_addNew_30 4 rfl
theorem dX8_addNew_35 : decode cX8_addNew 35 = .ok (.lastore, 1) := zdec_at bX8_addNew_30 5 rfl
theorem dX8_addNew_36 : decode cX8_addNew 36 = .ok (.iconst 0, 1) := zdec_at bX8_addNew_30 6 rfl
theorem dX8_addNew_37 : decode cX8_addNew 37 = .ok (.istore 6, 2) := zdec_at bX8_addNew_30 7 rfl
theorem dX8_addNew_39 : decode cX8_addNew 39 = .ok (.iload 6, 2) := zdec_at bX8_addNew_30 8 rfl
theorem dX8_addNew_41 : decode cX8_addNew 41 = .ok (.aload_n 0, 1) := zdec_at bX8_addNew_30 9 rfl
theorem dX8_addNew_42 : decode cX8_addNew 42 = .ok (.getfield 762, 3) := zdec_at bX8_addNew_30 10 rfl
theorem dX8_addNew_45 : decode cX8_addNew 45 = .ok (.if_icmp .gt 72, 3) := zdec_at bX8_addNew_30 11 rfl
theorem dX8_addNew_48 : decode cX8_addNew 48 = .ok (.aload_n 0, 1) := zdec_at bX8_addNew_30 12 rfl
theorem dX8_addNew_49 : decode cX8_addNew 49 = .ok (.sipush 639, 3) := zdec_at bX8_addNew_30 13 rfl
theorem dX8_addNew_52 : decode cX8_addNew 52 = .ok (.iload_n 1, 1) := zdec_at bX8_addNew_30 14 rfl
theorem dX8_addNew_53 : decode cX8_addNew 53 = .ok (.iload 6, 2) := zdec_at bX8_addNew_30 15 rfl
theorem bX8_addNew_55 : zdec cX8_addNew 55 [(55, .invokevirtual 1163, 3), (58, .istore 7, 2), (60, .iload_n 3, 1), (61, .ifCond .eq 18, 3), (64, .iload 6, 2), (66, .ifCond .ne 13, 3), (69, .aload_n 0, 1), (70, .iload 7, 2), (72, .iconst 0, 1), (73, .invokevirtual 1075, 3), (76, .goto 35, 3), (79, .iload 4, 2), (81, .iconst (-1), 1), (82, .if_icmp .eq 20, 3), (85, .iload 6, 2), (87, .iconst 3, 1)] = true := by decide +kernel
theorem dX8_addNew_55 : decode cX8_addNew 55 = .ok (.invokevirtual 1163, 3) := zdec_at bX8_addNew_55 0 rfl
theorem dX8_addNew_58 : decode cX8_addNew 58 = .ok (.istore 7, 2) := zdec_at bX8_addNew_55 1 rfl
theorem dX8_addNew_60 : decode cX8_addNew 60 = .ok (.iload_n 3, 1) := zdec_at bX8_addNew_55 2 rfl
theorem dX8_addNew_61 : decode cX8_addNew 61 = .ok (.ifCond .eq 18, 3) := zdec_at bX8_addNew_55 3 rfl
theorem dX8_addNew_64 : decode cX8_addNew 64 = .ok (.iload 6, 2) := zdec_at bX8_addNew_55 4 rfl
theorem dX8_addNew_66 : decode cX8_addNew 66 = .ok (.ifCond .ne 13, 3) := zdec_at bX8_addNew_55 5 rfl
theorem dX8_addNew_69 : decode cX8_addNew 69 = .ok (.aload_n 0, 1) := zdec_at bX8_addNew_55 6 rfl
theorem dX8_addNew_70 : decode cX8_addNew 70 = .ok (.iload 7, 2) := zdec_at bX8_addNew_55 7 rfl
theorem dX8_addNew_72 : decode cX8_addNew 72 = .ok (.iconst 0, 1) := zdec_at bX8_addNew_55 8 rfl
theorem dX8_addNew_73 : decode cX8_addNew 73 = .ok (.invokevirtual 1075, 3) := zdec_at bX8_addNew_55 9 rfl
theorem dX8_addNew_76 : decode cX8_addNew 76 = .ok (.goto 35, 3) := zdec_at bX8_addNew_55 10 rfl
theorem dX8_addNew_79 : decode cX8_addNew 79 = .ok (.iload 4, 2) := zdec_at bX8_addNew_55 11 rfl
theorem dX8_addNew_81 : decode cX8_addNew 81 = .ok (.iconst (-1), 1) := zdec_at bX8_addNew_55 12 rfl
theorem dX8_addNew_82 : decode cX8_addNew 82 = .ok (.if_icmp .eq 20, 3) := zdec_at bX8_addNew_55 13 rfl
theorem dX8_addNew_85 : decode cX8_addNew 85 = .ok (.iload 6, 2) := zdec_at bX8_addNew_55 14 rfl
theorem dX8_addNew_87 : decode cX8_addNew 87 = .ok (.iconst 3, 1) := zdec_at bX8_addNew_55 15 rfl
theorem bX8_addNew_88 : zdec cX8_addNew 88 [(88, .if_icmp .ne 14, 3), (91, .aload_n 0, 1), (92, .iload 4, 2), (94, .iload 7, 2), (96, .invokevirtual 1172, 3), (99, .goto 12, 3), (102, .aload_n 0, 1), (103, .iload 7, 2), (105, .sipush 512, 3), (108, .invokevirtual 1072, 3), (111, .iinc 6 1, 3), (114, .goto (-75), 3), (117, .return_, 1)] = true := by decide +kernel
theorem dX8_addNew_88 : decode cX8_addNew 88 = .ok (.if_icmp .ne 14, 3) := zdec_at bX8_addNew_88 0 rfl
theorem dX8_addNew_91 : decode cX8_addNew 91 = .ok (.aload_n 0, 1) := zdec_at bX8_addNew_88 1 rfl
theorem dX8_addNew_92 : decode cX8_addNew 92 = .ok (.iload 4, 2) := zdec_at bX8_addNew_88 2 rfl
theorem dX8_addNew_94 : decode cX8_addNew 94 = .ok (.iload 7, 2) := zdec_at bX8_addNew_88 3 rfl
theorem dX8_addNew_96 : decode cX8_addNew 96 = .ok (.invokevirtual 1172, 3) := zdec_at bX8_addNew_88 4 rfl
theorem dX8_addNew_99 : decode cX8_addNew 99 = .ok (.goto 12, 3) := zdec_at bX8_addNew_88 5 rfl
theorem dX8_addNew_102 : decode cX8_addNew 102 = .ok (.aload_n 0, 1) := zdec_at bX8_addNew_88 6 rfl
theorem dX8_addNew_103 : decode cX8_addNew 103 = .ok (.iload 7, 2) := zdec_at bX8_addNew_88 7 rfl
theorem dX8_addNew_105 : decode cX8_addNew 105 = .ok (.sipush 512, 3) := zdec_at bX8_addNew_88 8 rfl
theorem dX8_addNew_108 : decode cX8_addNew 108 = .ok (.invokevirtual 1072, 3) := zdec_at bX8_addNew_88 9 rfl
theorem dX8_addNew_111 : decode cX8_addNew 111 = .ok (.iinc 6 1, 3) := zdec_at bX8_addNew_88 10 rfl
theorem dX8_addNew_114 : decode cX8_addNew 114 = .ok (.goto (-75), 3) := zdec_at bX8_addNew_88 11 rfl
theorem dX8_addNew_117 : decode cX8_addNew 117 = .ok (.return_, 1) := zdec_at bX8_addNew_88 12 rfl
theorem sX8_addNew_0 {E : zE} {d : Nat} {Q : zO → zM → Prop} (M : zM) (l1 : Int32) (l2 : Int32) (l3 : Int32) (l4 : Int32) (k : Zm E YX8_of d M (zargs 0 [vr (some (97, 1, 0)), vi (639 : Int32), vi l1]) 0 [] (zma E YX8_addNew (d + 1) [(0, vr (some (97, 1, 0))), (1, vi l1), (2, vi l2), (3, vi l3), (4, vi l4)] 5 3 [] Q)) : Zm E YX8_addNew (d + 1) M [(0, vr (some (97, 1, 0))), (1, vi l1), (2, vi l2), (3, vi l3), (4, vi l4)] 0 [] Q := by
  refine Zm.l (fun _ _ k_ => z_aload_n dX8_addNew_0 rfl rfl k_) ?_
  refine Zm.l (fun _ _ k_ => z_sipush (v := 639) dX8_addNew_1 rfl k_) ?_
  refine Zm.l (fun _ _ k_ => z_iload_n dX8_addNew_4 rfl rfl k_) ?_
  exact zm_callV (as := [vi (639 : Int32), vi l1]) (st := []) dX8_addNew_5 vsX8_1101_1 (Nat.le_refl _) (Nat.le_of_ble_eq_true rfl) (Nat.le_of_ble_eq_true rfl) rfl k
theorem sX8_addNew_8 {E : zE} {d : Nat} {Q : zO → zM → Prop} (M : zM) (l1 : Int32) (l2 : Int32) (l3 : Int32) (l4 : Int32) (s0 : Int32) (k : vp_in s0 15128 ∧ (vp_in s0 15128 ∧ (vp_in s0 15128 ∧ (Zm E YX8_addNew (d + 1) (sl (si M 178 (s0).toNatClampNeg (vp_nar .boolean (1 : Int32))) 180 (s0).toNatClampNeg ((gl M 180 (s0).toNatClampNeg) ||| (zls (1 : Int64) l2))) [(0, vr (some (97, 1, 0))), (1, vi l1), (3, vi l3), (4, vi l4), (6, vi (0 : Int32))] 39 [] Q)))) : Zm E YX8_addNew (d + 1) M [(0, vr (some (97, 1, 0))), (1, vi l1), (2, vi l2), (3, vi l3), (4, vi l4)] 8 [vi s0] Q := by
  refine Zm.l (fun _ _ k_ => z_ist dX8_addNew_8 (by decide) (lv' := [(0, vr (some (97, 1, 0))), (1, vi l1), (2, vi l2), (3, vi l3), (4, vi l4), (5, vi s0)]) rfl k_) ?_
  refine Zm.l (fun _ _ k_ => z_aload_n dX8_addNew_10 rfl rfl k_) ?_
  refine zm_getr 75 dX8_addNew_11 fsX8_256_1 rfl ?_
  refine Zm.l (fun _ _ k_ => z_iload dX8_addNew_14 rfl k_) ?_
  refine Zm.l (fun _ _ k_ => z_iconst (v := 1) dX8_addNew_16 rfl k_) ?_
  obtain ⟨b_, k⟩ := k
  refine zm_zast dX8_addNew_17 b_ (by decide) (by decide) ?_
  refine Zm.l (fun _ _ k_ => z_aload_n dX8_addNew_18 rfl rfl k_) ?_
  refine zm_getr 77 dX8_addNew_19 fsX8_262_1 rfl ?_
  refine Zm.l (fun _ _ k_ => z_iload dX8_addNew_22 rfl k_) ?_
  refine Zm.l (fun _ _ k_ => z_aload_n dX8_addNew_24 rfl rfl k_) ?_
  refine zm_getr 77 dX8_addNew_25 fsX8_262_1 rfl ?_
  refine Zm.l (fun _ _ k_ => z_iload dX8_addNew_28 rfl k_) ?_
  obtain ⟨b_, k⟩ := k
  refine zm_lald dX8_addNew_30 b_ (by decide) (by decide) ?_
  refine Zm.l (fun _ _ k_ => z_lconst (v := 1) dX8_addNew_31 rfl k_) ?_
  refine Zm.l (fun _ _ k_ => z_iload_n dX8_addNew_32 rfl rfl k_) ?_
  refine Zm.l (fun _ _ k_ => z_lshl dX8_addNew_33 k_) ?_
  refine Zm.l (fun _ _ k_ => z_lor dX8_addNew_34 k_) ?_
  obtain ⟨b_, k⟩ := k
  refine zm_last dX8_addNew_35 b_ (by decide) (by decide) ?_
  refine Zm.l (fun _ _ k_ => z_iconst (v := 0) dX8_addNew_36 rfl k_) ?_
  refine Zm.l (fun _ _ k_ => z_ist dX8_addNew_37 (by decide) (lv' := [(0, vr (some (97, 1, 0))), (1, vi l1), (2, vi l2), (3, vi l3), (4, vi l4), (5, vi s0), (6, vi (0 : Int32))]) rfl k_) ?_
  refine Zm.pick [0, 1, 3, 4, 6] rfl ?_
  exact k
theorem sX8_addNew_39 {E : zE} {d : Nat} {Q : zO → zM → Prop} (M : zM) (l1 : Int32) (l3 : Int32) (l4 : Int32) (l6 : Int32) (k : if (gi M 97 8) < l6 then (Q (.inl none) M) else (Zm E YX8_field d M (zargs 0 [vr (some (97, 1, 0)), vi (639 : Int32), vi l1, vi l6]) 0 [] (zma E YX8_addNew (d + 1) [(0, vr (some (97, 1, 0))), (1, vi l1), (3, vi l3), (4, vi l4), (6, vi l6)] 55 3 [] Q))) : Zm E YX8_addNew (d + 1) M [(0, vr (some (97, 1, 0))), (1, vi l1), (3, vi l3), (4, vi l4), (6, vi l6)] 39 [] Q := by
  refine Zm.l (fun _ _ k_ => z_iload dX8_addNew_39 rfl k_) ?_
  refine Zm.l (fun _ _ k_ => z_aload_n dX8_addNew_41 rfl rfl k_) ?_
  refine zm_geti dX8_addNew_42 fsX8_762_1 (by decide) (by decide) ?_
  refine Zm.br (fun _ _ k1_ k2_ => z_icmp_gt (tgt := 117) dX8_addNew_45 rfl k1_ k2_) (fun h_ => ?_) (fun h_ => ?_)
  · have k := zit h_ k
    exact zm_vret dX8_addNew_117 rfl k
  · have k := zif h_ k
    refine Zm.l (fun _ _ k_ => z_aload_n dX8_addNew_48 rfl rfl k_) ?_
    refine Zm.l (fun _ _ k_ => z_sipush (v := 639) dX8_addNew_49 rfl k_) ?_
    refine Zm.l (fun _ _ k_ => z_iload_n dX8_addNew_52 rfl rfl k_) ?_
    refine Zm.l (fun _ _ k_ => z_iload dX8_addNew_53 rfl k_) ?_
    exact zm_callV (as := [vi (639 : Int32), vi l1, vi l6]) (st := []) dX8_addNew_55 vsX8_1163_1 (Nat.le_refl _) (Nat.le_of_ble_eq_true rfl) (Nat.le_of_ble_eq_true rfl) rfl k
theorem sX8_addNew_58 {E : zE} {d : Nat} {Q : zO → zM → Prop} (M : zM) (l1 : Int32) (l3 : Int32) (l4 : Int32) (l6 : Int32) (s0 : Int32) (k : if l3 = 0 then (Zm E YX8_addNew (d + 1) M [(0, vr (some (97, 1, 0))), (1, vi l1), (3, vi l3), (4, vi l4), (6, vi l6), (7, vi s0)] 79 [] Q) else (if l6 = 0 then (Zm E YX8_addNumber d M (zargs 0 [vr (some (97, 1, 0)), vi s0, vi (0 : Int32)]) 0 [] (zma E YX8_addNew (d + 1) [(0, vr (some (97, 1, 0))), (1, vi l1), (3, vi l3), (4, vi l4), (6, vi l6)] 73 3 [] Q)) else (Zm E YX8_addNew (d + 1) M [(0, vr (some (97, 1, 0))), (1, vi l1), (3, vi l3), (4, vi l4), (6, vi l6), (7, vi s0)] 79 [] Q))) : Zm E YX8_addNew (d + 1) M [(0, vr (some (97, 1, 0))), (1, vi l1), (3, vi l3), (4, vi l4), (6, vi l6)] 58 [vi s0] Q := by
  refine Zm.l (fun _ _ k_ => z_ist dX8_addNew_58 (by decide) (lv' := [(0, vr (some (97, 1, 0))), (1, vi l1), (3, vi l3), (4, vi l4), (6, vi l6), (7, vi s0)]) rfl k_) ?_
  refine Zm.l (fun _ _ k_ => z_iload_n dX8_addNew_60 rfl rfl k_) ?_
  refine Zm.br (fun _ _ k1_ k2_ => z_if_eq (tgt := 79) dX8_addNew_61 rfl k1_ k2_) (fun h_ => ?_) (fun h_ => ?_)
  · have k := zit h_ k
    exact k
  · have k := zif h_ k
    refine Zm.l (fun _ _ k_ => z_iload dX8_addNew_64 rfl k_) ?_
    refine Zm.brn (fun _ _ k1_ k2_ => z_if_ne (tgt := 79) dX8_addNew_66 rfl k1_ k2_) (fun h_ => ?_) (fun h_ => ?_)
    · have k := zif h_ k
      exact k
    · have k := zit h_ k
      refine Zm.l (fun _ _ k_ => z_aload_n dX8_addNew_69 rfl rfl k_) ?_
      refine Zm.l (fun _ _ k_ => z_iload dX8_addNew_70 rfl k_) ?_
      refine Zm.l (fun _ _ k_ => z_iconst (v := 0) dX8_addNew_72 rfl k_) ?_
      refine Zm.pick [0, 1, 2, 3, 4] rfl ?_
      exact zm_callV (as := [vi s0, vi (0 : Int32)]) (st := []) dX8_addNew_73 vsX8_1075_1 (Nat.le_refl _) (Nat.le_of_ble_eq_true rfl) (Nat.le_of_ble_eq_true rfl) rfl k
theorem sX8_addNew_76 {E : zE} {d : Nat} {Q : zO → zM → Prop} (M : zM) (l1 : Int32) (l3 : Int32) (l4 : Int32) (l6 : Int32) (k : Zm E YX8_addNew (d + 1) M [(0, vr (some (97, 1, 0))), (1, vi l1), (3, vi l3), (4, vi l4), (6, vi l6)] 111 [] Q) : Zm E YX8_addNew (d + 1) M [(0, vr (some (97, 1, 0))), (1, vi l1), (3, vi l3), (4, vi l4), (6, vi l6)] 76 [] Q := by
  refine Zm.l (fun _ _ k_ => z_goto (tgt := 111) dX8_addNew_76 rfl k_) ?_
  exact k
theorem sX8_addNew_79 {E : zE} {d : Nat} {Q : zO → zM → Prop} (M : zM) (l1 : Int32) (l3 : Int32) (l4 : Int32) (l6 : Int32) (l7 : Int32) (k : if l4 = (-1 : Int32) then (Zm E YX8_addSort d M (zargs 0 [vr (some (97, 1, 0)), vi l7, vi (512 : Int32)]) 0 [] (zma E YX8_addNew (d + 1) [(0, vr (some (97, 1, 0))), (1, vi l1), (3, vi l3), (4, vi l4), (6, vi l6)] 108 3 [] Q)) else (if l6 = (3 : Int32) then (Zm E YX8_addTextOf d M (zargs 0 [vr (some (97, 1, 0)), vi l4, vi l7]) 0 [] (zma E YX8_addNew (d + 1) [(0, vr (some (97, 1, 0))), (1, vi l1), (3, vi l3), (4, vi l4), (6, vi l6)] 96 3 [] Q)) else (Zm E YX8_addSort d M (zargs 0 [vr (some (97, 1, 0)), vi l7, vi (512 : Int32)]) 0 [] (zma E YX8_addNew (d + 1) [(0, vr (some (97, 1, 0))), (1, vi l1), (3, vi l3), (4, vi l4), (6, vi l6)] 108 3 [] Q)))) : Zm E YX8_addNew (d + 1) M [(0, vr (some (97, 1, 0))), (1, vi l1), (3, vi l3), (4, vi l4), (6, vi l6), (7, vi l7)] 79 [] Q := by
  refine Zm.l (fun _ _ k_ => z_iload dX8_addNew_79 rfl k_) ?_
  refine Zm.l (fun _ _ k_ => z_iconst (v := -1) dX8_addNew_81 rfl k_) ?_
  refine Zm.br (fun _ _ k1_ k2_ => z_icmp_eq (tgt := 102) dX8_addNew_82 rfl k1_ k2_) (fun h_ => ?_) (fun h_ => ?_)
  · have k := zit h_ k
    refine Zm.l (fun _ _ k_ => z_aload_n dX8_addNew_102 rfl rfl k_) ?_
    refine Zm.l (fun _ _ k_ => z_iload dX8_addNew_103 rfl k_) ?_
    refine Zm.l (fun _ _ k_ => z_sipush (v := 512) dX8_addNew_105 rfl k_) ?_
    refine Zm.pick [0, 1, 2, 3, 4] rfl ?_
    exact zm_callV (as := [vi l7, vi (512 : Int32)]) (st := []) dX8_addNew_108 vsX8_1072_1 (Nat.le_refl _) (Nat.le_of_ble_eq_true rfl) (Nat.le_of_ble_eq_true rfl) rfl k
  · have k := zif h_ k
    refine Zm.l (fun _ _ k_ => z_iload dX8_addNew_85 rfl k_) ?_
    refine Zm.l (fun _ _ k_ => z_iconst (v := 3) dX8_addNew_87 rfl k_) ?_
    refine Zm.brn (fun _ _ k1_ k2_ => z_icmp_ne (tgt := 102) dX8_addNew_88 rfl k1_ k2_) (fun h_ => ?_) (fun h_ => ?_)
    · have k := zif h_ k
      refine Zm.l (fun _ _ k_ => z_aload_n dX8_addNew_102 rfl rfl k_) ?_
      refine Zm.l (fun _ _ k_ => z_iload dX8_addNew_103 rfl k_) ?_
      refine Zm.l (fun _ _ k_ => z_sipush (v := 512) dX8_addNew_105 rfl k_) ?_
      refine Zm.pick [0, 1, 2, 3, 4] rfl ?_
      exact zm_callV (as := [vi l7, vi (512 : Int32)]) (st := []) dX8_addNew_108 vsX8_1072_1 (Nat.le_refl _) (Nat.le_of_ble_eq_true rfl) (Nat.le_of_ble_eq_true rfl) rfl k
    · have k := zit h_ k
      refine Zm.l (fun _ _ k_ => z_aload_n dX8_addNew_91 rfl rfl k_) ?_
      refine Zm.l (fun _ _ k_ => z_iload dX8_addNew_92 rfl k_) ?_
      refine Zm.l (fun _ _ k_ => z_iload dX8_addNew_94 rfl k_) ?_
      refine Zm.pick [0, 1, 2, 3, 4] rfl ?_
      exact zm_callV (as := [vi l4, vi l7]) (st := []) dX8_addNew_96 vsX8_1172_1 (Nat.le_refl _) (Nat.le_of_ble_eq_true rfl) (Nat.le_of_ble_eq_true rfl) rfl k
theorem sX8_addNew_99 {E : zE} {d : Nat} {Q : zO → zM → Prop} (M : zM) (l1 : Int32) (l3 : Int32) (l4 : Int32) (l6 : Int32) (k : Zm E YX8_addNew (d + 1) M [(0, vr (some (97, 1, 0))), (1, vi l1), (3, vi l3), (4, vi l4), (6, vi l6)] 111 [] Q) : Zm E YX8_addNew (d + 1) M [(0, vr (some (97, 1, 0))), (1, vi l1), (3, vi l3), (4, vi l4), (6, vi l6)] 99 [] Q := by
  refine Zm.l (fun _ _ k_ => z_goto (tgt := 111) dX8_addNew_99 rfl k_) ?_
  exact k
theorem sX8_addNew_111 {E : zE} {d : Nat} {Q : zO → zM → Prop} (M : zM) (l1 : Int32) (l3 : Int32) (l4 : Int32) (l6 : Int32) (k : Zm E YX8_addNew (d + 1) M [(0, vr (some (97, 1, 0))), (1, vi l1), (3, vi l3), (4, vi l4), (6, vi (l6 + (1 : Int32)))] 39 [] Q) : Zm E YX8_addNew (d + 1) M [(0, vr (some (97, 1, 0))), (1, vi l1), (3, vi l3), (4, vi l4), (6, vi l6)] 111 [] Q := by
  refine Zm.l (fun _ _ k_ => z_inc (v := (l6 + (1 : Int32))) dX8_addNew_111 rfl rfl (by decide) (lv' := [(0, vr (some (97, 1, 0))), (1, vi l1), (3, vi l3), (4, vi l4), (6, vi (l6 + (1 : Int32)))]) rfl k_) ?_
  refine Zm.l (fun _ _ k_ => z_goto (tgt := 39) dX8_addNew_114 rfl k_) ?_
  exact k
/-! ScriptTypesModel.addTextOf(II)V -/
theorem bX8_addTextOf_0 : zdec cX8_addTextOf 0 [(0, .aload_n 0, 1), (1, .iload_n 1, 1), (2, .invokevirtual 1147, 3), (5, .iconst (-1), 1), (6, .istore_n 3, 1), (7, .iconst 0, 1), (8, .istore 4, 2), (10, .iload 4, 2), (12, .aload_n 0, 1), (13, .getfield 762, 3), (16, .if_icmp .ge 33, 3), (19, .aload_n 0, 1), (20, .invokevirtual 1150, 3), (23, .iconst 1, 1), (24, .if_icmp .ne 25, 3), (27, .aload_n 0, 1)] = true := by decide +kernel
theorem dX8_addTextOf_0 : decode cX8_addTextOf 0 = .ok (.aload_n 0, 1) := zdec_at bX8_addTextOf_0 0 rfl
theorem dX8_addTextOf_1 : decode cX8_addTextOf 1 = .ok (.iload_n 1, 1) := zdec_at bX8_addTextOf_0 1 rfl
theorem dX8_addTextOf_2 : decode cX8_addTextOf 2 = .ok (.invokevirtual 1147, 3) := zdec_at bX8_addTextOf_0 2 rfl
theorem dX8_addTextOf_5 : decode cX8_addTextOf 5 = .ok (.iconst (-1), 1) := zdec_at bX8_addTextOf_0 3 rfl
theorem dX8_addTextOf_6 : decode cX8_addTextOf 6 = .ok (.istore_n 3, 1) := zdec_at bX8_addTextOf_0 4 rfl
theorem dX8_addTextOf_7 : decode cX8_addTextOf 7 = .ok (.iconst 0, 1) := zdec_at bX8_addTextOf_0 5 rfl
theorem dX8_addTextOf_8 : decode cX8_addTextOf 8 = .ok (.istore 4, 2) := zdec_at bX8_addTextOf_0 6 rfl
theorem dX8_addTextOf_10 : decode cX8_addTextOf 10 = .ok (.iload 4, 2) := zdec_at bX8_addTextOf_0 7 rfl
theorem dX8_addTextOf_12 : decode cX8_addTextOf 12 = .ok (.aload_n 0, 1) := zdec_at bX8_addTextOf_0 8 rfl
theorem dX8_addTextOf_13 : decode cX8_addTextOf 13 = .ok (.getfield 762, 3) := zdec_at bX8_addTextOf_0 9 rfl
theorem dX8_addTextOf_16 : decode cX8_addTextOf 16 = .ok (.if_icmp .ge 33, 3) := zdec_at bX8_addTextOf_0 10 rfl
theorem dX8_addTextOf_19 : decode cX8_addTextOf 19 = .ok (.aload_n 0, 1) := zdec_at bX8_addTextOf_0 11 rfl
theorem dX8_addTextOf_20 : decode cX8_addTextOf 20 = .ok (.invokevirtual 1150, 3) := zdec_at bX8_addTextOf_0 12 rfl
theorem dX8_addTextOf_23 : decode cX8_addTextOf 23 = .ok (.iconst 1, 1) := zdec_at bX8_addTextOf_0 13 rfl
theorem dX8_addTextOf_24 : decode cX8_addTextOf 24 = .ok (.if_icmp .ne 25, 3) := zdec_at bX8_addTextOf_0 14 rfl
theorem dX8_addTextOf_27 : decode cX8_addTextOf 27 = .ok (.aload_n 0, 1) := zdec_at bX8_addTextOf_0 15 rfl
theorem bX8_addTextOf_28 : zdec cX8_addTextOf 28 [(28, .iload 4, 2), (30, .invokevirtual 1153, 3), (33, .ifCond .eq 8, 3), (36, .iload 4, 2), (38, .goto 4, 3), (41, .iload_n 3, 1), (42, .istore_n 3, 1), (43, .iinc 4 1, 3), (46, .goto (-36), 3), (49, .aload_n 0, 1), (50, .iload_n 2, 1), (51, .iload_n 3, 1), (52, .invokevirtual 1078, 3), (55, .return_, 1)] = true := by decide +kernel
theorem dX8_addTextOf_28 : decode cX8_addTextOf 28 = .ok (.iload 4, 2) := zdec_at bX8_addTextOf_28 0 rfl
theorem dX8_addTextOf_30 : decode cX8_addTextOf 30 = .ok (.invokevirtual 1153, 3) := zdec_at bX8_addTextOf_28 1 rfl
theorem dX8_addTextOf_33 : decode cX8_addTextOf 33 = .ok (.ifCond .eq 8, 3) := zdec_at bX8_addTextOf_28 2 rfl
theorem dX8_addTextOf_36 : decode cX8_addTextOf 36 = .ok (.iload 4, 2) := zdec_at bX8_addTextOf_28 3 rfl
theorem dX8_addTextOf_38 : decode cX8_addTextOf 38 = .ok (.goto 4, 3) := zdec_at bX8_addTextOf_28 4 rfl
theorem dX8_addTextOf_41 : decode cX8_addTextOf 41 = .ok (.iload_n 3, 1) := zdec_at bX8_addTextOf_28 5 rfl
theorem dX8_addTextOf_42 : decode cX8_addTextOf 42 = .ok (.istore_n 3, 1) := zdec_at bX8_addTextOf_28 6 rfl
theorem dX8_addTextOf_43 : decode cX8_addTextOf 43 = .ok (.iinc 4 1, 3) := zdec_at bX8_addTextOf_28 7 rfl
theorem dX8_addTextOf_46 : decode cX8_addTextOf 46 = .ok (.goto (-36), 3) := zdec_at bX8_addTextOf_28 8 rfl
theorem dX8_addTextOf_49 : decode cX8_addTextOf 49 = .ok (.aload_n 0, 1) := zdec_at bX8_addTextOf_28 9 rfl
theorem dX8_addTextOf_50 : decode cX8_addTextOf 50 = .ok (.iload_n 2, 1) := zdec_at bX8_addTextOf_28 10 rfl
theorem dX8_addTextOf_51 : decode cX8_addTextOf 51 = .ok (.iload_n 3, 1) := zdec_at bX8_addTextOf_28 11 rfl
theorem dX8_addTextOf_52 : decode cX8_addTextOf 52 = .ok (.invokevirtual 1078, 3) := zdec_at bX8_addTextOf_28 12 rfl
theorem dX8_addTextOf_55 : decode cX8_addTextOf 55 = .ok (.return_, 1) := zdec_at bX8_addTextOf_28 13 rfl
theorem sX8_addTextOf_0 {E : zE} {d : Nat} {Q : zO → zM → Prop} (M : zM) (l1 : Int32) (l2 : Int32) (k : Zm E YX8_keysOf d M (zargs 0 [vr (some (97, 1, 0)), vi l1]) 0 [] (zma E YX8_addTextOf (d + 1) [(0, vr (some (97, 1, 0))), (2, vi l2)] 2 3 [] Q)) : Zm E YX8_addTextOf (d + 1) M [(0, vr (some (97, 1, 0))), (1, vi l1), (2, vi l2)] 0 [] Q := by
  refine Zm.l (fun _ _ k_ => z_aload_n dX8_addTextOf_0 rfl rfl k_) ?_
  refine Zm.l (fun _ _ k_ => z_iload_n dX8_addTextOf_1 rfl rfl k_) ?_
  refine Zm.pick [0, 2] rfl ?_
  exact zm_callV (as := [vi l1]) (st := []) dX8_addTextOf_2 vsX8_1147_1 (Nat.le_refl _) (Nat.le_of_ble_eq_true rfl) (Nat.le_of_ble_eq_true rfl) rfl k
theorem sX8_addTextOf_5 {E : zE} {d : Nat} {Q : zO → zM → Prop} (M : zM) (l2 : Int32) (k : Zm E YX8_addTextOf (d + 1) M [(0, vr (some (97, 1, 0))), (2, vi l2), (3, vi (-1 : Int32)), (4, vi (0 : Int32))] 10 [] Q) : Zm E YX8_addTextOf (d + 1) M [(0, vr (some (97, 1, 0))), (2, vi l2)] 5 [] Q := by
  refine Zm.l (fun _ _ k_ => z_iconst (v := -1) dX8_addTextOf_5 rfl k_) ?_
  refine Zm.l (fun _ _ k_ => z_ist_n dX8_addTextOf_6 rfl (by decide) (lv' := [(0, vr (some (97, 1, 0))), (2, vi l2), (3, vi (-1 : Int32))]) rfl k_) ?_
  refine Zm.l (fun _ _ k_ => z_iconst (v := 0) dX8_addTextOf_7 rfl k_) ?_
  refine Zm.l (fun _ _ k_ => z_ist dX8_addTextOf_8 (by decide) (lv' := [(0, vr (some (97, 1, 0))), (2, vi l2), (3, vi (-1 : Int32)), (4, vi (0 : Int32))]) rfl k_) ?_
  exact k
theorem sX8_addTextOf_10 {E : zE} {d : Nat} {Q : zO → zM → Prop} (M : zM) (l2 : Int32) (l3 : Int32) (l4 : Int32) (k : if (gi M 97 8) ≤ l4 then (Zm E YX8_addString d M (zargs 0 [vr (some (97, 1, 0)), vi l2, vi l3]) 0 [] (zma E YX8_addTextOf (d + 1) [] 52 3 [] Q)) else (Zm E YX8_manyKeys d M (zargs 0 [vr (some (97, 1, 0))]) 0 [] (zma E YX8_addTextOf (d + 1) [(0, vr (some (97, 1, 0))), (2, vi l2), (3, vi l3), (4, vi l4)] 20 3 [] Q))) : Zm E YX8_addTextOf (d + 1) M [(0, vr (some (97, 1, 0))), (2, vi l2), (3, vi l3), (4, vi l4)] 10 [] Q := by
  refine Zm.l (fun _ _ k_ => z_iload dX8_addTextOf_10 rfl k_) ?_
  refine Zm.l (fun _ _ k_ => z_aload_n dX8_addTextOf_12 rfl rfl k_) ?_
  refine zm_geti dX8_addTextOf_13 fsX8_762_1 (by decide) (by decide) ?_
  refine Zm.br (fun _ _ k1_ k2_ => z_icmp_ge (tgt := 49) dX8_addTextOf_16 rfl k1_ k2_) (fun h_ => ?_) (fun h_ => ?_)
  · have k := zit h_ k
    refine Zm.l (fun _ _ k_ => z_aload_n dX8_addTextOf_49 rfl rfl k_) ?_
    refine Zm.l (fun _ _ k_ => z_iload_n dX8_addTextOf_50 rfl rfl k_) ?_
    refine Zm.l (fun _ _ k_ => z_iload_n dX8_addTextOf_51 rfl rfl k_) ?_
    refine Zm.pick [] rfl ?_
    exact zm_callV (as := [vi l2, vi l3]) (st := []) dX8_addTextOf_52 vsX8_1078_1 (Nat.le_refl _) (Nat.le_of_ble_eq_true rfl) (Nat.le_of_ble_eq_true rfl) rfl k
  · have k := zif h_ k
    refine Zm.l (fun _ _ k_ => z_aload_n dX8_addTextOf_19 rfl rfl k_) ?_
    exact zm_callV (as := []) (st := []) dX8_addTextOf_20 vsX8_1150_1 (Nat.le_refl _) (Nat.le_of_ble_eq_true rfl) (Nat.le_of_ble_eq_true rfl) rfl k
theorem sX8_addTextOf_23 {E : zE} {d : Nat} {Q : zO → zM → Prop} (M : zM) (l2 : Int32) (l3 : Int32) (l4 : Int32) (s0 : Int32) (k : if s0 = (1 : Int32) then (Zm E YX8_hasKey d M (zargs 0 [vr (some (97, 1, 0)), vi l4]) 0 [] (zma E YX8_addTextOf (d + 1) [(0, vr (some (97, 1, 0))), (2, vi l2), (3, vi l3), (4, vi l4)] 30 3 [] Q)) else (Zm E YX8_addString d M (zargs 0 [vr (some (97, 1, 0)), vi l2, vi l3]) 0 [] (zma E YX8_addTextOf (d + 1) [] 52 3 [] Q))) : Zm E YX8_addTextOf (d + 1) M [(0, vr (some (97, 1, 0))), (2, vi l2), (3, vi l3), (4, vi l4)] 23 [vi s0] Q := by
  refine Zm.l (fun _ _ k_ => z_iconst (v := 1) dX8_addTextOf_23 rfl k_) ?_
  refine Zm.brn (fun _ _ k1_ k2_ => z_icmp_ne (tgt := 49) dX8_addTextOf_24 rfl k1_ k2_) (fun h_ => ?_) (fun h_ => ?_)
  · have k := zif h_ k
    refine Zm.l (fun _ _ k_ => z_aload_n dX8_addTextOf_49 rfl rfl k_) ?_
    refine Zm.l (fun _ _ k_ => z_iload_n dX8_addTextOf_50 rfl rfl k_) ?_
    refine Zm.l (fun _ _ k_ => z_iload_n dX8_addTextOf_51 rfl rfl k_) ?_
    refine Zm.pick [] rfl ?_
    exact zm_callV (as := [vi l2, vi l3]) (st := []) dX8_addTextOf_52 vsX8_1078_1 (Nat.le_refl _) (Nat.le_of_ble_eq_true rfl) (Nat.le_of_ble_eq_true rfl) rfl k
  · have k := zit h_ k
    refine Zm.l (fun _ _ k_ => z_aload_n dX8_addTextOf_27 rfl rfl k_) ?_
    refine Zm.l (fun _ _ k_ => z_iload dX8_addTextOf_28 rfl k_) ?_
    exact zm_callV (as := [vi l4]) (st := []) dX8_addTextOf_30 vsX8_1153_1 (Nat.le_refl _) (Nat.le_of_ble_eq_true rfl) (Nat.le_of_ble_eq_true rfl) rfl k
theorem sX8_addTextOf_33 {E : zE} {d : Nat} {Q : zO → zM → Prop} (M : zM) (l2 : Int32) (l3 : Int32) (l4 : Int32) (s0 : Int32) (k : if s0 = 0 then (Zm E YX8_addTextOf (d + 1) M [(0, vr (some (97, 1, 0))), (2, vi l2), (3, vi l3), (4, vi (l4 + (1 : Int32)))] 10 [] Q) else (Zm E YX8_addTextOf (d + 1) M [(0, vr (some (97, 1, 0))), (2, vi l2), (3, vi l4), (4, vi (l4 + (1 : Int32)))] 10 [] Q)) : Zm E YX8_addTextOf (d + 1) M [(0, vr (some (97, 1, 0))), (2, vi l2), (3, vi l3), (4, vi l4)] 33 [vi s0] Q := by
  refine Zm.br (fun _ _ k1_ k2_ => z_if_eq (tgt := 41) dX8_addTextOf_33 rfl k1_ k2_) (fun h_ => ?_) (fun h_ => ?_)
  · have k := zit h_ k
    refine Zm.l (fun _ _ k_ => z_iload_n dX8_addTextOf_41 rfl rfl k_) ?_
    refine Zm.l (fun _ _ k_ => z_ist_n dX8_addTextOf_42 rfl (by decide) (lv' := [(0, vr (some (97, 1, 0))), (2, vi l2), (3, vi l3), (4, vi l4)]) rfl k_) ?_
    refine Zm.l (fun _ _ k_ => z_inc (v := (l4 + (1 : Int32))) dX8_addTextOf_43 rfl rfl (by decide) (lv' := [(0, vr (some (97, 1, 0))), (2, vi l2), (3, vi l3), (4, vi (l4 + (1 : Int32)))]) rfl k_) ?_
    refine Zm.l (fun _ _ k_ => z_goto (tgt := 10) dX8_addTextOf_46 rfl k_) ?_
    exact k
  · have k := zif h_ k
    refine Zm.l (fun _ _ k_ => z_iload dX8_addTextOf_36 rfl k_) ?_
    refine Zm.l (fun _ _ k_ => z_goto (tgt := 42) dX8_addTextOf_38 rfl k_) ?_
    refine Zm.l (fun _ _ k_ => z_ist_n dX8_addTextOf_42 rfl (by decide) (lv' := [(0, vr (some (97, 1, 0))), (2, vi l2), (3, vi l4), (4, vi l4)]) rfl k_) ?_
    refine Zm.l (fun _ _ k_ => z_inc (v := (l4 + (1 : Int32))) dX8_addTextOf_43 rfl rfl (by decide) (lv' := [(0, vr (some (97, 1, 0))), (2, vi l2), (3, vi l4), (4, vi (l4 + (1 : Int32)))]) rfl k_) ?_
    refine Zm.l (fun _ _ k_ => z_goto (tgt := 10) dX8_addTextOf_46 rfl k_) ?_
    exact k
theorem sX8_addTextOf_55 {E : zE} {d : Nat} {Q : zO → zM → Prop} (M : zM)  (k : Q (.inl none) M) : Zm E YX8_addTextOf (d + 1) M [] 55 [] Q := by
  exact zm_vret dX8_addTextOf_55 rfl k
/-! ScriptTypesModel.keysOf(I)V -/
theorem bX8_keysOf_0 : zdec cX8_keysOf 0 [(0, .aload_n 0, 1), (1, .invokevirtual 1135, 3), (4, .aload_n 0, 1), (5, .iload_n 1, 1), (6, .invokevirtual 1047, 3), (9, .istore_n 2, 1), (10, .iload_n 2, 1), (11, .iconst 1, 1), (12, .iand, 1), (13, .ifCond .eq 9, 3), (16, .aload_n 0, 1), (17, .bipush 19, 2), (19, .invokevirtual 1138, 3), (22, .iload_n 2, 1), (23, .iconst 2, 1), (24, .iand, 1)] = true := by decide +kernel
theorem dX8_keysOf_0 : decode cX8_keysOf 0 = .ok (.aload_n 0, 1) := zdec_at bX8_keysOf_0 0 rfl
theorem dX8_keysOf_1 : decode cX8_keysOf 1 = .ok (.invokevirtual 1135, 3) := zdec_at bX8_keysOf_0 1 rfl
theorem dX8_keysOf_4 : decode cX8_keysOf 4 = .ok (.aload_n 0, 1) := zdec_at bX8_keysOf_0 2 rfl
theorem dX8_keysOf_5 : decode cX8_keysOf 5 = .ok (.iload_n 1, 1) := zdec_at bX8_keysOf_0 3 rfl
theorem dX8_keysOf_6 : decode cX8_keysOf 6 = .ok (.invokevirtual 1047, 3) := zdec_at bX8_keysOf_0 4 rfl
theorem dX8_keysOf_9 : decode cX8_keysOf 9 = .ok (.istore_n 2, 1) := zdec_at bX8_keysOf_0 5 rfl
theorem dX8_keysOf_10 : decode cX8_keysOf 10 = .ok (.iload_n 2, 1) := zdec_at bX8_keysOf_0 6 rfl
theorem dX8_keysOf_11 : decode cX8_keysOf 11 = .ok (.iconst 1, 1) := zdec_at bX8_keysOf_0 7 rfl
theorem dX8_keysOf_12 : decode cX8_keysOf 12 = .ok (.iand, 1) := zdec_at bX8_keysOf_0 8 rfl
theorem dX8_keysOf_13 : decode cX8_keysOf 13 = .ok (.ifCond .eq 9, 3) := zdec_at bX8_keysOf_0 9 rfl
theorem dX8_keysOf_16 : decode cX8_keysOf 16 = .ok (.aload_n 0, 1) := zdec_at bX8_keysOf_0 10 rfl
theorem dX8_keysOf_17 : decode cX8_keysOf 17 = .ok (.bipush 19, 2) := zdec_at bX8_keysOf_0 11 rfl
theorem dX8_keysOf_19 : decode cX8_keysOf 19 = .ok (.invokevirtual 1138, 3) := zdec_at bX8_keysOf_0 12 rfl
theorem dX8_keysOf_22 : decode cX8_keysOf 22 = .ok (.iload_n 2, 1) := zdec_at bX8_keysOf_0 13 rfl
theorem dX8_keysOf_23 : decode cX8_keysOf 23 = .ok (.iconst 2, 1) := zdec_at bX8_keysOf_0 14 rfl
theorem dX8_keysOf_24 : decode cX8_keysOf 24 = .ok (.iand, 1) := zdec_at bX8_keysOf_0 15 rfl
theorem bX8_keysOf_25 : zdec cX8_keysOf 25 [(25, .ifCond .eq 9, 3), (28, .aload_n 0, 1), (29, .bipush 25, 2), (31, .invokevirtual 1138, 3), (34, .iload_n 2, 1), (35, .iconst 4, 1), (36, .iand, 1), (37, .ifCond .eq 9, 3), (40, .aload_n 0, 1), (41, .bipush 26, 2), (43, .invokevirtual 1138, 3), (46, .iload_n 2, 1), (47, .bipush 8, 2), (49, .iand, 1), (50, .ifCond .eq 9, 3), (53, .aload_n 0, 1)] = true := by decide +kernel
theorem dX8_keysOf_25 : decode cX8_keysOf 25 = .ok (.ifCond .eq 9, 3) := zdec_at bX8_keysOf_25 0 rfl
theorem dX8_keysOf_28 : decode cX8_keysOf 28 = .ok (.aload_n 0, 1) := zdec_at bX8_keysOf_25 1 rfl
theorem dX8_keysOf_29 : decode cX8_keysOf 29 = .ok (.bipush 25, 2) := zdec_at bX8_keysOf_25 2 rfl
theorem dX8_keysOf_31 : decode cX8_keysOf 31 = .ok (.invokevirtual 1138, 3) := zdec_at bX8_keysOf_25 3 rfl
theorem dX8_keysOf_34 : decode cX8_keysOf 34 = .ok (.iload_n 2, 1) := zdec_at bX8_keysOf_25 4 rfl
theorem dX8_keysOf_35 : decode cX8_keysOf 35 = .ok (.iconst 4, 1) := zdec_at bX8_keysOf_25 5 rfl
theorem dX8_keysOf_36 : decode cX8_keysOf 36 = .ok (.iand, 1) := zdec_at bX8_keysOf_25 6 rfl
theorem dX8_keysOf_37 : decode cX8_keysOf 37 = .ok (.ifCond .eq 9, 3) := zdec_at bX8_keysOf_25 7 rfl
theorem dX8_keysOf_40 : decode cX8_keysOf 40 = .ok (.aload_n 0, 1) := zdec_at bX8_keysOf_25 8 rfl
theorem dX8_keysOf_41 : decode cX8_keysOf 41 = .ok (.bipush 26, 2) := zdec_at bX8_keysOf_25 9 rfl
theorem dX8_keysOf_43 : decode cX8_keysOf 43 = .ok (.invokevirtual 1138, 3) := zdec_at bX8_keysOf_25 10 rfl
theorem dX8_keysOf_46 : decode cX8_keysOf 46 = .ok (.iload_n 2, 1) := zdec_at bX8_keysOf_25 11 rfl
theorem dX8_keysOf_47 : decode cX8_keysOf 47 = .ok (.bipush 8, 2) := zdec_at bX8_keysOf_25 12 rfl
theorem dX8_keysOf_49 : decode cX8_keysOf 49 = .ok (.iand, 1) := zdec_at bX8_keysOf_25 13 rfl
theorem dX8_keysOf_50 : decode cX8_keysOf 50 = .ok (.ifCond .eq 9, 3) := zdec_at bX8_keysOf_25 14 rfl
theorem dX8_keysOf_53 : decode cX8_keysOf 53 = .ok (.aload_n 0, 1) := zdec_at bX8_keysOf_25 15 rfl
theorem bX8_keysOf_54 : zdec cX8_keysOf 54 [(54, .bipush 27, 2), (56, .invokevirtual 1138, 3), (59, .iload_n 2, 1), (60, .bipush 16, 2), (62, .iand, 1), (63, .ifCond .eq 9, 3), (66, .aload_n 0, 1), (67, .bipush 28, 2), (69, .invokevirtual 1138, 3), (72, .iload_n 2, 1), (73, .bipush 32, 2), (75, .iand, 1), (76, .ifCond .eq 30, 3), (79, .aload_n 0, 1), (80, .aload_n 0, 1), (81, .iload_n 1, 1)] = true := by decide +kernel
theorem dX8_keysOf_54 : decode cX8_keysOf 54 = .ok (.bipush 27, 2) := zdec_at bX8_keysOf_54 0 rfl
theorem dX8_keysOf_56 : decode cX8_keysOf 56 = .ok (.invokevirtual 1138, 3) := zdec_at bX8_keysOf_54 1 rfl
theorem dX8_keysOf_59 : decode cX8_keysOf 59 = .ok (.iload_n 2, 1) := zdec_at bX8_keysOf_54 2 rfl
theorem dX8_keysOf_60 : decode cX8_keysOf 60 = .ok (.bipush 16, 2) := zdec_at bX8_keysOf_54 3 rfl
theorem dX8_keysOf_62 : decode cX8_keysOf 62 = .ok (.iand, 1) := zdec_at bX8_keysOf_54 4 rfl
theorem dX8_keysOf_63 : decode cX8_keysOf 63 = .ok (.ifCond .eq 9, 3) := zdec_at bX8_keysOf_54 5 rfl
theorem dX8_keysOf_66 : decode cX8_keysOf 66 = .ok (.aload_n 0, 1) := zdec_at bX8_keysOf_54 6 rfl
theorem dX8_keysOf_67 : decode cX8_keysOf 67 = .ok (.bipush 28, 2) := zdec_at bX8_keysOf_54 7 rfl
theorem dX8_keysOf_69 : decode cX8_keysOf 69 = .ok (.invokevirtual 1138, 3) := zdec_at bX8_keysOf_54 8 rfl
theorem dX8_keysOf_72 : decode cX8_keysOf 72 = .ok (.iload_n 2, 1) := zdec_at bX8_keysOf_54 9 rfl
theorem dX8_keysOf_73 : decode cX8_keysOf 73 = .ok (.bipush 32, 2) := zdec_at bX8_keysOf_54 10 rfl
theorem dX8_keysOf_75 : decode cX8_keysOf 75 = .ok (.iand, 1) := zdec_at bX8_keysOf_54 11 rfl
theorem dX8_keysOf_76 : decode cX8_keysOf 76 = .ok (.ifCond .eq 30, 3) := zdec_at bX8_keysOf_54 12 rfl
theorem dX8_keysOf_79 : decode cX8_keysOf 79 = .ok (.aload_n 0, 1) := zdec_at bX8_keysOf_54 13 rfl
theorem dX8_keysOf_80 : decode cX8_keysOf 80 = .ok (.aload_n 0, 1) := zdec_at bX8_keysOf_54 14 rfl
theorem dX8_keysOf_81 : decode cX8_keysOf 81 = .ok (.iload_n 1, 1) := zdec_at bX8_keysOf_54 15 rfl
theorem bX8_keysOf_82 : zdec cX8_keysOf 82 [(82, .invokevirtual 1050, 3), (85, .invokevirtual 1141, 3), (88, .istore_n 3, 1), (89, .aload_n 0, 1), (90, .iload_n 3, 1), (91, .iconst (-1), 1), (92, .if_icmp .ne 10, 3), (95, .aload_n 0, 1), (96, .getfield 762, 3), (99, .goto 4, 3), (102, .iload_n 3, 1), (103, .invokevirtual 1138, 3), (106, .iconst 0, 1), (107, .istore_n 3, 1), (108, .iload_n 3, 1), (109, .aload_n 0, 1)] = true := by decide +kernel
theorem dX8_keysOf_82 : decode cX8_keysOf 82 = .ok (.invokevirtual 1050, 3) := zdec_at bX8_keysOf_82 0 rfl
theorem dX8_keysOf_85 : decode cX8_keysOf 85 = .ok (.invokevirtual 1141, 3) := zdec_at bX8_keysOf_82 1 rfl
theorem dX8_keysOf_88 : decode cX8_keysOf 88 = .ok (.istore_n 3, 1) := zdec_at bX8_keysOf_82 2 rfl
theorem dX8_keysOf_89 : decode cX8_keysOf 89 = .ok (.aload_n 0, 1) := zdec_at bX8_keysOf_82 3 rfl
theorem dX8_keysOf_90 : decode cX8_keysOf 90 = .ok (.iload_n 3, 1) := zdec_at bX8_keysOf_82 4 rfl
theorem dX8_keysOf_91 : decode cX8_keysOf 91 = .ok (.iconst (-1), 1) := zdec_at bX8_keysOf_82 5 rfl
theorem dX8_keysOf_92 : decode cX8_keysOf 92 = .ok (.if_icmp .ne 10, 3) := zdec_at bX8_keysOf_82 6 rfl
theorem dX8_keysOf_95 : decode cX8_keysOf 95 = .ok (.aload_n 0, 1) := zdec_at bX8_keysOf_82 7 rfl
theorem dX8_keysOf_96 : decode cX8_keysOf 96 = .ok (.getfield 762, 3) := zdec_at bX8_keysOf_82 8 rfl
theorem dX8_keysOf_99 : decode cX8_keysOf 99 = .ok (.goto 4, 3) := zdec_at bX8_keysOf_82 9 rfl
theorem dX8_keysOf_102 : decode cX8_keysOf 102 = .ok (.iload_n 3, 1) := zdec_at bX8_keysOf_82 10 rfl
theorem dX8_keysOf_103 : decode cX8_keysOf 103 = .ok (.invokevirtual 1138, 3) := zdec_at bX8_keysOf_82 11 rfl
theorem dX8_keysOf_106 : decode cX8_keysOf 106 = .ok (.iconst 0, 1) := zdec_at bX8_keysOf_82 12 rfl
theorem dX8_keysOf_107 : decode cX8_keysOf 107 = .ok (.istore_n 3, 1) := zdec_at bX8_keysOf_82 13 rfl
theorem dX8_keysOf_108 : decode cX8_keysOf 108 = .ok (.iload_n 3, 1) := zdec_at bX8_keysOf_82 14 rfl
theorem dX8_keysOf_109 : decode cX8_keysOf 109 = .ok (.aload_n 0, 1) := zdec_at bX8_keysOf_82 15 rfl
theorem bX8_keysOf_110 : zdec cX8_keysOf 110 [(110, .getfield 762, 3), (113, .if_icmp .gt 58, 3), (116, .iload_n 2, 1), (117, .sipush 256, 3), (120, .iand, 1), (121, .ifCond .ne 27, 3), (124, .iload_n 2, 1), (125, .bipush 64, 2), (127, .iand, 1), (128, .ifCond .eq 24, 3), (131, .iload_n 3, 1), (132, .aload_n 0, 1), (133, .getfield 762, 3), (136, .if_icmp .eq 12, 3), (139, .aload_n 0, 1), (140, .getfield 274, 3)] = true := by decide +kernel
theorem dX8_keysOf_110 : decode cX8_keysOf 110 = .ok (.getfield 762, 3) := zdec_at bX8_keysOf_110 0 rfl
theorem dX8_keysOf_113 : decode cX8_keysOf 113 = .ok (.if_icmp .gt 58, 3) := zdec_at bX8_keysOf_110 1 rfl
theorem dX8_keysOf_116 : decode cX8_keysOf 116 = .ok (.iload_n 2, 1) := zdec_at bX8_keysOf_110 2 rfl
theorem dX8_keysOf_117 : decode cX8_keysOf 117 = .ok (.sipush 256, 3) := zdec_at bX8_keysOf_110 3 rfl
theorem dX8_keysOf_120 : decode cX8_keysOf 120 = .ok (.iand, 1) := zdec_at bX8_keysOf_110 4 rfl
theorem dX8_keysOf_121 : decode cX8_keysOf 121 = .ok (.ifCond .ne 27, 3) := zdec_at bX8_keysOf_110 5 rfl
theorem dX8_keysOf_124 : decode cX8_keysOf 124 = .ok (.iload_n 2, 1) := zdec_at bX8_keysOf_110 6 rfl
theorem dX8_keysOf_125 : decode cX8_keysOf 125 = .ok (.bipush 64, 2) := zdec_at bX8_keysOf_110 7 rfl
theorem dX8_keysOf_127 : decode cX8_keysOf 127 = .ok (.iand, 1) := zdec_at bX8_keysOf_110 8 rfl
theorem dX8_keysOf_128 : decode cX8_keysOf 128 = .ok (.ifCond .eq 24, 3) := zdec_at bX8_keysOf_110 9 rfl
theorem dX8_keysOf_131 : decode cX8_keysOf 131 = .ok (.iload_n 3, 1) := zdec_at bX8_keysOf_110 10 rfl
theorem dX8_keysOf_132 : decode cX8_keysOf 132 = .ok (.aload_n 0, 1) := zdec_at bX8_keysOf_110 11 rfl
theorem dX8_keysOf_133 : decode cX8_keysOf 133 = .ok (.getfield 762, 3) := zdec_at bX8_keysOf_110 12 rfl
theorem dX8_keysOf_136 : decode cX8_keysOf 136 = .ok (.if_icmp .eq 12, 3) := zdec_at bX8_keysOf_110 13 rfl
theorem dX8_keysOf_139 : decode cX8_keysOf 139 = .ok (.aload_n 0, 1) := zdec_at bX8_keysOf_110 14 rfl
theorem dX8_keysOf_140 : decode cX8_keysOf 140 = .ok (.getfield 274, 3) := zdec_at bX8_keysOf_110 15 rfl
theorem bX8_keysOf_143 : zdec cX8_keysOf 143 [(143, .iload_n 3, 1), (144, .baload, 1), (145, .ifCond .eq 7, 3), (148, .iconst 1, 1), (149, .goto 4, 3), (152, .iconst 0, 1), (153, .istore 4, 2), (155, .iload 4, 2), (157, .ifCond .eq 8, 3), (160, .aload_n 0, 1), (161, .iload_n 3, 1), (162, .invokevirtual 1138, 3), (165, .iinc 3 1, 3), (168, .goto (-60), 3), (171, .iload_n 2, 1), (172, .sipush 128, 3)] = true := by decide +kernel
theorem dX8_keysOf_143 : decode cX8_keysOf 143 = .ok (.iload_n 3, 1) := zdec_at bX8_keysOf_143 0 rfl
theorem dX8_keysOf_144 : decode cX8_keysOf 144 = .ok (.baload, 1) := zdec_at bX8_keysOf_143 1 rfl
theorem dX8_keysOf_145 : decode cX8_keysOf 145 = .ok (.ifCond .eq 7, 3) := zdec_at bX8_keysOf_143 2 rfl
theorem dX8_keysOf_148 : decode cX8_keysOf 148 = .ok (.iconst 1, 1) := zdec_at bX8_keysOf_143 3 rfl
theorem dX8_keysOf_149 : decode cX8_keysOf 149 = .ok (.goto 4, 3) := zdec_at bX8_keysOf_143 4 rfl
theorem dX8_keysOf_152 : decode cX8_keysOf 152 = .ok (.iconst 0, 1) := zdec_at bX8_keysOf_143 5 rfl
theorem dX8_keysOf_153 : decode cX8_keysOf 153 = .ok (.istore 4, 2) := zdec_at bX8_keysOf_143 6 rfl
theorem dX8_keysOf_155 : decode cX8_keysOf 155 = .ok (.iload 4, 2) := zdec_at bX8_keysOf_143 7 rfl
theorem dX8_keysOf_157 : decode cX8_keysOf 157 = .ok (.ifCond .eq 8, 3) := zdec_at bX8_keysOf_143 8 rfl
theorem dX8_keysOf_160 : decode cX8_keysOf 160 = .ok (.aload_n 0, 1) := zdec_at bX8_keysOf_143 9 rfl
theorem dX8_keysOf_161 : decode cX8_keysOf 161 = .ok (.iload_n 3, 1) := zdec_at bX8_keysOf_143 10 rfl
theorem dX8_keysOf_162 : decode cX8_keysOf 162 = .ok (.invokevirtual 1138, 3) := zdec_at bX8_keysOf_143 11 rfl
theorem dX8_keysOf_165 : decode cX8_keysOf 165 = .ok (.iinc 3 1, 3) := zdec_at bX8_keysOf_143 12 rfl
theorem dX8_keysOf_168 : decode cX8_keysOf 168 = .ok (.goto (-60), 3) := zdec_at bX8_keysOf_143 13 rfl
theorem dX8_keysOf_171 : decode cX8_keysOf 171 = .ok (.iload_n 2, 1) := zdec_at bX8_keysOf_143 14 rfl
theorem dX8_keysOf_172 : decode cX8_keysOf 172 = .ok (.sipush 128, 3) := zdec_at bX8_keysOf_143 15 rfl
theorem bX8_keysOf_175 : zdec cX8_keysOf 175 [(175, .iand, 1), (176, .ifCond .eq 12, 3), (179, .aload_n 0, 1), (180, .aload_n 0, 1), (181, .iload_n 1, 1), (182, .invokevirtual 1053, 3), (185, .invokevirtual 1138, 3), (188, .aload_n 0, 1), (189, .iload_n 1, 1), (190, .invokevirtual 1062, 3), (193, .ifCond .eq 9, 3), (196, .aload_n 0, 1), (197, .bipush 29, 2), (199, .invokevirtual 1138, 3), (202, .return_, 1)] = true := by decide +kernel
theorem dX8_keysOf_175 : decode cX8_keysOf 175 = .ok (.iand, 1) := zdec_at bX8_keysOf_175 0 rfl
theorem dX8_keysOf_176 : decode cX8_keysOf 176 = .ok (.ifCond .eq 12, 3) := zdec_at bX8_keysOf_175 1 rfl
theorem dX8_keysOf_179 : decode cX8_keysOf 179 = .ok (.aload_n 0, 1) := zdec_at bX8_keysOf_175 2 rfl
theorem dX8_keysOf_180 : decode cX8_keysOf 180 = .ok (.aload_n 0, 1) := zdec_at bX8_keysOf_175 3 rfl
theorem dX8_keysOf_181 : decode cX8_keysOf 181 = .ok (.iload_n 1, 1) := zdec_at bX8_keysOf_175 4 rfl
theorem dX8_keysOf_182 : decode cX8_keysOf 182 = .ok (.invokevirtual 1053, 3) := zdec_at bX8_keysOf_175 5 rfl
theorem dX8_keysOf_185 : decode cX8_keysOf 185 = .ok (.invokevirtual 1138, 3) := zdec_at bX8_keysOf_175 6 rfl
theorem dX8_keysOf_188 : decode cX8_keysOf 188 = .ok (.aload_n 0, 1) := zdec_at bX8_keysOf_175 7 rfl
theorem dX8_keysOf_189 : decode cX8_keysOf 189 = .ok (.iload_n 1, 1) := zdec_at bX8_keysOf_175 8 rfl
theorem dX8_keysOf_190 : decode cX8_keysOf 190 = .ok (.invokevirtual 1062, 3) := zdec_at bX8_keysOf_175 9 rfl
theorem dX8_keysOf_193 : decode cX8_keysOf 193 = .ok (.ifCond .eq 9, 3) := zdec_at bX8_keysOf_175 10 rfl
theorem dX8_keysOf_196 : decode cX8_keysOf 196 = .ok (.aload_n 0, 1) := zdec_at bX8_keysOf_175 11 rfl
theorem dX8_keysOf_197 : decode cX8_keysOf 197 = .ok (.bipush 29, 2) := zdec_at bX8_keysOf_175 12 rfl
theorem dX8_keysOf_199 : decode cX8_keysOf 199 = .ok (.invokevirtual 1138, 3) := zdec_at bX8_keysOf_175 13 rfl
theorem dX8_keysOf_202 : decode cX8_keysOf 202 = .ok (.return_, 1) := zdec_at bX8_keysOf_175 14 rfl
theorem sX8_keysOf_0 {E : zE} {d : Nat} {Q : zO → zM → Prop} (M : zM) (l1 : Int32) (k : Zm E YX8_noKeys d M (zargs 0 [vr (some (97, 1, 0))]) 0 [] (zma E YX8_keysOf (d + 1) [(0, vr (some (97, 1, 0))), (1, vi l1)] 1 3 [] Q)) : Zm E YX8_keysOf (d + 1) M [(0, vr (some (97, 1, 0))), (1, vi l1)] 0 [] Q := by
  refine Zm.l (fun _ _ k_ => z_aload_n dX8_keysOf_0 rfl rfl k_) ?_
  exact zm_callV (as := []) (st := []) dX8_keysOf_1 vsX8_1135_1 (Nat.le_refl _) (Nat.le_of_ble_eq_true rfl) (Nat.le_of_ble_eq_true rfl) rfl k
theorem sX8_keysOf_4 {E : zE} {d : Nat} {Q : zO → zM → Prop} (M : zM) (l1 : Int32) (k : Zm E YX8_has d M (zargs 0 [vr (some (97, 1, 0)), vi l1]) 0 [] (zma E YX8_keysOf (d + 1) [(0, vr (some (97, 1, 0))), (1, vi l1)] 6 3 [] Q)) : Zm E YX8_keysOf (d + 1) M [(0, vr (some (97, 1, 0))), (1, vi l1)] 4 [] Q := by
  refine Zm.l (fun _ _ k_ => z_aload_n dX8_keysOf_4 rfl rfl k_) ?_
  refine Zm.l (fun _ _ k_ => z_iload_n dX8_keysOf_5 rfl rfl k_) ?_
  exact zm_callV (as := [vi l1]) (st := []) dX8_keysOf_6 vsX8_1047_1 (Nat.le_refl _) (Nat.le_of_ble_eq_true rfl) (Nat.le_of_ble_eq_true rfl) rfl k
theorem sX8_keysOf_9 {E : zE} {d : Nat} {Q : zO → zM → Prop} (M : zM) (l1 : Int32) (s0 : Int32) (k : if (s0 &&& (1 : Int32)) = 0 then (Zm E YX8_keysOf (d + 1) M [(0, vr (some (97, 1, 0))), (1, vi l1), (2, vi s0)] 22 [] Q) else (Zm E YX8_addKey d M (zargs 0 [vr (some (97, 1, 0)), vi (19 : Int32)]) 0 [] (zma E YX8_keysOf (d + 1) [(0, vr (some (97, 1, 0))), (1, vi l1), (2, vi s0)] 19 3 [] Q))) : Zm E YX8_keysOf (d + 1) M [(0, vr (some (97, 1, 0))), (1, vi l1)] 9 [vi s0] Q := by
  refine Zm.l (fun _ _ k_ => z_ist_n dX8_keysOf_9 rfl (by decide) (lv' := [(0, vr (some (97, 1, 0))), (1, vi l1), (2, vi s0)]) rfl k_) ?_
  refine Zm.l (fun _ _ k_ => z_iload_n dX8_keysOf_10 rfl rfl k_) ?_
  refine Zm.l (fun _ _ k_ => z_iconst (v := 1) dX8_keysOf_11 rfl k_) ?_
  refine Zm.l (fun _ _ k_ => z_iand dX8_keysOf_12 k_) ?_
  refine Zm.br (fun _ _ k1_ k2_ => z_if_eq (tgt := 22) dX8_keysOf_13 rfl k1_ k2_) (fun h_ => ?_) (fun h_ => ?_)
  · have k := zit h_ k
    exact k
  · have k := zif h_ k
    refine Zm.l (fun _ _ k_ => z_aload_n dX8_keysOf_16 rfl rfl k_) ?_
    refine Zm.l (fun _ _ k_ => z_bipush (v := 19) dX8_keysOf_17 rfl k_) ?_
    exact zm_callV (as := [vi (19 : Int32)]) (st := []) dX8_keysOf_19 vsX8_1138_1 (Nat.le_refl _) (Nat.le_of_ble_eq_true rfl) (Nat.le_of_ble_eq_true rfl) rfl k
theorem sX8_keysOf_22 {E : zE} {d : Nat} {Q : zO → zM → Prop} (M : zM) (l1 : Int32) (l2 : Int32) (k : if (l2 &&& (2 : Int32)) = 0 then (Zm E YX8_keysOf (d + 1) M [(0, vr (some (97, 1, 0))), (1, vi l1), (2, vi l2)] 34 [] Q) else (Zm E YX8_addKey d M (zargs 0 [vr (some (97, 1, 0)), vi (25 : Int32)]) 0 [] (zma E YX8_keysOf (d + 1) [(0, vr (some (97, 1, 0))), (1, vi l1), (2, vi l2)] 31 3 [] Q))) : Zm E YX8_keysOf (d + 1) M [(0, vr (some (97, 1, 0))), (1, vi l1), (2, vi l2)] 22 [] Q := by
  refine Zm.l (fun _ _ k_ => z_iload_n dX8_keysOf_22 rfl rfl k_) ?_
  refine Zm.l (fun _ _ k_ => z_iconst (v := 2) dX8_keysOf_23 rfl k_) ?_
  refine Zm.l (fun _ _ k_ => z_iand dX8_keysOf_24 k_) ?_
  refine Zm.br (fun _ _ k1_ k2_ => z_if_eq (tgt := 34) dX8_keysOf_25 rfl k1_ k2_) (fun h_ => ?_) (fun h_ => ?_)
  · have k := zit h_ k
    exact k
  · have k := zif h_ k
    refine Zm.l (fun _ _ k_ => z_aload_n dX8_keysOf_28 rfl rfl k_) ?_
    refine Zm.l (fun _ _ k_ => z_bipush (v := 25) dX8_keysOf_29 rfl k_) ?_
    exact zm_callV (as := [vi (25 : Int32)]) (st := []) dX8_keysOf_31 vsX8_1138_1 (Nat.le_refl _) (Nat.le_of_ble_eq_true rfl) (Nat.le_of_ble_eq_true rfl) rfl k
theorem sX8_keysOf_34 {E : zE} {d : Nat} {Q : zO → zM → Prop} (M : zM) (l1 : Int32) (l2 : Int32) (k : if (l2 &&& (4 : Int32)) = 0 then (Zm E YX8_keysOf (d + 1) M [(0, vr (some (97, 1, 0))), (1, vi l1), (2, vi l2)] 46 [] Q) else (Zm E YX8_addKey d M (zargs 0 [vr (some (97, 1, 0)), vi (26 : Int32)]) 0 [] (zma E YX8_keysOf (d + 1) [(0, vr (some (97, 1, 0))), (1, vi l1), (2, vi l2)] 43 3 [] Q))) : Zm E YX8_keysOf (d + 1) M [(0, vr (some (97, 1, 0))), (1, vi l1), (2, vi l2)] 34 [] Q := by
  refine Zm.l (fun _ _ k_ => z_iload_n dX8_keysOf_34 rfl rfl k_) ?_
  refine Zm.l (fun _ _ k_ => z_iconst (v := 4) dX8_keysOf_35 rfl k_) ?_
  refine Zm.l (fun _ _ k_ => z_iand dX8_keysOf_36 k_) ?_
  refine Zm.br (fun _ _ k1_ k2_ => z_if_eq (tgt := 46) dX8_keysOf_37 rfl k1_ k2_) (fun h_ => ?_) (fun h_ => ?_)
  · have k := zit h_ k
    exact k
  · have k := zif h_ k
    refine Zm.l (fun _ _ k_ => z_aload_n dX8_keysOf_40 rfl rfl k_) ?_
    refine Zm.l (fun _ _ k_ => z_bipush (v := 26) dX8_keysOf_41 rfl k_) ?_
    exact zm_callV (as := [vi (26 : Int32)]) (st := []) dX8_keysOf_43 vsX8_1138_1 (Nat.le_refl _) (Nat.le_of_ble_eq_true rfl) (Nat.le_of_ble_eq_true rfl) rfl k
theorem sX8_keysOf_46 {E : zE} {d : Nat} {Q : zO → zM → Prop} (M : zM) (l1 : Int32) (l2 : Int32) (k : if (l2 &&& (8 : Int32)) = 0 then (Zm E YX8_keysOf (d + 1) M [(0, vr (some (97, 1, 0))), (1, vi l1), (2, vi l2)] 59 [] Q) else (Zm E YX8_addKey d M (zargs 0 [vr (some (97, 1, 0)), vi (27 : Int32)]) 0 [] (zma E YX8_keysOf (d + 1) [(0, vr (some (97, 1, 0))), (1, vi l1), (2, vi l2)] 56 3 [] Q))) : Zm E YX8_keysOf (d + 1) M [(0, vr (some (97, 1, 0))), (1, vi l1), (2, vi l2)] 46 [] Q := by
  refine Zm.l (fun _ _ k_ => z_iload_n dX8_keysOf_46 rfl rfl k_) ?_
  refine Zm.l (fun _ _ k_ => z_bipush (v := 8) dX8_keysOf_47 rfl k_) ?_
  refine Zm.l (fun _ _ k_ => z_iand dX8_keysOf_49 k_) ?_
  refine Zm.br (fun _ _ k1_ k2_ => z_if_eq (tgt := 59) dX8_keysOf_50 rfl k1_ k2_) (fun h_ => ?_) (fun h_ => ?_)
  · have k := zit h_ k
    exact k
  · have k := zif h_ k
    refine Zm.l (fun _ _ k_ => z_aload_n dX8_keysOf_53 rfl rfl k_) ?_
    refine Zm.l (fun _ _ k_ => z_bipush (v := 27) dX8_keysOf_54 rfl k_) ?_
    exact zm_callV (as := [vi (27 : Int32)]) (st := []) dX8_keysOf_56 vsX8_1138_1 (Nat.le_refl _) (Nat.le_of_ble_eq_true rfl) (Nat.le_of_ble_eq_true rfl) rfl k
theorem sX8_keysOf_59 {E : zE} {d : Nat} {Q : zO → zM → Prop} (M : zM) (l1 : Int32) (l2 : Int32) (k : if (l2 &&& (16 : Int32)) = 0 then (Zm E YX8_keysOf (d + 1) M [(0, vr (some (97, 1, 0))), (1, vi l1), (2, vi l2)] 72 [] Q) else (Zm E YX8_addKey d M (zargs 0 [vr (some (97, 1, 0)), vi (28 : Int32)]) 0 [] (zma E YX8_keysOf (d + 1) [(0, vr (some (97, 1, 0))), (1, vi l1), (2, vi l2)] 69 3 [] Q))) : Zm E YX8_keysOf (d + 1) M [(0, vr (some (97, 1, 0))), (1, vi l1), (2, vi l2)] 59 [] Q := by
  refine Zm.l (fun _ _ k_ => z_iload_n dX8_keysOf_59 rfl rfl k_) ?_
  refine Zm.l (fun _ _ k_ => z_bipush (v := 16) dX8_keysOf_60 rfl k_) ?_
  refine Zm.l (fun _ _ k_ => z_iand dX8_keysOf_62 k_) ?_
  refine Zm.br (fun _ _ k1_ k2_ => z_if_eq (tgt := 72) dX8_keysOf_63 rfl k1_ k2_) (fun h_ => ?_) (fun h_ => ?_)
  · have k := zit h_ k
    exact k
  · have k := zif h_ k
    refine Zm.l (fun _ _ k_ => z_aload_n dX8_keysOf_66 rfl rfl k_) ?_
    refine Zm.l (fun _ _ k_ => z_bipush (v := 28) dX8_keysOf_67 rfl k_) ?_
    exact zm_callV (as := [vi (28 : Int32)]) (st := []) dX8_keysOf_69 vsX8_1138_1 (Nat.le_refl _) (Nat.le_of_ble_eq_true rfl) (Nat.le_of_ble_eq_true rfl) rfl k
theorem sX8_keysOf_72 {E : zE} {d : Nat} {Q : zO → zM → Prop} (M : zM) (l1 : Int32) (l2 : Int32) (k : if (l2 &&& (32 : Int32)) = 0 then (Zm E YX8_keysOf (d + 1) M [(0, vr (some (97, 1, 0))), (1, vi l1), (2, vi l2)] 106 [] Q) else (Zm E YX8_number d M (zargs 0 [vr (some (97, 1, 0)), vi l1]) 0 [] (zma E YX8_keysOf (d + 1) [(0, vr (some (97, 1, 0))), (1, vi l1), (2, vi l2)] 82 3 [vr (some (97, 1, 0))] Q))) : Zm E YX8_keysOf (d + 1) M [(0, vr (some (97, 1, 0))), (1, vi l1), (2, vi l2)] 72 [] Q := by
  refine Zm.l (fun _ _ k_ => z_iload_n dX8_keysOf_72 rfl rfl k_) ?_
  refine Zm.l (fun _ _ k_ => z_bipush (v := 32) dX8_keysOf_73 rfl k_) ?_
  refine Zm.l (fun _ _ k_ => z_iand dX8_keysOf_75 k_) ?_
  refine Zm.br (fun _ _ k1_ k2_ => z_if_eq (tgt := 106) dX8_keysOf_76 rfl k1_ k2_) (fun h_ => ?_) (fun h_ => ?_)
  · have k := zit h_ k
    exact k
  · have k := zif h_ k
    refine Zm.l (fun _ _ k_ => z_aload_n dX8_keysOf_79 rfl rfl k_) ?_
    refine Zm.l (fun _ _ k_ => z_aload_n dX8_keysOf_80 rfl rfl k_) ?_
    refine Zm.l (fun _ _ k_ => z_iload_n dX8_keysOf_81 rfl rfl k_) ?_
    exact zm_callV (as := [vi l1]) (st := [vr (some (97, 1, 0))]) dX8_keysOf_82 vsX8_1050_1 (Nat.le_refl _) (Nat.le_of_ble_eq_true rfl) (Nat.le_of_ble_eq_true rfl) rfl k
theorem sX8_keysOf_85 {E : zE} {d : Nat} {Q : zO → zM → Prop} (M : zM) (l1 : Int32) (l2 : Int32) (s0 : Int32) (k : Zm E YX8_nameOfNumber d M (zargs 0 [vr (some (97, 1, 0)), vi s0]) 0 [] (zma E YX8_keysOf (d + 1) [(0, vr (some (97, 1, 0))), (1, vi l1), (2, vi l2)] 85 3 [] Q)) : Zm E YX8_keysOf (d + 1) M [(0, vr (some (97, 1, 0))), (1, vi l1), (2, vi l2)] 85 [vi s0, vr (some (97, 1, 0))] Q := by
  exact zm_callV (as := [vi s0]) (st := []) dX8_keysOf_85 vsX8_1141_1 (Nat.le_refl _) (Nat.le_of_ble_eq_true rfl) (Nat.le_of_ble_eq_true rfl) rfl k
theorem sX8_keysOf_88 {E : zE} {d : Nat} {Q : zO → zM → Prop} (M : zM) (l1 : Int32) (l2 : Int32) (s0 : Int32) (k : if s0 = (-1 : Int32) then (Zm E YX8_addKey d M (zargs 0 [vr (some (97, 1, 0)), vi (gi M 97 8)]) 0 [] (zma E YX8_keysOf (d + 1) [(0, vr (some (97, 1, 0))), (1, vi l1), (2, vi l2)] 103 3 [] Q)) else (Zm E YX8_addKey d M (zargs 0 [vr (some (97, 1, 0)), vi s0]) 0 [] (zma E YX8_keysOf (d + 1) [(0, vr (some (97, 1, 0))), (1, vi l1), (2, vi l2)] 103 3 [] Q))) : Zm E YX8_keysOf (d + 1) M [(0, vr (some (97, 1, 0))), (1, vi l1), (2, vi l2)] 88 [vi s0] Q := by
  refine Zm.l (fun _ _ k_ => z_ist_n dX8_keysOf_88 rfl (by decide) (lv' := [(0, vr (some (97, 1, 0))), (1, vi l1), (2, vi l2), (3, vi s0)]) rfl k_) ?_
  refine Zm.l (fun _ _ k_ => z_aload_n dX8_keysOf_89 rfl rfl k_) ?_
  refine Zm.l (fun _ _ k_ => z_iload_n dX8_keysOf_90 rfl rfl k_) ?_
  refine Zm.l (fun _ _ k_ => z_iconst (v := -1) dX8_keysOf_91 rfl k_) ?_
  refine Zm.brn (fun _ _ k1_ k2_ => z_icmp_ne (tgt := 102) dX8_keysOf_92 rfl k1_ k2_) (fun h_ => ?_) (fun h_ => ?_)
  · have k := zif h_ k
    refine Zm.l (fun _ _ k_ => z_iload_n dX8_keysOf_102 rfl rfl k_) ?_
    refine Zm.pick [0, 1, 2] rfl ?_
    exact zm_callV (as := [vi s0]) (st := []) dX8_keysOf_103 vsX8_1138_1 (Nat.le_refl _) (Nat.le_of_ble_eq_true rfl) (Nat.le_of_ble_eq_true rfl) rfl k
  · have k := zit h_ k
    refine Zm.l (fun _ _ k_ => z_aload_n dX8_keysOf_95 rfl rfl k_) ?_
    refine zm_geti dX8_keysOf_96 fsX8_762_1 (by decide) (by decide) ?_
    refine Zm.l (fun _ _ k_ => z_goto (tgt := 103) dX8_keysOf_99 rfl k_) ?_
    refine Zm.pick [0, 1, 2] rfl ?_
    exact zm_callV (as := [vi (gi M 97 8)]) (st := []) dX8_keysOf_103 vsX8_1138_1 (Nat.le_refl _) (Nat.le_of_ble_eq_true rfl) (Nat.le_of_ble_eq_true rfl) rfl k
theorem sX8_keysOf_106 {E : zE} {d : Nat} {Q : zO → zM → Prop} (M : zM) (l1 : Int32) (l2 : Int32) (k : Zm E YX8_keysOf (d + 1) M [(0, vr (some (97, 1, 0))), (1, vi l1), (2, vi l2), (3, vi (0 : Int32))] 108 [] Q) : Zm E YX8_keysOf (d + 1) M [(0, vr (some (97, 1, 0))), (1, vi l1), (2, vi l2)] 106 [] Q := by
  refine Zm.l (fun _ _ k_ => z_iconst (v := 0) dX8_keysOf_106 rfl k_) ?_
  refine Zm.l (fun _ _ k_ => z_ist_n dX8_keysOf_107 rfl (by decide) (lv' := [(0, vr (some (97, 1, 0))), (1, vi l1), (2, vi l2), (3, vi (0 : Int32))]) rfl k_) ?_
  exact k
theorem sX8_keysOf_108 {E : zE} {d : Nat} {Q : zO → zM → Prop} (M : zM) (l1 : Int32) (l2 : Int32) (l3 : Int32) (k : if (gi M 97 8) < l3 then (if (l2 &&& (128 : Int32)) = 0 then (Zm E YX8_keysOf (d + 1) M [(0, vr (some (97, 1, 0))), (1, vi l1)] 188 [] Q) else (Zm E YX8_name d M (zargs 0 [vr (some (97, 1, 0)), vi l1]) 0 [] (zma E YX8_keysOf (d + 1) [(0, vr (some (97, 1, 0))), (1, vi l1)] 182 3 [vr (some (97, 1, 0))] Q))) else (if (l2 &&& (256 : Int32)) = 0 then (if (l2 &&& (64 : Int32)) = 0 then (if (0 : Int32) = 0 then (Zm E YX8_keysOf (d + 1) M [(0, vr (some (97, 1, 0))), (1, vi l1), (2, vi l2), (3, vi l3)] 165 [] Q) else (Zm E YX8_addKey d M (zargs 0 [vr (some (97, 1, 0)), vi l3]) 0 [] (zma E YX8_keysOf (d + 1) [(0, vr (some (97, 1, 0))), (1, vi l1), (2, vi l2), (3, vi l3)] 162 3 [] Q))) else (if l3 = (gi M 97 8) then (Zm E YX8_keysOf (d + 1) M [(0, vr (some (97, 1, 0))), (1, vi l1), (2, vi l2), (3, vi l3)] 148 [] Q) else (vp_in l3 90 ∧ (if (gi M 184 (l3).toNatClampNeg) = 0 then (if (0 : Int32) = 0 then (Zm E YX8_keysOf (d + 1) M [(0, vr (some (97, 1, 0))), (1, vi l1), (2, vi l2), (3, vi l3)] 165 [] Q) else (Zm E YX8_addKey d M (zargs 0 [vr (some (97, 1, 0)), vi l3]) 0 [] (zma E YX8_keysOf (d + 1) [(0, vr (some (97, 1, 0))), (1, vi l1), (2, vi l2), (3, vi l3)] 162 3 [] Q))) else (Zm E YX8_keysOf (d + 1) M [(0, vr (some (97, 1, 0))), (1, vi l1), (2, vi l2), (3, vi l3)] 148 [] Q))))) else (Zm E YX8_keysOf (d + 1) M [(0, vr (some (97, 1, 0))), (1, vi l1), (2, vi l2), (3, vi l3)] 148 [] Q))) : Zm E YX8_keysOf (d + 1) M [(0, vr (some (97, 1, 0))), (1, vi l1), (2, vi l2), (3, vi l3)] 108 [] Q := by
  refine Zm.l (fun _ _ k_ => z_iload_n dX8_keysOf_108 rfl rfl k_) ?_
  refine Zm.l (fun _ _ k_ => z_aload_n dX8_keysOf_109 rfl rfl k_) ?_
  refine zm_geti dX8_keysOf_110 fsX8_762_1 (by decide) (by decide) ?_
  refine Zm.br (fun _ _ k1_ k2_ => z_icmp_gt (tgt := 171) dX8_keysOf_113 rfl k1_ k2_) (fun h_ => ?_) (fun h_ => ?_)
  · have k := zit h_ k
    refine Zm.l (fun _ _ k_ => z_iload_n dX8_keysOf_171 rfl rfl k_) ?_
    refine Zm.l (fun _ _ k_ => z_sipush (v := 128) dX8_keysOf_172 rfl k_) ?_
    refine Zm.l (fun _ _ k_ => z_iand dX8_keysOf_175 k_) ?_
    refine Zm.br (fun _ _ k1_ k2_ => z_if_eq (tgt := 188) dX8_keysOf_176 rfl k1_ k2_) (fun h_ => ?_) (fun h_ => ?_)
    · have k := zit h_ k
      refine Zm.pick [0, 1] rfl ?_
      exact k
    · have k := zif h_ k
      refine Zm.l (fun _ _ k_ => z_aload_n dX8_keysOf_179 rfl rfl k_) ?_
      refine Zm.l (fun _ _ k_ => z_aload_n dX8_keysOf_180 rfl rfl k_) ?_
      refine Zm.l (fun _ _ k_ => z_iload_n dX8_keysOf_181 rfl rfl k_) ?_
      refine Zm.pick [0, 1] rfl ?_
      exact zm_callV (as := [vi l1]) (st := [vr (some (97, 1, 0))]) dX8_keysOf_182 vsX8_1053_1 (Nat.le_refl _) (Nat.le_of_ble_eq_true rfl) (Nat.le_of_ble_eq_true rfl) rfl k
  · have k := zif h_ k
    refine Zm.l (fun _ _ k_ => z_iload_n dX8_keysOf_116 rfl rfl k_) ?_
    refine Zm.l (fun _ _ k_ => z_sipush (v := 256) dX8_keysOf_117 rfl k_) ?_
    refine Zm.l (fun _ _ k_ => z_iand dX8_keysOf_120 k_) ?_
    refine Zm.brn (fun _ _ k1_ k2_ => z_if_ne (tgt := 148) dX8_keysOf_121 rfl k1_ k2_) (fun h_ => ?_) (fun h_ => ?_)
    · have k := zif h_ k
      exact k
    · have k := zit h_ k
      refine Zm.l (fun _ _ k_ => z_iload_n dX8_keysOf_124 rfl rfl k_) ?_
      refine Zm.l (fun _ _ k_ => z_bipush (v := 64) dX8_keysOf_125 rfl k_) ?_
      refine Zm.l (fun _ _ k_ => z_iand dX8_keysOf_127 k_) ?_
      refine Zm.br (fun _ _ k1_ k2_ => z_if_eq (tgt := 152) dX8_keysOf_128 rfl k1_ k2_) (fun h_ => ?_) (fun h_ => ?_)
      · have k := zit h_ k
        refine Zm.l (fun _ _ k_ => z_iconst (v := 0) dX8_keysOf_152 rfl k_) ?_
        refine Zm.l (fun _ _ k_ => z_ist dX8_keysOf_153 (by decide) (lv' := [(0, vr (some (97, 1, 0))), (1, vi l1), (2, vi l2), (3, vi l3), (4, vi (0 : Int32))]) rfl k_) ?_
        refine Zm.l (fun _ _ k_ => z_iload dX8_keysOf_155 rfl k_) ?_
        refine Zm.br (fun _ _ k1_ k2_ => z_if_eq (tgt := 165) dX8_keysOf_157 rfl k1_ k2_) (fun h_ => ?_) (fun h_ => ?_)
        · have k := zit h_ k
          refine Zm.pick [0, 1, 2, 3] rfl ?_
          exact k
        · have k := zif h_ k
          refine Zm.l (fun _ _ k_ => z_aload_n dX8_keysOf_160 rfl rfl k_) ?_
          refine Zm.l (fun _ _ k_ => z_iload_n dX8_keysOf_161 rfl rfl k_) ?_
          refine Zm.pick [0, 1, 2, 3] rfl ?_
          exact zm_callV (as := [vi l3]) (st := []) dX8_keysOf_162 vsX8_1138_1 (Nat.le_refl _) (Nat.le_of_ble_eq_true rfl) (Nat.le_of_ble_eq_true rfl) rfl k
      · have k := zif h_ k
        refine Zm.l (fun _ _ k_ => z_iload_n dX8_keysOf_131 rfl rfl k_) ?_
        refine Zm.l (fun _ _ k_ => z_aload_n dX8_keysOf_132 rfl rfl k_) ?_
        refine zm_geti dX8_keysOf_133 fsX8_762_1 (by decide) (by decide) ?_
        refine Zm.br (fun _ _ k1_ k2_ => z_icmp_eq (tgt := 148) dX8_keysOf_136 rfl k1_ k2_) (fun h_ => ?_) (fun h_ => ?_)
        · have k := zit h_ k
          exact k
        · have k := zif h_ k
          refine Zm.l (fun _ _ k_ => z_aload_n dX8_keysOf_139 rfl rfl k_) ?_
          refine zm_getr 81 dX8_keysOf_140 fsX8_274_1 rfl ?_
          refine Zm.l (fun _ _ k_ => z_iload_n dX8_keysOf_143 rfl rfl k_) ?_
          obtain ⟨b_, k⟩ := k
          refine zm_zald dX8_keysOf_144 b_ (by decide) (by decide) ?_
          refine Zm.br (fun _ _ k1_ k2_ => z_if_eq (tgt := 152) dX8_keysOf_145 rfl k1_ k2_) (fun h_ => ?_) (fun h_ => ?_)
          · have k := zit h_ k
            refine Zm.l (fun _ _ k_ => z_iconst (v := 0) dX8_keysOf_152 rfl k_) ?_
            refine Zm.l (fun _ _ k_ => z_ist dX8_keysOf_153 (by decide) (lv' := [(0, vr (some (97, 1, 0))), (1, vi l1), (2, vi l2), (3, vi l3), (4, vi (0 : Int32))]) rfl k_) ?_
            refine Zm.l (fun _ _ k_ => z_iload dX8_keysOf_155 rfl k_) ?_
            refine Zm.br (fun _ _ k1_ k2_ => z_if_eq (tgt := 165) dX8_keysOf_157 rfl k1_ k2_) (fun h_ => ?_) (fun h_ => ?_)
            · have k := zit h_ k
              refine Zm.pick [0, 1, 2, 3] rfl ?_
              exact k
            · have k := zif h_ k
              refine Zm.l (fun _ _ k_ => z_aload_n dX8_keysOf_160 rfl rfl k_) ?_
              refine Zm.l (fun _ _ k_ => z_iload_n dX8_keysOf_161 rfl rfl k_) ?_
              refine Zm.pick [0, 1, 2, 3] rfl ?_
              exact zm_callV (as := [vi l3]) (st := []) dX8_keysOf_162 vsX8_1138_1 (Nat.le_refl _) (Nat.le_of_ble_eq_true rfl) (Nat.le_of_ble_eq_true rfl) rfl k
          · have k := zif h_ k
            exact k
theorem sX8_keysOf_148 {E : zE} {d : Nat} {Q : zO → zM → Prop} (M : zM) (l1 : Int32) (l2 : Int32) (l3 : Int32) (k : if (1 : Int32) = 0 then (Zm E YX8_keysOf (d + 1) M [(0, vr (some (97, 1, 0))), (1, vi l1), (2, vi l2), (3, vi l3)] 165 [] Q) else (Zm E YX8_addKey d M (zargs 0 [vr (some (97, 1, 0)), vi l3]) 0 [] (zma E YX8_keysOf (d + 1) [(0, vr (some (97, 1, 0))), (1, vi l1), (2, vi l2), (3, vi l3)] 162 3 [] Q))) : Zm E YX8_keysOf (d + 1) M [(0, vr (some (97, 1, 0))), (1, vi l1), (2, vi l2), (3, vi l3)] 148 [] Q := by
  refine Zm.l (fun _ _ k_ => z_iconst (v := 1) dX8_keysOf_148 rfl k_) ?_
  refine Zm.l (fun _ _ k_ => z_goto (tgt := 153) dX8_keysOf_149 rfl k_) ?_
  refine Zm.l (fun _ _ k_ => z_ist dX8_keysOf_153 (by decide) (lv' := [(0, vr (some (97, 1, 0))), (1, vi l1), (2, vi l2), (3, vi l3), (4, vi (1 : Int32))]) rfl k_) ?_
  refine Zm.l (fun _ _ k_ => z_iload dX8_keysOf_155 rfl k_) ?_
  refine Zm.br (fun _ _ k1_ k2_ => z_if_eq (tgt := 165) dX8_keysOf_157 rfl k1_ k2_) (fun h_ => ?_) (fun h_ => ?_)
  · have k := zit h_ k
    refine Zm.pick [0, 1, 2, 3] rfl ?_
    exact k
  · have k := zif h_ k
    refine Zm.l (fun _ _ k_ => z_aload_n dX8_keysOf_160 rfl rfl k_) ?_
    refine Zm.l (fun _ _ k_ => z_iload_n dX8_keysOf_161 rfl rfl k_) ?_
    refine Zm.pick [0, 1, 2, 3] rfl ?_
    exact zm_callV (as := [vi l3]) (st := []) dX8_keysOf_162 vsX8_1138_1 (Nat.le_refl _) (Nat.le_of_ble_eq_true rfl) (Nat.le_of_ble_eq_true rfl) rfl k
theorem sX8_keysOf_165 {E : zE} {d : Nat} {Q : zO → zM → Prop} (M : zM) (l1 : Int32) (l2 : Int32) (l3 : Int32) (k : Zm E YX8_keysOf (d + 1) M [(0, vr (some (97, 1, 0))), (1, vi l1), (2, vi l2), (3, vi (l3 + (1 : Int32)))] 108 [] Q) : Zm E YX8_keysOf (d + 1) M [(0, vr (some (97, 1, 0))), (1, vi l1), (2, vi l2), (3, vi l3)] 165 [] Q := by
  refine Zm.l (fun _ _ k_ => z_inc (v := (l3 + (1 : Int32))) dX8_keysOf_165 rfl rfl (by decide) (lv' := [(0, vr (some (97, 1, 0))), (1, vi l1), (2, vi l2), (3, vi (l3 + (1 : Int32)))]) rfl k_) ?_
  refine Zm.l (fun _ _ k_ => z_goto (tgt := 108) dX8_keysOf_168 rfl k_) ?_
  exact k
theorem sX8_keysOf_185 {E : zE} {d : Nat} {Q : zO → zM → Prop} (M : zM) (l1 : Int32) (s0 : Int32) (k : Zm E YX8_addKey d M (zargs 0 [vr (some (97, 1, 0)), vi s0]) 0 [] (zma E YX8_keysOf (d + 1) [(0, vr (some (97, 1, 0))), (1, vi l1)] 185 3 [] Q)) : Zm E YX8_keysOf (d + 1) M [(0, vr (some (97, 1, 0))), (1, vi l1)] 185 [vi s0, vr (some (97, 1, 0))] Q := by
  exact zm_callV (as := [vi s0]) (st := []) dX8_keysOf_185 vsX8_1138_1 (Nat.le_refl _) (Nat.le_of_ble_eq_true rfl) (Nat.le_of_ble_eq_true rfl) rfl k
theorem sX8_keysOf_188 {E : zE} {d : Nat} {Q : zO → zM → Prop} (M : zM) (l1 : Int32) (k : Zm E YX8_hasLabels d M (zargs 0 [vr (some (97, 1, 0)), vi l1]) 0 [] (zma E YX8_keysOf (d + 1) [(0, vr (some (97, 1, 0)))] 190 3 [] Q)) : Zm E YX8_keysOf (d + 1) M [(0, vr (some (97, 1, 0))), (1, vi l1)] 188 [] Q := by
  refine Zm.l (fun _ _ k_ => z_aload_n dX8_keysOf_188 rfl rfl k_) ?_
  refine Zm.l (fun _ _ k_ => z_iload_n dX8_keysOf_189 rfl rfl k_) ?_
  refine Zm.pick [0] rfl ?_
  exact zm_callV (as := [vi l1]) (st := []) dX8_keysOf_190 vsX8_1062_1 (Nat.le_refl _) (Nat.le_of_ble_eq_true rfl) (Nat.le_of_ble_eq_true rfl) rfl k
theorem sX8_keysOf_193 {E : zE} {d : Nat} {Q : zO → zM → Prop} (M : zM) (s0 : Int32) (k : if s0 = 0 then (Zm E YX8_keysOf (d + 1) M [] 202 [] Q) else (Zm E YX8_addKey d M (zargs 0 [vr (some (97, 1, 0)), vi (29 : Int32)]) 0 [] (zma E YX8_keysOf (d + 1) [] 199 3 [] Q))) : Zm E YX8_keysOf (d + 1) M [(0, vr (some (97, 1, 0)))] 193 [vi s0] Q := by
  refine Zm.br (fun _ _ k1_ k2_ => z_if_eq (tgt := 202) dX8_keysOf_193 rfl k1_ k2_) (fun h_ => ?_) (fun h_ => ?_)
  · have k := zit h_ k
    refine Zm.pick [] rfl ?_
    exact k
  · have k := zif h_ k
    refine Zm.l (fun _ _ k_ => z_aload_n dX8_keysOf_196 rfl rfl k_) ?_
    refine Zm.l (fun _ _ k_ => z_bipush (v := 29) dX8_keysOf_197 rfl k_) ?_
    refine Zm.pick [] rfl ?_
    exact zm_callV (as := [vi (29 : Int32)]) (st := []) dX8_keysOf_199 vsX8_1138_1 (Nat.le_refl _) (Nat.le_of_ble_eq_true rfl) (Nat.le_of_ble_eq_true rfl) rfl k
theorem sX8_keysOf_202 {E : zE} {d : Nat} {Q : zO → zM → Prop} (M : zM)  (k : Q (.inl none) M) : Zm E YX8_keysOf (d + 1) M [] 202 [] Q := by
  exact zm_vret dX8_keysOf_202 rfl k
/-! ScriptTypesModel.nameOfNumber(I)I -/
theorem bX8_nameOfNumber_0 : zdec cX8_nameOfNumber 0 [(0, .aload_n 0, 1), (1, .iconst 0, 1), (2, .putfield 299, 3), (5, .aload_n 0, 1), (6, .iload_n 1, 1), (7, .invokevirtual 410, 3), (10, .aload_n 0, 1), (11, .invokevirtual 1144, 3), (14, .ireturn, 1)] = true := by decide +kernel
theorem dX8_nameOfNumber_0 : decode cX8_nameOfNumber 0 = .ok (.aload_n 0, 1) := zdec_at bX8_nameOfNumber_0 0 rfl
theorem dX8_nameOfNumber_1 : decode cX8_nameOfNumber 1 = .ok (.iconst 0, 1) := zdec_at bX8_nameOfNumber_0 1 rfl
theorem dX8_nameOfNumber_2 : decode cX8_nameOfNumber 2 = .ok (.putfield 299, 3) := zdec_at bX8_nameOfNumber_0 2 rfl
theorem dX8_nameOfNumber_5 : decode cX8_nameOfNumber 5 = .ok (.aload_n 0, 1) := zdec_at bX8_nameOfNumber_0 3 rfl
theorem dX8_nameOfNumber_6 : decode cX8_nameOfNumber 6 = .ok (.iload_n 1, 1) := zdec_at bX8_nameOfNumber_0 4 rfl
theorem dX8_nameOfNumber_7 : decode cX8_nameOfNumber 7 = .ok (.invokevirtual 410, 3) := zdec_at bX8_nameOfNumber_0 5 rfl
theorem dX8_nameOfNumber_10 : decode cX8_nameOfNumber 10 = .ok (.aload_n 0, 1) := zdec_at bX8_nameOfNumber_0 6 rfl
theorem dX8_nameOfNumber_11 : decode cX8_nameOfNumber 11 = .ok (.invokevirtual 1144, 3) := zdec_at bX8_nameOfNumber_0 7 rfl
theorem dX8_nameOfNumber_14 : decode cX8_nameOfNumber 14 = .ok (.ireturn, 1) := zdec_at bX8_nameOfNumber_0 8 rfl
theorem sX8_nameOfNumber_0 {E : zE} {d : Nat} {Q : zO → zM → Prop} (M : zM) (l1 : Int32) (k : Zm E YX8_putNumber d (si M 97 11 (0 : Int32)) (zargs 0 [vr (some (97, 1, 0)), vi l1]) 0 [] (zma E YX8_nameOfNumber (d + 1) [(0, vr (some (97, 1, 0)))] 7 3 [] Q)) : Zm E YX8_nameOfNumber (d + 1) M [(0, vr (some (97, 1, 0))), (1, vi l1)] 0 [] Q := by
  refine Zm.l (fun _ _ k_ => z_aload_n dX8_nameOfNumber_0 rfl rfl k_) ?_
  refine Zm.l (fun _ _ k_ => z_iconst (v := 0) dX8_nameOfNumber_1 rfl k_) ?_
  refine zm_puti (by decide) (by decide) dX8_nameOfNumber_2 (zfwN.w fwX8_299_1) rfl ⟨rfl, rfl⟩ ?_
  refine Zm.l (fun _ _ k_ => z_aload_n dX8_nameOfNumber_5 rfl rfl k_) ?_
  refine Zm.l (fun _ _ k_ => z_iload_n dX8_nameOfNumber_6 rfl rfl k_) ?_
  refine Zm.pick [0] rfl ?_
  exact zm_callV (as := [vi l1]) (st := []) dX8_nameOfNumber_7 vsX8_410_1 (Nat.le_refl _) (Nat.le_of_ble_eq_true rfl) (Nat.le_of_ble_eq_true rfl) rfl k
theorem sX8_nameOfNumber_10 {E : zE} {d : Nat} {Q : zO → zM → Prop} (M : zM)  (k : Zm E YX8_findName d M (zargs 0 [vr (some (97, 1, 0))]) 0 [] (zma E YX8_nameOfNumber (d + 1) [] 11 3 [] Q)) : Zm E YX8_nameOfNumber (d + 1) M [(0, vr (some (97, 1, 0)))] 10 [] Q := by
  refine Zm.l (fun _ _ k_ => z_aload_n dX8_nameOfNumber_10 rfl rfl k_) ?_
  refine Zm.pick [] rfl ?_
  exact zm_callV (as := []) (st := []) dX8_nameOfNumber_11 vsX8_1144_1 (Nat.le_refl _) (Nat.le_of_ble_eq_true rfl) (Nat.le_of_ble_eq_true rfl) rfl k
theorem sX8_nameOfNumber_14 {E : zE} {d : Nat} {Q : zO → zM → Prop} (M : zM) (s0 : Int32) (k : Q (.inl (some (vi s0))) M) : Zm E YX8_nameOfNumber (d + 1) M [] 14 [vi s0] Q := by
  exact zm_iret dX8_nameOfNumber_14 rfl rfl k
/-! ScriptTypesModel.findName()I -/
theorem bX8_findName_0 : zdec cX8_findName 0 [(0, .aload_n 0, 1), (1, .invokevirtual 302, 3), (4, .istore_n 1, 1), (5, .iload_n 1, 1), (6, .aload_n 0, 1), (7, .getfield 762, 3), (10, .if_icmp .ge 7, 3), (13, .iload_n 1, 1), (14, .goto 4, 3), (17, .iconst (-1), 1), (18, .ireturn, 1)] = true := by decide +kernel
theorem dX8_findName_0 : decode cX8_findName 0 = .ok (.aload_n 0, 1) := zdec_at bX8_findName_0 0 rfl
theorem dX8_findName_1 : decode cX8_findName 1 = .ok (.invokevirtual 302, 3) := zdec_at bX8_findName_0 1 rfl
theorem dX8_findName_4 : decode cX8_findName 4 = .ok (.istore_n 1, 1) := zdec_at bX8_findName_0 2 rfl
theorem dX8_findName_5 : decode cX8_findName 5 = .ok (.iload_n 1, 1) := zdec_at bX8_findName_0 3 rfl
theorem dX8_findName_6 : decode cX8_findName 6 = .ok (.aload_n 0, 1) := zdec_at bX8_findName_0 4 rfl
theorem dX8_findName_7 : decode cX8_findName 7 = .ok (.getfield 762, 3) := zdec_at bX8_findName_0 5 rfl
theorem dX8_findName_10 : decode cX8_findName 10 = .ok (.if_icmp .ge 7, 3) := zdec_at bX8_findName_0 6 rfl
theorem dX8_findName_13 : decode cX8_findName 13 = .ok (.iload_n 1, 1) := zdec_at bX8_findName_0 7 rfl
theorem dX8_findName_14 : decode cX8_findName 14 = .ok (.goto 4, 3) := zdec_at bX8_findName_0 8 rfl
theorem dX8_findName_17 : decode cX8_findName 17 = .ok (.iconst (-1), 1) := zdec_at bX8_findName_0 9 rfl
theorem dX8_findName_18 : decode cX8_findName 18 = .ok (.ireturn, 1) := zdec_at bX8_findName_0 10 rfl
theorem sX8_findName_0 {E : zE} {d : Nat} {Q : zO → zM → Prop} (M : zM)  (k : Zm E YX8_findText d M (zargs 0 [vr (some (97, 1, 0))]) 0 [] (zma E YX8_findName (d + 1) [(0, vr (some (97, 1, 0)))] 1 3 [] Q)) : Zm E YX8_findName (d + 1) M [(0, vr (some (97, 1, 0)))] 0 [] Q := by
  refine Zm.l (fun _ _ k_ => z_aload_n dX8_findName_0 rfl rfl k_) ?_
  exact zm_callV (as := []) (st := []) dX8_findName_1 vsX8_302_1 (Nat.le_refl _) (Nat.le_of_ble_eq_true rfl) (Nat.le_of_ble_eq_true rfl) rfl k
theorem sX8_findName_4 {E : zE} {d : Nat} {Q : zO → zM → Prop} (M : zM) (s0 : Int32) (k : if (gi M 97 8) ≤ s0 then (Q (.inl (some (vi (-1 : Int32)))) M) else (Q (.inl (some (vi s0))) M)) : Zm E YX8_findName (d + 1) M [(0, vr (some (97, 1, 0)))] 4 [vi s0] Q := by
  refine Zm.l (fun _ _ k_ => z_ist_n dX8_findName_4 rfl (by decide) (lv' := [(0, vr (some (97, 1, 0))), (1, vi s0)]) rfl k_) ?_
  refine Zm.l (fun _ _ k_ => z_iload_n dX8_findName_5 rfl rfl k_) ?_
  refine Zm.l (fun _ _ k_ => z_aload_n dX8_findName_6 rfl rfl k_) ?_
  refine zm_geti dX8_findName_7 fsX8_762_1 (by decide) (by decide) ?_
  refine Zm.br (fun _ _ k1_ k2_ => z_icmp_ge (tgt := 17) dX8_findName_10 rfl k1_ k2_) (fun h_ => ?_) (fun h_ => ?_)
  · have k := zit h_ k
    refine Zm.l (fun _ _ k_ => z_iconst (v := -1) dX8_findName_17 rfl k_) ?_
    exact zm_iret dX8_findName_18 rfl rfl k
  · have k := zif h_ k
    refine Zm.l (fun _ _ k_ => z_iload_n dX8_findName_13 rfl rfl k_) ?_
    refine Zm.l (fun _ _ k_ => z_goto (tgt := 18) dX8_findName_14 rfl k_) ?_
    exact zm_iret dX8_findName_18 rfl rfl k
/-! ScriptTypesModel.tossSet(I)V -/
theorem bX8_tossSet_0 : zdec cX8_tossSet 0 [(0, .aload_n 0, 1), (1, .getfield 247, 3), (4, .sipush 639, 3), (7, .iaload, 1), (8, .ifCond .ne 44, 3), (11, .aload_n 0, 1), (12, .getfield 235, 3), (15, .sipush 639, 3), (18, .iconst 0, 1), (19, .iastore, 1), (20, .aload_n 0, 1), (21, .iload_n 1, 1), (22, .aload_n 0, 1), (23, .invokevirtual 1201, 3), (26, .invokevirtual 1092, 3), (29, .aload_n 0, 1)] = true := by decide +kernel
theorem dX8_tossSet_0 : decode cX8_tossSet 0 = .ok (.aload_n 0, 1) := zdec_at bX8_tossSet_0 0 rfl
theorem dX8_tossSet_1 : decode cX8_tossSet 1 = .ok (.getfield 247, 3) := zdec_at bX8_tossSet_0 1 rfl
theorem dX8_tossSet_4 : decode cX8_tossSet 4 = .ok (.sipush 639, 3) := zdec_at bX8_tossSet_0 2 rfl
theorem dX8_tossSet_7 : decode cX8_tossSet 7 = .ok (.iaload, 1) := zdec_at bX8_tossSet_0 3 rfl
theorem dX8_tossSet_8 : decode cX8_tossSet 8 = .ok (.ifCond .ne 44, 3) := zdec_at bX8_tossSet_0 4 rfl
theorem dX8_tossSet_11 : decode cX8_tossSet 11 = .ok (.aload_n 0, 1) := zdec_at bX8_tossSet_0 5 rfl
theorem dX8_tossSet_12 : decode cX8_tossSet 12 = .ok (.getfield 235, 3) := zdec_at bX8_tossSet_0 6 rfl
theorem dX8_tossSet_15 : decode cX8_tossSet 15 = .ok (.sipush 639, 3) := zdec_at bX8_tossSet_0 7 rfl
theorem dX8_tossSet_18 : decode cX8_tossSet 18 = .ok (.iconst 0, 1) := zdec_at bX8_tossSet_0 8 rfl
theorem dX8_tossSet_19 : decode cX8_tossSet 19 = .ok (.iastore, 1) := zdec_at bX8_tossSet_0 9 rfl
theorem dX8_tossSet_20 : decode cX8_tossSet 20 = .ok (.aload_n 0, 1) := zdec_at bX8_tossSet_0 10 rfl
theorem dX8_tossSet_21 : decode cX8_tossSet 21 = .ok (.iload_n 1, 1) := zdec_at bX8_tossSet_0 11 rfl
theorem dX8_tossSet_22 : decode cX8_tossSet 22 = .ok (.aload_n 0, 1) := zdec_at bX8_tossSet_0 12 rfl
theorem dX8_tossSet_23 : decode cX8_tossSet 23 = .ok (.invokevirtual 1201, 3) := zdec_at bX8_tossSet_0 13 rfl
theorem dX8_tossSet_26 : decode cX8_tossSet 26 = .ok (.invokevirtual 1092, 3) := zdec_at bX8_tossSet_0 14 rfl
theorem dX8_tossSet_29 : decode cX8_tossSet 29 = .ok (.aload_n 0, 1) := zdec_at bX8_tossSet_0 15 rfl
theorem bX8_tossSet_30 : zdec cX8_tossSet 30 [(30, .aload_n 0, 1), (31, .getfield 606, 3), (34, .iconst 2, 1), (35, .aload_n 0, 1), (36, .getfield 98, 3), (39, .aload_n 0, 1), (40, .getfield 1188, 3), (43, .iaload, 1), (44, .imul, 1), (45, .iadd, 1), (46, .iconst 1, 1), (47, .iadd, 1), (48, .invokevirtual 1191, 3), (51, .return_, 1), (52, .aload_n 0, 1), (53, .getfield 247, 3)] = true := by decide +kernel
theorem dX8_tossSet_30 : decode cX8_tossSet 30 = .ok (.aload_n 0, 1) := zdec_at bX8_tossSet_30 0 rfl
theorem dX8_tossSet_31 : decode cX8_tossSet 31 = .ok (.getfield 606, 3) := zdec_at bX8_tossSet_30 1 rfl
theorem dX8_tossSet_34 : decode cX8_tossSet 34 = .ok (.iconst 2, 1) := zdec_at bX8_tossSet_30 2 rfl
theorem dX8_tossSet_35 : decode cX8_tossSet 35 = .ok (.aload_n 0, 1) := zdec_at bX8_tossSet_30 3 rfl
theorem dX8_tossSet_36 : decode cX8_tossSet 36 = .ok (.getfield 98, 3) := zdec_at bX8_tossSet_30 4 rfl
theorem dX8_tossSet_39 : decode cX8_tossSet 39 = .ok (.aload_n 0, 1) := zdec_at bX8_tossSet_30 5 rfl
theorem dX8_tossSet_40 : decode cX8_tossSet 40 = .ok (.getfield 1188, 3) := zdec_at bX8_tossSet_30 6 rfl
theorem dX8_tossSet_43 : decode cX8_tossSet 43 = .ok (.iaload, 1) := zdec_at bX8_tossSet_30 7 rfl
theorem dX8_tossSet_44 : decode cX8_tossSet 44 = .ok (.imul, 1) := zdec_at bX8_tossSet_30 8 rfl
theorem dX8_tossSet_45 : decode cX8_tossSet 45 = .ok (.iadd, 1) := zdec_at bX8_tossSet_30 9 rfl
theorem dX8_tossSet_46 : decode cX8_tossSet 46 = .ok (.iconst 1, 1) := zdec_at bX8_tossSet_30 10 rfl
theorem dX8_tossSet_47 : decode cX8_tossSet 47 = .ok (.iadd, 1) := zdec_at bX8_tossSet_30 11 rfl
theorem dX8_tossSet_48 : decode cX8_tossSet 48 = .ok (.invokevirtual 1191, 3) := zdec_at bX8_tossSet_30 12 rfl
theorem dX8_tossSet_51 : decode cX8_tossSet 51 = .ok (.return_, 1) := zdec_at bX8_tossSet_30 13 rfl
theorem dX8_tossSet_52 : decode cX8_tossSet 52 = .ok (.aload_n 0, 1) := zdec_at bX8_tossSet_30 14 rfl
theorem dX8_tossSet_53 : decode cX8_tossSet 53 = .ok (.getfield 247, 3) := zdec_at bX8_tossSet_30 15 rfl
theorem bX8_tossSet_56 : zdec cX8_tossSet 56 [(56, .sipush 639, 3), (59, .dup2, 1), (60, .iaload, 1), (61, .iconst 1, 1), (62, .isub, 1), (63, .iastore, 1), (64, .sipush 25560, 3), (67, .aload_n 0, 1), (68, .getfield 247, 3), (71, .sipush 639, 3), (74, .iaload, 1), (75, .iadd, 1), (76, .istore_n 2, 1), (77, .aload_n 0, 1), (78, .getfield 235, 3), (81, .sipush 639, 3)] = true := by decide +kernel
theorem dX8_tossSet_56 : decode cX8_tossSet 56 = .ok (.sipush 639, 3) := zdec_at bX8_tossSet_56 0 rfl
theorem dX8_tossSet_59 : decode cX8_tossSet 59 = .ok (.dup2, 1) := zdec_at bX8_tossSet_56 1 rfl
theorem dX8_tossSet_60 : decode cX8_tossSet 60 = .ok (.iaload, 1) := zdec_at bX8_tossSet_56 2 rfl
theorem dX8_tossSet_61 : decode cX8_tossSet 61 = .ok (.iconst 1, 1) := zdec_at bX8_tossSet_56 3 rfl
theorem dX8_tossSet_62 : decode cX8_tossSet 62 = .ok (.isub, 1) := zdec_at bX8_tossSet_56 4 rfl
theorem dX8_tossSet_63 : decode cX8_tossSet 63 = .ok (.iastore, 1) := zdec_at bX8_tossSet_56 5 rfl
theorem dX8_tossSet_64 : decode cX8_tossSet 64 = .ok (.sipush 25560, 3) := zdec_at bX8_tossSet_56 6 rfl
theorem dX8_tossSet_67 : decode cX8_tossSet 67 = .ok (.aload_n 0, 1) := zdec_at bX8_tossSet_56 7 rfl
theorem dX8_tossSet_68 : decode cX8_tossSet 68 = .ok (.getfield 247, 3) := zdec_at bX8_tossSet_56 8 rfl
theorem dX8_tossSet_71 : decode cX8_tossSet 71 = .ok (.sipush 639, 3) := zdec_at bX8_tossSet_56 9 rfl
theorem dX8_tossSet_74 : decode cX8_tossSet 74 = .ok (.iaload, 1) := zdec_at bX8_tossSet_56 10 rfl
theorem dX8_tossSet_75 : decode cX8_tossSet 75 = .ok (.iadd, 1) := zdec_at bX8_tossSet_56 11 rfl
theorem dX8_tossSet_76 : decode cX8_tossSet 76 = .ok (.istore_n 2, 1) := zdec_at bX8_tossSet_56 12 rfl
theorem dX8_tossSet_77 : decode cX8_tossSet 77 = .ok (.aload_n 0, 1) := zdec_at bX8_tossSet_56 13 rfl
theorem dX8_tossSet_78 : decode cX8_tossSet 78 = .ok (.getfield 235, 3) := zdec_at bX8_tossSet_56 14 rfl
theorem dX8_tossSet_81 : decode cX8_tossSet 81 = .ok (.sipush 639, 3) := zdec_at bX8_tossSet_56 15 rfl
theorem bX8_tossSet_84 : zdec cX8_tossSet 84 [(84, .aload_n 0, 1), (85, .getfield 253, 3), (88, .iload_n 2, 1), (89, .iaload, 1), (90, .iastore, 1), (91, .aload_n 0, 1), (92, .iload_n 1, 1), (93, .aload_n 0, 1), (94, .invokevirtual 1201, 3), (97, .invokevirtual 1092, 3), (100, .aload_n 0, 1), (101, .aload_n 0, 1), (102, .getfield 250, 3), (105, .iload_n 2, 1), (106, .iaload, 1), (107, .invokevirtual 1191, 3)] = true := by decide +kernel
theorem dX8_tossSet_84 : decode cX8_tossSet 84 = .ok (.aload_n 0, 1) := zdec_at bX8_tossSet_84 0 rfl
theorem dX8_tossSet_85 : decode cX8_tossSet 85 = .ok (.getfield 253, 3) := zdec_at bX8_tossSet_84 1 rfl
theorem dX8_tossSet_88 : decode cX8_tossSet 88 = .ok (.iload_n 2, 1) := zdec_at bX8_tossSet_84 2 rfl
theorem dX8_tossSet_89 : decode cX8_tossSet 89 = .ok (.iaload, 1) := zdec_at bX8_tossSet_84 3 rfl
theorem dX8_tossSet_90 : decode cX8_tossSet 90 = .ok (.iastore, 1) := zdec_at bX8_tossSet_84 4 rfl
theorem dX8_tossSet_91 : decode cX8_tossSet 91 = .ok (.aload_n 0, 1) := zdec_at bX8_tossSet_84 5 rfl
theorem dX8_tossSet_92 : decode cX8_tossSet 92 = .ok (.iload_n 1, 1) := zdec_at bX8_tossSet_84 6 rfl
theorem dX8_tossSet_93 : decode cX8_tossSet 93 = .ok (.aload_n 0, 1) := zdec_at bX8_tossSet_84 7 rfl
theorem dX8_tossSet_94 : decode cX8_tossSet 94 = .ok (.invokevirtual 1201, 3) := zdec_at bX8_tossSet_84 8 rfl
theorem dX8_tossSet_97 : decode cX8_tossSet 97 = .ok (.invokevirtual 1092, 3) := zdec_at bX8_tossSet_84 9 rfl
theorem dX8_tossSet_100 : decode cX8_tossSet 100 = .ok (.aload_n 0, 1) := zdec_at bX8_tossSet_84 10 rfl
theorem dX8_tossSet_101 : decode cX8_tossSet 101 = .ok (.aload_n 0, 1) := zdec_at bX8_tossSet_84 11 rfl
theorem dX8_tossSet_102 : decode cX8_tossSet 102 = .ok (.getfield 250, 3) := zdec_at bX8_tossSet_84 12 rfl
theorem dX8_tossSet_105 : decode cX8_tossSet 105 = .ok (.iload_n 2, 1) := zdec_at bX8_tossSet_84 13 rfl
theorem dX8_tossSet_106 : decode cX8_tossSet 106 = .ok (.iaload, 1) := zdec_at bX8_tossSet_84 14 rfl
theorem dX8_tossSet_107 : decode cX8_tossSet 107 = .ok (.invokevirtual 1191, 3) := zdec_at bX8_tossSet_84 15 rfl
theorem bX8_tossSet_110 : zdec cX8_tossSet 110 [(110, .return_, 1)] = true := by decide +kernel
theorem dX8_tossSet_110 : decode cX8_tossSet 110 = .ok (.return_, 1) := zdec_at bX8_tossSet_110 0 rfl
theorem sX8_tossSet_0 {E : zE} {d : Nat} {Q : zO → zM → Prop} (M : zM) (l1 : Int32) (k : vp_in (639 : Int32) 640 ∧ (if (gi M 175 ((639 : Int32)).toNatClampNeg) = 0 then (vp_in (639 : Int32) 640 ∧ (Zm E YX8_pushSet d (si M 171 ((639 : Int32)).toNatClampNeg (0 : Int32)) (zargs 0 [vr (some (97, 1, 0))]) 0 [] (zma E YX8_tossSet (d + 1) [(0, vr (some (97, 1, 0)))] 23 3 [vi l1, vr (some (97, 1, 0))] Q))) else (vp_in (639 : Int32) 640 ∧ (vp_in (639 : Int32) 640 ∧ (vp_in (639 : Int32) 640 ∧ (vp_in ((25560 : Int32) + (gi (si M 175 ((639 : Int32)).toNatClampNeg ((gi M 175 ((639 : Int32)).toNatClampNeg) - (1 : Int32))) 175 ((639 : Int32)).toNatClampNeg)) 25600 ∧ (vp_in (639 : Int32) 640 ∧ (Zm E YX8_pushSet d (si (si M 175 ((639 : Int32)).toNatClampNeg ((gi M 175 ((639 : Int32)).toNatClampNeg) - (1 : Int32))) 171 ((639 : Int32)).toNatClampNeg (gi M 177 (((25560 : Int32) + (gi (si M 175 ((639 : Int32)).toNatClampNeg ((gi M 175 ((639 : Int32)).toNatClampNeg) - (1 : Int32))) 175 ((639 : Int32)).toNatClampNeg))).toNatClampNeg)) (zargs 0 [vr (some (97, 1, 0))]) 0 [] (zma E YX8_tossSet (d + 1) [(0, vr (some (97, 1, 0))), (2, vi ((25560 : Int32) + (gi (si M 175 ((639 : Int32)).toNatClampNeg ((gi M 175 ((639 : Int32)).toNatClampNeg) - (1 : Int32))) 175 ((639 : Int32)).toNatClampNeg)))] 94 3 [vi l1, vr (some (97, 1, 0))] Q))))))))) : Zm E YX8_tossSet (d + 1) M [(0, vr (some (97, 1, 0))), (1, vi l1)] 0 [] Q := by
  refine Zm.l (fun _ _ k_ => z_aload_n dX8_tossSet_0 rfl rfl k_) ?_
  refine zm_getr 72 dX8_tossSet_1 fsX8_247_1 rfl ?_
  refine Zm.l (fun _ _ k_ => z_sipush (v := 639) dX8_tossSet_4 rfl k_) ?_
  obtain ⟨b_, k⟩ := k
  refine zm_iald dX8_tossSet_7 b_ (by decide) (by decide) ?_
  refine Zm.brn (fun _ _ k1_ k2_ => z_if_ne (tgt := 52) dX8_tossSet_8 rfl k1_ k2_) (fun h_ => ?_) (fun h_ => ?_)
  · have k := zif h_ k
    refine Zm.l (fun _ _ k_ => z_aload_n dX8_tossSet_52 rfl rfl k_) ?_
    refine zm_getr 72 dX8_tossSet_53 fsX8_247_1 rfl ?_
    refine Zm.l (fun _ _ k_ => z_sipush (v := 639) dX8_tossSet_56 rfl k_) ?_
    refine Zm.l (fun _ _ k_ => z_dup2 dX8_tossSet_59 rfl rfl k_) ?_
    obtain ⟨b_, k⟩ := k
    refine zm_iald dX8_tossSet_60 b_ (by decide) (by decide) ?_
    refine Zm.l (fun _ _ k_ => z_iconst (v := 1) dX8_tossSet_61 rfl k_) ?_
    refine Zm.l (fun _ _ k_ => z_isub dX8_tossSet_62 k_) ?_
    obtain ⟨b_, k⟩ := k
    refine zm_iast dX8_tossSet_63 b_ (by decide) (by decide) ?_
    refine Zm.l (fun _ _ k_ => z_sipush (v := 25560) dX8_tossSet_64 rfl k_) ?_
    refine Zm.l (fun _ _ k_ => z_aload_n dX8_tossSet_67 rfl rfl k_) ?_
    refine zm_getr 72 dX8_tossSet_68 fsX8_247_1 rfl ?_
    refine Zm.l (fun _ _ k_ => z_sipush (v := 639) dX8_tossSet_71 rfl k_) ?_
    obtain ⟨b_, k⟩ := k
    refine zm_iald dX8_tossSet_74 b_ (by decide) (by decide) ?_
    refine Zm.l (fun _ _ k_ => z_iadd dX8_tossSet_75 k_) ?_
    refine Zm.l (fun _ _ k_ => z_ist_n dX8_tossSet_76 rfl (by decide) (lv' := [(0, vr (some (97, 1, 0))), (1, vi l1), (2, vi ((25560 : Int32) + (gi (si M 175 ((639 : Int32)).toNatClampNeg ((gi M 175 ((639 : Int32)).toNatClampNeg) - (1 : Int32))) 175 ((639 : Int32)).toNatClampNeg)))]) rfl k_) ?_
    refine Zm.l (fun _ _ k_ => z_aload_n dX8_tossSet_77 rfl rfl k_) ?_
    refine zm_getr 68 dX8_tossSet_78 fsX8_235_1 rfl ?_
    refine Zm.l (fun _ _ k_ => z_sipush (v := 639) dX8_tossSet_81 rfl k_) ?_
    refine Zm.l (fun _ _ k_ => z_aload_n dX8_tossSet_84 rfl rfl k_) ?_
    refine zm_getr 74 dX8_tossSet_85 fsX8_253_1 rfl ?_
    refine Zm.l (fun _ _ k_ => z_iload_n dX8_tossSet_88 rfl rfl k_) ?_
    obtain ⟨b_, k⟩ := k
    refine zm_iald dX8_tossSet_89 b_ (by decide) (by decide) ?_
    obtain ⟨b_, k⟩ := k
    refine zm_iast dX8_tossSet_90 b_ (by decide) (by decide) ?_
    refine Zm.l (fun _ _ k_ => z_aload_n dX8_tossSet_91 rfl rfl k_) ?_
    refine Zm.l (fun _ _ k_ => z_iload_n dX8_tossSet_92 rfl rfl k_) ?_
    refine Zm.l (fun _ _ k_ => z_aload_n dX8_tossSet_93 rfl rfl k_) ?_
    refine Zm.pick [0, 2] rfl ?_
    exact zm_callV (as := []) (st := [vi l1, vr (some (97, 1, 0))]) dX8_tossSet_94 vsX8_1201_1 (Nat.le_refl _) (Nat.le_of_ble_eq_true rfl) (Nat.le_of_ble_eq_true rfl) rfl k
  · have k := zit h_ k
    refine Zm.l (fun _ _ k_ => z_aload_n dX8_tossSet_11 rfl rfl k_) ?_
    refine zm_getr 68 dX8_tossSet_12 fsX8_235_1 rfl ?_
    refine Zm.l (fun _ _ k_ => z_sipush (v := 639) dX8_tossSet_15 rfl k_) ?_
    refine Zm.l (fun _ _ k_ => z_iconst (v := 0) dX8_tossSet_18 rfl k_) ?_
    obtain ⟨b_, k⟩ := k
    refine zm_iast dX8_tossSet_19 b_ (by decide) (by decide) ?_
    refine Zm.l (fun _ _ k_ => z_aload_n dX8_tossSet_20 rfl rfl k_) ?_
    refine Zm.l (fun _ _ k_ => z_iload_n dX8_tossSet_21 rfl rfl k_) ?_
    refine Zm.l (fun _ _ k_ => z_aload_n dX8_tossSet_22 rfl rfl k_) ?_
    refine Zm.pick [0] rfl ?_
    exact zm_callV (as := []) (st := [vi l1, vr (some (97, 1, 0))]) dX8_tossSet_23 vsX8_1201_1 (Nat.le_refl _) (Nat.le_of_ble_eq_true rfl) (Nat.le_of_ble_eq_true rfl) rfl k
theorem sX8_tossSet_26 {E : zE} {d : Nat} {Q : zO → zM → Prop} (M : zM) (s0 : Int32) (s1 : Int32) (k : Zm E YX8_copySet d M (zargs 0 [vr (some (97, 1, 0)), vi s1, vi s0]) 0 [] (zma E YX8_tossSet (d + 1) [(0, vr (some (97, 1, 0)))] 26 3 [] Q)) : Zm E YX8_tossSet (d + 1) M [(0, vr (some (97, 1, 0)))] 26 [vi s0, vi s1, vr (some (97, 1, 0))] Q := by
  exact zm_callV (as := [vi s1, vi s0]) (st := []) dX8_tossSet_26 vsX8_1092_1 (Nat.le_refl _) (Nat.le_of_ble_eq_true rfl) (Nat.le_of_ble_eq_true rfl) rfl k
theorem sX8_tossSet_29 {E : zE} {d : Nat} {Q : zO → zM → Prop} (M : zM)  (k : vp_in (gi M 97 148) 600 ∧ (Zm E YX8_flow d M (zargs 0 [vr (some (97, 1, 0)), vi (((gi M 97 46) + ((2 : Int32) * (gi M 126 ((gi M 97 148)).toNatClampNeg))) + (1 : Int32))]) 0 [] (zma E YX8_tossSet (d + 1) [] 48 3 [] Q))) : Zm E YX8_tossSet (d + 1) M [(0, vr (some (97, 1, 0)))] 29 [] Q := by
  refine Zm.l (fun _ _ k_ => z_aload_n dX8_tossSet_29 rfl rfl k_) ?_
  refine Zm.l (fun _ _ k_ => z_aload_n dX8_tossSet_30 rfl rfl k_) ?_
  refine zm_geti dX8_tossSet_31 fsX8_606_1 (by decide) (by decide) ?_
  refine Zm.l (fun _ _ k_ => z_iconst (v := 2) dX8_tossSet_34 rfl k_) ?_
  refine Zm.l (fun _ _ k_ => z_aload_n dX8_tossSet_35 rfl rfl k_) ?_
  refine zm_getr 28 dX8_tossSet_36 fsX8_98_1 rfl ?_
  refine Zm.l (fun _ _ k_ => z_aload_n dX8_tossSet_39 rfl rfl k_) ?_
  refine zm_geti dX8_tossSet_40 fsX8_1188_1 (by decide) (by decide) ?_
  obtain ⟨b_, k⟩ := k
  refine zm_iald dX8_tossSet_43 b_ (by decide) (by decide) ?_
  refine Zm.l (fun _ _ k_ => z_imul dX8_tossSet_44 k_) ?_
  refine Zm.l (fun _ _ k_ => z_iadd dX8_tossSet_45 k_) ?_
  refine Zm.l (fun _ _ k_ => z_iconst (v := 1) dX8_tossSet_46 rfl k_) ?_
  refine Zm.l (fun _ _ k_ => z_iadd dX8_tossSet_47 k_) ?_
  refine Zm.pick [] rfl ?_
  exact zm_callV (as := [vi (((gi M 97 46) + ((2 : Int32) * (gi M 126 ((gi M 97 148)).toNatClampNeg))) + (1 : Int32))]) (st := []) dX8_tossSet_48 vsX8_1191_1 (Nat.le_refl _) (Nat.le_of_ble_eq_true rfl) (Nat.le_of_ble_eq_true rfl) rfl k
theorem sX8_tossSet_51 {E : zE} {d : Nat} {Q : zO → zM → Prop} (M : zM)  (k : Q (.inl none) M) : Zm E YX8_tossSet (d + 1) M [] 51 [] Q := by
  exact zm_vret dX8_tossSet_51 rfl k
theorem sX8_tossSet_97 {E : zE} {d : Nat} {Q : zO → zM → Prop} (M : zM) (l2 : Int32) (s0 : Int32) (s1 : Int32) (k : Zm E YX8_copySet d M (zargs 0 [vr (some (97, 1, 0)), vi s1, vi s0]) 0 [] (zma E YX8_tossSet (d + 1) [(0, vr (some (97, 1, 0))), (2, vi l2)] 97 3 [] Q)) : Zm E YX8_tossSet (d + 1) M [(0, vr (some (97, 1, 0))), (2, vi l2)] 97 [vi s0, vi s1, vr (some (97, 1, 0))] Q := by
  exact zm_callV (as := [vi s1, vi s0]) (st := []) dX8_tossSet_97 vsX8_1092_1 (Nat.le_refl _) (Nat.le_of_ble_eq_true rfl) (Nat.le_of_ble_eq_true rfl) rfl k
theorem sX8_tossSet_100 {E : zE} {d : Nat} {Q : zO → zM → Prop} (M : zM) (l2 : Int32) (k : vp_in l2 25600 ∧ (Zm E YX8_flow d M (zargs 0 [vr (some (97, 1, 0)), vi (gi M 176 (l2).toNatClampNeg)]) 0 [] (zma E YX8_tossSet (d + 1) [] 107 3 [] Q))) : Zm E YX8_tossSet (d + 1) M [(0, vr (some (97, 1, 0))), (2, vi l2)] 100 [] Q := by
  refine Zm.l (fun _ _ k_ => z_aload_n dX8_tossSet_100 rfl rfl k_) ?_
  refine Zm.l (fun _ _ k_ => z_aload_n dX8_tossSet_101 rfl rfl k_) ?_
  refine zm_getr 73 dX8_tossSet_102 fsX8_250_1 rfl ?_
  refine Zm.l (fun _ _ k_ => z_iload_n dX8_tossSet_105 rfl rfl k_) ?_
  obtain ⟨b_, k⟩ := k
  refine zm_iald dX8_tossSet_106 b_ (by decide) (by decide) ?_
  refine Zm.pick [] rfl ?_
  exact zm_callV (as := [vi (gi M 176 (l2).toNatClampNeg)]) (st := []) dX8_tossSet_107 vsX8_1191_1 (Nat.le_refl _) (Nat.le_of_ble_eq_true rfl) (Nat.le_of_ble_eq_true rfl) rfl k
theorem sX8_tossSet_110 {E : zE} {d : Nat} {Q : zO → zM → Prop} (M : zM)  (k : Q (.inl none) M) : Zm E YX8_tossSet (d + 1) M [] 110 [] Q := by
  exact zm_vret dX8_tossSet_110 rfl k
/-! ScriptTypesModel.make(II)V -/
theorem bX8_make_0 : zdec cX8_make 0 [(0, .iconst 0, 1), (1, .istore_n 3, 1), (2, .iload_n 3, 1), (3, .aload_n 0, 1), (4, .getfield 765, 3), (7, .aload_n 0, 1), (8, .getfield 762, 3), (11, .iconst 1, 1), (12, .iadd, 1), (13, .imul, 1), (14, .if_icmp .ge 19, 3), (17, .aload_n 0, 1), (18, .ldc_w 1084, 3), (21, .iload_n 3, 1), (22, .iadd, 1), (23, .iload_n 1, 1)] = true := by decide +kernel
theorem dX8_make_0 : decode cX8_make 0 = .ok (.iconst 0, 1) := zdec_at bX8_make_0 0 rfl
theorem dX8_make_1 : decode cX8_make 1 = .ok (.istore_n 3, 1) := zdec_at bX8_make_0 1 rfl
theorem dX8_make_2 : decode cX8_make 2 = .ok (.iload_n 3, 1) := zdec_at bX8_make_0 2 rfl
theorem dX8_make_3 : decode cX8_make 3 = .ok (.aload_n 0, 1) := zdec_at bX8_make_0 3 rfl
theorem dX8_make_4 : decode cX8_make 4 = .ok (.getfield 765, 3) := zdec_at bX8_make_0 4 rfl
theorem dX8_make_7 : decode cX8_make 7 = .ok (.aload_n 0, 1) := zdec_at bX8_make_0 5 rfl
theorem dX8_make_8 : decode cX8_make 8 = .ok (.getfield 762, 3) := zdec_at bX8_make_0 6 rfl
theorem dX8_make_11 : decode cX8_make 11 = .ok (.iconst 1, 1) := zdec_at bX8_make_0 7 rfl
theorem dX8_make_12 : decode cX8_make 12 = .ok (.iadd, 1) := zdec_at bX8_make_0 8 rfl
theorem dX8_make_13 : decode cX8_make 13 = .ok (.imul, 1) := zdec_at bX8_make_0 9 rfl
theorem dX8_make_14 : decode cX8_make 14 = .ok (.if_icmp .ge 19, 3) := zdec_at bX8_make_0 10 rfl
theorem dX8_make_17 : decode cX8_make 17 = .ok (.aload_n 0, 1) := zdec_at bX8_make_0 11 rfl
theorem dX8_make_18 : decode cX8_make 18 = .ok (.ldc_w 1084, 3) := zdec_at bX8_make_0 12 rfl
theorem dX8_make_21 : decode cX8_make 21 = .ok (.iload_n 3, 1) := zdec_at bX8_make_0 13 rfl
theorem dX8_make_22 : decode cX8_make 22 = .ok (.iadd, 1) := zdec_at bX8_make_0 14 rfl
theorem dX8_make_23 : decode cX8_make 23 = .ok (.iload_n 1, 1) := zdec_at bX8_make_0 15 rfl
theorem bX8_make_24 : zdec cX8_make 24 [(24, .invokevirtual 1175, 3), (27, .iinc 3 1, 3), (30, .goto (-28), 3), (33, .iconst 0, 1), (34, .istore_n 3, 1), (35, .iload_n 3, 1), (36, .aload_n 0, 1), (37, .getfield 235, 3), (40, .sipush 639, 3), (43, .iaload, 1), (44, .if_icmp .ge 24, 3), (47, .aload_n 0, 1), (48, .aload_n 0, 1), (49, .getfield 238, 3), (52, .sipush 639, 3), (55, .iaload, 1)] = true := by decide +kernel
theorem dX8_make_24 : decode cX8_make 24 = .ok (.invokevirtual 1175, 3) := zdec_at bX8_make_24 0 rfl
theorem dX8_make_27 : decode cX8_make 27 = .ok (.iinc 3 1, 3) := zdec_at bX8_make_24 1 rfl
theorem dX8_make_30 : decode cX8_make 30 = .ok (.goto (-28), 3) := zdec_at bX8_make_24 2 rfl
theorem dX8_make_33 : decode cX8_make 33 = .ok (.iconst 0, 1) := zdec_at bX8_make_24 3 rfl
theorem dX8_make_34 : decode cX8_make 34 = .ok (.istore_n 3, 1) := zdec_at bX8_make_24 4 rfl
theorem dX8_make_35 : decode cX8_make 35 = .ok (.iload_n 3, 1) := zdec_at bX8_make_24 5 rfl
theorem dX8_make_36 : decode cX8_make 36 = .ok (.aload_n 0, 1) := zdec_at bX8_make_24 6 rfl
theorem dX8_make_37 : decode cX8_make 37 = .ok (.getfield 235, 3) := zdec_at bX8_make_24 7 rfl
theorem dX8_make_40 : decode cX8_make 40 = .ok (.sipush 639, 3) := zdec_at bX8_make_24 8 rfl
theorem dX8_make_43 : decode cX8_make 43 = .ok (.iaload, 1) := zdec_at bX8_make_24 9 rfl
theorem dX8_make_44 : decode cX8_make 44 = .ok (.if_icmp .ge 24, 3) := zdec_at bX8_make_24 10 rfl
theorem dX8_make_47 : decode cX8_make 47 = .ok (.aload_n 0, 1) := zdec_at bX8_make_24 11 rfl
theorem dX8_make_48 : decode cX8_make 48 = .ok (.aload_n 0, 1) := zdec_at bX8_make_24 12 rfl
theorem dX8_make_49 : decode cX8_make 49 = .ok (.getfield 238, 3) := zdec_at bX8_make_24 13 rfl
theorem dX8_make_52 : decode cX8_make 52 = .ok (.sipush 639, 3) := zdec_at bX8_make_24 14 rfl
theorem dX8_make_55 : decode cX8_make 55 = .ok (.iaload, 1) := zdec_at bX8_make_24 15 rfl
theorem bX8_make_56 : zdec cX8_make 56 [(56, .iload_n 3, 1), (57, .iadd, 1), (58, .iload_n 1, 1), (59, .invokevirtual 1175, 3), (62, .iinc 3 1, 3), (65, .goto (-30), 3), (68, .aload_n 0, 1), (69, .aload_n 0, 1), (70, .sipush 639, 3), (73, .invokevirtual 1098, 3), (76, .iload_n 1, 1), (77, .invokevirtual 1175, 3), (80, .iconst 0, 1), (81, .istore_n 3, 1), (82, .iload_n 3, 1), (83, .aload_n 0, 1)] = true := by decide +kernel
theorem dX8_make_56 : decode cX8_make 56 = .ok (.iload_n 3, 1) := zdec_at bX8_make_56 0 rfl
theorem dX8_make_57 : decode cX8_make 57 = .ok (.iadd, 1) := zdec_at bX8_make_56 1 rfl
theorem dX8_make_58 : decode cX8_make 58 = .ok (.iload_n 1, 1) := zdec_at bX8_make_56 2 rfl
theorem dX8_make_59 : decode cX8_make 59 = .ok (.invokevirtual 1175, 3) := zdec_at bX8_make_56 3 rfl
theorem dX8_make_62 : decode cX8_make 62 = .ok (.iinc 3 1, 3) := zdec_at bX8_make_56 4 rfl
theorem dX8_make_65 : decode cX8_make 65 = .ok (.goto (-30), 3) := zdec_at bX8_make_56 5 rfl
theorem dX8_make_68 : decode cX8_make 68 = .ok (.aload_n 0, 1) := zdec_at bX8_make_56 6 rfl
theorem dX8_make_69 : decode cX8_make 69 = .ok (.aload_n 0, 1) := zdec_at bX8_make_56 7 rfl
theorem dX8_make_70 : decode cX8_make 70 = .ok (.sipush 639, 3) := zdec_at bX8_make_56 8 rfl
theorem dX8_make_73 : decode cX8_make 73 = .ok (.invokevirtual 1098, 3) := zdec_at bX8_make_56 9 rfl
theorem dX8_make_76 : decode cX8_make 76 = .ok (.iload_n 1, 1) := zdec_at bX8_make_56 10 rfl
theorem dX8_make_77 : decode cX8_make 77 = .ok (.invokevirtual 1175, 3) := zdec_at bX8_make_56 11 rfl
theorem dX8_make_80 : decode cX8_make 80 = .ok (.iconst 0, 1) := zdec_at bX8_make_56 12 rfl
theorem dX8_make_81 : decode cX8_make 81 = .ok (.istore_n 3, 1) := zdec_at bX8_make_56 13 rfl
theorem dX8_make_82 : decode cX8_make 82 = .ok (.iload_n 3, 1) := zdec_at bX8_make_56 14 rfl
theorem dX8_make_83 : decode cX8_make 83 = .ok (.aload_n 0, 1) := zdec_at bX8_make_56 15 rfl
theorem bX8_make_84 : zdec cX8_make 84 [(84, .getfield 1178, 3), (87, .if_icmp .ge 20, 3), (90, .aload_n 0, 1), (91, .aload_n 0, 1), (92, .getfield 286, 3), (95, .iload_n 3, 1), (96, .iaload, 1), (97, .iload_n 1, 1), (98, .invokevirtual 1175, 3), (101, .iinc 3 1, 3), (104, .goto (-22), 3), (107, .ldc_w 1181, 3), (110, .istore_n 3, 1), (111, .aload_n 0, 1), (112, .getfield 220, 3), (115, .iload_n 3, 1)] = true := by decide +kernel
theorem dX8_make_84 : decode cX8_make 84 = .ok (.getfield 1178, 3) := zdec_at bX8_make_84 0 rfl
theorem dX8_make_87 : decode cX8_make 87 = .ok (.if_icmp .ge 20, 3) := zdec_at bX8_make_84 1 rfl
theorem dX8_make_90 : decode cX8_make 90 = .ok (.aload_n 0, 1) := zdec_at bX8_make_84 2 rfl
theorem dX8_make_91 : decode cX8_make 91 = .ok (.aload_n 0, 1) := zdec_at bX8_make_84 3 rfl
theorem dX8_make_92 : decode cX8_make 92 = .ok (.getfield 286, 3) := zdec_at bX8_make_84 4 rfl
theorem dX8_make_95 : decode cX8_make 95 = .ok (.iload_n 3, 1) := zdec_at bX8_make_84 5 rfl
theorem dX8_make_96 : decode cX8_make 96 = .ok (.iaload, 1) := zdec_at bX8_make_84 6 rfl
theorem dX8_make_97 : decode cX8_make 97 = .ok (.iload_n 1, 1) := zdec_at bX8_make_84 7 rfl
theorem dX8_make_98 : decode cX8_make 98 = .ok (.invokevirtual 1175, 3) := zdec_at bX8_make_84 8 rfl
theorem dX8_make_101 : decode cX8_make 101 = .ok (.iinc 3 1, 3) := zdec_at bX8_make_84 9 rfl
theorem dX8_make_104 : decode cX8_make 104 = .ok (.goto (-22), 3) := zdec_at bX8_make_84 10 rfl
theorem dX8_make_107 : decode cX8_make 107 = .ok (.ldc_w 1181, 3) := zdec_at bX8_make_84 11 rfl
theorem dX8_make_110 : decode cX8_make 110 = .ok (.istore_n 3, 1) := zdec_at bX8_make_84 12 rfl
theorem dX8_make_111 : decode cX8_make 111 = .ok (.aload_n 0, 1) := zdec_at bX8_make_84 13 rfl
theorem dX8_make_112 : decode cX8_make 112 = .ok (.getfield 220, 3) := zdec_at bX8_make_84 14 rfl
theorem dX8_make_115 : decode cX8_make 115 = .ok (.iload_n 3, 1) := zdec_at bX8_make_84 15 rfl
theorem bX8_make_116 : zdec cX8_make 116 [(116, .aload_n 0, 1), (117, .getfield 241, 3), (120, .sipush 639, 3), (123, .laload, 1), (124, .lastore, 1), (125, .aload_n 0, 1), (126, .getfield 223, 3), (129, .iload_n 3, 1), (130, .aload_n 0, 1), (131, .getfield 244, 3), (134, .sipush 639, 3), (137, .laload, 1), (138, .lastore, 1), (139, .aload_n 0, 1), (140, .iload_n 3, 1), (141, .iload_n 1, 1)] = true := by decide +kernel
theorem dX8_make_116 : decode cX8_make 116 = .ok (.aload_n 0, 1) := zdec_at bX8_make_116 0 rfl
theorem dX8_make_117 : decode cX8_make 117 = .ok (.getfield 241, 3) := zdec_at bX8_make_116 1 rfl
theorem dX8_make_120 : decode cX8_make 120 = .ok (.sipush 639, 3) := zdec_at bX8_make_116 2 rfl
theorem dX8_make_123 : decode cX8_make 123 = .ok (.laload, 1) := zdec_at bX8_make_116 3 rfl
theorem dX8_make_124 : decode cX8_make 124 = .ok (.lastore, 1) := zdec_at bX8_make_116 4 rfl
theorem dX8_make_125 : decode cX8_make 125 = .ok (.aload_n 0, 1) := zdec_at bX8_make_116 5 rfl
theorem dX8_make_126 : decode cX8_make 126 = .ok (.getfield 223, 3) := zdec_at bX8_make_116 6 rfl
theorem dX8_make_129 : decode cX8_make 129 = .ok (.iload_n 3, 1) := zdec_at bX8_make_116 7 rfl
theorem dX8_make_130 : decode cX8_make 130 = .ok (.aload_n 0, 1) := zdec_at bX8_make_116 8 rfl
theorem dX8_make_131 : decode cX8_make 131 = .ok (.getfield 244, 3) := zdec_at bX8_make_116 9 rfl
theorem dX8_make_134 : decode cX8_make 134 = .ok (.sipush 639, 3) := zdec_at bX8_make_116 10 rfl
theorem dX8_make_137 : decode cX8_make 137 = .ok (.laload, 1) := zdec_at bX8_make_116 11 rfl
theorem dX8_make_138 : decode cX8_make 138 = .ok (.lastore, 1) := zdec_at bX8_make_116 12 rfl
theorem dX8_make_139 : decode cX8_make 139 = .ok (.aload_n 0, 1) := zdec_at bX8_make_116 13 rfl
theorem dX8_make_140 : decode cX8_make 140 = .ok (.iload_n 3, 1) := zdec_at bX8_make_116 14 rfl
theorem dX8_make_141 : decode cX8_make 141 = .ok (.iload_n 1, 1) := zdec_at bX8_make_116 15 rfl
theorem bX8_make_142 : zdec cX8_make 142 [(142, .invokevirtual 1175, 3), (145, .aload_n 0, 1), (146, .getfield 241, 3), (149, .sipush 639, 3), (152, .aload_n 0, 1), (153, .getfield 220, 3), (156, .iload_n 3, 1), (157, .laload, 1), (158, .lastore, 1), (159, .aload_n 0, 1), (160, .getfield 244, 3), (163, .sipush 639, 3), (166, .aload_n 0, 1), (167, .getfield 223, 3), (170, .iload_n 3, 1), (171, .laload, 1)] = true := by decide +kernel
theorem dX8_make_142 : decode cX8_make 142 = .ok (.invokevirtual 1175, 3) := zdec_at bX8_make_142 0 rfl
theorem dX8_make_145 : decode cX8_make 145 = .ok (.aload_n 0, 1) := zdec_at bX8_make_142 1 rfl
theorem dX8_make_146 : decode cX8_make 146 = .ok (.getfield 241, 3) := zdec_at bX8_make_142 2 rfl
theorem dX8_make_149 : decode cX8_make 149 = .ok (.sipush 639, 3) := zdec_at bX8_make_142 3 rfl
theorem dX8_make_152 : decode cX8_make 152 = .ok (.aload_n 0, 1) := zdec_at bX8_make_142 4 rfl
theorem dX8_make_153 : decode cX8_make 153 = .ok (.getfield 220, 3) := zdec_at bX8_make_142 5 rfl
theorem dX8_make_156 : decode cX8_make 156 = .ok (.iload_n 3, 1) := zdec_at bX8_make_142 6 rfl
theorem dX8_make_157 : decode cX8_make 157 = .ok (.laload, 1) := zdec_at bX8_make_142 7 rfl
theorem dX8_make_158 : decode cX8_make 158 = .ok (.lastore, 1) := zdec_at bX8_make_142 8 rfl
theorem dX8_make_159 : decode cX8_make 159 = .ok (.aload_n 0, 1) := zdec_at bX8_make_142 9 rfl
theorem dX8_make_160 : decode cX8_make 160 = .ok (.getfield 244, 3) := zdec_at bX8_make_142 10 rfl
theorem dX8_make_163 : decode cX8_make 163 = .ok (.sipush 639, 3) := zdec_at bX8_make_142 11 rfl
theorem dX8_make_166 : decode cX8_make 166 = .ok (.aload_n 0, 1) := zdec_at bX8_make_142 12 rfl
theorem dX8_make_167 : decode cX8_make 167 = .ok (.getfield 223, 3) := zdec_at bX8_make_142 13 rfl
theorem dX8_make_170 : decode cX8_make 170 = .ok (.iload_n 3, 1) := zdec_at bX8_make_142 14 rfl
theorem dX8_make_171 : decode cX8_make 171 = .ok (.laload, 1) := zdec_at bX8_make_142 15 rfl
theorem bX8_make_172 : zdec cX8_make 172 [(172, .lastore, 1), (173, .iconst 0, 1), (174, .istore 4, 2), (176, .iload 4, 2), (178, .aload_n 0, 1), (179, .getfield 765, 3), (182, .if_icmp .ge 136, 3), (185, .aload_n 0, 1), (186, .sipush 639, 3), (189, .iload 4, 2), (191, .invokevirtual 1101, 3), (194, .istore 5, 2), (196, .aload_n 0, 1), (197, .getfield 220, 3), (200, .iload_n 3, 1), (201, .aload_n 0, 1)] = true := by decide +kernel
theorem dX8_make_172 : decode cX8_make 172 = .ok (.lastore, 1) := zdec_at bX8_make_172 0 rfl
theorem dX8_make_173 : decode cX8_make 173 = .ok (.iconst 0, 1) := zdec_at bX8_make_172 1 rfl
theorem dX8_make_174 : decode cX8_make 174 = .ok (.istore 4, 2) := zdec_at bX8_make_172 2 rfl
theorem dX8_make_176 : decode cX8_make 176 = .ok (.iload 4, 2) := zdec_at bX8_make_172 3 rfl
theorem dX8_make_178 : decode cX8_make 178 = .ok (.aload_n 0, 1) := zdec_at bX8_make_172 4 rfl
theorem dX8_make_179 : decode cX8_make 179 = .ok (.getfield 765, 3) := zdec_at bX8_make_172 5 rfl
theorem dX8_make_182 : decode cX8_make 182 = .ok (.if_icmp .ge 136, 3) := zdec_at bX8_make_172 6 rfl
theorem dX8_make_185 : decode cX8_make 185 = .ok (.aload_n 0, 1) := zdec_at bX8_make_172 7 rfl
theorem dX8_make_186 : decode cX8_make 186 = .ok (.sipush 639, 3) := zdec_at bX8_make_172 8 rfl
theorem dX8_make_189 : decode cX8_make 189 = .ok (.iload 4, 2) := zdec_at bX8_make_172 9 rfl
theorem dX8_make_191 : decode cX8_make 191 = .ok (.invokevirtual 1101, 3) := zdec_at bX8_make_172 10 rfl
theorem dX8_make_194 : decode cX8_make 194 = .ok (.istore 5, 2) := zdec_at bX8_make_172 11 rfl
theorem dX8_make_196 : decode cX8_make 196 = .ok (.aload_n 0, 1) := zdec_at bX8_make_172 12 rfl
theorem dX8_make_197 : decode cX8_make 197 = .ok (.getfield 220, 3) := zdec_at bX8_make_172 13 rfl
theorem dX8_make_200 : decode cX8_make 200 = .ok (.iload_n 3, 1) := zdec_at bX8_make_172 14 rfl
theorem dX8_make_201 : decode cX8_make 201 = .ok (.aload_n 0, 1) := zdec_at bX8_make_172 15 rfl
theorem bX8_make_202 : zdec cX8_make 202 [(202, .getfield 262, 3), (205, .iload 5, 2), (207, .laload, 1), (208, .lastore, 1), (209, .aload_n 0, 1), (210, .getfield 223, 3), (213, .iload_n 3, 1), (214, .aload_n 0, 1), (215, .getfield 265, 3), (218, .iload 5, 2), (220, .laload, 1), (221, .lastore, 1), (222, .aload_n 0, 1), (223, .iload_n 3, 1), (224, .iload_n 1, 1), (225, .invokevirtual 1175, 3)] = true := by decide +kernel
theorem dX8_make_202 : decode cX8_make 202 = .ok (.getfield 262, 3) := zdec_at bX8_make_202 0 rfl
theorem dX8_make_205 : decode cX8_make 205 = .ok (.iload 5, 2) := zdec_at bX8_make_202 1 rfl
theorem dX8_make_207 : decode cX8_make 207 = .ok (.laload, 1) := zdec_at bX8_make_202 2 rfl
theorem dX8_make_208 : decode cX8_make 208 = .ok (.lastore, 1) := zdec_at bX8_make_202 3 rfl
theorem dX8_make_209 : decode cX8_make 209 = .ok (.aload_n 0, 1) := zdec_at bX8_make_202 4 rfl
theorem dX8_make_210 : decode cX8_make 210 = .ok (.getfield 223, 3) := zdec_at bX8_make_202 5 rfl
theorem dX8_make_213 : decode cX8_make 213 = .ok (.iload_n 3, 1) := zdec_at bX8_make_202 6 rfl
theorem dX8_make_214 : decode cX8_make 214 = .ok (.aload_n 0, 1) := zdec_at bX8_make_202 7 rfl
theorem dX8_make_215 : decode cX8_make 215 = .ok (.getfield 265, 3) := zdec_at bX8_make_202 8 rfl
theorem dX8_make_218 : decode cX8_make 218 = .ok (.iload 5, 2) := zdec_at bX8_make_202 9 rfl
theorem dX8_make_220 : decode cX8_make 220 = .ok (.laload, 1) := zdec_at bX8_make_202 10 rfl
theorem dX8_make_221 : decode cX8_make 221 = .ok (.lastore, 1) := zdec_at bX8_make_202 11 rfl
theorem dX8_make_222 : decode cX8_make 222 = .ok (.aload_n 0, 1) := zdec_at bX8_make_202 12 rfl
theorem dX8_make_223 : decode cX8_make 223 = .ok (.iload_n 3, 1) := zdec_at bX8_make_202 13 rfl
theorem dX8_make_224 : decode cX8_make 224 = .ok (.iload_n 1, 1) := zdec_at bX8_make_202 14 rfl
theorem dX8_make_225 : decode cX8_make 225 = .ok (.invokevirtual 1175, 3) := zdec_at bX8_make_202 15 rfl
theorem bX8_make_228 : zdec cX8_make 228 [(228, .aload_n 0, 1), (229, .getfield 262, 3), (232, .iload 5, 2), (234, .aload_n 0, 1), (235, .getfield 220, 3), (238, .iload_n 3, 1), (239, .laload, 1), (240, .lastore, 1), (241, .aload_n 0, 1), (242, .getfield 265, 3), (245, .iload 5, 2), (247, .aload_n 0, 1), (248, .getfield 223, 3), (251, .iload_n 3, 1), (252, .laload, 1), (253, .lastore, 1)] = true := by decide +kernel
theorem dX8_make_228 : decode cX8_make 228 = .ok (.aload_n 0, 1) := zdec_at bX8_make_228 0 rfl
theorem dX8_make_229 : decode cX8_make 229 = .ok (.getfield 262, 3) := zdec_at bX8_make_228 1 rfl
theorem dX8_make_232 : decode cX8_make 232 = .ok (.iload 5, 2) := zdec_at bX8_make_228 2 rfl
theorem dX8_make_234 : decode cX8_make 234 = .ok (.aload_n 0, 1) := zdec_at bX8_make_228 3 rfl
theorem dX8_make_235 : decode cX8_make 235 = .ok (.getfield 220, 3) := zdec_at bX8_make_228 4 rfl
theorem dX8_make_238 : decode cX8_make 238 = .ok (.iload_n 3, 1) := zdec_at bX8_make_228 5 rfl
theorem dX8_make_239 : decode cX8_make 239 = .ok (.laload, 1) := zdec_at bX8_make_228 6 rfl
theorem dX8_make_240 : decode cX8_make 240 = .ok (.lastore, 1) := zdec_at bX8_make_228 7 rfl
theorem dX8_make_241 : decode cX8_make 241 = .ok (.aload_n 0, 1) := zdec_at bX8_make_228 8 rfl
theorem dX8_make_242 : decode cX8_make 242 = .ok (.getfield 265, 3) := zdec_at bX8_make_228 9 rfl
theorem dX8_make_245 : decode cX8_make 245 = .ok (.iload 5, 2) := zdec_at bX8_make_228 10 rfl
theorem dX8_make_247 : decode cX8_make 247 = .ok (.aload_n 0, 1) := zdec_at bX8_make_228 11 rfl
theorem dX8_make_248 : decode cX8_make 248 = .ok (.getfield 223, 3) := zdec_at bX8_make_228 12 rfl
theorem dX8_make_251 : decode cX8_make 251 = .ok (.iload_n 3, 1) := zdec_at bX8_make_228 13 rfl
theorem dX8_make_252 : decode cX8_make 252 = .ok (.laload, 1) := zdec_at bX8_make_228 14 rfl
theorem dX8_make_253 : decode cX8_make 253 = .ok (.lastore, 1) := zdec_at bX8_make_228 15 rfl
theorem bX8_make_254 : zdec cX8_make 254 [(254, .aload_n 0, 1), (255, .getfield 220, 3), (258, .iload_n 3, 1), (259, .aload_n 0, 1), (260, .getfield 268, 3), (263, .iload 5, 2), (265, .laload, 1), (266, .lastore, 1), (267, .aload_n 0, 1), (268, .getfield 223, 3), (271, .iload_n 3, 1), (272, .aload_n 0, 1), (273, .getfield 271, 3), (276, .iload 5, 2), (278, .laload, 1), (279, .lastore, 1)] = true := by decide +kernel
theorem dX8_make_254 : decode cX8_make 254 = .ok (.aload_n 0, 1) := zdec_at bX8_make_254 0 rfl
theorem dX8_make_255 : decode cX8_make 255 = .ok (.getfield 220, 3) := zdec_at bX8_make_254 1 rfl
theorem dX8_make_258 : decode cX8_make 258 = .ok (.iload_n 3, 1) := zdec_at bX8_make_254 2 rfl
theorem dX8_make_259 : decode cX8_make 259 = .ok (.aload_n 0, 1) := zdec_at bX8_make_254 3 rfl
theorem dX8_make_260 : decode cX8_make 260 = .ok (.getfield 268, 3) := zdec_at bX8_make_254 4 rfl
theorem dX8_make_263 : decode cX8_make 263 = .ok (.iload 5, 2) := zdec_at bX8_make_254 5 rfl
theorem dX8_make_265 : decode cX8_make 265 = .ok (.laload, 1) := zdec_at bX8_make_254 6 rfl
theorem dX8_make_266 : decode cX8_make 266 = .ok (.lastore, 1) := zdec_at bX8_make_254 7 rfl
theorem dX8_make_267 : decode cX8_make 267 = .ok (.aload_n 0, 1) := zdec_at bX8_make_254 8 rfl
theorem dX8_make_268 : decode cX8_make 268 = .ok (.getfield 223, 3) := zdec_at bX8_make_254 9 rfl
theorem dX8_make_271 : decode cX8_make 271 = .ok (.iload_n 3, 1) := zdec_at bX8_make_254 10 rfl
theorem dX8_make_272 : decode cX8_make 272 = .ok (.aload_n 0, 1) := zdec_at bX8_make_254 11 rfl
theorem dX8_make_273 : decode cX8_make 273 = .ok (.getfield 271, 3) := zdec_at bX8_make_254 12 rfl
theorem dX8_make_276 : decode cX8_make 276 = .ok (.iload 5, 2) := zdec_at bX8_make_254 13 rfl
theorem dX8_make_278 : decode cX8_make 278 = .ok (.laload, 1) := zdec_at bX8_make_254 14 rfl
theorem dX8_make_279 : decode cX8_make 279 = .ok (.lastore, 1) := zdec_at bX8_make_254 15 rfl
theorem bX8_make_280 : zdec cX8_make 280 [(280, .aload_n 0, 1), (281, .iload_n 3, 1), (282, .iload_n 1, 1), (283, .invokevirtual 1175, 3), (286, .aload_n 0, 1), (287, .getfield 268, 3), (290, .iload 5, 2), (292, .aload_n 0, 1), (293, .getfield 220, 3), (296, .iload_n 3, 1), (297, .laload, 1), (298, .lastore, 1), (299, .aload_n 0, 1), (300, .getfield 271, 3), (303, .iload 5, 2), (305, .aload_n 0, 1)] = true := by decide +kernel
theorem dX8_make_280 : decode cX8_make 280 = .ok (.aload_n 0, 1) := zdec_at bX8_make_280 0 rfl
theorem dX8_make_281 : decode cX8_make 281 = .ok (.iload_n 3, 1) := zdec_at bX8_make_280 1 rfl
theorem dX8_make_282 : decode cX8_make 282 = .ok (.iload_n 1, 1) := zdec_at bX8_make_280 2 rfl
theorem dX8_make_283 : decode cX8_make 283 = .ok (.invokevirtual 1175, 3) := zdec_at bX8_make_280 3 rfl
theorem dX8_make_286 : decode cX8_make 286 = .ok (.aload_n 0, 1) := zdec_at bX8_make_280 4 rfl
theorem dX8_make_287 : decode cX8_make 287 = .ok (.getfield 268, 3) := zdec_at bX8_make_280 5 rfl
theorem dX8_make_290 : decode cX8_make 290 = .ok (.iload 5, 2) := zdec_at bX8_make_280 6 rfl
theorem dX8_make_292 : decode cX8_make 292 = .ok (.aload_n 0, 1) := zdec_at bX8_make_280 7 rfl
theorem dX8_make_293 : decode cX8_make 293 = .ok (.getfield 220, 3) := zdec_at bX8_make_280 8 rfl
theorem dX8_make_296 : decode cX8_make 296 = .ok (.iload_n 3, 1) := zdec_at bX8_make_280 9 rfl
theorem dX8_make_297 : decode cX8_make 297 = .ok (.laload, 1) := zdec_at bX8_make_280 10 rfl
theorem dX8_make_298 : decode cX8_make 298 = .ok (.lastore, 1) := zdec_at bX8_make_280 11 rfl
theorem dX8_make_299 : decode cX8_make 299 = .ok (.aload_n 0, 1) := zdec_at bX8_make_280 12 rfl
theorem dX8_make_300 : decode cX8_make 300 = .ok (.getfield 271, 3) := zdec_at bX8_make_280 13 rfl
theorem dX8_make_303 : decode cX8_make 303 = .ok (.iload 5, 2) := zdec_at bX8_make_280 14 rfl
theorem dX8_make_305 : decode cX8_make 305 = .ok (.aload_n 0, 1) := zdec_at bX8_make_280 15 rfl
theorem bX8_make_306 : zdec cX8_make 306 [(306, .getfield 223, 3), (309, .iload_n 3, 1), (310, .laload, 1), (311, .lastore, 1), (312, .iinc 4 1, 3), (315, .goto (-139), 3), (318, .aload_n 0, 1), (319, .aload_n 0, 1), (320, .sipush 639, 3), (323, .iload_n 1, 1), (324, .invokevirtual 1101, 3), (327, .aload_n 0, 1), (328, .sipush 639, 3), (331, .iload_n 1, 1), (332, .iconst 1, 1), (333, .iadd, 1)] = true := by decide +kernel
theorem dX8_make_306 : decode cX8_make 306 = .ok (.getfield 223, 3) := zdec_at bX8_make_306 0 rfl
theorem dX8_make_309 : decode cX8_make 309 = .ok (.iload_n 3, 1) := zdec_at bX8_make_306 1 rfl
theorem dX8_make_310 : decode cX8_make 310 = .ok (.laload, 1) := zdec_at bX8_make_306 2 rfl
theorem dX8_make_311 : decode cX8_make 311 = .ok (.lastore, 1) := zdec_at bX8_make_306 3 rfl
theorem dX8_make_312 : decode cX8_make 312 = .ok (.iinc 4 1, 3) := zdec_at bX8_make_306 4 rfl
theorem dX8_make_315 : decode cX8_make 315 = .ok (.goto (-139), 3) := zdec_at bX8_make_306 5 rfl
theorem dX8_make_318 : decode cX8_make 318 = .ok (.aload_n 0, 1) := zdec_at bX8_make_306 6 rfl
theorem dX8_make_319 : decode cX8_make 319 = .ok (.aload_n 0, 1) := zdec_at bX8_make_306 7 rfl
theorem dX8_make_320 : decode cX8_make 320 = .ok (.sipush 639, 3) := zdec_at bX8_make_306 8 rfl
theorem dX8_make_323 : decode cX8_make 323 = .ok (.iload_n 1, 1) := zdec_at bX8_make_306 9 rfl
theorem dX8_make_324 : decode cX8_make 324 = .ok (.invokevirtual 1101, 3) := zdec_at bX8_make_306 10 rfl
theorem dX8_make_327 : decode cX8_make 327 = .ok (.aload_n 0, 1) := zdec_at bX8_make_306 11 rfl
theorem dX8_make_328 : decode cX8_make 328 = .ok (.sipush 639, 3) := zdec_at bX8_make_306 12 rfl
theorem dX8_make_331 : decode cX8_make 331 = .ok (.iload_n 1, 1) := zdec_at bX8_make_306 13 rfl
theorem dX8_make_332 : decode cX8_make 332 = .ok (.iconst 1, 1) := zdec_at bX8_make_306 14 rfl
theorem dX8_make_333 : decode cX8_make 333 = .ok (.iadd, 1) := zdec_at bX8_make_306 15 rfl
theorem bX8_make_334 : zdec cX8_make 334 [(334, .invokevirtual 1101, 3), (337, .invokevirtual 1112, 3), (340, .istore 4, 2), (342, .iconst 0, 1), (343, .istore 5, 2), (345, .iload 5, 2), (347, .aload_n 0, 1), (348, .getfield 762, 3), (351, .if_icmp .gt 37, 3), (354, .aload_n 0, 1), (355, .aload_n 0, 1), (356, .sipush 639, 3), (359, .iload_n 1, 1), (360, .iload 5, 2), (362, .invokevirtual 1163, 3), (365, .aload_n 0, 1)] = true := by decide +kernel
theorem dX8_make_334 : decode cX8_make 334 = .ok (.invokevirtual 1101, 3) := zdec_at bX8_make_334 0 rfl
theorem dX8_make_337 : decode cX8_make 337 = .ok (.invokevirtual 1112, 3) := zdec_at bX8_make_334 1 rfl
theorem dX8_make_340 : decode cX8_make 340 = .ok (.istore 4, 2) := zdec_at bX8_make_334 2 rfl
theorem dX8_make_342 : decode cX8_make 342 = .ok (.iconst 0, 1) := zdec_at bX8_make_334 3 rfl
theorem dX8_make_343 : decode cX8_make 343 = .ok (.istore 5, 2) := zdec_at bX8_make_334 4 rfl
theorem dX8_make_345 : decode cX8_make 345 = .ok (.iload 5, 2) := zdec_at bX8_make_334 5 rfl
theorem dX8_make_347 : decode cX8_make 347 = .ok (.aload_n 0, 1) := zdec_at bX8_make_334 6 rfl
theorem dX8_make_348 : decode cX8_make 348 = .ok (.getfield 762, 3) := zdec_at bX8_make_334 7 rfl
theorem dX8_make_351 : decode cX8_make 351 = .ok (.if_icmp .gt 37, 3) := zdec_at bX8_make_334 8 rfl
theorem dX8_make_354 : decode cX8_make 354 = .ok (.aload_n 0, 1) := zdec_at bX8_make_334 9 rfl
theorem dX8_make_355 : decode cX8_make 355 = .ok (.aload_n 0, 1) := zdec_at bX8_make_334 10 rfl
theorem dX8_make_356 : decode cX8_make 356 = .ok (.sipush 639, 3) := zdec_at bX8_make_334 11 rfl
theorem dX8_make_359 : decode cX8_make 359 = .ok (.iload_n 1, 1) := zdec_at bX8_make_334 12 rfl
theorem dX8_make_360 : decode cX8_make 360 = .ok (.iload 5, 2) := zdec_at bX8_make_334 13 rfl
theorem dX8_make_362 : decode cX8_make 362 = .ok (.invokevirtual 1163, 3) := zdec_at bX8_make_334 14 rfl
theorem dX8_make_365 : decode cX8_make 365 = .ok (.aload_n 0, 1) := zdec_at bX8_make_334 15 rfl
theorem bX8_make_366 : zdec cX8_make 366 [(366, .sipush 639, 3), (369, .iload_n 1, 1), (370, .iconst 1, 1), (371, .iadd, 1), (372, .iload 5, 2), (374, .invokevirtual 1163, 3), (377, .invokevirtual 1069, 3), (380, .istore 4, 2), (382, .iinc 5 1, 3), (385, .goto (-40), 3), (388, .aload_n 0, 1), (389, .iload_n 1, 1), (390, .iload_n 2, 1), (391, .invokevirtual 1182, 3), (394, .return_, 1)] = true := by decide +kernel
theorem dX8_make_366 : decode cX8_make 366 = .ok (.sipush 639, 3) := zdec_at bX8_make_366 0 rfl
theorem dX8_make_369 : decode cX8_make 369 = .ok (.iload_n 1, 1) := zdec_at bX8_make_366 1 rfl
theorem dX8_make_370 : decode cX8_make 370 = .ok (.iconst 1, 1) := zdec_at bX8_make_366 2 rfl
theorem dX8_make_371 : decode cX8_make 371 = .ok (.iadd, 1) := zdec_at bX8_make_366 3 rfl
theorem dX8_make_372 : decode cX8_make 372 = .ok (.iload 5, 2) := zdec_at bX8_make_366 4 rfl
theorem dX8_make_374 : decode cX8_make 374 = .ok (.invokevirtual 1163, 3) := zdec_at bX8_make_366 5 rfl
theorem dX8_make_377 : decode cX8_make 377 = .ok (.invokevirtual 1069, 3) := zdec_at bX8_make_366 6 rfl
theorem dX8_make_380 : decode cX8_make 380 = .ok (.istore 4, 2) := zdec_at bX8_make_366 7 rfl
theorem dX8_make_382 : decode cX8_make 382 = .ok (.iinc 5 1, 3) := zdec_at bX8_make_366 8 rfl
theorem dX8_make_385 : decode cX8_make 385 = .ok (.goto (-40), 3) := zdec_at bX8_make_366 9 rfl
theorem dX8_make_388 : decode cX8_make 388 = .ok (.aload_n 0, 1) := zdec_at bX8_make_366 10 rfl
theorem dX8_make_389 : decode cX8_make 389 = .ok (.iload_n 1, 1) := zdec_at bX8_make_366 11 rfl
theorem dX8_make_390 : decode cX8_make 390 = .ok (.iload_n 2, 1) := zdec_at bX8_make_366 12 rfl
theorem dX8_make_391 : decode cX8_make 391 = .ok (.invokevirtual 1182, 3) := zdec_at bX8_make_366 13 rfl
theorem dX8_make_394 : decode cX8_make 394 = .ok (.return_, 1) := zdec_at bX8_make_366 14 rfl
theorem sX8_make_0 {E : zE} {d : Nat} {Q : zO → zM → Prop} (M : zM) (l1 : Int32) (l2 : Int32) (k : Zm E YX8_make (d + 1) M [(0, vr (some (97, 1, 0))), (1, vi l1), (2, vi l2), (3, vi (0 : Int32))] 2 [] Q) : Zm E YX8_make (d + 1) M [(0, vr (some (97, 1, 0))), (1, vi l1), (2, vi l2)] 0 [] Q := by
  refine Zm.l (fun _ _ k_ => z_iconst (v := 0) dX8_make_0 rfl k_) ?_
  refine Zm.l (fun _ _ k_ => z_ist_n dX8_make_1 rfl (by decide) (lv' := [(0, vr (some (97, 1, 0))), (1, vi l1), (2, vi l2), (3, vi (0 : Int32))]) rfl k_) ?_
  exact k
theorem sX8_make_2 {E : zE} {d : Nat} {Q : zO → zM → Prop} (M : zM) (l1 : Int32) (l2 : Int32) (l3 : Int32) (k : if ((gi M 97 71) * ((gi M 97 8) + (1 : Int32))) ≤ l3 then (Zm E YX8_make (d + 1) M [(0, vr (some (97, 1, 0))), (1, vi l1), (2, vi l2), (3, vi (0 : Int32))] 35 [] Q) else (Zm E YX8_renameIn d M (zargs 0 [vr (some (97, 1, 0)), vi ((635640 : Int32) + l3), vi l1]) 0 [] (zma E YX8_make (d + 1) [(0, vr (some (97, 1, 0))), (1, vi l1), (2, vi l2), (3, vi l3)] 24 3 [] Q))) : Zm E YX8_make (d + 1) M [(0, vr (some (97, 1, 0))), (1, vi l1), (2, vi l2), (3, vi l3)] 2 [] Q := by
  refine Zm.l (fun _ _ k_ => z_iload_n dX8_make_2 rfl rfl k_) ?_
  refine Zm.l (fun _ _ k_ => z_aload_n dX8_make_3 rfl rfl k_) ?_
  refine zm_geti dX8_make_4 fsX8_765_1 (by decide) (by decide) ?_
  refine Zm.l (fun _ _ k_ => z_aload_n dX8_make_7 rfl rfl k_) ?_
  refine zm_geti dX8_make_8 fsX8_762_1 (by decide) (by decide) ?_
  refine Zm.l (fun _ _ k_ => z_iconst (v := 1) dX8_make_11 rfl k_) ?_
  refine Zm.l (fun _ _ k_ => z_iadd dX8_make_12 k_) ?_
  refine Zm.l (fun _ _ k_ => z_imul dX8_make_13 k_) ?_
  refine Zm.br (fun _ _ k1_ k2_ => z_icmp_ge (tgt := 33) dX8_make_14 rfl k1_ k2_) (fun h_ => ?_) (fun h_ => ?_)
  · have k := zit h_ k
    refine Zm.l (fun _ _ k_ => z_iconst (v := 0) dX8_make_33 rfl k_) ?_
    refine Zm.l (fun _ _ k_ => z_ist_n dX8_make_34 rfl (by decide) (lv' := [(0, vr (some (97, 1, 0))), (1, vi l1), (2, vi l2), (3, vi (0 : Int32))]) rfl k_) ?_
    exact k
  · have k := zif h_ k
    refine Zm.l (fun _ _ k_ => z_aload_n dX8_make_17 rfl rfl k_) ?_
    refine Zm.l (fun _ _ k_ => z_ldcw (v := 635640) dX8_make_18 q4786 k_) ?_
    refine Zm.l (fun _ _ k_ => z_iload_n dX8_make_21 rfl rfl k_) ?_
    refine Zm.l (fun _ _ k_ => z_iadd dX8_make_22 k_) ?_
    refine Zm.l (fun _ _ k_ => z_iload_n dX8_make_23 rfl rfl k_) ?_
    exact zm_callV (as := [vi ((635640 : Int32) + l3), vi l1]) (st := []) dX8_make_24 vsX8_1175_1 (Nat.le_refl _) (Nat.le_of_ble_eq_true rfl) (Nat.le_of_ble_eq_true rfl) rfl k
theorem sX8_make_27 {E : zE} {d : Nat} {Q : zO → zM → Prop} (M : zM) (l1 : Int32) (l2 : Int32) (l3 : Int32) (k : Zm E YX8_make (d + 1) M [(0, vr (some (97, 1, 0))), (1, vi l1), (2, vi l2), (3, vi (l3 + (1 : Int32)))] 2 [] Q) : Zm E YX8_make (d + 1) M [(0, vr (some (97, 1, 0))), (1, vi l1), (2, vi l2), (3, vi l3)] 27 [] Q := by
  refine Zm.l (fun _ _ k_ => z_inc (v := (l3 + (1 : Int32))) dX8_make_27 rfl rfl (by decide) (lv' := [(0, vr (some (97, 1, 0))), (1, vi l1), (2, vi l2), (3, vi (l3 + (1 : Int32)))]) rfl k_) ?_
  refine Zm.l (fun _ _ k_ => z_goto (tgt := 2) dX8_make_30 rfl k_) ?_
  exact k
theorem sX8_make_35 {E : zE} {d : Nat} {Q : zO → zM → Prop} (M : zM) (l1 : Int32) (l2 : Int32) (l3 : Int32) (k : vp_in (639 : Int32) 640 ∧ (if (gi M 171 ((639 : Int32)).toNatClampNeg) ≤ l3 then (Zm E YX8_thisAt d M (zargs 0 [vr (some (97, 1, 0)), vi (639 : Int32)]) 0 [] (zma E YX8_make (d + 1) [(0, vr (some (97, 1, 0))), (1, vi l1), (2, vi l2)] 73 3 [vr (some (97, 1, 0))] Q)) else (vp_in (639 : Int32) 640 ∧ (Zm E YX8_renameIn d M (zargs 0 [vr (some (97, 1, 0)), vi ((gi M 172 ((639 : Int32)).toNatClampNeg) + l3), vi l1]) 0 [] (zma E YX8_make (d + 1) [(0, vr (some (97, 1, 0))), (1, vi l1), (2, vi l2), (3, vi l3)] 59 3 [] Q))))) : Zm E YX8_make (d + 1) M [(0, vr (some (97, 1, 0))), (1, vi l1), (2, vi l2), (3, vi l3)] 35 [] Q := by
  refine Zm.l (fun _ _ k_ => z_iload_n dX8_make_35 rfl rfl k_) ?_
  refine Zm.l (fun _ _ k_ => z_aload_n dX8_make_36 rfl rfl k_) ?_
  refine zm_getr 68 dX8_make_37 fsX8_235_1 rfl ?_
  refine Zm.l (fun _ _ k_ => z_sipush (v := 639) dX8_make_40 rfl k_) ?_
  obtain ⟨b_, k⟩ := k
  refine zm_iald dX8_make_43 b_ (by decide) (by decide) ?_
  refine Zm.br (fun _ _ k1_ k2_ => z_icmp_ge (tgt := 68) dX8_make_44 rfl k1_ k2_) (fun h_ => ?_) (fun h_ => ?_)
  · have k := zit h_ k
    refine Zm.l (fun _ _ k_ => z_aload_n dX8_make_68 rfl rfl k_) ?_
    refine Zm.l (fun _ _ k_ => z_aload_n dX8_make_69 rfl rfl k_) ?_
    refine Zm.l (fun _ _ k_ => z_sipush (v := 639) dX8_make_70 rfl k_) ?_
    refine Zm.pick [0, 1, 2] rfl ?_
    exact zm_callV (as := [vi (639 : Int32)]) (st := [vr (some (97, 1, 0))]) dX8_make_73 vsX8_1098_1 (Nat.le_refl _) (Nat.le_of_ble_eq_true rfl) (Nat.le_of_ble_eq_true rfl) rfl k
  · have k := zif h_ k
    refine Zm.l (fun _ _ k_ => z_aload_n dX8_make_47 rfl rfl k_) ?_
    refine Zm.l (fun _ _ k_ => z_aload_n dX8_make_48 rfl rfl k_) ?_
    refine zm_getr 69 dX8_make_49 fsX8_238_1 rfl ?_
    refine Zm.l (fun _ _ k_ => z_sipush (v := 639) dX8_make_52 rfl k_) ?_
    obtain ⟨b_, k⟩ := k
    refine zm_iald dX8_make_55 b_ (by decide) (by decide) ?_
    refine Zm.l (fun _ _ k_ => z_iload_n dX8_make_56 rfl rfl k_) ?_
    refine Zm.l (fun _ _ k_ => z_iadd dX8_make_57 k_) ?_
    refine Zm.l (fun _ _ k_ => z_iload_n dX8_make_58 rfl rfl k_) ?_
    exact zm_callV (as := [vi ((gi M 172 ((639 : Int32)).toNatClampNeg) + l3), vi l1]) (st := []) dX8_make_59 vsX8_1175_1 (Nat.le_refl _) (Nat.le_of_ble_eq_true rfl) (Nat.le_of_ble_eq_true rfl) rfl k
theorem sX8_make_62 {E : zE} {d : Nat} {Q : zO → zM → Prop} (M : zM) (l1 : Int32) (l2 : Int32) (l3 : Int32) (k : Zm E YX8_make (d + 1) M [(0, vr (some (97, 1, 0))), (1, vi l1), (2, vi l2), (3, vi (l3 + (1 : Int32)))] 35 [] Q) : Zm E YX8_make (d + 1) M [(0, vr (some (97, 1, 0))), (1, vi l1), (2, vi l2), (3, vi l3)] 62 [] Q := by
  refine Zm.l (fun _ _ k_ => z_inc (v := (l3 + (1 : Int32))) dX8_make_62 rfl rfl (by decide) (lv' := [(0, vr (some (97, 1, 0))), (1, vi l1), (2, vi l2), (3, vi (l3 + (1 : Int32)))]) rfl k_) ?_
  refine Zm.l (fun _ _ k_ => z_goto (tgt := 35) dX8_make_65 rfl k_) ?_
  exact k
theorem sX8_make_76 {E : zE} {d : Nat} {Q : zO → zM → Prop} (M : zM) (l1 : Int32) (l2 : Int32) (s0 : Int32) (k : Zm E YX8_renameIn d M (zargs 0 [vr (some (97, 1, 0)), vi s0, vi l1]) 0 [] (zma E YX8_make (d + 1) [(0, vr (some (97, 1, 0))), (1, vi l1), (2, vi l2)] 77 3 [] Q)) : Zm E YX8_make (d + 1) M [(0, vr (some (97, 1, 0))), (1, vi l1), (2, vi l2)] 76 [vi s0, vr (some (97, 1, 0))] Q := by
  refine Zm.l (fun _ _ k_ => z_iload_n dX8_make_76 rfl rfl k_) ?_
  exact zm_callV (as := [vi s0, vi l1]) (st := []) dX8_make_77 vsX8_1175_1 (Nat.le_refl _) (Nat.le_of_ble_eq_true rfl) (Nat.le_of_ble_eq_true rfl) rfl k
theorem sX8_make_80 {E : zE} {d : Nat} {Q : zO → zM → Prop} (M : zM) (l1 : Int32) (l2 : Int32) (k : Zm E YX8_make (d + 1) M [(0, vr (some (97, 1, 0))), (1, vi l1), (2, vi l2), (3, vi (0 : Int32))] 82 [] Q) : Zm E YX8_make (d + 1) M [(0, vr (some (97, 1, 0))), (1, vi l1), (2, vi l2)] 80 [] Q := by
  refine Zm.l (fun _ _ k_ => z_iconst (v := 0) dX8_make_80 rfl k_) ?_
  refine Zm.l (fun _ _ k_ => z_ist_n dX8_make_81 rfl (by decide) (lv' := [(0, vr (some (97, 1, 0))), (1, vi l1), (2, vi l2), (3, vi (0 : Int32))]) rfl k_) ?_
  exact k
theorem sX8_make_82 {E : zE} {d : Nat} {Q : zO → zM → Prop} (M : zM) (l1 : Int32) (l2 : Int32) (l3 : Int32) (k : if (gi M 97 147) ≤ l3 then (vp_in (639 : Int32) 640 ∧ (vp_in (647791 : Int32) 647800 ∧ (vp_in (639 : Int32) 640 ∧ (vp_in (647791 : Int32) 647800 ∧ (Zm E YX8_renameIn d (sl (sl M 166 ((647791 : Int32)).toNatClampNeg (gl M 173 ((639 : Int32)).toNatClampNeg)) 167 ((647791 : Int32)).toNatClampNeg (gl M 174 ((639 : Int32)).toNatClampNeg)) (zargs 0 [vr (some (97, 1, 0)), vi (647791 : Int32), vi l1]) 0 [] (zma E YX8_make (d + 1) [(0, vr (some (97, 1, 0))), (1, vi l1), (2, vi l2), (3, vi (647791 : Int32))] 142 3 [] Q)))))) else (vp_in l3 12 ∧ (Zm E YX8_renameIn d M (zargs 0 [vr (some (97, 1, 0)), vi (gi M 188 (l3).toNatClampNeg), vi l1]) 0 [] (zma E YX8_make (d + 1) [(0, vr (some (97, 1, 0))), (1, vi l1), (2, vi l2), (3, vi l3)] 98 3 [] Q)))) : Zm E YX8_make (d + 1) M [(0, vr (some (97, 1, 0))), (1, vi l1), (2, vi l2), (3, vi l3)] 82 [] Q := by
  refine Zm.l (fun _ _ k_ => z_iload_n dX8_make_82 rfl rfl k_) ?_
  refine Zm.l (fun _ _ k_ => z_aload_n dX8_make_83 rfl rfl k_) ?_
  refine zm_geti dX8_make_84 fsX8_1178_1 (by decide) (by decide) ?_
  refine Zm.br (fun _ _ k1_ k2_ => z_icmp_ge (tgt := 107) dX8_make_87 rfl k1_ k2_) (fun h_ => ?_) (fun h_ => ?_)
  · have k := zit h_ k
    refine Zm.l (fun _ _ k_ => z_ldcw (v := 647791) dX8_make_107 q5011 k_) ?_
    refine Zm.l (fun _ _ k_ => z_ist_n dX8_make_110 rfl (by decide) (lv' := [(0, vr (some (97, 1, 0))), (1, vi l1), (2, vi l2), (3, vi (647791 : Int32))]) rfl k_) ?_
    refine Zm.l (fun _ _ k_ => z_aload_n dX8_make_111 rfl rfl k_) ?_
    refine zm_getr 63 dX8_make_112 fsX8_220_1 rfl ?_
    refine Zm.l (fun _ _ k_ => z_iload_n dX8_make_115 rfl rfl k_) ?_
    refine Zm.l (fun _ _ k_ => z_aload_n dX8_make_116 rfl rfl k_) ?_
    refine zm_getr 70 dX8_make_117 fsX8_241_1 rfl ?_
    refine Zm.l (fun _ _ k_ => z_sipush (v := 639) dX8_make_120 rfl k_) ?_
    obtain ⟨b_, k⟩ := k
    refine zm_lald dX8_make_123 b_ (by decide) (by decide) ?_
    obtain ⟨b_, k⟩ := k
    refine zm_last dX8_make_124 b_ (by decide) (by decide) ?_
    refine Zm.l (fun _ _ k_ => z_aload_n dX8_make_125 rfl rfl k_) ?_
    refine zm_getr 64 dX8_make_126 fsX8_223_1 rfl ?_
    refine Zm.l (fun _ _ k_ => z_iload_n dX8_make_129 rfl rfl k_) ?_
    refine Zm.l (fun _ _ k_ => z_aload_n dX8_make_130 rfl rfl k_) ?_
    refine zm_getr 71 dX8_make_131 fsX8_244_1 rfl ?_
    refine Zm.l (fun _ _ k_ => z_sipush (v := 639) dX8_make_134 rfl k_) ?_
    obtain ⟨b_, k⟩ := k
    refine zm_lald dX8_make_137 b_ (by decide) (by decide) ?_
    obtain ⟨b_, k⟩ := k
    refine zm_last dX8_make_138 b_ (by decide) (by decide) ?_
    refine Zm.l (fun _ _ k_ => z_aload_n dX8_make_139 rfl rfl k_) ?_
    refine Zm.l (fun _ _ k_ => z_iload_n dX8_make_140 rfl rfl k_) ?_
    refine Zm.l (fun _ _ k_ => z_iload_n dX8_make_141 rfl rfl k_) ?_
    exact zm_callV (as := [vi (647791 : Int32), vi l1]) (st := []) dX8_make_142 vsX8_1175_1 (Nat.le_refl _) (Nat.le_of_ble_eq_true rfl) (Nat.le_of_ble_eq_true rfl) rfl k
  · have k := zif h_ k
    refine Zm.l (fun _ _ k_ => z_aload_n dX8_make_90 rfl rfl k_) ?_
    refine Zm.l (fun _ _ k_ => z_aload_n dX8_make_91 rfl rfl k_) ?_
    refine zm_getr 85 dX8_make_92 fsX8_286_1 rfl ?_
    refine Zm.l (fun _ _ k_ => z_iload_n dX8_make_95 rfl rfl k_) ?_
    obtain ⟨b_, k⟩ := k
    refine zm_iald dX8_make_96 b_ (by decide) (by decide) ?_
    refine Zm.l (fun _ _ k_ => z_iload_n dX8_make_97 rfl rfl k_) ?_
    exact zm_callV (as := [vi (gi M 188 (l3).toNatClampNeg), vi l1]) (st := []) dX8_make_98 vsX8_1175_1 (Nat.le_refl _) (Nat.le_of_ble_eq_true rfl) (Nat.le_of_ble_eq_true rfl) rfl k
theorem sX8_make_101 {E : zE} {d : Nat} {Q : zO → zM → Prop} (M : zM) (l1 : Int32) (l2 : Int32) (l3 : Int32) (k : Zm E YX8_make (d + 1) M [(0, vr (some (97, 1, 0))), (1, vi l1), (2, vi l2), (3, vi (l3 + (1 : Int32)))] 82 [] Q) : Zm E YX8_make (d + 1) M [(0, vr (some (97, 1, 0))), (1, vi l1), (2, vi l2), (3, vi l3)] 101 [] Q := by
  refine Zm.l (fun _ _ k_ => z_inc (v := (l3 + (1 : Int32))) dX8_make_101 rfl rfl (by decide) (lv' := [(0, vr (some (97, 1, 0))), (1, vi l1), (2, vi l2), (3, vi (l3 + (1 : Int32)))]) rfl k_) ?_
  refine Zm.l (fun _ _ k_ => z_goto (tgt := 82) dX8_make_104 rfl k_) ?_
  exact k
theorem sX8_make_145 {E : zE} {d : Nat} {Q : zO → zM → Prop} (M : zM) (l1 : Int32) (l2 : Int32) (l3 : Int32) (k : vp_in l3 647800 ∧ (vp_in (639 : Int32) 640 ∧ (vp_in l3 647800 ∧ (vp_in (639 : Int32) 640 ∧ (Zm E YX8_make (d + 1) (sl (sl M 173 ((639 : Int32)).toNatClampNeg (gl M 166 (l3).toNatClampNeg)) 174 ((639 : Int32)).toNatClampNeg (gl M 167 (l3).toNatClampNeg)) [(0, vr (some (97, 1, 0))), (1, vi l1), (2, vi l2), (3, vi l3), (4, vi (0 : Int32))] 176 [] Q))))) : Zm E YX8_make (d + 1) M [(0, vr (some (97, 1, 0))), (1, vi l1), (2, vi l2), (3, vi l3)] 145 [] Q := by
  refine Zm.l (fun _ _ k_ => z_aload_n dX8_make_145 rfl rfl k_) ?_
  refine zm_getr 70 dX8_make_146 fsX8_241_1 rfl ?_
  refine Zm.l (fun _ _ k_ => z_sipush (v := 639) dX8_make_149 rfl k_) ?_
  refine Zm.l (fun _ _ k_ => z_aload_n dX8_make_152 rfl rfl k_) ?_
  refine zm_getr 63 dX8_make_153 fsX8_220_1 rfl ?_
  refine Zm.l (fun _ _ k_ => z_iload_n dX8_make_156 rfl rfl k_) ?_
  obtain ⟨b_, k⟩ := k
  refine zm_lald dX8_make_157 b_ (by decide) (by decide) ?_
  obtain ⟨b_, k⟩ := k
  refine zm_last dX8_make_158 b_ (by decide) (by decide) ?_
  refine Zm.l (fun _ _ k_ => z_aload_n dX8_make_159 rfl rfl k_) ?_
  refine zm_getr 71 dX8_make_160 fsX8_244_1 rfl ?_
  refine Zm.l (fun _ _ k_ => z_sipush (v := 639) dX8_make_163 rfl k_) ?_
  refine Zm.l (fun _ _ k_ => z_aload_n dX8_make_166 rfl rfl k_) ?_
  refine zm_getr 64 dX8_make_167 fsX8_223_1 rfl ?_
  refine Zm.l (fun _ _ k_ => z_iload_n dX8_make_170 rfl rfl k_) ?_
  obtain ⟨b_, k⟩ := k
  refine zm_lald dX8_make_171 b_ (by decide) (by decide) ?_
  obtain ⟨b_, k⟩ := k
  refine zm_last dX8_make_172 b_ (by decide) (by decide) ?_
  refine Zm.l (fun _ _ k_ => z_iconst (v := 0) dX8_make_173 rfl k_) ?_
  refine Zm.l (fun _ _ k_ => z_ist dX8_make_174 (by decide) (lv' := [(0, vr (some (97, 1, 0))), (1, vi l1), (2, vi l2), (3, vi l3), (4, vi (0 : Int32))]) rfl k_) ?_
  exact k
theorem sX8_make_176 {E : zE} {d : Nat} {Q : zO → zM → Prop} (M : zM) (l1 : Int32) (l2 : Int32) (l3 : Int32) (l4 : Int32) (k : if (gi M 97 71) ≤ l4 then (Zm E YX8_of d M (zargs 0 [vr (some (97, 1, 0)), vi (639 : Int32), vi l1]) 0 [] (zma E YX8_make (d + 1) [(0, vr (some (97, 1, 0))), (1, vi l1), (2, vi l2)] 324 3 [vr (some (97, 1, 0))] Q)) else (Zm E YX8_of d M (zargs 0 [vr (some (97, 1, 0)), vi (639 : Int32), vi l4]) 0 [] (zma E YX8_make (d + 1) [(0, vr (some (97, 1, 0))), (1, vi l1), (2, vi l2), (3, vi l3), (4, vi l4)] 191 3 [] Q))) : Zm E YX8_make (d + 1) M [(0, vr (some (97, 1, 0))), (1, vi l1), (2, vi l2), (3, vi l3), (4, vi l4)] 176 [] Q := by
  refine Zm.l (fun _ _ k_ => z_iload dX8_make_176 rfl k_) ?_
  refine Zm.l (fun _ _ k_ => z_aload_n dX8_make_178 rfl rfl k_) ?_
  refine zm_geti dX8_make_179 fsX8_765_1 (by decide) (by decide) ?_
  refine Zm.br (fun _ _ k1_ k2_ => z_icmp_ge (tgt := 318) dX8_make_182 rfl k1_ k2_) (fun h_ => ?_) (fun h_ => ?_)
  · have k := zit h_ k
    refine Zm.l (fun _ _ k_ => z_aload_n dX8_make_318 rfl rfl k_) ?_
    refine Zm.l (fun _ _ k_ => z_aload_n dX8_make_319 rfl rfl k_) ?_
    refine Zm.l (fun _ _ k_ => z_sipush (v := 639) dX8_make_320 rfl k_) ?_
    refine Zm.l (fun _ _ k_ => z_iload_n dX8_make_323 rfl rfl k_) ?_
    refine Zm.pick [0, 1, 2] rfl ?_
    exact zm_callV (as := [vi (639 : Int32), vi l1]) (st := [vr (some (97, 1, 0))]) dX8_make_324 vsX8_1101_1 (Nat.le_refl _) (Nat.le_of_ble_eq_true rfl) (Nat.le_of_ble_eq_true rfl) rfl k
  · have k := zif h_ k
    refine Zm.l (fun _ _ k_ => z_aload_n dX8_make_185 rfl rfl k_) ?_
    refine Zm.l (fun _ _ k_ => z_sipush (v := 639) dX8_make_186 rfl k_) ?_
    refine Zm.l (fun _ _ k_ => z_iload dX8_make_189 rfl k_) ?_
    exact zm_callV (as := [vi (639 : Int32), vi l4]) (st := []) dX8_make_191 vsX8_1101_1 (Nat.le_refl _) (Nat.le_of_ble_eq_true rfl) (Nat.le_of_ble_eq_true rfl) rfl k
theorem sX8_make_194 {E : zE} {d : Nat} {Q : zO → zM → Prop} (M : zM) (l1 : Int32) (l2 : Int32) (l3 : Int32) (l4 : Int32) (s0 : Int32) (k : vp_in s0 15128 ∧ (vp_in l3 647800 ∧ (vp_in s0 15128 ∧ (vp_in l3 647800 ∧ (Zm E YX8_renameIn d (sl (sl M 166 (l3).toNatClampNeg (gl M 180 (s0).toNatClampNeg)) 167 (l3).toNatClampNeg (gl M 181 (s0).toNatClampNeg)) (zargs 0 [vr (some (97, 1, 0)), vi l3, vi l1]) 0 [] (zma E YX8_make (d + 1) [(0, vr (some (97, 1, 0))), (1, vi l1), (2, vi l2), (3, vi l3), (4, vi l4), (5, vi s0)] 225 3 [] Q)))))) : Zm E YX8_make (d + 1) M [(0, vr (some (97, 1, 0))), (1, vi l1), (2, vi l2), (3, vi l3), (4, vi l4)] 194 [vi s0] Q := by
  refine Zm.l (fun _ _ k_ => z_ist dX8_make_194 (by decide) (lv' := [(0, vr (some (97, 1, 0))), (1, vi l1), (2, vi l2), (3, vi l3), (4, vi l4), (5, vi s0)]) rfl k_) ?_
  refine Zm.l (fun _ _ k_ => z_aload_n dX8_make_196 rfl rfl k_) ?_
  refine zm_getr 63 dX8_make_197 fsX8_220_1 rfl ?_
  refine Zm.l (fun _ _ k_ => z_iload_n dX8_make_200 rfl rfl k_) ?_
  refine Zm.l (fun _ _ k_ => z_aload_n dX8_make_201 rfl rfl k_) ?_
  refine zm_getr 77 dX8_make_202 fsX8_262_1 rfl ?_
  refine Zm.l (fun _ _ k_ => z_iload dX8_make_205 rfl k_) ?_
  obtain ⟨b_, k⟩ := k
  refine zm_lald dX8_make_207 b_ (by decide) (by decide) ?_
  obtain ⟨b_, k⟩ := k
  refine zm_last dX8_make_208 b_ (by decide) (by decide) ?_
  refine Zm.l (fun _ _ k_ => z_aload_n dX8_make_209 rfl rfl k_) ?_
  refine zm_getr 64 dX8_make_210 fsX8_223_1 rfl ?_
  refine Zm.l (fun _ _ k_ => z_iload_n dX8_make_213 rfl rfl k_) ?_
  refine Zm.l (fun _ _ k_ => z_aload_n dX8_make_214 rfl rfl k_) ?_
  refine zm_getr 78 dX8_make_215 fsX8_265_1 rfl ?_
  refine Zm.l (fun _ _ k_ => z_iload dX8_make_218 rfl k_) ?_
  obtain ⟨b_, k⟩ := k
  refine zm_lald dX8_make_220 b_ (by decide) (by decide) ?_
  obtain ⟨b_, k⟩ := k
  refine zm_last dX8_make_221 b_ (by decide) (by decide) ?_
  refine Zm.l (fun _ _ k_ => z_aload_n dX8_make_222 rfl rfl k_) ?_
  refine Zm.l (fun _ _ k_ => z_iload_n dX8_make_223 rfl rfl k_) ?_
  refine Zm.l (fun _ _ k_ => z_iload_n dX8_make_224 rfl rfl k_) ?_
  exact zm_callV (as := [vi l3, vi l1]) (st := []) dX8_make_225 vsX8_1175_1 (Nat.le_refl _) (Nat.le_of_ble_eq_true rfl) (Nat.le_of_ble_eq_true rfl) rfl k
theorem sX8_make_228 {E : zE} {d : Nat} {Q : zO → zM → Prop} (M : zM) (l1 : Int32) (l2 : Int32) (l3 : Int32) (l4 : Int32) (l5 : Int32) (k : vp_in l3 647800 ∧ (vp_in l5 15128 ∧ (vp_in l3 647800 ∧ (vp_in l5 15128 ∧ (vp_in l5 15128 ∧ (vp_in l3 647800 ∧ (vp_in l5 15128 ∧ (vp_in l3 647800 ∧ (Zm E YX8_renameIn d (sl (sl (sl (sl M 180 (l5).toNatClampNeg (gl M 166 (l3).toNatClampNeg)) 181 (l5).toNatClampNeg (gl M 167 (l3).toNatClampNeg)) 166 (l3).toNatClampNeg (gl M 182 (l5).toNatClampNeg)) 167 (l3).toNatClampNeg (gl M 183 (l5).toNatClampNeg)) (zargs 0 [vr (some (97, 1, 0)), vi l3, vi l1]) 0 [] (zma E YX8_make (d + 1) [(0, vr (some (97, 1, 0))), (1, vi l1), (2, vi l2), (3, vi l3), (4, vi l4), (5, vi l5)] 283 3 [] Q)))))))))) : Zm E YX8_make (d + 1) M [(0, vr (some (97, 1, 0))), (1, vi l1), (2, vi l2), (3, vi l3), (4, vi l4), (5, vi l5)] 228 [] Q := by
  refine Zm.l (fun _ _ k_ => z_aload_n dX8_make_228 rfl rfl k_) ?_
  refine zm_getr 77 dX8_make_229 fsX8_262_1 rfl ?_
  refine Zm.l (fun _ _ k_ => z_iload dX8_make_232 rfl k_) ?_
  refine Zm.l (fun _ _ k_ => z_aload_n dX8_make_234 rfl rfl k_) ?_
  refine zm_getr 63 dX8_make_235 fsX8_220_1 rfl ?_
  refine Zm.l (fun _ _ k_ => z_iload_n dX8_make_238 rfl rfl k_) ?_
  obtain ⟨b_, k⟩ := k
  refine zm_lald dX8_make_239 b_ (by decide) (by decide) ?_
  obtain ⟨b_, k⟩ := k
  refine zm_last dX8_make_240 b_ (by decide) (by decide) ?_
  refine Zm.l (fun _ _ k_ => z_aload_n dX8_make_241 rfl rfl k_) ?_
  refine zm_getr 78 dX8_make_242 fsX8_265_1 rfl ?_
  refine Zm.l (fun _ _ k_ => z_iload dX8_make_245 rfl k_) ?_
  refine Zm.l (fun _ _ k_ => z_aload_n dX8_make_247 rfl rfl k_) ?_
  refine zm_getr 64 dX8_make_248 fsX8_223_1 rfl ?_
  refine Zm.l (fun _ _ k_ => z_iload_n dX8_make_251 rfl rfl k_) ?_
  obtain ⟨b_, k⟩ := k
  refine zm_lald dX8_make_252 b_ (by decide) (by decide) ?_
  obtain ⟨b_, k⟩ := k
  refine zm_last dX8_make_253 b_ (by decide) (by decide) ?_
  refine Zm.l (fun _ _ k_ => z_aload_n dX8_make_254 rfl rfl k_) ?_
  refine zm_getr 63 dX8_make_255 fsX8_220_1 rfl ?_
  refine Zm.l (fun _ _ k_ => z_iload_n dX8_make_258 rfl rfl k_) ?_
  refine Zm.l (fun _ _ k_ => z_aload_n dX8_make_259 rfl rfl k_) ?_
  refine zm_getr 79 dX8_make_260 fsX8_268_1 rfl ?_
  refine Zm.l (fun _ _ k_ => z_iload dX8_make_263 rfl k_) ?_
  obtain ⟨b_, k⟩ := k
  refine zm_lald dX8_make_265 b_ (by decide) (by decide) ?_
  obtain ⟨b_, k⟩ := k
  refine zm_last dX8_make_266 b_ (by decide) (by decide) ?_
  refine Zm.l (fun _ _ k_ => z_aload_n dX8_make_267 rfl rfl k_) ?_
  refine zm_getr 64 dX8_make_268 fsX8_223_1 rfl ?_
  refine Zm.l (fun _ _ k_ => z_iload_n dX8_make_271 rfl rfl k_) ?_
  refine Zm.l (fun _ _ k_ => z_aload_n dX8_make_272 rfl rfl k_) ?_
  refine zm_getr 80 dX8_make_273 fsX8_271_1 rfl ?_
  refine Zm.l (fun _ _ k_ => z_iload dX8_make_276 rfl k_) ?_
  obtain ⟨b_, k⟩ := k
  refine zm_lald dX8_make_278 b_ (by decide) (by decide) ?_
  obtain ⟨b_, k⟩ := k
  refine zm_last dX8_make_279 b_ (by decide) (by decide) ?_
  refine Zm.l (fun _ _ k_ => z_aload_n dX8_make_280 rfl rfl k_) ?_
  refine Zm.l (fun _ _ k_ => z_iload_n dX8_make_281 rfl rfl k_) ?_
  refine Zm.l (fun _ _ k_ => z_iload_n dX8_make_282 rfl rfl k_) ?_
  exact zm_callV (as := [vi l3, vi l1]) (st := []) dX8_make_283 vsX8_1175_1 (Nat.le_refl _) (Nat.le_of_ble_eq_true rfl) (Nat.le_of_ble_eq_true rfl) rfl k
theorem sX8_make_286 {E : zE} {d : Nat} {Q : zO → zM → Prop} (M : zM) (l1 : Int32) (l2 : Int32) (l3 : Int32) (l4 : Int32) (l5 : Int32) (k : vp_in l3 647800 ∧ (vp_in l5 15128 ∧ (vp_in l3 647800 ∧ (vp_in l5 15128 ∧ (Zm E YX8_make (d + 1) (sl (sl M 182 (l5).toNatClampNeg (gl M 166 (l3).toNatClampNeg)) 183 (l5).toNatClampNeg (gl M 167 (l3).toNatClampNeg)) [(0, vr (some (97, 1, 0))), (1, vi l1), (2, vi l2), (3, vi l3), (4, vi (l4 + (1 : Int32)))] 176 [] Q))))) : Zm E YX8_make (d + 1) M [(0, vr (some (97, 1, 0))), (1, vi l1), (2, vi l2), (3, vi l3), (4, vi l4), (5, vi l5)] 286 [] Q := by
  refine Zm.l (fun _ _ k_ => z_aload_n dX8_make_286 rfl rfl k_) ?_
  refine zm_getr 79 dX8_make_287 fsX8_268_1 rfl ?_
  refine Zm.l (fun _ _ k_ => z_iload dX8_make_290 rfl k_) ?_
  refine Zm.l (fun _ _ k_ => z_aload_n dX8_make_292 rfl rfl k_) ?_
  refine zm_getr 63 dX8_make_293 fsX8_220_1 rfl ?_
  refine Zm.l (fun _ _ k_ => z_iload_n dX8_make_296 rfl rfl k_) ?_
  obtain ⟨b_, k⟩ := k
  refine zm_lald dX8_make_297 b_ (by decide) (by decide) ?_
  obtain ⟨b_, k⟩ := k
  refine zm_last dX8_make_298 b_ (by decide) (by decide) ?_
  refine Zm.l (fun _ _ k_ => z_aload_n dX8_make_299 rfl rfl k_) ?_
  refine zm_getr 80 dX8_make_300 fsX8_271_1 rfl ?_
  refine Zm.l (fun _ _ k_ => z_iload dX8_make_303 rfl k_) ?_
  refine Zm.l (fun _ _ k_ => z_aload_n dX8_make_305 rfl rfl k_) ?_
  refine zm_getr 64 dX8_make_306 fsX8_223_1 rfl ?_
  refine Zm.l (fun _ _ k_ => z_iload_n dX8_make_309 rfl rfl k_) ?_
  obtain ⟨b_, k⟩ := k
  refine zm_lald dX8_make_310 b_ (by decide) (by decide) ?_
  obtain ⟨b_, k⟩ := k
  refine zm_last dX8_make_311 b_ (by decide) (by decide) ?_
  refine Zm.l (fun _ _ k_ => z_inc (v := (l4 + (1 : Int32))) dX8_make_312 rfl rfl (by decide) (lv' := [(0, vr (some (97, 1, 0))), (1, vi l1), (2, vi l2), (3, vi l3), (4, vi (l4 + (1 : Int32))), (5, vi l5)]) rfl k_) ?_
  refine Zm.l (fun _ _ k_ => z_goto (tgt := 176) dX8_make_315 rfl k_) ?_
  refine Zm.pick [0, 1, 2, 3, 4] rfl ?_
  exact k
theorem sX8_make_327 {E : zE} {d : Nat} {Q : zO → zM → Prop} (M : zM) (l1 : Int32) (l2 : Int32) (s0 : Int32) (k : Zm E YX8_of d M (zargs 0 [vr (some (97, 1, 0)), vi (639 : Int32), vi (l1 + (1 : Int32))]) 0 [] (zma E YX8_make (d + 1) [(0, vr (some (97, 1, 0))), (1, vi l1), (2, vi l2)] 334 3 [vi s0, vr (some (97, 1, 0))] Q)) : Zm E YX8_make (d + 1) M [(0, vr (some (97, 1, 0))), (1, vi l1), (2, vi l2)] 327 [vi s0, vr (some (97, 1, 0))] Q := by
  refine Zm.l (fun _ _ k_ => z_aload_n dX8_make_327 rfl rfl k_) ?_
  refine Zm.l (fun _ _ k_ => z_sipush (v := 639) dX8_make_328 rfl k_) ?_
  refine Zm.l (fun _ _ k_ => z_iload_n dX8_make_331 rfl rfl k_) ?_
  refine Zm.l (fun _ _ k_ => z_iconst (v := 1) dX8_make_332 rfl k_) ?_
  refine Zm.l (fun _ _ k_ => z_iadd dX8_make_333 k_) ?_
  exact zm_callV (as := [vi (639 : Int32), vi (l1 + (1 : Int32))]) (st := [vi s0, vr (some (97, 1, 0))]) dX8_make_334 vsX8_1101_1 (Nat.le_refl _) (Nat.le_of_ble_eq_true rfl) (Nat.le_of_ble_eq_true rfl) rfl k
theorem sX8_make_337 {E : zE} {d : Nat} {Q : zO → zM → Prop} (M : zM) (l1 : Int32) (l2 : Int32) (s0 : Int32) (s1 : Int32) (k : Zm E YX8_joinLabel d M (zargs 0 [vr (some (97, 1, 0)), vi s1, vi s0]) 0 [] (zma E YX8_make (d + 1) [(0, vr (some (97, 1, 0))), (1, vi l1), (2, vi l2)] 337 3 [] Q)) : Zm E YX8_make (d + 1) M [(0, vr (some (97, 1, 0))), (1, vi l1), (2, vi l2)] 337 [vi s0, vi s1, vr (some (97, 1, 0))] Q := by
  exact zm_callV (as := [vi s1, vi s0]) (st := []) dX8_make_337 vsX8_1112_1 (Nat.le_refl _) (Nat.le_of_ble_eq_true rfl) (Nat.le_of_ble_eq_true rfl) rfl k
theorem sX8_make_340 {E : zE} {d : Nat} {Q : zO → zM → Prop} (M : zM) (l1 : Int32) (l2 : Int32) (s0 : Int32) (k : Zm E YX8_make (d + 1) M [(0, vr (some (97, 1, 0))), (1, vi l1), (2, vi l2), (5, vi (0 : Int32))] 345 [] Q) : Zm E YX8_make (d + 1) M [(0, vr (some (97, 1, 0))), (1, vi l1), (2, vi l2)] 340 [vi s0] Q := by
  refine Zm.l (fun _ _ k_ => z_ist dX8_make_340 (by decide) (lv' := [(0, vr (some (97, 1, 0))), (1, vi l1), (2, vi l2), (4, vi s0)]) rfl k_) ?_
  refine Zm.l (fun _ _ k_ => z_iconst (v := 0) dX8_make_342 rfl k_) ?_
  refine Zm.l (fun _ _ k_ => z_ist dX8_make_343 (by decide) (lv' := [(0, vr (some (97, 1, 0))), (1, vi l1), (2, vi l2), (4, vi s0), (5, vi (0 : Int32))]) rfl k_) ?_
  refine Zm.pick [0, 1, 2, 4] rfl ?_
  exact k
theorem sX8_make_345 {E : zE} {d : Nat} {Q : zO → zM → Prop} (M : zM) (l1 : Int32) (l2 : Int32) (l5 : Int32) (k : if (gi M 97 8) < l5 then (Zm E YX8_newLabel d M (zargs 0 [vr (some (97, 1, 0)), vi l1, vi l2]) 0 [] (zma E YX8_make (d + 1) [] 391 3 [] Q)) else (Zm E YX8_field d M (zargs 0 [vr (some (97, 1, 0)), vi (639 : Int32), vi l1, vi l5]) 0 [] (zma E YX8_make (d + 1) [(0, vr (some (97, 1, 0))), (1, vi l1), (2, vi l2), (5, vi l5)] 362 3 [vr (some (97, 1, 0))] Q))) : Zm E YX8_make (d + 1) M [(0, vr (some (97, 1, 0))), (1, vi l1), (2, vi l2), (5, vi l5)] 345 [] Q := by
  refine Zm.l (fun _ _ k_ => z_iload dX8_make_345 rfl k_) ?_
  refine Zm.l (fun _ _ k_ => z_aload_n dX8_make_347 rfl rfl k_) ?_
  refine zm_geti dX8_make_348 fsX8_762_1 (by decide) (by decide) ?_
  refine Zm.br (fun _ _ k1_ k2_ => z_icmp_gt (tgt := 388) dX8_make_351 rfl k1_ k2_) (fun h_ => ?_) (fun h_ => ?_)
  · have k := zit h_ k
    refine Zm.l (fun _ _ k_ => z_aload_n dX8_make_388 rfl rfl k_) ?_
    refine Zm.l (fun _ _ k_ => z_iload_n dX8_make_389 rfl rfl k_) ?_
    refine Zm.l (fun _ _ k_ => z_iload_n dX8_make_390 rfl rfl k_) ?_
    refine Zm.pick [] rfl ?_
    exact zm_callV (as := [vi l1, vi l2]) (st := []) dX8_make_391 vsX8_1182_1 (Nat.le_refl _) (Nat.le_of_ble_eq_true rfl) (Nat.le_of_ble_eq_true rfl) rfl k
  · have k := zif h_ k
    refine Zm.l (fun _ _ k_ => z_aload_n dX8_make_354 rfl rfl k_) ?_
    refine Zm.l (fun _ _ k_ => z_aload_n dX8_make_355 rfl rfl k_) ?_
    refine Zm.l (fun _ _ k_ => z_sipush (v := 639) dX8_make_356 rfl k_) ?_
    refine Zm.l (fun _ _ k_ => z_iload_n dX8_make_359 rfl rfl k_) ?_
    refine Zm.l (fun _ _ k_ => z_iload dX8_make_360 rfl k_) ?_
    exact zm_callV (as := [vi (639 : Int32), vi l1, vi l5]) (st := [vr (some (97, 1, 0))]) dX8_make_362 vsX8_1163_1 (Nat.le_refl _) (Nat.le_of_ble_eq_true rfl) (Nat.le_of_ble_eq_true rfl) rfl k
theorem sX8_make_365 {E : zE} {d : Nat} {Q : zO → zM → Prop} (M : zM) (l1 : Int32) (l2 : Int32) (l5 : Int32) (s0 : Int32) (k : Zm E YX8_field d M (zargs 0 [vr (some (97, 1, 0)), vi (639 : Int32), vi (l1 + (1 : Int32)), vi l5]) 0 [] (zma E YX8_make (d + 1) [(0, vr (some (97, 1, 0))), (1, vi l1), (2, vi l2), (5, vi l5)] 374 3 [vi s0, vr (some (97, 1, 0))] Q)) : Zm E YX8_make (d + 1) M [(0, vr (some (97, 1, 0))), (1, vi l1), (2, vi l2), (5, vi l5)] 365 [vi s0, vr (some (97, 1, 0))] Q := by
  refine Zm.l (fun _ _ k_ => z_aload_n dX8_make_365 rfl rfl k_) ?_
  refine Zm.l (fun _ _ k_ => z_sipush (v := 639) dX8_make_366 rfl k_) ?_
  refine Zm.l (fun _ _ k_ => z_iload_n dX8_make_369 rfl rfl k_) ?_
  refine Zm.l (fun _ _ k_ => z_iconst (v := 1) dX8_make_370 rfl k_) ?_
  refine Zm.l (fun _ _ k_ => z_iadd dX8_make_371 k_) ?_
  refine Zm.l (fun _ _ k_ => z_iload dX8_make_372 rfl k_) ?_
  exact zm_callV (as := [vi (639 : Int32), vi (l1 + (1 : Int32)), vi l5]) (st := [vi s0, vr (some (97, 1, 0))]) dX8_make_374 vsX8_1163_1 (Nat.le_refl _) (Nat.le_of_ble_eq_true rfl) (Nat.le_of_ble_eq_true rfl) rfl k
theorem sX8_make_377 {E : zE} {d : Nat} {Q : zO → zM → Prop} (M : zM) (l1 : Int32) (l2 : Int32) (l5 : Int32) (s0 : Int32) (s1 : Int32) (k : Zm E YX8_join d M (zargs 0 [vr (some (97, 1, 0)), vi s1, vi s0]) 0 [] (zma E YX8_make (d + 1) [(0, vr (some (97, 1, 0))), (1, vi l1), (2, vi l2), (5, vi l5)] 377 3 [] Q)) : Zm E YX8_make (d + 1) M [(0, vr (some (97, 1, 0))), (1, vi l1), (2, vi l2), (5, vi l5)] 377 [vi s0, vi s1, vr (some (97, 1, 0))] Q := by
  exact zm_callV (as := [vi s1, vi s0]) (st := []) dX8_make_377 vsX8_1069_1 (Nat.le_refl _) (Nat.le_of_ble_eq_true rfl) (Nat.le_of_ble_eq_true rfl) rfl k
theorem sX8_make_380 {E : zE} {d : Nat} {Q : zO → zM → Prop} (M : zM) (l1 : Int32) (l2 : Int32) (l5 : Int32) (s0 : Int32) (k : Zm E YX8_make (d + 1) M [(0, vr (some (97, 1, 0))), (1, vi l1), (2, vi l2), (5, vi (l5 + (1 : Int32)))] 345 [] Q) : Zm E YX8_make (d + 1) M [(0, vr (some (97, 1, 0))), (1, vi l1), (2, vi l2), (5, vi l5)] 380 [vi s0] Q := by
  refine Zm.l (fun _ _ k_ => z_ist dX8_make_380 (by decide) (lv' := [(0, vr (some (97, 1, 0))), (1, vi l1), (2, vi l2), (4, vi s0), (5, vi l5)]) rfl k_) ?_
  refine Zm.l (fun _ _ k_ => z_inc (v := (l5 + (1 : Int32))) dX8_make_382 rfl rfl (by decide) (lv' := [(0, vr (some (97, 1, 0))), (1, vi l1), (2, vi l2), (4, vi s0), (5, vi (l5 + (1 : Int32)))]) rfl k_) ?_
  refine Zm.l (fun _ _ k_ => z_goto (tgt := 345) dX8_make_385 rfl k_) ?_
  refine Zm.pick [0, 1, 2, 4] rfl ?_
  exact k
theorem sX8_make_394 {E : zE} {d : Nat} {Q : zO → zM → Prop} (M : zM)  (k : Q (.inl none) M) : Zm E YX8_make (d + 1) M [] 394 [] Q := by
  exact zm_vret dX8_make_394 rfl k
