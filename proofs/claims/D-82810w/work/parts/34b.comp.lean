/-! ScriptTypes$Parser.inside(LScriptTypes$Code;)V -/
theorem bX9_inside_0 : zdec cX9_inside 0 [(0, .aload_n 0, 1), (1, .getfield 102, 3), (4, .istore_n 2, 1), (5, .aload_n 0, 1), (6, .getfield 105, 3), (9, .istore_n 3, 1), (10, .aload_n 0, 1), (11, .iconst 0, 1), (12, .putfield 102, 3), (15, .aload_n 0, 1), (16, .iconst 0, 1), (17, .putfield 105, 3), (20, .aload_n 0, 1), (21, .aload_n 1, 1), (22, .putfield 44, 3), (25, .aload_n 0, 1)] = true := by decide +kernel
theorem dX9_inside_0 : decode cX9_inside 0 = .ok (.aload_n 0, 1) := zdec_at bX9_inside_0 0 rfl
theorem dX9_inside_1 : decode cX9_inside 1 = .ok (.getfield 102, 3) := zdec_at bX9_inside_0 1 rfl
theorem dX9_inside_4 : decode cX9_inside 4 = .ok (.istore_n 2, 1) := zdec_at bX9_inside_0 2 rfl
theorem dX9_inside_5 : decode cX9_inside 5 = .ok (.aload_n 0, 1) := zdec_at bX9_inside_0 3 rfl
theorem dX9_inside_6 : decode cX9_inside 6 = .ok (.getfield 105, 3) := zdec_at bX9_inside_0 4 rfl
theorem dX9_inside_9 : decode cX9_inside 9 = .ok (.istore_n 3, 1) := zdec_at bX9_inside_0 5 rfl
theorem dX9_inside_10 : decode cX9_inside 10 = .ok (.aload_n 0, 1) := zdec_at bX9_inside_0 6 rfl
theorem dX9_inside_11 : decode cX9_inside 11 = .ok (.iconst 0, 1) := zdec_at bX9_inside_0 7 rfl
theorem dX9_inside_12 : decode cX9_inside 12 = .ok (.putfield 102, 3) := zdec_at bX9_inside_0 8 rfl
theorem dX9_inside_15 : decode cX9_inside 15 = .ok (.aload_n 0, 1) := zdec_at bX9_inside_0 9 rfl
theorem dX9_inside_16 : decode cX9_inside 16 = .ok (.iconst 0, 1) := zdec_at bX9_inside_0 10 rfl
theorem dX9_inside_17 : decode cX9_inside 17 = .ok (.putfield 105, 3) := zdec_at bX9_inside_0 11 rfl
theorem dX9_inside_20 : decode cX9_inside 20 = .ok (.aload_n 0, 1) := zdec_at bX9_inside_0 12 rfl
theorem dX9_inside_21 : decode cX9_inside 21 = .ok (.aload_n 1, 1) := zdec_at bX9_inside_0 13 rfl
theorem dX9_inside_22 : decode cX9_inside 22 = .ok (.putfield 44, 3) := zdec_at bX9_inside_0 14 rfl
theorem dX9_inside_25 : decode cX9_inside 25 = .ok (.aload_n 0, 1) := zdec_at bX9_inside_0 15 rfl
theorem bX9_inside_26 : zdec cX9_inside 26 [(26, .getfield 27, 3), (29, .iconst 2, 1), (30, .invokevirtual 108, 3), (33, .aload_n 0, 1), (34, .getfield 27, 3), (37, .iconst 3, 1), (38, .invokevirtual 111, 3), (41, .ifCond .ne 125, 3), (44, .aload_n 0, 1), (45, .getfield 27, 3), (48, .getfield 55, 3), (51, .iconst 1, 1), (52, .if_icmp .eq 12, 3), (55, .aload_n 0, 1), (56, .getfield 27, 3), (59, .iconst 2, 1)] = true := by decide +kernel
theorem dX9_inside_26 : decode cX9_inside 26 = .ok (.getfield 27, 3) := zdec_at bX9_inside_26 0 rfl
theorem dX9_inside_29 : decode cX9_inside 29 = .ok (.iconst 2, 1) := zdec_at bX9_inside_26 1 rfl
theorem dX9_inside_30 : decode cX9_inside 30 = .ok (.invokevirtual 108, 3) := zdec_at bX9_inside_26 2 rfl
theorem dX9_inside_33 : decode cX9_inside 33 = .ok (.aload_n 0, 1) := zdec_at bX9_inside_26 3 rfl
theorem dX9_inside_34 : decode cX9_inside 34 = .ok (.getfield 27, 3) := zdec_at bX9_inside_26 4 rfl
theorem dX9_inside_37 : decode cX9_inside 37 = .ok (.iconst 3, 1) := zdec_at bX9_inside_26 5 rfl
theorem dX9_inside_38 : decode cX9_inside 38 = .ok (.invokevirtual 111, 3) := zdec_at bX9_inside_26 6 rfl
theorem dX9_inside_41 : decode cX9_inside 41 = .ok (.ifCond .ne 125, 3) := zdec_at bX9_inside_26 7 rfl
theorem dX9_inside_44 : decode cX9_inside 44 = .ok (.aload_n 0, 1) := zdec_at bX9_inside_26 8 rfl
theorem dX9_inside_45 : decode cX9_inside 45 = .ok (.getfield 27, 3) := zdec_at bX9_inside_26 9 rfl
theorem dX9_inside_48 : decode cX9_inside 48 = .ok (.getfield 55, 3) := zdec_at bX9_inside_26 10 rfl
theorem dX9_inside_51 : decode cX9_inside 51 = .ok (.iconst 1, 1) := zdec_at bX9_inside_26 11 rfl
theorem dX9_inside_52 : decode cX9_inside 52 = .ok (.if_icmp .eq 12, 3) := zdec_at bX9_inside_26 12 rfl
theorem dX9_inside_55 : decode cX9_inside 55 = .ok (.aload_n 0, 1) := zdec_at bX9_inside_26 13 rfl
theorem dX9_inside_56 : decode cX9_inside 56 = .ok (.getfield 27, 3) := zdec_at bX9_inside_26 14 rfl
theorem dX9_inside_59 : decode cX9_inside 59 = .ok (.iconst 2, 1) := zdec_at bX9_inside_26 15 rfl
theorem bX9_inside_60 : zdec cX9_inside 60 [(60, .invokevirtual 35, 3), (63, .athrow, 1), (64, .aload_n 1, 1), (65, .aload_n 0, 1), (66, .getfield 27, 3), (69, .getfield 114, 3), (72, .invokevirtual 117, 3), (75, .ifCond .eq 12, 3), (78, .aload_n 0, 1), (79, .getfield 27, 3), (82, .iconst 3, 1), (83, .invokevirtual 35, 3), (86, .athrow, 1), (87, .aload_n 1, 1), (88, .aload_n 0, 1), (89, .getfield 27, 3)] = true := by decide +kernel
theorem dX9_inside_60 : decode cX9_inside 60 = .ok (.invokevirtual 35, 3) := zdec_at bX9_inside_60 0 rfl
theorem dX9_inside_63 : decode cX9_inside 63 = .ok (.athrow, 1) := zdec_at bX9_inside_60 1 rfl
theorem dX9_inside_64 : decode cX9_inside 64 = .ok (.aload_n 1, 1) := zdec_at bX9_inside_60 2 rfl
theorem dX9_inside_65 : decode cX9_inside 65 = .ok (.aload_n 0, 1) := zdec_at bX9_inside_60 3 rfl
theorem dX9_inside_66 : decode cX9_inside 66 = .ok (.getfield 27, 3) := zdec_at bX9_inside_60 4 rfl
theorem dX9_inside_69 : decode cX9_inside 69 = .ok (.getfield 114, 3) := zdec_at bX9_inside_60 5 rfl
theorem dX9_inside_72 : decode cX9_inside 72 = .ok (.invokevirtual 117, 3) := zdec_at bX9_inside_60 6 rfl
theorem dX9_inside_75 : decode cX9_inside 75 = .ok (.ifCond .eq 12, 3) := zdec_at bX9_inside_60 7 rfl
theorem dX9_inside_78 : decode cX9_inside 78 = .ok (.aload_n 0, 1) := zdec_at bX9_inside_60 8 rfl
theorem dX9_inside_79 : decode cX9_inside 79 = .ok (.getfield 27, 3) := zdec_at bX9_inside_60 9 rfl
theorem dX9_inside_82 : decode cX9_inside 82 = .ok (.iconst 3, 1) := zdec_at bX9_inside_60 10 rfl
theorem dX9_inside_83 : decode cX9_inside 83 = .ok (.invokevirtual 35, 3) := zdec_at bX9_inside_60 11 rfl
theorem dX9_inside_86 : decode cX9_inside 86 = .ok (.athrow, 1) := zdec_at bX9_inside_60 12 rfl
theorem dX9_inside_87 : decode cX9_inside 87 = .ok (.aload_n 1, 1) := zdec_at bX9_inside_60 13 rfl
theorem dX9_inside_88 : decode cX9_inside 88 = .ok (.aload_n 0, 1) := zdec_at bX9_inside_60 14 rfl
theorem dX9_inside_89 : decode cX9_inside 89 = .ok (.getfield 27, 3) := zdec_at bX9_inside_60 15 rfl
theorem bX9_inside_92 : zdec cX9_inside 92 [(92, .invokevirtual 79, 3), (95, .invokevirtual 89, 3), (98, .aload_n 1, 1), (99, .dup, 1), (100, .getfield 120, 3), (103, .iconst 1, 1), (104, .iadd, 1), (105, .putfield 120, 3), (108, .aload_n 0, 1), (109, .getfield 27, 3), (112, .iconst 3, 1), (113, .invokevirtual 111, 3), (116, .ifCond .ne (-83), 3), (119, .aload_n 1, 1), (120, .getfield 120, 3), (123, .bipush 8, 2)] = true := by decide +kernel
theorem dX9_inside_92 : decode cX9_inside 92 = .ok (.invokevirtual 79, 3) := zdec_at bX9_inside_92 0 rfl
theorem dX9_inside_95 : decode cX9_inside 95 = .ok (.invokevirtual 89, 3) := zdec_at bX9_inside_92 1 rfl
theorem dX9_inside_98 : decode cX9_inside 98 = .ok (.aload_n 1, 1) := zdec_at bX9_inside_92 2 rfl
theorem dX9_inside_99 : decode cX9_inside 99 = .ok (.dup, 1) := zdec_at bX9_inside_92 3 rfl
theorem dX9_inside_100 : decode cX9_inside 100 = .ok (.getfield 120, 3) := zdec_at bX9_inside_92 4 rfl
theorem dX9_inside_103 : decode cX9_inside 103 = .ok (.iconst 1, 1) := zdec_at bX9_inside_92 5 rfl
theorem dX9_inside_104 : decode cX9_inside 104 = .ok (.iadd, 1) := zdec_at bX9_inside_92 6 rfl
theorem dX9_inside_105 : decode cX9_inside 105 = .ok (.putfield 120, 3) := zdec_at bX9_inside_92 7 rfl
theorem dX9_inside_108 : decode cX9_inside 108 = .ok (.aload_n 0, 1) := zdec_at bX9_inside_92 8 rfl
theorem dX9_inside_109 : decode cX9_inside 109 = .ok (.getfield 27, 3) := zdec_at bX9_inside_92 9 rfl
theorem dX9_inside_112 : decode cX9_inside 112 = .ok (.iconst 3, 1) := zdec_at bX9_inside_92 10 rfl
theorem dX9_inside_113 : decode cX9_inside 113 = .ok (.invokevirtual 111, 3) := zdec_at bX9_inside_92 11 rfl
theorem dX9_inside_116 : decode cX9_inside 116 = .ok (.ifCond .ne (-83), 3) := zdec_at bX9_inside_92 12 rfl
theorem dX9_inside_119 : decode cX9_inside 119 = .ok (.aload_n 1, 1) := zdec_at bX9_inside_92 13 rfl
theorem dX9_inside_120 : decode cX9_inside 120 = .ok (.getfield 120, 3) := zdec_at bX9_inside_92 14 rfl
theorem dX9_inside_123 : decode cX9_inside 123 = .ok (.bipush 8, 2) := zdec_at bX9_inside_92 15 rfl
theorem bX9_inside_125 : zdec cX9_inside 125 [(125, .if_icmp .ne 12, 3), (128, .aload_n 0, 1), (129, .getfield 27, 3), (132, .iconst 2, 1), (133, .invokevirtual 35, 3), (136, .athrow, 1), (137, .aload_n 0, 1), (138, .getfield 27, 3), (141, .bipush 8, 2), (143, .invokevirtual 108, 3), (146, .aload_n 0, 1), (147, .getfield 27, 3), (150, .getfield 55, 3), (153, .iconst 1, 1), (154, .if_icmp .eq (-121), 3), (157, .aload_n 0, 1)] = true := by decide +kernel
theorem dX9_inside_125 : decode cX9_inside 125 = .ok (.if_icmp .ne 12, 3) := zdec_at bX9_inside_125 0 rfl
theorem dX9_inside_128 : decode cX9_inside 128 = .ok (.aload_n 0, 1) := zdec_at bX9_inside_125 1 rfl
theorem dX9_inside_129 : decode cX9_inside 129 = .ok (.getfield 27, 3) := zdec_at bX9_inside_125 2 rfl
theorem dX9_inside_132 : decode cX9_inside 132 = .ok (.iconst 2, 1) := zdec_at bX9_inside_125 3 rfl
theorem dX9_inside_133 : decode cX9_inside 133 = .ok (.invokevirtual 35, 3) := zdec_at bX9_inside_125 4 rfl
theorem dX9_inside_136 : decode cX9_inside 136 = .ok (.athrow, 1) := zdec_at bX9_inside_125 5 rfl
theorem dX9_inside_137 : decode cX9_inside 137 = .ok (.aload_n 0, 1) := zdec_at bX9_inside_125 6 rfl
theorem dX9_inside_138 : decode cX9_inside 138 = .ok (.getfield 27, 3) := zdec_at bX9_inside_125 7 rfl
theorem dX9_inside_141 : decode cX9_inside 141 = .ok (.bipush 8, 2) := zdec_at bX9_inside_125 8 rfl
theorem dX9_inside_143 : decode cX9_inside 143 = .ok (.invokevirtual 108, 3) := zdec_at bX9_inside_125 9 rfl
theorem dX9_inside_146 : decode cX9_inside 146 = .ok (.aload_n 0, 1) := zdec_at bX9_inside_125 10 rfl
theorem dX9_inside_147 : decode cX9_inside 147 = .ok (.getfield 27, 3) := zdec_at bX9_inside_125 11 rfl
theorem dX9_inside_150 : decode cX9_inside 150 = .ok (.getfield 55, 3) := zdec_at bX9_inside_125 12 rfl
theorem dX9_inside_153 : decode cX9_inside 153 = .ok (.iconst 1, 1) := zdec_at bX9_inside_125 13 rfl
theorem dX9_inside_154 : decode cX9_inside 154 = .ok (.if_icmp .eq (-121), 3) := zdec_at bX9_inside_125 14 rfl
theorem dX9_inside_157 : decode cX9_inside 157 = .ok (.aload_n 0, 1) := zdec_at bX9_inside_125 15 rfl
theorem bX9_inside_158 : zdec cX9_inside 158 [(158, .getfield 27, 3), (161, .iconst 2, 1), (162, .invokevirtual 35, 3), (165, .athrow, 1), (166, .aload_n 0, 1), (167, .getfield 27, 3), (170, .invokevirtual 52, 3), (173, .aload_n 1, 1), (174, .getfield 123, 3), (177, .iconst (-1), 1), (178, .if_icmp .eq 11, 3), (181, .aload_n 1, 1), (182, .aload_n 1, 1), (183, .getfield 123, 3), (186, .invokevirtual 89, 3), (189, .aload_n 0, 1)] = true := by decide +kernel
theorem dX9_inside_158 : decode cX9_inside 158 = .ok (.getfield 27, 3) := zdec_at bX9_inside_158 0 rfl
theorem dX9_inside_161 : decode cX9_inside 161 = .ok (.iconst 2, 1) := zdec_at bX9_inside_158 1 rfl
theorem dX9_inside_162 : decode cX9_inside 162 = .ok (.invokevirtual 35, 3) := zdec_at bX9_inside_158 2 rfl
theorem dX9_inside_165 : decode cX9_inside 165 = .ok (.athrow, 1) := zdec_at bX9_inside_158 3 rfl
theorem dX9_inside_166 : decode cX9_inside 166 = .ok (.aload_n 0, 1) := zdec_at bX9_inside_158 4 rfl
theorem dX9_inside_167 : decode cX9_inside 167 = .ok (.getfield 27, 3) := zdec_at bX9_inside_158 5 rfl
theorem dX9_inside_170 : decode cX9_inside 170 = .ok (.invokevirtual 52, 3) := zdec_at bX9_inside_158 6 rfl
theorem dX9_inside_173 : decode cX9_inside 173 = .ok (.aload_n 1, 1) := zdec_at bX9_inside_158 7 rfl
theorem dX9_inside_174 : decode cX9_inside 174 = .ok (.getfield 123, 3) := zdec_at bX9_inside_158 8 rfl
theorem dX9_inside_177 : decode cX9_inside 177 = .ok (.iconst (-1), 1) := zdec_at bX9_inside_158 9 rfl
theorem dX9_inside_178 : decode cX9_inside 178 = .ok (.if_icmp .eq 11, 3) := zdec_at bX9_inside_158 10 rfl
theorem dX9_inside_181 : decode cX9_inside 181 = .ok (.aload_n 1, 1) := zdec_at bX9_inside_158 11 rfl
theorem dX9_inside_182 : decode cX9_inside 182 = .ok (.aload_n 1, 1) := zdec_at bX9_inside_158 12 rfl
theorem dX9_inside_183 : decode cX9_inside 183 = .ok (.getfield 123, 3) := zdec_at bX9_inside_158 13 rfl
theorem dX9_inside_186 : decode cX9_inside 186 = .ok (.invokevirtual 89, 3) := zdec_at bX9_inside_158 14 rfl
theorem dX9_inside_189 : decode cX9_inside 189 = .ok (.aload_n 0, 1) := zdec_at bX9_inside_158 15 rfl
theorem bX9_inside_190 : zdec cX9_inside 190 [(190, .getfield 27, 3), (193, .iconst 0, 1), (194, .invokevirtual 108, 3), (197, .aload_n 0, 1), (198, .getfield 27, 3), (201, .iconst 1, 1), (202, .invokevirtual 111, 3), (205, .ifCond .ne 29, 3), (208, .aload_n 0, 1), (209, .getfield 27, 3), (212, .getfield 55, 3), (215, .ifCond .ne 12, 3), (218, .aload_n 0, 1), (219, .getfield 27, 3), (222, .iconst 2, 1), (223, .invokevirtual 35, 3)] = true := by decide +kernel
theorem dX9_inside_190 : decode cX9_inside 190 = .ok (.getfield 27, 3) := zdec_at bX9_inside_190 0 rfl
theorem dX9_inside_193 : decode cX9_inside 193 = .ok (.iconst 0, 1) := zdec_at bX9_inside_190 1 rfl
theorem dX9_inside_194 : decode cX9_inside 194 = .ok (.invokevirtual 108, 3) := zdec_at bX9_inside_190 2 rfl
theorem dX9_inside_197 : decode cX9_inside 197 = .ok (.aload_n 0, 1) := zdec_at bX9_inside_190 3 rfl
theorem dX9_inside_198 : decode cX9_inside 198 = .ok (.getfield 27, 3) := zdec_at bX9_inside_190 4 rfl
theorem dX9_inside_201 : decode cX9_inside 201 = .ok (.iconst 1, 1) := zdec_at bX9_inside_190 5 rfl
theorem dX9_inside_202 : decode cX9_inside 202 = .ok (.invokevirtual 111, 3) := zdec_at bX9_inside_190 6 rfl
theorem dX9_inside_205 : decode cX9_inside 205 = .ok (.ifCond .ne 29, 3) := zdec_at bX9_inside_190 7 rfl
theorem dX9_inside_208 : decode cX9_inside 208 = .ok (.aload_n 0, 1) := zdec_at bX9_inside_190 8 rfl
theorem dX9_inside_209 : decode cX9_inside 209 = .ok (.getfield 27, 3) := zdec_at bX9_inside_190 9 rfl
theorem dX9_inside_212 : decode cX9_inside 212 = .ok (.getfield 55, 3) := zdec_at bX9_inside_190 10 rfl
theorem dX9_inside_215 : decode cX9_inside 215 = .ok (.ifCond .ne 12, 3) := zdec_at bX9_inside_190 11 rfl
theorem dX9_inside_218 : decode cX9_inside 218 = .ok (.aload_n 0, 1) := zdec_at bX9_inside_190 12 rfl
theorem dX9_inside_219 : decode cX9_inside 219 = .ok (.getfield 27, 3) := zdec_at bX9_inside_190 13 rfl
theorem dX9_inside_222 : decode cX9_inside 222 = .ok (.iconst 2, 1) := zdec_at bX9_inside_190 14 rfl
theorem dX9_inside_223 : decode cX9_inside 223 = .ok (.invokevirtual 35, 3) := zdec_at bX9_inside_190 15 rfl
theorem bX9_inside_226 : zdec cX9_inside 226 [(226, .athrow, 1), (227, .aload_n 0, 1), (228, .invokevirtual 58, 3), (231, .goto (-34), 3), (234, .aload_n 0, 1), (235, .aload_n 1, 1), (236, .getfield 86, 3), (239, .putfield 44, 3), (242, .aload_n 0, 1), (243, .iload_n 2, 1), (244, .putfield 102, 3), (247, .aload_n 0, 1), (248, .iload_n 3, 1), (249, .putfield 105, 3), (252, .aload_n 0, 1), (253, .getfield 27, 3)] = true := by decide +kernel
theorem dX9_inside_226 : decode cX9_inside 226 = .ok (.athrow, 1) := zdec_at bX9_inside_226 0 rfl
theorem dX9_inside_227 : decode cX9_inside 227 = .ok (.aload_n 0, 1) := zdec_at bX9_inside_226 1 rfl
theorem dX9_inside_228 : decode cX9_inside 228 = .ok (.invokevirtual 58, 3) := zdec_at bX9_inside_226 2 rfl
theorem dX9_inside_231 : decode cX9_inside 231 = .ok (.goto (-34), 3) := zdec_at bX9_inside_226 3 rfl
theorem dX9_inside_234 : decode cX9_inside 234 = .ok (.aload_n 0, 1) := zdec_at bX9_inside_226 4 rfl
theorem dX9_inside_235 : decode cX9_inside 235 = .ok (.aload_n 1, 1) := zdec_at bX9_inside_226 5 rfl
theorem dX9_inside_236 : decode cX9_inside 236 = .ok (.getfield 86, 3) := zdec_at bX9_inside_226 6 rfl
theorem dX9_inside_239 : decode cX9_inside 239 = .ok (.putfield 44, 3) := zdec_at bX9_inside_226 7 rfl
theorem dX9_inside_242 : decode cX9_inside 242 = .ok (.aload_n 0, 1) := zdec_at bX9_inside_226 8 rfl
theorem dX9_inside_243 : decode cX9_inside 243 = .ok (.iload_n 2, 1) := zdec_at bX9_inside_226 9 rfl
theorem dX9_inside_244 : decode cX9_inside 244 = .ok (.putfield 102, 3) := zdec_at bX9_inside_226 10 rfl
theorem dX9_inside_247 : decode cX9_inside 247 = .ok (.aload_n 0, 1) := zdec_at bX9_inside_226 11 rfl
theorem dX9_inside_248 : decode cX9_inside 248 = .ok (.iload_n 3, 1) := zdec_at bX9_inside_226 12 rfl
theorem dX9_inside_249 : decode cX9_inside 249 = .ok (.putfield 105, 3) := zdec_at bX9_inside_226 13 rfl
theorem dX9_inside_252 : decode cX9_inside 252 = .ok (.aload_n 0, 1) := zdec_at bX9_inside_226 14 rfl
theorem dX9_inside_253 : decode cX9_inside 253 = .ok (.getfield 27, 3) := zdec_at bX9_inside_226 15 rfl
theorem bX9_inside_256 : zdec cX9_inside 256 [(256, .invokevirtual 52, 3), (259, .return_, 1)] = true := by decide +kernel
theorem dX9_inside_256 : decode cX9_inside 256 = .ok (.invokevirtual 52, 3) := zdec_at bX9_inside_256 0 rfl
theorem dX9_inside_259 : decode cX9_inside 259 = .ok (.return_, 1) := zdec_at bX9_inside_256 1 rfl
theorem sX9_inside_0 {E : zE} {d : Nat} {Q : zO → zM → Prop} (M : zM) (a0 : Nat) (r1 : Option zP) (k : 16 ≤ a0 ∧ (16 ≤ a0 ∧ (16 ≤ a0 ∧ (∃ b1 : Nat, (gr (sr (si (si M a0 5 (0 : Int32)) a0 6 (0 : Int32)) a0 3 r1) a0 1) = some (b1, 9, 0) ∧ (Z E YX10_need d (sr (si (si M a0 5 (0 : Int32)) a0 6 (0 : Int32)) a0 3 r1) (zargs 0 [vr (some (b1, 9, 0)), vi (2 : Int32)]) 0 [] (zafter E YX9_inside (d + 1) [(0, vr (some (a0, 8, 0))), (1, vr r1), (2, vi (gi M a0 5)), (3, vi (gi M a0 6))] 30 3 [] Q)))))) : Z E YX9_inside (d + 1) M [(0, vr (some (a0, 8, 0))), (1, vr r1)] 0 [] Q := by
  refine z_aload_n dX9_inside_0 rfl rfl ?_
  refine z_geti dX9_inside_1 fsX9_102_8 ?_
  refine z_ist_n dX9_inside_4 rfl (by decide) (lv' := [(0, vr (some (a0, 8, 0))), (1, vr r1), (2, vi (gi M a0 5))]) rfl ?_
  refine z_aload_n dX9_inside_5 rfl rfl ?_
  refine z_geti dX9_inside_6 fsX9_105_8 ?_
  refine z_ist_n dX9_inside_9 rfl (by decide) (lv' := [(0, vr (some (a0, 8, 0))), (1, vr r1), (2, vi (gi M a0 5)), (3, vi (gi M a0 6))]) rfl ?_
  refine z_aload_n dX9_inside_10 rfl rfl ?_
  refine z_iconst (v := 0) dX9_inside_11 rfl ?_
  obtain ⟨g_, k⟩ := k
  refine z_puti g_ dX9_inside_12 (zfwN.w fwX9_102_8) rfl ⟨rfl, rfl⟩ ?_
  refine z_aload_n dX9_inside_15 rfl rfl ?_
  refine z_iconst (v := 0) dX9_inside_16 rfl ?_
  obtain ⟨g_, k⟩ := k
  refine z_puti g_ dX9_inside_17 (zfwN.w fwX9_105_8) rfl ⟨rfl, rfl⟩ ?_
  refine z_aload_n dX9_inside_20 rfl rfl ?_
  refine z_aload_n dX9_inside_21 rfl rfl ?_
  obtain ⟨g_, k⟩ := k
  refine z_putr g_ dX9_inside_22 (zfwN.w fwX9_44_8) rfl ?_
  refine z_aload_n dX9_inside_25 rfl rfl ?_
  refine z_getr (r := (gr (sr (si (si M a0 5 (0 : Int32)) a0 6 (0 : Int32)) a0 3 r1) a0 1)) dX9_inside_26 fsX9_27_8 rfl ?_
  refine z_iconst (v := 2) dX9_inside_29 rfl ?_
  obtain ⟨b1, e1_, k⟩ := k
  refine Z.eqs (lv' := [(0, vr (some (a0, 8, 0))), (1, vr r1), (2, vi (gi M a0 5)), (3, vi (gi M a0 6))]) (st' := [vi (2 : Int32), vr (some (b1, 9, 0))]) rfl (by rw [e1_] <;> rfl) ?_
  exact z_callV (as := [vi (2 : Int32)]) (st := []) dX9_inside_30 vsX9_108_9 (Nat.le_refl _) (Nat.le_of_ble_eq_true rfl) (Nat.le_of_ble_eq_true rfl) rfl k
theorem sX9_inside_33 {E : zE} {d : Nat} {Q : zO → zM → Prop} (M : zM) (a0 : Nat) (r1 : Option zP) (l2 : Int32) (l3 : Int32) (k : ∃ b1 : Nat, (gr M a0 1) = some (b1, 9, 0) ∧ (Z E YX10_is d M (zargs 0 [vr (some (b1, 9, 0)), vi (3 : Int32)]) 0 [] (zafter E YX9_inside (d + 1) [(0, vr (some (a0, 8, 0))), (1, vr r1), (2, vi l2), (3, vi l3)] 38 3 [] Q))) : Z E YX9_inside (d + 1) M [(0, vr (some (a0, 8, 0))), (1, vr r1), (2, vi l2), (3, vi l3)] 33 [] Q := by
  refine z_aload_n dX9_inside_33 rfl rfl ?_
  refine z_getr (r := (gr M a0 1)) dX9_inside_34 fsX9_27_8 rfl ?_
  refine z_iconst (v := 3) dX9_inside_37 rfl ?_
  obtain ⟨b1, e1_, k⟩ := k
  refine Z.eqs (lv' := [(0, vr (some (a0, 8, 0))), (1, vr r1), (2, vi l2), (3, vi l3)]) (st' := [vi (3 : Int32), vr (some (b1, 9, 0))]) rfl (by rw [e1_] <;> rfl) ?_
  exact z_callV (as := [vi (3 : Int32)]) (st := []) dX9_inside_38 vsX9_111_9 (Nat.le_refl _) (Nat.le_of_ble_eq_true rfl) (Nat.le_of_ble_eq_true rfl) rfl k
theorem sX9_inside_41 {E : zE} {d : Nat} {Q : zO → zM → Prop} (M : zM) (a0 : Nat) (r1 : Option zP) (l2 : Int32) (l3 : Int32) (s0 : Int32) (k : if s0 = 0 then (∃ b1 : Nat, (gr M a0 1) = some (b1, 9, 0) ∧ (if (gi M b1 3) = (1 : Int32) then (∃ b2 : Nat, (gr M a0 1) = some (b2, 9, 0) ∧ (∃ b3 : Nat, r1 = some (b3, 10, 0) ∧ (Z E YX11_has d M (zargs 0 [vr (some (b3, 10, 0)), vi (gi M b2 6)]) 0 [] (zafter E YX9_inside (d + 1) [(0, vr (some (a0, 8, 0))), (1, vr (some (b3, 10, 0))), (2, vi l2), (3, vi l3)] 72 3 [] Q)))) else (∃ b2 : Nat, (gr M a0 1) = some (b2, 9, 0) ∧ (Z E YX10_fault d M (zargs 0 [vr (some (b2, 9, 0)), vi (2 : Int32)]) 0 [] (zafter E YX9_inside (d + 1) [] 60 3 [] Q))))) else (∃ b1 : Nat, (gr M a0 1) = some (b1, 9, 0) ∧ (Z E YX10_next d M (zargs 0 [vr (some (b1, 9, 0))]) 0 [] (zafter E YX9_inside (d + 1) [(0, vr (some (a0, 8, 0))), (1, vr r1), (2, vi l2), (3, vi l3)] 170 3 [] Q)))) : Z E YX9_inside (d + 1) M [(0, vr (some (a0, 8, 0))), (1, vr r1), (2, vi l2), (3, vi l3)] 41 [vi s0] Q := by
  refine z_if_ne (tgt := 166) dX9_inside_41 rfl (fun h_ => ?_) (fun h_ => ?_)
  · have k := zif h_ k
    refine z_aload_n dX9_inside_166 rfl rfl ?_
    refine z_getr (r := (gr M a0 1)) dX9_inside_167 fsX9_27_8 rfl ?_
    obtain ⟨b1, e1_, k⟩ := k
    refine Z.eqs (lv' := [(0, vr (some (a0, 8, 0))), (1, vr r1), (2, vi l2), (3, vi l3)]) (st' := [vr (some (b1, 9, 0))]) rfl (by rw [e1_] <;> rfl) ?_
    exact z_callV (as := []) (st := []) dX9_inside_170 vsX9_52_9 (Nat.le_refl _) (Nat.le_of_ble_eq_true rfl) (Nat.le_of_ble_eq_true rfl) rfl k
  · have k := zit h_ k
    refine z_aload_n dX9_inside_44 rfl rfl ?_
    refine z_getr (r := (gr M a0 1)) dX9_inside_45 fsX9_27_8 rfl ?_
    obtain ⟨b1, e1_, k⟩ := k
    refine Z.eqs (lv' := [(0, vr (some (a0, 8, 0))), (1, vr r1), (2, vi l2), (3, vi l3)]) (st' := [vr (some (b1, 9, 0))]) rfl (by rw [e1_] <;> rfl) ?_
    refine z_geti dX9_inside_48 fsX9_55_9 ?_
    refine z_iconst (v := 1) dX9_inside_51 rfl ?_
    refine z_icmp_eq (tgt := 64) dX9_inside_52 rfl (fun h_ => ?_) (fun h_ => ?_)
    · have k := zit h_ k
      refine z_aload_n dX9_inside_64 rfl rfl ?_
      refine z_aload_n dX9_inside_65 rfl rfl ?_
      refine z_getr (r := (gr M a0 1)) dX9_inside_66 fsX9_27_8 rfl ?_
      obtain ⟨b2, e2_, k⟩ := k
      refine Z.eqs (lv' := [(0, vr (some (a0, 8, 0))), (1, vr r1), (2, vi l2), (3, vi l3)]) (st' := [vr (some (b2, 9, 0)), vr r1]) rfl (by rw [e2_] <;> rfl) ?_
      refine z_geti dX9_inside_69 fsX9_114_9 ?_
      obtain ⟨b3, e3_, k⟩ := k
      refine Z.eqs (lv' := [(0, vr (some (a0, 8, 0))), (1, vr (some (b3, 10, 0))), (2, vi l2), (3, vi l3)]) (st' := [vi (gi M b2 6), vr (some (b3, 10, 0))]) (by rw [e3_] <;> rfl) (by rw [e3_] <;> rfl) ?_
      exact z_callV (as := [vi (gi M b2 6)]) (st := []) dX9_inside_72 vsX9_117_10 (Nat.le_refl _) (Nat.le_of_ble_eq_true rfl) (Nat.le_of_ble_eq_true rfl) rfl k
    · have k := zif h_ k
      refine z_aload_n dX9_inside_55 rfl rfl ?_
      refine z_getr (r := (gr M a0 1)) dX9_inside_56 fsX9_27_8 rfl ?_
      refine z_iconst (v := 2) dX9_inside_59 rfl ?_
      obtain ⟨b2, e2_, k⟩ := k
      refine Z.eqs (lv' := [(0, vr (some (a0, 8, 0))), (1, vr r1), (2, vi l2), (3, vi l3)]) (st' := [vi (2 : Int32), vr (some (b2, 9, 0))]) rfl (by rw [e2_] <;> rfl) ?_
      refine Z.pick [] rfl ?_
      exact z_callV (as := [vi (2 : Int32)]) (st := []) dX9_inside_60 vsX9_35_9 (Nat.le_refl _) (Nat.le_of_ble_eq_true rfl) (Nat.le_of_ble_eq_true rfl) rfl k
theorem sX9_inside_63 {E : zE} {d : Nat} {Q : zO → zM → Prop} (M : zM) (u0 : Option zP) (k : ∃ b1 : Nat, u0 = some (b1, 12, 0) ∧ (Q (.inr (b1, 12, 0)) M)) : Z E YX9_inside (d + 1) M [] 63 [vr u0] Q := by
  obtain ⟨b1, e1_, k⟩ := k
  refine Z.eqs (lv' := []) (st' := [vr (some (b1, 12, 0))]) rfl (by rw [e1_] <;> rfl) ?_
  exact z_athrow dX9_inside_63 (ZT.out (by decide) k)
theorem sX9_inside_75 {E : zE} {d : Nat} {Q : zO → zM → Prop} (M : zM) (a0 : Nat) (a1 : Nat) (l2 : Int32) (l3 : Int32) (s0 : Int32) (k : if s0 = 0 then (∃ b1 : Nat, (gr M a0 1) = some (b1, 9, 0) ∧ (Z E YX10_needName d M (zargs 0 [vr (some (b1, 9, 0))]) 0 [] (zafter E YX9_inside (d + 1) [(0, vr (some (a0, 8, 0))), (1, vr (some (a1, 10, 0))), (2, vi l2), (3, vi l3)] 92 3 [vr (some (a1, 10, 0))] Q))) else (∃ b1 : Nat, (gr M a0 1) = some (b1, 9, 0) ∧ (Z E YX10_fault d M (zargs 0 [vr (some (b1, 9, 0)), vi (3 : Int32)]) 0 [] (zafter E YX9_inside (d + 1) [] 83 3 [] Q)))) : Z E YX9_inside (d + 1) M [(0, vr (some (a0, 8, 0))), (1, vr (some (a1, 10, 0))), (2, vi l2), (3, vi l3)] 75 [vi s0] Q := by
  refine z_if_eq (tgt := 87) dX9_inside_75 rfl (fun h_ => ?_) (fun h_ => ?_)
  · have k := zit h_ k
    refine z_aload_n dX9_inside_87 rfl rfl ?_
    refine z_aload_n dX9_inside_88 rfl rfl ?_
    refine z_getr (r := (gr M a0 1)) dX9_inside_89 fsX9_27_8 rfl ?_
    obtain ⟨b1, e1_, k⟩ := k
    refine Z.eqs (lv' := [(0, vr (some (a0, 8, 0))), (1, vr (some (a1, 10, 0))), (2, vi l2), (3, vi l3)]) (st' := [vr (some (b1, 9, 0)), vr (some (a1, 10, 0))]) rfl (by rw [e1_] <;> rfl) ?_
    exact z_callV (as := []) (st := [vr (some (a1, 10, 0))]) dX9_inside_92 vsX9_79_9 (Nat.le_refl _) (Nat.le_of_ble_eq_true rfl) (Nat.le_of_ble_eq_true rfl) rfl k
  · have k := zif h_ k
    refine z_aload_n dX9_inside_78 rfl rfl ?_
    refine z_getr (r := (gr M a0 1)) dX9_inside_79 fsX9_27_8 rfl ?_
    refine z_iconst (v := 3) dX9_inside_82 rfl ?_
    obtain ⟨b1, e1_, k⟩ := k
    refine Z.eqs (lv' := [(0, vr (some (a0, 8, 0))), (1, vr (some (a1, 10, 0))), (2, vi l2), (3, vi l3)]) (st' := [vi (3 : Int32), vr (some (b1, 9, 0))]) rfl (by rw [e1_] <;> rfl) ?_
    refine Z.pick [] rfl ?_
    exact z_callV (as := [vi (3 : Int32)]) (st := []) dX9_inside_83 vsX9_35_9 (Nat.le_refl _) (Nat.le_of_ble_eq_true rfl) (Nat.le_of_ble_eq_true rfl) rfl k
theorem sX9_inside_86 {E : zE} {d : Nat} {Q : zO → zM → Prop} (M : zM) (u0 : Option zP) (k : ∃ b1 : Nat, u0 = some (b1, 12, 0) ∧ (Q (.inr (b1, 12, 0)) M)) : Z E YX9_inside (d + 1) M [] 86 [vr u0] Q := by
  obtain ⟨b1, e1_, k⟩ := k
  refine Z.eqs (lv' := []) (st' := [vr (some (b1, 12, 0))]) rfl (by rw [e1_] <;> rfl) ?_
  exact z_athrow dX9_inside_86 (ZT.out (by decide) k)
theorem sX9_inside_95 {E : zE} {d : Nat} {Q : zO → zM → Prop} (M : zM) (a0 : Nat) (a1 : Nat) (l2 : Int32) (l3 : Int32) (s0 : Int32) (p1 : Nat) (k : Z E YX11_add d M (zargs 0 [vr (some (p1, 10, 0)), vi s0]) 0 [] (zafter E YX9_inside (d + 1) [(0, vr (some (a0, 8, 0))), (1, vr (some (a1, 10, 0))), (2, vi l2), (3, vi l3)] 95 3 [] Q)) : Z E YX9_inside (d + 1) M [(0, vr (some (a0, 8, 0))), (1, vr (some (a1, 10, 0))), (2, vi l2), (3, vi l3)] 95 [vi s0, vr (some (p1, 10, 0))] Q := by
  exact z_callV (as := [vi s0]) (st := []) dX9_inside_95 vsX9_89_10 (Nat.le_refl _) (Nat.le_of_ble_eq_true rfl) (Nat.le_of_ble_eq_true rfl) rfl k
theorem sX9_inside_98 {E : zE} {d : Nat} {Q : zO → zM → Prop} (M : zM) (a0 : Nat) (a1 : Nat) (l2 : Int32) (l3 : Int32) (k : 16 ≤ a1 ∧ (∃ b1 : Nat, (gr M a0 1) = some (b1, 9, 0) ∧ (Z E YX10_is d (si M a1 6 ((gi M a1 6) + (1 : Int32))) (zargs 0 [vr (some (b1, 9, 0)), vi (3 : Int32)]) 0 [] (zafter E YX9_inside (d + 1) [(0, vr (some (a0, 8, 0))), (1, vr (some (a1, 10, 0))), (2, vi l2), (3, vi l3)] 113 3 [] Q)))) : Z E YX9_inside (d + 1) M [(0, vr (some (a0, 8, 0))), (1, vr (some (a1, 10, 0))), (2, vi l2), (3, vi l3)] 98 [] Q := by
  refine z_aload_n dX9_inside_98 rfl rfl ?_
  refine z_dup dX9_inside_99 rfl ?_
  refine z_geti dX9_inside_100 fsX9_120_10 ?_
  refine z_iconst (v := 1) dX9_inside_103 rfl ?_
  refine z_iadd dX9_inside_104 ?_
  obtain ⟨g_, k⟩ := k
  refine z_puti g_ dX9_inside_105 (zfwN.w fwX9_120_10) rfl ⟨rfl, rfl⟩ ?_
  refine z_aload_n dX9_inside_108 rfl rfl ?_
  refine z_getr (r := (gr M a0 1)) dX9_inside_109 fsX9_27_8 rfl ?_
  refine z_iconst (v := 3) dX9_inside_112 rfl ?_
  obtain ⟨b1, e1_, k⟩ := k
  refine Z.eqs (lv' := [(0, vr (some (a0, 8, 0))), (1, vr (some (a1, 10, 0))), (2, vi l2), (3, vi l3)]) (st' := [vi (3 : Int32), vr (some (b1, 9, 0))]) rfl (by rw [e1_] <;> rfl) ?_
  exact z_callV (as := [vi (3 : Int32)]) (st := []) dX9_inside_113 vsX9_111_9 (Nat.le_refl _) (Nat.le_of_ble_eq_true rfl) (Nat.le_of_ble_eq_true rfl) rfl k
theorem sX9_inside_116 {E : zE} {d : Nat} {Q : zO → zM → Prop} (M : zM) (a0 : Nat) (a1 : Nat) (l2 : Int32) (l3 : Int32) (s0 : Int32) (k : if s0 = 0 then (if (gi M a1 6) = (8 : Int32) then (∃ b1 : Nat, (gr M a0 1) = some (b1, 9, 0) ∧ (Z E YX10_fault d M (zargs 0 [vr (some (b1, 9, 0)), vi (2 : Int32)]) 0 [] (zafter E YX9_inside (d + 1) [] 133 3 [] Q))) else (∃ b1 : Nat, (gr M a0 1) = some (b1, 9, 0) ∧ (Z E YX10_need d M (zargs 0 [vr (some (b1, 9, 0)), vi (8 : Int32)]) 0 [] (zafter E YX9_inside (d + 1) [(0, vr (some (a0, 8, 0))), (1, vr (some (a1, 10, 0))), (2, vi l2), (3, vi l3)] 143 3 [] Q)))) else (Z E YX9_inside (d + 1) M [(0, vr (some (a0, 8, 0))), (1, vr (some (a1, 10, 0))), (2, vi l2), (3, vi l3)] 33 [] Q)) : Z E YX9_inside (d + 1) M [(0, vr (some (a0, 8, 0))), (1, vr (some (a1, 10, 0))), (2, vi l2), (3, vi l3)] 116 [vi s0] Q := by
  refine z_if_ne (tgt := 33) dX9_inside_116 rfl (fun h_ => ?_) (fun h_ => ?_)
  · have k := zif h_ k
    exact k
  · have k := zit h_ k
    refine z_aload_n dX9_inside_119 rfl rfl ?_
    refine z_geti dX9_inside_120 fsX9_120_10 ?_
    refine z_bipush (v := 8) dX9_inside_123 rfl ?_
    refine z_icmp_ne (tgt := 137) dX9_inside_125 rfl (fun h_ => ?_) (fun h_ => ?_)
    · have k := zif h_ k
      refine z_aload_n dX9_inside_137 rfl rfl ?_
      refine z_getr (r := (gr M a0 1)) dX9_inside_138 fsX9_27_8 rfl ?_
      refine z_bipush (v := 8) dX9_inside_141 rfl ?_
      obtain ⟨b1, e1_, k⟩ := k
      refine Z.eqs (lv' := [(0, vr (some (a0, 8, 0))), (1, vr (some (a1, 10, 0))), (2, vi l2), (3, vi l3)]) (st' := [vi (8 : Int32), vr (some (b1, 9, 0))]) rfl (by rw [e1_] <;> rfl) ?_
      exact z_callV (as := [vi (8 : Int32)]) (st := []) dX9_inside_143 vsX9_108_9 (Nat.le_refl _) (Nat.le_of_ble_eq_true rfl) (Nat.le_of_ble_eq_true rfl) rfl k
    · have k := zit h_ k
      refine z_aload_n dX9_inside_128 rfl rfl ?_
      refine z_getr (r := (gr M a0 1)) dX9_inside_129 fsX9_27_8 rfl ?_
      refine z_iconst (v := 2) dX9_inside_132 rfl ?_
      obtain ⟨b1, e1_, k⟩ := k
      refine Z.eqs (lv' := [(0, vr (some (a0, 8, 0))), (1, vr (some (a1, 10, 0))), (2, vi l2), (3, vi l3)]) (st' := [vi (2 : Int32), vr (some (b1, 9, 0))]) rfl (by rw [e1_] <;> rfl) ?_
      refine Z.pick [] rfl ?_
      exact z_callV (as := [vi (2 : Int32)]) (st := []) dX9_inside_133 vsX9_35_9 (Nat.le_refl _) (Nat.le_of_ble_eq_true rfl) (Nat.le_of_ble_eq_true rfl) rfl k
theorem sX9_inside_136 {E : zE} {d : Nat} {Q : zO → zM → Prop} (M : zM) (u0 : Option zP) (k : ∃ b1 : Nat, u0 = some (b1, 12, 0) ∧ (Q (.inr (b1, 12, 0)) M)) : Z E YX9_inside (d + 1) M [] 136 [vr u0] Q := by
  obtain ⟨b1, e1_, k⟩ := k
  refine Z.eqs (lv' := []) (st' := [vr (some (b1, 12, 0))]) rfl (by rw [e1_] <;> rfl) ?_
  exact z_athrow dX9_inside_136 (ZT.out (by decide) k)
theorem sX9_inside_146 {E : zE} {d : Nat} {Q : zO → zM → Prop} (M : zM) (a0 : Nat) (a1 : Nat) (l2 : Int32) (l3 : Int32) (k : ∃ b1 : Nat, (gr M a0 1) = some (b1, 9, 0) ∧ (if (gi M b1 3) = (1 : Int32) then (Z E YX9_inside (d + 1) M [(0, vr (some (a0, 8, 0))), (1, vr (some (a1, 10, 0))), (2, vi l2), (3, vi l3)] 33 [] Q) else (∃ b2 : Nat, (gr M a0 1) = some (b2, 9, 0) ∧ (Z E YX10_fault d M (zargs 0 [vr (some (b2, 9, 0)), vi (2 : Int32)]) 0 [] (zafter E YX9_inside (d + 1) [] 162 3 [] Q))))) : Z E YX9_inside (d + 1) M [(0, vr (some (a0, 8, 0))), (1, vr (some (a1, 10, 0))), (2, vi l2), (3, vi l3)] 146 [] Q := by
  refine z_aload_n dX9_inside_146 rfl rfl ?_
  refine z_getr (r := (gr M a0 1)) dX9_inside_147 fsX9_27_8 rfl ?_
  obtain ⟨b1, e1_, k⟩ := k
  refine Z.eqs (lv' := [(0, vr (some (a0, 8, 0))), (1, vr (some (a1, 10, 0))), (2, vi l2), (3, vi l3)]) (st' := [vr (some (b1, 9, 0))]) rfl (by rw [e1_] <;> rfl) ?_
  refine z_geti dX9_inside_150 fsX9_55_9 ?_
  refine z_iconst (v := 1) dX9_inside_153 rfl ?_
  refine z_icmp_eq (tgt := 33) dX9_inside_154 rfl (fun h_ => ?_) (fun h_ => ?_)
  · have k := zit h_ k
    exact k
  · have k := zif h_ k
    refine z_aload_n dX9_inside_157 rfl rfl ?_
    refine z_getr (r := (gr M a0 1)) dX9_inside_158 fsX9_27_8 rfl ?_
    refine z_iconst (v := 2) dX9_inside_161 rfl ?_
    obtain ⟨b2, e2_, k⟩ := k
    refine Z.eqs (lv' := [(0, vr (some (a0, 8, 0))), (1, vr (some (a1, 10, 0))), (2, vi l2), (3, vi l3)]) (st' := [vi (2 : Int32), vr (some (b2, 9, 0))]) rfl (by rw [e2_] <;> rfl) ?_
    refine Z.pick [] rfl ?_
    exact z_callV (as := [vi (2 : Int32)]) (st := []) dX9_inside_162 vsX9_35_9 (Nat.le_refl _) (Nat.le_of_ble_eq_true rfl) (Nat.le_of_ble_eq_true rfl) rfl k
theorem sX9_inside_165 {E : zE} {d : Nat} {Q : zO → zM → Prop} (M : zM) (u0 : Option zP) (k : ∃ b1 : Nat, u0 = some (b1, 12, 0) ∧ (Q (.inr (b1, 12, 0)) M)) : Z E YX9_inside (d + 1) M [] 165 [vr u0] Q := by
  obtain ⟨b1, e1_, k⟩ := k
  refine Z.eqs (lv' := []) (st' := [vr (some (b1, 12, 0))]) rfl (by rw [e1_] <;> rfl) ?_
  exact z_athrow dX9_inside_165 (ZT.out (by decide) k)
theorem sX9_inside_173 {E : zE} {d : Nat} {Q : zO → zM → Prop} (M : zM) (a0 : Nat) (r1 : Option zP) (l2 : Int32) (l3 : Int32) (k : ∃ b1 : Nat, r1 = some (b1, 10, 0) ∧ (if (gi M b1 8) = (-1 : Int32) then (Z E YX9_inside (d + 1) M [(0, vr (some (a0, 8, 0))), (1, vr (some (b1, 10, 0))), (2, vi l2), (3, vi l3)] 189 [] Q) else (Z E YX11_add d M (zargs 0 [vr (some (b1, 10, 0)), vi (gi M b1 8)]) 0 [] (zafter E YX9_inside (d + 1) [(0, vr (some (a0, 8, 0))), (1, vr (some (b1, 10, 0))), (2, vi l2), (3, vi l3)] 186 3 [] Q)))) : Z E YX9_inside (d + 1) M [(0, vr (some (a0, 8, 0))), (1, vr r1), (2, vi l2), (3, vi l3)] 173 [] Q := by
  refine z_aload_n dX9_inside_173 rfl rfl ?_
  obtain ⟨b1, e1_, k⟩ := k
  refine Z.eqs (lv' := [(0, vr (some (a0, 8, 0))), (1, vr (some (b1, 10, 0))), (2, vi l2), (3, vi l3)]) (st' := [vr (some (b1, 10, 0))]) (by rw [e1_] <;> rfl) (by rw [e1_] <;> rfl) ?_
  refine z_geti dX9_inside_174 fsX9_123_10 ?_
  refine z_iconst (v := -1) dX9_inside_177 rfl ?_
  refine z_icmp_eq (tgt := 189) dX9_inside_178 rfl (fun h_ => ?_) (fun h_ => ?_)
  · have k := zit h_ k
    exact k
  · have k := zif h_ k
    refine z_aload_n dX9_inside_181 rfl rfl ?_
    refine z_aload_n dX9_inside_182 rfl rfl ?_
    refine z_geti dX9_inside_183 fsX9_123_10 ?_
    exact z_callV (as := [vi (gi M b1 8)]) (st := []) dX9_inside_186 vsX9_89_10 (Nat.le_refl _) (Nat.le_of_ble_eq_true rfl) (Nat.le_of_ble_eq_true rfl) rfl k
theorem sX9_inside_189 {E : zE} {d : Nat} {Q : zO → zM → Prop} (M : zM) (a0 : Nat) (a1 : Nat) (l2 : Int32) (l3 : Int32) (k : ∃ b1 : Nat, (gr M a0 1) = some (b1, 9, 0) ∧ (Z E YX10_need d M (zargs 0 [vr (some (b1, 9, 0)), vi (0 : Int32)]) 0 [] (zafter E YX9_inside (d + 1) [(0, vr (some (a0, 8, 0))), (1, vr (some (a1, 10, 0))), (2, vi l2), (3, vi l3)] 194 3 [] Q))) : Z E YX9_inside (d + 1) M [(0, vr (some (a0, 8, 0))), (1, vr (some (a1, 10, 0))), (2, vi l2), (3, vi l3)] 189 [] Q := by
  refine z_aload_n dX9_inside_189 rfl rfl ?_
  refine z_getr (r := (gr M a0 1)) dX9_inside_190 fsX9_27_8 rfl ?_
  refine z_iconst (v := 0) dX9_inside_193 rfl ?_
  obtain ⟨b1, e1_, k⟩ := k
  refine Z.eqs (lv' := [(0, vr (some (a0, 8, 0))), (1, vr (some (a1, 10, 0))), (2, vi l2), (3, vi l3)]) (st' := [vi (0 : Int32), vr (some (b1, 9, 0))]) rfl (by rw [e1_] <;> rfl) ?_
  exact z_callV (as := [vi (0 : Int32)]) (st := []) dX9_inside_194 vsX9_108_9 (Nat.le_refl _) (Nat.le_of_ble_eq_true rfl) (Nat.le_of_ble_eq_true rfl) rfl k
theorem sX9_inside_197 {E : zE} {d : Nat} {Q : zO → zM → Prop} (M : zM) (a0 : Nat) (a1 : Nat) (l2 : Int32) (l3 : Int32) (k : ∃ b1 : Nat, (gr M a0 1) = some (b1, 9, 0) ∧ (Z E YX10_is d M (zargs 0 [vr (some (b1, 9, 0)), vi (1 : Int32)]) 0 [] (zafter E YX9_inside (d + 1) [(0, vr (some (a0, 8, 0))), (1, vr (some (a1, 10, 0))), (2, vi l2), (3, vi l3)] 202 3 [] Q))) : Z E YX9_inside (d + 1) M [(0, vr (some (a0, 8, 0))), (1, vr (some (a1, 10, 0))), (2, vi l2), (3, vi l3)] 197 [] Q := by
  refine z_aload_n dX9_inside_197 rfl rfl ?_
  refine z_getr (r := (gr M a0 1)) dX9_inside_198 fsX9_27_8 rfl ?_
  refine z_iconst (v := 1) dX9_inside_201 rfl ?_
  obtain ⟨b1, e1_, k⟩ := k
  refine Z.eqs (lv' := [(0, vr (some (a0, 8, 0))), (1, vr (some (a1, 10, 0))), (2, vi l2), (3, vi l3)]) (st' := [vi (1 : Int32), vr (some (b1, 9, 0))]) rfl (by rw [e1_] <;> rfl) ?_
  exact z_callV (as := [vi (1 : Int32)]) (st := []) dX9_inside_202 vsX9_111_9 (Nat.le_refl _) (Nat.le_of_ble_eq_true rfl) (Nat.le_of_ble_eq_true rfl) rfl k
theorem sX9_inside_205 {E : zE} {d : Nat} {Q : zO → zM → Prop} (M : zM) (a0 : Nat) (a1 : Nat) (l2 : Int32) (l3 : Int32) (s0 : Int32) (k : if s0 = 0 then (∃ b1 : Nat, (gr M a0 1) = some (b1, 9, 0) ∧ (if (gi M b1 3) = 0 then (∃ b2 : Nat, (gr M a0 1) = some (b2, 9, 0) ∧ (Z E YX10_fault d M (zargs 0 [vr (some (b2, 9, 0)), vi (2 : Int32)]) 0 [] (zafter E YX9_inside (d + 1) [] 223 3 [] Q))) else (Z E YX9_part d M (zargs 0 [vr (some (a0, 8, 0))]) 0 [] (zafter E YX9_inside (d + 1) [(0, vr (some (a0, 8, 0))), (1, vr (some (a1, 10, 0))), (2, vi l2), (3, vi l3)] 228 3 [] Q)))) else (16 ≤ a0 ∧ (16 ≤ a0 ∧ (16 ≤ a0 ∧ (∃ b1 : Nat, (gr (sr M a0 3 (gr M a1 1)) a0 1) = some (b1, 9, 0) ∧ (Z E YX10_next d (si (si (sr M a0 3 (gr M a1 1)) a0 5 l2) a0 6 l3) (zargs 0 [vr (some (b1, 9, 0))]) 0 [] (zafter E YX9_inside (d + 1) [] 256 3 [] Q))))))) : Z E YX9_inside (d + 1) M [(0, vr (some (a0, 8, 0))), (1, vr (some (a1, 10, 0))), (2, vi l2), (3, vi l3)] 205 [vi s0] Q := by
  refine z_if_ne (tgt := 234) dX9_inside_205 rfl (fun h_ => ?_) (fun h_ => ?_)
  · have k := zif h_ k
    refine z_aload_n dX9_inside_234 rfl rfl ?_
    refine z_aload_n dX9_inside_235 rfl rfl ?_
    refine z_getr (r := (gr M a1 1)) dX9_inside_236 fsX9_86_10 rfl ?_
    obtain ⟨g_, k⟩ := k
    refine z_putr g_ dX9_inside_239 (zfwN.w fwX9_44_8) rfl ?_
    refine z_aload_n dX9_inside_242 rfl rfl ?_
    refine z_iload_n dX9_inside_243 rfl rfl ?_
    obtain ⟨g_, k⟩ := k
    refine z_puti g_ dX9_inside_244 (zfwN.w fwX9_102_8) rfl ⟨rfl, rfl⟩ ?_
    refine z_aload_n dX9_inside_247 rfl rfl ?_
    refine z_iload_n dX9_inside_248 rfl rfl ?_
    obtain ⟨g_, k⟩ := k
    refine z_puti g_ dX9_inside_249 (zfwN.w fwX9_105_8) rfl ⟨rfl, rfl⟩ ?_
    refine z_aload_n dX9_inside_252 rfl rfl ?_
    refine z_getr (r := (gr (sr M a0 3 (gr M a1 1)) a0 1)) dX9_inside_253 fsX9_27_8 rfl ?_
    obtain ⟨b1, e1_, k⟩ := k
    refine Z.eqs (lv' := [(0, vr (some (a0, 8, 0))), (1, vr (some (a1, 10, 0))), (2, vi l2), (3, vi l3)]) (st' := [vr (some (b1, 9, 0))]) rfl (by rw [e1_] <;> rfl) ?_
    refine Z.pick [] rfl ?_
    exact z_callV (as := []) (st := []) dX9_inside_256 vsX9_52_9 (Nat.le_refl _) (Nat.le_of_ble_eq_true rfl) (Nat.le_of_ble_eq_true rfl) rfl k
  · have k := zit h_ k
    refine z_aload_n dX9_inside_208 rfl rfl ?_
    refine z_getr (r := (gr M a0 1)) dX9_inside_209 fsX9_27_8 rfl ?_
    obtain ⟨b1, e1_, k⟩ := k
    refine Z.eqs (lv' := [(0, vr (some (a0, 8, 0))), (1, vr (some (a1, 10, 0))), (2, vi l2), (3, vi l3)]) (st' := [vr (some (b1, 9, 0))]) rfl (by rw [e1_] <;> rfl) ?_
    refine z_geti dX9_inside_212 fsX9_55_9 ?_
    refine z_if_ne (tgt := 227) dX9_inside_215 rfl (fun h_ => ?_) (fun h_ => ?_)
    · have k := zif h_ k
      refine z_aload_n dX9_inside_227 rfl rfl ?_
      exact z_callV (as := []) (st := []) dX9_inside_228 vsX9_58_8 (Nat.le_refl _) (Nat.le_of_ble_eq_true rfl) (Nat.le_of_ble_eq_true rfl) rfl k
    · have k := zit h_ k
      refine z_aload_n dX9_inside_218 rfl rfl ?_
      refine z_getr (r := (gr M a0 1)) dX9_inside_219 fsX9_27_8 rfl ?_
      refine z_iconst (v := 2) dX9_inside_222 rfl ?_
      obtain ⟨b2, e2_, k⟩ := k
      refine Z.eqs (lv' := [(0, vr (some (a0, 8, 0))), (1, vr (some (a1, 10, 0))), (2, vi l2), (3, vi l3)]) (st' := [vi (2 : Int32), vr (some (b2, 9, 0))]) rfl (by rw [e2_] <;> rfl) ?_
      refine Z.pick [] rfl ?_
      exact z_callV (as := [vi (2 : Int32)]) (st := []) dX9_inside_223 vsX9_35_9 (Nat.le_refl _) (Nat.le_of_ble_eq_true rfl) (Nat.le_of_ble_eq_true rfl) rfl k
theorem sX9_inside_226 {E : zE} {d : Nat} {Q : zO → zM → Prop} (M : zM) (u0 : Option zP) (k : ∃ b1 : Nat, u0 = some (b1, 12, 0) ∧ (Q (.inr (b1, 12, 0)) M)) : Z E YX9_inside (d + 1) M [] 226 [vr u0] Q := by
  obtain ⟨b1, e1_, k⟩ := k
  refine Z.eqs (lv' := []) (st' := [vr (some (b1, 12, 0))]) rfl (by rw [e1_] <;> rfl) ?_
  exact z_athrow dX9_inside_226 (ZT.out (by decide) k)
theorem sX9_inside_231 {E : zE} {d : Nat} {Q : zO → zM → Prop} (M : zM) (a0 : Nat) (a1 : Nat) (l2 : Int32) (l3 : Int32) (k : Z E YX9_inside (d + 1) M [(0, vr (some (a0, 8, 0))), (1, vr (some (a1, 10, 0))), (2, vi l2), (3, vi l3)] 197 [] Q) : Z E YX9_inside (d + 1) M [(0, vr (some (a0, 8, 0))), (1, vr (some (a1, 10, 0))), (2, vi l2), (3, vi l3)] 231 [] Q := by
  refine z_goto (tgt := 197) dX9_inside_231 rfl ?_
  exact k
theorem sX9_inside_259 {E : zE} {d : Nat} {Q : zO → zM → Prop} (M : zM)  (k : Q (.inl none) M) : Z E YX9_inside (d + 1) M [] 259 [] Q := by
  exact z_vret dX9_inside_259 rfl k
/-! ScriptTypes$Parser.expression(Z)LScriptTypes$Node; -/
theorem bX9_expression_0 : zdec cX9_expression 0 [(0, .aload_n 0, 1), (1, .iload_n 1, 1), (2, .invokevirtual 257, 3), (5, .astore_n 2, 1), (6, .aload_n 0, 1), (7, .getfield 27, 3), (10, .bipush 8, 2), (12, .invokevirtual 111, 3), (15, .ifCond .ne 5, 3), (18, .aload_n 2, 1), (19, .areturn, 1), (20, .new 260, 3), (23, .dup, 1), (24, .invokespecial 262, 3), (27, .astore_n 3, 1), (28, .aload_n 3, 1)] = true := by decide +kernel
theorem dX9_expression_0 : decode cX9_expression 0 = .ok (.aload_n 0, 1) := zdec_at bX9_expression_0 0 rfl
theorem dX9_expression_1 : decode cX9_expression 1 = .ok (.iload_n 1, 1) := zdec_at bX9_expression_0 1 rfl
theorem dX9_expression_2 : decode cX9_expression 2 = .ok (.invokevirtual 257, 3) := zdec_at bX9_expression_0 2 rfl
theorem dX9_expression_5 : decode cX9_expression 5 = .ok (.astore_n 2, 1) := zdec_at bX9_expression_0 3 rfl
theorem dX9_expression_6 : decode cX9_expression 6 = .ok (.aload_n 0, 1) := zdec_at bX9_expression_0 4 rfl
theorem dX9_expression_7 : decode cX9_expression 7 = .ok (.getfield 27, 3) := zdec_at bX9_expression_0 5 rfl
theorem dX9_expression_10 : decode cX9_expression 10 = .ok (.bipush 8, 2) := zdec_at bX9_expression_0 6 rfl
theorem dX9_expression_12 : decode cX9_expression 12 = .ok (.invokevirtual 111, 3) := zdec_at bX9_expression_0 7 rfl
theorem dX9_expression_15 : decode cX9_expression 15 = .ok (.ifCond .ne 5, 3) := zdec_at bX9_expression_0 8 rfl
theorem dX9_expression_18 : decode cX9_expression 18 = .ok (.aload_n 2, 1) := zdec_at bX9_expression_0 9 rfl
theorem dX9_expression_19 : decode cX9_expression 19 = .ok (.areturn, 1) := zdec_at bX9_expression_0 10 rfl
theorem dX9_expression_20 : decode cX9_expression 20 = .ok (.new 260, 3) := zdec_at bX9_expression_0 11 rfl
theorem dX9_expression_23 : decode cX9_expression 23 = .ok (.dup, 1) := zdec_at bX9_expression_0 12 rfl
theorem dX9_expression_24 : decode cX9_expression 24 = .ok (.invokespecial 262, 3) := zdec_at bX9_expression_0 13 rfl
theorem dX9_expression_27 : decode cX9_expression 27 = .ok (.astore_n 3, 1) := zdec_at bX9_expression_0 14 rfl
theorem dX9_expression_28 : decode cX9_expression 28 = .ok (.aload_n 3, 1) := zdec_at bX9_expression_0 15 rfl
theorem bX9_expression_29 : zdec cX9_expression 29 [(29, .getfield 263, 3), (32, .aload_n 2, 1), (33, .invokevirtual 48, 3), (36, .pop, 1), (37, .aload_n 0, 1), (38, .getfield 27, 3), (41, .bipush 8, 2), (43, .invokevirtual 137, 3), (46, .ifCond .eq 19, 3), (49, .aload_n 3, 1), (50, .getfield 263, 3), (53, .aload_n 0, 1), (54, .iload_n 1, 1), (55, .invokevirtual 257, 3), (58, .invokevirtual 48, 3), (61, .pop, 1)] = true := by decide +kernel
theorem dX9_expression_29 : decode cX9_expression 29 = .ok (.getfield 263, 3) := zdec_at bX9_expression_29 0 rfl
theorem dX9_expression_32 : decode cX9_expression 32 = .ok (.aload_n 2, 1) := zdec_at bX9_expression_29 1 rfl
theorem dX9_expression_33 : decode cX9_expression 33 = .ok (.invokevirtual 48, 3) := zdec_at bX9_expression_29 2 rfl
theorem dX9_expression_36 : decode cX9_expression 36 = .ok (.pop, 1) := zdec_at bX9_expression_29 3 rfl
theorem dX9_expression_37 : decode cX9_expression 37 = .ok (.aload_n 0, 1) := zdec_at bX9_expression_29 4 rfl
theorem dX9_expression_38 : decode cX9_expression 38 = .ok (.getfield 27, 3) := zdec_at bX9_expression_29 5 rfl
theorem dX9_expression_41 : decode cX9_expression 41 = .ok (.bipush 8, 2) := zdec_at bX9_expression_29 6 rfl
theorem dX9_expression_43 : decode cX9_expression 43 = .ok (.invokevirtual 137, 3) := zdec_at bX9_expression_29 7 rfl
theorem dX9_expression_46 : decode cX9_expression 46 = .ok (.ifCond .eq 19, 3) := zdec_at bX9_expression_29 8 rfl
theorem dX9_expression_49 : decode cX9_expression 49 = .ok (.aload_n 3, 1) := zdec_at bX9_expression_29 9 rfl
theorem dX9_expression_50 : decode cX9_expression 50 = .ok (.getfield 263, 3) := zdec_at bX9_expression_29 10 rfl
theorem dX9_expression_53 : decode cX9_expression 53 = .ok (.aload_n 0, 1) := zdec_at bX9_expression_29 11 rfl
theorem dX9_expression_54 : decode cX9_expression 54 = .ok (.iload_n 1, 1) := zdec_at bX9_expression_29 12 rfl
theorem dX9_expression_55 : decode cX9_expression 55 = .ok (.invokevirtual 257, 3) := zdec_at bX9_expression_29 13 rfl
theorem dX9_expression_58 : decode cX9_expression 58 = .ok (.invokevirtual 48, 3) := zdec_at bX9_expression_29 14 rfl
theorem dX9_expression_61 : decode cX9_expression 61 = .ok (.pop, 1) := zdec_at bX9_expression_29 15 rfl
theorem bX9_expression_62 : zdec cX9_expression 62 [(62, .goto (-25), 3), (65, .aload_n 3, 1), (66, .areturn, 1)] = true := by decide +kernel
theorem dX9_expression_62 : decode cX9_expression 62 = .ok (.goto (-25), 3) := zdec_at bX9_expression_62 0 rfl
theorem dX9_expression_65 : decode cX9_expression 65 = .ok (.aload_n 3, 1) := zdec_at bX9_expression_62 1 rfl
theorem dX9_expression_66 : decode cX9_expression 66 = .ok (.areturn, 1) := zdec_at bX9_expression_62 2 rfl
theorem sX9_expression_0 {E : zE} {d : Nat} {Q : zO → zM → Prop} (M : zM) (a0 : Nat) (l1 : Int32) (k : Z E YX9_assignment d M (zargs 0 [vr (some (a0, 8, 0)), vi l1]) 0 [] (zafter E YX9_expression (d + 1) [(0, vr (some (a0, 8, 0))), (1, vi l1)] 2 3 [] Q)) : Z E YX9_expression (d + 1) M [(0, vr (some (a0, 8, 0))), (1, vi l1)] 0 [] Q := by
  refine z_aload_n dX9_expression_0 rfl rfl ?_
  refine z_iload_n dX9_expression_1 rfl rfl ?_
  exact z_callV (as := [vi l1]) (st := []) dX9_expression_2 vsX9_257_8 (Nat.le_refl _) (Nat.le_of_ble_eq_true rfl) (Nat.le_of_ble_eq_true rfl) rfl k
theorem sX9_expression_5 {E : zE} {d : Nat} {Q : zO → zM → Prop} (M : zM) (a0 : Nat) (l1 : Int32) (u0 : Option zP) (k : ∃ b1 : Nat, (gr M a0 1) = some (b1, 9, 0) ∧ (Z E YX10_is d M (zargs 0 [vr (some (b1, 9, 0)), vi (8 : Int32)]) 0 [] (zafter E YX9_expression (d + 1) [(0, vr (some (a0, 8, 0))), (1, vi l1), (2, vr u0)] 12 3 [] Q))) : Z E YX9_expression (d + 1) M [(0, vr (some (a0, 8, 0))), (1, vi l1)] 5 [vr u0] Q := by
  refine z_ast_n dX9_expression_5 rfl (by decide) (lv' := [(0, vr (some (a0, 8, 0))), (1, vi l1), (2, vr u0)]) rfl ?_
  refine z_aload_n dX9_expression_6 rfl rfl ?_
  refine z_getr (r := (gr M a0 1)) dX9_expression_7 fsX9_27_8 rfl ?_
  refine z_bipush (v := 8) dX9_expression_10 rfl ?_
  obtain ⟨b1, e1_, k⟩ := k
  refine Z.eqs (lv' := [(0, vr (some (a0, 8, 0))), (1, vi l1), (2, vr u0)]) (st' := [vi (8 : Int32), vr (some (b1, 9, 0))]) rfl (by rw [e1_] <;> rfl) ?_
  exact z_callV (as := [vi (8 : Int32)]) (st := []) dX9_expression_12 vsX9_111_9 (Nat.le_refl _) (Nat.le_of_ble_eq_true rfl) (Nat.le_of_ble_eq_true rfl) rfl k
theorem sX9_expression_15 {E : zE} {d : Nat} {Q : zO → zM → Prop} (M : zM) (a0 : Nat) (l1 : Int32) (r2 : Option zP) (s0 : Int32) (k : if s0 = 0 then (Q (.inl (some (vr r2))) M) else (Z E YX9_expression (d + 1) (zn M 1) [(0, vr (some (a0, 8, 0))), (1, vi l1), (2, vr r2)] 23 [vr (some ((zsz M), 28, 0))] Q)) : Z E YX9_expression (d + 1) M [(0, vr (some (a0, 8, 0))), (1, vi l1), (2, vr r2)] 15 [vi s0] Q := by
  refine z_if_ne (tgt := 20) dX9_expression_15 rfl (fun h_ => ?_) (fun h_ => ?_)
  · have k := zif h_ k
    refine z_new dX9_expression_20 csX9_260 zff_28 ?_
    exact k
  · have k := zit h_ k
    refine z_aload_n dX9_expression_18 rfl rfl ?_
    exact z_aret dX9_expression_19 rfl rfl k
theorem sX9_expression_23 {E : zE} {d : Nat} {Q : zO → zM → Prop} (M : zM) (a0 : Nat) (l1 : Int32) (r2 : Option zP) (p0 : Nat) (k : Z E YX22_init d M (zargs 0 [vr (some (p0, 28, 0))]) 0 [] (zafter E YX9_expression (d + 1) [(0, vr (some (a0, 8, 0))), (1, vi l1), (2, vr r2)] 24 3 [vr (some (p0, 28, 0))] Q)) : Z E YX9_expression (d + 1) M [(0, vr (some (a0, 8, 0))), (1, vi l1), (2, vr r2)] 23 [vr (some (p0, 28, 0))] Q := by
  refine z_dup dX9_expression_23 rfl ?_
  exact z_callI (as := []) (st := [vr (some (p0, 28, 0))]) dX9_expression_24 isX9_262 (Nat.le_refl _) (Nat.le_of_ble_eq_true rfl) (Nat.le_of_ble_eq_true rfl) rfl k
theorem sX9_expression_27 {E : zE} {d : Nat} {Q : zO → zM → Prop} (M : zM) (a0 : Nat) (l1 : Int32) (r2 : Option zP) (p0 : Nat) (k : ∃ b1 : Nat, (gr M p0 0) = some (b1, 11, 0) ∧ (Z E YJ2_add d M (zargs 0 [vr (some (b1, 11, 0)), vr r2]) 0 [] (zafter E YX9_expression (d + 1) [(0, vr (some (a0, 8, 0))), (1, vi l1), (3, vr (some (p0, 28, 0)))] 33 3 [] Q))) : Z E YX9_expression (d + 1) M [(0, vr (some (a0, 8, 0))), (1, vi l1), (2, vr r2)] 27 [vr (some (p0, 28, 0))] Q := by
  refine z_ast_n dX9_expression_27 rfl (by decide) (lv' := [(0, vr (some (a0, 8, 0))), (1, vi l1), (2, vr r2), (3, vr (some (p0, 28, 0)))]) rfl ?_
  refine z_aload_n dX9_expression_28 rfl rfl ?_
  refine z_getr (r := (gr M p0 0)) dX9_expression_29 fsX9_263_28 rfl ?_
  refine z_aload_n dX9_expression_32 rfl rfl ?_
  obtain ⟨b1, e1_, k⟩ := k
  refine Z.eqs (lv' := [(0, vr (some (a0, 8, 0))), (1, vi l1), (2, vr r2), (3, vr (some (p0, 28, 0)))]) (st' := [vr r2, vr (some (b1, 11, 0))]) rfl (by rw [e1_] <;> rfl) ?_
  refine Z.pick [0, 1, 3] rfl ?_
  exact z_callV (as := [vr r2]) (st := []) dX9_expression_33 vsX9_48_11 (Nat.le_refl _) (Nat.le_of_ble_eq_true rfl) (Nat.le_of_ble_eq_true rfl) rfl k
theorem sX9_expression_36 {E : zE} {d : Nat} {Q : zO → zM → Prop} (M : zM) (a0 : Nat) (l1 : Int32) (a3 : Nat) (s0 : Int32) (k : Z E YX9_expression (d + 1) M [(0, vr (some (a0, 8, 0))), (1, vi l1), (3, vr (some (a3, 28, 0)))] 37 [] Q) : Z E YX9_expression (d + 1) M [(0, vr (some (a0, 8, 0))), (1, vi l1), (3, vr (some (a3, 28, 0)))] 36 [vi s0] Q := by
  refine z_pop dX9_expression_36 rfl ?_
  exact k
theorem sX9_expression_37 {E : zE} {d : Nat} {Q : zO → zM → Prop} (M : zM) (a0 : Nat) (l1 : Int32) (a3 : Nat) (k : ∃ b1 : Nat, (gr M a0 1) = some (b1, 9, 0) ∧ (Z E YX10_takes d M (zargs 0 [vr (some (b1, 9, 0)), vi (8 : Int32)]) 0 [] (zafter E YX9_expression (d + 1) [(0, vr (some (a0, 8, 0))), (1, vi l1), (3, vr (some (a3, 28, 0)))] 43 3 [] Q))) : Z E YX9_expression (d + 1) M [(0, vr (some (a0, 8, 0))), (1, vi l1), (3, vr (some (a3, 28, 0)))] 37 [] Q := by
  refine z_aload_n dX9_expression_37 rfl rfl ?_
  refine z_getr (r := (gr M a0 1)) dX9_expression_38 fsX9_27_8 rfl ?_
  refine z_bipush (v := 8) dX9_expression_41 rfl ?_
  obtain ⟨b1, e1_, k⟩ := k
  refine Z.eqs (lv' := [(0, vr (some (a0, 8, 0))), (1, vi l1), (3, vr (some (a3, 28, 0)))]) (st' := [vi (8 : Int32), vr (some (b1, 9, 0))]) rfl (by rw [e1_] <;> rfl) ?_
  exact z_callV (as := [vi (8 : Int32)]) (st := []) dX9_expression_43 vsX9_137_9 (Nat.le_refl _) (Nat.le_of_ble_eq_true rfl) (Nat.le_of_ble_eq_true rfl) rfl k
theorem sX9_expression_46 {E : zE} {d : Nat} {Q : zO → zM → Prop} (M : zM) (a0 : Nat) (l1 : Int32) (a3 : Nat) (s0 : Int32) (k : if s0 = 0 then (Q (.inl (some (vr (some (a3, 28, 0))))) M) else (Z E YX9_assignment d M (zargs 0 [vr (some (a0, 8, 0)), vi l1]) 0 [] (zafter E YX9_expression (d + 1) [(0, vr (some (a0, 8, 0))), (1, vi l1), (3, vr (some (a3, 28, 0)))] 55 3 [vr (gr M a3 0)] Q))) : Z E YX9_expression (d + 1) M [(0, vr (some (a0, 8, 0))), (1, vi l1), (3, vr (some (a3, 28, 0)))] 46 [vi s0] Q := by
  refine z_if_eq (tgt := 65) dX9_expression_46 rfl (fun h_ => ?_) (fun h_ => ?_)
  · have k := zit h_ k
    refine z_aload_n dX9_expression_65 rfl rfl ?_
    exact z_aret dX9_expression_66 rfl rfl k
  · have k := zif h_ k
    refine z_aload_n dX9_expression_49 rfl rfl ?_
    refine z_getr (r := (gr M a3 0)) dX9_expression_50 fsX9_263_28 rfl ?_
    refine z_aload_n dX9_expression_53 rfl rfl ?_
    refine z_iload_n dX9_expression_54 rfl rfl ?_
    exact z_callV (as := [vi l1]) (st := [vr (gr M a3 0)]) dX9_expression_55 vsX9_257_8 (Nat.le_refl _) (Nat.le_of_ble_eq_true rfl) (Nat.le_of_ble_eq_true rfl) rfl k
theorem sX9_expression_58 {E : zE} {d : Nat} {Q : zO → zM → Prop} (M : zM) (a0 : Nat) (l1 : Int32) (a3 : Nat) (u0 : Option zP) (u1 : Option zP) (k : ∃ b1 : Nat, u1 = some (b1, 11, 0) ∧ (Z E YJ2_add d M (zargs 0 [vr (some (b1, 11, 0)), vr u0]) 0 [] (zafter E YX9_expression (d + 1) [(0, vr (some (a0, 8, 0))), (1, vi l1), (3, vr (some (a3, 28, 0)))] 58 3 [] Q))) : Z E YX9_expression (d + 1) M [(0, vr (some (a0, 8, 0))), (1, vi l1), (3, vr (some (a3, 28, 0)))] 58 [vr u0, vr u1] Q := by
  obtain ⟨b1, e1_, k⟩ := k
  refine Z.eqs (lv' := [(0, vr (some (a0, 8, 0))), (1, vi l1), (3, vr (some (a3, 28, 0)))]) (st' := [vr u0, vr (some (b1, 11, 0))]) rfl (by rw [e1_] <;> rfl) ?_
  exact z_callV (as := [vr u0]) (st := []) dX9_expression_58 vsX9_48_11 (Nat.le_refl _) (Nat.le_of_ble_eq_true rfl) (Nat.le_of_ble_eq_true rfl) rfl k
theorem sX9_expression_61 {E : zE} {d : Nat} {Q : zO → zM → Prop} (M : zM) (a0 : Nat) (l1 : Int32) (a3 : Nat) (s0 : Int32) (k : Z E YX9_expression (d + 1) M [(0, vr (some (a0, 8, 0))), (1, vi l1), (3, vr (some (a3, 28, 0)))] 37 [] Q) : Z E YX9_expression (d + 1) M [(0, vr (some (a0, 8, 0))), (1, vi l1), (3, vr (some (a3, 28, 0)))] 61 [vi s0] Q := by
  refine z_pop dX9_expression_61 rfl ?_
  refine z_goto (tgt := 37) dX9_expression_62 rfl ?_
  exact k
/-! ScriptTypes$Parser.items(Z)LScriptTypes$Node; -/
theorem bX9_items_0 : zdec cX9_items 0 [(0, .new 379, 3), (3, .dup, 1), (4, .iload_n 1, 1), (5, .invokespecial 381, 3), (8, .astore_n 2, 1), (9, .iload_n 1, 1), (10, .ifCond .eq 7, 3), (13, .iconst 5, 1), (14, .goto 4, 3), (17, .iconst 1, 1), (18, .istore_n 3, 1), (19, .aload_n 0, 1), (20, .getfield 27, 3), (23, .invokevirtual 52, 3), (26, .aload_n 0, 1), (27, .getfield 27, 3)] = true := by decide +kernel
theorem dX9_items_0 : decode cX9_items 0 = .ok (.new 379, 3) := zdec_at bX9_items_0 0 rfl
theorem dX9_items_3 : decode cX9_items 3 = .ok (.dup, 1) := zdec_at bX9_items_0 1 rfl
theorem dX9_items_4 : decode cX9_items 4 = .ok (.iload_n 1, 1) := zdec_at bX9_items_0 2 rfl
theorem dX9_items_5 : decode cX9_items 5 = .ok (.invokespecial 381, 3) := zdec_at bX9_items_0 3 rfl
theorem dX9_items_8 : decode cX9_items 8 = .ok (.astore_n 2, 1) := zdec_at bX9_items_0 4 rfl
theorem dX9_items_9 : decode cX9_items 9 = .ok (.iload_n 1, 1) := zdec_at bX9_items_0 5 rfl
theorem dX9_items_10 : decode cX9_items 10 = .ok (.ifCond .eq 7, 3) := zdec_at bX9_items_0 6 rfl
theorem dX9_items_13 : decode cX9_items 13 = .ok (.iconst 5, 1) := zdec_at bX9_items_0 7 rfl
theorem dX9_items_14 : decode cX9_items 14 = .ok (.goto 4, 3) := zdec_at bX9_items_0 8 rfl
theorem dX9_items_17 : decode cX9_items 17 = .ok (.iconst 1, 1) := zdec_at bX9_items_0 9 rfl
theorem dX9_items_18 : decode cX9_items 18 = .ok (.istore_n 3, 1) := zdec_at bX9_items_0 10 rfl
theorem dX9_items_19 : decode cX9_items 19 = .ok (.aload_n 0, 1) := zdec_at bX9_items_0 11 rfl
theorem dX9_items_20 : decode cX9_items 20 = .ok (.getfield 27, 3) := zdec_at bX9_items_0 12 rfl
theorem dX9_items_23 : decode cX9_items 23 = .ok (.invokevirtual 52, 3) := zdec_at bX9_items_0 13 rfl
theorem dX9_items_26 : decode cX9_items 26 = .ok (.aload_n 0, 1) := zdec_at bX9_items_0 14 rfl
theorem dX9_items_27 : decode cX9_items 27 = .ok (.getfield 27, 3) := zdec_at bX9_items_0 15 rfl
theorem bX9_items_30 : zdec cX9_items 30 [(30, .iload_n 3, 1), (31, .invokevirtual 111, 3), (34, .ifCond .ne 98, 3), (37, .aload_n 2, 1), (38, .getfield 382, 3), (41, .invokevirtual 99, 3), (44, .ifCond .le 43, 3), (47, .aload_n 0, 1), (48, .getfield 27, 3), (51, .bipush 8, 2), (53, .invokevirtual 111, 3), (56, .ifCond .eq 15, 3), (59, .aload_n 2, 1), (60, .getfield 382, 3), (63, .invokevirtual 99, 3), (66, .bipush 16, 2)] = true := by decide +kernel
theorem dX9_items_30 : decode cX9_items 30 = .ok (.iload_n 3, 1) := zdec_at bX9_items_30 0 rfl
theorem dX9_items_31 : decode cX9_items 31 = .ok (.invokevirtual 111, 3) := zdec_at bX9_items_30 1 rfl
theorem dX9_items_34 : decode cX9_items 34 = .ok (.ifCond .ne 98, 3) := zdec_at bX9_items_30 2 rfl
theorem dX9_items_37 : decode cX9_items 37 = .ok (.aload_n 2, 1) := zdec_at bX9_items_30 3 rfl
theorem dX9_items_38 : decode cX9_items 38 = .ok (.getfield 382, 3) := zdec_at bX9_items_30 4 rfl
theorem dX9_items_41 : decode cX9_items 41 = .ok (.invokevirtual 99, 3) := zdec_at bX9_items_30 5 rfl
theorem dX9_items_44 : decode cX9_items 44 = .ok (.ifCond .le 43, 3) := zdec_at bX9_items_30 6 rfl
theorem dX9_items_47 : decode cX9_items 47 = .ok (.aload_n 0, 1) := zdec_at bX9_items_30 7 rfl
theorem dX9_items_48 : decode cX9_items 48 = .ok (.getfield 27, 3) := zdec_at bX9_items_30 8 rfl
theorem dX9_items_51 : decode cX9_items 51 = .ok (.bipush 8, 2) := zdec_at bX9_items_30 9 rfl
theorem dX9_items_53 : decode cX9_items 53 = .ok (.invokevirtual 111, 3) := zdec_at bX9_items_30 10 rfl
theorem dX9_items_56 : decode cX9_items 56 = .ok (.ifCond .eq 15, 3) := zdec_at bX9_items_30 11 rfl
theorem dX9_items_59 : decode cX9_items 59 = .ok (.aload_n 2, 1) := zdec_at bX9_items_30 12 rfl
theorem dX9_items_60 : decode cX9_items 60 = .ok (.getfield 382, 3) := zdec_at bX9_items_30 13 rfl
theorem dX9_items_63 : decode cX9_items 63 = .ok (.invokevirtual 99, 3) := zdec_at bX9_items_30 14 rfl
theorem dX9_items_66 : decode cX9_items 66 = .ok (.bipush 16, 2) := zdec_at bX9_items_30 15 rfl
theorem bX9_items_68 : zdec cX9_items 68 [(68, .if_icmp .ne 12, 3), (71, .aload_n 0, 1), (72, .getfield 27, 3), (75, .iconst 2, 1), (76, .invokevirtual 35, 3), (79, .athrow, 1), (80, .aload_n 0, 1), (81, .getfield 27, 3), (84, .invokevirtual 52, 3), (87, .iload_n 1, 1), (88, .ifCond .ne 28, 3), (91, .aload_n 2, 1), (92, .getfield 384, 3), (95, .aload_n 2, 1), (96, .getfield 382, 3), (99, .invokevirtual 99, 3)] = true := by decide +kernel
theorem dX9_items_68 : decode cX9_items 68 = .ok (.if_icmp .ne 12, 3) := zdec_at bX9_items_68 0 rfl
theorem dX9_items_71 : decode cX9_items 71 = .ok (.aload_n 0, 1) := zdec_at bX9_items_68 1 rfl
theorem dX9_items_72 : decode cX9_items 72 = .ok (.getfield 27, 3) := zdec_at bX9_items_68 2 rfl
theorem dX9_items_75 : decode cX9_items 75 = .ok (.iconst 2, 1) := zdec_at bX9_items_68 3 rfl
theorem dX9_items_76 : decode cX9_items 76 = .ok (.invokevirtual 35, 3) := zdec_at bX9_items_68 4 rfl
theorem dX9_items_79 : decode cX9_items 79 = .ok (.athrow, 1) := zdec_at bX9_items_68 5 rfl
theorem dX9_items_80 : decode cX9_items 80 = .ok (.aload_n 0, 1) := zdec_at bX9_items_68 6 rfl
theorem dX9_items_81 : decode cX9_items 81 = .ok (.getfield 27, 3) := zdec_at bX9_items_68 7 rfl
theorem dX9_items_84 : decode cX9_items 84 = .ok (.invokevirtual 52, 3) := zdec_at bX9_items_68 8 rfl
theorem dX9_items_87 : decode cX9_items 87 = .ok (.iload_n 1, 1) := zdec_at bX9_items_68 9 rfl
theorem dX9_items_88 : decode cX9_items 88 = .ok (.ifCond .ne 28, 3) := zdec_at bX9_items_68 10 rfl
theorem dX9_items_91 : decode cX9_items 91 = .ok (.aload_n 2, 1) := zdec_at bX9_items_68 11 rfl
theorem dX9_items_92 : decode cX9_items 92 = .ok (.getfield 384, 3) := zdec_at bX9_items_68 12 rfl
theorem dX9_items_95 : decode cX9_items 95 = .ok (.aload_n 2, 1) := zdec_at bX9_items_68 13 rfl
theorem dX9_items_96 : decode cX9_items 96 = .ok (.getfield 382, 3) := zdec_at bX9_items_68 14 rfl
theorem dX9_items_99 : decode cX9_items 99 = .ok (.invokevirtual 99, 3) := zdec_at bX9_items_68 15 rfl
theorem bX9_items_102 : zdec cX9_items 102 [(102, .aload_n 0, 1), (103, .invokevirtual 388, 3), (106, .iastore, 1), (107, .aload_n 0, 1), (108, .getfield 27, 3), (111, .bipush 35, 2), (113, .invokevirtual 108, 3), (116, .aload_n 2, 1), (117, .getfield 382, 3), (120, .aload_n 0, 1), (121, .iconst 1, 1), (122, .invokevirtual 257, 3), (125, .invokevirtual 48, 3), (128, .pop, 1), (129, .goto (-103), 3), (132, .aload_n 0, 1)] = true := by decide +kernel
theorem dX9_items_102 : decode cX9_items 102 = .ok (.aload_n 0, 1) := zdec_at bX9_items_102 0 rfl
theorem dX9_items_103 : decode cX9_items 103 = .ok (.invokevirtual 388, 3) := zdec_at bX9_items_102 1 rfl
theorem dX9_items_106 : decode cX9_items 106 = .ok (.iastore, 1) := zdec_at bX9_items_102 2 rfl
theorem dX9_items_107 : decode cX9_items 107 = .ok (.aload_n 0, 1) := zdec_at bX9_items_102 3 rfl
theorem dX9_items_108 : decode cX9_items 108 = .ok (.getfield 27, 3) := zdec_at bX9_items_102 4 rfl
theorem dX9_items_111 : decode cX9_items 111 = .ok (.bipush 35, 2) := zdec_at bX9_items_102 5 rfl
theorem dX9_items_113 : decode cX9_items 113 = .ok (.invokevirtual 108, 3) := zdec_at bX9_items_102 6 rfl
theorem dX9_items_116 : decode cX9_items 116 = .ok (.aload_n 2, 1) := zdec_at bX9_items_102 7 rfl
theorem dX9_items_117 : decode cX9_items 117 = .ok (.getfield 382, 3) := zdec_at bX9_items_102 8 rfl
theorem dX9_items_120 : decode cX9_items 120 = .ok (.aload_n 0, 1) := zdec_at bX9_items_102 9 rfl
theorem dX9_items_121 : decode cX9_items 121 = .ok (.iconst 1, 1) := zdec_at bX9_items_102 10 rfl
theorem dX9_items_122 : decode cX9_items 122 = .ok (.invokevirtual 257, 3) := zdec_at bX9_items_102 11 rfl
theorem dX9_items_125 : decode cX9_items 125 = .ok (.invokevirtual 48, 3) := zdec_at bX9_items_102 12 rfl
theorem dX9_items_128 : decode cX9_items 128 = .ok (.pop, 1) := zdec_at bX9_items_102 13 rfl
theorem dX9_items_129 : decode cX9_items 129 = .ok (.goto (-103), 3) := zdec_at bX9_items_102 14 rfl
theorem dX9_items_132 : decode cX9_items 132 = .ok (.aload_n 0, 1) := zdec_at bX9_items_102 15 rfl
theorem bX9_items_133 : zdec cX9_items 133 [(133, .getfield 27, 3), (136, .invokevirtual 52, 3), (139, .aload_n 2, 1), (140, .areturn, 1)] = true := by decide +kernel
theorem dX9_items_133 : decode cX9_items 133 = .ok (.getfield 27, 3) := zdec_at bX9_items_133 0 rfl
theorem dX9_items_136 : decode cX9_items 136 = .ok (.invokevirtual 52, 3) := zdec_at bX9_items_133 1 rfl
theorem dX9_items_139 : decode cX9_items 139 = .ok (.aload_n 2, 1) := zdec_at bX9_items_133 2 rfl
theorem dX9_items_140 : decode cX9_items 140 = .ok (.areturn, 1) := zdec_at bX9_items_133 3 rfl
theorem sX9_items_0 {E : zE} {d : Nat} {Q : zO → zM → Prop} (M : zM) (a0 : Nat) (l1 : Int32) (k : Z E YX9_items (d + 1) (zn M 3) [(0, vr (some (a0, 8, 0))), (1, vi l1)] 3 [vr (some ((zsz M), 29, 0))] Q) : Z E YX9_items (d + 1) M [(0, vr (some (a0, 8, 0))), (1, vi l1)] 0 [] Q := by
  refine z_new dX9_items_0 csX9_379 zff_29 ?_
  exact k
theorem sX9_items_3 {E : zE} {d : Nat} {Q : zO → zM → Prop} (M : zM) (a0 : Nat) (l1 : Int32) (p0 : Nat) (k : Z E YX23_init d M (zargs 0 [vr (some (p0, 29, 0)), vi l1]) 0 [] (zafter E YX9_items (d + 1) [(0, vr (some (a0, 8, 0))), (1, vi l1)] 5 3 [vr (some (p0, 29, 0))] Q)) : Z E YX9_items (d + 1) M [(0, vr (some (a0, 8, 0))), (1, vi l1)] 3 [vr (some (p0, 29, 0))] Q := by
  refine z_dup dX9_items_3 rfl ?_
  refine z_iload_n dX9_items_4 rfl rfl ?_
  exact z_callI (as := [vi l1]) (st := [vr (some (p0, 29, 0))]) dX9_items_5 isX9_381 (Nat.le_refl _) (Nat.le_of_ble_eq_true rfl) (Nat.le_of_ble_eq_true rfl) rfl k
theorem sX9_items_8 {E : zE} {d : Nat} {Q : zO → zM → Prop} (M : zM) (a0 : Nat) (l1 : Int32) (p0 : Nat) (k : if l1 = 0 then (∃ b1 : Nat, (gr M a0 1) = some (b1, 9, 0) ∧ (Z E YX10_next d M (zargs 0 [vr (some (b1, 9, 0))]) 0 [] (zafter E YX9_items (d + 1) [(0, vr (some (a0, 8, 0))), (1, vi l1), (2, vr (some (p0, 29, 0))), (3, vi (1 : Int32))] 23 3 [] Q))) else (∃ b1 : Nat, (gr M a0 1) = some (b1, 9, 0) ∧ (Z E YX10_next d M (zargs 0 [vr (some (b1, 9, 0))]) 0 [] (zafter E YX9_items (d + 1) [(0, vr (some (a0, 8, 0))), (1, vi l1), (2, vr (some (p0, 29, 0))), (3, vi (5 : Int32))] 23 3 [] Q)))) : Z E YX9_items (d + 1) M [(0, vr (some (a0, 8, 0))), (1, vi l1)] 8 [vr (some (p0, 29, 0))] Q := by
  refine z_ast_n dX9_items_8 rfl (by decide) (lv' := [(0, vr (some (a0, 8, 0))), (1, vi l1), (2, vr (some (p0, 29, 0)))]) rfl ?_
  refine z_iload_n dX9_items_9 rfl rfl ?_
  refine z_if_eq (tgt := 17) dX9_items_10 rfl (fun h_ => ?_) (fun h_ => ?_)
  · have k := zit h_ k
    refine z_iconst (v := 1) dX9_items_17 rfl ?_
    refine z_ist_n dX9_items_18 rfl (by decide) (lv' := [(0, vr (some (a0, 8, 0))), (1, vi l1), (2, vr (some (p0, 29, 0))), (3, vi (1 : Int32))]) rfl ?_
    refine z_aload_n dX9_items_19 rfl rfl ?_
    refine z_getr (r := (gr M a0 1)) dX9_items_20 fsX9_27_8 rfl ?_
    obtain ⟨b1, e1_, k⟩ := k
    refine Z.eqs (lv' := [(0, vr (some (a0, 8, 0))), (1, vi l1), (2, vr (some (p0, 29, 0))), (3, vi (1 : Int32))]) (st' := [vr (some (b1, 9, 0))]) rfl (by rw [e1_] <;> rfl) ?_
    exact z_callV (as := []) (st := []) dX9_items_23 vsX9_52_9 (Nat.le_refl _) (Nat.le_of_ble_eq_true rfl) (Nat.le_of_ble_eq_true rfl) rfl k
  · have k := zif h_ k
    refine z_iconst (v := 5) dX9_items_13 rfl ?_
    refine z_goto (tgt := 18) dX9_items_14 rfl ?_
    refine z_ist_n dX9_items_18 rfl (by decide) (lv' := [(0, vr (some (a0, 8, 0))), (1, vi l1), (2, vr (some (p0, 29, 0))), (3, vi (5 : Int32))]) rfl ?_
    refine z_aload_n dX9_items_19 rfl rfl ?_
    refine z_getr (r := (gr M a0 1)) dX9_items_20 fsX9_27_8 rfl ?_
    obtain ⟨b1, e1_, k⟩ := k
    refine Z.eqs (lv' := [(0, vr (some (a0, 8, 0))), (1, vi l1), (2, vr (some (p0, 29, 0))), (3, vi (5 : Int32))]) (st' := [vr (some (b1, 9, 0))]) rfl (by rw [e1_] <;> rfl) ?_
    exact z_callV (as := []) (st := []) dX9_items_23 vsX9_52_9 (Nat.le_refl _) (Nat.le_of_ble_eq_true rfl) (Nat.le_of_ble_eq_true rfl) rfl k
theorem sX9_items_26 {E : zE} {d : Nat} {Q : zO → zM → Prop} (M : zM) (a0 : Nat) (l1 : Int32) (a2 : Nat) (l3 : Int32) (k : ∃ b1 : Nat, (gr M a0 1) = some (b1, 9, 0) ∧ (Z E YX10_is d M (zargs 0 [vr (some (b1, 9, 0)), vi l3]) 0 [] (zafter E YX9_items (d + 1) [(0, vr (some (a0, 8, 0))), (1, vi l1), (2, vr (some (a2, 29, 0))), (3, vi l3)] 31 3 [] Q))) : Z E YX9_items (d + 1) M [(0, vr (some (a0, 8, 0))), (1, vi l1), (2, vr (some (a2, 29, 0))), (3, vi l3)] 26 [] Q := by
  refine z_aload_n dX9_items_26 rfl rfl ?_
  refine z_getr (r := (gr M a0 1)) dX9_items_27 fsX9_27_8 rfl ?_
  refine z_iload_n dX9_items_30 rfl rfl ?_
  obtain ⟨b1, e1_, k⟩ := k
  refine Z.eqs (lv' := [(0, vr (some (a0, 8, 0))), (1, vi l1), (2, vr (some (a2, 29, 0))), (3, vi l3)]) (st' := [vi l3, vr (some (b1, 9, 0))]) rfl (by rw [e1_] <;> rfl) ?_
  exact z_callV (as := [vi l3]) (st := []) dX9_items_31 vsX9_111_9 (Nat.le_refl _) (Nat.le_of_ble_eq_true rfl) (Nat.le_of_ble_eq_true rfl) rfl k
theorem sX9_items_34 {E : zE} {d : Nat} {Q : zO → zM → Prop} (M : zM) (a0 : Nat) (l1 : Int32) (a2 : Nat) (l3 : Int32) (s0 : Int32) (k : if s0 = 0 then (∃ b1 : Nat, (gr M a2 1) = some (b1, 11, 0) ∧ (Z E YJ2_size d M (zargs 0 [vr (some (b1, 11, 0))]) 0 [] (zafter E YX9_items (d + 1) [(0, vr (some (a0, 8, 0))), (1, vi l1), (2, vr (some (a2, 29, 0))), (3, vi l3)] 41 3 [] Q))) else (∃ b1 : Nat, (gr M a0 1) = some (b1, 9, 0) ∧ (Z E YX10_next d M (zargs 0 [vr (some (b1, 9, 0))]) 0 [] (zafter E YX9_items (d + 1) [(2, vr (some (a2, 29, 0)))] 136 3 [] Q)))) : Z E YX9_items (d + 1) M [(0, vr (some (a0, 8, 0))), (1, vi l1), (2, vr (some (a2, 29, 0))), (3, vi l3)] 34 [vi s0] Q := by
  refine z_if_ne (tgt := 132) dX9_items_34 rfl (fun h_ => ?_) (fun h_ => ?_)
  · have k := zif h_ k
    refine z_aload_n dX9_items_132 rfl rfl ?_
    refine z_getr (r := (gr M a0 1)) dX9_items_133 fsX9_27_8 rfl ?_
    obtain ⟨b1, e1_, k⟩ := k
    refine Z.eqs (lv' := [(0, vr (some (a0, 8, 0))), (1, vi l1), (2, vr (some (a2, 29, 0))), (3, vi l3)]) (st' := [vr (some (b1, 9, 0))]) rfl (by rw [e1_] <;> rfl) ?_
    refine Z.pick [2] rfl ?_
    exact z_callV (as := []) (st := []) dX9_items_136 vsX9_52_9 (Nat.le_refl _) (Nat.le_of_ble_eq_true rfl) (Nat.le_of_ble_eq_true rfl) rfl k
  · have k := zit h_ k
    refine z_aload_n dX9_items_37 rfl rfl ?_
    refine z_getr (r := (gr M a2 1)) dX9_items_38 fsX9_382_29 rfl ?_
    obtain ⟨b1, e1_, k⟩ := k
    refine Z.eqs (lv' := [(0, vr (some (a0, 8, 0))), (1, vi l1), (2, vr (some (a2, 29, 0))), (3, vi l3)]) (st' := [vr (some (b1, 11, 0))]) rfl (by rw [e1_] <;> rfl) ?_
    exact z_callV (as := []) (st := []) dX9_items_41 vsX9_99_11 (Nat.le_refl _) (Nat.le_of_ble_eq_true rfl) (Nat.le_of_ble_eq_true rfl) rfl k
theorem sX9_items_44 {E : zE} {d : Nat} {Q : zO → zM → Prop} (M : zM) (a0 : Nat) (l1 : Int32) (a2 : Nat) (l3 : Int32) (s0 : Int32) (k : if s0 ≤ 0 then (Z E YX9_items (d + 1) M [(0, vr (some (a0, 8, 0))), (1, vi l1), (2, vr (some (a2, 29, 0))), (3, vi l3)] 87 [] Q) else (∃ b1 : Nat, (gr M a0 1) = some (b1, 9, 0) ∧ (Z E YX10_is d M (zargs 0 [vr (some (b1, 9, 0)), vi (8 : Int32)]) 0 [] (zafter E YX9_items (d + 1) [(0, vr (some (a0, 8, 0))), (1, vi l1), (2, vr (some (a2, 29, 0))), (3, vi l3)] 53 3 [] Q)))) : Z E YX9_items (d + 1) M [(0, vr (some (a0, 8, 0))), (1, vi l1), (2, vr (some (a2, 29, 0))), (3, vi l3)] 44 [vi s0] Q := by
  refine z_if_le (tgt := 87) dX9_items_44 rfl (fun h_ => ?_) (fun h_ => ?_)
  · have k := zit h_ k
    exact k
  · have k := zif h_ k
    refine z_aload_n dX9_items_47 rfl rfl ?_
    refine z_getr (r := (gr M a0 1)) dX9_items_48 fsX9_27_8 rfl ?_
    refine z_bipush (v := 8) dX9_items_51 rfl ?_
    obtain ⟨b1, e1_, k⟩ := k
    refine Z.eqs (lv' := [(0, vr (some (a0, 8, 0))), (1, vi l1), (2, vr (some (a2, 29, 0))), (3, vi l3)]) (st' := [vi (8 : Int32), vr (some (b1, 9, 0))]) rfl (by rw [e1_] <;> rfl) ?_
    exact z_callV (as := [vi (8 : Int32)]) (st := []) dX9_items_53 vsX9_111_9 (Nat.le_refl _) (Nat.le_of_ble_eq_true rfl) (Nat.le_of_ble_eq_true rfl) rfl k
theorem sX9_items_56 {E : zE} {d : Nat} {Q : zO → zM → Prop} (M : zM) (a0 : Nat) (l1 : Int32) (a2 : Nat) (l3 : Int32) (s0 : Int32) (k : if s0 = 0 then (∃ b1 : Nat, (gr M a0 1) = some (b1, 9, 0) ∧ (Z E YX10_fault d M (zargs 0 [vr (some (b1, 9, 0)), vi (2 : Int32)]) 0 [] (zafter E YX9_items (d + 1) [] 76 3 [] Q))) else (∃ b1 : Nat, (gr M a2 1) = some (b1, 11, 0) ∧ (Z E YJ2_size d M (zargs 0 [vr (some (b1, 11, 0))]) 0 [] (zafter E YX9_items (d + 1) [(0, vr (some (a0, 8, 0))), (1, vi l1), (2, vr (some (a2, 29, 0))), (3, vi l3)] 63 3 [] Q)))) : Z E YX9_items (d + 1) M [(0, vr (some (a0, 8, 0))), (1, vi l1), (2, vr (some (a2, 29, 0))), (3, vi l3)] 56 [vi s0] Q := by
  refine z_if_eq (tgt := 71) dX9_items_56 rfl (fun h_ => ?_) (fun h_ => ?_)
  · have k := zit h_ k
    refine z_aload_n dX9_items_71 rfl rfl ?_
    refine z_getr (r := (gr M a0 1)) dX9_items_72 fsX9_27_8 rfl ?_
    refine z_iconst (v := 2) dX9_items_75 rfl ?_
    obtain ⟨b1, e1_, k⟩ := k
    refine Z.eqs (lv' := [(0, vr (some (a0, 8, 0))), (1, vi l1), (2, vr (some (a2, 29, 0))), (3, vi l3)]) (st' := [vi (2 : Int32), vr (some (b1, 9, 0))]) rfl (by rw [e1_] <;> rfl) ?_
    refine Z.pick [] rfl ?_
    exact z_callV (as := [vi (2 : Int32)]) (st := []) dX9_items_76 vsX9_35_9 (Nat.le_refl _) (Nat.le_of_ble_eq_true rfl) (Nat.le_of_ble_eq_true rfl) rfl k
  · have k := zif h_ k
    refine z_aload_n dX9_items_59 rfl rfl ?_
    refine z_getr (r := (gr M a2 1)) dX9_items_60 fsX9_382_29 rfl ?_
    obtain ⟨b1, e1_, k⟩ := k
    refine Z.eqs (lv' := [(0, vr (some (a0, 8, 0))), (1, vi l1), (2, vr (some (a2, 29, 0))), (3, vi l3)]) (st' := [vr (some (b1, 11, 0))]) rfl (by rw [e1_] <;> rfl) ?_
    exact z_callV (as := []) (st := []) dX9_items_63 vsX9_99_11 (Nat.le_refl _) (Nat.le_of_ble_eq_true rfl) (Nat.le_of_ble_eq_true rfl) rfl k
theorem sX9_items_66 {E : zE} {d : Nat} {Q : zO → zM → Prop} (M : zM) (a0 : Nat) (l1 : Int32) (a2 : Nat) (l3 : Int32) (s0 : Int32) (k : if s0 = (16 : Int32) then (∃ b1 : Nat, (gr M a0 1) = some (b1, 9, 0) ∧ (Z E YX10_fault d M (zargs 0 [vr (some (b1, 9, 0)), vi (2 : Int32)]) 0 [] (zafter E YX9_items (d + 1) [] 76 3 [] Q))) else (∃ b1 : Nat, (gr M a0 1) = some (b1, 9, 0) ∧ (Z E YX10_next d M (zargs 0 [vr (some (b1, 9, 0))]) 0 [] (zafter E YX9_items (d + 1) [(0, vr (some (a0, 8, 0))), (1, vi l1), (2, vr (some (a2, 29, 0))), (3, vi l3)] 84 3 [] Q)))) : Z E YX9_items (d + 1) M [(0, vr (some (a0, 8, 0))), (1, vi l1), (2, vr (some (a2, 29, 0))), (3, vi l3)] 66 [vi s0] Q := by
  refine z_bipush (v := 16) dX9_items_66 rfl ?_
  refine z_icmp_ne (tgt := 80) dX9_items_68 rfl (fun h_ => ?_) (fun h_ => ?_)
  · have k := zif h_ k
    refine z_aload_n dX9_items_80 rfl rfl ?_
    refine z_getr (r := (gr M a0 1)) dX9_items_81 fsX9_27_8 rfl ?_
    obtain ⟨b1, e1_, k⟩ := k
    refine Z.eqs (lv' := [(0, vr (some (a0, 8, 0))), (1, vi l1), (2, vr (some (a2, 29, 0))), (3, vi l3)]) (st' := [vr (some (b1, 9, 0))]) rfl (by rw [e1_] <;> rfl) ?_
    exact z_callV (as := []) (st := []) dX9_items_84 vsX9_52_9 (Nat.le_refl _) (Nat.le_of_ble_eq_true rfl) (Nat.le_of_ble_eq_true rfl) rfl k
  · have k := zit h_ k
    refine z_aload_n dX9_items_71 rfl rfl ?_
    refine z_getr (r := (gr M a0 1)) dX9_items_72 fsX9_27_8 rfl ?_
    refine z_iconst (v := 2) dX9_items_75 rfl ?_
    obtain ⟨b1, e1_, k⟩ := k
    refine Z.eqs (lv' := [(0, vr (some (a0, 8, 0))), (1, vi l1), (2, vr (some (a2, 29, 0))), (3, vi l3)]) (st' := [vi (2 : Int32), vr (some (b1, 9, 0))]) rfl (by rw [e1_] <;> rfl) ?_
    refine Z.pick [] rfl ?_
    exact z_callV (as := [vi (2 : Int32)]) (st := []) dX9_items_76 vsX9_35_9 (Nat.le_refl _) (Nat.le_of_ble_eq_true rfl) (Nat.le_of_ble_eq_true rfl) rfl k
theorem sX9_items_79 {E : zE} {d : Nat} {Q : zO → zM → Prop} (M : zM) (u0 : Option zP) (k : ∃ b1 : Nat, u0 = some (b1, 12, 0) ∧ (Q (.inr (b1, 12, 0)) M)) : Z E YX9_items (d + 1) M [] 79 [vr u0] Q := by
  obtain ⟨b1, e1_, k⟩ := k
  refine Z.eqs (lv' := []) (st' := [vr (some (b1, 12, 0))]) rfl (by rw [e1_] <;> rfl) ?_
  exact z_athrow dX9_items_79 (ZT.out (by decide) k)
theorem sX9_items_87 {E : zE} {d : Nat} {Q : zO → zM → Prop} (M : zM) (a0 : Nat) (l1 : Int32) (a2 : Nat) (l3 : Int32) (k : if l1 = 0 then (∃ b1 : Nat, (gr M a2 1) = some (b1, 11, 0) ∧ (Z E YJ2_size d M (zargs 0 [vr (some (b1, 11, 0))]) 0 [] (zafter E YX9_items (d + 1) [(0, vr (some (a0, 8, 0))), (1, vi l1), (2, vr (some (a2, 29, 0))), (3, vi l3)] 99 3 [vr (gr M a2 2)] Q))) else (Z E YX9_items (d + 1) M [(0, vr (some (a0, 8, 0))), (1, vi l1), (2, vr (some (a2, 29, 0))), (3, vi l3)] 116 [] Q)) : Z E YX9_items (d + 1) M [(0, vr (some (a0, 8, 0))), (1, vi l1), (2, vr (some (a2, 29, 0))), (3, vi l3)] 87 [] Q := by
  refine z_iload_n dX9_items_87 rfl rfl ?_
  refine z_if_ne (tgt := 116) dX9_items_88 rfl (fun h_ => ?_) (fun h_ => ?_)
  · have k := zif h_ k
    exact k
  · have k := zit h_ k
    refine z_aload_n dX9_items_91 rfl rfl ?_
    refine z_getr (r := (gr M a2 2)) dX9_items_92 fsX9_384_29 rfl ?_
    refine z_aload_n dX9_items_95 rfl rfl ?_
    refine z_getr (r := (gr M a2 1)) dX9_items_96 fsX9_382_29 rfl ?_
    obtain ⟨b1, e1_, k⟩ := k
    refine Z.eqs (lv' := [(0, vr (some (a0, 8, 0))), (1, vi l1), (2, vr (some (a2, 29, 0))), (3, vi l3)]) (st' := [vr (some (b1, 11, 0)), vr (gr M a2 2)]) rfl (by rw [e1_] <;> rfl) ?_
    exact z_callV (as := []) (st := [vr (gr M a2 2)]) dX9_items_99 vsX9_99_11 (Nat.le_refl _) (Nat.le_of_ble_eq_true rfl) (Nat.le_of_ble_eq_true rfl) rfl k
theorem sX9_items_102 {E : zE} {d : Nat} {Q : zO → zM → Prop} (M : zM) (a0 : Nat) (l1 : Int32) (a2 : Nat) (l3 : Int32) (s0 : Int32) (u1 : Option zP) (k : Z E YX9_itemKey d M (zargs 0 [vr (some (a0, 8, 0))]) 0 [] (zafter E YX9_items (d + 1) [(0, vr (some (a0, 8, 0))), (1, vi l1), (2, vr (some (a2, 29, 0))), (3, vi l3)] 103 3 [vi s0, vr u1] Q)) : Z E YX9_items (d + 1) M [(0, vr (some (a0, 8, 0))), (1, vi l1), (2, vr (some (a2, 29, 0))), (3, vi l3)] 102 [vi s0, vr u1] Q := by
  refine z_aload_n dX9_items_102 rfl rfl ?_
  exact z_callV (as := []) (st := [vi s0, vr u1]) dX9_items_103 vsX9_388_8 (Nat.le_refl _) (Nat.le_of_ble_eq_true rfl) (Nat.le_of_ble_eq_true rfl) rfl k
theorem sX9_items_106 {E : zE} {d : Nat} {Q : zO → zM → Prop} (M : zM) (a0 : Nat) (l1 : Int32) (a2 : Nat) (l3 : Int32) (s0 : Int32) (s1 : Int32) (u2 : Option zP) (k : ∃ b1 m1 : Nat, u2 = some (b1, 100, m1) ∧ (16 ≤ b1 ∧ (vp_in s1 m1 ∧ (∃ b2 : Nat, (gr M a0 1) = some (b2, 9, 0) ∧ (Z E YX10_need d (si M b1 (s1).toNatClampNeg s0) (zargs 0 [vr (some (b2, 9, 0)), vi (35 : Int32)]) 0 [] (zafter E YX9_items (d + 1) [(0, vr (some (a0, 8, 0))), (1, vi l1), (2, vr (some (a2, 29, 0))), (3, vi l3)] 113 3 [] Q)))))) : Z E YX9_items (d + 1) M [(0, vr (some (a0, 8, 0))), (1, vi l1), (2, vr (some (a2, 29, 0))), (3, vi l3)] 106 [vi s0, vi s1, vr u2] Q := by
  obtain ⟨b1, m1, e1_, k⟩ := k
  refine Z.eqs (lv' := [(0, vr (some (a0, 8, 0))), (1, vi l1), (2, vr (some (a2, 29, 0))), (3, vi l3)]) (st' := [vi s0, vi s1, vr (some (b1, 100, m1))]) rfl (by rw [e1_] <;> rfl) ?_
  obtain ⟨g_, k⟩ := k
  obtain ⟨b_, k⟩ := k
  refine z_iast g_ dX9_items_106 b_ ?_
  refine z_aload_n dX9_items_107 rfl rfl ?_
  refine z_getr (r := (gr M a0 1)) dX9_items_108 fsX9_27_8 rfl ?_
  refine z_bipush (v := 35) dX9_items_111 rfl ?_
  obtain ⟨b2, e2_, k⟩ := k
  refine Z.eqs (lv' := [(0, vr (some (a0, 8, 0))), (1, vi l1), (2, vr (some (a2, 29, 0))), (3, vi l3)]) (st' := [vi (35 : Int32), vr (some (b2, 9, 0))]) rfl (by rw [e2_] <;> rfl) ?_
  exact z_callV (as := [vi (35 : Int32)]) (st := []) dX9_items_113 vsX9_108_9 (Nat.le_refl _) (Nat.le_of_ble_eq_true rfl) (Nat.le_of_ble_eq_true rfl) rfl k
theorem sX9_items_116 {E : zE} {d : Nat} {Q : zO → zM → Prop} (M : zM) (a0 : Nat) (l1 : Int32) (a2 : Nat) (l3 : Int32) (k : Z E YX9_assignment d M (zargs 0 [vr (some (a0, 8, 0)), vi (1 : Int32)]) 0 [] (zafter E YX9_items (d + 1) [(0, vr (some (a0, 8, 0))), (1, vi l1), (2, vr (some (a2, 29, 0))), (3, vi l3)] 122 3 [vr (gr M a2 1)] Q)) : Z E YX9_items (d + 1) M [(0, vr (some (a0, 8, 0))), (1, vi l1), (2, vr (some (a2, 29, 0))), (3, vi l3)] 116 [] Q := by
  refine z_aload_n dX9_items_116 rfl rfl ?_
  refine z_getr (r := (gr M a2 1)) dX9_items_117 fsX9_382_29 rfl ?_
  refine z_aload_n dX9_items_120 rfl rfl ?_
  refine z_iconst (v := 1) dX9_items_121 rfl ?_
  exact z_callV (as := [vi (1 : Int32)]) (st := [vr (gr M a2 1)]) dX9_items_122 vsX9_257_8 (Nat.le_refl _) (Nat.le_of_ble_eq_true rfl) (Nat.le_of_ble_eq_true rfl) rfl k
theorem sX9_items_125 {E : zE} {d : Nat} {Q : zO → zM → Prop} (M : zM) (a0 : Nat) (l1 : Int32) (a2 : Nat) (l3 : Int32) (u0 : Option zP) (u1 : Option zP) (k : ∃ b1 : Nat, u1 = some (b1, 11, 0) ∧ (Z E YJ2_add d M (zargs 0 [vr (some (b1, 11, 0)), vr u0]) 0 [] (zafter E YX9_items (d + 1) [(0, vr (some (a0, 8, 0))), (1, vi l1), (2, vr (some (a2, 29, 0))), (3, vi l3)] 125 3 [] Q))) : Z E YX9_items (d + 1) M [(0, vr (some (a0, 8, 0))), (1, vi l1), (2, vr (some (a2, 29, 0))), (3, vi l3)] 125 [vr u0, vr u1] Q := by
  obtain ⟨b1, e1_, k⟩ := k
  refine Z.eqs (lv' := [(0, vr (some (a0, 8, 0))), (1, vi l1), (2, vr (some (a2, 29, 0))), (3, vi l3)]) (st' := [vr u0, vr (some (b1, 11, 0))]) rfl (by rw [e1_] <;> rfl) ?_
  exact z_callV (as := [vr u0]) (st := []) dX9_items_125 vsX9_48_11 (Nat.le_refl _) (Nat.le_of_ble_eq_true rfl) (Nat.le_of_ble_eq_true rfl) rfl k
theorem sX9_items_128 {E : zE} {d : Nat} {Q : zO → zM → Prop} (M : zM) (a0 : Nat) (l1 : Int32) (a2 : Nat) (l3 : Int32) (s0 : Int32) (k : Z E YX9_items (d + 1) M [(0, vr (some (a0, 8, 0))), (1, vi l1), (2, vr (some (a2, 29, 0))), (3, vi l3)] 26 [] Q) : Z E YX9_items (d + 1) M [(0, vr (some (a0, 8, 0))), (1, vi l1), (2, vr (some (a2, 29, 0))), (3, vi l3)] 128 [vi s0] Q := by
  refine z_pop dX9_items_128 rfl ?_
  refine z_goto (tgt := 26) dX9_items_129 rfl ?_
  exact k
theorem sX9_items_139 {E : zE} {d : Nat} {Q : zO → zM → Prop} (M : zM) (a2 : Nat) (k : Q (.inl (some (vr (some (a2, 29, 0))))) M) : Z E YX9_items (d + 1) M [(2, vr (some (a2, 29, 0)))] 139 [] Q := by
  refine z_aload_n dX9_items_139 rfl rfl ?_
  exact z_aret dX9_items_140 rfl rfl k
/-! ScriptTypes$Parser.itemKey()I -/
theorem bX9_itemKey_0 : zdec cX9_itemKey 0 [(0, .aload_n 0, 1), (1, .getfield 27, 3), (4, .getfield 55, 3), (7, .iconst 4, 1), (8, .if_icmp .ne 20, 3), (11, .aload_n 0, 1), (12, .getfield 27, 3), (15, .getfield 114, 3), (18, .istore_n 1, 1), (19, .aload_n 0, 1), (20, .getfield 27, 3), (23, .invokevirtual 52, 3), (26, .iload_n 1, 1), (27, .ireturn, 1), (28, .aload_n 0, 1), (29, .getfield 27, 3)] = true := by decide +kernel
theorem dX9_itemKey_0 : decode cX9_itemKey 0 = .ok (.aload_n 0, 1) := zdec_at bX9_itemKey_0 0 rfl
theorem dX9_itemKey_1 : decode cX9_itemKey 1 = .ok (.getfield 27, 3) := zdec_at bX9_itemKey_0 1 rfl
theorem dX9_itemKey_4 : decode cX9_itemKey 4 = .ok (.getfield 55, 3) := zdec_at bX9_itemKey_0 2 rfl
theorem dX9_itemKey_7 : decode cX9_itemKey 7 = .ok (.iconst 4, 1) := zdec_at bX9_itemKey_0 3 rfl
theorem dX9_itemKey_8 : decode cX9_itemKey 8 = .ok (.if_icmp .ne 20, 3) := zdec_at bX9_itemKey_0 4 rfl
theorem dX9_itemKey_11 : decode cX9_itemKey 11 = .ok (.aload_n 0, 1) := zdec_at bX9_itemKey_0 5 rfl
theorem dX9_itemKey_12 : decode cX9_itemKey 12 = .ok (.getfield 27, 3) := zdec_at bX9_itemKey_0 6 rfl
theorem dX9_itemKey_15 : decode cX9_itemKey 15 = .ok (.getfield 114, 3) := zdec_at bX9_itemKey_0 7 rfl
theorem dX9_itemKey_18 : decode cX9_itemKey 18 = .ok (.istore_n 1, 1) := zdec_at bX9_itemKey_0 8 rfl
theorem dX9_itemKey_19 : decode cX9_itemKey 19 = .ok (.aload_n 0, 1) := zdec_at bX9_itemKey_0 9 rfl
theorem dX9_itemKey_20 : decode cX9_itemKey 20 = .ok (.getfield 27, 3) := zdec_at bX9_itemKey_0 10 rfl
theorem dX9_itemKey_23 : decode cX9_itemKey 23 = .ok (.invokevirtual 52, 3) := zdec_at bX9_itemKey_0 11 rfl
theorem dX9_itemKey_26 : decode cX9_itemKey 26 = .ok (.iload_n 1, 1) := zdec_at bX9_itemKey_0 12 rfl
theorem dX9_itemKey_27 : decode cX9_itemKey 27 = .ok (.ireturn, 1) := zdec_at bX9_itemKey_0 13 rfl
theorem dX9_itemKey_28 : decode cX9_itemKey 28 = .ok (.aload_n 0, 1) := zdec_at bX9_itemKey_0 14 rfl
theorem dX9_itemKey_29 : decode cX9_itemKey 29 = .ok (.getfield 27, 3) := zdec_at bX9_itemKey_0 15 rfl
theorem bX9_itemKey_32 : zdec cX9_itemKey 32 [(32, .getfield 55, 3), (35, .iconst 3, 1), (36, .if_icmp .eq 11, 3), (39, .aload_n 0, 1), (40, .getfield 27, 3), (43, .invokevirtual 345, 3), (46, .ireturn, 1), (47, .aload_n 0, 1), (48, .getfield 18, 3), (51, .invokevirtual 391, 3), (54, .aload_n 0, 1), (55, .getfield 18, 3), (58, .aload_n 0, 1), (59, .getfield 27, 3), (62, .getfield 355, 3), (65, .invokevirtual 394, 3)] = true := by decide +kernel
theorem dX9_itemKey_32 : decode cX9_itemKey 32 = .ok (.getfield 55, 3) := zdec_at bX9_itemKey_32 0 rfl
theorem dX9_itemKey_35 : decode cX9_itemKey 35 = .ok (.iconst 3, 1) := zdec_at bX9_itemKey_32 1 rfl
theorem dX9_itemKey_36 : decode cX9_itemKey 36 = .ok (.if_icmp .eq 11, 3) := zdec_at bX9_itemKey_32 2 rfl
theorem dX9_itemKey_39 : decode cX9_itemKey 39 = .ok (.aload_n 0, 1) := zdec_at bX9_itemKey_32 3 rfl
theorem dX9_itemKey_40 : decode cX9_itemKey 40 = .ok (.getfield 27, 3) := zdec_at bX9_itemKey_32 4 rfl
theorem dX9_itemKey_43 : decode cX9_itemKey 43 = .ok (.invokevirtual 345, 3) := zdec_at bX9_itemKey_32 5 rfl
theorem dX9_itemKey_46 : decode cX9_itemKey 46 = .ok (.ireturn, 1) := zdec_at bX9_itemKey_32 6 rfl
theorem dX9_itemKey_47 : decode cX9_itemKey 47 = .ok (.aload_n 0, 1) := zdec_at bX9_itemKey_32 7 rfl
theorem dX9_itemKey_48 : decode cX9_itemKey 48 = .ok (.getfield 18, 3) := zdec_at bX9_itemKey_32 8 rfl
theorem dX9_itemKey_51 : decode cX9_itemKey 51 = .ok (.invokevirtual 391, 3) := zdec_at bX9_itemKey_32 9 rfl
theorem dX9_itemKey_54 : decode cX9_itemKey 54 = .ok (.aload_n 0, 1) := zdec_at bX9_itemKey_32 10 rfl
theorem dX9_itemKey_55 : decode cX9_itemKey 55 = .ok (.getfield 18, 3) := zdec_at bX9_itemKey_32 11 rfl
theorem dX9_itemKey_58 : decode cX9_itemKey 58 = .ok (.aload_n 0, 1) := zdec_at bX9_itemKey_32 12 rfl
theorem dX9_itemKey_59 : decode cX9_itemKey 59 = .ok (.getfield 27, 3) := zdec_at bX9_itemKey_32 13 rfl
theorem dX9_itemKey_62 : decode cX9_itemKey 62 = .ok (.getfield 355, 3) := zdec_at bX9_itemKey_32 14 rfl
theorem dX9_itemKey_65 : decode cX9_itemKey 65 = .ok (.invokevirtual 394, 3) := zdec_at bX9_itemKey_32 15 rfl
theorem bX9_itemKey_68 : zdec cX9_itemKey 68 [(68, .aload_n 0, 1), (69, .getfield 27, 3), (72, .invokevirtual 397, 3), (75, .istore_n 1, 1), (76, .aload_n 0, 1), (77, .getfield 27, 3), (80, .invokevirtual 52, 3), (83, .iload_n 1, 1), (84, .ireturn, 1)] = true := by decide +kernel
theorem dX9_itemKey_68 : decode cX9_itemKey 68 = .ok (.aload_n 0, 1) := zdec_at bX9_itemKey_68 0 rfl
theorem dX9_itemKey_69 : decode cX9_itemKey 69 = .ok (.getfield 27, 3) := zdec_at bX9_itemKey_68 1 rfl
theorem dX9_itemKey_72 : decode cX9_itemKey 72 = .ok (.invokevirtual 397, 3) := zdec_at bX9_itemKey_68 2 rfl
theorem dX9_itemKey_75 : decode cX9_itemKey 75 = .ok (.istore_n 1, 1) := zdec_at bX9_itemKey_68 3 rfl
theorem dX9_itemKey_76 : decode cX9_itemKey 76 = .ok (.aload_n 0, 1) := zdec_at bX9_itemKey_68 4 rfl
theorem dX9_itemKey_77 : decode cX9_itemKey 77 = .ok (.getfield 27, 3) := zdec_at bX9_itemKey_68 5 rfl
theorem dX9_itemKey_80 : decode cX9_itemKey 80 = .ok (.invokevirtual 52, 3) := zdec_at bX9_itemKey_68 6 rfl
theorem dX9_itemKey_83 : decode cX9_itemKey 83 = .ok (.iload_n 1, 1) := zdec_at bX9_itemKey_68 7 rfl
theorem dX9_itemKey_84 : decode cX9_itemKey 84 = .ok (.ireturn, 1) := zdec_at bX9_itemKey_68 8 rfl
theorem sX9_itemKey_0 {E : zE} {d : Nat} {Q : zO → zM → Prop} (M : zM) (a0 : Nat) (k : ∃ b1 : Nat, (gr M a0 1) = some (b1, 9, 0) ∧ (if (gi M b1 3) = (4 : Int32) then (∃ b2 : Nat, (gr M a0 1) = some (b2, 9, 0) ∧ (∃ b3 : Nat, (gr M a0 1) = some (b3, 9, 0) ∧ (Z E YX10_next d M (zargs 0 [vr (some (b3, 9, 0))]) 0 [] (zafter E YX9_itemKey (d + 1) [(1, vi (gi M b2 6))] 23 3 [] Q)))) else (∃ b2 : Nat, (gr M a0 1) = some (b2, 9, 0) ∧ (if (gi M b2 3) = (3 : Int32) then (∃ b3 : Nat, (gr M a0 0) = some (b3, 0, 0) ∧ (Z E YX1_clearRow d M (zargs 0 [vr (some (b3, 0, 0))]) 0 [] (zafter E YX9_itemKey (d + 1) [(0, vr (some (a0, 8, 0)))] 51 3 [] Q))) else (∃ b3 : Nat, (gr M a0 1) = some (b3, 9, 0) ∧ (Z E YX10_key d M (zargs 0 [vr (some (b3, 9, 0))]) 0 [] (zafter E YX9_itemKey (d + 1) [] 43 3 [] Q))))))) : Z E YX9_itemKey (d + 1) M [(0, vr (some (a0, 8, 0)))] 0 [] Q := by
  refine z_aload_n dX9_itemKey_0 rfl rfl ?_
  refine z_getr (r := (gr M a0 1)) dX9_itemKey_1 fsX9_27_8 rfl ?_
  obtain ⟨b1, e1_, k⟩ := k
  refine Z.eqs (lv' := [(0, vr (some (a0, 8, 0)))]) (st' := [vr (some (b1, 9, 0))]) rfl (by rw [e1_] <;> rfl) ?_
  refine z_geti dX9_itemKey_4 fsX9_55_9 ?_
  refine z_iconst (v := 4) dX9_itemKey_7 rfl ?_
  refine z_icmp_ne (tgt := 28) dX9_itemKey_8 rfl (fun h_ => ?_) (fun h_ => ?_)
  · have k := zif h_ k
    refine z_aload_n dX9_itemKey_28 rfl rfl ?_
    refine z_getr (r := (gr M a0 1)) dX9_itemKey_29 fsX9_27_8 rfl ?_
    obtain ⟨b2, e2_, k⟩ := k
    refine Z.eqs (lv' := [(0, vr (some (a0, 8, 0)))]) (st' := [vr (some (b2, 9, 0))]) rfl (by rw [e2_] <;> rfl) ?_
    refine z_geti dX9_itemKey_32 fsX9_55_9 ?_
    refine z_iconst (v := 3) dX9_itemKey_35 rfl ?_
    refine z_icmp_eq (tgt := 47) dX9_itemKey_36 rfl (fun h_ => ?_) (fun h_ => ?_)
    · have k := zit h_ k
      refine z_aload_n dX9_itemKey_47 rfl rfl ?_
      refine z_getr (r := (gr M a0 0)) dX9_itemKey_48 fsX9_18_8 rfl ?_
      obtain ⟨b3, e3_, k⟩ := k
      refine Z.eqs (lv' := [(0, vr (some (a0, 8, 0)))]) (st' := [vr (some (b3, 0, 0))]) rfl (by rw [e3_] <;> rfl) ?_
      exact z_callV (as := []) (st := []) dX9_itemKey_51 vsX9_391_0 (Nat.le_refl _) (Nat.le_of_ble_eq_true rfl) (Nat.le_of_ble_eq_true rfl) rfl k
    · have k := zif h_ k
      refine z_aload_n dX9_itemKey_39 rfl rfl ?_
      refine z_getr (r := (gr M a0 1)) dX9_itemKey_40 fsX9_27_8 rfl ?_
      obtain ⟨b3, e3_, k⟩ := k
      refine Z.eqs (lv' := [(0, vr (some (a0, 8, 0)))]) (st' := [vr (some (b3, 9, 0))]) rfl (by rw [e3_] <;> rfl) ?_
      refine Z.pick [] rfl ?_
      exact z_callV (as := []) (st := []) dX9_itemKey_43 vsX9_345_9 (Nat.le_refl _) (Nat.le_of_ble_eq_true rfl) (Nat.le_of_ble_eq_true rfl) rfl k
  · have k := zit h_ k
    refine z_aload_n dX9_itemKey_11 rfl rfl ?_
    refine z_getr (r := (gr M a0 1)) dX9_itemKey_12 fsX9_27_8 rfl ?_
    obtain ⟨b2, e2_, k⟩ := k
    refine Z.eqs (lv' := [(0, vr (some (a0, 8, 0)))]) (st' := [vr (some (b2, 9, 0))]) rfl (by rw [e2_] <;> rfl) ?_
    refine z_geti dX9_itemKey_15 fsX9_114_9 ?_
    refine z_ist_n dX9_itemKey_18 rfl (by decide) (lv' := [(0, vr (some (a0, 8, 0))), (1, vi (gi M b2 6))]) rfl ?_
    refine z_aload_n dX9_itemKey_19 rfl rfl ?_
    refine z_getr (r := (gr M a0 1)) dX9_itemKey_20 fsX9_27_8 rfl ?_
    obtain ⟨b3, e3_, k⟩ := k
    refine Z.eqs (lv' := [(0, vr (some (a0, 8, 0))), (1, vi (gi M b2 6))]) (st' := [vr (some (b3, 9, 0))]) rfl (by rw [e3_] <;> rfl) ?_
    refine Z.pick [1] rfl ?_
    exact z_callV (as := []) (st := []) dX9_itemKey_23 vsX9_52_9 (Nat.le_refl _) (Nat.le_of_ble_eq_true rfl) (Nat.le_of_ble_eq_true rfl) rfl k
theorem sX9_itemKey_26 {E : zE} {d : Nat} {Q : zO → zM → Prop} (M : zM) (l1 : Int32) (k : Q (.inl (some (vi l1))) M) : Z E YX9_itemKey (d + 1) M [(1, vi l1)] 26 [] Q := by
  refine z_iload_n dX9_itemKey_26 rfl rfl ?_
  exact z_iret dX9_itemKey_27 rfl rfl k
theorem sX9_itemKey_46 {E : zE} {d : Nat} {Q : zO → zM → Prop} (M : zM) (s0 : Int32) (k : Q (.inl (some (vi s0))) M) : Z E YX9_itemKey (d + 1) M [] 46 [vi s0] Q := by
  exact z_iret dX9_itemKey_46 rfl rfl k
theorem sX9_itemKey_54 {E : zE} {d : Nat} {Q : zO → zM → Prop} (M : zM) (a0 : Nat) (k : ∃ b1 : Nat, (gr M a0 1) = some (b1, 9, 0) ∧ (∃ b2 : Nat, (gr M a0 0) = some (b2, 0, 0) ∧ (Z E YX1_putDigits d M (zargs 0 [vr (some (b2, 0, 0)), vi (gi M b1 7)]) 0 [] (zafter E YX9_itemKey (d + 1) [(0, vr (some (a0, 8, 0)))] 65 3 [] Q)))) : Z E YX9_itemKey (d + 1) M [(0, vr (some (a0, 8, 0)))] 54 [] Q := by
  refine z_aload_n dX9_itemKey_54 rfl rfl ?_
  refine z_getr (r := (gr M a0 0)) dX9_itemKey_55 fsX9_18_8 rfl ?_
  refine z_aload_n dX9_itemKey_58 rfl rfl ?_
  refine z_getr (r := (gr M a0 1)) dX9_itemKey_59 fsX9_27_8 rfl ?_
  obtain ⟨b1, e1_, k⟩ := k
  refine Z.eqs (lv' := [(0, vr (some (a0, 8, 0)))]) (st' := [vr (some (b1, 9, 0)), vr (gr M a0 0)]) rfl (by rw [e1_] <;> rfl) ?_
  refine z_geti dX9_itemKey_62 fsX9_355_9 ?_
  obtain ⟨b2, e2_, k⟩ := k
  refine Z.eqs (lv' := [(0, vr (some (a0, 8, 0)))]) (st' := [vi (gi M b1 7), vr (some (b2, 0, 0))]) rfl (by rw [e2_] <;> rfl) ?_
  exact z_callV (as := [vi (gi M b1 7)]) (st := []) dX9_itemKey_65 vsX9_394_0 (Nat.le_refl _) (Nat.le_of_ble_eq_true rfl) (Nat.le_of_ble_eq_true rfl) rfl k
theorem sX9_itemKey_68 {E : zE} {d : Nat} {Q : zO → zM → Prop} (M : zM) (a0 : Nat) (k : ∃ b1 : Nat, (gr M a0 1) = some (b1, 9, 0) ∧ (Z E YX10_name d M (zargs 0 [vr (some (b1, 9, 0))]) 0 [] (zafter E YX9_itemKey (d + 1) [(0, vr (some (a0, 8, 0)))] 72 3 [] Q))) : Z E YX9_itemKey (d + 1) M [(0, vr (some (a0, 8, 0)))] 68 [] Q := by
  refine z_aload_n dX9_itemKey_68 rfl rfl ?_
  refine z_getr (r := (gr M a0 1)) dX9_itemKey_69 fsX9_27_8 rfl ?_
  obtain ⟨b1, e1_, k⟩ := k
  refine Z.eqs (lv' := [(0, vr (some (a0, 8, 0)))]) (st' := [vr (some (b1, 9, 0))]) rfl (by rw [e1_] <;> rfl) ?_
  exact z_callV (as := []) (st := []) dX9_itemKey_72 vsX9_397_9 (Nat.le_refl _) (Nat.le_of_ble_eq_true rfl) (Nat.le_of_ble_eq_true rfl) rfl k
theorem sX9_itemKey_75 {E : zE} {d : Nat} {Q : zO → zM → Prop} (M : zM) (a0 : Nat) (s0 : Int32) (k : ∃ b1 : Nat, (gr M a0 1) = some (b1, 9, 0) ∧ (Z E YX10_next d M (zargs 0 [vr (some (b1, 9, 0))]) 0 [] (zafter E YX9_itemKey (d + 1) [(1, vi s0)] 80 3 [] Q))) : Z E YX9_itemKey (d + 1) M [(0, vr (some (a0, 8, 0)))] 75 [vi s0] Q := by
  refine z_ist_n dX9_itemKey_75 rfl (by decide) (lv' := [(0, vr (some (a0, 8, 0))), (1, vi s0)]) rfl ?_
  refine z_aload_n dX9_itemKey_76 rfl rfl ?_
  refine z_getr (r := (gr M a0 1)) dX9_itemKey_77 fsX9_27_8 rfl ?_
  obtain ⟨b1, e1_, k⟩ := k
  refine Z.eqs (lv' := [(0, vr (some (a0, 8, 0))), (1, vi s0)]) (st' := [vr (some (b1, 9, 0))]) rfl (by rw [e1_] <;> rfl) ?_
  refine Z.pick [1] rfl ?_
  exact z_callV (as := []) (st := []) dX9_itemKey_80 vsX9_52_9 (Nat.le_refl _) (Nat.le_of_ble_eq_true rfl) (Nat.le_of_ble_eq_true rfl) rfl k
theorem sX9_itemKey_83 {E : zE} {d : Nat} {Q : zO → zM → Prop} (M : zM) (l1 : Int32) (k : Q (.inl (some (vi l1))) M) : Z E YX9_itemKey (d + 1) M [(1, vi l1)] 83 [] Q := by
  refine z_iload_n dX9_itemKey_83 rfl rfl ?_
  exact z_iret dX9_itemKey_84 rfl rfl k
/-! ScriptTypes$Parser.member()LScriptTypes$Suffix; -/
theorem bX9_member_0 : zdec cX9_member 0 [(0, .aload_n 0, 1), (1, .getfield 27, 3), (4, .bipush 6, 2), (6, .invokevirtual 137, 3), (9, .ifCond .eq 20, 3), (12, .new 332, 3), (15, .dup, 1), (16, .aload_n 0, 1), (17, .getfield 27, 3), (20, .invokevirtual 345, 3), (23, .aconst_null, 1), (24, .aconst_null, 1), (25, .invokespecial 338, 3), (28, .areturn, 1), (29, .aload_n 0, 1), (30, .invokevirtual 72, 3)] = true := by decide +kernel
theorem dX9_member_0 : decode cX9_member 0 = .ok (.aload_n 0, 1) := zdec_at bX9_member_0 0 rfl
theorem dX9_member_1 : decode cX9_member 1 = .ok (.getfield 27, 3) := zdec_at bX9_member_0 1 rfl
theorem dX9_member_4 : decode cX9_member 4 = .ok (.bipush 6, 2) := zdec_at bX9_member_0 2 rfl
theorem dX9_member_6 : decode cX9_member 6 = .ok (.invokevirtual 137, 3) := zdec_at bX9_member_0 3 rfl
theorem dX9_member_9 : decode cX9_member 9 = .ok (.ifCond .eq 20, 3) := zdec_at bX9_member_0 4 rfl
theorem dX9_member_12 : decode cX9_member 12 = .ok (.new 332, 3) := zdec_at bX9_member_0 5 rfl
theorem dX9_member_15 : decode cX9_member 15 = .ok (.dup, 1) := zdec_at bX9_member_0 6 rfl
theorem dX9_member_16 : decode cX9_member 16 = .ok (.aload_n 0, 1) := zdec_at bX9_member_0 7 rfl
theorem dX9_member_17 : decode cX9_member 17 = .ok (.getfield 27, 3) := zdec_at bX9_member_0 8 rfl
theorem dX9_member_20 : decode cX9_member 20 = .ok (.invokevirtual 345, 3) := zdec_at bX9_member_0 9 rfl
theorem dX9_member_23 : decode cX9_member 23 = .ok (.aconst_null, 1) := zdec_at bX9_member_0 10 rfl
theorem dX9_member_24 : decode cX9_member 24 = .ok (.aconst_null, 1) := zdec_at bX9_member_0 11 rfl
theorem dX9_member_25 : decode cX9_member 25 = .ok (.invokespecial 338, 3) := zdec_at bX9_member_0 12 rfl
theorem dX9_member_28 : decode cX9_member 28 = .ok (.areturn, 1) := zdec_at bX9_member_0 13 rfl
theorem dX9_member_29 : decode cX9_member 29 = .ok (.aload_n 0, 1) := zdec_at bX9_member_0 14 rfl
theorem dX9_member_30 : decode cX9_member 30 = .ok (.invokevirtual 72, 3) := zdec_at bX9_member_0 15 rfl
theorem bX9_member_33 : zdec cX9_member 33 [(33, .aload_n 0, 1), (34, .getfield 27, 3), (37, .invokevirtual 52, 3), (40, .aload_n 0, 1), (41, .iconst 1, 1), (42, .invokevirtual 145, 3), (45, .astore_n 1, 1), (46, .aload_n 0, 1), (47, .getfield 27, 3), (50, .iconst 5, 1), (51, .invokevirtual 108, 3), (54, .aload_n 0, 1), (55, .dup, 1), (56, .getfield 31, 3), (59, .iconst 1, 1), (60, .isub, 1)] = true := by decide +kernel
theorem dX9_member_33 : decode cX9_member 33 = .ok (.aload_n 0, 1) := zdec_at bX9_member_33 0 rfl
theorem dX9_member_34 : decode cX9_member 34 = .ok (.getfield 27, 3) := zdec_at bX9_member_33 1 rfl
theorem dX9_member_37 : decode cX9_member 37 = .ok (.invokevirtual 52, 3) := zdec_at bX9_member_33 2 rfl
theorem dX9_member_40 : decode cX9_member 40 = .ok (.aload_n 0, 1) := zdec_at bX9_member_33 3 rfl
theorem dX9_member_41 : decode cX9_member 41 = .ok (.iconst 1, 1) := zdec_at bX9_member_33 4 rfl
theorem dX9_member_42 : decode cX9_member 42 = .ok (.invokevirtual 145, 3) := zdec_at bX9_member_33 5 rfl
theorem dX9_member_45 : decode cX9_member 45 = .ok (.astore_n 1, 1) := zdec_at bX9_member_33 6 rfl
theorem dX9_member_46 : decode cX9_member 46 = .ok (.aload_n 0, 1) := zdec_at bX9_member_33 7 rfl
theorem dX9_member_47 : decode cX9_member 47 = .ok (.getfield 27, 3) := zdec_at bX9_member_33 8 rfl
theorem dX9_member_50 : decode cX9_member 50 = .ok (.iconst 5, 1) := zdec_at bX9_member_33 9 rfl
theorem dX9_member_51 : decode cX9_member 51 = .ok (.invokevirtual 108, 3) := zdec_at bX9_member_33 10 rfl
theorem dX9_member_54 : decode cX9_member 54 = .ok (.aload_n 0, 1) := zdec_at bX9_member_33 11 rfl
theorem dX9_member_55 : decode cX9_member 55 = .ok (.dup, 1) := zdec_at bX9_member_33 12 rfl
theorem dX9_member_56 : decode cX9_member 56 = .ok (.getfield 31, 3) := zdec_at bX9_member_33 13 rfl
theorem dX9_member_59 : decode cX9_member 59 = .ok (.iconst 1, 1) := zdec_at bX9_member_33 14 rfl
theorem dX9_member_60 : decode cX9_member 60 = .ok (.isub, 1) := zdec_at bX9_member_33 15 rfl
theorem bX9_member_61 : zdec cX9_member 61 [(61, .putfield 31, 3), (64, .new 332, 3), (67, .dup, 1), (68, .iconst (-1), 1), (69, .aload_n 1, 1), (70, .aconst_null, 1), (71, .invokespecial 338, 3), (74, .areturn, 1)] = true := by decide +kernel
theorem dX9_member_61 : decode cX9_member 61 = .ok (.putfield 31, 3) := zdec_at bX9_member_61 0 rfl
theorem dX9_member_64 : decode cX9_member 64 = .ok (.new 332, 3) := zdec_at bX9_member_61 1 rfl
theorem dX9_member_67 : decode cX9_member 67 = .ok (.dup, 1) := zdec_at bX9_member_61 2 rfl
theorem dX9_member_68 : decode cX9_member 68 = .ok (.iconst (-1), 1) := zdec_at bX9_member_61 3 rfl
theorem dX9_member_69 : decode cX9_member 69 = .ok (.aload_n 1, 1) := zdec_at bX9_member_61 4 rfl
theorem dX9_member_70 : decode cX9_member 70 = .ok (.aconst_null, 1) := zdec_at bX9_member_61 5 rfl
theorem dX9_member_71 : decode cX9_member 71 = .ok (.invokespecial 338, 3) := zdec_at bX9_member_61 6 rfl
theorem dX9_member_74 : decode cX9_member 74 = .ok (.areturn, 1) := zdec_at bX9_member_61 7 rfl
theorem sX9_member_0 {E : zE} {d : Nat} {Q : zO → zM → Prop} (M : zM) (a0 : Nat) (k : ∃ b1 : Nat, (gr M a0 1) = some (b1, 9, 0) ∧ (Z E YX10_takes d M (zargs 0 [vr (some (b1, 9, 0)), vi (6 : Int32)]) 0 [] (zafter E YX9_member (d + 1) [(0, vr (some (a0, 8, 0)))] 6 3 [] Q))) : Z E YX9_member (d + 1) M [(0, vr (some (a0, 8, 0)))] 0 [] Q := by
  refine z_aload_n dX9_member_0 rfl rfl ?_
  refine z_getr (r := (gr M a0 1)) dX9_member_1 fsX9_27_8 rfl ?_
  refine z_bipush (v := 6) dX9_member_4 rfl ?_
  obtain ⟨b1, e1_, k⟩ := k
  refine Z.eqs (lv' := [(0, vr (some (a0, 8, 0)))]) (st' := [vi (6 : Int32), vr (some (b1, 9, 0))]) rfl (by rw [e1_] <;> rfl) ?_
  exact z_callV (as := [vi (6 : Int32)]) (st := []) dX9_member_6 vsX9_137_9 (Nat.le_refl _) (Nat.le_of_ble_eq_true rfl) (Nat.le_of_ble_eq_true rfl) rfl k
theorem sX9_member_9 {E : zE} {d : Nat} {Q : zO → zM → Prop} (M : zM) (a0 : Nat) (s0 : Int32) (k : if s0 = 0 then (Z E YX9_opens d M (zargs 0 [vr (some (a0, 8, 0))]) 0 [] (zafter E YX9_member (d + 1) [(0, vr (some (a0, 8, 0)))] 30 3 [] Q)) else (Z E YX9_member (d + 1) (zn M 3) [(0, vr (some (a0, 8, 0)))] 15 [vr (some ((zsz M), 19, 0))] Q)) : Z E YX9_member (d + 1) M [(0, vr (some (a0, 8, 0)))] 9 [vi s0] Q := by
  refine z_if_eq (tgt := 29) dX9_member_9 rfl (fun h_ => ?_) (fun h_ => ?_)
  · have k := zit h_ k
    refine z_aload_n dX9_member_29 rfl rfl ?_
    exact z_callV (as := []) (st := []) dX9_member_30 vsX9_72_8 (Nat.le_refl _) (Nat.le_of_ble_eq_true rfl) (Nat.le_of_ble_eq_true rfl) rfl k
  · have k := zif h_ k
    refine z_new dX9_member_12 csX9_332 zff_19 ?_
    exact k
theorem sX9_member_15 {E : zE} {d : Nat} {Q : zO → zM → Prop} (M : zM) (a0 : Nat) (p0 : Nat) (k : ∃ b1 : Nat, (gr M a0 1) = some (b1, 9, 0) ∧ (Z E YX10_key d M (zargs 0 [vr (some (b1, 9, 0))]) 0 [] (zafter E YX9_member (d + 1) [] 20 3 [vr (some (p0, 19, 0)), vr (some (p0, 19, 0))] Q))) : Z E YX9_member (d + 1) M [(0, vr (some (a0, 8, 0)))] 15 [vr (some (p0, 19, 0))] Q := by
  refine z_dup dX9_member_15 rfl ?_
  refine z_aload_n dX9_member_16 rfl rfl ?_
  refine z_getr (r := (gr M a0 1)) dX9_member_17 fsX9_27_8 rfl ?_
  obtain ⟨b1, e1_, k⟩ := k
  refine Z.eqs (lv' := [(0, vr (some (a0, 8, 0)))]) (st' := [vr (some (b1, 9, 0)), vr (some (p0, 19, 0)), vr (some (p0, 19, 0))]) rfl (by rw [e1_] <;> rfl) ?_
  refine Z.pick [] rfl ?_
  exact z_callV (as := []) (st := [vr (some (p0, 19, 0)), vr (some (p0, 19, 0))]) dX9_member_20 vsX9_345_9 (Nat.le_refl _) (Nat.le_of_ble_eq_true rfl) (Nat.le_of_ble_eq_true rfl) rfl k
theorem sX9_member_23 {E : zE} {d : Nat} {Q : zO → zM → Prop} (M : zM) (s0 : Int32) (p1 : Nat) (p2 : Nat) (k : Z E YX25_init d M (zargs 0 [vr (some (p1, 19, 0)), vi s0, vr none, vr none]) 0 [] (zafter E YX9_member (d + 1) [] 25 3 [vr (some (p2, 19, 0))] Q)) : Z E YX9_member (d + 1) M [] 23 [vi s0, vr (some (p1, 19, 0)), vr (some (p2, 19, 0))] Q := by
  refine z_null dX9_member_23 ?_
  refine z_null dX9_member_24 ?_
  exact z_callI (as := [vi s0, vr none, vr none]) (st := [vr (some (p2, 19, 0))]) dX9_member_25 isX9_338 (Nat.le_refl _) (Nat.le_of_ble_eq_true rfl) (Nat.le_of_ble_eq_true rfl) rfl k
theorem sX9_member_28 {E : zE} {d : Nat} {Q : zO → zM → Prop} (M : zM) (p0 : Nat) (k : Q (.inl (some (vr (some (p0, 19, 0))))) M) : Z E YX9_member (d + 1) M [] 28 [vr (some (p0, 19, 0))] Q := by
  exact z_aret dX9_member_28 rfl rfl k
theorem sX9_member_33 {E : zE} {d : Nat} {Q : zO → zM → Prop} (M : zM) (a0 : Nat) (k : ∃ b1 : Nat, (gr M a0 1) = some (b1, 9, 0) ∧ (Z E YX10_next d M (zargs 0 [vr (some (b1, 9, 0))]) 0 [] (zafter E YX9_member (d + 1) [(0, vr (some (a0, 8, 0)))] 37 3 [] Q))) : Z E YX9_member (d + 1) M [(0, vr (some (a0, 8, 0)))] 33 [] Q := by
  refine z_aload_n dX9_member_33 rfl rfl ?_
  refine z_getr (r := (gr M a0 1)) dX9_member_34 fsX9_27_8 rfl ?_
  obtain ⟨b1, e1_, k⟩ := k
  refine Z.eqs (lv' := [(0, vr (some (a0, 8, 0)))]) (st' := [vr (some (b1, 9, 0))]) rfl (by rw [e1_] <;> rfl) ?_
  exact z_callV (as := []) (st := []) dX9_member_37 vsX9_52_9 (Nat.le_refl _) (Nat.le_of_ble_eq_true rfl) (Nat.le_of_ble_eq_true rfl) rfl k
theorem sX9_member_40 {E : zE} {d : Nat} {Q : zO → zM → Prop} (M : zM) (a0 : Nat) (k : Z E YX9_expression d M (zargs 0 [vr (some (a0, 8, 0)), vi (1 : Int32)]) 0 [] (zafter E YX9_member (d + 1) [(0, vr (some (a0, 8, 0)))] 42 3 [] Q)) : Z E YX9_member (d + 1) M [(0, vr (some (a0, 8, 0)))] 40 [] Q := by
  refine z_aload_n dX9_member_40 rfl rfl ?_
  refine z_iconst (v := 1) dX9_member_41 rfl ?_
  exact z_callV (as := [vi (1 : Int32)]) (st := []) dX9_member_42 vsX9_145_8 (Nat.le_refl _) (Nat.le_of_ble_eq_true rfl) (Nat.le_of_ble_eq_true rfl) rfl k
theorem sX9_member_45 {E : zE} {d : Nat} {Q : zO → zM → Prop} (M : zM) (a0 : Nat) (u0 : Option zP) (k : ∃ b1 : Nat, (gr M a0 1) = some (b1, 9, 0) ∧ (Z E YX10_need d M (zargs 0 [vr (some (b1, 9, 0)), vi (5 : Int32)]) 0 [] (zafter E YX9_member (d + 1) [(0, vr (some (a0, 8, 0))), (1, vr u0)] 51 3 [] Q))) : Z E YX9_member (d + 1) M [(0, vr (some (a0, 8, 0)))] 45 [vr u0] Q := by
  refine z_ast_n dX9_member_45 rfl (by decide) (lv' := [(0, vr (some (a0, 8, 0))), (1, vr u0)]) rfl ?_
  refine z_aload_n dX9_member_46 rfl rfl ?_
  refine z_getr (r := (gr M a0 1)) dX9_member_47 fsX9_27_8 rfl ?_
  refine z_iconst (v := 5) dX9_member_50 rfl ?_
  obtain ⟨b1, e1_, k⟩ := k
  refine Z.eqs (lv' := [(0, vr (some (a0, 8, 0))), (1, vr u0)]) (st' := [vi (5 : Int32), vr (some (b1, 9, 0))]) rfl (by rw [e1_] <;> rfl) ?_
  exact z_callV (as := [vi (5 : Int32)]) (st := []) dX9_member_51 vsX9_108_9 (Nat.le_refl _) (Nat.le_of_ble_eq_true rfl) (Nat.le_of_ble_eq_true rfl) rfl k
theorem sX9_member_54 {E : zE} {d : Nat} {Q : zO → zM → Prop} (M : zM) (a0 : Nat) (r1 : Option zP) (k : 16 ≤ a0 ∧ (Z E YX9_member (d + 1) (zn (si M a0 4 ((gi M a0 4) - (1 : Int32))) 3) [(1, vr r1)] 67 [vr (some ((zsz M), 19, 0))] Q)) : Z E YX9_member (d + 1) M [(0, vr (some (a0, 8, 0))), (1, vr r1)] 54 [] Q := by
  refine z_aload_n dX9_member_54 rfl rfl ?_
  refine z_dup dX9_member_55 rfl ?_
  refine z_geti dX9_member_56 fsX9_31_8 ?_
  refine z_iconst (v := 1) dX9_member_59 rfl ?_
  refine z_isub dX9_member_60 ?_
  obtain ⟨g_, k⟩ := k
  refine z_puti g_ dX9_member_61 (zfwN.w fwX9_31_8) rfl ⟨rfl, rfl⟩ ?_
  refine z_new dX9_member_64 csX9_332 zff_19 ?_
  refine Z.pick [1] rfl ?_
  exact k
theorem sX9_member_67 {E : zE} {d : Nat} {Q : zO → zM → Prop} (M : zM) (r1 : Option zP) (p0 : Nat) (k : Z E YX25_init d M (zargs 0 [vr (some (p0, 19, 0)), vi (-1 : Int32), vr r1, vr none]) 0 [] (zafter E YX9_member (d + 1) [] 71 3 [vr (some (p0, 19, 0))] Q)) : Z E YX9_member (d + 1) M [(1, vr r1)] 67 [vr (some (p0, 19, 0))] Q := by
  refine z_dup dX9_member_67 rfl ?_
  refine z_iconst (v := -1) dX9_member_68 rfl ?_
  refine z_aload_n dX9_member_69 rfl rfl ?_
  refine z_null dX9_member_70 ?_
  refine Z.pick [] rfl ?_
  exact z_callI (as := [vi (-1 : Int32), vr r1, vr none]) (st := [vr (some (p0, 19, 0))]) dX9_member_71 isX9_338 (Nat.le_refl _) (Nat.le_of_ble_eq_true rfl) (Nat.le_of_ble_eq_true rfl) rfl k
theorem sX9_member_74 {E : zE} {d : Nat} {Q : zO → zM → Prop} (M : zM) (p0 : Nat) (k : Q (.inl (some (vr (some (p0, 19, 0))))) M) : Z E YX9_member (d + 1) M [] 74 [vr (some (p0, 19, 0))] Q := by
  exact z_aret dX9_member_74 rfl rfl k
/-! ScriptTypes$Parser.arguments()Ljava/util/ArrayList; -/
theorem bX9_arguments_0 : zdec cX9_arguments 0 [(0, .new 9, 3), (3, .dup, 1), (4, .invokespecial 11, 3), (7, .astore_n 1, 1), (8, .aload_n 0, 1), (9, .invokevirtual 72, 3), (12, .aload_n 0, 1), (13, .getfield 27, 3), (16, .invokevirtual 52, 3), (19, .aload_n 0, 1), (20, .getfield 27, 3), (23, .iconst 3, 1), (24, .invokevirtual 111, 3), (27, .ifCond .ne 63, 3), (30, .aload_n 1, 1), (31, .aload_n 0, 1)] = true := by decide +kernel
theorem dX9_arguments_0 : decode cX9_arguments 0 = .ok (.new 9, 3) := zdec_at bX9_arguments_0 0 rfl
theorem dX9_arguments_3 : decode cX9_arguments 3 = .ok (.dup, 1) := zdec_at bX9_arguments_0 1 rfl
theorem dX9_arguments_4 : decode cX9_arguments 4 = .ok (.invokespecial 11, 3) := zdec_at bX9_arguments_0 2 rfl
theorem dX9_arguments_7 : decode cX9_arguments 7 = .ok (.astore_n 1, 1) := zdec_at bX9_arguments_0 3 rfl
theorem dX9_arguments_8 : decode cX9_arguments 8 = .ok (.aload_n 0, 1) := zdec_at bX9_arguments_0 4 rfl
theorem dX9_arguments_9 : decode cX9_arguments 9 = .ok (.invokevirtual 72, 3) := zdec_at bX9_arguments_0 5 rfl
theorem dX9_arguments_12 : decode cX9_arguments 12 = .ok (.aload_n 0, 1) := zdec_at bX9_arguments_0 6 rfl
theorem dX9_arguments_13 : decode cX9_arguments 13 = .ok (.getfield 27, 3) := zdec_at bX9_arguments_0 7 rfl
theorem dX9_arguments_16 : decode cX9_arguments 16 = .ok (.invokevirtual 52, 3) := zdec_at bX9_arguments_0 8 rfl
theorem dX9_arguments_19 : decode cX9_arguments 19 = .ok (.aload_n 0, 1) := zdec_at bX9_arguments_0 9 rfl
theorem dX9_arguments_20 : decode cX9_arguments 20 = .ok (.getfield 27, 3) := zdec_at bX9_arguments_0 10 rfl
theorem dX9_arguments_23 : decode cX9_arguments 23 = .ok (.iconst 3, 1) := zdec_at bX9_arguments_0 11 rfl
theorem dX9_arguments_24 : decode cX9_arguments 24 = .ok (.invokevirtual 111, 3) := zdec_at bX9_arguments_0 12 rfl
theorem dX9_arguments_27 : decode cX9_arguments 27 = .ok (.ifCond .ne 63, 3) := zdec_at bX9_arguments_0 13 rfl
theorem dX9_arguments_30 : decode cX9_arguments 30 = .ok (.aload_n 1, 1) := zdec_at bX9_arguments_0 14 rfl
theorem dX9_arguments_31 : decode cX9_arguments 31 = .ok (.aload_n 0, 1) := zdec_at bX9_arguments_0 15 rfl
theorem bX9_arguments_32 : zdec cX9_arguments 32 [(32, .iconst 1, 1), (33, .invokevirtual 257, 3), (36, .invokevirtual 48, 3), (39, .pop, 1), (40, .aload_n 0, 1), (41, .getfield 27, 3), (44, .bipush 8, 2), (46, .invokevirtual 111, 3), (49, .ifCond .eq 41, 3), (52, .aload_n 1, 1), (53, .invokevirtual 99, 3), (56, .bipush 8, 2), (58, .if_icmp .ne 12, 3), (61, .aload_n 0, 1), (62, .getfield 27, 3), (65, .iconst 2, 1)] = true := by decide +kernel
theorem dX9_arguments_32 : decode cX9_arguments 32 = .ok (.iconst 1, 1) := zdec_at bX9_arguments_32 0 rfl
theorem dX9_arguments_33 : decode cX9_arguments 33 = .ok (.invokevirtual 257, 3) := zdec_at bX9_arguments_32 1 rfl
theorem dX9_arguments_36 : decode cX9_arguments 36 = .ok (.invokevirtual 48, 3) := zdec_at bX9_arguments_32 2 rfl
theorem dX9_arguments_39 : decode cX9_arguments 39 = .ok (.pop, 1) := zdec_at bX9_arguments_32 3 rfl
theorem dX9_arguments_40 : decode cX9_arguments 40 = .ok (.aload_n 0, 1) := zdec_at bX9_arguments_32 4 rfl
theorem dX9_arguments_41 : decode cX9_arguments 41 = .ok (.getfield 27, 3) := zdec_at bX9_arguments_32 5 rfl
theorem dX9_arguments_44 : decode cX9_arguments 44 = .ok (.bipush 8, 2) := zdec_at bX9_arguments_32 6 rfl
theorem dX9_arguments_46 : decode cX9_arguments 46 = .ok (.invokevirtual 111, 3) := zdec_at bX9_arguments_32 7 rfl
theorem dX9_arguments_49 : decode cX9_arguments 49 = .ok (.ifCond .eq 41, 3) := zdec_at bX9_arguments_32 8 rfl
theorem dX9_arguments_52 : decode cX9_arguments 52 = .ok (.aload_n 1, 1) := zdec_at bX9_arguments_32 9 rfl
theorem dX9_arguments_53 : decode cX9_arguments 53 = .ok (.invokevirtual 99, 3) := zdec_at bX9_arguments_32 10 rfl
theorem dX9_arguments_56 : decode cX9_arguments 56 = .ok (.bipush 8, 2) := zdec_at bX9_arguments_32 11 rfl
theorem dX9_arguments_58 : decode cX9_arguments 58 = .ok (.if_icmp .ne 12, 3) := zdec_at bX9_arguments_32 12 rfl
theorem dX9_arguments_61 : decode cX9_arguments 61 = .ok (.aload_n 0, 1) := zdec_at bX9_arguments_32 13 rfl
theorem dX9_arguments_62 : decode cX9_arguments 62 = .ok (.getfield 27, 3) := zdec_at bX9_arguments_32 14 rfl
theorem dX9_arguments_65 : decode cX9_arguments 65 = .ok (.iconst 2, 1) := zdec_at bX9_arguments_32 15 rfl
theorem bX9_arguments_66 : zdec cX9_arguments 66 [(66, .invokevirtual 35, 3), (69, .athrow, 1), (70, .aload_n 0, 1), (71, .getfield 27, 3), (74, .invokevirtual 52, 3), (77, .aload_n 1, 1), (78, .aload_n 0, 1), (79, .iconst 1, 1), (80, .invokevirtual 257, 3), (83, .invokevirtual 48, 3), (86, .pop, 1), (87, .goto (-47), 3), (90, .aload_n 0, 1), (91, .getfield 27, 3), (94, .iconst 3, 1), (95, .invokevirtual 108, 3)] = true := by decide +kernel
theorem dX9_arguments_66 : decode cX9_arguments 66 = .ok (.invokevirtual 35, 3) := zdec_at bX9_arguments_66 0 rfl
theorem dX9_arguments_69 : decode cX9_arguments 69 = .ok (.athrow, 1) := zdec_at bX9_arguments_66 1 rfl
theorem dX9_arguments_70 : decode cX9_arguments 70 = .ok (.aload_n 0, 1) := zdec_at bX9_arguments_66 2 rfl
theorem dX9_arguments_71 : decode cX9_arguments 71 = .ok (.getfield 27, 3) := zdec_at bX9_arguments_66 3 rfl
theorem dX9_arguments_74 : decode cX9_arguments 74 = .ok (.invokevirtual 52, 3) := zdec_at bX9_arguments_66 4 rfl
theorem dX9_arguments_77 : decode cX9_arguments 77 = .ok (.aload_n 1, 1) := zdec_at bX9_arguments_66 5 rfl
theorem dX9_arguments_78 : decode cX9_arguments 78 = .ok (.aload_n 0, 1) := zdec_at bX9_arguments_66 6 rfl
theorem dX9_arguments_79 : decode cX9_arguments 79 = .ok (.iconst 1, 1) := zdec_at bX9_arguments_66 7 rfl
theorem dX9_arguments_80 : decode cX9_arguments 80 = .ok (.invokevirtual 257, 3) := zdec_at bX9_arguments_66 8 rfl
theorem dX9_arguments_83 : decode cX9_arguments 83 = .ok (.invokevirtual 48, 3) := zdec_at bX9_arguments_66 9 rfl
theorem dX9_arguments_86 : decode cX9_arguments 86 = .ok (.pop, 1) := zdec_at bX9_arguments_66 10 rfl
theorem dX9_arguments_87 : decode cX9_arguments 87 = .ok (.goto (-47), 3) := zdec_at bX9_arguments_66 11 rfl
theorem dX9_arguments_90 : decode cX9_arguments 90 = .ok (.aload_n 0, 1) := zdec_at bX9_arguments_66 12 rfl
theorem dX9_arguments_91 : decode cX9_arguments 91 = .ok (.getfield 27, 3) := zdec_at bX9_arguments_66 13 rfl
theorem dX9_arguments_94 : decode cX9_arguments 94 = .ok (.iconst 3, 1) := zdec_at bX9_arguments_66 14 rfl
theorem dX9_arguments_95 : decode cX9_arguments 95 = .ok (.invokevirtual 108, 3) := zdec_at bX9_arguments_66 15 rfl
theorem bX9_arguments_98 : zdec cX9_arguments 98 [(98, .aload_n 0, 1), (99, .dup, 1), (100, .getfield 31, 3), (103, .iconst 1, 1), (104, .isub, 1), (105, .putfield 31, 3), (108, .aload_n 1, 1), (109, .areturn, 1)] = true := by decide +kernel
theorem dX9_arguments_98 : decode cX9_arguments 98 = .ok (.aload_n 0, 1) := zdec_at bX9_arguments_98 0 rfl
theorem dX9_arguments_99 : decode cX9_arguments 99 = .ok (.dup, 1) := zdec_at bX9_arguments_98 1 rfl
theorem dX9_arguments_100 : decode cX9_arguments 100 = .ok (.getfield 31, 3) := zdec_at bX9_arguments_98 2 rfl
theorem dX9_arguments_103 : decode cX9_arguments 103 = .ok (.iconst 1, 1) := zdec_at bX9_arguments_98 3 rfl
theorem dX9_arguments_104 : decode cX9_arguments 104 = .ok (.isub, 1) := zdec_at bX9_arguments_98 4 rfl
theorem dX9_arguments_105 : decode cX9_arguments 105 = .ok (.putfield 31, 3) := zdec_at bX9_arguments_98 5 rfl
theorem dX9_arguments_108 : decode cX9_arguments 108 = .ok (.aload_n 1, 1) := zdec_at bX9_arguments_98 6 rfl
theorem dX9_arguments_109 : decode cX9_arguments 109 = .ok (.areturn, 1) := zdec_at bX9_arguments_98 7 rfl
theorem sX9_arguments_0 {E : zE} {d : Nat} {Q : zO → zM → Prop} (M : zM) (a0 : Nat) (k : Z E YX9_arguments (d + 1) (zn M 3) [(0, vr (some (a0, 8, 0)))] 3 [vr (some ((zsz M), 11, 0))] Q) : Z E YX9_arguments (d + 1) M [(0, vr (some (a0, 8, 0)))] 0 [] Q := by
  refine z_new dX9_arguments_0 csX9_9 zff_11 ?_
  exact k
theorem sX9_arguments_3 {E : zE} {d : Nat} {Q : zO → zM → Prop} (M : zM) (a0 : Nat) (p0 : Nat) (k : Z E YJ2_init d M (zargs 0 [vr (some (p0, 11, 0))]) 0 [] (zafter E YX9_arguments (d + 1) [(0, vr (some (a0, 8, 0)))] 4 3 [vr (some (p0, 11, 0))] Q)) : Z E YX9_arguments (d + 1) M [(0, vr (some (a0, 8, 0)))] 3 [vr (some (p0, 11, 0))] Q := by
  refine z_dup dX9_arguments_3 rfl ?_
  exact z_callI (as := []) (st := [vr (some (p0, 11, 0))]) dX9_arguments_4 isX9_11 (Nat.le_refl _) (Nat.le_of_ble_eq_true rfl) (Nat.le_of_ble_eq_true rfl) rfl k
theorem sX9_arguments_7 {E : zE} {d : Nat} {Q : zO → zM → Prop} (M : zM) (a0 : Nat) (p0 : Nat) (k : Z E YX9_opens d M (zargs 0 [vr (some (a0, 8, 0))]) 0 [] (zafter E YX9_arguments (d + 1) [(0, vr (some (a0, 8, 0))), (1, vr (some (p0, 11, 0)))] 9 3 [] Q)) : Z E YX9_arguments (d + 1) M [(0, vr (some (a0, 8, 0)))] 7 [vr (some (p0, 11, 0))] Q := by
  refine z_ast_n dX9_arguments_7 rfl (by decide) (lv' := [(0, vr (some (a0, 8, 0))), (1, vr (some (p0, 11, 0)))]) rfl ?_
  refine z_aload_n dX9_arguments_8 rfl rfl ?_
  exact z_callV (as := []) (st := []) dX9_arguments_9 vsX9_72_8 (Nat.le_refl _) (Nat.le_of_ble_eq_true rfl) (Nat.le_of_ble_eq_true rfl) rfl k
theorem sX9_arguments_12 {E : zE} {d : Nat} {Q : zO → zM → Prop} (M : zM) (a0 : Nat) (a1 : Nat) (k : ∃ b1 : Nat, (gr M a0 1) = some (b1, 9, 0) ∧ (Z E YX10_next d M (zargs 0 [vr (some (b1, 9, 0))]) 0 [] (zafter E YX9_arguments (d + 1) [(0, vr (some (a0, 8, 0))), (1, vr (some (a1, 11, 0)))] 16 3 [] Q))) : Z E YX9_arguments (d + 1) M [(0, vr (some (a0, 8, 0))), (1, vr (some (a1, 11, 0)))] 12 [] Q := by
  refine z_aload_n dX9_arguments_12 rfl rfl ?_
  refine z_getr (r := (gr M a0 1)) dX9_arguments_13 fsX9_27_8 rfl ?_
  obtain ⟨b1, e1_, k⟩ := k
  refine Z.eqs (lv' := [(0, vr (some (a0, 8, 0))), (1, vr (some (a1, 11, 0)))]) (st' := [vr (some (b1, 9, 0))]) rfl (by rw [e1_] <;> rfl) ?_
  exact z_callV (as := []) (st := []) dX9_arguments_16 vsX9_52_9 (Nat.le_refl _) (Nat.le_of_ble_eq_true rfl) (Nat.le_of_ble_eq_true rfl) rfl k
theorem sX9_arguments_19 {E : zE} {d : Nat} {Q : zO → zM → Prop} (M : zM) (a0 : Nat) (a1 : Nat) (k : ∃ b1 : Nat, (gr M a0 1) = some (b1, 9, 0) ∧ (Z E YX10_is d M (zargs 0 [vr (some (b1, 9, 0)), vi (3 : Int32)]) 0 [] (zafter E YX9_arguments (d + 1) [(0, vr (some (a0, 8, 0))), (1, vr (some (a1, 11, 0)))] 24 3 [] Q))) : Z E YX9_arguments (d + 1) M [(0, vr (some (a0, 8, 0))), (1, vr (some (a1, 11, 0)))] 19 [] Q := by
  refine z_aload_n dX9_arguments_19 rfl rfl ?_
  refine z_getr (r := (gr M a0 1)) dX9_arguments_20 fsX9_27_8 rfl ?_
  refine z_iconst (v := 3) dX9_arguments_23 rfl ?_
  obtain ⟨b1, e1_, k⟩ := k
  refine Z.eqs (lv' := [(0, vr (some (a0, 8, 0))), (1, vr (some (a1, 11, 0)))]) (st' := [vi (3 : Int32), vr (some (b1, 9, 0))]) rfl (by rw [e1_] <;> rfl) ?_
  exact z_callV (as := [vi (3 : Int32)]) (st := []) dX9_arguments_24 vsX9_111_9 (Nat.le_refl _) (Nat.le_of_ble_eq_true rfl) (Nat.le_of_ble_eq_true rfl) rfl k
theorem sX9_arguments_27 {E : zE} {d : Nat} {Q : zO → zM → Prop} (M : zM) (a0 : Nat) (a1 : Nat) (s0 : Int32) (k : if s0 = 0 then (Z E YX9_assignment d M (zargs 0 [vr (some (a0, 8, 0)), vi (1 : Int32)]) 0 [] (zafter E YX9_arguments (d + 1) [(0, vr (some (a0, 8, 0))), (1, vr (some (a1, 11, 0)))] 33 3 [vr (some (a1, 11, 0))] Q)) else (∃ b1 : Nat, (gr M a0 1) = some (b1, 9, 0) ∧ (Z E YX10_need d M (zargs 0 [vr (some (b1, 9, 0)), vi (3 : Int32)]) 0 [] (zafter E YX9_arguments (d + 1) [(0, vr (some (a0, 8, 0))), (1, vr (some (a1, 11, 0)))] 95 3 [] Q)))) : Z E YX9_arguments (d + 1) M [(0, vr (some (a0, 8, 0))), (1, vr (some (a1, 11, 0)))] 27 [vi s0] Q := by
  refine z_if_ne (tgt := 90) dX9_arguments_27 rfl (fun h_ => ?_) (fun h_ => ?_)
  · have k := zif h_ k
    refine z_aload_n dX9_arguments_90 rfl rfl ?_
    refine z_getr (r := (gr M a0 1)) dX9_arguments_91 fsX9_27_8 rfl ?_
    refine z_iconst (v := 3) dX9_arguments_94 rfl ?_
    obtain ⟨b1, e1_, k⟩ := k
    refine Z.eqs (lv' := [(0, vr (some (a0, 8, 0))), (1, vr (some (a1, 11, 0)))]) (st' := [vi (3 : Int32), vr (some (b1, 9, 0))]) rfl (by rw [e1_] <;> rfl) ?_
    exact z_callV (as := [vi (3 : Int32)]) (st := []) dX9_arguments_95 vsX9_108_9 (Nat.le_refl _) (Nat.le_of_ble_eq_true rfl) (Nat.le_of_ble_eq_true rfl) rfl k
  · have k := zit h_ k
    refine z_aload_n dX9_arguments_30 rfl rfl ?_
    refine z_aload_n dX9_arguments_31 rfl rfl ?_
    refine z_iconst (v := 1) dX9_arguments_32 rfl ?_
    exact z_callV (as := [vi (1 : Int32)]) (st := [vr (some (a1, 11, 0))]) dX9_arguments_33 vsX9_257_8 (Nat.le_refl _) (Nat.le_of_ble_eq_true rfl) (Nat.le_of_ble_eq_true rfl) rfl k
theorem sX9_arguments_36 {E : zE} {d : Nat} {Q : zO → zM → Prop} (M : zM) (a0 : Nat) (a1 : Nat) (u0 : Option zP) (p1 : Nat) (k : Z E YJ2_add d M (zargs 0 [vr (some (p1, 11, 0)), vr u0]) 0 [] (zafter E YX9_arguments (d + 1) [(0, vr (some (a0, 8, 0))), (1, vr (some (a1, 11, 0)))] 36 3 [] Q)) : Z E YX9_arguments (d + 1) M [(0, vr (some (a0, 8, 0))), (1, vr (some (a1, 11, 0)))] 36 [vr u0, vr (some (p1, 11, 0))] Q := by
  exact z_callV (as := [vr u0]) (st := []) dX9_arguments_36 vsX9_48_11 (Nat.le_refl _) (Nat.le_of_ble_eq_true rfl) (Nat.le_of_ble_eq_true rfl) rfl k
theorem sX9_arguments_39 {E : zE} {d : Nat} {Q : zO → zM → Prop} (M : zM) (a0 : Nat) (a1 : Nat) (s0 : Int32) (k : Z E YX9_arguments (d + 1) M [(0, vr (some (a0, 8, 0))), (1, vr (some (a1, 11, 0)))] 40 [] Q) : Z E YX9_arguments (d + 1) M [(0, vr (some (a0, 8, 0))), (1, vr (some (a1, 11, 0)))] 39 [vi s0] Q := by
  refine z_pop dX9_arguments_39 rfl ?_
  exact k
theorem sX9_arguments_40 {E : zE} {d : Nat} {Q : zO → zM → Prop} (M : zM) (a0 : Nat) (a1 : Nat) (k : ∃ b1 : Nat, (gr M a0 1) = some (b1, 9, 0) ∧ (Z E YX10_is d M (zargs 0 [vr (some (b1, 9, 0)), vi (8 : Int32)]) 0 [] (zafter E YX9_arguments (d + 1) [(0, vr (some (a0, 8, 0))), (1, vr (some (a1, 11, 0)))] 46 3 [] Q))) : Z E YX9_arguments (d + 1) M [(0, vr (some (a0, 8, 0))), (1, vr (some (a1, 11, 0)))] 40 [] Q := by
  refine z_aload_n dX9_arguments_40 rfl rfl ?_
  refine z_getr (r := (gr M a0 1)) dX9_arguments_41 fsX9_27_8 rfl ?_
  refine z_bipush (v := 8) dX9_arguments_44 rfl ?_
  obtain ⟨b1, e1_, k⟩ := k
  refine Z.eqs (lv' := [(0, vr (some (a0, 8, 0))), (1, vr (some (a1, 11, 0)))]) (st' := [vi (8 : Int32), vr (some (b1, 9, 0))]) rfl (by rw [e1_] <;> rfl) ?_
  exact z_callV (as := [vi (8 : Int32)]) (st := []) dX9_arguments_46 vsX9_111_9 (Nat.le_refl _) (Nat.le_of_ble_eq_true rfl) (Nat.le_of_ble_eq_true rfl) rfl k
theorem sX9_arguments_49 {E : zE} {d : Nat} {Q : zO → zM → Prop} (M : zM) (a0 : Nat) (a1 : Nat) (s0 : Int32) (k : if s0 = 0 then (∃ b1 : Nat, (gr M a0 1) = some (b1, 9, 0) ∧ (Z E YX10_need d M (zargs 0 [vr (some (b1, 9, 0)), vi (3 : Int32)]) 0 [] (zafter E YX9_arguments (d + 1) [(0, vr (some (a0, 8, 0))), (1, vr (some (a1, 11, 0)))] 95 3 [] Q))) else (Z E YJ2_size d M (zargs 0 [vr (some (a1, 11, 0))]) 0 [] (zafter E YX9_arguments (d + 1) [(0, vr (some (a0, 8, 0))), (1, vr (some (a1, 11, 0)))] 53 3 [] Q))) : Z E YX9_arguments (d + 1) M [(0, vr (some (a0, 8, 0))), (1, vr (some (a1, 11, 0)))] 49 [vi s0] Q := by
  refine z_if_eq (tgt := 90) dX9_arguments_49 rfl (fun h_ => ?_) (fun h_ => ?_)
  · have k := zit h_ k
    refine z_aload_n dX9_arguments_90 rfl rfl ?_
    refine z_getr (r := (gr M a0 1)) dX9_arguments_91 fsX9_27_8 rfl ?_
    refine z_iconst (v := 3) dX9_arguments_94 rfl ?_
    obtain ⟨b1, e1_, k⟩ := k
    refine Z.eqs (lv' := [(0, vr (some (a0, 8, 0))), (1, vr (some (a1, 11, 0)))]) (st' := [vi (3 : Int32), vr (some (b1, 9, 0))]) rfl (by rw [e1_] <;> rfl) ?_
    exact z_callV (as := [vi (3 : Int32)]) (st := []) dX9_arguments_95 vsX9_108_9 (Nat.le_refl _) (Nat.le_of_ble_eq_true rfl) (Nat.le_of_ble_eq_true rfl) rfl k
  · have k := zif h_ k
    refine z_aload_n dX9_arguments_52 rfl rfl ?_
    exact z_callV (as := []) (st := []) dX9_arguments_53 vsX9_99_11 (Nat.le_refl _) (Nat.le_of_ble_eq_true rfl) (Nat.le_of_ble_eq_true rfl) rfl k
theorem sX9_arguments_56 {E : zE} {d : Nat} {Q : zO → zM → Prop} (M : zM) (a0 : Nat) (a1 : Nat) (s0 : Int32) (k : if s0 = (8 : Int32) then (∃ b1 : Nat, (gr M a0 1) = some (b1, 9, 0) ∧ (Z E YX10_fault d M (zargs 0 [vr (some (b1, 9, 0)), vi (2 : Int32)]) 0 [] (zafter E YX9_arguments (d + 1) [] 66 3 [] Q))) else (∃ b1 : Nat, (gr M a0 1) = some (b1, 9, 0) ∧ (Z E YX10_next d M (zargs 0 [vr (some (b1, 9, 0))]) 0 [] (zafter E YX9_arguments (d + 1) [(0, vr (some (a0, 8, 0))), (1, vr (some (a1, 11, 0)))] 74 3 [] Q)))) : Z E YX9_arguments (d + 1) M [(0, vr (some (a0, 8, 0))), (1, vr (some (a1, 11, 0)))] 56 [vi s0] Q := by
  refine z_bipush (v := 8) dX9_arguments_56 rfl ?_
  refine z_icmp_ne (tgt := 70) dX9_arguments_58 rfl (fun h_ => ?_) (fun h_ => ?_)
  · have k := zif h_ k
    refine z_aload_n dX9_arguments_70 rfl rfl ?_
    refine z_getr (r := (gr M a0 1)) dX9_arguments_71 fsX9_27_8 rfl ?_
    obtain ⟨b1, e1_, k⟩ := k
    refine Z.eqs (lv' := [(0, vr (some (a0, 8, 0))), (1, vr (some (a1, 11, 0)))]) (st' := [vr (some (b1, 9, 0))]) rfl (by rw [e1_] <;> rfl) ?_
    exact z_callV (as := []) (st := []) dX9_arguments_74 vsX9_52_9 (Nat.le_refl _) (Nat.le_of_ble_eq_true rfl) (Nat.le_of_ble_eq_true rfl) rfl k
  · have k := zit h_ k
    refine z_aload_n dX9_arguments_61 rfl rfl ?_
    refine z_getr (r := (gr M a0 1)) dX9_arguments_62 fsX9_27_8 rfl ?_
    refine z_iconst (v := 2) dX9_arguments_65 rfl ?_
    obtain ⟨b1, e1_, k⟩ := k
    refine Z.eqs (lv' := [(0, vr (some (a0, 8, 0))), (1, vr (some (a1, 11, 0)))]) (st' := [vi (2 : Int32), vr (some (b1, 9, 0))]) rfl (by rw [e1_] <;> rfl) ?_
    refine Z.pick [] rfl ?_
    exact z_callV (as := [vi (2 : Int32)]) (st := []) dX9_arguments_66 vsX9_35_9 (Nat.le_refl _) (Nat.le_of_ble_eq_true rfl) (Nat.le_of_ble_eq_true rfl) rfl k
theorem sX9_arguments_69 {E : zE} {d : Nat} {Q : zO → zM → Prop} (M : zM) (u0 : Option zP) (k : ∃ b1 : Nat, u0 = some (b1, 12, 0) ∧ (Q (.inr (b1, 12, 0)) M)) : Z E YX9_arguments (d + 1) M [] 69 [vr u0] Q := by
  obtain ⟨b1, e1_, k⟩ := k
  refine Z.eqs (lv' := []) (st' := [vr (some (b1, 12, 0))]) rfl (by rw [e1_] <;> rfl) ?_
  exact z_athrow dX9_arguments_69 (ZT.out (by decide) k)
theorem sX9_arguments_77 {E : zE} {d : Nat} {Q : zO → zM → Prop} (M : zM) (a0 : Nat) (a1 : Nat) (k : Z E YX9_assignment d M (zargs 0 [vr (some (a0, 8, 0)), vi (1 : Int32)]) 0 [] (zafter E YX9_arguments (d + 1) [(0, vr (some (a0, 8, 0))), (1, vr (some (a1, 11, 0)))] 80 3 [vr (some (a1, 11, 0))] Q)) : Z E YX9_arguments (d + 1) M [(0, vr (some (a0, 8, 0))), (1, vr (some (a1, 11, 0)))] 77 [] Q := by
  refine z_aload_n dX9_arguments_77 rfl rfl ?_
  refine z_aload_n dX9_arguments_78 rfl rfl ?_
  refine z_iconst (v := 1) dX9_arguments_79 rfl ?_
  exact z_callV (as := [vi (1 : Int32)]) (st := [vr (some (a1, 11, 0))]) dX9_arguments_80 vsX9_257_8 (Nat.le_refl _) (Nat.le_of_ble_eq_true rfl) (Nat.le_of_ble_eq_true rfl) rfl k
theorem sX9_arguments_83 {E : zE} {d : Nat} {Q : zO → zM → Prop} (M : zM) (a0 : Nat) (a1 : Nat) (u0 : Option zP) (p1 : Nat) (k : Z E YJ2_add d M (zargs 0 [vr (some (p1, 11, 0)), vr u0]) 0 [] (zafter E YX9_arguments (d + 1) [(0, vr (some (a0, 8, 0))), (1, vr (some (a1, 11, 0)))] 83 3 [] Q)) : Z E YX9_arguments (d + 1) M [(0, vr (some (a0, 8, 0))), (1, vr (some (a1, 11, 0)))] 83 [vr u0, vr (some (p1, 11, 0))] Q := by
  exact z_callV (as := [vr u0]) (st := []) dX9_arguments_83 vsX9_48_11 (Nat.le_refl _) (Nat.le_of_ble_eq_true rfl) (Nat.le_of_ble_eq_true rfl) rfl k
theorem sX9_arguments_86 {E : zE} {d : Nat} {Q : zO → zM → Prop} (M : zM) (a0 : Nat) (a1 : Nat) (s0 : Int32) (k : Z E YX9_arguments (d + 1) M [(0, vr (some (a0, 8, 0))), (1, vr (some (a1, 11, 0)))] 40 [] Q) : Z E YX9_arguments (d + 1) M [(0, vr (some (a0, 8, 0))), (1, vr (some (a1, 11, 0)))] 86 [vi s0] Q := by
  refine z_pop dX9_arguments_86 rfl ?_
  refine z_goto (tgt := 40) dX9_arguments_87 rfl ?_
  exact k
theorem sX9_arguments_98 {E : zE} {d : Nat} {Q : zO → zM → Prop} (M : zM) (a0 : Nat) (a1 : Nat) (k : 16 ≤ a0 ∧ (Q (.inl (some (vr (some (a1, 11, 0))))) (si M a0 4 ((gi M a0 4) - (1 : Int32))))) : Z E YX9_arguments (d + 1) M [(0, vr (some (a0, 8, 0))), (1, vr (some (a1, 11, 0)))] 98 [] Q := by
  refine z_aload_n dX9_arguments_98 rfl rfl ?_
  refine z_dup dX9_arguments_99 rfl ?_
  refine z_geti dX9_arguments_100 fsX9_31_8 ?_
  refine z_iconst (v := 1) dX9_arguments_103 rfl ?_
  refine z_isub dX9_arguments_104 ?_
  obtain ⟨g_, k⟩ := k
  refine z_puti g_ dX9_arguments_105 (zfwN.w fwX9_31_8) rfl ⟨rfl, rfl⟩ ?_
  refine z_aload_n dX9_arguments_108 rfl rfl ?_
  exact z_aret dX9_arguments_109 rfl rfl k
/-! ScriptTypes$Parser.strength(Z)I -/
theorem bX9_strength_0 : zdec cX9_strength 0 [(0, .aload_n 0, 1), (1, .getfield 27, 3), (4, .bipush 13, 2), (6, .invokevirtual 61, 3), (9, .ifCond .ne 15, 3), (12, .aload_n 0, 1), (13, .getfield 27, 3), (16, .bipush 14, 2), (18, .invokevirtual 61, 3), (21, .ifCond .eq 49, 3), (24, .aload_n 0, 1), (25, .aload_n 0, 1), (26, .getfield 27, 3), (29, .getfield 114, 3), (32, .bipush 13, 2), (34, .if_icmp .ne 8, 3)] = true := by decide +kernel
theorem dX9_strength_0 : decode cX9_strength 0 = .ok (.aload_n 0, 1) := zdec_at bX9_strength_0 0 rfl
theorem dX9_strength_1 : decode cX9_strength 1 = .ok (.getfield 27, 3) := zdec_at bX9_strength_0 1 rfl
theorem dX9_strength_4 : decode cX9_strength 4 = .ok (.bipush 13, 2) := zdec_at bX9_strength_0 2 rfl
theorem dX9_strength_6 : decode cX9_strength 6 = .ok (.invokevirtual 61, 3) := zdec_at bX9_strength_0 3 rfl
theorem dX9_strength_9 : decode cX9_strength 9 = .ok (.ifCond .ne 15, 3) := zdec_at bX9_strength_0 4 rfl
theorem dX9_strength_12 : decode cX9_strength 12 = .ok (.aload_n 0, 1) := zdec_at bX9_strength_0 5 rfl
theorem dX9_strength_13 : decode cX9_strength 13 = .ok (.getfield 27, 3) := zdec_at bX9_strength_0 6 rfl
theorem dX9_strength_16 : decode cX9_strength 16 = .ok (.bipush 14, 2) := zdec_at bX9_strength_0 7 rfl
theorem dX9_strength_18 : decode cX9_strength 18 = .ok (.invokevirtual 61, 3) := zdec_at bX9_strength_0 8 rfl
theorem dX9_strength_21 : decode cX9_strength 21 = .ok (.ifCond .eq 49, 3) := zdec_at bX9_strength_0 9 rfl
theorem dX9_strength_24 : decode cX9_strength 24 = .ok (.aload_n 0, 1) := zdec_at bX9_strength_0 10 rfl
theorem dX9_strength_25 : decode cX9_strength 25 = .ok (.aload_n 0, 1) := zdec_at bX9_strength_0 11 rfl
theorem dX9_strength_26 : decode cX9_strength 26 = .ok (.getfield 27, 3) := zdec_at bX9_strength_0 12 rfl
theorem dX9_strength_29 : decode cX9_strength 29 = .ok (.getfield 114, 3) := zdec_at bX9_strength_0 13 rfl
theorem dX9_strength_32 : decode cX9_strength 32 = .ok (.bipush 13, 2) := zdec_at bX9_strength_0 14 rfl
theorem dX9_strength_34 : decode cX9_strength 34 = .ok (.if_icmp .ne 8, 3) := zdec_at bX9_strength_0 15 rfl
theorem bX9_strength_37 : zdec cX9_strength 37 [(37, .bipush 19, 2), (39, .goto 5, 3), (42, .bipush 20, 2), (44, .putfield 280, 3), (47, .iload_n 1, 1), (48, .ifCond .ne 15, 3), (51, .aload_n 0, 1), (52, .getfield 27, 3), (55, .getfield 114, 3), (58, .bipush 14, 2), (60, .if_icmp .ne 8, 3), (63, .bipush 6, 2), (65, .goto 4, 3), (68, .iconst (-1), 1), (69, .ireturn, 1), (70, .aload_n 0, 1)] = true := by decide +kernel
theorem dX9_strength_37 : decode cX9_strength 37 = .ok (.bipush 19, 2) := zdec_at bX9_strength_37 0 rfl
theorem dX9_strength_39 : decode cX9_strength 39 = .ok (.goto 5, 3) := zdec_at bX9_strength_37 1 rfl
theorem dX9_strength_42 : decode cX9_strength 42 = .ok (.bipush 20, 2) := zdec_at bX9_strength_37 2 rfl
theorem dX9_strength_44 : decode cX9_strength 44 = .ok (.putfield 280, 3) := zdec_at bX9_strength_37 3 rfl
theorem dX9_strength_47 : decode cX9_strength 47 = .ok (.iload_n 1, 1) := zdec_at bX9_strength_37 4 rfl
theorem dX9_strength_48 : decode cX9_strength 48 = .ok (.ifCond .ne 15, 3) := zdec_at bX9_strength_37 5 rfl
theorem dX9_strength_51 : decode cX9_strength 51 = .ok (.aload_n 0, 1) := zdec_at bX9_strength_37 6 rfl
theorem dX9_strength_52 : decode cX9_strength 52 = .ok (.getfield 27, 3) := zdec_at bX9_strength_37 7 rfl
theorem dX9_strength_55 : decode cX9_strength 55 = .ok (.getfield 114, 3) := zdec_at bX9_strength_37 8 rfl
theorem dX9_strength_58 : decode cX9_strength 58 = .ok (.bipush 14, 2) := zdec_at bX9_strength_37 9 rfl
theorem dX9_strength_60 : decode cX9_strength 60 = .ok (.if_icmp .ne 8, 3) := zdec_at bX9_strength_37 10 rfl
theorem dX9_strength_63 : decode cX9_strength 63 = .ok (.bipush 6, 2) := zdec_at bX9_strength_37 11 rfl
theorem dX9_strength_65 : decode cX9_strength 65 = .ok (.goto 4, 3) := zdec_at bX9_strength_37 12 rfl
theorem dX9_strength_68 : decode cX9_strength 68 = .ok (.iconst (-1), 1) := zdec_at bX9_strength_37 13 rfl
theorem dX9_strength_69 : decode cX9_strength 69 = .ok (.ireturn, 1) := zdec_at bX9_strength_37 14 rfl
theorem dX9_strength_70 : decode cX9_strength 70 = .ok (.aload_n 0, 1) := zdec_at bX9_strength_37 15 rfl
theorem bX9_strength_71 : zdec cX9_strength 71 [(71, .getfield 27, 3), (74, .getfield 55, 3), (77, .iconst 5, 1), (78, .if_icmp .eq 5, 3), (81, .iconst (-1), 1), (82, .ireturn, 1), (83, .aload_n 0, 1), (84, .getfield 27, 3), (87, .getfield 114, 3)] = true := by decide +kernel
theorem dX9_strength_71 : decode cX9_strength 71 = .ok (.getfield 27, 3) := zdec_at bX9_strength_71 0 rfl
theorem dX9_strength_74 : decode cX9_strength 74 = .ok (.getfield 55, 3) := zdec_at bX9_strength_71 1 rfl
theorem dX9_strength_77 : decode cX9_strength 77 = .ok (.iconst 5, 1) := zdec_at bX9_strength_71 2 rfl
theorem dX9_strength_78 : decode cX9_strength 78 = .ok (.if_icmp .eq 5, 3) := zdec_at bX9_strength_71 3 rfl
theorem dX9_strength_81 : decode cX9_strength 81 = .ok (.iconst (-1), 1) := zdec_at bX9_strength_71 4 rfl
theorem dX9_strength_82 : decode cX9_strength 82 = .ok (.ireturn, 1) := zdec_at bX9_strength_71 5 rfl
theorem dX9_strength_83 : decode cX9_strength 83 = .ok (.aload_n 0, 1) := zdec_at bX9_strength_71 6 rfl
theorem dX9_strength_84 : decode cX9_strength 84 = .ok (.getfield 27, 3) := zdec_at bX9_strength_71 7 rfl
theorem dX9_strength_87 : decode cX9_strength 87 = .ok (.getfield 114, 3) := zdec_at bX9_strength_71 8 rfl
theorem dX9_strength_90 : decode cX9_strength 90 = .ok (.tableswitch 232 9 33 #[157, 157, 157, 157, 142, 142, 142, 142, 191, 191, 208, 216, 224, 232, 232, 174, 174, 174, 134, 118, 126, 232, 232, 116, 114], 114) := by decide +kernel
theorem bX9_strength_204 : zdec cX9_strength 204 [(204, .iconst 0, 1), (205, .ireturn, 1), (206, .iconst 1, 1), (207, .ireturn, 1), (208, .aload_n 0, 1), (209, .bipush 9, 2), (211, .putfield 280, 3), (214, .iconst 2, 1), (215, .ireturn, 1), (216, .aload_n 0, 1), (217, .bipush 10, 2), (219, .putfield 280, 3), (222, .iconst 3, 1), (223, .ireturn, 1), (224, .aload_n 0, 1), (225, .bipush 8, 2)] = true := by decide +kernel
theorem dX9_strength_204 : decode cX9_strength 204 = .ok (.iconst 0, 1) := zdec_at bX9_strength_204 0 rfl
theorem dX9_strength_205 : decode cX9_strength 205 = .ok (.ireturn, 1) := zdec_at bX9_strength_204 1 rfl
theorem dX9_strength_206 : decode cX9_strength 206 = .ok (.iconst 1, 1) := zdec_at bX9_strength_204 2 rfl
theorem dX9_strength_207 : decode cX9_strength 207 = .ok (.ireturn, 1) := zdec_at bX9_strength_204 3 rfl
theorem dX9_strength_208 : decode cX9_strength 208 = .ok (.aload_n 0, 1) := zdec_at bX9_strength_204 4 rfl
theorem dX9_strength_209 : decode cX9_strength 209 = .ok (.bipush 9, 2) := zdec_at bX9_strength_204 5 rfl
theorem dX9_strength_211 : decode cX9_strength 211 = .ok (.putfield 280, 3) := zdec_at bX9_strength_204 6 rfl
theorem dX9_strength_214 : decode cX9_strength 214 = .ok (.iconst 2, 1) := zdec_at bX9_strength_204 7 rfl
theorem dX9_strength_215 : decode cX9_strength 215 = .ok (.ireturn, 1) := zdec_at bX9_strength_204 8 rfl
theorem dX9_strength_216 : decode cX9_strength 216 = .ok (.aload_n 0, 1) := zdec_at bX9_strength_204 9 rfl
theorem dX9_strength_217 : decode cX9_strength 217 = .ok (.bipush 10, 2) := zdec_at bX9_strength_204 10 rfl
theorem dX9_strength_219 : decode cX9_strength 219 = .ok (.putfield 280, 3) := zdec_at bX9_strength_204 11 rfl
theorem dX9_strength_222 : decode cX9_strength 222 = .ok (.iconst 3, 1) := zdec_at bX9_strength_204 12 rfl
theorem dX9_strength_223 : decode cX9_strength 223 = .ok (.ireturn, 1) := zdec_at bX9_strength_204 13 rfl
theorem dX9_strength_224 : decode cX9_strength 224 = .ok (.aload_n 0, 1) := zdec_at bX9_strength_204 14 rfl
theorem dX9_strength_225 : decode cX9_strength 225 = .ok (.bipush 8, 2) := zdec_at bX9_strength_204 15 rfl
theorem bX9_strength_227 : zdec cX9_strength 227 [(227, .putfield 280, 3), (230, .iconst 4, 1), (231, .ireturn, 1), (232, .aload_n 0, 1), (233, .aload_n 0, 1), (234, .getfield 27, 3), (237, .getfield 114, 3), (240, .iconst 2, 1), (241, .isub, 1), (242, .putfield 280, 3), (245, .iconst 5, 1), (246, .ireturn, 1), (247, .aload_n 0, 1), (248, .aload_n 0, 1), (249, .getfield 27, 3), (252, .getfield 114, 3)] = true := by decide +kernel
theorem dX9_strength_227 : decode cX9_strength 227 = .ok (.putfield 280, 3) := zdec_at bX9_strength_227 0 rfl
theorem dX9_strength_230 : decode cX9_strength 230 = .ok (.iconst 4, 1) := zdec_at bX9_strength_227 1 rfl
theorem dX9_strength_231 : decode cX9_strength 231 = .ok (.ireturn, 1) := zdec_at bX9_strength_227 2 rfl
theorem dX9_strength_232 : decode cX9_strength 232 = .ok (.aload_n 0, 1) := zdec_at bX9_strength_227 3 rfl
theorem dX9_strength_233 : decode cX9_strength 233 = .ok (.aload_n 0, 1) := zdec_at bX9_strength_227 4 rfl
theorem dX9_strength_234 : decode cX9_strength 234 = .ok (.getfield 27, 3) := zdec_at bX9_strength_227 5 rfl
theorem dX9_strength_237 : decode cX9_strength 237 = .ok (.getfield 114, 3) := zdec_at bX9_strength_227 6 rfl
theorem dX9_strength_240 : decode cX9_strength 240 = .ok (.iconst 2, 1) := zdec_at bX9_strength_227 7 rfl
theorem dX9_strength_241 : decode cX9_strength 241 = .ok (.isub, 1) := zdec_at bX9_strength_227 8 rfl
theorem dX9_strength_242 : decode cX9_strength 242 = .ok (.putfield 280, 3) := zdec_at bX9_strength_227 9 rfl
theorem dX9_strength_245 : decode cX9_strength 245 = .ok (.iconst 5, 1) := zdec_at bX9_strength_227 10 rfl
theorem dX9_strength_246 : decode cX9_strength 246 = .ok (.ireturn, 1) := zdec_at bX9_strength_227 11 rfl
theorem dX9_strength_247 : decode cX9_strength 247 = .ok (.aload_n 0, 1) := zdec_at bX9_strength_227 12 rfl
theorem dX9_strength_248 : decode cX9_strength 248 = .ok (.aload_n 0, 1) := zdec_at bX9_strength_227 13 rfl
theorem dX9_strength_249 : decode cX9_strength 249 = .ok (.getfield 27, 3) := zdec_at bX9_strength_227 14 rfl
theorem dX9_strength_252 : decode cX9_strength 252 = .ok (.getfield 114, 3) := zdec_at bX9_strength_227 15 rfl
theorem bX9_strength_255 : zdec cX9_strength 255 [(255, .bipush 6, 2), (257, .iadd, 1), (258, .putfield 280, 3), (261, .bipush 6, 2), (263, .ireturn, 1), (264, .aload_n 0, 1), (265, .aload_n 0, 1), (266, .getfield 27, 3), (269, .getfield 114, 3), (272, .bipush 19, 2), (274, .isub, 1), (275, .putfield 280, 3), (278, .bipush 7, 2), (280, .ireturn, 1), (281, .aload_n 0, 1), (282, .aload_n 0, 1)] = true := by decide +kernel
theorem dX9_strength_255 : decode cX9_strength 255 = .ok (.bipush 6, 2) := zdec_at bX9_strength_255 0 rfl
theorem dX9_strength_257 : decode cX9_strength 257 = .ok (.iadd, 1) := zdec_at bX9_strength_255 1 rfl
theorem dX9_strength_258 : decode cX9_strength 258 = .ok (.putfield 280, 3) := zdec_at bX9_strength_255 2 rfl
theorem dX9_strength_261 : decode cX9_strength 261 = .ok (.bipush 6, 2) := zdec_at bX9_strength_255 3 rfl
theorem dX9_strength_263 : decode cX9_strength 263 = .ok (.ireturn, 1) := zdec_at bX9_strength_255 4 rfl
theorem dX9_strength_264 : decode cX9_strength 264 = .ok (.aload_n 0, 1) := zdec_at bX9_strength_255 5 rfl
theorem dX9_strength_265 : decode cX9_strength 265 = .ok (.aload_n 0, 1) := zdec_at bX9_strength_255 6 rfl
theorem dX9_strength_266 : decode cX9_strength 266 = .ok (.getfield 27, 3) := zdec_at bX9_strength_255 7 rfl
theorem dX9_strength_269 : decode cX9_strength 269 = .ok (.getfield 114, 3) := zdec_at bX9_strength_255 8 rfl
theorem dX9_strength_272 : decode cX9_strength 272 = .ok (.bipush 19, 2) := zdec_at bX9_strength_255 9 rfl
theorem dX9_strength_274 : decode cX9_strength 274 = .ok (.isub, 1) := zdec_at bX9_strength_255 10 rfl
theorem dX9_strength_275 : decode cX9_strength 275 = .ok (.putfield 280, 3) := zdec_at bX9_strength_255 11 rfl
theorem dX9_strength_278 : decode cX9_strength 278 = .ok (.bipush 7, 2) := zdec_at bX9_strength_255 12 rfl
theorem dX9_strength_280 : decode cX9_strength 280 = .ok (.ireturn, 1) := zdec_at bX9_strength_255 13 rfl
theorem dX9_strength_281 : decode cX9_strength 281 = .ok (.aload_n 0, 1) := zdec_at bX9_strength_255 14 rfl
theorem dX9_strength_282 : decode cX9_strength 282 = .ok (.aload_n 0, 1) := zdec_at bX9_strength_255 15 rfl
theorem bX9_strength_283 : zdec cX9_strength 283 [(283, .getfield 27, 3), (286, .getfield 114, 3), (289, .bipush 17, 2), (291, .isub, 1), (292, .putfield 280, 3), (295, .bipush 8, 2), (297, .ireturn, 1), (298, .aload_n 0, 1), (299, .iconst 2, 1), (300, .putfield 280, 3), (303, .bipush 9, 2), (305, .ireturn, 1), (306, .aload_n 0, 1), (307, .iconst 4, 1), (308, .putfield 280, 3), (311, .bipush 9, 2)] = true := by decide +kernel
theorem dX9_strength_283 : decode cX9_strength 283 = .ok (.getfield 27, 3) := zdec_at bX9_strength_283 0 rfl
theorem dX9_strength_286 : decode cX9_strength 286 = .ok (.getfield 114, 3) := zdec_at bX9_strength_283 1 rfl
theorem dX9_strength_289 : decode cX9_strength 289 = .ok (.bipush 17, 2) := zdec_at bX9_strength_283 2 rfl
theorem dX9_strength_291 : decode cX9_strength 291 = .ok (.isub, 1) := zdec_at bX9_strength_283 3 rfl
theorem dX9_strength_292 : decode cX9_strength 292 = .ok (.putfield 280, 3) := zdec_at bX9_strength_283 4 rfl
theorem dX9_strength_295 : decode cX9_strength 295 = .ok (.bipush 8, 2) := zdec_at bX9_strength_283 5 rfl
theorem dX9_strength_297 : decode cX9_strength 297 = .ok (.ireturn, 1) := zdec_at bX9_strength_283 6 rfl
theorem dX9_strength_298 : decode cX9_strength 298 = .ok (.aload_n 0, 1) := zdec_at bX9_strength_283 7 rfl
theorem dX9_strength_299 : decode cX9_strength 299 = .ok (.iconst 2, 1) := zdec_at bX9_strength_283 8 rfl
theorem dX9_strength_300 : decode cX9_strength 300 = .ok (.putfield 280, 3) := zdec_at bX9_strength_283 9 rfl
theorem dX9_strength_303 : decode cX9_strength 303 = .ok (.bipush 9, 2) := zdec_at bX9_strength_283 10 rfl
theorem dX9_strength_305 : decode cX9_strength 305 = .ok (.ireturn, 1) := zdec_at bX9_strength_283 11 rfl
theorem dX9_strength_306 : decode cX9_strength 306 = .ok (.aload_n 0, 1) := zdec_at bX9_strength_283 12 rfl
theorem dX9_strength_307 : decode cX9_strength 307 = .ok (.iconst 4, 1) := zdec_at bX9_strength_283 13 rfl
theorem dX9_strength_308 : decode cX9_strength 308 = .ok (.putfield 280, 3) := zdec_at bX9_strength_283 14 rfl
theorem dX9_strength_311 : decode cX9_strength 311 = .ok (.bipush 9, 2) := zdec_at bX9_strength_283 15 rfl
theorem bX9_strength_313 : zdec cX9_strength 313 [(313, .ireturn, 1), (314, .aload_n 0, 1), (315, .iconst 3, 1), (316, .putfield 280, 3), (319, .bipush 9, 2), (321, .ireturn, 1), (322, .iconst (-1), 1), (323, .ireturn, 1)] = true := by decide +kernel
theorem dX9_strength_313 : decode cX9_strength 313 = .ok (.ireturn, 1) := zdec_at bX9_strength_313 0 rfl
theorem dX9_strength_314 : decode cX9_strength 314 = .ok (.aload_n 0, 1) := zdec_at bX9_strength_313 1 rfl
theorem dX9_strength_315 : decode cX9_strength 315 = .ok (.iconst 3, 1) := zdec_at bX9_strength_313 2 rfl
theorem dX9_strength_316 : decode cX9_strength 316 = .ok (.putfield 280, 3) := zdec_at bX9_strength_313 3 rfl
theorem dX9_strength_319 : decode cX9_strength 319 = .ok (.bipush 9, 2) := zdec_at bX9_strength_313 4 rfl
theorem dX9_strength_321 : decode cX9_strength 321 = .ok (.ireturn, 1) := zdec_at bX9_strength_313 5 rfl
theorem dX9_strength_322 : decode cX9_strength 322 = .ok (.iconst (-1), 1) := zdec_at bX9_strength_313 6 rfl
theorem dX9_strength_323 : decode cX9_strength 323 = .ok (.ireturn, 1) := zdec_at bX9_strength_313 7 rfl
theorem sX9_strength_0 {E : zE} {d : Nat} {Q : zO → zM → Prop} (M : zM) (a0 : Nat) (l1 : Int32) (k : ∃ b1 : Nat, (gr M a0 1) = some (b1, 9, 0) ∧ (Z E YX10_isWord d M (zargs 0 [vr (some (b1, 9, 0)), vi (13 : Int32)]) 0 [] (zafter E YX9_strength (d + 1) [(0, vr (some (a0, 8, 0))), (1, vi l1)] 6 3 [] Q))) : Z E YX9_strength (d + 1) M [(0, vr (some (a0, 8, 0))), (1, vi l1)] 0 [] Q := by
  refine z_aload_n dX9_strength_0 rfl rfl ?_
  refine z_getr (r := (gr M a0 1)) dX9_strength_1 fsX9_27_8 rfl ?_
  refine z_bipush (v := 13) dX9_strength_4 rfl ?_
  obtain ⟨b1, e1_, k⟩ := k
  refine Z.eqs (lv' := [(0, vr (some (a0, 8, 0))), (1, vi l1)]) (st' := [vi (13 : Int32), vr (some (b1, 9, 0))]) rfl (by rw [e1_] <;> rfl) ?_
  exact z_callV (as := [vi (13 : Int32)]) (st := []) dX9_strength_6 vsX9_61_9 (Nat.le_refl _) (Nat.le_of_ble_eq_true rfl) (Nat.le_of_ble_eq_true rfl) rfl k
theorem sX9_strength_9 {E : zE} {d : Nat} {Q : zO → zM → Prop} (M : zM) (a0 : Nat) (l1 : Int32) (s0 : Int32) (k : if s0 = 0 then (∃ b1 : Nat, (gr M a0 1) = some (b1, 9, 0) ∧ (Z E YX10_isWord d M (zargs 0 [vr (some (b1, 9, 0)), vi (14 : Int32)]) 0 [] (zafter E YX9_strength (d + 1) [(0, vr (some (a0, 8, 0))), (1, vi l1)] 18 3 [] Q))) else (Z E YX9_strength (d + 1) M [(0, vr (some (a0, 8, 0))), (1, vi l1)] 24 [] Q)) : Z E YX9_strength (d + 1) M [(0, vr (some (a0, 8, 0))), (1, vi l1)] 9 [vi s0] Q := by
  refine z_if_ne (tgt := 24) dX9_strength_9 rfl (fun h_ => ?_) (fun h_ => ?_)
  · have k := zif h_ k
    exact k
  · have k := zit h_ k
    refine z_aload_n dX9_strength_12 rfl rfl ?_
    refine z_getr (r := (gr M a0 1)) dX9_strength_13 fsX9_27_8 rfl ?_
    refine z_bipush (v := 14) dX9_strength_16 rfl ?_
    obtain ⟨b1, e1_, k⟩ := k
    refine Z.eqs (lv' := [(0, vr (some (a0, 8, 0))), (1, vi l1)]) (st' := [vi (14 : Int32), vr (some (b1, 9, 0))]) rfl (by rw [e1_] <;> rfl) ?_
    exact z_callV (as := [vi (14 : Int32)]) (st := []) dX9_strength_18 vsX9_61_9 (Nat.le_refl _) (Nat.le_of_ble_eq_true rfl) (Nat.le_of_ble_eq_true rfl) rfl k
theorem sX9_strength_21 {E : zE} {d : Nat} {Q : zO → zM → Prop} (M : zM) (a0 : Nat) (l1 : Int32) (s0 : Int32) (k : if s0 = 0 then (∃ b1 : Nat, (gr M a0 1) = some (b1, 9, 0) ∧ (if (gi M b1 3) = (5 : Int32) then (∃ b2 : Nat, (gr M a0 1) = some (b2, 9, 0) ∧ (if (gi M b2 6) = 9 then (∃ b3 : Nat, (gr M a0 1) = some (b3, 9, 0) ∧ (16 ≤ a0 ∧ (Q (.inl (some (vi (6 : Int32)))) (si M a0 8 ((gi M b3 6) + (6 : Int32)))))) else (if (gi M b2 6) = 10 then (∃ b4 : Nat, (gr M a0 1) = some (b4, 9, 0) ∧ (16 ≤ a0 ∧ (Q (.inl (some (vi (6 : Int32)))) (si M a0 8 ((gi M b4 6) + (6 : Int32)))))) else (if (gi M b2 6) = 11 then (∃ b5 : Nat, (gr M a0 1) = some (b5, 9, 0) ∧ (16 ≤ a0 ∧ (Q (.inl (some (vi (6 : Int32)))) (si M a0 8 ((gi M b5 6) + (6 : Int32)))))) else (if (gi M b2 6) = 12 then (∃ b6 : Nat, (gr M a0 1) = some (b6, 9, 0) ∧ (16 ≤ a0 ∧ (Q (.inl (some (vi (6 : Int32)))) (si M a0 8 ((gi M b6 6) + (6 : Int32)))))) else (if (gi M b2 6) = 13 then (∃ b7 : Nat, (gr M a0 1) = some (b7, 9, 0) ∧ (16 ≤ a0 ∧ (Q (.inl (some (vi (5 : Int32)))) (si M a0 8 ((gi M b7 6) - (2 : Int32)))))) else (if (gi M b2 6) = 14 then (∃ b8 : Nat, (gr M a0 1) = some (b8, 9, 0) ∧ (16 ≤ a0 ∧ (Q (.inl (some (vi (5 : Int32)))) (si M a0 8 ((gi M b8 6) - (2 : Int32)))))) else (if (gi M b2 6) = 15 then (∃ b9 : Nat, (gr M a0 1) = some (b9, 9, 0) ∧ (16 ≤ a0 ∧ (Q (.inl (some (vi (5 : Int32)))) (si M a0 8 ((gi M b9 6) - (2 : Int32)))))) else (if (gi M b2 6) = 16 then (∃ b10 : Nat, (gr M a0 1) = some (b10, 9, 0) ∧ (16 ≤ a0 ∧ (Q (.inl (some (vi (5 : Int32)))) (si M a0 8 ((gi M b10 6) - (2 : Int32)))))) else (if (gi M b2 6) = 17 then (∃ b11 : Nat, (gr M a0 1) = some (b11, 9, 0) ∧ (16 ≤ a0 ∧ (Q (.inl (some (vi (8 : Int32)))) (si M a0 8 ((gi M b11 6) - (17 : Int32)))))) else (if (gi M b2 6) = 18 then (∃ b12 : Nat, (gr M a0 1) = some (b12, 9, 0) ∧ (16 ≤ a0 ∧ (Q (.inl (some (vi (8 : Int32)))) (si M a0 8 ((gi M b12 6) - (17 : Int32)))))) else (if (gi M b2 6) = 19 then (16 ≤ a0 ∧ (Q (.inl (some (vi (9 : Int32)))) (si M a0 8 (2 : Int32)))) else (if (gi M b2 6) = 20 then (16 ≤ a0 ∧ (Q (.inl (some (vi (9 : Int32)))) (si M a0 8 (4 : Int32)))) else (if (gi M b2 6) = 21 then (16 ≤ a0 ∧ (Q (.inl (some (vi (9 : Int32)))) (si M a0 8 (3 : Int32)))) else (if (gi M b2 6) = 22 then (Q (.inl (some (vi (-1 : Int32)))) M) else (if (gi M b2 6) = 23 then (Q (.inl (some (vi (-1 : Int32)))) M) else (if (gi M b2 6) = 24 then (∃ b13 : Nat, (gr M a0 1) = some (b13, 9, 0) ∧ (16 ≤ a0 ∧ (Q (.inl (some (vi (7 : Int32)))) (si M a0 8 ((gi M b13 6) - (19 : Int32)))))) else (if (gi M b2 6) = 25 then (∃ b14 : Nat, (gr M a0 1) = some (b14, 9, 0) ∧ (16 ≤ a0 ∧ (Q (.inl (some (vi (7 : Int32)))) (si M a0 8 ((gi M b14 6) - (19 : Int32)))))) else (if (gi M b2 6) = 26 then (∃ b15 : Nat, (gr M a0 1) = some (b15, 9, 0) ∧ (16 ≤ a0 ∧ (Q (.inl (some (vi (7 : Int32)))) (si M a0 8 ((gi M b15 6) - (19 : Int32)))))) else (if (gi M b2 6) = 27 then (16 ≤ a0 ∧ (Q (.inl (some (vi (4 : Int32)))) (si M a0 8 (8 : Int32)))) else (if (gi M b2 6) = 28 then (16 ≤ a0 ∧ (Q (.inl (some (vi (2 : Int32)))) (si M a0 8 (9 : Int32)))) else (if (gi M b2 6) = 29 then (16 ≤ a0 ∧ (Q (.inl (some (vi (3 : Int32)))) (si M a0 8 (10 : Int32)))) else (if (gi M b2 6) = 30 then (Q (.inl (some (vi (-1 : Int32)))) M) else (if (gi M b2 6) = 31 then (Q (.inl (some (vi (-1 : Int32)))) M) else (if (gi M b2 6) = 32 then (Q (.inl (some (vi (1 : Int32)))) M) else (if (gi M b2 6) = 33 then (Q (.inl (some (vi (0 : Int32)))) M) else (Q (.inl (some (vi (-1 : Int32)))) M))))))))))))))))))))))))))) else (Q (.inl (some (vi (-1 : Int32)))) M))) else (Z E YX9_strength (d + 1) M [(0, vr (some (a0, 8, 0))), (1, vi l1)] 24 [] Q)) : Z E YX9_strength (d + 1) M [(0, vr (some (a0, 8, 0))), (1, vi l1)] 21 [vi s0] Q := by
  refine z_if_eq (tgt := 70) dX9_strength_21 rfl (fun h_ => ?_) (fun h_ => ?_)
  · have k := zit h_ k
    refine z_aload_n dX9_strength_70 rfl rfl ?_
    refine z_getr (r := (gr M a0 1)) dX9_strength_71 fsX9_27_8 rfl ?_
    obtain ⟨b1, e1_, k⟩ := k
    refine Z.eqs (lv' := [(0, vr (some (a0, 8, 0))), (1, vi l1)]) (st' := [vr (some (b1, 9, 0))]) rfl (by rw [e1_] <;> rfl) ?_
    refine z_geti dX9_strength_74 fsX9_55_9 ?_
    refine z_iconst (v := 5) dX9_strength_77 rfl ?_
    refine z_icmp_eq (tgt := 83) dX9_strength_78 rfl (fun h_ => ?_) (fun h_ => ?_)
    · have k := zit h_ k
      refine z_aload_n dX9_strength_83 rfl rfl ?_
      refine z_getr (r := (gr M a0 1)) dX9_strength_84 fsX9_27_8 rfl ?_
      obtain ⟨b2, e2_, k⟩ := k
      refine Z.eqs (lv' := [(0, vr (some (a0, 8, 0))), (1, vi l1)]) (st' := [vr (some (b2, 9, 0))]) rfl (by rw [e2_] <;> rfl) ?_
      refine z_geti dX9_strength_87 fsX9_114_9 ?_
      by_cases h0_ : (gi M b2 6) = 9
      · have k := zit h0_ k
        refine z_tableIn (off := 157) (tgt := 247) dX9_strength_90 (by rw [h0_]; decide) (by rw [h0_]; decide) (by rw [h0_]; rfl) rfl ?_
        refine z_aload_n dX9_strength_247 rfl rfl ?_
        refine z_aload_n dX9_strength_248 rfl rfl ?_
        refine z_getr (r := (gr M a0 1)) dX9_strength_249 fsX9_27_8 rfl ?_
        obtain ⟨b3, e3_, k⟩ := k
        refine Z.eqs (lv' := [(0, vr (some (a0, 8, 0))), (1, vi l1)]) (st' := [vr (some (b3, 9, 0)), vr (some (a0, 8, 0))]) rfl (by rw [e3_] <;> rfl) ?_
        refine z_geti dX9_strength_252 fsX9_114_9 ?_
        refine z_bipush (v := 6) dX9_strength_255 rfl ?_
        refine z_iadd dX9_strength_257 ?_
        obtain ⟨g_, k⟩ := k
        refine z_puti g_ dX9_strength_258 (zfwN.w fwX9_280_8) rfl ⟨rfl, rfl⟩ ?_
        refine z_bipush (v := 6) dX9_strength_261 rfl ?_
        exact z_iret dX9_strength_263 rfl rfl k
      · have k := zif h0_ k
        by_cases h1_ : (gi M b2 6) = 10
        · have k := zit h1_ k
          refine z_tableIn (off := 157) (tgt := 247) dX9_strength_90 (by rw [h1_]; decide) (by rw [h1_]; decide) (by rw [h1_]; rfl) rfl ?_
          refine z_aload_n dX9_strength_247 rfl rfl ?_
          refine z_aload_n dX9_strength_248 rfl rfl ?_
          refine z_getr (r := (gr M a0 1)) dX9_strength_249 fsX9_27_8 rfl ?_
          obtain ⟨b4, e4_, k⟩ := k
          refine Z.eqs (lv' := [(0, vr (some (a0, 8, 0))), (1, vi l1)]) (st' := [vr (some (b4, 9, 0)), vr (some (a0, 8, 0))]) rfl (by rw [e4_] <;> rfl) ?_
          refine z_geti dX9_strength_252 fsX9_114_9 ?_
          refine z_bipush (v := 6) dX9_strength_255 rfl ?_
          refine z_iadd dX9_strength_257 ?_
          obtain ⟨g_, k⟩ := k
          refine z_puti g_ dX9_strength_258 (zfwN.w fwX9_280_8) rfl ⟨rfl, rfl⟩ ?_
          refine z_bipush (v := 6) dX9_strength_261 rfl ?_
          exact z_iret dX9_strength_263 rfl rfl k
        · have k := zif h1_ k
          by_cases h2_ : (gi M b2 6) = 11
          · have k := zit h2_ k
            refine z_tableIn (off := 157) (tgt := 247) dX9_strength_90 (by rw [h2_]; decide) (by rw [h2_]; decide) (by rw [h2_]; rfl) rfl ?_
            refine z_aload_n dX9_strength_247 rfl rfl ?_
            refine z_aload_n dX9_strength_248 rfl rfl ?_
            refine z_getr (r := (gr M a0 1)) dX9_strength_249 fsX9_27_8 rfl ?_
            obtain ⟨b5, e5_, k⟩ := k
            refine Z.eqs (lv' := [(0, vr (some (a0, 8, 0))), (1, vi l1)]) (st' := [vr (some (b5, 9, 0)), vr (some (a0, 8, 0))]) rfl (by rw [e5_] <;> rfl) ?_
            refine z_geti dX9_strength_252 fsX9_114_9 ?_
            refine z_bipush (v := 6) dX9_strength_255 rfl ?_
            refine z_iadd dX9_strength_257 ?_
            obtain ⟨g_, k⟩ := k
            refine z_puti g_ dX9_strength_258 (zfwN.w fwX9_280_8) rfl ⟨rfl, rfl⟩ ?_
            refine z_bipush (v := 6) dX9_strength_261 rfl ?_
            exact z_iret dX9_strength_263 rfl rfl k
          · have k := zif h2_ k
            by_cases h3_ : (gi M b2 6) = 12
            · have k := zit h3_ k
              refine z_tableIn (off := 157) (tgt := 247) dX9_strength_90 (by rw [h3_]; decide) (by rw [h3_]; decide) (by rw [h3_]; rfl) rfl ?_
              refine z_aload_n dX9_strength_247 rfl rfl ?_
              refine z_aload_n dX9_strength_248 rfl rfl ?_
              refine z_getr (r := (gr M a0 1)) dX9_strength_249 fsX9_27_8 rfl ?_
              obtain ⟨b6, e6_, k⟩ := k
              refine Z.eqs (lv' := [(0, vr (some (a0, 8, 0))), (1, vi l1)]) (st' := [vr (some (b6, 9, 0)), vr (some (a0, 8, 0))]) rfl (by rw [e6_] <;> rfl) ?_
              refine z_geti dX9_strength_252 fsX9_114_9 ?_
              refine z_bipush (v := 6) dX9_strength_255 rfl ?_
              refine z_iadd dX9_strength_257 ?_
              obtain ⟨g_, k⟩ := k
              refine z_puti g_ dX9_strength_258 (zfwN.w fwX9_280_8) rfl ⟨rfl, rfl⟩ ?_
              refine z_bipush (v := 6) dX9_strength_261 rfl ?_
              exact z_iret dX9_strength_263 rfl rfl k
            · have k := zif h3_ k
              by_cases h4_ : (gi M b2 6) = 13
              · have k := zit h4_ k
                refine z_tableIn (off := 142) (tgt := 232) dX9_strength_90 (by rw [h4_]; decide) (by rw [h4_]; decide) (by rw [h4_]; rfl) rfl ?_
                refine z_aload_n dX9_strength_232 rfl rfl ?_
                refine z_aload_n dX9_strength_233 rfl rfl ?_
                refine z_getr (r := (gr M a0 1)) dX9_strength_234 fsX9_27_8 rfl ?_
                obtain ⟨b7, e7_, k⟩ := k
                refine Z.eqs (lv' := [(0, vr (some (a0, 8, 0))), (1, vi l1)]) (st' := [vr (some (b7, 9, 0)), vr (some (a0, 8, 0))]) rfl (by rw [e7_] <;> rfl) ?_
                refine z_geti dX9_strength_237 fsX9_114_9 ?_
                refine z_iconst (v := 2) dX9_strength_240 rfl ?_
                refine z_isub dX9_strength_241 ?_
                obtain ⟨g_, k⟩ := k
                refine z_puti g_ dX9_strength_242 (zfwN.w fwX9_280_8) rfl ⟨rfl, rfl⟩ ?_
                refine z_iconst (v := 5) dX9_strength_245 rfl ?_
                exact z_iret dX9_strength_246 rfl rfl k
              · have k := zif h4_ k
                by_cases h5_ : (gi M b2 6) = 14
                · have k := zit h5_ k
                  refine z_tableIn (off := 142) (tgt := 232) dX9_strength_90 (by rw [h5_]; decide) (by rw [h5_]; decide) (by rw [h5_]; rfl) rfl ?_
                  refine z_aload_n dX9_strength_232 rfl rfl ?_
                  refine z_aload_n dX9_strength_233 rfl rfl ?_
                  refine z_getr (r := (gr M a0 1)) dX9_strength_234 fsX9_27_8 rfl ?_
                  obtain ⟨b8, e8_, k⟩ := k
                  refine Z.eqs (lv' := [(0, vr (some (a0, 8, 0))), (1, vi l1)]) (st' := [vr (some (b8, 9, 0)), vr (some (a0, 8, 0))]) rfl (by rw [e8_] <;> rfl) ?_
                  refine z_geti dX9_strength_237 fsX9_114_9 ?_
                  refine z_iconst (v := 2) dX9_strength_240 rfl ?_
                  refine z_isub dX9_strength_241 ?_
                  obtain ⟨g_, k⟩ := k
                  refine z_puti g_ dX9_strength_242 (zfwN.w fwX9_280_8) rfl ⟨rfl, rfl⟩ ?_
                  refine z_iconst (v := 5) dX9_strength_245 rfl ?_
                  exact z_iret dX9_strength_246 rfl rfl k
                · have k := zif h5_ k
                  by_cases h6_ : (gi M b2 6) = 15
                  · have k := zit h6_ k
                    refine z_tableIn (off := 142) (tgt := 232) dX9_strength_90 (by rw [h6_]; decide) (by rw [h6_]; decide) (by rw [h6_]; rfl) rfl ?_
                    refine z_aload_n dX9_strength_232 rfl rfl ?_
                    refine z_aload_n dX9_strength_233 rfl rfl ?_
                    refine z_getr (r := (gr M a0 1)) dX9_strength_234 fsX9_27_8 rfl ?_
                    obtain ⟨b9, e9_, k⟩ := k
                    refine Z.eqs (lv' := [(0, vr (some (a0, 8, 0))), (1, vi l1)]) (st' := [vr (some (b9, 9, 0)), vr (some (a0, 8, 0))]) rfl (by rw [e9_] <;> rfl) ?_
                    refine z_geti dX9_strength_237 fsX9_114_9 ?_
                    refine z_iconst (v := 2) dX9_strength_240 rfl ?_
                    refine z_isub dX9_strength_241 ?_
                    obtain ⟨g_, k⟩ := k
                    refine z_puti g_ dX9_strength_242 (zfwN.w fwX9_280_8) rfl ⟨rfl, rfl⟩ ?_
                    refine z_iconst (v := 5) dX9_strength_245 rfl ?_
                    exact z_iret dX9_strength_246 rfl rfl k
                  · have k := zif h6_ k
                    by_cases h7_ : (gi M b2 6) = 16
                    · have k := zit h7_ k
                      refine z_tableIn (off := 142) (tgt := 232) dX9_strength_90 (by rw [h7_]; decide) (by rw [h7_]; decide) (by rw [h7_]; rfl) rfl ?_
                      refine z_aload_n dX9_strength_232 rfl rfl ?_
                      refine z_aload_n dX9_strength_233 rfl rfl ?_
                      refine z_getr (r := (gr M a0 1)) dX9_strength_234 fsX9_27_8 rfl ?_
                      obtain ⟨b10, e10_, k⟩ := k
                      refine Z.eqs (lv' := [(0, vr (some (a0, 8, 0))), (1, vi l1)]) (st' := [vr (some (b10, 9, 0)), vr (some (a0, 8, 0))]) rfl (by rw [e10_] <;> rfl) ?_
                      refine z_geti dX9_strength_237 fsX9_114_9 ?_
                      refine z_iconst (v := 2) dX9_strength_240 rfl ?_
                      refine z_isub dX9_strength_241 ?_
                      obtain ⟨g_, k⟩ := k
                      refine z_puti g_ dX9_strength_242 (zfwN.w fwX9_280_8) rfl ⟨rfl, rfl⟩ ?_
                      refine z_iconst (v := 5) dX9_strength_245 rfl ?_
                      exact z_iret dX9_strength_246 rfl rfl k
                    · have k := zif h7_ k
                      by_cases h8_ : (gi M b2 6) = 17
                      · have k := zit h8_ k
                        refine z_tableIn (off := 191) (tgt := 281) dX9_strength_90 (by rw [h8_]; decide) (by rw [h8_]; decide) (by rw [h8_]; rfl) rfl ?_
                        refine z_aload_n dX9_strength_281 rfl rfl ?_
                        refine z_aload_n dX9_strength_282 rfl rfl ?_
                        refine z_getr (r := (gr M a0 1)) dX9_strength_283 fsX9_27_8 rfl ?_
                        obtain ⟨b11, e11_, k⟩ := k
                        refine Z.eqs (lv' := [(0, vr (some (a0, 8, 0))), (1, vi l1)]) (st' := [vr (some (b11, 9, 0)), vr (some (a0, 8, 0))]) rfl (by rw [e11_] <;> rfl) ?_
                        refine z_geti dX9_strength_286 fsX9_114_9 ?_
                        refine z_bipush (v := 17) dX9_strength_289 rfl ?_
                        refine z_isub dX9_strength_291 ?_
                        obtain ⟨g_, k⟩ := k
                        refine z_puti g_ dX9_strength_292 (zfwN.w fwX9_280_8) rfl ⟨rfl, rfl⟩ ?_
                        refine z_bipush (v := 8) dX9_strength_295 rfl ?_
                        exact z_iret dX9_strength_297 rfl rfl k
                      · have k := zif h8_ k
                        by_cases h9_ : (gi M b2 6) = 18
                        · have k := zit h9_ k
                          refine z_tableIn (off := 191) (tgt := 281) dX9_strength_90 (by rw [h9_]; decide) (by rw [h9_]; decide) (by rw [h9_]; rfl) rfl ?_
                          refine z_aload_n dX9_strength_281 rfl rfl ?_
                          refine z_aload_n dX9_strength_282 rfl rfl ?_
                          refine z_getr (r := (gr M a0 1)) dX9_strength_283 fsX9_27_8 rfl ?_
                          obtain ⟨b12, e12_, k⟩ := k
                          refine Z.eqs (lv' := [(0, vr (some (a0, 8, 0))), (1, vi l1)]) (st' := [vr (some (b12, 9, 0)), vr (some (a0, 8, 0))]) rfl (by rw [e12_] <;> rfl) ?_
                          refine z_geti dX9_strength_286 fsX9_114_9 ?_
                          refine z_bipush (v := 17) dX9_strength_289 rfl ?_
                          refine z_isub dX9_strength_291 ?_
                          obtain ⟨g_, k⟩ := k
                          refine z_puti g_ dX9_strength_292 (zfwN.w fwX9_280_8) rfl ⟨rfl, rfl⟩ ?_
                          refine z_bipush (v := 8) dX9_strength_295 rfl ?_
                          exact z_iret dX9_strength_297 rfl rfl k
                        · have k := zif h9_ k
                          by_cases h10_ : (gi M b2 6) = 19
                          · have k := zit h10_ k
                            refine z_tableIn (off := 208) (tgt := 298) dX9_strength_90 (by rw [h10_]; decide) (by rw [h10_]; decide) (by rw [h10_]; rfl) rfl ?_
                            refine z_aload_n dX9_strength_298 rfl rfl ?_
                            refine z_iconst (v := 2) dX9_strength_299 rfl ?_
                            obtain ⟨g_, k⟩ := k
                            refine z_puti g_ dX9_strength_300 (zfwN.w fwX9_280_8) rfl ⟨rfl, rfl⟩ ?_
                            refine z_bipush (v := 9) dX9_strength_303 rfl ?_
                            exact z_iret dX9_strength_305 rfl rfl k
                          · have k := zif h10_ k
                            by_cases h11_ : (gi M b2 6) = 20
                            · have k := zit h11_ k
                              refine z_tableIn (off := 216) (tgt := 306) dX9_strength_90 (by rw [h11_]; decide) (by rw [h11_]; decide) (by rw [h11_]; rfl) rfl ?_
                              refine z_aload_n dX9_strength_306 rfl rfl ?_
                              refine z_iconst (v := 4) dX9_strength_307 rfl ?_
                              obtain ⟨g_, k⟩ := k
                              refine z_puti g_ dX9_strength_308 (zfwN.w fwX9_280_8) rfl ⟨rfl, rfl⟩ ?_
                              refine z_bipush (v := 9) dX9_strength_311 rfl ?_
                              exact z_iret dX9_strength_313 rfl rfl k
                            · have k := zif h11_ k
                              by_cases h12_ : (gi M b2 6) = 21
                              · have k := zit h12_ k
                                refine z_tableIn (off := 224) (tgt := 314) dX9_strength_90 (by rw [h12_]; decide) (by rw [h12_]; decide) (by rw [h12_]; rfl) rfl ?_
                                refine z_aload_n dX9_strength_314 rfl rfl ?_
                                refine z_iconst (v := 3) dX9_strength_315 rfl ?_
                                obtain ⟨g_, k⟩ := k
                                refine z_puti g_ dX9_strength_316 (zfwN.w fwX9_280_8) rfl ⟨rfl, rfl⟩ ?_
                                refine z_bipush (v := 9) dX9_strength_319 rfl ?_
                                exact z_iret dX9_strength_321 rfl rfl k
                              · have k := zif h12_ k
                                by_cases h13_ : (gi M b2 6) = 22
                                · have k := zit h13_ k
                                  refine z_tableIn (off := 232) (tgt := 322) dX9_strength_90 (by rw [h13_]; decide) (by rw [h13_]; decide) (by rw [h13_]; rfl) rfl ?_
                                  refine z_iconst (v := -1) dX9_strength_322 rfl ?_
                                  exact z_iret dX9_strength_323 rfl rfl k
                                · have k := zif h13_ k
                                  by_cases h14_ : (gi M b2 6) = 23
                                  · have k := zit h14_ k
                                    refine z_tableIn (off := 232) (tgt := 322) dX9_strength_90 (by rw [h14_]; decide) (by rw [h14_]; decide) (by rw [h14_]; rfl) rfl ?_
                                    refine z_iconst (v := -1) dX9_strength_322 rfl ?_
                                    exact z_iret dX9_strength_323 rfl rfl k
                                  · have k := zif h14_ k
                                    by_cases h15_ : (gi M b2 6) = 24
                                    · have k := zit h15_ k
                                      refine z_tableIn (off := 174) (tgt := 264) dX9_strength_90 (by rw [h15_]; decide) (by rw [h15_]; decide) (by rw [h15_]; rfl) rfl ?_
                                      refine z_aload_n dX9_strength_264 rfl rfl ?_
                                      refine z_aload_n dX9_strength_265 rfl rfl ?_
                                      refine z_getr (r := (gr M a0 1)) dX9_strength_266 fsX9_27_8 rfl ?_
                                      obtain ⟨b13, e13_, k⟩ := k
                                      refine Z.eqs (lv' := [(0, vr (some (a0, 8, 0))), (1, vi l1)]) (st' := [vr (some (b13, 9, 0)), vr (some (a0, 8, 0))]) rfl (by rw [e13_] <;> rfl) ?_
                                      refine z_geti dX9_strength_269 fsX9_114_9 ?_
                                      refine z_bipush (v := 19) dX9_strength_272 rfl ?_
                                      refine z_isub dX9_strength_274 ?_
                                      obtain ⟨g_, k⟩ := k
                                      refine z_puti g_ dX9_strength_275 (zfwN.w fwX9_280_8) rfl ⟨rfl, rfl⟩ ?_
                                      refine z_bipush (v := 7) dX9_strength_278 rfl ?_
                                      exact z_iret dX9_strength_280 rfl rfl k
                                    · have k := zif h15_ k
                                      by_cases h16_ : (gi M b2 6) = 25
                                      · have k := zit h16_ k
                                        refine z_tableIn (off := 174) (tgt := 264) dX9_strength_90 (by rw [h16_]; decide) (by rw [h16_]; decide) (by rw [h16_]; rfl) rfl ?_
                                        refine z_aload_n dX9_strength_264 rfl rfl ?_
                                        refine z_aload_n dX9_strength_265 rfl rfl ?_
                                        refine z_getr (r := (gr M a0 1)) dX9_strength_266 fsX9_27_8 rfl ?_
                                        obtain ⟨b14, e14_, k⟩ := k
                                        refine Z.eqs (lv' := [(0, vr (some (a0, 8, 0))), (1, vi l1)]) (st' := [vr (some (b14, 9, 0)), vr (some (a0, 8, 0))]) rfl (by rw [e14_] <;> rfl) ?_
                                        refine z_geti dX9_strength_269 fsX9_114_9 ?_
                                        refine z_bipush (v := 19) dX9_strength_272 rfl ?_
                                        refine z_isub dX9_strength_274 ?_
                                        obtain ⟨g_, k⟩ := k
                                        refine z_puti g_ dX9_strength_275 (zfwN.w fwX9_280_8) rfl ⟨rfl, rfl⟩ ?_
                                        refine z_bipush (v := 7) dX9_strength_278 rfl ?_
                                        exact z_iret dX9_strength_280 rfl rfl k
                                      · have k := zif h16_ k
                                        by_cases h17_ : (gi M b2 6) = 26
                                        · have k := zit h17_ k
                                          refine z_tableIn (off := 174) (tgt := 264) dX9_strength_90 (by rw [h17_]; decide) (by rw [h17_]; decide) (by rw [h17_]; rfl) rfl ?_
                                          refine z_aload_n dX9_strength_264 rfl rfl ?_
                                          refine z_aload_n dX9_strength_265 rfl rfl ?_
                                          refine z_getr (r := (gr M a0 1)) dX9_strength_266 fsX9_27_8 rfl ?_
                                          obtain ⟨b15, e15_, k⟩ := k
                                          refine Z.eqs (lv' := [(0, vr (some (a0, 8, 0))), (1, vi l1)]) (st' := [vr (some (b15, 9, 0)), vr (some (a0, 8, 0))]) rfl (by rw [e15_] <;> rfl) ?_
                                          refine z_geti dX9_strength_269 fsX9_114_9 ?_
                                          refine z_bipush (v := 19) dX9_strength_272 rfl ?_
                                          refine z_isub dX9_strength_274 ?_
                                          obtain ⟨g_, k⟩ := k
                                          refine z_puti g_ dX9_strength_275 (zfwN.w fwX9_280_8) rfl ⟨rfl, rfl⟩ ?_
                                          refine z_bipush (v := 7) dX9_strength_278 rfl ?_
                                          exact z_iret dX9_strength_280 rfl rfl k
                                        · have k := zif h17_ k
                                          by_cases h18_ : (gi M b2 6) = 27
                                          · have k := zit h18_ k
                                            refine z_tableIn (off := 134) (tgt := 224) dX9_strength_90 (by rw [h18_]; decide) (by rw [h18_]; decide) (by rw [h18_]; rfl) rfl ?_
                                            refine z_aload_n dX9_strength_224 rfl rfl ?_
                                            refine z_bipush (v := 8) dX9_strength_225 rfl ?_
                                            obtain ⟨g_, k⟩ := k
                                            refine z_puti g_ dX9_strength_227 (zfwN.w fwX9_280_8) rfl ⟨rfl, rfl⟩ ?_
                                            refine z_iconst (v := 4) dX9_strength_230 rfl ?_
                                            exact z_iret dX9_strength_231 rfl rfl k
                                          · have k := zif h18_ k
                                            by_cases h19_ : (gi M b2 6) = 28
                                            · have k := zit h19_ k
                                              refine z_tableIn (off := 118) (tgt := 208) dX9_strength_90 (by rw [h19_]; decide) (by rw [h19_]; decide) (by rw [h19_]; rfl) rfl ?_
                                              refine z_aload_n dX9_strength_208 rfl rfl ?_
                                              refine z_bipush (v := 9) dX9_strength_209 rfl ?_
                                              obtain ⟨g_, k⟩ := k
                                              refine z_puti g_ dX9_strength_211 (zfwN.w fwX9_280_8) rfl ⟨rfl, rfl⟩ ?_
                                              refine z_iconst (v := 2) dX9_strength_214 rfl ?_
                                              exact z_iret dX9_strength_215 rfl rfl k
                                            · have k := zif h19_ k
                                              by_cases h20_ : (gi M b2 6) = 29
                                              · have k := zit h20_ k
                                                refine z_tableIn (off := 126) (tgt := 216) dX9_strength_90 (by rw [h20_]; decide) (by rw [h20_]; decide) (by rw [h20_]; rfl) rfl ?_
                                                refine z_aload_n dX9_strength_216 rfl rfl ?_
                                                refine z_bipush (v := 10) dX9_strength_217 rfl ?_
                                                obtain ⟨g_, k⟩ := k
                                                refine z_puti g_ dX9_strength_219 (zfwN.w fwX9_280_8) rfl ⟨rfl, rfl⟩ ?_
                                                refine z_iconst (v := 3) dX9_strength_222 rfl ?_
                                                exact z_iret dX9_strength_223 rfl rfl k
                                              · have k := zif h20_ k
                                                by_cases h21_ : (gi M b2 6) = 30
                                                · have k := zit h21_ k
                                                  refine z_tableIn (off := 232) (tgt := 322) dX9_strength_90 (by rw [h21_]; decide) (by rw [h21_]; decide) (by rw [h21_]; rfl) rfl ?_
                                                  refine z_iconst (v := -1) dX9_strength_322 rfl ?_
                                                  exact z_iret dX9_strength_323 rfl rfl k
                                                · have k := zif h21_ k
                                                  by_cases h22_ : (gi M b2 6) = 31
                                                  · have k := zit h22_ k
                                                    refine z_tableIn (off := 232) (tgt := 322) dX9_strength_90 (by rw [h22_]; decide) (by rw [h22_]; decide) (by rw [h22_]; rfl) rfl ?_
                                                    refine z_iconst (v := -1) dX9_strength_322 rfl ?_
                                                    exact z_iret dX9_strength_323 rfl rfl k
                                                  · have k := zif h22_ k
                                                    by_cases h23_ : (gi M b2 6) = 32
                                                    · have k := zit h23_ k
                                                      refine z_tableIn (off := 116) (tgt := 206) dX9_strength_90 (by rw [h23_]; decide) (by rw [h23_]; decide) (by rw [h23_]; rfl) rfl ?_
                                                      refine z_iconst (v := 1) dX9_strength_206 rfl ?_
                                                      exact z_iret dX9_strength_207 rfl rfl k
                                                    · have k := zif h23_ k
                                                      by_cases h24_ : (gi M b2 6) = 33
                                                      · have k := zit h24_ k
                                                        refine z_tableIn (off := 114) (tgt := 204) dX9_strength_90 (by rw [h24_]; decide) (by rw [h24_]; decide) (by rw [h24_]; rfl) rfl ?_
                                                        refine z_iconst (v := 0) dX9_strength_204 rfl ?_
                                                        exact z_iret dX9_strength_205 rfl rfl k
                                                      · have k := zif h24_ k
                                                        refine z_tout (tgt := 322) [9, 10, 11, 12, 13, 14, 15, 16, 17, 18, 19, 20, 21, 22, 23, 24, 25, 26, 27, 28, 29, 30, 31, 32, 33] (by decide) dX9_strength_90 (zall_1 h0_ (zall_1 h1_ (zall_1 h2_ (zall_1 h3_ (zall_1 h4_ (zall_1 h5_ (zall_1 h6_ (zall_1 h7_ (zall_1 h8_ (zall_1 h9_ (zall_1 h10_ (zall_1 h11_ (zall_1 h12_ (zall_1 h13_ (zall_1 h14_ (zall_1 h15_ (zall_1 h16_ (zall_1 h17_ (zall_1 h18_ (zall_1 h19_ (zall_1 h20_ (zall_1 h21_ (zall_1 h22_ (zall_1 h23_ (zall_1 h24_ zall_0))))))))))))))))))))))))) rfl ?_
                                                        refine z_iconst (v := -1) dX9_strength_322 rfl ?_
                                                        exact z_iret dX9_strength_323 rfl rfl k
    · have k := zif h_ k
      refine z_iconst (v := -1) dX9_strength_81 rfl ?_
      exact z_iret dX9_strength_82 rfl rfl k
  · have k := zif h_ k
    exact k
theorem sX9_strength_24 {E : zE} {d : Nat} {Q : zO → zM → Prop} (M : zM) (a0 : Nat) (l1 : Int32) (k : ∃ b1 : Nat, (gr M a0 1) = some (b1, 9, 0) ∧ (if (gi M b1 6) = (13 : Int32) then (Z E YX9_strength (d + 1) M [(0, vr (some (a0, 8, 0))), (1, vi l1)] 44 [vi (19 : Int32), vr (some (a0, 8, 0))] Q) else (Z E YX9_strength (d + 1) M [(0, vr (some (a0, 8, 0))), (1, vi l1)] 44 [vi (20 : Int32), vr (some (a0, 8, 0))] Q))) : Z E YX9_strength (d + 1) M [(0, vr (some (a0, 8, 0))), (1, vi l1)] 24 [] Q := by
  refine z_aload_n dX9_strength_24 rfl rfl ?_
  refine z_aload_n dX9_strength_25 rfl rfl ?_
  refine z_getr (r := (gr M a0 1)) dX9_strength_26 fsX9_27_8 rfl ?_
  obtain ⟨b1, e1_, k⟩ := k
  refine Z.eqs (lv' := [(0, vr (some (a0, 8, 0))), (1, vi l1)]) (st' := [vr (some (b1, 9, 0)), vr (some (a0, 8, 0))]) rfl (by rw [e1_] <;> rfl) ?_
  refine z_geti dX9_strength_29 fsX9_114_9 ?_
  refine z_bipush (v := 13) dX9_strength_32 rfl ?_
  refine z_icmp_ne (tgt := 42) dX9_strength_34 rfl (fun h_ => ?_) (fun h_ => ?_)
  · have k := zif h_ k
    refine z_bipush (v := 20) dX9_strength_42 rfl ?_
    exact k
  · have k := zit h_ k
    refine z_bipush (v := 19) dX9_strength_37 rfl ?_
    refine z_goto (tgt := 44) dX9_strength_39 rfl ?_
    exact k
theorem sX9_strength_44 {E : zE} {d : Nat} {Q : zO → zM → Prop} (M : zM) (a0 : Nat) (l1 : Int32) (s0 : Int32) (k : 16 ≤ a0 ∧ (if l1 = 0 then (∃ b1 : Nat, (gr M a0 1) = some (b1, 9, 0) ∧ (if (gi (si M a0 8 s0) b1 6) = (14 : Int32) then (Q (.inl (some (vi (6 : Int32)))) (si M a0 8 s0)) else (Q (.inl (some (vi (-1 : Int32)))) (si M a0 8 s0)))) else (Q (.inl (some (vi (6 : Int32)))) (si M a0 8 s0)))) : Z E YX9_strength (d + 1) M [(0, vr (some (a0, 8, 0))), (1, vi l1)] 44 [vi s0, vr (some (a0, 8, 0))] Q := by
  obtain ⟨g_, k⟩ := k
  refine z_puti g_ dX9_strength_44 (zfwN.w fwX9_280_8) rfl ⟨rfl, rfl⟩ ?_
  refine z_iload_n dX9_strength_47 rfl rfl ?_
  refine z_if_ne (tgt := 63) dX9_strength_48 rfl (fun h_ => ?_) (fun h_ => ?_)
  · have k := zif h_ k
    refine z_bipush (v := 6) dX9_strength_63 rfl ?_
    refine z_goto (tgt := 69) dX9_strength_65 rfl ?_
    exact z_iret dX9_strength_69 rfl rfl k
  · have k := zit h_ k
    refine z_aload_n dX9_strength_51 rfl rfl ?_
    refine z_getr (r := (gr M a0 1)) dX9_strength_52 fsX9_27_8 rfl ?_
    obtain ⟨b1, e1_, k⟩ := k
    refine Z.eqs (lv' := [(0, vr (some (a0, 8, 0))), (1, vi l1)]) (st' := [vr (some (b1, 9, 0))]) rfl (by rw [e1_] <;> rfl) ?_
    refine z_geti dX9_strength_55 fsX9_114_9 ?_
    refine z_bipush (v := 14) dX9_strength_58 rfl ?_
    refine z_icmp_ne (tgt := 68) dX9_strength_60 rfl (fun h_ => ?_) (fun h_ => ?_)
    · have k := zif h_ k
      refine z_iconst (v := -1) dX9_strength_68 rfl ?_
      exact z_iret dX9_strength_69 rfl rfl k
    · have k := zit h_ k
      refine z_bipush (v := 6) dX9_strength_63 rfl ?_
      refine z_goto (tgt := 69) dX9_strength_65 rfl ?_
      exact z_iret dX9_strength_69 rfl rfl k
/-! ScriptTypes$Parser.assigns()I -/
theorem bX9_assigns_0 : zdec cX9_assigns 0 [(0, .aload_n 0, 1), (1, .getfield 27, 3), (4, .getfield 55, 3), (7, .iconst 5, 1), (8, .if_icmp .ne 15, 3), (11, .aload_n 0, 1), (12, .getfield 27, 3), (15, .getfield 114, 3), (18, .bipush 36, 2), (20, .if_icmp .ge 6, 3), (23, .bipush (-2), 2), (25, .ireturn, 1), (26, .aload_n 0, 1), (27, .getfield 27, 3), (30, .getfield 114, 3), (33, .bipush 36, 2)] = true := by decide +kernel
theorem dX9_assigns_0 : decode cX9_assigns 0 = .ok (.aload_n 0, 1) := zdec_at bX9_assigns_0 0 rfl
theorem dX9_assigns_1 : decode cX9_assigns 1 = .ok (.getfield 27, 3) := zdec_at bX9_assigns_0 1 rfl
theorem dX9_assigns_4 : decode cX9_assigns 4 = .ok (.getfield 55, 3) := zdec_at bX9_assigns_0 2 rfl
theorem dX9_assigns_7 : decode cX9_assigns 7 = .ok (.iconst 5, 1) := zdec_at bX9_assigns_0 3 rfl
theorem dX9_assigns_8 : decode cX9_assigns 8 = .ok (.if_icmp .ne 15, 3) := zdec_at bX9_assigns_0 4 rfl
theorem dX9_assigns_11 : decode cX9_assigns 11 = .ok (.aload_n 0, 1) := zdec_at bX9_assigns_0 5 rfl
theorem dX9_assigns_12 : decode cX9_assigns 12 = .ok (.getfield 27, 3) := zdec_at bX9_assigns_0 6 rfl
theorem dX9_assigns_15 : decode cX9_assigns 15 = .ok (.getfield 114, 3) := zdec_at bX9_assigns_0 7 rfl
theorem dX9_assigns_18 : decode cX9_assigns 18 = .ok (.bipush 36, 2) := zdec_at bX9_assigns_0 8 rfl
theorem dX9_assigns_20 : decode cX9_assigns 20 = .ok (.if_icmp .ge 6, 3) := zdec_at bX9_assigns_0 9 rfl
theorem dX9_assigns_23 : decode cX9_assigns 23 = .ok (.bipush (-2), 2) := zdec_at bX9_assigns_0 10 rfl
theorem dX9_assigns_25 : decode cX9_assigns 25 = .ok (.ireturn, 1) := zdec_at bX9_assigns_0 11 rfl
theorem dX9_assigns_26 : decode cX9_assigns 26 = .ok (.aload_n 0, 1) := zdec_at bX9_assigns_0 12 rfl
theorem dX9_assigns_27 : decode cX9_assigns 27 = .ok (.getfield 27, 3) := zdec_at bX9_assigns_0 13 rfl
theorem dX9_assigns_30 : decode cX9_assigns 30 = .ok (.getfield 114, 3) := zdec_at bX9_assigns_0 14 rfl
theorem dX9_assigns_33 : decode cX9_assigns 33 = .ok (.bipush 36, 2) := zdec_at bX9_assigns_0 15 rfl
theorem bX9_assigns_35 : zdec cX9_assigns 35 [(35, .if_icmp .ne 7, 3), (38, .iconst (-1), 1), (39, .goto 15, 3), (42, .aload_n 0, 1), (43, .getfield 27, 3), (46, .getfield 114, 3), (49, .bipush 36, 2), (51, .isub, 1), (52, .iconst 1, 1), (53, .isub, 1), (54, .ireturn, 1)] = true := by decide +kernel
theorem dX9_assigns_35 : decode cX9_assigns 35 = .ok (.if_icmp .ne 7, 3) := zdec_at bX9_assigns_35 0 rfl
theorem dX9_assigns_38 : decode cX9_assigns 38 = .ok (.iconst (-1), 1) := zdec_at bX9_assigns_35 1 rfl
theorem dX9_assigns_39 : decode cX9_assigns 39 = .ok (.goto 15, 3) := zdec_at bX9_assigns_35 2 rfl
theorem dX9_assigns_42 : decode cX9_assigns 42 = .ok (.aload_n 0, 1) := zdec_at bX9_assigns_35 3 rfl
theorem dX9_assigns_43 : decode cX9_assigns 43 = .ok (.getfield 27, 3) := zdec_at bX9_assigns_35 4 rfl
theorem dX9_assigns_46 : decode cX9_assigns 46 = .ok (.getfield 114, 3) := zdec_at bX9_assigns_35 5 rfl
theorem dX9_assigns_49 : decode cX9_assigns 49 = .ok (.bipush 36, 2) := zdec_at bX9_assigns_35 6 rfl
theorem dX9_assigns_51 : decode cX9_assigns 51 = .ok (.isub, 1) := zdec_at bX9_assigns_35 7 rfl
theorem dX9_assigns_52 : decode cX9_assigns 52 = .ok (.iconst 1, 1) := zdec_at bX9_assigns_35 8 rfl
theorem dX9_assigns_53 : decode cX9_assigns 53 = .ok (.isub, 1) := zdec_at bX9_assigns_35 9 rfl
theorem dX9_assigns_54 : decode cX9_assigns 54 = .ok (.ireturn, 1) := zdec_at bX9_assigns_35 10 rfl
theorem sX9_assigns_0 {E : zE} {d : Nat} {Q : zO → zM → Prop} (M : zM) (a0 : Nat) (k : ∃ b1 : Nat, (gr M a0 1) = some (b1, 9, 0) ∧ (if (gi M b1 3) = (5 : Int32) then (∃ b2 : Nat, (gr M a0 1) = some (b2, 9, 0) ∧ (if (36 : Int32) ≤ (gi M b2 6) then (∃ b3 : Nat, (gr M a0 1) = some (b3, 9, 0) ∧ (if (gi M b3 6) = (36 : Int32) then (Q (.inl (some (vi (-1 : Int32)))) M) else (∃ b4 : Nat, (gr M a0 1) = some (b4, 9, 0) ∧ (Q (.inl (some (vi (((gi M b4 6) - (36 : Int32)) - (1 : Int32))))) M)))) else (Q (.inl (some (vi (-2 : Int32)))) M))) else (Q (.inl (some (vi (-2 : Int32)))) M))) : Z E YX9_assigns d M [(0, vr (some (a0, 8, 0)))] 0 [] Q := by
  refine z_aload_n dX9_assigns_0 rfl rfl ?_
  refine z_getr (r := (gr M a0 1)) dX9_assigns_1 fsX9_27_8 rfl ?_
  obtain ⟨b1, e1_, k⟩ := k
  refine Z.eqs (lv' := [(0, vr (some (a0, 8, 0)))]) (st' := [vr (some (b1, 9, 0))]) rfl (by rw [e1_] <;> rfl) ?_
  refine z_geti dX9_assigns_4 fsX9_55_9 ?_
  refine z_iconst (v := 5) dX9_assigns_7 rfl ?_
  refine z_icmp_ne (tgt := 23) dX9_assigns_8 rfl (fun h_ => ?_) (fun h_ => ?_)
  · have k := zif h_ k
    refine z_bipush (v := -2) dX9_assigns_23 rfl ?_
    exact z_iret dX9_assigns_25 rfl rfl k
  · have k := zit h_ k
    refine z_aload_n dX9_assigns_11 rfl rfl ?_
    refine z_getr (r := (gr M a0 1)) dX9_assigns_12 fsX9_27_8 rfl ?_
    obtain ⟨b2, e2_, k⟩ := k
    refine Z.eqs (lv' := [(0, vr (some (a0, 8, 0)))]) (st' := [vr (some (b2, 9, 0))]) rfl (by rw [e2_] <;> rfl) ?_
    refine z_geti dX9_assigns_15 fsX9_114_9 ?_
    refine z_bipush (v := 36) dX9_assigns_18 rfl ?_
    refine z_icmp_ge (tgt := 26) dX9_assigns_20 rfl (fun h_ => ?_) (fun h_ => ?_)
    · have k := zit h_ k
      refine z_aload_n dX9_assigns_26 rfl rfl ?_
      refine z_getr (r := (gr M a0 1)) dX9_assigns_27 fsX9_27_8 rfl ?_
      obtain ⟨b3, e3_, k⟩ := k
      refine Z.eqs (lv' := [(0, vr (some (a0, 8, 0)))]) (st' := [vr (some (b3, 9, 0))]) rfl (by rw [e3_] <;> rfl) ?_
      refine z_geti dX9_assigns_30 fsX9_114_9 ?_
      refine z_bipush (v := 36) dX9_assigns_33 rfl ?_
      refine z_icmp_ne (tgt := 42) dX9_assigns_35 rfl (fun h_ => ?_) (fun h_ => ?_)
      · have k := zif h_ k
        refine z_aload_n dX9_assigns_42 rfl rfl ?_
        refine z_getr (r := (gr M a0 1)) dX9_assigns_43 fsX9_27_8 rfl ?_
        obtain ⟨b4, e4_, k⟩ := k
        refine Z.eqs (lv' := [(0, vr (some (a0, 8, 0)))]) (st' := [vr (some (b4, 9, 0))]) rfl (by rw [e4_] <;> rfl) ?_
        refine z_geti dX9_assigns_46 fsX9_114_9 ?_
        refine z_bipush (v := 36) dX9_assigns_49 rfl ?_
        refine z_isub dX9_assigns_51 ?_
        refine z_iconst (v := 1) dX9_assigns_52 rfl ?_
        refine z_isub dX9_assigns_53 ?_
        exact z_iret dX9_assigns_54 rfl rfl k
      · have k := zit h_ k
        refine z_iconst (v := -1) dX9_assigns_38 rfl ?_
        refine z_goto (tgt := 54) dX9_assigns_39 rfl ?_
        exact z_iret dX9_assigns_54 rfl rfl k
    · have k := zif h_ k
      refine z_bipush (v := -2) dX9_assigns_23 rfl ?_
      exact z_iret dX9_assigns_25 rfl rfl k
/-! ScriptTypes$Parser.semicolon()V -/
theorem bX9_semicolon_0 : zdec cX9_semicolon 0 [(0, .aload_n 0, 1), (1, .getfield 27, 3), (4, .bipush 7, 2), (6, .invokevirtual 137, 3), (9, .ifCond .ne 34, 3), (12, .aload_n 0, 1), (13, .getfield 27, 3), (16, .iconst 1, 1), (17, .invokevirtual 111, 3), (20, .ifCond .ne 23, 3), (23, .aload_n 0, 1), (24, .getfield 27, 3), (27, .getfield 55, 3), (30, .ifCond .eq 13, 3), (33, .aload_n 0, 1), (34, .getfield 27, 3)] = true := by decide +kernel
theorem dX9_semicolon_0 : decode cX9_semicolon 0 = .ok (.aload_n 0, 1) := zdec_at bX9_semicolon_0 0 rfl
theorem dX9_semicolon_1 : decode cX9_semicolon 1 = .ok (.getfield 27, 3) := zdec_at bX9_semicolon_0 1 rfl
theorem dX9_semicolon_4 : decode cX9_semicolon 4 = .ok (.bipush 7, 2) := zdec_at bX9_semicolon_0 2 rfl
theorem dX9_semicolon_6 : decode cX9_semicolon 6 = .ok (.invokevirtual 137, 3) := zdec_at bX9_semicolon_0 3 rfl
theorem dX9_semicolon_9 : decode cX9_semicolon 9 = .ok (.ifCond .ne 34, 3) := zdec_at bX9_semicolon_0 4 rfl
theorem dX9_semicolon_12 : decode cX9_semicolon 12 = .ok (.aload_n 0, 1) := zdec_at bX9_semicolon_0 5 rfl
theorem dX9_semicolon_13 : decode cX9_semicolon 13 = .ok (.getfield 27, 3) := zdec_at bX9_semicolon_0 6 rfl
theorem dX9_semicolon_16 : decode cX9_semicolon 16 = .ok (.iconst 1, 1) := zdec_at bX9_semicolon_0 7 rfl
theorem dX9_semicolon_17 : decode cX9_semicolon 17 = .ok (.invokevirtual 111, 3) := zdec_at bX9_semicolon_0 8 rfl
theorem dX9_semicolon_20 : decode cX9_semicolon 20 = .ok (.ifCond .ne 23, 3) := zdec_at bX9_semicolon_0 9 rfl
theorem dX9_semicolon_23 : decode cX9_semicolon 23 = .ok (.aload_n 0, 1) := zdec_at bX9_semicolon_0 10 rfl
theorem dX9_semicolon_24 : decode cX9_semicolon 24 = .ok (.getfield 27, 3) := zdec_at bX9_semicolon_0 11 rfl
theorem dX9_semicolon_27 : decode cX9_semicolon 27 = .ok (.getfield 55, 3) := zdec_at bX9_semicolon_0 12 rfl
theorem dX9_semicolon_30 : decode cX9_semicolon 30 = .ok (.ifCond .eq 13, 3) := zdec_at bX9_semicolon_0 13 rfl
theorem dX9_semicolon_33 : decode cX9_semicolon 33 = .ok (.aload_n 0, 1) := zdec_at bX9_semicolon_0 14 rfl
theorem dX9_semicolon_34 : decode cX9_semicolon 34 = .ok (.getfield 27, 3) := zdec_at bX9_semicolon_0 15 rfl
theorem bX9_semicolon_37 : zdec cX9_semicolon 37 [(37, .invokevirtual 155, 3), (40, .ifCond .eq 4, 3), (43, .return_, 1), (44, .aload_n 0, 1), (45, .getfield 27, 3), (48, .iconst 2, 1), (49, .invokevirtual 35, 3), (52, .athrow, 1)] = true := by decide +kernel
theorem dX9_semicolon_37 : decode cX9_semicolon 37 = .ok (.invokevirtual 155, 3) := zdec_at bX9_semicolon_37 0 rfl
theorem dX9_semicolon_40 : decode cX9_semicolon 40 = .ok (.ifCond .eq 4, 3) := zdec_at bX9_semicolon_37 1 rfl
theorem dX9_semicolon_43 : decode cX9_semicolon 43 = .ok (.return_, 1) := zdec_at bX9_semicolon_37 2 rfl
theorem dX9_semicolon_44 : decode cX9_semicolon 44 = .ok (.aload_n 0, 1) := zdec_at bX9_semicolon_37 3 rfl
theorem dX9_semicolon_45 : decode cX9_semicolon 45 = .ok (.getfield 27, 3) := zdec_at bX9_semicolon_37 4 rfl
theorem dX9_semicolon_48 : decode cX9_semicolon 48 = .ok (.iconst 2, 1) := zdec_at bX9_semicolon_37 5 rfl
theorem dX9_semicolon_49 : decode cX9_semicolon 49 = .ok (.invokevirtual 35, 3) := zdec_at bX9_semicolon_37 6 rfl
theorem dX9_semicolon_52 : decode cX9_semicolon 52 = .ok (.athrow, 1) := zdec_at bX9_semicolon_37 7 rfl
theorem sX9_semicolon_0 {E : zE} {d : Nat} {Q : zO → zM → Prop} (M : zM) (a0 : Nat) (k : ∃ b1 : Nat, (gr M a0 1) = some (b1, 9, 0) ∧ (Z E YX10_takes d M (zargs 0 [vr (some (b1, 9, 0)), vi (7 : Int32)]) 0 [] (zafter E YX9_semicolon (d + 1) [(0, vr (some (a0, 8, 0)))] 6 3 [] Q))) : Z E YX9_semicolon (d + 1) M [(0, vr (some (a0, 8, 0)))] 0 [] Q := by
  refine z_aload_n dX9_semicolon_0 rfl rfl ?_
  refine z_getr (r := (gr M a0 1)) dX9_semicolon_1 fsX9_27_8 rfl ?_
  refine z_bipush (v := 7) dX9_semicolon_4 rfl ?_
  obtain ⟨b1, e1_, k⟩ := k
  refine Z.eqs (lv' := [(0, vr (some (a0, 8, 0)))]) (st' := [vi (7 : Int32), vr (some (b1, 9, 0))]) rfl (by rw [e1_] <;> rfl) ?_
  exact z_callV (as := [vi (7 : Int32)]) (st := []) dX9_semicolon_6 vsX9_137_9 (Nat.le_refl _) (Nat.le_of_ble_eq_true rfl) (Nat.le_of_ble_eq_true rfl) rfl k
theorem sX9_semicolon_9 {E : zE} {d : Nat} {Q : zO → zM → Prop} (M : zM) (a0 : Nat) (s0 : Int32) (k : if s0 = 0 then (∃ b1 : Nat, (gr M a0 1) = some (b1, 9, 0) ∧ (Z E YX10_is d M (zargs 0 [vr (some (b1, 9, 0)), vi (1 : Int32)]) 0 [] (zafter E YX9_semicolon (d + 1) [(0, vr (some (a0, 8, 0)))] 17 3 [] Q))) else (Q (.inl none) M)) : Z E YX9_semicolon (d + 1) M [(0, vr (some (a0, 8, 0)))] 9 [vi s0] Q := by
  refine z_if_ne (tgt := 43) dX9_semicolon_9 rfl (fun h_ => ?_) (fun h_ => ?_)
  · have k := zif h_ k
    exact z_vret dX9_semicolon_43 rfl k
  · have k := zit h_ k
    refine z_aload_n dX9_semicolon_12 rfl rfl ?_
    refine z_getr (r := (gr M a0 1)) dX9_semicolon_13 fsX9_27_8 rfl ?_
    refine z_iconst (v := 1) dX9_semicolon_16 rfl ?_
    obtain ⟨b1, e1_, k⟩ := k
    refine Z.eqs (lv' := [(0, vr (some (a0, 8, 0)))]) (st' := [vi (1 : Int32), vr (some (b1, 9, 0))]) rfl (by rw [e1_] <;> rfl) ?_
    exact z_callV (as := [vi (1 : Int32)]) (st := []) dX9_semicolon_17 vsX9_111_9 (Nat.le_refl _) (Nat.le_of_ble_eq_true rfl) (Nat.le_of_ble_eq_true rfl) rfl k
theorem sX9_semicolon_20 {E : zE} {d : Nat} {Q : zO → zM → Prop} (M : zM) (a0 : Nat) (s0 : Int32) (k : if s0 = 0 then (∃ b1 : Nat, (gr M a0 1) = some (b1, 9, 0) ∧ (if (gi M b1 3) = 0 then (Q (.inl none) M) else (∃ b2 : Nat, (gr M a0 1) = some (b2, 9, 0) ∧ (Z E YX10_onLaterLine d M (zargs 0 [vr (some (b2, 9, 0))]) 0 [] (zafter E YX9_semicolon (d + 1) [(0, vr (some (a0, 8, 0)))] 37 3 [] Q))))) else (Q (.inl none) M)) : Z E YX9_semicolon (d + 1) M [(0, vr (some (a0, 8, 0)))] 20 [vi s0] Q := by
  refine z_if_ne (tgt := 43) dX9_semicolon_20 rfl (fun h_ => ?_) (fun h_ => ?_)
  · have k := zif h_ k
    exact z_vret dX9_semicolon_43 rfl k
  · have k := zit h_ k
    refine z_aload_n dX9_semicolon_23 rfl rfl ?_
    refine z_getr (r := (gr M a0 1)) dX9_semicolon_24 fsX9_27_8 rfl ?_
    obtain ⟨b1, e1_, k⟩ := k
    refine Z.eqs (lv' := [(0, vr (some (a0, 8, 0)))]) (st' := [vr (some (b1, 9, 0))]) rfl (by rw [e1_] <;> rfl) ?_
    refine z_geti dX9_semicolon_27 fsX9_55_9 ?_
    refine z_if_eq (tgt := 43) dX9_semicolon_30 rfl (fun h_ => ?_) (fun h_ => ?_)
    · have k := zit h_ k
      exact z_vret dX9_semicolon_43 rfl k
    · have k := zif h_ k
      refine z_aload_n dX9_semicolon_33 rfl rfl ?_
      refine z_getr (r := (gr M a0 1)) dX9_semicolon_34 fsX9_27_8 rfl ?_
      obtain ⟨b2, e2_, k⟩ := k
      refine Z.eqs (lv' := [(0, vr (some (a0, 8, 0)))]) (st' := [vr (some (b2, 9, 0))]) rfl (by rw [e2_] <;> rfl) ?_
      exact z_callV (as := []) (st := []) dX9_semicolon_37 vsX9_155_9 (Nat.le_refl _) (Nat.le_of_ble_eq_true rfl) (Nat.le_of_ble_eq_true rfl) rfl k
theorem sX9_semicolon_40 {E : zE} {d : Nat} {Q : zO → zM → Prop} (M : zM) (a0 : Nat) (s0 : Int32) (k : if s0 = 0 then (∃ b1 : Nat, (gr M a0 1) = some (b1, 9, 0) ∧ (Z E YX10_fault d M (zargs 0 [vr (some (b1, 9, 0)), vi (2 : Int32)]) 0 [] (zafter E YX9_semicolon (d + 1) [] 49 3 [] Q))) else (Q (.inl none) M)) : Z E YX9_semicolon (d + 1) M [(0, vr (some (a0, 8, 0)))] 40 [vi s0] Q := by
  refine z_if_eq (tgt := 44) dX9_semicolon_40 rfl (fun h_ => ?_) (fun h_ => ?_)
  · have k := zit h_ k
    refine z_aload_n dX9_semicolon_44 rfl rfl ?_
    refine z_getr (r := (gr M a0 1)) dX9_semicolon_45 fsX9_27_8 rfl ?_
    refine z_iconst (v := 2) dX9_semicolon_48 rfl ?_
    obtain ⟨b1, e1_, k⟩ := k
    refine Z.eqs (lv' := [(0, vr (some (a0, 8, 0)))]) (st' := [vi (2 : Int32), vr (some (b1, 9, 0))]) rfl (by rw [e1_] <;> rfl) ?_
    refine Z.pick [] rfl ?_
    exact z_callV (as := [vi (2 : Int32)]) (st := []) dX9_semicolon_49 vsX9_35_9 (Nat.le_refl _) (Nat.le_of_ble_eq_true rfl) (Nat.le_of_ble_eq_true rfl) rfl k
  · have k := zif h_ k
    exact z_vret dX9_semicolon_43 rfl k
theorem sX9_semicolon_52 {E : zE} {d : Nat} {Q : zO → zM → Prop} (M : zM) (u0 : Option zP) (k : ∃ b1 : Nat, u0 = some (b1, 12, 0) ∧ (Q (.inr (b1, 12, 0)) M)) : Z E YX9_semicolon (d + 1) M [] 52 [vr u0] Q := by
  obtain ⟨b1, e1_, k⟩ := k
  refine Z.eqs (lv' := []) (st' := [vr (some (b1, 12, 0))]) rfl (by rw [e1_] <;> rfl) ?_
  exact z_athrow dX9_semicolon_52 (ZT.out (by decide) k)
/-! ScriptTypes$Parser.inRound()LScriptTypes$Node; -/
theorem bX9_inRound_0 : zdec cX9_inRound 0 [(0, .aload_n 0, 1), (1, .getfield 27, 3), (4, .iconst 2, 1), (5, .invokevirtual 108, 3), (8, .aload_n 0, 1), (9, .iconst 1, 1), (10, .invokevirtual 145, 3), (13, .astore_n 1, 1), (14, .aload_n 0, 1), (15, .getfield 27, 3), (18, .iconst 3, 1), (19, .invokevirtual 108, 3), (22, .aload_n 1, 1), (23, .areturn, 1)] = true := by decide +kernel
theorem dX9_inRound_0 : decode cX9_inRound 0 = .ok (.aload_n 0, 1) := zdec_at bX9_inRound_0 0 rfl
theorem dX9_inRound_1 : decode cX9_inRound 1 = .ok (.getfield 27, 3) := zdec_at bX9_inRound_0 1 rfl
theorem dX9_inRound_4 : decode cX9_inRound 4 = .ok (.iconst 2, 1) := zdec_at bX9_inRound_0 2 rfl
theorem dX9_inRound_5 : decode cX9_inRound 5 = .ok (.invokevirtual 108, 3) := zdec_at bX9_inRound_0 3 rfl
theorem dX9_inRound_8 : decode cX9_inRound 8 = .ok (.aload_n 0, 1) := zdec_at bX9_inRound_0 4 rfl
theorem dX9_inRound_9 : decode cX9_inRound 9 = .ok (.iconst 1, 1) := zdec_at bX9_inRound_0 5 rfl
theorem dX9_inRound_10 : decode cX9_inRound 10 = .ok (.invokevirtual 145, 3) := zdec_at bX9_inRound_0 6 rfl
theorem dX9_inRound_13 : decode cX9_inRound 13 = .ok (.astore_n 1, 1) := zdec_at bX9_inRound_0 7 rfl
theorem dX9_inRound_14 : decode cX9_inRound 14 = .ok (.aload_n 0, 1) := zdec_at bX9_inRound_0 8 rfl
theorem dX9_inRound_15 : decode cX9_inRound 15 = .ok (.getfield 27, 3) := zdec_at bX9_inRound_0 9 rfl
theorem dX9_inRound_18 : decode cX9_inRound 18 = .ok (.iconst 3, 1) := zdec_at bX9_inRound_0 10 rfl
theorem dX9_inRound_19 : decode cX9_inRound 19 = .ok (.invokevirtual 108, 3) := zdec_at bX9_inRound_0 11 rfl
theorem dX9_inRound_22 : decode cX9_inRound 22 = .ok (.aload_n 1, 1) := zdec_at bX9_inRound_0 12 rfl
theorem dX9_inRound_23 : decode cX9_inRound 23 = .ok (.areturn, 1) := zdec_at bX9_inRound_0 13 rfl
theorem sX9_inRound_0 {E : zE} {d : Nat} {Q : zO → zM → Prop} (M : zM) (a0 : Nat) (k : ∃ b1 : Nat, (gr M a0 1) = some (b1, 9, 0) ∧ (Z E YX10_need d M (zargs 0 [vr (some (b1, 9, 0)), vi (2 : Int32)]) 0 [] (zafter E YX9_inRound (d + 1) [(0, vr (some (a0, 8, 0)))] 5 3 [] Q))) : Z E YX9_inRound (d + 1) M [(0, vr (some (a0, 8, 0)))] 0 [] Q := by
  refine z_aload_n dX9_inRound_0 rfl rfl ?_
  refine z_getr (r := (gr M a0 1)) dX9_inRound_1 fsX9_27_8 rfl ?_
  refine z_iconst (v := 2) dX9_inRound_4 rfl ?_
  obtain ⟨b1, e1_, k⟩ := k
  refine Z.eqs (lv' := [(0, vr (some (a0, 8, 0)))]) (st' := [vi (2 : Int32), vr (some (b1, 9, 0))]) rfl (by rw [e1_] <;> rfl) ?_
  exact z_callV (as := [vi (2 : Int32)]) (st := []) dX9_inRound_5 vsX9_108_9 (Nat.le_refl _) (Nat.le_of_ble_eq_true rfl) (Nat.le_of_ble_eq_true rfl) rfl k
theorem sX9_inRound_8 {E : zE} {d : Nat} {Q : zO → zM → Prop} (M : zM) (a0 : Nat) (k : Z E YX9_expression d M (zargs 0 [vr (some (a0, 8, 0)), vi (1 : Int32)]) 0 [] (zafter E YX9_inRound (d + 1) [(0, vr (some (a0, 8, 0)))] 10 3 [] Q)) : Z E YX9_inRound (d + 1) M [(0, vr (some (a0, 8, 0)))] 8 [] Q := by
  refine z_aload_n dX9_inRound_8 rfl rfl ?_
  refine z_iconst (v := 1) dX9_inRound_9 rfl ?_
  exact z_callV (as := [vi (1 : Int32)]) (st := []) dX9_inRound_10 vsX9_145_8 (Nat.le_refl _) (Nat.le_of_ble_eq_true rfl) (Nat.le_of_ble_eq_true rfl) rfl k
theorem sX9_inRound_13 {E : zE} {d : Nat} {Q : zO → zM → Prop} (M : zM) (a0 : Nat) (u0 : Option zP) (k : ∃ b1 : Nat, (gr M a0 1) = some (b1, 9, 0) ∧ (Z E YX10_need d M (zargs 0 [vr (some (b1, 9, 0)), vi (3 : Int32)]) 0 [] (zafter E YX9_inRound (d + 1) [(1, vr u0)] 19 3 [] Q))) : Z E YX9_inRound (d + 1) M [(0, vr (some (a0, 8, 0)))] 13 [vr u0] Q := by
  refine z_ast_n dX9_inRound_13 rfl (by decide) (lv' := [(0, vr (some (a0, 8, 0))), (1, vr u0)]) rfl ?_
  refine z_aload_n dX9_inRound_14 rfl rfl ?_
  refine z_getr (r := (gr M a0 1)) dX9_inRound_15 fsX9_27_8 rfl ?_
  refine z_iconst (v := 3) dX9_inRound_18 rfl ?_
  obtain ⟨b1, e1_, k⟩ := k
  refine Z.eqs (lv' := [(0, vr (some (a0, 8, 0))), (1, vr u0)]) (st' := [vi (3 : Int32), vr (some (b1, 9, 0))]) rfl (by rw [e1_] <;> rfl) ?_
  refine Z.pick [1] rfl ?_
  exact z_callV (as := [vi (3 : Int32)]) (st := []) dX9_inRound_19 vsX9_108_9 (Nat.le_refl _) (Nat.le_of_ble_eq_true rfl) (Nat.le_of_ble_eq_true rfl) rfl k
theorem sX9_inRound_22 {E : zE} {d : Nat} {Q : zO → zM → Prop} (M : zM) (r1 : Option zP) (k : Q (.inl (some (vr r1))) M) : Z E YX9_inRound (d + 1) M [(1, vr r1)] 22 [] Q := by
  refine z_aload_n dX9_inRound_22 rfl rfl ?_
  exact z_aret dX9_inRound_23 rfl rfl k
/-! ScriptTypes$Parser.looped()LScriptTypes$Node; -/
theorem bX9_looped_0 : zdec cX9_looped 0 [(0, .aload_n 0, 1), (1, .dup, 1), (2, .getfield 102, 3), (5, .iconst 1, 1), (6, .iadd, 1), (7, .putfield 102, 3), (10, .aload_n 0, 1), (11, .invokevirtual 68, 3), (14, .astore_n 1, 1), (15, .aload_n 0, 1), (16, .dup, 1), (17, .getfield 102, 3), (20, .iconst 1, 1), (21, .isub, 1), (22, .putfield 102, 3), (25, .aload_n 1, 1)] = true := by decide +kernel
theorem dX9_looped_0 : decode cX9_looped 0 = .ok (.aload_n 0, 1) := zdec_at bX9_looped_0 0 rfl
theorem dX9_looped_1 : decode cX9_looped 1 = .ok (.dup, 1) := zdec_at bX9_looped_0 1 rfl
theorem dX9_looped_2 : decode cX9_looped 2 = .ok (.getfield 102, 3) := zdec_at bX9_looped_0 2 rfl
theorem dX9_looped_5 : decode cX9_looped 5 = .ok (.iconst 1, 1) := zdec_at bX9_looped_0 3 rfl
theorem dX9_looped_6 : decode cX9_looped 6 = .ok (.iadd, 1) := zdec_at bX9_looped_0 4 rfl
theorem dX9_looped_7 : decode cX9_looped 7 = .ok (.putfield 102, 3) := zdec_at bX9_looped_0 5 rfl
theorem dX9_looped_10 : decode cX9_looped 10 = .ok (.aload_n 0, 1) := zdec_at bX9_looped_0 6 rfl
theorem dX9_looped_11 : decode cX9_looped 11 = .ok (.invokevirtual 68, 3) := zdec_at bX9_looped_0 7 rfl
theorem dX9_looped_14 : decode cX9_looped 14 = .ok (.astore_n 1, 1) := zdec_at bX9_looped_0 8 rfl
theorem dX9_looped_15 : decode cX9_looped 15 = .ok (.aload_n 0, 1) := zdec_at bX9_looped_0 9 rfl
theorem dX9_looped_16 : decode cX9_looped 16 = .ok (.dup, 1) := zdec_at bX9_looped_0 10 rfl
theorem dX9_looped_17 : decode cX9_looped 17 = .ok (.getfield 102, 3) := zdec_at bX9_looped_0 11 rfl
theorem dX9_looped_20 : decode cX9_looped 20 = .ok (.iconst 1, 1) := zdec_at bX9_looped_0 12 rfl
theorem dX9_looped_21 : decode cX9_looped 21 = .ok (.isub, 1) := zdec_at bX9_looped_0 13 rfl
theorem dX9_looped_22 : decode cX9_looped 22 = .ok (.putfield 102, 3) := zdec_at bX9_looped_0 14 rfl
theorem dX9_looped_25 : decode cX9_looped 25 = .ok (.aload_n 1, 1) := zdec_at bX9_looped_0 15 rfl
theorem bX9_looped_26 : zdec cX9_looped 26 [(26, .areturn, 1)] = true := by decide +kernel
theorem dX9_looped_26 : decode cX9_looped 26 = .ok (.areturn, 1) := zdec_at bX9_looped_26 0 rfl
theorem sX9_looped_0 {E : zE} {d : Nat} {Q : zO → zM → Prop} (M : zM) (a0 : Nat) (k : 16 ≤ a0 ∧ (Z E YX9_statement d (si M a0 5 ((gi M a0 5) + (1 : Int32))) (zargs 0 [vr (some (a0, 8, 0))]) 0 [] (zafter E YX9_looped (d + 1) [(0, vr (some (a0, 8, 0)))] 11 3 [] Q))) : Z E YX9_looped (d + 1) M [(0, vr (some (a0, 8, 0)))] 0 [] Q := by
  refine z_aload_n dX9_looped_0 rfl rfl ?_
  refine z_dup dX9_looped_1 rfl ?_
  refine z_geti dX9_looped_2 fsX9_102_8 ?_
  refine z_iconst (v := 1) dX9_looped_5 rfl ?_
  refine z_iadd dX9_looped_6 ?_
  obtain ⟨g_, k⟩ := k
  refine z_puti g_ dX9_looped_7 (zfwN.w fwX9_102_8) rfl ⟨rfl, rfl⟩ ?_
  refine z_aload_n dX9_looped_10 rfl rfl ?_
  exact z_callV (as := []) (st := []) dX9_looped_11 vsX9_68_8 (Nat.le_refl _) (Nat.le_of_ble_eq_true rfl) (Nat.le_of_ble_eq_true rfl) rfl k
theorem sX9_looped_14 {E : zE} {d : Nat} {Q : zO → zM → Prop} (M : zM) (a0 : Nat) (u0 : Option zP) (k : 16 ≤ a0 ∧ (Q (.inl (some (vr u0))) (si M a0 5 ((gi M a0 5) - (1 : Int32))))) : Z E YX9_looped (d + 1) M [(0, vr (some (a0, 8, 0)))] 14 [vr u0] Q := by
  refine z_ast_n dX9_looped_14 rfl (by decide) (lv' := [(0, vr (some (a0, 8, 0))), (1, vr u0)]) rfl ?_
  refine z_aload_n dX9_looped_15 rfl rfl ?_
  refine z_dup dX9_looped_16 rfl ?_
  refine z_geti dX9_looped_17 fsX9_102_8 ?_
  refine z_iconst (v := 1) dX9_looped_20 rfl ?_
  refine z_isub dX9_looped_21 ?_
  obtain ⟨g_, k⟩ := k
  refine z_puti g_ dX9_looped_22 (zfwN.w fwX9_102_8) rfl ⟨rfl, rfl⟩ ?_
  refine z_aload_n dX9_looped_25 rfl rfl ?_
  exact z_aret dX9_looped_26 rfl rfl k
/-! ScriptTypes$Parser.loop()LScriptTypes$Node; -/
theorem bX9_loop_0 : zdec cX9_loop 0 [(0, .aload_n 0, 1), (1, .getfield 27, 3), (4, .iconst 2, 1), (5, .invokevirtual 108, 3), (8, .aconst_null, 1), (9, .astore_n 1, 1), (10, .aload_n 0, 1), (11, .getfield 27, 3), (14, .bipush 26, 2), (16, .invokevirtual 175, 3), (19, .ifCond .eq 75, 3), (22, .aload_n 0, 1), (23, .getfield 27, 3), (26, .getfield 55, 3), (29, .iconst 1, 1), (30, .if_icmp .ne 13, 3)] = true := by decide +kernel
theorem dX9_loop_0 : decode cX9_loop 0 = .ok (.aload_n 0, 1) := zdec_at bX9_loop_0 0 rfl
theorem dX9_loop_1 : decode cX9_loop 1 = .ok (.getfield 27, 3) := zdec_at bX9_loop_0 1 rfl
theorem dX9_loop_4 : decode cX9_loop 4 = .ok (.iconst 2, 1) := zdec_at bX9_loop_0 2 rfl
theorem dX9_loop_5 : decode cX9_loop 5 = .ok (.invokevirtual 108, 3) := zdec_at bX9_loop_0 3 rfl
theorem dX9_loop_8 : decode cX9_loop 8 = .ok (.aconst_null, 1) := zdec_at bX9_loop_0 4 rfl
theorem dX9_loop_9 : decode cX9_loop 9 = .ok (.astore_n 1, 1) := zdec_at bX9_loop_0 5 rfl
theorem dX9_loop_10 : decode cX9_loop 10 = .ok (.aload_n 0, 1) := zdec_at bX9_loop_0 6 rfl
theorem dX9_loop_11 : decode cX9_loop 11 = .ok (.getfield 27, 3) := zdec_at bX9_loop_0 7 rfl
theorem dX9_loop_14 : decode cX9_loop 14 = .ok (.bipush 26, 2) := zdec_at bX9_loop_0 8 rfl
theorem dX9_loop_16 : decode cX9_loop 16 = .ok (.invokevirtual 175, 3) := zdec_at bX9_loop_0 9 rfl
theorem dX9_loop_19 : decode cX9_loop 19 = .ok (.ifCond .eq 75, 3) := zdec_at bX9_loop_0 10 rfl
theorem dX9_loop_22 : decode cX9_loop 22 = .ok (.aload_n 0, 1) := zdec_at bX9_loop_0 11 rfl
theorem dX9_loop_23 : decode cX9_loop 23 = .ok (.getfield 27, 3) := zdec_at bX9_loop_0 12 rfl
theorem dX9_loop_26 : decode cX9_loop 26 = .ok (.getfield 55, 3) := zdec_at bX9_loop_0 13 rfl
theorem dX9_loop_29 : decode cX9_loop 29 = .ok (.iconst 1, 1) := zdec_at bX9_loop_0 14 rfl
theorem dX9_loop_30 : decode cX9_loop 30 = .ok (.if_icmp .ne 13, 3) := zdec_at bX9_loop_0 15 rfl
theorem bX9_loop_33 : zdec cX9_loop 33 [(33, .aload_n 0, 1), (34, .getfield 27, 3), (37, .getfield 114, 3), (40, .goto 4, 3), (43, .iconst (-1), 1), (44, .istore_n 2, 1), (45, .aload_n 0, 1), (46, .iconst 0, 1), (47, .invokevirtual 167, 3), (50, .checkcast 140, 3), (53, .astore_n 3, 1), (54, .aload_n 0, 1), (55, .getfield 27, 3), (58, .bipush 13, 2), (60, .invokevirtual 61, 3), (63, .ifCond .eq 26, 3)] = true := by decide +kernel
theorem dX9_loop_33 : decode cX9_loop 33 = .ok (.aload_n 0, 1) := zdec_at bX9_loop_33 0 rfl
theorem dX9_loop_34 : decode cX9_loop 34 = .ok (.getfield 27, 3) := zdec_at bX9_loop_33 1 rfl
theorem dX9_loop_37 : decode cX9_loop 37 = .ok (.getfield 114, 3) := zdec_at bX9_loop_33 2 rfl
theorem dX9_loop_40 : decode cX9_loop 40 = .ok (.goto 4, 3) := zdec_at bX9_loop_33 3 rfl
theorem dX9_loop_43 : decode cX9_loop 43 = .ok (.iconst (-1), 1) := zdec_at bX9_loop_33 4 rfl
theorem dX9_loop_44 : decode cX9_loop 44 = .ok (.istore_n 2, 1) := zdec_at bX9_loop_33 5 rfl
theorem dX9_loop_45 : decode cX9_loop 45 = .ok (.aload_n 0, 1) := zdec_at bX9_loop_33 6 rfl
theorem dX9_loop_46 : decode cX9_loop 46 = .ok (.iconst 0, 1) := zdec_at bX9_loop_33 7 rfl
theorem dX9_loop_47 : decode cX9_loop 47 = .ok (.invokevirtual 167, 3) := zdec_at bX9_loop_33 8 rfl
theorem dX9_loop_50 : decode cX9_loop 50 = .ok (.checkcast 140, 3) := zdec_at bX9_loop_33 9 rfl
theorem dX9_loop_53 : decode cX9_loop 53 = .ok (.astore_n 3, 1) := zdec_at bX9_loop_33 10 rfl
theorem dX9_loop_54 : decode cX9_loop 54 = .ok (.aload_n 0, 1) := zdec_at bX9_loop_33 11 rfl
theorem dX9_loop_55 : decode cX9_loop 55 = .ok (.getfield 27, 3) := zdec_at bX9_loop_33 12 rfl
theorem dX9_loop_58 : decode cX9_loop 58 = .ok (.bipush 13, 2) := zdec_at bX9_loop_33 13 rfl
theorem dX9_loop_60 : decode cX9_loop 60 = .ok (.invokevirtual 61, 3) := zdec_at bX9_loop_33 14 rfl
theorem dX9_loop_63 : decode cX9_loop 63 = .ok (.ifCond .eq 26, 3) := zdec_at bX9_loop_33 15 rfl
theorem bX9_loop_66 : zdec cX9_loop 66 [(66, .aload_n 3, 1), (67, .getfield 158, 3), (70, .invokevirtual 228, 3), (73, .ifCond .eq 16, 3), (76, .aload_n 0, 1), (77, .getfield 224, 3), (80, .ifCond .eq 9, 3), (83, .aload_n 0, 1), (84, .iload_n 2, 1), (85, .invokevirtual 231, 3), (88, .areturn, 1), (89, .aload_n 3, 1), (90, .astore_n 1, 1), (91, .goto 61, 3), (94, .aload_n 0, 1), (95, .getfield 27, 3)] = true := by decide +kernel
theorem dX9_loop_66 : decode cX9_loop 66 = .ok (.aload_n 3, 1) := zdec_at bX9_loop_66 0 rfl
theorem dX9_loop_67 : decode cX9_loop 67 = .ok (.getfield 158, 3) := zdec_at bX9_loop_66 1 rfl
theorem dX9_loop_70 : decode cX9_loop 70 = .ok (.invokevirtual 228, 3) := zdec_at bX9_loop_66 2 rfl
theorem dX9_loop_73 : decode cX9_loop 73 = .ok (.ifCond .eq 16, 3) := zdec_at bX9_loop_66 3 rfl
theorem dX9_loop_76 : decode cX9_loop 76 = .ok (.aload_n 0, 1) := zdec_at bX9_loop_66 4 rfl
theorem dX9_loop_77 : decode cX9_loop 77 = .ok (.getfield 224, 3) := zdec_at bX9_loop_66 5 rfl
theorem dX9_loop_80 : decode cX9_loop 80 = .ok (.ifCond .eq 9, 3) := zdec_at bX9_loop_66 6 rfl
theorem dX9_loop_83 : decode cX9_loop 83 = .ok (.aload_n 0, 1) := zdec_at bX9_loop_66 7 rfl
theorem dX9_loop_84 : decode cX9_loop 84 = .ok (.iload_n 2, 1) := zdec_at bX9_loop_66 8 rfl
theorem dX9_loop_85 : decode cX9_loop 85 = .ok (.invokevirtual 231, 3) := zdec_at bX9_loop_66 9 rfl
theorem dX9_loop_88 : decode cX9_loop 88 = .ok (.areturn, 1) := zdec_at bX9_loop_66 10 rfl
theorem dX9_loop_89 : decode cX9_loop 89 = .ok (.aload_n 3, 1) := zdec_at bX9_loop_66 11 rfl
theorem dX9_loop_90 : decode cX9_loop 90 = .ok (.astore_n 1, 1) := zdec_at bX9_loop_66 12 rfl
theorem dX9_loop_91 : decode cX9_loop 91 = .ok (.goto 61, 3) := zdec_at bX9_loop_66 13 rfl
theorem dX9_loop_94 : decode cX9_loop 94 = .ok (.aload_n 0, 1) := zdec_at bX9_loop_66 14 rfl
theorem dX9_loop_95 : decode cX9_loop 95 = .ok (.getfield 27, 3) := zdec_at bX9_loop_66 15 rfl
theorem bX9_loop_98 : zdec cX9_loop 98 [(98, .bipush 7, 2), (100, .invokevirtual 111, 3), (103, .ifCond .ne 49, 3), (106, .aload_n 0, 1), (107, .iconst 0, 1), (108, .invokevirtual 145, 3), (111, .astore_n 2, 1), (112, .aload_n 0, 1), (113, .getfield 27, 3), (116, .bipush 13, 2), (118, .invokevirtual 61, 3), (121, .ifCond .eq 22, 3), (124, .aload_n 2, 1), (125, .invokevirtual 234, 3), (128, .ifCond .eq 15, 3), (131, .aload_n 0, 1)] = true := by decide +kernel
theorem dX9_loop_98 : decode cX9_loop 98 = .ok (.bipush 7, 2) := zdec_at bX9_loop_98 0 rfl
theorem dX9_loop_100 : decode cX9_loop 100 = .ok (.invokevirtual 111, 3) := zdec_at bX9_loop_98 1 rfl
theorem dX9_loop_103 : decode cX9_loop 103 = .ok (.ifCond .ne 49, 3) := zdec_at bX9_loop_98 2 rfl
theorem dX9_loop_106 : decode cX9_loop 106 = .ok (.aload_n 0, 1) := zdec_at bX9_loop_98 3 rfl
theorem dX9_loop_107 : decode cX9_loop 107 = .ok (.iconst 0, 1) := zdec_at bX9_loop_98 4 rfl
theorem dX9_loop_108 : decode cX9_loop 108 = .ok (.invokevirtual 145, 3) := zdec_at bX9_loop_98 5 rfl
theorem dX9_loop_111 : decode cX9_loop 111 = .ok (.astore_n 2, 1) := zdec_at bX9_loop_98 6 rfl
theorem dX9_loop_112 : decode cX9_loop 112 = .ok (.aload_n 0, 1) := zdec_at bX9_loop_98 7 rfl
theorem dX9_loop_113 : decode cX9_loop 113 = .ok (.getfield 27, 3) := zdec_at bX9_loop_98 8 rfl
theorem dX9_loop_116 : decode cX9_loop 116 = .ok (.bipush 13, 2) := zdec_at bX9_loop_98 9 rfl
theorem dX9_loop_118 : decode cX9_loop 118 = .ok (.invokevirtual 61, 3) := zdec_at bX9_loop_98 10 rfl
theorem dX9_loop_121 : decode cX9_loop 121 = .ok (.ifCond .eq 22, 3) := zdec_at bX9_loop_98 11 rfl
theorem dX9_loop_124 : decode cX9_loop 124 = .ok (.aload_n 2, 1) := zdec_at bX9_loop_98 12 rfl
theorem dX9_loop_125 : decode cX9_loop 125 = .ok (.invokevirtual 234, 3) := zdec_at bX9_loop_98 13 rfl
theorem dX9_loop_128 : decode cX9_loop 128 = .ok (.ifCond .eq 15, 3) := zdec_at bX9_loop_98 14 rfl
theorem dX9_loop_131 : decode cX9_loop 131 = .ok (.aload_n 0, 1) := zdec_at bX9_loop_98 15 rfl
theorem bX9_loop_132 : zdec cX9_loop 132 [(132, .aload_n 2, 1), (133, .checkcast 214, 3), (136, .getfield 239, 3), (139, .invokevirtual 231, 3), (142, .areturn, 1), (143, .new 143, 3), (146, .dup, 1), (147, .aload_n 2, 1), (148, .invokespecial 149, 3), (151, .astore_n 1, 1), (152, .aload_n 0, 1), (153, .getfield 27, 3), (156, .bipush 7, 2), (158, .invokevirtual 108, 3), (161, .aload_n 0, 1), (162, .getfield 27, 3)] = true := by decide +kernel
theorem dX9_loop_132 : decode cX9_loop 132 = .ok (.aload_n 2, 1) := zdec_at bX9_loop_132 0 rfl
theorem dX9_loop_133 : decode cX9_loop 133 = .ok (.checkcast 214, 3) := zdec_at bX9_loop_132 1 rfl
theorem dX9_loop_136 : decode cX9_loop 136 = .ok (.getfield 239, 3) := zdec_at bX9_loop_132 2 rfl
theorem dX9_loop_139 : decode cX9_loop 139 = .ok (.invokevirtual 231, 3) := zdec_at bX9_loop_132 3 rfl
theorem dX9_loop_142 : decode cX9_loop 142 = .ok (.areturn, 1) := zdec_at bX9_loop_132 4 rfl
theorem dX9_loop_143 : decode cX9_loop 143 = .ok (.new 143, 3) := zdec_at bX9_loop_132 5 rfl
theorem dX9_loop_146 : decode cX9_loop 146 = .ok (.dup, 1) := zdec_at bX9_loop_132 6 rfl
theorem dX9_loop_147 : decode cX9_loop 147 = .ok (.aload_n 2, 1) := zdec_at bX9_loop_132 7 rfl
theorem dX9_loop_148 : decode cX9_loop 148 = .ok (.invokespecial 149, 3) := zdec_at bX9_loop_132 8 rfl
theorem dX9_loop_151 : decode cX9_loop 151 = .ok (.astore_n 1, 1) := zdec_at bX9_loop_132 9 rfl
theorem dX9_loop_152 : decode cX9_loop 152 = .ok (.aload_n 0, 1) := zdec_at bX9_loop_132 10 rfl
theorem dX9_loop_153 : decode cX9_loop 153 = .ok (.getfield 27, 3) := zdec_at bX9_loop_132 11 rfl
theorem dX9_loop_156 : decode cX9_loop 156 = .ok (.bipush 7, 2) := zdec_at bX9_loop_132 12 rfl
theorem dX9_loop_158 : decode cX9_loop 158 = .ok (.invokevirtual 108, 3) := zdec_at bX9_loop_132 13 rfl
theorem dX9_loop_161 : decode cX9_loop 161 = .ok (.aload_n 0, 1) := zdec_at bX9_loop_132 14 rfl
theorem dX9_loop_162 : decode cX9_loop 162 = .ok (.getfield 27, 3) := zdec_at bX9_loop_132 15 rfl
theorem bX9_loop_165 : zdec cX9_loop 165 [(165, .bipush 7, 2), (167, .invokevirtual 111, 3), (170, .ifCond .eq 7, 3), (173, .aconst_null, 1), (174, .goto 8, 3), (177, .aload_n 0, 1), (178, .iconst 1, 1), (179, .invokevirtual 145, 3), (182, .astore_n 2, 1), (183, .aload_n 0, 1), (184, .getfield 27, 3), (187, .bipush 7, 2), (189, .invokevirtual 108, 3), (192, .aload_n 0, 1), (193, .getfield 27, 3), (196, .iconst 3, 1)] = true := by decide +kernel
theorem dX9_loop_165 : decode cX9_loop 165 = .ok (.bipush 7, 2) := zdec_at bX9_loop_165 0 rfl
theorem dX9_loop_167 : decode cX9_loop 167 = .ok (.invokevirtual 111, 3) := zdec_at bX9_loop_165 1 rfl
theorem dX9_loop_170 : decode cX9_loop 170 = .ok (.ifCond .eq 7, 3) := zdec_at bX9_loop_165 2 rfl
theorem dX9_loop_173 : decode cX9_loop 173 = .ok (.aconst_null, 1) := zdec_at bX9_loop_165 3 rfl
theorem dX9_loop_174 : decode cX9_loop 174 = .ok (.goto 8, 3) := zdec_at bX9_loop_165 4 rfl
theorem dX9_loop_177 : decode cX9_loop 177 = .ok (.aload_n 0, 1) := zdec_at bX9_loop_165 5 rfl
theorem dX9_loop_178 : decode cX9_loop 178 = .ok (.iconst 1, 1) := zdec_at bX9_loop_165 6 rfl
theorem dX9_loop_179 : decode cX9_loop 179 = .ok (.invokevirtual 145, 3) := zdec_at bX9_loop_165 7 rfl
theorem dX9_loop_182 : decode cX9_loop 182 = .ok (.astore_n 2, 1) := zdec_at bX9_loop_165 8 rfl
theorem dX9_loop_183 : decode cX9_loop 183 = .ok (.aload_n 0, 1) := zdec_at bX9_loop_165 9 rfl
theorem dX9_loop_184 : decode cX9_loop 184 = .ok (.getfield 27, 3) := zdec_at bX9_loop_165 10 rfl
theorem dX9_loop_187 : decode cX9_loop 187 = .ok (.bipush 7, 2) := zdec_at bX9_loop_165 11 rfl
theorem dX9_loop_189 : decode cX9_loop 189 = .ok (.invokevirtual 108, 3) := zdec_at bX9_loop_165 12 rfl
theorem dX9_loop_192 : decode cX9_loop 192 = .ok (.aload_n 0, 1) := zdec_at bX9_loop_165 13 rfl
theorem dX9_loop_193 : decode cX9_loop 193 = .ok (.getfield 27, 3) := zdec_at bX9_loop_165 14 rfl
theorem dX9_loop_196 : decode cX9_loop 196 = .ok (.iconst 3, 1) := zdec_at bX9_loop_165 15 rfl
theorem bX9_loop_197 : zdec cX9_loop 197 [(197, .invokevirtual 111, 3), (200, .ifCond .eq 7, 3), (203, .aconst_null, 1), (204, .goto 15, 3), (207, .new 143, 3), (210, .dup, 1), (211, .aload_n 0, 1), (212, .iconst 1, 1), (213, .invokevirtual 145, 3), (216, .invokespecial 149, 3), (219, .astore_n 3, 1), (220, .aload_n 0, 1), (221, .getfield 27, 3), (224, .iconst 3, 1), (225, .invokevirtual 108, 3), (228, .new 181, 3)] = true := by decide +kernel
theorem dX9_loop_197 : decode cX9_loop 197 = .ok (.invokevirtual 111, 3) := zdec_at bX9_loop_197 0 rfl
theorem dX9_loop_200 : decode cX9_loop 200 = .ok (.ifCond .eq 7, 3) := zdec_at bX9_loop_197 1 rfl
theorem dX9_loop_203 : decode cX9_loop 203 = .ok (.aconst_null, 1) := zdec_at bX9_loop_197 2 rfl
theorem dX9_loop_204 : decode cX9_loop 204 = .ok (.goto 15, 3) := zdec_at bX9_loop_197 3 rfl
theorem dX9_loop_207 : decode cX9_loop 207 = .ok (.new 143, 3) := zdec_at bX9_loop_197 4 rfl
theorem dX9_loop_210 : decode cX9_loop 210 = .ok (.dup, 1) := zdec_at bX9_loop_197 5 rfl
theorem dX9_loop_211 : decode cX9_loop 211 = .ok (.aload_n 0, 1) := zdec_at bX9_loop_197 6 rfl
theorem dX9_loop_212 : decode cX9_loop 212 = .ok (.iconst 1, 1) := zdec_at bX9_loop_197 7 rfl
theorem dX9_loop_213 : decode cX9_loop 213 = .ok (.invokevirtual 145, 3) := zdec_at bX9_loop_197 8 rfl
theorem dX9_loop_216 : decode cX9_loop 216 = .ok (.invokespecial 149, 3) := zdec_at bX9_loop_197 9 rfl
theorem dX9_loop_219 : decode cX9_loop 219 = .ok (.astore_n 3, 1) := zdec_at bX9_loop_197 10 rfl
theorem dX9_loop_220 : decode cX9_loop 220 = .ok (.aload_n 0, 1) := zdec_at bX9_loop_197 11 rfl
theorem dX9_loop_221 : decode cX9_loop 221 = .ok (.getfield 27, 3) := zdec_at bX9_loop_197 12 rfl
theorem dX9_loop_224 : decode cX9_loop 224 = .ok (.iconst 3, 1) := zdec_at bX9_loop_197 13 rfl
theorem dX9_loop_225 : decode cX9_loop 225 = .ok (.invokevirtual 108, 3) := zdec_at bX9_loop_197 14 rfl
theorem dX9_loop_228 : decode cX9_loop 228 = .ok (.new 181, 3) := zdec_at bX9_loop_197 15 rfl
theorem bX9_loop_231 : zdec cX9_loop 231 [(231, .dup, 1), (232, .iconst 2, 1), (233, .aload_n 1, 1), (234, .aload_n 2, 1), (235, .aload_n 3, 1), (236, .aload_n 0, 1), (237, .invokevirtual 183, 3), (240, .invokespecial 186, 3), (243, .areturn, 1)] = true := by decide +kernel
theorem dX9_loop_231 : decode cX9_loop 231 = .ok (.dup, 1) := zdec_at bX9_loop_231 0 rfl
theorem dX9_loop_232 : decode cX9_loop 232 = .ok (.iconst 2, 1) := zdec_at bX9_loop_231 1 rfl
theorem dX9_loop_233 : decode cX9_loop 233 = .ok (.aload_n 1, 1) := zdec_at bX9_loop_231 2 rfl
theorem dX9_loop_234 : decode cX9_loop 234 = .ok (.aload_n 2, 1) := zdec_at bX9_loop_231 3 rfl
theorem dX9_loop_235 : decode cX9_loop 235 = .ok (.aload_n 3, 1) := zdec_at bX9_loop_231 4 rfl
theorem dX9_loop_236 : decode cX9_loop 236 = .ok (.aload_n 0, 1) := zdec_at bX9_loop_231 5 rfl
theorem dX9_loop_237 : decode cX9_loop 237 = .ok (.invokevirtual 183, 3) := zdec_at bX9_loop_231 6 rfl
theorem dX9_loop_240 : decode cX9_loop 240 = .ok (.invokespecial 186, 3) := zdec_at bX9_loop_231 7 rfl
theorem dX9_loop_243 : decode cX9_loop 243 = .ok (.areturn, 1) := zdec_at bX9_loop_231 8 rfl
theorem sX9_loop_0 {E : zE} {d : Nat} {Q : zO → zM → Prop} (M : zM) (a0 : Nat) (k : ∃ b1 : Nat, (gr M a0 1) = some (b1, 9, 0) ∧ (Z E YX10_need d M (zargs 0 [vr (some (b1, 9, 0)), vi (2 : Int32)]) 0 [] (zafter E YX9_loop (d + 1) [(0, vr (some (a0, 8, 0)))] 5 3 [] Q))) : Z E YX9_loop (d + 1) M [(0, vr (some (a0, 8, 0)))] 0 [] Q := by
  refine z_aload_n dX9_loop_0 rfl rfl ?_
  refine z_getr (r := (gr M a0 1)) dX9_loop_1 fsX9_27_8 rfl ?_
  refine z_iconst (v := 2) dX9_loop_4 rfl ?_
  obtain ⟨b1, e1_, k⟩ := k
  refine Z.eqs (lv' := [(0, vr (some (a0, 8, 0)))]) (st' := [vi (2 : Int32), vr (some (b1, 9, 0))]) rfl (by rw [e1_] <;> rfl) ?_
  exact z_callV (as := [vi (2 : Int32)]) (st := []) dX9_loop_5 vsX9_108_9 (Nat.le_refl _) (Nat.le_of_ble_eq_true rfl) (Nat.le_of_ble_eq_true rfl) rfl k
theorem sX9_loop_8 {E : zE} {d : Nat} {Q : zO → zM → Prop} (M : zM) (a0 : Nat) (k : ∃ b1 : Nat, (gr M a0 1) = some (b1, 9, 0) ∧ (Z E YX10_takesWord d M (zargs 0 [vr (some (b1, 9, 0)), vi (26 : Int32)]) 0 [] (zafter E YX9_loop (d + 1) [(0, vr (some (a0, 8, 0))), (1, vr none)] 16 3 [] Q))) : Z E YX9_loop (d + 1) M [(0, vr (some (a0, 8, 0)))] 8 [] Q := by
  refine z_null dX9_loop_8 ?_
  refine z_ast_n dX9_loop_9 rfl (by decide) (lv' := [(0, vr (some (a0, 8, 0))), (1, vr none)]) rfl ?_
  refine z_aload_n dX9_loop_10 rfl rfl ?_
  refine z_getr (r := (gr M a0 1)) dX9_loop_11 fsX9_27_8 rfl ?_
  refine z_bipush (v := 26) dX9_loop_14 rfl ?_
  obtain ⟨b1, e1_, k⟩ := k
  refine Z.eqs (lv' := [(0, vr (some (a0, 8, 0))), (1, vr none)]) (st' := [vi (26 : Int32), vr (some (b1, 9, 0))]) rfl (by rw [e1_] <;> rfl) ?_
  exact z_callV (as := [vi (26 : Int32)]) (st := []) dX9_loop_16 vsX9_175_9 (Nat.le_refl _) (Nat.le_of_ble_eq_true rfl) (Nat.le_of_ble_eq_true rfl) rfl k
theorem sX9_loop_19 {E : zE} {d : Nat} {Q : zO → zM → Prop} (M : zM) (a0 : Nat) (s0 : Int32) (k : if s0 = 0 then (∃ b1 : Nat, (gr M a0 1) = some (b1, 9, 0) ∧ (Z E YX10_is d M (zargs 0 [vr (some (b1, 9, 0)), vi (7 : Int32)]) 0 [] (zafter E YX9_loop (d + 1) [(0, vr (some (a0, 8, 0))), (1, vr none)] 100 3 [] Q))) else (∃ b1 : Nat, (gr M a0 1) = some (b1, 9, 0) ∧ (if (gi M b1 3) = (1 : Int32) then (∃ b2 : Nat, (gr M a0 1) = some (b2, 9, 0) ∧ (Z E YX9_variables d M (zargs 0 [vr (some (a0, 8, 0)), vi (0 : Int32)]) 0 [] (zafter E YX9_loop (d + 1) [(0, vr (some (a0, 8, 0))), (2, vi (gi M b2 6))] 47 3 [] Q))) else (Z E YX9_variables d M (zargs 0 [vr (some (a0, 8, 0)), vi (0 : Int32)]) 0 [] (zafter E YX9_loop (d + 1) [(0, vr (some (a0, 8, 0))), (2, vi (-1 : Int32))] 47 3 [] Q))))) : Z E YX9_loop (d + 1) M [(0, vr (some (a0, 8, 0))), (1, vr none)] 19 [vi s0] Q := by
  refine z_if_eq (tgt := 94) dX9_loop_19 rfl (fun h_ => ?_) (fun h_ => ?_)
  · have k := zit h_ k
    refine z_aload_n dX9_loop_94 rfl rfl ?_
    refine z_getr (r := (gr M a0 1)) dX9_loop_95 fsX9_27_8 rfl ?_
    refine z_bipush (v := 7) dX9_loop_98 rfl ?_
    obtain ⟨b1, e1_, k⟩ := k
    refine Z.eqs (lv' := [(0, vr (some (a0, 8, 0))), (1, vr none)]) (st' := [vi (7 : Int32), vr (some (b1, 9, 0))]) rfl (by rw [e1_] <;> rfl) ?_
    exact z_callV (as := [vi (7 : Int32)]) (st := []) dX9_loop_100 vsX9_111_9 (Nat.le_refl _) (Nat.le_of_ble_eq_true rfl) (Nat.le_of_ble_eq_true rfl) rfl k
  · have k := zif h_ k
    refine z_aload_n dX9_loop_22 rfl rfl ?_
    refine z_getr (r := (gr M a0 1)) dX9_loop_23 fsX9_27_8 rfl ?_
    obtain ⟨b1, e1_, k⟩ := k
    refine Z.eqs (lv' := [(0, vr (some (a0, 8, 0))), (1, vr none)]) (st' := [vr (some (b1, 9, 0))]) rfl (by rw [e1_] <;> rfl) ?_
    refine z_geti dX9_loop_26 fsX9_55_9 ?_
    refine z_iconst (v := 1) dX9_loop_29 rfl ?_
    refine z_icmp_ne (tgt := 43) dX9_loop_30 rfl (fun h_ => ?_) (fun h_ => ?_)
    · have k := zif h_ k
      refine z_iconst (v := -1) dX9_loop_43 rfl ?_
      refine z_ist_n dX9_loop_44 rfl (by decide) (lv' := [(0, vr (some (a0, 8, 0))), (1, vr none), (2, vi (-1 : Int32))]) rfl ?_
      refine z_aload_n dX9_loop_45 rfl rfl ?_
      refine z_iconst (v := 0) dX9_loop_46 rfl ?_
      refine Z.pick [0, 2] rfl ?_
      exact z_callV (as := [vi (0 : Int32)]) (st := []) dX9_loop_47 vsX9_167_8 (Nat.le_refl _) (Nat.le_of_ble_eq_true rfl) (Nat.le_of_ble_eq_true rfl) rfl k
    · have k := zit h_ k
      refine z_aload_n dX9_loop_33 rfl rfl ?_
      refine z_getr (r := (gr M a0 1)) dX9_loop_34 fsX9_27_8 rfl ?_
      obtain ⟨b2, e2_, k⟩ := k
      refine Z.eqs (lv' := [(0, vr (some (a0, 8, 0))), (1, vr none)]) (st' := [vr (some (b2, 9, 0))]) rfl (by rw [e2_] <;> rfl) ?_
      refine z_geti dX9_loop_37 fsX9_114_9 ?_
      refine z_goto (tgt := 44) dX9_loop_40 rfl ?_
      refine z_ist_n dX9_loop_44 rfl (by decide) (lv' := [(0, vr (some (a0, 8, 0))), (1, vr none), (2, vi (gi M b2 6))]) rfl ?_
      refine z_aload_n dX9_loop_45 rfl rfl ?_
      refine z_iconst (v := 0) dX9_loop_46 rfl ?_
      refine Z.pick [0, 2] rfl ?_
      exact z_callV (as := [vi (0 : Int32)]) (st := []) dX9_loop_47 vsX9_167_8 (Nat.le_refl _) (Nat.le_of_ble_eq_true rfl) (Nat.le_of_ble_eq_true rfl) rfl k
theorem sX9_loop_50 {E : zE} {d : Nat} {Q : zO → zM → Prop} (M : zM) (a0 : Nat) (l2 : Int32) (u0 : Option zP) (k : ∃ b1 : Nat, u0 = some (b1, 20, 0) ∧ (∃ b2 : Nat, (gr M a0 1) = some (b2, 9, 0) ∧ (Z E YX10_isWord d M (zargs 0 [vr (some (b2, 9, 0)), vi (13 : Int32)]) 0 [] (zafter E YX9_loop (d + 1) [(0, vr (some (a0, 8, 0))), (2, vi l2), (3, vr (some (b1, 20, 0)))] 60 3 [] Q)))) : Z E YX9_loop (d + 1) M [(0, vr (some (a0, 8, 0))), (2, vi l2)] 50 [vr u0] Q := by
  obtain ⟨b1, e1_, k⟩ := k
  refine Z.eqs (lv' := [(0, vr (some (a0, 8, 0))), (2, vi l2)]) (st' := [vr (some (b1, 20, 0))]) rfl (by rw [e1_] <;> rfl) ?_
  refine z_ckcast dX9_loop_50 ctX9_140_20 ?_
  refine z_ast_n dX9_loop_53 rfl (by decide) (lv' := [(0, vr (some (a0, 8, 0))), (2, vi l2), (3, vr (some (b1, 20, 0)))]) rfl ?_
  refine z_aload_n dX9_loop_54 rfl rfl ?_
  refine z_getr (r := (gr M a0 1)) dX9_loop_55 fsX9_27_8 rfl ?_
  refine z_bipush (v := 13) dX9_loop_58 rfl ?_
  obtain ⟨b2, e2_, k⟩ := k
  refine Z.eqs (lv' := [(0, vr (some (a0, 8, 0))), (2, vi l2), (3, vr (some (b1, 20, 0)))]) (st' := [vi (13 : Int32), vr (some (b2, 9, 0))]) rfl (by rw [e2_] <;> rfl) ?_
  exact z_callV (as := [vi (13 : Int32)]) (st := []) dX9_loop_60 vsX9_61_9 (Nat.le_refl _) (Nat.le_of_ble_eq_true rfl) (Nat.le_of_ble_eq_true rfl) rfl k
theorem sX9_loop_63 {E : zE} {d : Nat} {Q : zO → zM → Prop} (M : zM) (a0 : Nat) (l2 : Int32) (a3 : Nat) (s0 : Int32) (k : if s0 = 0 then (∃ b1 : Nat, (gr M a0 1) = some (b1, 9, 0) ∧ (Z E YX10_need d M (zargs 0 [vr (some (b1, 9, 0)), vi (7 : Int32)]) 0 [] (zafter E YX9_loop (d + 1) [(0, vr (some (a0, 8, 0))), (1, vr (some (a3, 20, 0)))] 158 3 [] Q))) else (∃ b1 : Nat, (gr M a3 0) = some (b1, 11, 0) ∧ (Z E YJ2_isEmpty d M (zargs 0 [vr (some (b1, 11, 0))]) 0 [] (zafter E YX9_loop (d + 1) [(0, vr (some (a0, 8, 0))), (2, vi l2), (3, vr (some (a3, 20, 0)))] 70 3 [] Q)))) : Z E YX9_loop (d + 1) M [(0, vr (some (a0, 8, 0))), (2, vi l2), (3, vr (some (a3, 20, 0)))] 63 [vi s0] Q := by
  refine z_if_eq (tgt := 89) dX9_loop_63 rfl (fun h_ => ?_) (fun h_ => ?_)
  · have k := zit h_ k
    refine z_aload_n dX9_loop_89 rfl rfl ?_
    refine z_ast_n dX9_loop_90 rfl (by decide) (lv' := [(0, vr (some (a0, 8, 0))), (1, vr (some (a3, 20, 0))), (2, vi l2), (3, vr (some (a3, 20, 0)))]) rfl ?_
    refine z_goto (tgt := 152) dX9_loop_91 rfl ?_
    refine z_aload_n dX9_loop_152 rfl rfl ?_
    refine z_getr (r := (gr M a0 1)) dX9_loop_153 fsX9_27_8 rfl ?_
    refine z_bipush (v := 7) dX9_loop_156 rfl ?_
    obtain ⟨b1, e1_, k⟩ := k
    refine Z.eqs (lv' := [(0, vr (some (a0, 8, 0))), (1, vr (some (a3, 20, 0))), (2, vi l2), (3, vr (some (a3, 20, 0)))]) (st' := [vi (7 : Int32), vr (some (b1, 9, 0))]) rfl (by rw [e1_] <;> rfl) ?_
    refine Z.pick [0, 1] rfl ?_
    exact z_callV (as := [vi (7 : Int32)]) (st := []) dX9_loop_158 vsX9_108_9 (Nat.le_refl _) (Nat.le_of_ble_eq_true rfl) (Nat.le_of_ble_eq_true rfl) rfl k
  · have k := zif h_ k
    refine z_aload_n dX9_loop_66 rfl rfl ?_
    refine z_getr (r := (gr M a3 0)) dX9_loop_67 fsX9_158_20 rfl ?_
    obtain ⟨b1, e1_, k⟩ := k
    refine Z.eqs (lv' := [(0, vr (some (a0, 8, 0))), (2, vi l2), (3, vr (some (a3, 20, 0)))]) (st' := [vr (some (b1, 11, 0))]) rfl (by rw [e1_] <;> rfl) ?_
    exact z_callV (as := []) (st := []) dX9_loop_70 vsX9_228_11 (Nat.le_refl _) (Nat.le_of_ble_eq_true rfl) (Nat.le_of_ble_eq_true rfl) rfl k
theorem sX9_loop_73 {E : zE} {d : Nat} {Q : zO → zM → Prop} (M : zM) (a0 : Nat) (l2 : Int32) (a3 : Nat) (s0 : Int32) (k : if s0 = 0 then (∃ b1 : Nat, (gr M a0 1) = some (b1, 9, 0) ∧ (Z E YX10_need d M (zargs 0 [vr (some (b1, 9, 0)), vi (7 : Int32)]) 0 [] (zafter E YX9_loop (d + 1) [(0, vr (some (a0, 8, 0))), (1, vr (some (a3, 20, 0)))] 158 3 [] Q))) else (if (gi M a0 7) = 0 then (∃ b1 : Nat, (gr M a0 1) = some (b1, 9, 0) ∧ (Z E YX10_need d M (zargs 0 [vr (some (b1, 9, 0)), vi (7 : Int32)]) 0 [] (zafter E YX9_loop (d + 1) [(0, vr (some (a0, 8, 0))), (1, vr (some (a3, 20, 0)))] 158 3 [] Q))) else (Z E YX9_each d M (zargs 0 [vr (some (a0, 8, 0)), vi l2]) 0 [] (zafter E YX9_loop (d + 1) [] 85 3 [] Q)))) : Z E YX9_loop (d + 1) M [(0, vr (some (a0, 8, 0))), (2, vi l2), (3, vr (some (a3, 20, 0)))] 73 [vi s0] Q := by
  refine z_if_eq (tgt := 89) dX9_loop_73 rfl (fun h_ => ?_) (fun h_ => ?_)
  · have k := zit h_ k
    refine z_aload_n dX9_loop_89 rfl rfl ?_
    refine z_ast_n dX9_loop_90 rfl (by decide) (lv' := [(0, vr (some (a0, 8, 0))), (1, vr (some (a3, 20, 0))), (2, vi l2), (3, vr (some (a3, 20, 0)))]) rfl ?_
    refine z_goto (tgt := 152) dX9_loop_91 rfl ?_
    refine z_aload_n dX9_loop_152 rfl rfl ?_
    refine z_getr (r := (gr M a0 1)) dX9_loop_153 fsX9_27_8 rfl ?_
    refine z_bipush (v := 7) dX9_loop_156 rfl ?_
    obtain ⟨b1, e1_, k⟩ := k
    refine Z.eqs (lv' := [(0, vr (some (a0, 8, 0))), (1, vr (some (a3, 20, 0))), (2, vi l2), (3, vr (some (a3, 20, 0)))]) (st' := [vi (7 : Int32), vr (some (b1, 9, 0))]) rfl (by rw [e1_] <;> rfl) ?_
    refine Z.pick [0, 1] rfl ?_
    exact z_callV (as := [vi (7 : Int32)]) (st := []) dX9_loop_158 vsX9_108_9 (Nat.le_refl _) (Nat.le_of_ble_eq_true rfl) (Nat.le_of_ble_eq_true rfl) rfl k
  · have k := zif h_ k
    refine z_aload_n dX9_loop_76 rfl rfl ?_
    refine z_geti dX9_loop_77 fsX9_224_8 ?_
    refine z_if_eq (tgt := 89) dX9_loop_80 rfl (fun h_ => ?_) (fun h_ => ?_)
    · have k := zit h_ k
      refine z_aload_n dX9_loop_89 rfl rfl ?_
      refine z_ast_n dX9_loop_90 rfl (by decide) (lv' := [(0, vr (some (a0, 8, 0))), (1, vr (some (a3, 20, 0))), (2, vi l2), (3, vr (some (a3, 20, 0)))]) rfl ?_
      refine z_goto (tgt := 152) dX9_loop_91 rfl ?_
      refine z_aload_n dX9_loop_152 rfl rfl ?_
      refine z_getr (r := (gr M a0 1)) dX9_loop_153 fsX9_27_8 rfl ?_
      refine z_bipush (v := 7) dX9_loop_156 rfl ?_
      obtain ⟨b1, e1_, k⟩ := k
      refine Z.eqs (lv' := [(0, vr (some (a0, 8, 0))), (1, vr (some (a3, 20, 0))), (2, vi l2), (3, vr (some (a3, 20, 0)))]) (st' := [vi (7 : Int32), vr (some (b1, 9, 0))]) rfl (by rw [e1_] <;> rfl) ?_
      refine Z.pick [0, 1] rfl ?_
      exact z_callV (as := [vi (7 : Int32)]) (st := []) dX9_loop_158 vsX9_108_9 (Nat.le_refl _) (Nat.le_of_ble_eq_true rfl) (Nat.le_of_ble_eq_true rfl) rfl k
    · have k := zif h_ k
      refine z_aload_n dX9_loop_83 rfl rfl ?_
      refine z_iload_n dX9_loop_84 rfl rfl ?_
      refine Z.pick [] rfl ?_
      exact z_callV (as := [vi l2]) (st := []) dX9_loop_85 vsX9_231_8 (Nat.le_refl _) (Nat.le_of_ble_eq_true rfl) (Nat.le_of_ble_eq_true rfl) rfl k
theorem sX9_loop_88 {E : zE} {d : Nat} {Q : zO → zM → Prop} (M : zM) (u0 : Option zP) (k : Q (.inl (some (vr u0))) M) : Z E YX9_loop (d + 1) M [] 88 [vr u0] Q := by
  exact z_aret dX9_loop_88 rfl rfl k
theorem sX9_loop_103 {E : zE} {d : Nat} {Q : zO → zM → Prop} (M : zM) (a0 : Nat) (s0 : Int32) (k : if s0 = 0 then (Z E YX9_expression d M (zargs 0 [vr (some (a0, 8, 0)), vi (0 : Int32)]) 0 [] (zafter E YX9_loop (d + 1) [(0, vr (some (a0, 8, 0)))] 108 3 [] Q)) else (∃ b1 : Nat, (gr M a0 1) = some (b1, 9, 0) ∧ (Z E YX10_need d M (zargs 0 [vr (some (b1, 9, 0)), vi (7 : Int32)]) 0 [] (zafter E YX9_loop (d + 1) [(0, vr (some (a0, 8, 0))), (1, vr none)] 158 3 [] Q)))) : Z E YX9_loop (d + 1) M [(0, vr (some (a0, 8, 0))), (1, vr none)] 103 [vi s0] Q := by
  refine z_if_ne (tgt := 152) dX9_loop_103 rfl (fun h_ => ?_) (fun h_ => ?_)
  · have k := zif h_ k
    refine z_aload_n dX9_loop_152 rfl rfl ?_
    refine z_getr (r := (gr M a0 1)) dX9_loop_153 fsX9_27_8 rfl ?_
    refine z_bipush (v := 7) dX9_loop_156 rfl ?_
    obtain ⟨b1, e1_, k⟩ := k
    refine Z.eqs (lv' := [(0, vr (some (a0, 8, 0))), (1, vr none)]) (st' := [vi (7 : Int32), vr (some (b1, 9, 0))]) rfl (by rw [e1_] <;> rfl) ?_
    exact z_callV (as := [vi (7 : Int32)]) (st := []) dX9_loop_158 vsX9_108_9 (Nat.le_refl _) (Nat.le_of_ble_eq_true rfl) (Nat.le_of_ble_eq_true rfl) rfl k
  · have k := zit h_ k
    refine z_aload_n dX9_loop_106 rfl rfl ?_
    refine z_iconst (v := 0) dX9_loop_107 rfl ?_
    refine Z.pick [0] rfl ?_
    exact z_callV (as := [vi (0 : Int32)]) (st := []) dX9_loop_108 vsX9_145_8 (Nat.le_refl _) (Nat.le_of_ble_eq_true rfl) (Nat.le_of_ble_eq_true rfl) rfl k
theorem sX9_loop_111 {E : zE} {d : Nat} {Q : zO → zM → Prop} (M : zM) (a0 : Nat) (u0 : Option zP) (k : ∃ b1 : Nat, (gr M a0 1) = some (b1, 9, 0) ∧ (Z E YX10_isWord d M (zargs 0 [vr (some (b1, 9, 0)), vi (13 : Int32)]) 0 [] (zafter E YX9_loop (d + 1) [(0, vr (some (a0, 8, 0))), (2, vr u0)] 118 3 [] Q))) : Z E YX9_loop (d + 1) M [(0, vr (some (a0, 8, 0)))] 111 [vr u0] Q := by
  refine z_ast_n dX9_loop_111 rfl (by decide) (lv' := [(0, vr (some (a0, 8, 0))), (2, vr u0)]) rfl ?_
  refine z_aload_n dX9_loop_112 rfl rfl ?_
  refine z_getr (r := (gr M a0 1)) dX9_loop_113 fsX9_27_8 rfl ?_
  refine z_bipush (v := 13) dX9_loop_116 rfl ?_
  obtain ⟨b1, e1_, k⟩ := k
  refine Z.eqs (lv' := [(0, vr (some (a0, 8, 0))), (2, vr u0)]) (st' := [vi (13 : Int32), vr (some (b1, 9, 0))]) rfl (by rw [e1_] <;> rfl) ?_
  exact z_callV (as := [vi (13 : Int32)]) (st := []) dX9_loop_118 vsX9_61_9 (Nat.le_refl _) (Nat.le_of_ble_eq_true rfl) (Nat.le_of_ble_eq_true rfl) rfl k
theorem sX9_loop_121 {E : zE} {d : Nat} {Q : zO → zM → Prop} (M : zM) (a0 : Nat) (r2 : Option zP) (s0 : Int32) (k : if s0 = 0 then (Z E YX9_loop (d + 1) (zn M 1) [(0, vr (some (a0, 8, 0))), (2, vr r2)] 146 [vr (some ((zsz M), 21, 0))] Q) else (∃ b1 t1 : Nat, r2 = some (b1, t1, 0) ∧ (∃ Y_ : zY, vt_isName t1 = some Y_ ∧ Z E Y_ d M (zargs 0 [vr (some (b1, t1, 0))]) 0 [] (zafter E YX9_loop (d + 1) [(0, vr (some (a0, 8, 0))), (2, vr (some (b1, t1, 0)))] 125 3 [] Q)))) : Z E YX9_loop (d + 1) M [(0, vr (some (a0, 8, 0))), (2, vr r2)] 121 [vi s0] Q := by
  refine z_if_eq (tgt := 143) dX9_loop_121 rfl (fun h_ => ?_) (fun h_ => ?_)
  · have k := zit h_ k
    refine z_new dX9_loop_143 csX9_143 zff_21 ?_
    exact k
  · have k := zif h_ k
    refine z_aload_n dX9_loop_124 rfl rfl ?_
    obtain ⟨b1, t1, e1_, k⟩ := k
    refine Z.eqs (lv' := [(0, vr (some (a0, 8, 0))), (2, vr (some (b1, t1, 0)))]) (st' := [vr (some (b1, t1, 0))]) (by rw [e1_] <;> rfl) (by rw [e1_] <;> rfl) ?_
    obtain ⟨Y_, y_, k⟩ := k
    exact z_callV (as := []) (st := []) dX9_loop_125 (vtX9_234 y_).1 (Nat.le_refl _) (Nat.le_trans (Nat.le_of_ble_eq_true rfl) (vtX9_234 y_).2.1) (Nat.le_trans (Nat.add_le_add_left (vtX9_234 y_).2.2 _) (Nat.le_of_ble_eq_true rfl)) rfl k
theorem sX9_loop_128 {E : zE} {d : Nat} {Q : zO → zM → Prop} (M : zM) (a0 : Nat) (a2 : Nat) (ta2 : Nat) (s0 : Int32) (k : if s0 = 0 then (Z E YX9_loop (d + 1) (zn M 1) [(0, vr (some (a0, 8, 0))), (2, vr (some (a2, ta2, 0)))] 146 [vr (some ((zsz M), 21, 0))] Q) else (ta2 = 23 ∧ (Z E YX9_each d M (zargs 0 [vr (some (a0, 8, 0)), vi (gi M a2 0)]) 0 [] (zafter E YX9_loop (d + 1) [] 139 3 [] Q)))) : Z E YX9_loop (d + 1) M [(0, vr (some (a0, 8, 0))), (2, vr (some (a2, ta2, 0)))] 128 [vi s0] Q := by
  refine z_if_eq (tgt := 143) dX9_loop_128 rfl (fun h_ => ?_) (fun h_ => ?_)
  · have k := zit h_ k
    refine z_new dX9_loop_143 csX9_143 zff_21 ?_
    exact k
  · have k := zif h_ k
    refine z_aload_n dX9_loop_131 rfl rfl ?_
    refine z_aload_n dX9_loop_132 rfl rfl ?_
    obtain ⟨e_, k⟩ := k
    refine Z.eqs (lv' := [(0, vr (some (a0, 8, 0))), (2, vr (some (a2, 23, 0)))]) (st' := [vr (some (a2, 23, 0)), vr (some (a0, 8, 0))]) (by rw [e_] <;> rfl) (by rw [e_] <;> rfl) ?_
    refine z_ckcast dX9_loop_133 ctX9_214_23 ?_
    refine z_geti dX9_loop_136 fsX9_239_23 ?_
    refine Z.pick [] rfl ?_
    exact z_callV (as := [vi (gi M a2 0)]) (st := []) dX9_loop_139 vsX9_231_8 (Nat.le_refl _) (Nat.le_of_ble_eq_true rfl) (Nat.le_of_ble_eq_true rfl) rfl k
theorem sX9_loop_142 {E : zE} {d : Nat} {Q : zO → zM → Prop} (M : zM) (u0 : Option zP) (k : Q (.inl (some (vr u0))) M) : Z E YX9_loop (d + 1) M [] 142 [vr u0] Q := by
  exact z_aret dX9_loop_142 rfl rfl k
theorem sX9_loop_146 {E : zE} {d : Nat} {Q : zO → zM → Prop} (M : zM) (a0 : Nat) (r2 : Option zP) (p0 : Nat) (k : Z E YX15_init d M (zargs 0 [vr (some (p0, 21, 0)), vr r2]) 0 [] (zafter E YX9_loop (d + 1) [(0, vr (some (a0, 8, 0)))] 148 3 [vr (some (p0, 21, 0))] Q)) : Z E YX9_loop (d + 1) M [(0, vr (some (a0, 8, 0))), (2, vr r2)] 146 [vr (some (p0, 21, 0))] Q := by
  refine z_dup dX9_loop_146 rfl ?_
  refine z_aload_n dX9_loop_147 rfl rfl ?_
  refine Z.pick [0] rfl ?_
  exact z_callI (as := [vr r2]) (st := [vr (some (p0, 21, 0))]) dX9_loop_148 isX9_149 (Nat.le_refl _) (Nat.le_of_ble_eq_true rfl) (Nat.le_of_ble_eq_true rfl) rfl k
theorem sX9_loop_151 {E : zE} {d : Nat} {Q : zO → zM → Prop} (M : zM) (a0 : Nat) (p0 : Nat) (k : ∃ b1 : Nat, (gr M a0 1) = some (b1, 9, 0) ∧ (Z E YX10_need d M (zargs 0 [vr (some (b1, 9, 0)), vi (7 : Int32)]) 0 [] (zafter E YX9_loop (d + 1) [(0, vr (some (a0, 8, 0))), (1, vr (some (p0, 21, 0)))] 158 3 [] Q))) : Z E YX9_loop (d + 1) M [(0, vr (some (a0, 8, 0)))] 151 [vr (some (p0, 21, 0))] Q := by
  refine z_ast_n dX9_loop_151 rfl (by decide) (lv' := [(0, vr (some (a0, 8, 0))), (1, vr (some (p0, 21, 0)))]) rfl ?_
  refine z_aload_n dX9_loop_152 rfl rfl ?_
  refine z_getr (r := (gr M a0 1)) dX9_loop_153 fsX9_27_8 rfl ?_
  refine z_bipush (v := 7) dX9_loop_156 rfl ?_
  obtain ⟨b1, e1_, k⟩ := k
  refine Z.eqs (lv' := [(0, vr (some (a0, 8, 0))), (1, vr (some (p0, 21, 0)))]) (st' := [vi (7 : Int32), vr (some (b1, 9, 0))]) rfl (by rw [e1_] <;> rfl) ?_
  exact z_callV (as := [vi (7 : Int32)]) (st := []) dX9_loop_158 vsX9_108_9 (Nat.le_refl _) (Nat.le_of_ble_eq_true rfl) (Nat.le_of_ble_eq_true rfl) rfl k
theorem sX9_loop_161 {E : zE} {d : Nat} {Q : zO → zM → Prop} (M : zM) (a0 : Nat) (r1 : Option zP) (k : ∃ b1 : Nat, (gr M a0 1) = some (b1, 9, 0) ∧ (Z E YX10_is d M (zargs 0 [vr (some (b1, 9, 0)), vi (7 : Int32)]) 0 [] (zafter E YX9_loop (d + 1) [(0, vr (some (a0, 8, 0))), (1, vr r1)] 167 3 [] Q))) : Z E YX9_loop (d + 1) M [(0, vr (some (a0, 8, 0))), (1, vr r1)] 161 [] Q := by
  refine z_aload_n dX9_loop_161 rfl rfl ?_
  refine z_getr (r := (gr M a0 1)) dX9_loop_162 fsX9_27_8 rfl ?_
  refine z_bipush (v := 7) dX9_loop_165 rfl ?_
  obtain ⟨b1, e1_, k⟩ := k
  refine Z.eqs (lv' := [(0, vr (some (a0, 8, 0))), (1, vr r1)]) (st' := [vi (7 : Int32), vr (some (b1, 9, 0))]) rfl (by rw [e1_] <;> rfl) ?_
  exact z_callV (as := [vi (7 : Int32)]) (st := []) dX9_loop_167 vsX9_111_9 (Nat.le_refl _) (Nat.le_of_ble_eq_true rfl) (Nat.le_of_ble_eq_true rfl) rfl k
theorem sX9_loop_170 {E : zE} {d : Nat} {Q : zO → zM → Prop} (M : zM) (a0 : Nat) (r1 : Option zP) (s0 : Int32) (k : if s0 = 0 then (Z E YX9_expression d M (zargs 0 [vr (some (a0, 8, 0)), vi (1 : Int32)]) 0 [] (zafter E YX9_loop (d + 1) [(0, vr (some (a0, 8, 0))), (1, vr r1)] 179 3 [] Q)) else (Z E YX9_loop (d + 1) M [(0, vr (some (a0, 8, 0))), (1, vr r1)] 182 [vr none] Q)) : Z E YX9_loop (d + 1) M [(0, vr (some (a0, 8, 0))), (1, vr r1)] 170 [vi s0] Q := by
  refine z_if_eq (tgt := 177) dX9_loop_170 rfl (fun h_ => ?_) (fun h_ => ?_)
  · have k := zit h_ k
    refine z_aload_n dX9_loop_177 rfl rfl ?_
    refine z_iconst (v := 1) dX9_loop_178 rfl ?_
    exact z_callV (as := [vi (1 : Int32)]) (st := []) dX9_loop_179 vsX9_145_8 (Nat.le_refl _) (Nat.le_of_ble_eq_true rfl) (Nat.le_of_ble_eq_true rfl) rfl k
  · have k := zif h_ k
    refine z_null dX9_loop_173 ?_
    refine z_goto (tgt := 182) dX9_loop_174 rfl ?_
    exact k
theorem sX9_loop_182 {E : zE} {d : Nat} {Q : zO → zM → Prop} (M : zM) (a0 : Nat) (r1 : Option zP) (u0 : Option zP) (k : ∃ b1 : Nat, (gr M a0 1) = some (b1, 9, 0) ∧ (Z E YX10_need d M (zargs 0 [vr (some (b1, 9, 0)), vi (7 : Int32)]) 0 [] (zafter E YX9_loop (d + 1) [(0, vr (some (a0, 8, 0))), (1, vr r1), (2, vr u0)] 189 3 [] Q))) : Z E YX9_loop (d + 1) M [(0, vr (some (a0, 8, 0))), (1, vr r1)] 182 [vr u0] Q := by
  refine z_ast_n dX9_loop_182 rfl (by decide) (lv' := [(0, vr (some (a0, 8, 0))), (1, vr r1), (2, vr u0)]) rfl ?_
  refine z_aload_n dX9_loop_183 rfl rfl ?_
  refine z_getr (r := (gr M a0 1)) dX9_loop_184 fsX9_27_8 rfl ?_
  refine z_bipush (v := 7) dX9_loop_187 rfl ?_
  obtain ⟨b1, e1_, k⟩ := k
  refine Z.eqs (lv' := [(0, vr (some (a0, 8, 0))), (1, vr r1), (2, vr u0)]) (st' := [vi (7 : Int32), vr (some (b1, 9, 0))]) rfl (by rw [e1_] <;> rfl) ?_
  exact z_callV (as := [vi (7 : Int32)]) (st := []) dX9_loop_189 vsX9_108_9 (Nat.le_refl _) (Nat.le_of_ble_eq_true rfl) (Nat.le_of_ble_eq_true rfl) rfl k
theorem sX9_loop_192 {E : zE} {d : Nat} {Q : zO → zM → Prop} (M : zM) (a0 : Nat) (r1 : Option zP) (r2 : Option zP) (k : ∃ b1 : Nat, (gr M a0 1) = some (b1, 9, 0) ∧ (Z E YX10_is d M (zargs 0 [vr (some (b1, 9, 0)), vi (3 : Int32)]) 0 [] (zafter E YX9_loop (d + 1) [(0, vr (some (a0, 8, 0))), (1, vr r1), (2, vr r2)] 197 3 [] Q))) : Z E YX9_loop (d + 1) M [(0, vr (some (a0, 8, 0))), (1, vr r1), (2, vr r2)] 192 [] Q := by
  refine z_aload_n dX9_loop_192 rfl rfl ?_
  refine z_getr (r := (gr M a0 1)) dX9_loop_193 fsX9_27_8 rfl ?_
  refine z_iconst (v := 3) dX9_loop_196 rfl ?_
  obtain ⟨b1, e1_, k⟩ := k
  refine Z.eqs (lv' := [(0, vr (some (a0, 8, 0))), (1, vr r1), (2, vr r2)]) (st' := [vi (3 : Int32), vr (some (b1, 9, 0))]) rfl (by rw [e1_] <;> rfl) ?_
  exact z_callV (as := [vi (3 : Int32)]) (st := []) dX9_loop_197 vsX9_111_9 (Nat.le_refl _) (Nat.le_of_ble_eq_true rfl) (Nat.le_of_ble_eq_true rfl) rfl k
theorem sX9_loop_200 {E : zE} {d : Nat} {Q : zO → zM → Prop} (M : zM) (a0 : Nat) (r1 : Option zP) (r2 : Option zP) (s0 : Int32) (k : if s0 = 0 then (Z E YX9_loop (d + 1) (zn M 1) [(0, vr (some (a0, 8, 0))), (1, vr r1), (2, vr r2)] 210 [vr (some ((zsz M), 21, 0))] Q) else (Z E YX9_loop (d + 1) M [(0, vr (some (a0, 8, 0))), (1, vr r1), (2, vr r2)] 219 [vr none] Q)) : Z E YX9_loop (d + 1) M [(0, vr (some (a0, 8, 0))), (1, vr r1), (2, vr r2)] 200 [vi s0] Q := by
  refine z_if_eq (tgt := 207) dX9_loop_200 rfl (fun h_ => ?_) (fun h_ => ?_)
  · have k := zit h_ k
    refine z_new dX9_loop_207 csX9_143 zff_21 ?_
    exact k
  · have k := zif h_ k
    refine z_null dX9_loop_203 ?_
    refine z_goto (tgt := 219) dX9_loop_204 rfl ?_
    exact k
theorem sX9_loop_210 {E : zE} {d : Nat} {Q : zO → zM → Prop} (M : zM) (a0 : Nat) (r1 : Option zP) (r2 : Option zP) (p0 : Nat) (k : Z E YX9_expression d M (zargs 0 [vr (some (a0, 8, 0)), vi (1 : Int32)]) 0 [] (zafter E YX9_loop (d + 1) [(0, vr (some (a0, 8, 0))), (1, vr r1), (2, vr r2)] 213 3 [vr (some (p0, 21, 0)), vr (some (p0, 21, 0))] Q)) : Z E YX9_loop (d + 1) M [(0, vr (some (a0, 8, 0))), (1, vr r1), (2, vr r2)] 210 [vr (some (p0, 21, 0))] Q := by
  refine z_dup dX9_loop_210 rfl ?_
  refine z_aload_n dX9_loop_211 rfl rfl ?_
  refine z_iconst (v := 1) dX9_loop_212 rfl ?_
  exact z_callV (as := [vi (1 : Int32)]) (st := [vr (some (p0, 21, 0)), vr (some (p0, 21, 0))]) dX9_loop_213 vsX9_145_8 (Nat.le_refl _) (Nat.le_of_ble_eq_true rfl) (Nat.le_of_ble_eq_true rfl) rfl k
theorem sX9_loop_216 {E : zE} {d : Nat} {Q : zO → zM → Prop} (M : zM) (a0 : Nat) (r1 : Option zP) (r2 : Option zP) (u0 : Option zP) (p1 : Nat) (p2 : Nat) (k : Z E YX15_init d M (zargs 0 [vr (some (p1, 21, 0)), vr u0]) 0 [] (zafter E YX9_loop (d + 1) [(0, vr (some (a0, 8, 0))), (1, vr r1), (2, vr r2)] 216 3 [vr (some (p2, 21, 0))] Q)) : Z E YX9_loop (d + 1) M [(0, vr (some (a0, 8, 0))), (1, vr r1), (2, vr r2)] 216 [vr u0, vr (some (p1, 21, 0)), vr (some (p2, 21, 0))] Q := by
  exact z_callI (as := [vr u0]) (st := [vr (some (p2, 21, 0))]) dX9_loop_216 isX9_149 (Nat.le_refl _) (Nat.le_of_ble_eq_true rfl) (Nat.le_of_ble_eq_true rfl) rfl k
theorem sX9_loop_219 {E : zE} {d : Nat} {Q : zO → zM → Prop} (M : zM) (a0 : Nat) (r1 : Option zP) (r2 : Option zP) (u0 : Option zP) (k : ∃ b1 : Nat, (gr M a0 1) = some (b1, 9, 0) ∧ (Z E YX10_need d M (zargs 0 [vr (some (b1, 9, 0)), vi (3 : Int32)]) 0 [] (zafter E YX9_loop (d + 1) [(0, vr (some (a0, 8, 0))), (1, vr r1), (2, vr r2), (3, vr u0)] 225 3 [] Q))) : Z E YX9_loop (d + 1) M [(0, vr (some (a0, 8, 0))), (1, vr r1), (2, vr r2)] 219 [vr u0] Q := by
  refine z_ast_n dX9_loop_219 rfl (by decide) (lv' := [(0, vr (some (a0, 8, 0))), (1, vr r1), (2, vr r2), (3, vr u0)]) rfl ?_
  refine z_aload_n dX9_loop_220 rfl rfl ?_
  refine z_getr (r := (gr M a0 1)) dX9_loop_221 fsX9_27_8 rfl ?_
  refine z_iconst (v := 3) dX9_loop_224 rfl ?_
  obtain ⟨b1, e1_, k⟩ := k
  refine Z.eqs (lv' := [(0, vr (some (a0, 8, 0))), (1, vr r1), (2, vr r2), (3, vr u0)]) (st' := [vi (3 : Int32), vr (some (b1, 9, 0))]) rfl (by rw [e1_] <;> rfl) ?_
  exact z_callV (as := [vi (3 : Int32)]) (st := []) dX9_loop_225 vsX9_108_9 (Nat.le_refl _) (Nat.le_of_ble_eq_true rfl) (Nat.le_of_ble_eq_true rfl) rfl k
theorem sX9_loop_228 {E : zE} {d : Nat} {Q : zO → zM → Prop} (M : zM) (a0 : Nat) (r1 : Option zP) (r2 : Option zP) (r3 : Option zP) (k : Z E YX9_loop (d + 1) (zn M 5) [(0, vr (some (a0, 8, 0))), (1, vr r1), (2, vr r2), (3, vr r3)] 231 [vr (some ((zsz M), 38, 0))] Q) : Z E YX9_loop (d + 1) M [(0, vr (some (a0, 8, 0))), (1, vr r1), (2, vr r2), (3, vr r3)] 228 [] Q := by
  refine z_new dX9_loop_228 csX9_181 zff_38 ?_
  exact k
theorem sX9_loop_231 {E : zE} {d : Nat} {Q : zO → zM → Prop} (M : zM) (a0 : Nat) (r1 : Option zP) (r2 : Option zP) (r3 : Option zP) (p0 : Nat) (k : Z E YX9_looped d M (zargs 0 [vr (some (a0, 8, 0))]) 0 [] (zafter E YX9_loop (d + 1) [] 237 3 [vr r3, vr r2, vr r1, vi (2 : Int32), vr (some (p0, 38, 0)), vr (some (p0, 38, 0))] Q)) : Z E YX9_loop (d + 1) M [(0, vr (some (a0, 8, 0))), (1, vr r1), (2, vr r2), (3, vr r3)] 231 [vr (some (p0, 38, 0))] Q := by
  refine z_dup dX9_loop_231 rfl ?_
  refine z_iconst (v := 2) dX9_loop_232 rfl ?_
  refine z_aload_n dX9_loop_233 rfl rfl ?_
  refine z_aload_n dX9_loop_234 rfl rfl ?_
  refine z_aload_n dX9_loop_235 rfl rfl ?_
  refine z_aload_n dX9_loop_236 rfl rfl ?_
  refine Z.pick [] rfl ?_
  exact z_callV (as := []) (st := [vr r3, vr r2, vr r1, vi (2 : Int32), vr (some (p0, 38, 0)), vr (some (p0, 38, 0))]) dX9_loop_237 vsX9_183_8 (Nat.le_refl _) (Nat.le_of_ble_eq_true rfl) (Nat.le_of_ble_eq_true rfl) rfl k
theorem sX9_loop_240 {E : zE} {d : Nat} {Q : zO → zM → Prop} (M : zM) (u0 : Option zP) (u1 : Option zP) (u2 : Option zP) (u3 : Option zP) (s4 : Int32) (p5 : Nat) (p6 : Nat) (k : Z E YX33_init d M (zargs 0 [vr (some (p5, 38, 0)), vi s4, vr u3, vr u2, vr u1, vr u0]) 0 [] (zafter E YX9_loop (d + 1) [] 240 3 [vr (some (p6, 38, 0))] Q)) : Z E YX9_loop (d + 1) M [] 240 [vr u0, vr u1, vr u2, vr u3, vi s4, vr (some (p5, 38, 0)), vr (some (p6, 38, 0))] Q := by
  exact z_callI (as := [vi s4, vr u3, vr u2, vr u1, vr u0]) (st := [vr (some (p6, 38, 0))]) dX9_loop_240 isX9_186 (Nat.le_refl _) (Nat.le_of_ble_eq_true rfl) (Nat.le_of_ble_eq_true rfl) rfl k
theorem sX9_loop_243 {E : zE} {d : Nat} {Q : zO → zM → Prop} (M : zM) (p0 : Nat) (k : Q (.inl (some (vr (some (p0, 38, 0))))) M) : Z E YX9_loop (d + 1) M [] 243 [vr (some (p0, 38, 0))] Q := by
  exact z_aret dX9_loop_243 rfl rfl k
/-! ScriptTypes$Parser.each(I)LScriptTypes$Node; -/
theorem bX9_each_0 : zdec cX9_each 0 [(0, .aload_n 0, 1), (1, .getfield 27, 3), (4, .invokevirtual 52, 3), (7, .aload_n 0, 1), (8, .iconst 1, 1), (9, .invokevirtual 145, 3), (12, .astore_n 2, 1), (13, .aload_n 0, 1), (14, .getfield 27, 3), (17, .iconst 3, 1), (18, .invokevirtual 108, 3), (21, .new 240, 3), (24, .dup, 1), (25, .iload_n 1, 1), (26, .aload_n 2, 1), (27, .aload_n 0, 1)] = true := by decide +kernel
theorem dX9_each_0 : decode cX9_each 0 = .ok (.aload_n 0, 1) := zdec_at bX9_each_0 0 rfl
theorem dX9_each_1 : decode cX9_each 1 = .ok (.getfield 27, 3) := zdec_at bX9_each_0 1 rfl
theorem dX9_each_4 : decode cX9_each 4 = .ok (.invokevirtual 52, 3) := zdec_at bX9_each_0 2 rfl
theorem dX9_each_7 : decode cX9_each 7 = .ok (.aload_n 0, 1) := zdec_at bX9_each_0 3 rfl
theorem dX9_each_8 : decode cX9_each 8 = .ok (.iconst 1, 1) := zdec_at bX9_each_0 4 rfl
theorem dX9_each_9 : decode cX9_each 9 = .ok (.invokevirtual 145, 3) := zdec_at bX9_each_0 5 rfl
theorem dX9_each_12 : decode cX9_each 12 = .ok (.astore_n 2, 1) := zdec_at bX9_each_0 6 rfl
theorem dX9_each_13 : decode cX9_each 13 = .ok (.aload_n 0, 1) := zdec_at bX9_each_0 7 rfl
theorem dX9_each_14 : decode cX9_each 14 = .ok (.getfield 27, 3) := zdec_at bX9_each_0 8 rfl
theorem dX9_each_17 : decode cX9_each 17 = .ok (.iconst 3, 1) := zdec_at bX9_each_0 9 rfl
theorem dX9_each_18 : decode cX9_each 18 = .ok (.invokevirtual 108, 3) := zdec_at bX9_each_0 10 rfl
theorem dX9_each_21 : decode cX9_each 21 = .ok (.new 240, 3) := zdec_at bX9_each_0 11 rfl
theorem dX9_each_24 : decode cX9_each 24 = .ok (.dup, 1) := zdec_at bX9_each_0 12 rfl
theorem dX9_each_25 : decode cX9_each 25 = .ok (.iload_n 1, 1) := zdec_at bX9_each_0 13 rfl
theorem dX9_each_26 : decode cX9_each 26 = .ok (.aload_n 2, 1) := zdec_at bX9_each_0 14 rfl
theorem dX9_each_27 : decode cX9_each 27 = .ok (.aload_n 0, 1) := zdec_at bX9_each_0 15 rfl
theorem bX9_each_28 : zdec cX9_each 28 [(28, .invokevirtual 183, 3), (31, .invokespecial 242, 3), (34, .areturn, 1)] = true := by decide +kernel
theorem dX9_each_28 : decode cX9_each 28 = .ok (.invokevirtual 183, 3) := zdec_at bX9_each_28 0 rfl
theorem dX9_each_31 : decode cX9_each 31 = .ok (.invokespecial 242, 3) := zdec_at bX9_each_28 1 rfl
theorem dX9_each_34 : decode cX9_each 34 = .ok (.areturn, 1) := zdec_at bX9_each_28 2 rfl
theorem sX9_each_0 {E : zE} {d : Nat} {Q : zO → zM → Prop} (M : zM) (a0 : Nat) (l1 : Int32) (k : ∃ b1 : Nat, (gr M a0 1) = some (b1, 9, 0) ∧ (Z E YX10_next d M (zargs 0 [vr (some (b1, 9, 0))]) 0 [] (zafter E YX9_each (d + 1) [(0, vr (some (a0, 8, 0))), (1, vi l1)] 4 3 [] Q))) : Z E YX9_each (d + 1) M [(0, vr (some (a0, 8, 0))), (1, vi l1)] 0 [] Q := by
  refine z_aload_n dX9_each_0 rfl rfl ?_
  refine z_getr (r := (gr M a0 1)) dX9_each_1 fsX9_27_8 rfl ?_
  obtain ⟨b1, e1_, k⟩ := k
  refine Z.eqs (lv' := [(0, vr (some (a0, 8, 0))), (1, vi l1)]) (st' := [vr (some (b1, 9, 0))]) rfl (by rw [e1_] <;> rfl) ?_
  exact z_callV (as := []) (st := []) dX9_each_4 vsX9_52_9 (Nat.le_refl _) (Nat.le_of_ble_eq_true rfl) (Nat.le_of_ble_eq_true rfl) rfl k
theorem sX9_each_7 {E : zE} {d : Nat} {Q : zO → zM → Prop} (M : zM) (a0 : Nat) (l1 : Int32) (k : Z E YX9_expression d M (zargs 0 [vr (some (a0, 8, 0)), vi (1 : Int32)]) 0 [] (zafter E YX9_each (d + 1) [(0, vr (some (a0, 8, 0))), (1, vi l1)] 9 3 [] Q)) : Z E YX9_each (d + 1) M [(0, vr (some (a0, 8, 0))), (1, vi l1)] 7 [] Q := by
  refine z_aload_n dX9_each_7 rfl rfl ?_
  refine z_iconst (v := 1) dX9_each_8 rfl ?_
  exact z_callV (as := [vi (1 : Int32)]) (st := []) dX9_each_9 vsX9_145_8 (Nat.le_refl _) (Nat.le_of_ble_eq_true rfl) (Nat.le_of_ble_eq_true rfl) rfl k
theorem sX9_each_12 {E : zE} {d : Nat} {Q : zO → zM → Prop} (M : zM) (a0 : Nat) (l1 : Int32) (u0 : Option zP) (k : ∃ b1 : Nat, (gr M a0 1) = some (b1, 9, 0) ∧ (Z E YX10_need d M (zargs 0 [vr (some (b1, 9, 0)), vi (3 : Int32)]) 0 [] (zafter E YX9_each (d + 1) [(0, vr (some (a0, 8, 0))), (1, vi l1), (2, vr u0)] 18 3 [] Q))) : Z E YX9_each (d + 1) M [(0, vr (some (a0, 8, 0))), (1, vi l1)] 12 [vr u0] Q := by
  refine z_ast_n dX9_each_12 rfl (by decide) (lv' := [(0, vr (some (a0, 8, 0))), (1, vi l1), (2, vr u0)]) rfl ?_
  refine z_aload_n dX9_each_13 rfl rfl ?_
  refine z_getr (r := (gr M a0 1)) dX9_each_14 fsX9_27_8 rfl ?_
  refine z_iconst (v := 3) dX9_each_17 rfl ?_
  obtain ⟨b1, e1_, k⟩ := k
  refine Z.eqs (lv' := [(0, vr (some (a0, 8, 0))), (1, vi l1), (2, vr u0)]) (st' := [vi (3 : Int32), vr (some (b1, 9, 0))]) rfl (by rw [e1_] <;> rfl) ?_
  exact z_callV (as := [vi (3 : Int32)]) (st := []) dX9_each_18 vsX9_108_9 (Nat.le_refl _) (Nat.le_of_ble_eq_true rfl) (Nat.le_of_ble_eq_true rfl) rfl k
theorem sX9_each_21 {E : zE} {d : Nat} {Q : zO → zM → Prop} (M : zM) (a0 : Nat) (l1 : Int32) (r2 : Option zP) (k : Z E YX9_each (d + 1) (zn M 3) [(0, vr (some (a0, 8, 0))), (1, vi l1), (2, vr r2)] 24 [vr (some ((zsz M), 39, 0))] Q) : Z E YX9_each (d + 1) M [(0, vr (some (a0, 8, 0))), (1, vi l1), (2, vr r2)] 21 [] Q := by
  refine z_new dX9_each_21 csX9_240 zff_39 ?_
  exact k
theorem sX9_each_24 {E : zE} {d : Nat} {Q : zO → zM → Prop} (M : zM) (a0 : Nat) (l1 : Int32) (r2 : Option zP) (p0 : Nat) (k : Z E YX9_looped d M (zargs 0 [vr (some (a0, 8, 0))]) 0 [] (zafter E YX9_each (d + 1) [] 28 3 [vr r2, vi l1, vr (some (p0, 39, 0)), vr (some (p0, 39, 0))] Q)) : Z E YX9_each (d + 1) M [(0, vr (some (a0, 8, 0))), (1, vi l1), (2, vr r2)] 24 [vr (some (p0, 39, 0))] Q := by
  refine z_dup dX9_each_24 rfl ?_
  refine z_iload_n dX9_each_25 rfl rfl ?_
  refine z_aload_n dX9_each_26 rfl rfl ?_
  refine z_aload_n dX9_each_27 rfl rfl ?_
  refine Z.pick [] rfl ?_
  exact z_callV (as := []) (st := [vr r2, vi l1, vr (some (p0, 39, 0)), vr (some (p0, 39, 0))]) dX9_each_28 vsX9_183_8 (Nat.le_refl _) (Nat.le_of_ble_eq_true rfl) (Nat.le_of_ble_eq_true rfl) rfl k
theorem sX9_each_31 {E : zE} {d : Nat} {Q : zO → zM → Prop} (M : zM) (u0 : Option zP) (u1 : Option zP) (s2 : Int32) (p3 : Nat) (p4 : Nat) (k : Z E YX34_init d M (zargs 0 [vr (some (p3, 39, 0)), vi s2, vr u1, vr u0]) 0 [] (zafter E YX9_each (d + 1) [] 31 3 [vr (some (p4, 39, 0))] Q)) : Z E YX9_each (d + 1) M [] 31 [vr u0, vr u1, vi s2, vr (some (p3, 39, 0)), vr (some (p4, 39, 0))] Q := by
  exact z_callI (as := [vi s2, vr u1, vr u0]) (st := [vr (some (p4, 39, 0))]) dX9_each_31 isX9_242 (Nat.le_refl _) (Nat.le_of_ble_eq_true rfl) (Nat.le_of_ble_eq_true rfl) rfl k
theorem sX9_each_34 {E : zE} {d : Nat} {Q : zO → zM → Prop} (M : zM) (p0 : Nat) (k : Q (.inl (some (vr (some (p0, 39, 0))))) M) : Z E YX9_each (d + 1) M [] 34 [vr (some (p0, 39, 0))] Q := by
  exact z_aret dX9_each_34 rfl rfl k
/-! ScriptTypes$Parser.tried()LScriptTypes$Node; -/
theorem bX9_tried_0 : zdec cX9_tried 0 [(0, .aload_n 0, 1), (1, .getfield 27, 3), (4, .iconst 0, 1), (5, .invokevirtual 111, 3), (8, .ifCond .ne 12, 3), (11, .aload_n 0, 1), (12, .getfield 27, 3), (15, .iconst 2, 1), (16, .invokevirtual 35, 3), (19, .athrow, 1), (20, .aload_n 0, 1), (21, .invokevirtual 133, 3), (24, .astore_n 1, 1), (25, .aload_n 0, 1), (26, .getfield 27, 3), (29, .iconst 2, 1)] = true := by decide +kernel
theorem dX9_tried_0 : decode cX9_tried 0 = .ok (.aload_n 0, 1) := zdec_at bX9_tried_0 0 rfl
theorem dX9_tried_1 : decode cX9_tried 1 = .ok (.getfield 27, 3) := zdec_at bX9_tried_0 1 rfl
theorem dX9_tried_4 : decode cX9_tried 4 = .ok (.iconst 0, 1) := zdec_at bX9_tried_0 2 rfl
theorem dX9_tried_5 : decode cX9_tried 5 = .ok (.invokevirtual 111, 3) := zdec_at bX9_tried_0 3 rfl
theorem dX9_tried_8 : decode cX9_tried 8 = .ok (.ifCond .ne 12, 3) := zdec_at bX9_tried_0 4 rfl
theorem dX9_tried_11 : decode cX9_tried 11 = .ok (.aload_n 0, 1) := zdec_at bX9_tried_0 5 rfl
theorem dX9_tried_12 : decode cX9_tried 12 = .ok (.getfield 27, 3) := zdec_at bX9_tried_0 6 rfl
theorem dX9_tried_15 : decode cX9_tried 15 = .ok (.iconst 2, 1) := zdec_at bX9_tried_0 7 rfl
theorem dX9_tried_16 : decode cX9_tried 16 = .ok (.invokevirtual 35, 3) := zdec_at bX9_tried_0 8 rfl
theorem dX9_tried_19 : decode cX9_tried 19 = .ok (.athrow, 1) := zdec_at bX9_tried_0 9 rfl
theorem dX9_tried_20 : decode cX9_tried 20 = .ok (.aload_n 0, 1) := zdec_at bX9_tried_0 10 rfl
theorem dX9_tried_21 : decode cX9_tried 21 = .ok (.invokevirtual 133, 3) := zdec_at bX9_tried_0 11 rfl
theorem dX9_tried_24 : decode cX9_tried 24 = .ok (.astore_n 1, 1) := zdec_at bX9_tried_0 12 rfl
theorem dX9_tried_25 : decode cX9_tried 25 = .ok (.aload_n 0, 1) := zdec_at bX9_tried_0 13 rfl
theorem dX9_tried_26 : decode cX9_tried 26 = .ok (.getfield 27, 3) := zdec_at bX9_tried_0 14 rfl
theorem dX9_tried_29 : decode cX9_tried 29 = .ok (.iconst 2, 1) := zdec_at bX9_tried_0 15 rfl
theorem bX9_tried_30 : zdec cX9_tried 30 [(30, .invokevirtual 175, 3), (33, .istore_n 2, 1), (34, .iload_n 2, 1), (35, .ifCond .eq 49, 3), (38, .aload_n 0, 1), (39, .getfield 27, 3), (42, .iconst 2, 1), (43, .invokevirtual 108, 3), (46, .aload_n 0, 1), (47, .getfield 27, 3), (50, .invokevirtual 79, 3), (53, .istore_n 3, 1), (54, .aload_n 0, 1), (55, .getfield 44, 3), (58, .iload_n 3, 1), (59, .invokevirtual 89, 3)] = true := by decide +kernel
theorem dX9_tried_30 : decode cX9_tried 30 = .ok (.invokevirtual 175, 3) := zdec_at bX9_tried_30 0 rfl
theorem dX9_tried_33 : decode cX9_tried 33 = .ok (.istore_n 2, 1) := zdec_at bX9_tried_30 1 rfl
theorem dX9_tried_34 : decode cX9_tried 34 = .ok (.iload_n 2, 1) := zdec_at bX9_tried_30 2 rfl
theorem dX9_tried_35 : decode cX9_tried 35 = .ok (.ifCond .eq 49, 3) := zdec_at bX9_tried_30 3 rfl
theorem dX9_tried_38 : decode cX9_tried 38 = .ok (.aload_n 0, 1) := zdec_at bX9_tried_30 4 rfl
theorem dX9_tried_39 : decode cX9_tried 39 = .ok (.getfield 27, 3) := zdec_at bX9_tried_30 5 rfl
theorem dX9_tried_42 : decode cX9_tried 42 = .ok (.iconst 2, 1) := zdec_at bX9_tried_30 6 rfl
theorem dX9_tried_43 : decode cX9_tried 43 = .ok (.invokevirtual 108, 3) := zdec_at bX9_tried_30 7 rfl
theorem dX9_tried_46 : decode cX9_tried 46 = .ok (.aload_n 0, 1) := zdec_at bX9_tried_30 8 rfl
theorem dX9_tried_47 : decode cX9_tried 47 = .ok (.getfield 27, 3) := zdec_at bX9_tried_30 9 rfl
theorem dX9_tried_50 : decode cX9_tried 50 = .ok (.invokevirtual 79, 3) := zdec_at bX9_tried_30 10 rfl
theorem dX9_tried_53 : decode cX9_tried 53 = .ok (.istore_n 3, 1) := zdec_at bX9_tried_30 11 rfl
theorem dX9_tried_54 : decode cX9_tried 54 = .ok (.aload_n 0, 1) := zdec_at bX9_tried_30 12 rfl
theorem dX9_tried_55 : decode cX9_tried 55 = .ok (.getfield 44, 3) := zdec_at bX9_tried_30 13 rfl
theorem dX9_tried_58 : decode cX9_tried 58 = .ok (.iload_n 3, 1) := zdec_at bX9_tried_30 14 rfl
theorem dX9_tried_59 : decode cX9_tried 59 = .ok (.invokevirtual 89, 3) := zdec_at bX9_tried_30 15 rfl
theorem bX9_tried_62 : zdec cX9_tried 62 [(62, .aload_n 0, 1), (63, .getfield 27, 3), (66, .iconst 3, 1), (67, .invokevirtual 108, 3), (70, .new 243, 3), (73, .dup, 1), (74, .aload_n 1, 1), (75, .iload_n 3, 1), (76, .aload_n 0, 1), (77, .invokevirtual 133, 3), (80, .invokespecial 245, 3), (83, .astore_n 1, 1), (84, .iload_n 2, 1), (85, .ifCond .ne 24, 3), (88, .aload_n 0, 1), (89, .getfield 27, 3)] = true := by decide +kernel
theorem dX9_tried_62 : decode cX9_tried 62 = .ok (.aload_n 0, 1) := zdec_at bX9_tried_62 0 rfl
theorem dX9_tried_63 : decode cX9_tried 63 = .ok (.getfield 27, 3) := zdec_at bX9_tried_62 1 rfl
theorem dX9_tried_66 : decode cX9_tried 66 = .ok (.iconst 3, 1) := zdec_at bX9_tried_62 2 rfl
theorem dX9_tried_67 : decode cX9_tried 67 = .ok (.invokevirtual 108, 3) := zdec_at bX9_tried_62 3 rfl
theorem dX9_tried_70 : decode cX9_tried 70 = .ok (.new 243, 3) := zdec_at bX9_tried_62 4 rfl
theorem dX9_tried_73 : decode cX9_tried 73 = .ok (.dup, 1) := zdec_at bX9_tried_62 5 rfl
theorem dX9_tried_74 : decode cX9_tried 74 = .ok (.aload_n 1, 1) := zdec_at bX9_tried_62 6 rfl
theorem dX9_tried_75 : decode cX9_tried 75 = .ok (.iload_n 3, 1) := zdec_at bX9_tried_62 7 rfl
theorem dX9_tried_76 : decode cX9_tried 76 = .ok (.aload_n 0, 1) := zdec_at bX9_tried_62 8 rfl
theorem dX9_tried_77 : decode cX9_tried 77 = .ok (.invokevirtual 133, 3) := zdec_at bX9_tried_62 9 rfl
theorem dX9_tried_80 : decode cX9_tried 80 = .ok (.invokespecial 245, 3) := zdec_at bX9_tried_62 10 rfl
theorem dX9_tried_83 : decode cX9_tried 83 = .ok (.astore_n 1, 1) := zdec_at bX9_tried_62 11 rfl
theorem dX9_tried_84 : decode cX9_tried 84 = .ok (.iload_n 2, 1) := zdec_at bX9_tried_62 12 rfl
theorem dX9_tried_85 : decode cX9_tried 85 = .ok (.ifCond .ne 24, 3) := zdec_at bX9_tried_62 13 rfl
theorem dX9_tried_88 : decode cX9_tried 88 = .ok (.aload_n 0, 1) := zdec_at bX9_tried_62 14 rfl
theorem dX9_tried_89 : decode cX9_tried 89 = .ok (.getfield 27, 3) := zdec_at bX9_tried_62 15 rfl
theorem bX9_tried_92 : zdec cX9_tried 92 [(92, .bipush 9, 2), (94, .invokevirtual 61, 3), (97, .ifCond .ne 12, 3), (100, .aload_n 0, 1), (101, .getfield 27, 3), (104, .iconst 2, 1), (105, .invokevirtual 35, 3), (108, .athrow, 1), (109, .aload_n 0, 1), (110, .getfield 27, 3), (113, .bipush 9, 2), (115, .invokevirtual 175, 3), (118, .ifCond .eq 19, 3), (121, .new 243, 3), (124, .dup, 1), (125, .aload_n 1, 1)] = true := by decide +kernel
theorem dX9_tried_92 : decode cX9_tried 92 = .ok (.bipush 9, 2) := zdec_at bX9_tried_92 0 rfl
theorem dX9_tried_94 : decode cX9_tried 94 = .ok (.invokevirtual 61, 3) := zdec_at bX9_tried_92 1 rfl
theorem dX9_tried_97 : decode cX9_tried 97 = .ok (.ifCond .ne 12, 3) := zdec_at bX9_tried_92 2 rfl
theorem dX9_tried_100 : decode cX9_tried 100 = .ok (.aload_n 0, 1) := zdec_at bX9_tried_92 3 rfl
theorem dX9_tried_101 : decode cX9_tried 101 = .ok (.getfield 27, 3) := zdec_at bX9_tried_92 4 rfl
theorem dX9_tried_104 : decode cX9_tried 104 = .ok (.iconst 2, 1) := zdec_at bX9_tried_92 5 rfl
theorem dX9_tried_105 : decode cX9_tried 105 = .ok (.invokevirtual 35, 3) := zdec_at bX9_tried_92 6 rfl
theorem dX9_tried_108 : decode cX9_tried 108 = .ok (.athrow, 1) := zdec_at bX9_tried_92 7 rfl
theorem dX9_tried_109 : decode cX9_tried 109 = .ok (.aload_n 0, 1) := zdec_at bX9_tried_92 8 rfl
theorem dX9_tried_110 : decode cX9_tried 110 = .ok (.getfield 27, 3) := zdec_at bX9_tried_92 9 rfl
theorem dX9_tried_113 : decode cX9_tried 113 = .ok (.bipush 9, 2) := zdec_at bX9_tried_92 10 rfl
theorem dX9_tried_115 : decode cX9_tried 115 = .ok (.invokevirtual 175, 3) := zdec_at bX9_tried_92 11 rfl
theorem dX9_tried_118 : decode cX9_tried 118 = .ok (.ifCond .eq 19, 3) := zdec_at bX9_tried_92 12 rfl
theorem dX9_tried_121 : decode cX9_tried 121 = .ok (.new 243, 3) := zdec_at bX9_tried_92 13 rfl
theorem dX9_tried_124 : decode cX9_tried 124 = .ok (.dup, 1) := zdec_at bX9_tried_92 14 rfl
theorem dX9_tried_125 : decode cX9_tried 125 = .ok (.aload_n 1, 1) := zdec_at bX9_tried_92 15 rfl
theorem bX9_tried_126 : zdec cX9_tried 126 [(126, .iconst (-1), 1), (127, .aload_n 0, 1), (128, .invokevirtual 133, 3), (131, .invokespecial 245, 3), (134, .goto 4, 3), (137, .aload_n 1, 1), (138, .areturn, 1)] = true := by decide +kernel
theorem dX9_tried_126 : decode cX9_tried 126 = .ok (.iconst (-1), 1) := zdec_at bX9_tried_126 0 rfl
theorem dX9_tried_127 : decode cX9_tried 127 = .ok (.aload_n 0, 1) := zdec_at bX9_tried_126 1 rfl
theorem dX9_tried_128 : decode cX9_tried 128 = .ok (.invokevirtual 133, 3) := zdec_at bX9_tried_126 2 rfl
theorem dX9_tried_131 : decode cX9_tried 131 = .ok (.invokespecial 245, 3) := zdec_at bX9_tried_126 3 rfl
theorem dX9_tried_134 : decode cX9_tried 134 = .ok (.goto 4, 3) := zdec_at bX9_tried_126 4 rfl
theorem dX9_tried_137 : decode cX9_tried 137 = .ok (.aload_n 1, 1) := zdec_at bX9_tried_126 5 rfl
theorem dX9_tried_138 : decode cX9_tried 138 = .ok (.areturn, 1) := zdec_at bX9_tried_126 6 rfl
theorem sX9_tried_0 {E : zE} {d : Nat} {Q : zO → zM → Prop} (M : zM) (a0 : Nat) (k : ∃ b1 : Nat, (gr M a0 1) = some (b1, 9, 0) ∧ (Z E YX10_is d M (zargs 0 [vr (some (b1, 9, 0)), vi (0 : Int32)]) 0 [] (zafter E YX9_tried (d + 1) [(0, vr (some (a0, 8, 0)))] 5 3 [] Q))) : Z E YX9_tried (d + 1) M [(0, vr (some (a0, 8, 0)))] 0 [] Q := by
  refine z_aload_n dX9_tried_0 rfl rfl ?_
  refine z_getr (r := (gr M a0 1)) dX9_tried_1 fsX9_27_8 rfl ?_
  refine z_iconst (v := 0) dX9_tried_4 rfl ?_
  obtain ⟨b1, e1_, k⟩ := k
  refine Z.eqs (lv' := [(0, vr (some (a0, 8, 0)))]) (st' := [vi (0 : Int32), vr (some (b1, 9, 0))]) rfl (by rw [e1_] <;> rfl) ?_
  exact z_callV (as := [vi (0 : Int32)]) (st := []) dX9_tried_5 vsX9_111_9 (Nat.le_refl _) (Nat.le_of_ble_eq_true rfl) (Nat.le_of_ble_eq_true rfl) rfl k
theorem sX9_tried_8 {E : zE} {d : Nat} {Q : zO → zM → Prop} (M : zM) (a0 : Nat) (s0 : Int32) (k : if s0 = 0 then (∃ b1 : Nat, (gr M a0 1) = some (b1, 9, 0) ∧ (Z E YX10_fault d M (zargs 0 [vr (some (b1, 9, 0)), vi (2 : Int32)]) 0 [] (zafter E YX9_tried (d + 1) [] 16 3 [] Q))) else (Z E YX9_block d M (zargs 0 [vr (some (a0, 8, 0))]) 0 [] (zafter E YX9_tried (d + 1) [(0, vr (some (a0, 8, 0)))] 21 3 [] Q))) : Z E YX9_tried (d + 1) M [(0, vr (some (a0, 8, 0)))] 8 [vi s0] Q := by
  refine z_if_ne (tgt := 20) dX9_tried_8 rfl (fun h_ => ?_) (fun h_ => ?_)
  · have k := zif h_ k
    refine z_aload_n dX9_tried_20 rfl rfl ?_
    exact z_callV (as := []) (st := []) dX9_tried_21 vsX9_133_8 (Nat.le_refl _) (Nat.le_of_ble_eq_true rfl) (Nat.le_of_ble_eq_true rfl) rfl k
  · have k := zit h_ k
    refine z_aload_n dX9_tried_11 rfl rfl ?_
    refine z_getr (r := (gr M a0 1)) dX9_tried_12 fsX9_27_8 rfl ?_
    refine z_iconst (v := 2) dX9_tried_15 rfl ?_
    obtain ⟨b1, e1_, k⟩ := k
    refine Z.eqs (lv' := [(0, vr (some (a0, 8, 0)))]) (st' := [vi (2 : Int32), vr (some (b1, 9, 0))]) rfl (by rw [e1_] <;> rfl) ?_
    refine Z.pick [] rfl ?_
    exact z_callV (as := [vi (2 : Int32)]) (st := []) dX9_tried_16 vsX9_35_9 (Nat.le_refl _) (Nat.le_of_ble_eq_true rfl) (Nat.le_of_ble_eq_true rfl) rfl k
theorem sX9_tried_19 {E : zE} {d : Nat} {Q : zO → zM → Prop} (M : zM) (u0 : Option zP) (k : ∃ b1 : Nat, u0 = some (b1, 12, 0) ∧ (Q (.inr (b1, 12, 0)) M)) : Z E YX9_tried (d + 1) M [] 19 [vr u0] Q := by
  obtain ⟨b1, e1_, k⟩ := k
  refine Z.eqs (lv' := []) (st' := [vr (some (b1, 12, 0))]) rfl (by rw [e1_] <;> rfl) ?_
  exact z_athrow dX9_tried_19 (ZT.out (by decide) k)
theorem sX9_tried_24 {E : zE} {d : Nat} {Q : zO → zM → Prop} (M : zM) (a0 : Nat) (u0 : Option zP) (k : ∃ b1 : Nat, (gr M a0 1) = some (b1, 9, 0) ∧ (Z E YX10_takesWord d M (zargs 0 [vr (some (b1, 9, 0)), vi (2 : Int32)]) 0 [] (zafter E YX9_tried (d + 1) [(0, vr (some (a0, 8, 0))), (1, vr u0)] 30 3 [] Q))) : Z E YX9_tried (d + 1) M [(0, vr (some (a0, 8, 0)))] 24 [vr u0] Q := by
  refine z_ast_n dX9_tried_24 rfl (by decide) (lv' := [(0, vr (some (a0, 8, 0))), (1, vr u0)]) rfl ?_
  refine z_aload_n dX9_tried_25 rfl rfl ?_
  refine z_getr (r := (gr M a0 1)) dX9_tried_26 fsX9_27_8 rfl ?_
  refine z_iconst (v := 2) dX9_tried_29 rfl ?_
  obtain ⟨b1, e1_, k⟩ := k
  refine Z.eqs (lv' := [(0, vr (some (a0, 8, 0))), (1, vr u0)]) (st' := [vi (2 : Int32), vr (some (b1, 9, 0))]) rfl (by rw [e1_] <;> rfl) ?_
  exact z_callV (as := [vi (2 : Int32)]) (st := []) dX9_tried_30 vsX9_175_9 (Nat.le_refl _) (Nat.le_of_ble_eq_true rfl) (Nat.le_of_ble_eq_true rfl) rfl k
theorem sX9_tried_33 {E : zE} {d : Nat} {Q : zO → zM → Prop} (M : zM) (a0 : Nat) (r1 : Option zP) (s0 : Int32) (k : if s0 = 0 then (Z E YX9_tried (d + 1) M [(0, vr (some (a0, 8, 0))), (1, vr r1), (2, vi s0)] 84 [] Q) else (∃ b1 : Nat, (gr M a0 1) = some (b1, 9, 0) ∧ (Z E YX10_need d M (zargs 0 [vr (some (b1, 9, 0)), vi (2 : Int32)]) 0 [] (zafter E YX9_tried (d + 1) [(0, vr (some (a0, 8, 0))), (1, vr r1), (2, vi s0)] 43 3 [] Q)))) : Z E YX9_tried (d + 1) M [(0, vr (some (a0, 8, 0))), (1, vr r1)] 33 [vi s0] Q := by
  refine z_ist_n dX9_tried_33 rfl (by decide) (lv' := [(0, vr (some (a0, 8, 0))), (1, vr r1), (2, vi s0)]) rfl ?_
  refine z_iload_n dX9_tried_34 rfl rfl ?_
  refine z_if_eq (tgt := 84) dX9_tried_35 rfl (fun h_ => ?_) (fun h_ => ?_)
  · have k := zit h_ k
    exact k
  · have k := zif h_ k
    refine z_aload_n dX9_tried_38 rfl rfl ?_
    refine z_getr (r := (gr M a0 1)) dX9_tried_39 fsX9_27_8 rfl ?_
    refine z_iconst (v := 2) dX9_tried_42 rfl ?_
    obtain ⟨b1, e1_, k⟩ := k
    refine Z.eqs (lv' := [(0, vr (some (a0, 8, 0))), (1, vr r1), (2, vi s0)]) (st' := [vi (2 : Int32), vr (some (b1, 9, 0))]) rfl (by rw [e1_] <;> rfl) ?_
    exact z_callV (as := [vi (2 : Int32)]) (st := []) dX9_tried_43 vsX9_108_9 (Nat.le_refl _) (Nat.le_of_ble_eq_true rfl) (Nat.le_of_ble_eq_true rfl) rfl k
theorem sX9_tried_46 {E : zE} {d : Nat} {Q : zO → zM → Prop} (M : zM) (a0 : Nat) (r1 : Option zP) (l2 : Int32) (k : ∃ b1 : Nat, (gr M a0 1) = some (b1, 9, 0) ∧ (Z E YX10_needName d M (zargs 0 [vr (some (b1, 9, 0))]) 0 [] (zafter E YX9_tried (d + 1) [(0, vr (some (a0, 8, 0))), (1, vr r1), (2, vi l2)] 50 3 [] Q))) : Z E YX9_tried (d + 1) M [(0, vr (some (a0, 8, 0))), (1, vr r1), (2, vi l2)] 46 [] Q := by
  refine z_aload_n dX9_tried_46 rfl rfl ?_
  refine z_getr (r := (gr M a0 1)) dX9_tried_47 fsX9_27_8 rfl ?_
  obtain ⟨b1, e1_, k⟩ := k
  refine Z.eqs (lv' := [(0, vr (some (a0, 8, 0))), (1, vr r1), (2, vi l2)]) (st' := [vr (some (b1, 9, 0))]) rfl (by rw [e1_] <;> rfl) ?_
  exact z_callV (as := []) (st := []) dX9_tried_50 vsX9_79_9 (Nat.le_refl _) (Nat.le_of_ble_eq_true rfl) (Nat.le_of_ble_eq_true rfl) rfl k
theorem sX9_tried_53 {E : zE} {d : Nat} {Q : zO → zM → Prop} (M : zM) (a0 : Nat) (r1 : Option zP) (l2 : Int32) (s0 : Int32) (k : ∃ b1 : Nat, (gr M a0 3) = some (b1, 10, 0) ∧ (Z E YX11_add d M (zargs 0 [vr (some (b1, 10, 0)), vi s0]) 0 [] (zafter E YX9_tried (d + 1) [(0, vr (some (a0, 8, 0))), (1, vr r1), (2, vi l2), (3, vi s0)] 59 3 [] Q))) : Z E YX9_tried (d + 1) M [(0, vr (some (a0, 8, 0))), (1, vr r1), (2, vi l2)] 53 [vi s0] Q := by
  refine z_ist_n dX9_tried_53 rfl (by decide) (lv' := [(0, vr (some (a0, 8, 0))), (1, vr r1), (2, vi l2), (3, vi s0)]) rfl ?_
  refine z_aload_n dX9_tried_54 rfl rfl ?_
  refine z_getr (r := (gr M a0 3)) dX9_tried_55 fsX9_44_8 rfl ?_
  refine z_iload_n dX9_tried_58 rfl rfl ?_
  obtain ⟨b1, e1_, k⟩ := k
  refine Z.eqs (lv' := [(0, vr (some (a0, 8, 0))), (1, vr r1), (2, vi l2), (3, vi s0)]) (st' := [vi s0, vr (some (b1, 10, 0))]) rfl (by rw [e1_] <;> rfl) ?_
  exact z_callV (as := [vi s0]) (st := []) dX9_tried_59 vsX9_89_10 (Nat.le_refl _) (Nat.le_of_ble_eq_true rfl) (Nat.le_of_ble_eq_true rfl) rfl k
theorem sX9_tried_62 {E : zE} {d : Nat} {Q : zO → zM → Prop} (M : zM) (a0 : Nat) (r1 : Option zP) (l2 : Int32) (l3 : Int32) (k : ∃ b1 : Nat, (gr M a0 1) = some (b1, 9, 0) ∧ (Z E YX10_need d M (zargs 0 [vr (some (b1, 9, 0)), vi (3 : Int32)]) 0 [] (zafter E YX9_tried (d + 1) [(0, vr (some (a0, 8, 0))), (1, vr r1), (2, vi l2), (3, vi l3)] 67 3 [] Q))) : Z E YX9_tried (d + 1) M [(0, vr (some (a0, 8, 0))), (1, vr r1), (2, vi l2), (3, vi l3)] 62 [] Q := by
  refine z_aload_n dX9_tried_62 rfl rfl ?_
  refine z_getr (r := (gr M a0 1)) dX9_tried_63 fsX9_27_8 rfl ?_
  refine z_iconst (v := 3) dX9_tried_66 rfl ?_
  obtain ⟨b1, e1_, k⟩ := k
  refine Z.eqs (lv' := [(0, vr (some (a0, 8, 0))), (1, vr r1), (2, vi l2), (3, vi l3)]) (st' := [vi (3 : Int32), vr (some (b1, 9, 0))]) rfl (by rw [e1_] <;> rfl) ?_
  exact z_callV (as := [vi (3 : Int32)]) (st := []) dX9_tried_67 vsX9_108_9 (Nat.le_refl _) (Nat.le_of_ble_eq_true rfl) (Nat.le_of_ble_eq_true rfl) rfl k
theorem sX9_tried_70 {E : zE} {d : Nat} {Q : zO → zM → Prop} (M : zM) (a0 : Nat) (r1 : Option zP) (l2 : Int32) (l3 : Int32) (k : Z E YX9_tried (d + 1) (zn M 3) [(0, vr (some (a0, 8, 0))), (1, vr r1), (2, vi l2), (3, vi l3)] 73 [vr (some ((zsz M), 43, 0))] Q) : Z E YX9_tried (d + 1) M [(0, vr (some (a0, 8, 0))), (1, vr r1), (2, vi l2), (3, vi l3)] 70 [] Q := by
  refine z_new dX9_tried_70 csX9_243 zff_43 ?_
  exact k
theorem sX9_tried_73 {E : zE} {d : Nat} {Q : zO → zM → Prop} (M : zM) (a0 : Nat) (r1 : Option zP) (l2 : Int32) (l3 : Int32) (p0 : Nat) (k : Z E YX9_block d M (zargs 0 [vr (some (a0, 8, 0))]) 0 [] (zafter E YX9_tried (d + 1) [(0, vr (some (a0, 8, 0))), (2, vi l2)] 77 3 [vi l3, vr r1, vr (some (p0, 43, 0)), vr (some (p0, 43, 0))] Q)) : Z E YX9_tried (d + 1) M [(0, vr (some (a0, 8, 0))), (1, vr r1), (2, vi l2), (3, vi l3)] 73 [vr (some (p0, 43, 0))] Q := by
  refine z_dup dX9_tried_73 rfl ?_
  refine z_aload_n dX9_tried_74 rfl rfl ?_
  refine z_iload_n dX9_tried_75 rfl rfl ?_
  refine z_aload_n dX9_tried_76 rfl rfl ?_
  refine Z.pick [0, 2] rfl ?_
  exact z_callV (as := []) (st := [vi l3, vr r1, vr (some (p0, 43, 0)), vr (some (p0, 43, 0))]) dX9_tried_77 vsX9_133_8 (Nat.le_refl _) (Nat.le_of_ble_eq_true rfl) (Nat.le_of_ble_eq_true rfl) rfl k
theorem sX9_tried_80 {E : zE} {d : Nat} {Q : zO → zM → Prop} (M : zM) (a0 : Nat) (l2 : Int32) (u0 : Option zP) (s1 : Int32) (u2 : Option zP) (p3 : Nat) (p4 : Nat) (k : Z E YX38_init d M (zargs 0 [vr (some (p3, 43, 0)), vr u2, vi s1, vr u0]) 0 [] (zafter E YX9_tried (d + 1) [(0, vr (some (a0, 8, 0))), (2, vi l2)] 80 3 [vr (some (p4, 43, 0))] Q)) : Z E YX9_tried (d + 1) M [(0, vr (some (a0, 8, 0))), (2, vi l2)] 80 [vr u0, vi s1, vr u2, vr (some (p3, 43, 0)), vr (some (p4, 43, 0))] Q := by
  exact z_callI (as := [vr u2, vi s1, vr u0]) (st := [vr (some (p4, 43, 0))]) dX9_tried_80 isX9_245 (Nat.le_refl _) (Nat.le_of_ble_eq_true rfl) (Nat.le_of_ble_eq_true rfl) rfl k
theorem sX9_tried_83 {E : zE} {d : Nat} {Q : zO → zM → Prop} (M : zM) (a0 : Nat) (l2 : Int32) (p0 : Nat) (k : Z E YX9_tried (d + 1) M [(0, vr (some (a0, 8, 0))), (1, vr (some (p0, 43, 0))), (2, vi l2)] 84 [] Q) : Z E YX9_tried (d + 1) M [(0, vr (some (a0, 8, 0))), (2, vi l2)] 83 [vr (some (p0, 43, 0))] Q := by
  refine z_ast_n dX9_tried_83 rfl (by decide) (lv' := [(0, vr (some (a0, 8, 0))), (1, vr (some (p0, 43, 0))), (2, vi l2)]) rfl ?_
  exact k
theorem sX9_tried_84 {E : zE} {d : Nat} {Q : zO → zM → Prop} (M : zM) (a0 : Nat) (r1 : Option zP) (l2 : Int32) (k : if l2 = 0 then (∃ b1 : Nat, (gr M a0 1) = some (b1, 9, 0) ∧ (Z E YX10_isWord d M (zargs 0 [vr (some (b1, 9, 0)), vi (9 : Int32)]) 0 [] (zafter E YX9_tried (d + 1) [(0, vr (some (a0, 8, 0))), (1, vr r1)] 94 3 [] Q))) else (∃ b1 : Nat, (gr M a0 1) = some (b1, 9, 0) ∧ (Z E YX10_takesWord d M (zargs 0 [vr (some (b1, 9, 0)), vi (9 : Int32)]) 0 [] (zafter E YX9_tried (d + 1) [(0, vr (some (a0, 8, 0))), (1, vr r1)] 115 3 [] Q)))) : Z E YX9_tried (d + 1) M [(0, vr (some (a0, 8, 0))), (1, vr r1), (2, vi l2)] 84 [] Q := by
  refine z_iload_n dX9_tried_84 rfl rfl ?_
  refine z_if_ne (tgt := 109) dX9_tried_85 rfl (fun h_ => ?_) (fun h_ => ?_)
  · have k := zif h_ k
    refine z_aload_n dX9_tried_109 rfl rfl ?_
    refine z_getr (r := (gr M a0 1)) dX9_tried_110 fsX9_27_8 rfl ?_
    refine z_bipush (v := 9) dX9_tried_113 rfl ?_
    obtain ⟨b1, e1_, k⟩ := k
    refine Z.eqs (lv' := [(0, vr (some (a0, 8, 0))), (1, vr r1), (2, vi l2)]) (st' := [vi (9 : Int32), vr (some (b1, 9, 0))]) rfl (by rw [e1_] <;> rfl) ?_
    refine Z.pick [0, 1] rfl ?_
    exact z_callV (as := [vi (9 : Int32)]) (st := []) dX9_tried_115 vsX9_175_9 (Nat.le_refl _) (Nat.le_of_ble_eq_true rfl) (Nat.le_of_ble_eq_true rfl) rfl k
  · have k := zit h_ k
    refine z_aload_n dX9_tried_88 rfl rfl ?_
    refine z_getr (r := (gr M a0 1)) dX9_tried_89 fsX9_27_8 rfl ?_
    refine z_bipush (v := 9) dX9_tried_92 rfl ?_
    obtain ⟨b1, e1_, k⟩ := k
    refine Z.eqs (lv' := [(0, vr (some (a0, 8, 0))), (1, vr r1), (2, vi l2)]) (st' := [vi (9 : Int32), vr (some (b1, 9, 0))]) rfl (by rw [e1_] <;> rfl) ?_
    refine Z.pick [0, 1] rfl ?_
    exact z_callV (as := [vi (9 : Int32)]) (st := []) dX9_tried_94 vsX9_61_9 (Nat.le_refl _) (Nat.le_of_ble_eq_true rfl) (Nat.le_of_ble_eq_true rfl) rfl k
theorem sX9_tried_97 {E : zE} {d : Nat} {Q : zO → zM → Prop} (M : zM) (a0 : Nat) (r1 : Option zP) (s0 : Int32) (k : if s0 = 0 then (∃ b1 : Nat, (gr M a0 1) = some (b1, 9, 0) ∧ (Z E YX10_fault d M (zargs 0 [vr (some (b1, 9, 0)), vi (2 : Int32)]) 0 [] (zafter E YX9_tried (d + 1) [] 105 3 [] Q))) else (∃ b1 : Nat, (gr M a0 1) = some (b1, 9, 0) ∧ (Z E YX10_takesWord d M (zargs 0 [vr (some (b1, 9, 0)), vi (9 : Int32)]) 0 [] (zafter E YX9_tried (d + 1) [(0, vr (some (a0, 8, 0))), (1, vr r1)] 115 3 [] Q)))) : Z E YX9_tried (d + 1) M [(0, vr (some (a0, 8, 0))), (1, vr r1)] 97 [vi s0] Q := by
  refine z_if_ne (tgt := 109) dX9_tried_97 rfl (fun h_ => ?_) (fun h_ => ?_)
  · have k := zif h_ k
    refine z_aload_n dX9_tried_109 rfl rfl ?_
    refine z_getr (r := (gr M a0 1)) dX9_tried_110 fsX9_27_8 rfl ?_
    refine z_bipush (v := 9) dX9_tried_113 rfl ?_
    obtain ⟨b1, e1_, k⟩ := k
    refine Z.eqs (lv' := [(0, vr (some (a0, 8, 0))), (1, vr r1)]) (st' := [vi (9 : Int32), vr (some (b1, 9, 0))]) rfl (by rw [e1_] <;> rfl) ?_
    exact z_callV (as := [vi (9 : Int32)]) (st := []) dX9_tried_115 vsX9_175_9 (Nat.le_refl _) (Nat.le_of_ble_eq_true rfl) (Nat.le_of_ble_eq_true rfl) rfl k
  · have k := zit h_ k
    refine z_aload_n dX9_tried_100 rfl rfl ?_
    refine z_getr (r := (gr M a0 1)) dX9_tried_101 fsX9_27_8 rfl ?_
    refine z_iconst (v := 2) dX9_tried_104 rfl ?_
    obtain ⟨b1, e1_, k⟩ := k
    refine Z.eqs (lv' := [(0, vr (some (a0, 8, 0))), (1, vr r1)]) (st' := [vi (2 : Int32), vr (some (b1, 9, 0))]) rfl (by rw [e1_] <;> rfl) ?_
    refine Z.pick [] rfl ?_
    exact z_callV (as := [vi (2 : Int32)]) (st := []) dX9_tried_105 vsX9_35_9 (Nat.le_refl _) (Nat.le_of_ble_eq_true rfl) (Nat.le_of_ble_eq_true rfl) rfl k
theorem sX9_tried_108 {E : zE} {d : Nat} {Q : zO → zM → Prop} (M : zM) (u0 : Option zP) (k : ∃ b1 : Nat, u0 = some (b1, 12, 0) ∧ (Q (.inr (b1, 12, 0)) M)) : Z E YX9_tried (d + 1) M [] 108 [vr u0] Q := by
  obtain ⟨b1, e1_, k⟩ := k
  refine Z.eqs (lv' := []) (st' := [vr (some (b1, 12, 0))]) rfl (by rw [e1_] <;> rfl) ?_
  exact z_athrow dX9_tried_108 (ZT.out (by decide) k)
theorem sX9_tried_118 {E : zE} {d : Nat} {Q : zO → zM → Prop} (M : zM) (a0 : Nat) (r1 : Option zP) (s0 : Int32) (k : if s0 = 0 then (Q (.inl (some (vr r1))) M) else (Z E YX9_tried (d + 1) (zn M 3) [(0, vr (some (a0, 8, 0))), (1, vr r1)] 124 [vr (some ((zsz M), 43, 0))] Q)) : Z E YX9_tried (d + 1) M [(0, vr (some (a0, 8, 0))), (1, vr r1)] 118 [vi s0] Q := by
  refine z_if_eq (tgt := 137) dX9_tried_118 rfl (fun h_ => ?_) (fun h_ => ?_)
  · have k := zit h_ k
    refine z_aload_n dX9_tried_137 rfl rfl ?_
    exact z_aret dX9_tried_138 rfl rfl k
  · have k := zif h_ k
    refine z_new dX9_tried_121 csX9_243 zff_43 ?_
    exact k
theorem sX9_tried_124 {E : zE} {d : Nat} {Q : zO → zM → Prop} (M : zM) (a0 : Nat) (r1 : Option zP) (p0 : Nat) (k : Z E YX9_block d M (zargs 0 [vr (some (a0, 8, 0))]) 0 [] (zafter E YX9_tried (d + 1) [] 128 3 [vi (-1 : Int32), vr r1, vr (some (p0, 43, 0)), vr (some (p0, 43, 0))] Q)) : Z E YX9_tried (d + 1) M [(0, vr (some (a0, 8, 0))), (1, vr r1)] 124 [vr (some (p0, 43, 0))] Q := by
  refine z_dup dX9_tried_124 rfl ?_
  refine z_aload_n dX9_tried_125 rfl rfl ?_
  refine z_iconst (v := -1) dX9_tried_126 rfl ?_
  refine z_aload_n dX9_tried_127 rfl rfl ?_
  refine Z.pick [] rfl ?_
  exact z_callV (as := []) (st := [vi (-1 : Int32), vr r1, vr (some (p0, 43, 0)), vr (some (p0, 43, 0))]) dX9_tried_128 vsX9_133_8 (Nat.le_refl _) (Nat.le_of_ble_eq_true rfl) (Nat.le_of_ble_eq_true rfl) rfl k
theorem sX9_tried_131 {E : zE} {d : Nat} {Q : zO → zM → Prop} (M : zM) (u0 : Option zP) (s1 : Int32) (u2 : Option zP) (p3 : Nat) (p4 : Nat) (k : Z E YX38_init d M (zargs 0 [vr (some (p3, 43, 0)), vr u2, vi s1, vr u0]) 0 [] (zafter E YX9_tried (d + 1) [] 131 3 [vr (some (p4, 43, 0))] Q)) : Z E YX9_tried (d + 1) M [] 131 [vr u0, vi s1, vr u2, vr (some (p3, 43, 0)), vr (some (p4, 43, 0))] Q := by
  exact z_callI (as := [vr u2, vi s1, vr u0]) (st := [vr (some (p4, 43, 0))]) dX9_tried_131 isX9_245 (Nat.le_refl _) (Nat.le_of_ble_eq_true rfl) (Nat.le_of_ble_eq_true rfl) rfl k
theorem sX9_tried_134 {E : zE} {d : Nat} {Q : zO → zM → Prop} (M : zM) (p0 : Nat) (k : Q (.inl (some (vr (some (p0, 43, 0))))) M) : Z E YX9_tried (d + 1) M [] 134 [vr (some (p0, 43, 0))] Q := by
  refine z_goto (tgt := 138) dX9_tried_134 rfl ?_
  exact z_aret dX9_tried_138 rfl rfl k
/-! ScriptTypes$Parser.block()LScriptTypes$Block; -/
theorem bX9_block_0 : zdec cX9_block 0 [(0, .aload_n 0, 1), (1, .getfield 27, 3), (4, .iconst 0, 1), (5, .invokevirtual 108, 3), (8, .new 140, 3), (11, .dup, 1), (12, .invokespecial 142, 3), (15, .astore_n 1, 1), (16, .aload_n 0, 1), (17, .getfield 27, 3), (20, .iconst 1, 1), (21, .invokevirtual 111, 3), (24, .ifCond .ne 18, 3), (27, .aload_n 1, 1), (28, .getfield 158, 3), (31, .aload_n 0, 1)] = true := by decide +kernel
theorem dX9_block_0 : decode cX9_block 0 = .ok (.aload_n 0, 1) := zdec_at bX9_block_0 0 rfl
theorem dX9_block_1 : decode cX9_block 1 = .ok (.getfield 27, 3) := zdec_at bX9_block_0 1 rfl
theorem dX9_block_4 : decode cX9_block 4 = .ok (.iconst 0, 1) := zdec_at bX9_block_0 2 rfl
theorem dX9_block_5 : decode cX9_block 5 = .ok (.invokevirtual 108, 3) := zdec_at bX9_block_0 3 rfl
theorem dX9_block_8 : decode cX9_block 8 = .ok (.new 140, 3) := zdec_at bX9_block_0 4 rfl
theorem dX9_block_11 : decode cX9_block 11 = .ok (.dup, 1) := zdec_at bX9_block_0 5 rfl
theorem dX9_block_12 : decode cX9_block 12 = .ok (.invokespecial 142, 3) := zdec_at bX9_block_0 6 rfl
theorem dX9_block_15 : decode cX9_block 15 = .ok (.astore_n 1, 1) := zdec_at bX9_block_0 7 rfl
theorem dX9_block_16 : decode cX9_block 16 = .ok (.aload_n 0, 1) := zdec_at bX9_block_0 8 rfl
theorem dX9_block_17 : decode cX9_block 17 = .ok (.getfield 27, 3) := zdec_at bX9_block_0 9 rfl
theorem dX9_block_20 : decode cX9_block 20 = .ok (.iconst 1, 1) := zdec_at bX9_block_0 10 rfl
theorem dX9_block_21 : decode cX9_block 21 = .ok (.invokevirtual 111, 3) := zdec_at bX9_block_0 11 rfl
theorem dX9_block_24 : decode cX9_block 24 = .ok (.ifCond .ne 18, 3) := zdec_at bX9_block_0 12 rfl
theorem dX9_block_27 : decode cX9_block 27 = .ok (.aload_n 1, 1) := zdec_at bX9_block_0 13 rfl
theorem dX9_block_28 : decode cX9_block 28 = .ok (.getfield 158, 3) := zdec_at bX9_block_0 14 rfl
theorem dX9_block_31 : decode cX9_block 31 = .ok (.aload_n 0, 1) := zdec_at bX9_block_0 15 rfl
theorem bX9_block_32 : zdec cX9_block 32 [(32, .invokevirtual 68, 3), (35, .invokevirtual 48, 3), (38, .pop, 1), (39, .goto (-23), 3), (42, .aload_n 0, 1), (43, .getfield 27, 3), (46, .invokevirtual 52, 3), (49, .aload_n 1, 1), (50, .areturn, 1)] = true := by decide +kernel
theorem dX9_block_32 : decode cX9_block 32 = .ok (.invokevirtual 68, 3) := zdec_at bX9_block_32 0 rfl
theorem dX9_block_35 : decode cX9_block 35 = .ok (.invokevirtual 48, 3) := zdec_at bX9_block_32 1 rfl
theorem dX9_block_38 : decode cX9_block 38 = .ok (.pop, 1) := zdec_at bX9_block_32 2 rfl
theorem dX9_block_39 : decode cX9_block 39 = .ok (.goto (-23), 3) := zdec_at bX9_block_32 3 rfl
theorem dX9_block_42 : decode cX9_block 42 = .ok (.aload_n 0, 1) := zdec_at bX9_block_32 4 rfl
theorem dX9_block_43 : decode cX9_block 43 = .ok (.getfield 27, 3) := zdec_at bX9_block_32 5 rfl
theorem dX9_block_46 : decode cX9_block 46 = .ok (.invokevirtual 52, 3) := zdec_at bX9_block_32 6 rfl
theorem dX9_block_49 : decode cX9_block 49 = .ok (.aload_n 1, 1) := zdec_at bX9_block_32 7 rfl
theorem dX9_block_50 : decode cX9_block 50 = .ok (.areturn, 1) := zdec_at bX9_block_32 8 rfl
theorem sX9_block_0 {E : zE} {d : Nat} {Q : zO → zM → Prop} (M : zM) (a0 : Nat) (k : ∃ b1 : Nat, (gr M a0 1) = some (b1, 9, 0) ∧ (Z E YX10_need d M (zargs 0 [vr (some (b1, 9, 0)), vi (0 : Int32)]) 0 [] (zafter E YX9_block (d + 1) [(0, vr (some (a0, 8, 0)))] 5 3 [] Q))) : Z E YX9_block (d + 1) M [(0, vr (some (a0, 8, 0)))] 0 [] Q := by
  refine z_aload_n dX9_block_0 rfl rfl ?_
  refine z_getr (r := (gr M a0 1)) dX9_block_1 fsX9_27_8 rfl ?_
  refine z_iconst (v := 0) dX9_block_4 rfl ?_
  obtain ⟨b1, e1_, k⟩ := k
  refine Z.eqs (lv' := [(0, vr (some (a0, 8, 0)))]) (st' := [vi (0 : Int32), vr (some (b1, 9, 0))]) rfl (by rw [e1_] <;> rfl) ?_
  exact z_callV (as := [vi (0 : Int32)]) (st := []) dX9_block_5 vsX9_108_9 (Nat.le_refl _) (Nat.le_of_ble_eq_true rfl) (Nat.le_of_ble_eq_true rfl) rfl k
theorem sX9_block_8 {E : zE} {d : Nat} {Q : zO → zM → Prop} (M : zM) (a0 : Nat) (k : Z E YX9_block (d + 1) (zn M 1) [(0, vr (some (a0, 8, 0)))] 11 [vr (some ((zsz M), 20, 0))] Q) : Z E YX9_block (d + 1) M [(0, vr (some (a0, 8, 0)))] 8 [] Q := by
  refine z_new dX9_block_8 csX9_140 zff_20 ?_
  exact k
theorem sX9_block_11 {E : zE} {d : Nat} {Q : zO → zM → Prop} (M : zM) (a0 : Nat) (p0 : Nat) (k : Z E YX14_init d M (zargs 0 [vr (some (p0, 20, 0))]) 0 [] (zafter E YX9_block (d + 1) [(0, vr (some (a0, 8, 0)))] 12 3 [vr (some (p0, 20, 0))] Q)) : Z E YX9_block (d + 1) M [(0, vr (some (a0, 8, 0)))] 11 [vr (some (p0, 20, 0))] Q := by
  refine z_dup dX9_block_11 rfl ?_
  exact z_callI (as := []) (st := [vr (some (p0, 20, 0))]) dX9_block_12 isX9_142 (Nat.le_refl _) (Nat.le_of_ble_eq_true rfl) (Nat.le_of_ble_eq_true rfl) rfl k
theorem sX9_block_15 {E : zE} {d : Nat} {Q : zO → zM → Prop} (M : zM) (a0 : Nat) (p0 : Nat) (k : Z E YX9_block (d + 1) M [(0, vr (some (a0, 8, 0))), (1, vr (some (p0, 20, 0)))] 16 [] Q) : Z E YX9_block (d + 1) M [(0, vr (some (a0, 8, 0)))] 15 [vr (some (p0, 20, 0))] Q := by
  refine z_ast_n dX9_block_15 rfl (by decide) (lv' := [(0, vr (some (a0, 8, 0))), (1, vr (some (p0, 20, 0)))]) rfl ?_
  exact k
theorem sX9_block_16 {E : zE} {d : Nat} {Q : zO → zM → Prop} (M : zM) (a0 : Nat) (a1 : Nat) (k : ∃ b1 : Nat, (gr M a0 1) = some (b1, 9, 0) ∧ (Z E YX10_is d M (zargs 0 [vr (some (b1, 9, 0)), vi (1 : Int32)]) 0 [] (zafter E YX9_block (d + 1) [(0, vr (some (a0, 8, 0))), (1, vr (some (a1, 20, 0)))] 21 3 [] Q))) : Z E YX9_block (d + 1) M [(0, vr (some (a0, 8, 0))), (1, vr (some (a1, 20, 0)))] 16 [] Q := by
  refine z_aload_n dX9_block_16 rfl rfl ?_
  refine z_getr (r := (gr M a0 1)) dX9_block_17 fsX9_27_8 rfl ?_
  refine z_iconst (v := 1) dX9_block_20 rfl ?_
  obtain ⟨b1, e1_, k⟩ := k
  refine Z.eqs (lv' := [(0, vr (some (a0, 8, 0))), (1, vr (some (a1, 20, 0)))]) (st' := [vi (1 : Int32), vr (some (b1, 9, 0))]) rfl (by rw [e1_] <;> rfl) ?_
  exact z_callV (as := [vi (1 : Int32)]) (st := []) dX9_block_21 vsX9_111_9 (Nat.le_refl _) (Nat.le_of_ble_eq_true rfl) (Nat.le_of_ble_eq_true rfl) rfl k
theorem sX9_block_24 {E : zE} {d : Nat} {Q : zO → zM → Prop} (M : zM) (a0 : Nat) (a1 : Nat) (s0 : Int32) (k : if s0 = 0 then (Z E YX9_statement d M (zargs 0 [vr (some (a0, 8, 0))]) 0 [] (zafter E YX9_block (d + 1) [(0, vr (some (a0, 8, 0))), (1, vr (some (a1, 20, 0)))] 32 3 [vr (gr M a1 0)] Q)) else (∃ b1 : Nat, (gr M a0 1) = some (b1, 9, 0) ∧ (Z E YX10_next d M (zargs 0 [vr (some (b1, 9, 0))]) 0 [] (zafter E YX9_block (d + 1) [(1, vr (some (a1, 20, 0)))] 46 3 [] Q)))) : Z E YX9_block (d + 1) M [(0, vr (some (a0, 8, 0))), (1, vr (some (a1, 20, 0)))] 24 [vi s0] Q := by
  refine z_if_ne (tgt := 42) dX9_block_24 rfl (fun h_ => ?_) (fun h_ => ?_)
  · have k := zif h_ k
    refine z_aload_n dX9_block_42 rfl rfl ?_
    refine z_getr (r := (gr M a0 1)) dX9_block_43 fsX9_27_8 rfl ?_
    obtain ⟨b1, e1_, k⟩ := k
    refine Z.eqs (lv' := [(0, vr (some (a0, 8, 0))), (1, vr (some (a1, 20, 0)))]) (st' := [vr (some (b1, 9, 0))]) rfl (by rw [e1_] <;> rfl) ?_
    refine Z.pick [1] rfl ?_
    exact z_callV (as := []) (st := []) dX9_block_46 vsX9_52_9 (Nat.le_refl _) (Nat.le_of_ble_eq_true rfl) (Nat.le_of_ble_eq_true rfl) rfl k
  · have k := zit h_ k
    refine z_aload_n dX9_block_27 rfl rfl ?_
    refine z_getr (r := (gr M a1 0)) dX9_block_28 fsX9_158_20 rfl ?_
    refine z_aload_n dX9_block_31 rfl rfl ?_
    exact z_callV (as := []) (st := [vr (gr M a1 0)]) dX9_block_32 vsX9_68_8 (Nat.le_refl _) (Nat.le_of_ble_eq_true rfl) (Nat.le_of_ble_eq_true rfl) rfl k
theorem sX9_block_35 {E : zE} {d : Nat} {Q : zO → zM → Prop} (M : zM) (a0 : Nat) (a1 : Nat) (u0 : Option zP) (u1 : Option zP) (k : ∃ b1 : Nat, u1 = some (b1, 11, 0) ∧ (Z E YJ2_add d M (zargs 0 [vr (some (b1, 11, 0)), vr u0]) 0 [] (zafter E YX9_block (d + 1) [(0, vr (some (a0, 8, 0))), (1, vr (some (a1, 20, 0)))] 35 3 [] Q))) : Z E YX9_block (d + 1) M [(0, vr (some (a0, 8, 0))), (1, vr (some (a1, 20, 0)))] 35 [vr u0, vr u1] Q := by
  obtain ⟨b1, e1_, k⟩ := k
  refine Z.eqs (lv' := [(0, vr (some (a0, 8, 0))), (1, vr (some (a1, 20, 0)))]) (st' := [vr u0, vr (some (b1, 11, 0))]) rfl (by rw [e1_] <;> rfl) ?_
  exact z_callV (as := [vr u0]) (st := []) dX9_block_35 vsX9_48_11 (Nat.le_refl _) (Nat.le_of_ble_eq_true rfl) (Nat.le_of_ble_eq_true rfl) rfl k
theorem sX9_block_38 {E : zE} {d : Nat} {Q : zO → zM → Prop} (M : zM) (a0 : Nat) (a1 : Nat) (s0 : Int32) (k : Z E YX9_block (d + 1) M [(0, vr (some (a0, 8, 0))), (1, vr (some (a1, 20, 0)))] 16 [] Q) : Z E YX9_block (d + 1) M [(0, vr (some (a0, 8, 0))), (1, vr (some (a1, 20, 0)))] 38 [vi s0] Q := by
  refine z_pop dX9_block_38 rfl ?_
  refine z_goto (tgt := 16) dX9_block_39 rfl ?_
  exact k
theorem sX9_block_49 {E : zE} {d : Nat} {Q : zO → zM → Prop} (M : zM) (a1 : Nat) (k : Q (.inl (some (vr (some (a1, 20, 0))))) M) : Z E YX9_block (d + 1) M [(1, vr (some (a1, 20, 0)))] 49 [] Q := by
  refine z_aload_n dX9_block_49 rfl rfl ?_
  exact z_aret dX9_block_50 rfl rfl k
/-! ScriptTypes$Parser.chosen()LScriptTypes$Node; -/
theorem bX9_chosen_0 : zdec cX9_chosen 0 [(0, .new 248, 3), (3, .dup, 1), (4, .aload_n 0, 1), (5, .invokevirtual 170, 3), (8, .invokespecial 250, 3), (11, .astore_n 1, 1), (12, .iconst 0, 1), (13, .istore_n 2, 1), (14, .aload_n 0, 1), (15, .getfield 27, 3), (18, .iconst 0, 1), (19, .invokevirtual 108, 3), (22, .aload_n 0, 1), (23, .dup, 1), (24, .getfield 105, 3), (27, .iconst 1, 1)] = true := by decide +kernel
theorem dX9_chosen_0 : decode cX9_chosen 0 = .ok (.new 248, 3) := zdec_at bX9_chosen_0 0 rfl
theorem dX9_chosen_3 : decode cX9_chosen 3 = .ok (.dup, 1) := zdec_at bX9_chosen_0 1 rfl
theorem dX9_chosen_4 : decode cX9_chosen 4 = .ok (.aload_n 0, 1) := zdec_at bX9_chosen_0 2 rfl
theorem dX9_chosen_5 : decode cX9_chosen 5 = .ok (.invokevirtual 170, 3) := zdec_at bX9_chosen_0 3 rfl
theorem dX9_chosen_8 : decode cX9_chosen 8 = .ok (.invokespecial 250, 3) := zdec_at bX9_chosen_0 4 rfl
theorem dX9_chosen_11 : decode cX9_chosen 11 = .ok (.astore_n 1, 1) := zdec_at bX9_chosen_0 5 rfl
theorem dX9_chosen_12 : decode cX9_chosen 12 = .ok (.iconst 0, 1) := zdec_at bX9_chosen_0 6 rfl
theorem dX9_chosen_13 : decode cX9_chosen 13 = .ok (.istore_n 2, 1) := zdec_at bX9_chosen_0 7 rfl
theorem dX9_chosen_14 : decode cX9_chosen 14 = .ok (.aload_n 0, 1) := zdec_at bX9_chosen_0 8 rfl
theorem dX9_chosen_15 : decode cX9_chosen 15 = .ok (.getfield 27, 3) := zdec_at bX9_chosen_0 9 rfl
theorem dX9_chosen_18 : decode cX9_chosen 18 = .ok (.iconst 0, 1) := zdec_at bX9_chosen_0 10 rfl
theorem dX9_chosen_19 : decode cX9_chosen 19 = .ok (.invokevirtual 108, 3) := zdec_at bX9_chosen_0 11 rfl
theorem dX9_chosen_22 : decode cX9_chosen 22 = .ok (.aload_n 0, 1) := zdec_at bX9_chosen_0 12 rfl
theorem dX9_chosen_23 : decode cX9_chosen 23 = .ok (.dup, 1) := zdec_at bX9_chosen_0 13 rfl
theorem dX9_chosen_24 : decode cX9_chosen 24 = .ok (.getfield 105, 3) := zdec_at bX9_chosen_0 14 rfl
theorem dX9_chosen_27 : decode cX9_chosen 27 = .ok (.iconst 1, 1) := zdec_at bX9_chosen_0 15 rfl
theorem bX9_chosen_28 : zdec cX9_chosen 28 [(28, .iadd, 1), (29, .putfield 105, 3), (32, .aload_n 0, 1), (33, .getfield 27, 3), (36, .iconst 1, 1), (37, .invokevirtual 111, 3), (40, .ifCond .ne 148, 3), (43, .aload_n 0, 1), (44, .getfield 27, 3), (47, .iconst 4, 1), (48, .invokevirtual 61, 3), (51, .ifCond .eq 16, 3), (54, .iload_n 2, 1), (55, .ifCond .eq 12, 3), (58, .aload_n 0, 1), (59, .getfield 27, 3)] = true := by decide +kernel
theorem dX9_chosen_28 : decode cX9_chosen 28 = .ok (.iadd, 1) := zdec_at bX9_chosen_28 0 rfl
theorem dX9_chosen_29 : decode cX9_chosen 29 = .ok (.putfield 105, 3) := zdec_at bX9_chosen_28 1 rfl
theorem dX9_chosen_32 : decode cX9_chosen 32 = .ok (.aload_n 0, 1) := zdec_at bX9_chosen_28 2 rfl
theorem dX9_chosen_33 : decode cX9_chosen 33 = .ok (.getfield 27, 3) := zdec_at bX9_chosen_28 3 rfl
theorem dX9_chosen_36 : decode cX9_chosen 36 = .ok (.iconst 1, 1) := zdec_at bX9_chosen_28 4 rfl
theorem dX9_chosen_37 : decode cX9_chosen 37 = .ok (.invokevirtual 111, 3) := zdec_at bX9_chosen_28 5 rfl
theorem dX9_chosen_40 : decode cX9_chosen 40 = .ok (.ifCond .ne 148, 3) := zdec_at bX9_chosen_28 6 rfl
theorem dX9_chosen_43 : decode cX9_chosen 43 = .ok (.aload_n 0, 1) := zdec_at bX9_chosen_28 7 rfl
theorem dX9_chosen_44 : decode cX9_chosen 44 = .ok (.getfield 27, 3) := zdec_at bX9_chosen_28 8 rfl
theorem dX9_chosen_47 : decode cX9_chosen 47 = .ok (.iconst 4, 1) := zdec_at bX9_chosen_28 9 rfl
theorem dX9_chosen_48 : decode cX9_chosen 48 = .ok (.invokevirtual 61, 3) := zdec_at bX9_chosen_28 10 rfl
theorem dX9_chosen_51 : decode cX9_chosen 51 = .ok (.ifCond .eq 16, 3) := zdec_at bX9_chosen_28 11 rfl
theorem dX9_chosen_54 : decode cX9_chosen 54 = .ok (.iload_n 2, 1) := zdec_at bX9_chosen_28 12 rfl
theorem dX9_chosen_55 : decode cX9_chosen 55 = .ok (.ifCond .eq 12, 3) := zdec_at bX9_chosen_28 13 rfl
theorem dX9_chosen_58 : decode cX9_chosen 58 = .ok (.aload_n 0, 1) := zdec_at bX9_chosen_28 14 rfl
theorem dX9_chosen_59 : decode cX9_chosen 59 = .ok (.getfield 27, 3) := zdec_at bX9_chosen_28 15 rfl
theorem bX9_chosen_62 : zdec cX9_chosen 62 [(62, .iconst 3, 1), (63, .invokevirtual 35, 3), (66, .athrow, 1), (67, .aconst_null, 1), (68, .astore_n 3, 1), (69, .aload_n 0, 1), (70, .getfield 27, 3), (73, .iconst 4, 1), (74, .invokevirtual 175, 3), (77, .ifCond .eq 8, 3), (80, .iconst 1, 1), (81, .istore_n 2, 1), (82, .goto 17, 3), (85, .aload_n 0, 1), (86, .getfield 27, 3), (89, .iconst 1, 1)] = true := by decide +kernel
theorem dX9_chosen_62 : decode cX9_chosen 62 = .ok (.iconst 3, 1) := zdec_at bX9_chosen_62 0 rfl
theorem dX9_chosen_63 : decode cX9_chosen 63 = .ok (.invokevirtual 35, 3) := zdec_at bX9_chosen_62 1 rfl
theorem dX9_chosen_66 : decode cX9_chosen 66 = .ok (.athrow, 1) := zdec_at bX9_chosen_62 2 rfl
theorem dX9_chosen_67 : decode cX9_chosen 67 = .ok (.aconst_null, 1) := zdec_at bX9_chosen_62 3 rfl
theorem dX9_chosen_68 : decode cX9_chosen 68 = .ok (.astore_n 3, 1) := zdec_at bX9_chosen_62 4 rfl
theorem dX9_chosen_69 : decode cX9_chosen 69 = .ok (.aload_n 0, 1) := zdec_at bX9_chosen_62 5 rfl
theorem dX9_chosen_70 : decode cX9_chosen 70 = .ok (.getfield 27, 3) := zdec_at bX9_chosen_62 6 rfl
theorem dX9_chosen_73 : decode cX9_chosen 73 = .ok (.iconst 4, 1) := zdec_at bX9_chosen_62 7 rfl
theorem dX9_chosen_74 : decode cX9_chosen 74 = .ok (.invokevirtual 175, 3) := zdec_at bX9_chosen_62 8 rfl
theorem dX9_chosen_77 : decode cX9_chosen 77 = .ok (.ifCond .eq 8, 3) := zdec_at bX9_chosen_62 9 rfl
theorem dX9_chosen_80 : decode cX9_chosen 80 = .ok (.iconst 1, 1) := zdec_at bX9_chosen_62 10 rfl
theorem dX9_chosen_81 : decode cX9_chosen 81 = .ok (.istore_n 2, 1) := zdec_at bX9_chosen_62 11 rfl
theorem dX9_chosen_82 : decode cX9_chosen 82 = .ok (.goto 17, 3) := zdec_at bX9_chosen_62 12 rfl
theorem dX9_chosen_85 : decode cX9_chosen 85 = .ok (.aload_n 0, 1) := zdec_at bX9_chosen_62 13 rfl
theorem dX9_chosen_86 : decode cX9_chosen 86 = .ok (.getfield 27, 3) := zdec_at bX9_chosen_62 14 rfl
theorem dX9_chosen_89 : decode cX9_chosen 89 = .ok (.iconst 1, 1) := zdec_at bX9_chosen_62 15 rfl
theorem bX9_chosen_90 : zdec cX9_chosen 90 [(90, .invokevirtual 189, 3), (93, .aload_n 0, 1), (94, .iconst 1, 1), (95, .invokevirtual 145, 3), (98, .astore_n 3, 1), (99, .aload_n 0, 1), (100, .getfield 27, 3), (103, .bipush 35, 2), (105, .invokevirtual 108, 3), (108, .new 140, 3), (111, .dup, 1), (112, .invokespecial 142, 3), (115, .astore 4, 2), (117, .aload_n 0, 1), (118, .getfield 27, 3), (121, .iconst 1, 1)] = true := by decide +kernel
theorem dX9_chosen_90 : decode cX9_chosen 90 = .ok (.invokevirtual 189, 3) := zdec_at bX9_chosen_90 0 rfl
theorem dX9_chosen_93 : decode cX9_chosen 93 = .ok (.aload_n 0, 1) := zdec_at bX9_chosen_90 1 rfl
theorem dX9_chosen_94 : decode cX9_chosen 94 = .ok (.iconst 1, 1) := zdec_at bX9_chosen_90 2 rfl
theorem dX9_chosen_95 : decode cX9_chosen 95 = .ok (.invokevirtual 145, 3) := zdec_at bX9_chosen_90 3 rfl
theorem dX9_chosen_98 : decode cX9_chosen 98 = .ok (.astore_n 3, 1) := zdec_at bX9_chosen_90 4 rfl
theorem dX9_chosen_99 : decode cX9_chosen 99 = .ok (.aload_n 0, 1) := zdec_at bX9_chosen_90 5 rfl
theorem dX9_chosen_100 : decode cX9_chosen 100 = .ok (.getfield 27, 3) := zdec_at bX9_chosen_90 6 rfl
theorem dX9_chosen_103 : decode cX9_chosen 103 = .ok (.bipush 35, 2) := zdec_at bX9_chosen_90 7 rfl
theorem dX9_chosen_105 : decode cX9_chosen 105 = .ok (.invokevirtual 108, 3) := zdec_at bX9_chosen_90 8 rfl
theorem dX9_chosen_108 : decode cX9_chosen 108 = .ok (.new 140, 3) := zdec_at bX9_chosen_90 9 rfl
theorem dX9_chosen_111 : decode cX9_chosen 111 = .ok (.dup, 1) := zdec_at bX9_chosen_90 10 rfl
theorem dX9_chosen_112 : decode cX9_chosen 112 = .ok (.invokespecial 142, 3) := zdec_at bX9_chosen_90 11 rfl
theorem dX9_chosen_115 : decode cX9_chosen 115 = .ok (.astore 4, 2) := zdec_at bX9_chosen_90 12 rfl
theorem dX9_chosen_117 : decode cX9_chosen 117 = .ok (.aload_n 0, 1) := zdec_at bX9_chosen_90 13 rfl
theorem dX9_chosen_118 : decode cX9_chosen 118 = .ok (.getfield 27, 3) := zdec_at bX9_chosen_90 14 rfl
theorem dX9_chosen_121 : decode cX9_chosen 121 = .ok (.iconst 1, 1) := zdec_at bX9_chosen_90 15 rfl
theorem bX9_chosen_122 : zdec cX9_chosen 122 [(122, .invokevirtual 111, 3), (125, .ifCond .ne 41, 3), (128, .aload_n 0, 1), (129, .getfield 27, 3), (132, .iconst 1, 1), (133, .invokevirtual 61, 3), (136, .ifCond .ne 30, 3), (139, .aload_n 0, 1), (140, .getfield 27, 3), (143, .iconst 4, 1), (144, .invokevirtual 61, 3), (147, .ifCond .ne 19, 3), (150, .aload 4, 2), (152, .getfield 158, 3), (155, .aload_n 0, 1), (156, .invokevirtual 68, 3)] = true := by decide +kernel
theorem dX9_chosen_122 : decode cX9_chosen 122 = .ok (.invokevirtual 111, 3) := zdec_at bX9_chosen_122 0 rfl
theorem dX9_chosen_125 : decode cX9_chosen 125 = .ok (.ifCond .ne 41, 3) := zdec_at bX9_chosen_122 1 rfl
theorem dX9_chosen_128 : decode cX9_chosen 128 = .ok (.aload_n 0, 1) := zdec_at bX9_chosen_122 2 rfl
theorem dX9_chosen_129 : decode cX9_chosen 129 = .ok (.getfield 27, 3) := zdec_at bX9_chosen_122 3 rfl
theorem dX9_chosen_132 : decode cX9_chosen 132 = .ok (.iconst 1, 1) := zdec_at bX9_chosen_122 4 rfl
theorem dX9_chosen_133 : decode cX9_chosen 133 = .ok (.invokevirtual 61, 3) := zdec_at bX9_chosen_122 5 rfl
theorem dX9_chosen_136 : decode cX9_chosen 136 = .ok (.ifCond .ne 30, 3) := zdec_at bX9_chosen_122 6 rfl
theorem dX9_chosen_139 : decode cX9_chosen 139 = .ok (.aload_n 0, 1) := zdec_at bX9_chosen_122 7 rfl
theorem dX9_chosen_140 : decode cX9_chosen 140 = .ok (.getfield 27, 3) := zdec_at bX9_chosen_122 8 rfl
theorem dX9_chosen_143 : decode cX9_chosen 143 = .ok (.iconst 4, 1) := zdec_at bX9_chosen_122 9 rfl
theorem dX9_chosen_144 : decode cX9_chosen 144 = .ok (.invokevirtual 61, 3) := zdec_at bX9_chosen_122 10 rfl
theorem dX9_chosen_147 : decode cX9_chosen 147 = .ok (.ifCond .ne 19, 3) := zdec_at bX9_chosen_122 11 rfl
theorem dX9_chosen_150 : decode cX9_chosen 150 = .ok (.aload 4, 2) := zdec_at bX9_chosen_122 12 rfl
theorem dX9_chosen_152 : decode cX9_chosen 152 = .ok (.getfield 158, 3) := zdec_at bX9_chosen_122 13 rfl
theorem dX9_chosen_155 : decode cX9_chosen 155 = .ok (.aload_n 0, 1) := zdec_at bX9_chosen_122 14 rfl
theorem dX9_chosen_156 : decode cX9_chosen 156 = .ok (.invokevirtual 68, 3) := zdec_at bX9_chosen_122 15 rfl
theorem bX9_chosen_159 : zdec cX9_chosen 159 [(159, .invokevirtual 48, 3), (162, .pop, 1), (163, .goto (-46), 3), (166, .aload_n 1, 1), (167, .getfield 251, 3), (170, .aload_n 3, 1), (171, .invokevirtual 48, 3), (174, .pop, 1), (175, .aload_n 1, 1), (176, .getfield 254, 3), (179, .aload 4, 2), (181, .invokevirtual 48, 3), (184, .pop, 1), (185, .goto (-153), 3), (188, .aload_n 0, 1), (189, .dup, 1)] = true := by decide +kernel
theorem dX9_chosen_159 : decode cX9_chosen 159 = .ok (.invokevirtual 48, 3) := zdec_at bX9_chosen_159 0 rfl
theorem dX9_chosen_162 : decode cX9_chosen 162 = .ok (.pop, 1) := zdec_at bX9_chosen_159 1 rfl
theorem dX9_chosen_163 : decode cX9_chosen 163 = .ok (.goto (-46), 3) := zdec_at bX9_chosen_159 2 rfl
theorem dX9_chosen_166 : decode cX9_chosen 166 = .ok (.aload_n 1, 1) := zdec_at bX9_chosen_159 3 rfl
theorem dX9_chosen_167 : decode cX9_chosen 167 = .ok (.getfield 251, 3) := zdec_at bX9_chosen_159 4 rfl
theorem dX9_chosen_170 : decode cX9_chosen 170 = .ok (.aload_n 3, 1) := zdec_at bX9_chosen_159 5 rfl
theorem dX9_chosen_171 : decode cX9_chosen 171 = .ok (.invokevirtual 48, 3) := zdec_at bX9_chosen_159 6 rfl
theorem dX9_chosen_174 : decode cX9_chosen 174 = .ok (.pop, 1) := zdec_at bX9_chosen_159 7 rfl
theorem dX9_chosen_175 : decode cX9_chosen 175 = .ok (.aload_n 1, 1) := zdec_at bX9_chosen_159 8 rfl
theorem dX9_chosen_176 : decode cX9_chosen 176 = .ok (.getfield 254, 3) := zdec_at bX9_chosen_159 9 rfl
theorem dX9_chosen_179 : decode cX9_chosen 179 = .ok (.aload 4, 2) := zdec_at bX9_chosen_159 10 rfl
theorem dX9_chosen_181 : decode cX9_chosen 181 = .ok (.invokevirtual 48, 3) := zdec_at bX9_chosen_159 11 rfl
theorem dX9_chosen_184 : decode cX9_chosen 184 = .ok (.pop, 1) := zdec_at bX9_chosen_159 12 rfl
theorem dX9_chosen_185 : decode cX9_chosen 185 = .ok (.goto (-153), 3) := zdec_at bX9_chosen_159 13 rfl
theorem dX9_chosen_188 : decode cX9_chosen 188 = .ok (.aload_n 0, 1) := zdec_at bX9_chosen_159 14 rfl
theorem dX9_chosen_189 : decode cX9_chosen 189 = .ok (.dup, 1) := zdec_at bX9_chosen_159 15 rfl
theorem bX9_chosen_190 : zdec cX9_chosen 190 [(190, .getfield 105, 3), (193, .iconst 1, 1), (194, .isub, 1), (195, .putfield 105, 3), (198, .aload_n 0, 1), (199, .getfield 27, 3), (202, .invokevirtual 52, 3), (205, .aload_n 1, 1), (206, .areturn, 1)] = true := by decide +kernel
theorem dX9_chosen_190 : decode cX9_chosen 190 = .ok (.getfield 105, 3) := zdec_at bX9_chosen_190 0 rfl
theorem dX9_chosen_193 : decode cX9_chosen 193 = .ok (.iconst 1, 1) := zdec_at bX9_chosen_190 1 rfl
theorem dX9_chosen_194 : decode cX9_chosen 194 = .ok (.isub, 1) := zdec_at bX9_chosen_190 2 rfl
theorem dX9_chosen_195 : decode cX9_chosen 195 = .ok (.putfield 105, 3) := zdec_at bX9_chosen_190 3 rfl
theorem dX9_chosen_198 : decode cX9_chosen 198 = .ok (.aload_n 0, 1) := zdec_at bX9_chosen_190 4 rfl
theorem dX9_chosen_199 : decode cX9_chosen 199 = .ok (.getfield 27, 3) := zdec_at bX9_chosen_190 5 rfl
theorem dX9_chosen_202 : decode cX9_chosen 202 = .ok (.invokevirtual 52, 3) := zdec_at bX9_chosen_190 6 rfl
theorem dX9_chosen_205 : decode cX9_chosen 205 = .ok (.aload_n 1, 1) := zdec_at bX9_chosen_190 7 rfl
theorem dX9_chosen_206 : decode cX9_chosen 206 = .ok (.areturn, 1) := zdec_at bX9_chosen_190 8 rfl
theorem sX9_chosen_0 {E : zE} {d : Nat} {Q : zO → zM → Prop} (M : zM) (a0 : Nat) (k : Z E YX9_chosen (d + 1) (zn M 4) [(0, vr (some (a0, 8, 0)))] 3 [vr (some ((zsz M), 44, 0))] Q) : Z E YX9_chosen (d + 1) M [(0, vr (some (a0, 8, 0)))] 0 [] Q := by
  refine z_new dX9_chosen_0 csX9_248 zff_44 ?_
  exact k
theorem sX9_chosen_3 {E : zE} {d : Nat} {Q : zO → zM → Prop} (M : zM) (a0 : Nat) (p0 : Nat) (k : Z E YX9_inRound d M (zargs 0 [vr (some (a0, 8, 0))]) 0 [] (zafter E YX9_chosen (d + 1) [(0, vr (some (a0, 8, 0)))] 5 3 [vr (some (p0, 44, 0)), vr (some (p0, 44, 0))] Q)) : Z E YX9_chosen (d + 1) M [(0, vr (some (a0, 8, 0)))] 3 [vr (some (p0, 44, 0))] Q := by
  refine z_dup dX9_chosen_3 rfl ?_
  refine z_aload_n dX9_chosen_4 rfl rfl ?_
  exact z_callV (as := []) (st := [vr (some (p0, 44, 0)), vr (some (p0, 44, 0))]) dX9_chosen_5 vsX9_170_8 (Nat.le_refl _) (Nat.le_of_ble_eq_true rfl) (Nat.le_of_ble_eq_true rfl) rfl k
theorem sX9_chosen_8 {E : zE} {d : Nat} {Q : zO → zM → Prop} (M : zM) (a0 : Nat) (u0 : Option zP) (p1 : Nat) (p2 : Nat) (k : Z E YX39_init d M (zargs 0 [vr (some (p1, 44, 0)), vr u0]) 0 [] (zafter E YX9_chosen (d + 1) [(0, vr (some (a0, 8, 0)))] 8 3 [vr (some (p2, 44, 0))] Q)) : Z E YX9_chosen (d + 1) M [(0, vr (some (a0, 8, 0)))] 8 [vr u0, vr (some (p1, 44, 0)), vr (some (p2, 44, 0))] Q := by
  exact z_callI (as := [vr u0]) (st := [vr (some (p2, 44, 0))]) dX9_chosen_8 isX9_250 (Nat.le_refl _) (Nat.le_of_ble_eq_true rfl) (Nat.le_of_ble_eq_true rfl) rfl k
theorem sX9_chosen_11 {E : zE} {d : Nat} {Q : zO → zM → Prop} (M : zM) (a0 : Nat) (p0 : Nat) (k : ∃ b1 : Nat, (gr M a0 1) = some (b1, 9, 0) ∧ (Z E YX10_need d M (zargs 0 [vr (some (b1, 9, 0)), vi (0 : Int32)]) 0 [] (zafter E YX9_chosen (d + 1) [(0, vr (some (a0, 8, 0))), (1, vr (some (p0, 44, 0))), (2, vi (0 : Int32))] 19 3 [] Q))) : Z E YX9_chosen (d + 1) M [(0, vr (some (a0, 8, 0)))] 11 [vr (some (p0, 44, 0))] Q := by
  refine z_ast_n dX9_chosen_11 rfl (by decide) (lv' := [(0, vr (some (a0, 8, 0))), (1, vr (some (p0, 44, 0)))]) rfl ?_
  refine z_iconst (v := 0) dX9_chosen_12 rfl ?_
  refine z_ist_n dX9_chosen_13 rfl (by decide) (lv' := [(0, vr (some (a0, 8, 0))), (1, vr (some (p0, 44, 0))), (2, vi (0 : Int32))]) rfl ?_
  refine z_aload_n dX9_chosen_14 rfl rfl ?_
  refine z_getr (r := (gr M a0 1)) dX9_chosen_15 fsX9_27_8 rfl ?_
  refine z_iconst (v := 0) dX9_chosen_18 rfl ?_
  obtain ⟨b1, e1_, k⟩ := k
  refine Z.eqs (lv' := [(0, vr (some (a0, 8, 0))), (1, vr (some (p0, 44, 0))), (2, vi (0 : Int32))]) (st' := [vi (0 : Int32), vr (some (b1, 9, 0))]) rfl (by rw [e1_] <;> rfl) ?_
  exact z_callV (as := [vi (0 : Int32)]) (st := []) dX9_chosen_19 vsX9_108_9 (Nat.le_refl _) (Nat.le_of_ble_eq_true rfl) (Nat.le_of_ble_eq_true rfl) rfl k
theorem sX9_chosen_22 {E : zE} {d : Nat} {Q : zO → zM → Prop} (M : zM) (a0 : Nat) (a1 : Nat) (l2 : Int32) (k : 16 ≤ a0 ∧ (Z E YX9_chosen (d + 1) (si M a0 6 ((gi M a0 6) + (1 : Int32))) [(0, vr (some (a0, 8, 0))), (1, vr (some (a1, 44, 0))), (2, vi l2)] 32 [] Q)) : Z E YX9_chosen (d + 1) M [(0, vr (some (a0, 8, 0))), (1, vr (some (a1, 44, 0))), (2, vi l2)] 22 [] Q := by
  refine z_aload_n dX9_chosen_22 rfl rfl ?_
  refine z_dup dX9_chosen_23 rfl ?_
  refine z_geti dX9_chosen_24 fsX9_105_8 ?_
  refine z_iconst (v := 1) dX9_chosen_27 rfl ?_
  refine z_iadd dX9_chosen_28 ?_
  obtain ⟨g_, k⟩ := k
  refine z_puti g_ dX9_chosen_29 (zfwN.w fwX9_105_8) rfl ⟨rfl, rfl⟩ ?_
  exact k
theorem sX9_chosen_32 {E : zE} {d : Nat} {Q : zO → zM → Prop} (M : zM) (a0 : Nat) (a1 : Nat) (l2 : Int32) (k : ∃ b1 : Nat, (gr M a0 1) = some (b1, 9, 0) ∧ (Z E YX10_is d M (zargs 0 [vr (some (b1, 9, 0)), vi (1 : Int32)]) 0 [] (zafter E YX9_chosen (d + 1) [(0, vr (some (a0, 8, 0))), (1, vr (some (a1, 44, 0))), (2, vi l2)] 37 3 [] Q))) : Z E YX9_chosen (d + 1) M [(0, vr (some (a0, 8, 0))), (1, vr (some (a1, 44, 0))), (2, vi l2)] 32 [] Q := by
  refine z_aload_n dX9_chosen_32 rfl rfl ?_
  refine z_getr (r := (gr M a0 1)) dX9_chosen_33 fsX9_27_8 rfl ?_
  refine z_iconst (v := 1) dX9_chosen_36 rfl ?_
  obtain ⟨b1, e1_, k⟩ := k
  refine Z.eqs (lv' := [(0, vr (some (a0, 8, 0))), (1, vr (some (a1, 44, 0))), (2, vi l2)]) (st' := [vi (1 : Int32), vr (some (b1, 9, 0))]) rfl (by rw [e1_] <;> rfl) ?_
  exact z_callV (as := [vi (1 : Int32)]) (st := []) dX9_chosen_37 vsX9_111_9 (Nat.le_refl _) (Nat.le_of_ble_eq_true rfl) (Nat.le_of_ble_eq_true rfl) rfl k
theorem sX9_chosen_40 {E : zE} {d : Nat} {Q : zO → zM → Prop} (M : zM) (a0 : Nat) (a1 : Nat) (l2 : Int32) (s0 : Int32) (k : if s0 = 0 then (∃ b1 : Nat, (gr M a0 1) = some (b1, 9, 0) ∧ (Z E YX10_isWord d M (zargs 0 [vr (some (b1, 9, 0)), vi (4 : Int32)]) 0 [] (zafter E YX9_chosen (d + 1) [(0, vr (some (a0, 8, 0))), (1, vr (some (a1, 44, 0))), (2, vi l2)] 48 3 [] Q))) else (16 ≤ a0 ∧ (∃ b1 : Nat, (gr M a0 1) = some (b1, 9, 0) ∧ (Z E YX10_next d (si M a0 6 ((gi M a0 6) - (1 : Int32))) (zargs 0 [vr (some (b1, 9, 0))]) 0 [] (zafter E YX9_chosen (d + 1) [(1, vr (some (a1, 44, 0)))] 202 3 [] Q))))) : Z E YX9_chosen (d + 1) M [(0, vr (some (a0, 8, 0))), (1, vr (some (a1, 44, 0))), (2, vi l2)] 40 [vi s0] Q := by
  refine z_if_ne (tgt := 188) dX9_chosen_40 rfl (fun h_ => ?_) (fun h_ => ?_)
  · have k := zif h_ k
    refine z_aload_n dX9_chosen_188 rfl rfl ?_
    refine z_dup dX9_chosen_189 rfl ?_
    refine z_geti dX9_chosen_190 fsX9_105_8 ?_
    refine z_iconst (v := 1) dX9_chosen_193 rfl ?_
    refine z_isub dX9_chosen_194 ?_
    obtain ⟨g_, k⟩ := k
    refine z_puti g_ dX9_chosen_195 (zfwN.w fwX9_105_8) rfl ⟨rfl, rfl⟩ ?_
    refine z_aload_n dX9_chosen_198 rfl rfl ?_
    refine z_getr (r := (gr M a0 1)) dX9_chosen_199 fsX9_27_8 rfl ?_
    obtain ⟨b1, e1_, k⟩ := k
    refine Z.eqs (lv' := [(0, vr (some (a0, 8, 0))), (1, vr (some (a1, 44, 0))), (2, vi l2)]) (st' := [vr (some (b1, 9, 0))]) rfl (by rw [e1_] <;> rfl) ?_
    refine Z.pick [1] rfl ?_
    exact z_callV (as := []) (st := []) dX9_chosen_202 vsX9_52_9 (Nat.le_refl _) (Nat.le_of_ble_eq_true rfl) (Nat.le_of_ble_eq_true rfl) rfl k
  · have k := zit h_ k
    refine z_aload_n dX9_chosen_43 rfl rfl ?_
    refine z_getr (r := (gr M a0 1)) dX9_chosen_44 fsX9_27_8 rfl ?_
    refine z_iconst (v := 4) dX9_chosen_47 rfl ?_
    obtain ⟨b1, e1_, k⟩ := k
    refine Z.eqs (lv' := [(0, vr (some (a0, 8, 0))), (1, vr (some (a1, 44, 0))), (2, vi l2)]) (st' := [vi (4 : Int32), vr (some (b1, 9, 0))]) rfl (by rw [e1_] <;> rfl) ?_
    exact z_callV (as := [vi (4 : Int32)]) (st := []) dX9_chosen_48 vsX9_61_9 (Nat.le_refl _) (Nat.le_of_ble_eq_true rfl) (Nat.le_of_ble_eq_true rfl) rfl k
theorem sX9_chosen_51 {E : zE} {d : Nat} {Q : zO → zM → Prop} (M : zM) (a0 : Nat) (a1 : Nat) (l2 : Int32) (s0 : Int32) (k : if s0 = 0 then (∃ b1 : Nat, (gr M a0 1) = some (b1, 9, 0) ∧ (Z E YX10_takesWord d M (zargs 0 [vr (some (b1, 9, 0)), vi (4 : Int32)]) 0 [] (zafter E YX9_chosen (d + 1) [(0, vr (some (a0, 8, 0))), (1, vr (some (a1, 44, 0))), (2, vi l2), (3, vr none)] 74 3 [] Q))) else (if l2 = 0 then (∃ b1 : Nat, (gr M a0 1) = some (b1, 9, 0) ∧ (Z E YX10_takesWord d M (zargs 0 [vr (some (b1, 9, 0)), vi (4 : Int32)]) 0 [] (zafter E YX9_chosen (d + 1) [(0, vr (some (a0, 8, 0))), (1, vr (some (a1, 44, 0))), (2, vi l2), (3, vr none)] 74 3 [] Q))) else (∃ b1 : Nat, (gr M a0 1) = some (b1, 9, 0) ∧ (Z E YX10_fault d M (zargs 0 [vr (some (b1, 9, 0)), vi (3 : Int32)]) 0 [] (zafter E YX9_chosen (d + 1) [] 63 3 [] Q))))) : Z E YX9_chosen (d + 1) M [(0, vr (some (a0, 8, 0))), (1, vr (some (a1, 44, 0))), (2, vi l2)] 51 [vi s0] Q := by
  refine z_if_eq (tgt := 67) dX9_chosen_51 rfl (fun h_ => ?_) (fun h_ => ?_)
  · have k := zit h_ k
    refine z_null dX9_chosen_67 ?_
    refine z_ast_n dX9_chosen_68 rfl (by decide) (lv' := [(0, vr (some (a0, 8, 0))), (1, vr (some (a1, 44, 0))), (2, vi l2), (3, vr none)]) rfl ?_
    refine z_aload_n dX9_chosen_69 rfl rfl ?_
    refine z_getr (r := (gr M a0 1)) dX9_chosen_70 fsX9_27_8 rfl ?_
    refine z_iconst (v := 4) dX9_chosen_73 rfl ?_
    obtain ⟨b1, e1_, k⟩ := k
    refine Z.eqs (lv' := [(0, vr (some (a0, 8, 0))), (1, vr (some (a1, 44, 0))), (2, vi l2), (3, vr none)]) (st' := [vi (4 : Int32), vr (some (b1, 9, 0))]) rfl (by rw [e1_] <;> rfl) ?_
    exact z_callV (as := [vi (4 : Int32)]) (st := []) dX9_chosen_74 vsX9_175_9 (Nat.le_refl _) (Nat.le_of_ble_eq_true rfl) (Nat.le_of_ble_eq_true rfl) rfl k
  · have k := zif h_ k
    refine z_iload_n dX9_chosen_54 rfl rfl ?_
    refine z_if_eq (tgt := 67) dX9_chosen_55 rfl (fun h_ => ?_) (fun h_ => ?_)
    · have k := zit h_ k
      refine z_null dX9_chosen_67 ?_
      refine z_ast_n dX9_chosen_68 rfl (by decide) (lv' := [(0, vr (some (a0, 8, 0))), (1, vr (some (a1, 44, 0))), (2, vi l2), (3, vr none)]) rfl ?_
      refine z_aload_n dX9_chosen_69 rfl rfl ?_
      refine z_getr (r := (gr M a0 1)) dX9_chosen_70 fsX9_27_8 rfl ?_
      refine z_iconst (v := 4) dX9_chosen_73 rfl ?_
      obtain ⟨b1, e1_, k⟩ := k
      refine Z.eqs (lv' := [(0, vr (some (a0, 8, 0))), (1, vr (some (a1, 44, 0))), (2, vi l2), (3, vr none)]) (st' := [vi (4 : Int32), vr (some (b1, 9, 0))]) rfl (by rw [e1_] <;> rfl) ?_
      exact z_callV (as := [vi (4 : Int32)]) (st := []) dX9_chosen_74 vsX9_175_9 (Nat.le_refl _) (Nat.le_of_ble_eq_true rfl) (Nat.le_of_ble_eq_true rfl) rfl k
    · have k := zif h_ k
      refine z_aload_n dX9_chosen_58 rfl rfl ?_
      refine z_getr (r := (gr M a0 1)) dX9_chosen_59 fsX9_27_8 rfl ?_
      refine z_iconst (v := 3) dX9_chosen_62 rfl ?_
      obtain ⟨b1, e1_, k⟩ := k
      refine Z.eqs (lv' := [(0, vr (some (a0, 8, 0))), (1, vr (some (a1, 44, 0))), (2, vi l2)]) (st' := [vi (3 : Int32), vr (some (b1, 9, 0))]) rfl (by rw [e1_] <;> rfl) ?_
      refine Z.pick [] rfl ?_
      exact z_callV (as := [vi (3 : Int32)]) (st := []) dX9_chosen_63 vsX9_35_9 (Nat.le_refl _) (Nat.le_of_ble_eq_true rfl) (Nat.le_of_ble_eq_true rfl) rfl k
theorem sX9_chosen_66 {E : zE} {d : Nat} {Q : zO → zM → Prop} (M : zM) (u0 : Option zP) (k : ∃ b1 : Nat, u0 = some (b1, 12, 0) ∧ (Q (.inr (b1, 12, 0)) M)) : Z E YX9_chosen (d + 1) M [] 66 [vr u0] Q := by
  obtain ⟨b1, e1_, k⟩ := k
  refine Z.eqs (lv' := []) (st' := [vr (some (b1, 12, 0))]) rfl (by rw [e1_] <;> rfl) ?_
  exact z_athrow dX9_chosen_66 (ZT.out (by decide) k)
theorem sX9_chosen_77 {E : zE} {d : Nat} {Q : zO → zM → Prop} (M : zM) (a0 : Nat) (a1 : Nat) (l2 : Int32) (s0 : Int32) (k : if s0 = 0 then (∃ b1 : Nat, (gr M a0 1) = some (b1, 9, 0) ∧ (Z E YX10_needWord d M (zargs 0 [vr (some (b1, 9, 0)), vi (1 : Int32)]) 0 [] (zafter E YX9_chosen (d + 1) [(0, vr (some (a0, 8, 0))), (1, vr (some (a1, 44, 0))), (2, vi l2)] 90 3 [] Q))) else (∃ b1 : Nat, (gr M a0 1) = some (b1, 9, 0) ∧ (Z E YX10_need d M (zargs 0 [vr (some (b1, 9, 0)), vi (35 : Int32)]) 0 [] (zafter E YX9_chosen (d + 1) [(0, vr (some (a0, 8, 0))), (1, vr (some (a1, 44, 0))), (2, vi (1 : Int32)), (3, vr none)] 105 3 [] Q)))) : Z E YX9_chosen (d + 1) M [(0, vr (some (a0, 8, 0))), (1, vr (some (a1, 44, 0))), (2, vi l2), (3, vr none)] 77 [vi s0] Q := by
  refine z_if_eq (tgt := 85) dX9_chosen_77 rfl (fun h_ => ?_) (fun h_ => ?_)
  · have k := zit h_ k
    refine z_aload_n dX9_chosen_85 rfl rfl ?_
    refine z_getr (r := (gr M a0 1)) dX9_chosen_86 fsX9_27_8 rfl ?_
    refine z_iconst (v := 1) dX9_chosen_89 rfl ?_
    obtain ⟨b1, e1_, k⟩ := k
    refine Z.eqs (lv' := [(0, vr (some (a0, 8, 0))), (1, vr (some (a1, 44, 0))), (2, vi l2), (3, vr none)]) (st' := [vi (1 : Int32), vr (some (b1, 9, 0))]) rfl (by rw [e1_] <;> rfl) ?_
    refine Z.pick [0, 1, 2] rfl ?_
    exact z_callV (as := [vi (1 : Int32)]) (st := []) dX9_chosen_90 vsX9_189_9 (Nat.le_refl _) (Nat.le_of_ble_eq_true rfl) (Nat.le_of_ble_eq_true rfl) rfl k
  · have k := zif h_ k
    refine z_iconst (v := 1) dX9_chosen_80 rfl ?_
    refine z_ist_n dX9_chosen_81 rfl (by decide) (lv' := [(0, vr (some (a0, 8, 0))), (1, vr (some (a1, 44, 0))), (2, vi (1 : Int32)), (3, vr none)]) rfl ?_
    refine z_goto (tgt := 99) dX9_chosen_82 rfl ?_
    refine z_aload_n dX9_chosen_99 rfl rfl ?_
    refine z_getr (r := (gr M a0 1)) dX9_chosen_100 fsX9_27_8 rfl ?_
    refine z_bipush (v := 35) dX9_chosen_103 rfl ?_
    obtain ⟨b1, e1_, k⟩ := k
    refine Z.eqs (lv' := [(0, vr (some (a0, 8, 0))), (1, vr (some (a1, 44, 0))), (2, vi (1 : Int32)), (3, vr none)]) (st' := [vi (35 : Int32), vr (some (b1, 9, 0))]) rfl (by rw [e1_] <;> rfl) ?_
    exact z_callV (as := [vi (35 : Int32)]) (st := []) dX9_chosen_105 vsX9_108_9 (Nat.le_refl _) (Nat.le_of_ble_eq_true rfl) (Nat.le_of_ble_eq_true rfl) rfl k
theorem sX9_chosen_93 {E : zE} {d : Nat} {Q : zO → zM → Prop} (M : zM) (a0 : Nat) (a1 : Nat) (l2 : Int32) (k : Z E YX9_expression d M (zargs 0 [vr (some (a0, 8, 0)), vi (1 : Int32)]) 0 [] (zafter E YX9_chosen (d + 1) [(0, vr (some (a0, 8, 0))), (1, vr (some (a1, 44, 0))), (2, vi l2)] 95 3 [] Q)) : Z E YX9_chosen (d + 1) M [(0, vr (some (a0, 8, 0))), (1, vr (some (a1, 44, 0))), (2, vi l2)] 93 [] Q := by
  refine z_aload_n dX9_chosen_93 rfl rfl ?_
  refine z_iconst (v := 1) dX9_chosen_94 rfl ?_
  exact z_callV (as := [vi (1 : Int32)]) (st := []) dX9_chosen_95 vsX9_145_8 (Nat.le_refl _) (Nat.le_of_ble_eq_true rfl) (Nat.le_of_ble_eq_true rfl) rfl k
theorem sX9_chosen_98 {E : zE} {d : Nat} {Q : zO → zM → Prop} (M : zM) (a0 : Nat) (a1 : Nat) (l2 : Int32) (u0 : Option zP) (k : ∃ b1 : Nat, (gr M a0 1) = some (b1, 9, 0) ∧ (Z E YX10_need d M (zargs 0 [vr (some (b1, 9, 0)), vi (35 : Int32)]) 0 [] (zafter E YX9_chosen (d + 1) [(0, vr (some (a0, 8, 0))), (1, vr (some (a1, 44, 0))), (2, vi l2), (3, vr u0)] 105 3 [] Q))) : Z E YX9_chosen (d + 1) M [(0, vr (some (a0, 8, 0))), (1, vr (some (a1, 44, 0))), (2, vi l2)] 98 [vr u0] Q := by
  refine z_ast_n dX9_chosen_98 rfl (by decide) (lv' := [(0, vr (some (a0, 8, 0))), (1, vr (some (a1, 44, 0))), (2, vi l2), (3, vr u0)]) rfl ?_
  refine z_aload_n dX9_chosen_99 rfl rfl ?_
  refine z_getr (r := (gr M a0 1)) dX9_chosen_100 fsX9_27_8 rfl ?_
  refine z_bipush (v := 35) dX9_chosen_103 rfl ?_
  obtain ⟨b1, e1_, k⟩ := k
  refine Z.eqs (lv' := [(0, vr (some (a0, 8, 0))), (1, vr (some (a1, 44, 0))), (2, vi l2), (3, vr u0)]) (st' := [vi (35 : Int32), vr (some (b1, 9, 0))]) rfl (by rw [e1_] <;> rfl) ?_
  exact z_callV (as := [vi (35 : Int32)]) (st := []) dX9_chosen_105 vsX9_108_9 (Nat.le_refl _) (Nat.le_of_ble_eq_true rfl) (Nat.le_of_ble_eq_true rfl) rfl k
theorem sX9_chosen_108 {E : zE} {d : Nat} {Q : zO → zM → Prop} (M : zM) (a0 : Nat) (a1 : Nat) (l2 : Int32) (r3 : Option zP) (k : Z E YX9_chosen (d + 1) (zn M 1) [(0, vr (some (a0, 8, 0))), (1, vr (some (a1, 44, 0))), (2, vi l2), (3, vr r3)] 111 [vr (some ((zsz M), 20, 0))] Q) : Z E YX9_chosen (d + 1) M [(0, vr (some (a0, 8, 0))), (1, vr (some (a1, 44, 0))), (2, vi l2), (3, vr r3)] 108 [] Q := by
  refine z_new dX9_chosen_108 csX9_140 zff_20 ?_
  exact k
theorem sX9_chosen_111 {E : zE} {d : Nat} {Q : zO → zM → Prop} (M : zM) (a0 : Nat) (a1 : Nat) (l2 : Int32) (r3 : Option zP) (p0 : Nat) (k : Z E YX14_init d M (zargs 0 [vr (some (p0, 20, 0))]) 0 [] (zafter E YX9_chosen (d + 1) [(0, vr (some (a0, 8, 0))), (1, vr (some (a1, 44, 0))), (2, vi l2), (3, vr r3)] 112 3 [vr (some (p0, 20, 0))] Q)) : Z E YX9_chosen (d + 1) M [(0, vr (some (a0, 8, 0))), (1, vr (some (a1, 44, 0))), (2, vi l2), (3, vr r3)] 111 [vr (some (p0, 20, 0))] Q := by
  refine z_dup dX9_chosen_111 rfl ?_
  exact z_callI (as := []) (st := [vr (some (p0, 20, 0))]) dX9_chosen_112 isX9_142 (Nat.le_refl _) (Nat.le_of_ble_eq_true rfl) (Nat.le_of_ble_eq_true rfl) rfl k
theorem sX9_chosen_115 {E : zE} {d : Nat} {Q : zO → zM → Prop} (M : zM) (a0 : Nat) (a1 : Nat) (l2 : Int32) (r3 : Option zP) (p0 : Nat) (k : Z E YX9_chosen (d + 1) M [(0, vr (some (a0, 8, 0))), (1, vr (some (a1, 44, 0))), (2, vi l2), (3, vr r3), (4, vr (some (p0, 20, 0)))] 117 [] Q) : Z E YX9_chosen (d + 1) M [(0, vr (some (a0, 8, 0))), (1, vr (some (a1, 44, 0))), (2, vi l2), (3, vr r3)] 115 [vr (some (p0, 20, 0))] Q := by
  refine z_ast dX9_chosen_115 (by decide) (lv' := [(0, vr (some (a0, 8, 0))), (1, vr (some (a1, 44, 0))), (2, vi l2), (3, vr r3), (4, vr (some (p0, 20, 0)))]) rfl ?_
  exact k
theorem sX9_chosen_117 {E : zE} {d : Nat} {Q : zO → zM → Prop} (M : zM) (a0 : Nat) (a1 : Nat) (l2 : Int32) (r3 : Option zP) (a4 : Nat) (k : ∃ b1 : Nat, (gr M a0 1) = some (b1, 9, 0) ∧ (Z E YX10_is d M (zargs 0 [vr (some (b1, 9, 0)), vi (1 : Int32)]) 0 [] (zafter E YX9_chosen (d + 1) [(0, vr (some (a0, 8, 0))), (1, vr (some (a1, 44, 0))), (2, vi l2), (3, vr r3), (4, vr (some (a4, 20, 0)))] 122 3 [] Q))) : Z E YX9_chosen (d + 1) M [(0, vr (some (a0, 8, 0))), (1, vr (some (a1, 44, 0))), (2, vi l2), (3, vr r3), (4, vr (some (a4, 20, 0)))] 117 [] Q := by
  refine z_aload_n dX9_chosen_117 rfl rfl ?_
  refine z_getr (r := (gr M a0 1)) dX9_chosen_118 fsX9_27_8 rfl ?_
  refine z_iconst (v := 1) dX9_chosen_121 rfl ?_
  obtain ⟨b1, e1_, k⟩ := k
  refine Z.eqs (lv' := [(0, vr (some (a0, 8, 0))), (1, vr (some (a1, 44, 0))), (2, vi l2), (3, vr r3), (4, vr (some (a4, 20, 0)))]) (st' := [vi (1 : Int32), vr (some (b1, 9, 0))]) rfl (by rw [e1_] <;> rfl) ?_
  exact z_callV (as := [vi (1 : Int32)]) (st := []) dX9_chosen_122 vsX9_111_9 (Nat.le_refl _) (Nat.le_of_ble_eq_true rfl) (Nat.le_of_ble_eq_true rfl) rfl k
theorem sX9_chosen_125 {E : zE} {d : Nat} {Q : zO → zM → Prop} (M : zM) (a0 : Nat) (a1 : Nat) (l2 : Int32) (r3 : Option zP) (a4 : Nat) (s0 : Int32) (k : if s0 = 0 then (∃ b1 : Nat, (gr M a0 1) = some (b1, 9, 0) ∧ (Z E YX10_isWord d M (zargs 0 [vr (some (b1, 9, 0)), vi (1 : Int32)]) 0 [] (zafter E YX9_chosen (d + 1) [(0, vr (some (a0, 8, 0))), (1, vr (some (a1, 44, 0))), (2, vi l2), (3, vr r3), (4, vr (some (a4, 20, 0)))] 133 3 [] Q))) else (∃ b1 : Nat, (gr M a1 1) = some (b1, 11, 0) ∧ (Z E YJ2_add d M (zargs 0 [vr (some (b1, 11, 0)), vr r3]) 0 [] (zafter E YX9_chosen (d + 1) [(0, vr (some (a0, 8, 0))), (1, vr (some (a1, 44, 0))), (2, vi l2), (4, vr (some (a4, 20, 0)))] 171 3 [] Q)))) : Z E YX9_chosen (d + 1) M [(0, vr (some (a0, 8, 0))), (1, vr (some (a1, 44, 0))), (2, vi l2), (3, vr r3), (4, vr (some (a4, 20, 0)))] 125 [vi s0] Q := by
  refine z_if_ne (tgt := 166) dX9_chosen_125 rfl (fun h_ => ?_) (fun h_ => ?_)
  · have k := zif h_ k
    refine z_aload_n dX9_chosen_166 rfl rfl ?_
    refine z_getr (r := (gr M a1 1)) dX9_chosen_167 fsX9_251_44 rfl ?_
    refine z_aload_n dX9_chosen_170 rfl rfl ?_
    obtain ⟨b1, e1_, k⟩ := k
    refine Z.eqs (lv' := [(0, vr (some (a0, 8, 0))), (1, vr (some (a1, 44, 0))), (2, vi l2), (3, vr r3), (4, vr (some (a4, 20, 0)))]) (st' := [vr r3, vr (some (b1, 11, 0))]) rfl (by rw [e1_] <;> rfl) ?_
    refine Z.pick [0, 1, 2, 4] rfl ?_
    exact z_callV (as := [vr r3]) (st := []) dX9_chosen_171 vsX9_48_11 (Nat.le_refl _) (Nat.le_of_ble_eq_true rfl) (Nat.le_of_ble_eq_true rfl) rfl k
  · have k := zit h_ k
    refine z_aload_n dX9_chosen_128 rfl rfl ?_
    refine z_getr (r := (gr M a0 1)) dX9_chosen_129 fsX9_27_8 rfl ?_
    refine z_iconst (v := 1) dX9_chosen_132 rfl ?_
    obtain ⟨b1, e1_, k⟩ := k
    refine Z.eqs (lv' := [(0, vr (some (a0, 8, 0))), (1, vr (some (a1, 44, 0))), (2, vi l2), (3, vr r3), (4, vr (some (a4, 20, 0)))]) (st' := [vi (1 : Int32), vr (some (b1, 9, 0))]) rfl (by rw [e1_] <;> rfl) ?_
    exact z_callV (as := [vi (1 : Int32)]) (st := []) dX9_chosen_133 vsX9_61_9 (Nat.le_refl _) (Nat.le_of_ble_eq_true rfl) (Nat.le_of_ble_eq_true rfl) rfl k
theorem sX9_chosen_136 {E : zE} {d : Nat} {Q : zO → zM → Prop} (M : zM) (a0 : Nat) (a1 : Nat) (l2 : Int32) (r3 : Option zP) (a4 : Nat) (s0 : Int32) (k : if s0 = 0 then (∃ b1 : Nat, (gr M a0 1) = some (b1, 9, 0) ∧ (Z E YX10_isWord d M (zargs 0 [vr (some (b1, 9, 0)), vi (4 : Int32)]) 0 [] (zafter E YX9_chosen (d + 1) [(0, vr (some (a0, 8, 0))), (1, vr (some (a1, 44, 0))), (2, vi l2), (3, vr r3), (4, vr (some (a4, 20, 0)))] 144 3 [] Q))) else (∃ b1 : Nat, (gr M a1 1) = some (b1, 11, 0) ∧ (Z E YJ2_add d M (zargs 0 [vr (some (b1, 11, 0)), vr r3]) 0 [] (zafter E YX9_chosen (d + 1) [(0, vr (some (a0, 8, 0))), (1, vr (some (a1, 44, 0))), (2, vi l2), (4, vr (some (a4, 20, 0)))] 171 3 [] Q)))) : Z E YX9_chosen (d + 1) M [(0, vr (some (a0, 8, 0))), (1, vr (some (a1, 44, 0))), (2, vi l2), (3, vr r3), (4, vr (some (a4, 20, 0)))] 136 [vi s0] Q := by
  refine z_if_ne (tgt := 166) dX9_chosen_136 rfl (fun h_ => ?_) (fun h_ => ?_)
  · have k := zif h_ k
    refine z_aload_n dX9_chosen_166 rfl rfl ?_
    refine z_getr (r := (gr M a1 1)) dX9_chosen_167 fsX9_251_44 rfl ?_
    refine z_aload_n dX9_chosen_170 rfl rfl ?_
    obtain ⟨b1, e1_, k⟩ := k
    refine Z.eqs (lv' := [(0, vr (some (a0, 8, 0))), (1, vr (some (a1, 44, 0))), (2, vi l2), (3, vr r3), (4, vr (some (a4, 20, 0)))]) (st' := [vr r3, vr (some (b1, 11, 0))]) rfl (by rw [e1_] <;> rfl) ?_
    refine Z.pick [0, 1, 2, 4] rfl ?_
    exact z_callV (as := [vr r3]) (st := []) dX9_chosen_171 vsX9_48_11 (Nat.le_refl _) (Nat.le_of_ble_eq_true rfl) (Nat.le_of_ble_eq_true rfl) rfl k
  · have k := zit h_ k
    refine z_aload_n dX9_chosen_139 rfl rfl ?_
    refine z_getr (r := (gr M a0 1)) dX9_chosen_140 fsX9_27_8 rfl ?_
    refine z_iconst (v := 4) dX9_chosen_143 rfl ?_
    obtain ⟨b1, e1_, k⟩ := k
    refine Z.eqs (lv' := [(0, vr (some (a0, 8, 0))), (1, vr (some (a1, 44, 0))), (2, vi l2), (3, vr r3), (4, vr (some (a4, 20, 0)))]) (st' := [vi (4 : Int32), vr (some (b1, 9, 0))]) rfl (by rw [e1_] <;> rfl) ?_
    exact z_callV (as := [vi (4 : Int32)]) (st := []) dX9_chosen_144 vsX9_61_9 (Nat.le_refl _) (Nat.le_of_ble_eq_true rfl) (Nat.le_of_ble_eq_true rfl) rfl k
theorem sX9_chosen_147 {E : zE} {d : Nat} {Q : zO → zM → Prop} (M : zM) (a0 : Nat) (a1 : Nat) (l2 : Int32) (r3 : Option zP) (a4 : Nat) (s0 : Int32) (k : if s0 = 0 then (Z E YX9_statement d M (zargs 0 [vr (some (a0, 8, 0))]) 0 [] (zafter E YX9_chosen (d + 1) [(0, vr (some (a0, 8, 0))), (1, vr (some (a1, 44, 0))), (2, vi l2), (3, vr r3), (4, vr (some (a4, 20, 0)))] 156 3 [vr (gr M a4 0)] Q)) else (∃ b1 : Nat, (gr M a1 1) = some (b1, 11, 0) ∧ (Z E YJ2_add d M (zargs 0 [vr (some (b1, 11, 0)), vr r3]) 0 [] (zafter E YX9_chosen (d + 1) [(0, vr (some (a0, 8, 0))), (1, vr (some (a1, 44, 0))), (2, vi l2), (4, vr (some (a4, 20, 0)))] 171 3 [] Q)))) : Z E YX9_chosen (d + 1) M [(0, vr (some (a0, 8, 0))), (1, vr (some (a1, 44, 0))), (2, vi l2), (3, vr r3), (4, vr (some (a4, 20, 0)))] 147 [vi s0] Q := by
  refine z_if_ne (tgt := 166) dX9_chosen_147 rfl (fun h_ => ?_) (fun h_ => ?_)
  · have k := zif h_ k
    refine z_aload_n dX9_chosen_166 rfl rfl ?_
    refine z_getr (r := (gr M a1 1)) dX9_chosen_167 fsX9_251_44 rfl ?_
    refine z_aload_n dX9_chosen_170 rfl rfl ?_
    obtain ⟨b1, e1_, k⟩ := k
    refine Z.eqs (lv' := [(0, vr (some (a0, 8, 0))), (1, vr (some (a1, 44, 0))), (2, vi l2), (3, vr r3), (4, vr (some (a4, 20, 0)))]) (st' := [vr r3, vr (some (b1, 11, 0))]) rfl (by rw [e1_] <;> rfl) ?_
    refine Z.pick [0, 1, 2, 4] rfl ?_
    exact z_callV (as := [vr r3]) (st := []) dX9_chosen_171 vsX9_48_11 (Nat.le_refl _) (Nat.le_of_ble_eq_true rfl) (Nat.le_of_ble_eq_true rfl) rfl k
  · have k := zit h_ k
    refine z_aload dX9_chosen_150 rfl ?_
    refine z_getr (r := (gr M a4 0)) dX9_chosen_152 fsX9_158_20 rfl ?_
    refine z_aload_n dX9_chosen_155 rfl rfl ?_
    exact z_callV (as := []) (st := [vr (gr M a4 0)]) dX9_chosen_156 vsX9_68_8 (Nat.le_refl _) (Nat.le_of_ble_eq_true rfl) (Nat.le_of_ble_eq_true rfl) rfl k
theorem sX9_chosen_159 {E : zE} {d : Nat} {Q : zO → zM → Prop} (M : zM) (a0 : Nat) (a1 : Nat) (l2 : Int32) (r3 : Option zP) (a4 : Nat) (u0 : Option zP) (u1 : Option zP) (k : ∃ b1 : Nat, u1 = some (b1, 11, 0) ∧ (Z E YJ2_add d M (zargs 0 [vr (some (b1, 11, 0)), vr u0]) 0 [] (zafter E YX9_chosen (d + 1) [(0, vr (some (a0, 8, 0))), (1, vr (some (a1, 44, 0))), (2, vi l2), (3, vr r3), (4, vr (some (a4, 20, 0)))] 159 3 [] Q))) : Z E YX9_chosen (d + 1) M [(0, vr (some (a0, 8, 0))), (1, vr (some (a1, 44, 0))), (2, vi l2), (3, vr r3), (4, vr (some (a4, 20, 0)))] 159 [vr u0, vr u1] Q := by
  obtain ⟨b1, e1_, k⟩ := k
  refine Z.eqs (lv' := [(0, vr (some (a0, 8, 0))), (1, vr (some (a1, 44, 0))), (2, vi l2), (3, vr r3), (4, vr (some (a4, 20, 0)))]) (st' := [vr u0, vr (some (b1, 11, 0))]) rfl (by rw [e1_] <;> rfl) ?_
  exact z_callV (as := [vr u0]) (st := []) dX9_chosen_159 vsX9_48_11 (Nat.le_refl _) (Nat.le_of_ble_eq_true rfl) (Nat.le_of_ble_eq_true rfl) rfl k
theorem sX9_chosen_162 {E : zE} {d : Nat} {Q : zO → zM → Prop} (M : zM) (a0 : Nat) (a1 : Nat) (l2 : Int32) (r3 : Option zP) (a4 : Nat) (s0 : Int32) (k : Z E YX9_chosen (d + 1) M [(0, vr (some (a0, 8, 0))), (1, vr (some (a1, 44, 0))), (2, vi l2), (3, vr r3), (4, vr (some (a4, 20, 0)))] 117 [] Q) : Z E YX9_chosen (d + 1) M [(0, vr (some (a0, 8, 0))), (1, vr (some (a1, 44, 0))), (2, vi l2), (3, vr r3), (4, vr (some (a4, 20, 0)))] 162 [vi s0] Q := by
  refine z_pop dX9_chosen_162 rfl ?_
  refine z_goto (tgt := 117) dX9_chosen_163 rfl ?_
  exact k
theorem sX9_chosen_174 {E : zE} {d : Nat} {Q : zO → zM → Prop} (M : zM) (a0 : Nat) (a1 : Nat) (l2 : Int32) (a4 : Nat) (s0 : Int32) (k : ∃ b1 : Nat, (gr M a1 2) = some (b1, 11, 0) ∧ (Z E YJ2_add d M (zargs 0 [vr (some (b1, 11, 0)), vr (some (a4, 20, 0))]) 0 [] (zafter E YX9_chosen (d + 1) [(0, vr (some (a0, 8, 0))), (1, vr (some (a1, 44, 0))), (2, vi l2)] 181 3 [] Q))) : Z E YX9_chosen (d + 1) M [(0, vr (some (a0, 8, 0))), (1, vr (some (a1, 44, 0))), (2, vi l2), (4, vr (some (a4, 20, 0)))] 174 [vi s0] Q := by
  refine z_pop dX9_chosen_174 rfl ?_
  refine z_aload_n dX9_chosen_175 rfl rfl ?_
  refine z_getr (r := (gr M a1 2)) dX9_chosen_176 fsX9_254_44 rfl ?_
  refine z_aload dX9_chosen_179 rfl ?_
  obtain ⟨b1, e1_, k⟩ := k
  refine Z.eqs (lv' := [(0, vr (some (a0, 8, 0))), (1, vr (some (a1, 44, 0))), (2, vi l2), (4, vr (some (a4, 20, 0)))]) (st' := [vr (some (a4, 20, 0)), vr (some (b1, 11, 0))]) rfl (by rw [e1_] <;> rfl) ?_
  refine Z.pick [0, 1, 2] rfl ?_
  exact z_callV (as := [vr (some (a4, 20, 0))]) (st := []) dX9_chosen_181 vsX9_48_11 (Nat.le_refl _) (Nat.le_of_ble_eq_true rfl) (Nat.le_of_ble_eq_true rfl) rfl k
theorem sX9_chosen_184 {E : zE} {d : Nat} {Q : zO → zM → Prop} (M : zM) (a0 : Nat) (a1 : Nat) (l2 : Int32) (s0 : Int32) (k : Z E YX9_chosen (d + 1) M [(0, vr (some (a0, 8, 0))), (1, vr (some (a1, 44, 0))), (2, vi l2)] 32 [] Q) : Z E YX9_chosen (d + 1) M [(0, vr (some (a0, 8, 0))), (1, vr (some (a1, 44, 0))), (2, vi l2)] 184 [vi s0] Q := by
  refine z_pop dX9_chosen_184 rfl ?_
  refine z_goto (tgt := 32) dX9_chosen_185 rfl ?_
  exact k
theorem sX9_chosen_205 {E : zE} {d : Nat} {Q : zO → zM → Prop} (M : zM) (a1 : Nat) (k : Q (.inl (some (vr (some (a1, 44, 0))))) M) : Z E YX9_chosen (d + 1) M [(1, vr (some (a1, 44, 0)))] 205 [] Q := by
  refine z_aload_n dX9_chosen_205 rfl rfl ?_
  exact z_aret dX9_chosen_206 rfl rfl k
/-! ScriptTypes$Code.<init>(ILScriptTypes$Code;)V -/
theorem bX11_init_0 : zdec cX11_init 0 [(0, .aload_n 0, 1), (1, .invokespecial 3, 3), (4, .aload_n 0, 1), (5, .new 9, 3), (8, .dup, 1), (9, .invokespecial 11, 3), (12, .putfield 12, 3), (15, .aload_n 0, 1), (16, .new 9, 3), (19, .dup, 1), (20, .invokespecial 11, 3), (23, .putfield 18, 3), (26, .aload_n 0, 1), (27, .bipush 12, 2), (29, .newarray .int, 2), (31, .putfield 21, 3)] = true := by decide +kernel
theorem dX11_init_0 : decode cX11_init 0 = .ok (.aload_n 0, 1) := zdec_at bX11_init_0 0 rfl
theorem dX11_init_1 : decode cX11_init 1 = .ok (.invokespecial 3, 3) := zdec_at bX11_init_0 1 rfl
theorem dX11_init_4 : decode cX11_init 4 = .ok (.aload_n 0, 1) := zdec_at bX11_init_0 2 rfl
theorem dX11_init_5 : decode cX11_init 5 = .ok (.new 9, 3) := zdec_at bX11_init_0 3 rfl
theorem dX11_init_8 : decode cX11_init 8 = .ok (.dup, 1) := zdec_at bX11_init_0 4 rfl
theorem dX11_init_9 : decode cX11_init 9 = .ok (.invokespecial 11, 3) := zdec_at bX11_init_0 5 rfl
theorem dX11_init_12 : decode cX11_init 12 = .ok (.putfield 12, 3) := zdec_at bX11_init_0 6 rfl
theorem dX11_init_15 : decode cX11_init 15 = .ok (.aload_n 0, 1) := zdec_at bX11_init_0 7 rfl
theorem dX11_init_16 : decode cX11_init 16 = .ok (.new 9, 3) := zdec_at bX11_init_0 8 rfl
theorem dX11_init_19 : decode cX11_init 19 = .ok (.dup, 1) := zdec_at bX11_init_0 9 rfl
theorem dX11_init_20 : decode cX11_init 20 = .ok (.invokespecial 11, 3) := zdec_at bX11_init_0 10 rfl
theorem dX11_init_23 : decode cX11_init 23 = .ok (.putfield 18, 3) := zdec_at bX11_init_0 11 rfl
theorem dX11_init_26 : decode cX11_init 26 = .ok (.aload_n 0, 1) := zdec_at bX11_init_0 12 rfl
theorem dX11_init_27 : decode cX11_init 27 = .ok (.bipush 12, 2) := zdec_at bX11_init_0 13 rfl
theorem dX11_init_29 : decode cX11_init 29 = .ok (.newarray .int, 2) := zdec_at bX11_init_0 14 rfl
theorem dX11_init_31 : decode cX11_init 31 = .ok (.putfield 21, 3) := zdec_at bX11_init_0 15 rfl
theorem bX11_init_34 : zdec cX11_init 34 [(34, .aload_n 0, 1), (35, .iconst (-1), 1), (36, .putfield 25, 3), (39, .aload_n 0, 1), (40, .iconst (-1), 1), (41, .putfield 29, 3), (44, .aload_n 0, 1), (45, .iload_n 1, 1), (46, .putfield 32, 3), (49, .aload_n 0, 1), (50, .aload_n 2, 1), (51, .putfield 35, 3), (54, .return_, 1)] = true := by decide +kernel
theorem dX11_init_34 : decode cX11_init 34 = .ok (.aload_n 0, 1) := zdec_at bX11_init_34 0 rfl
theorem dX11_init_35 : decode cX11_init 35 = .ok (.iconst (-1), 1) := zdec_at bX11_init_34 1 rfl
theorem dX11_init_36 : decode cX11_init 36 = .ok (.putfield 25, 3) := zdec_at bX11_init_34 2 rfl
theorem dX11_init_39 : decode cX11_init 39 = .ok (.aload_n 0, 1) := zdec_at bX11_init_34 3 rfl
theorem dX11_init_40 : decode cX11_init 40 = .ok (.iconst (-1), 1) := zdec_at bX11_init_34 4 rfl
theorem dX11_init_41 : decode cX11_init 41 = .ok (.putfield 29, 3) := zdec_at bX11_init_34 5 rfl
theorem dX11_init_44 : decode cX11_init 44 = .ok (.aload_n 0, 1) := zdec_at bX11_init_34 6 rfl
theorem dX11_init_45 : decode cX11_init 45 = .ok (.iload_n 1, 1) := zdec_at bX11_init_34 7 rfl
theorem dX11_init_46 : decode cX11_init 46 = .ok (.putfield 32, 3) := zdec_at bX11_init_34 8 rfl
theorem dX11_init_49 : decode cX11_init 49 = .ok (.aload_n 0, 1) := zdec_at bX11_init_34 9 rfl
theorem dX11_init_50 : decode cX11_init 50 = .ok (.aload_n 2, 1) := zdec_at bX11_init_34 10 rfl
theorem dX11_init_51 : decode cX11_init 51 = .ok (.putfield 35, 3) := zdec_at bX11_init_34 11 rfl
theorem dX11_init_54 : decode cX11_init 54 = .ok (.return_, 1) := zdec_at bX11_init_34 12 rfl
theorem sX11_init_0 {E : zE} {d : Nat} {Q : zO → zM → Prop} (M : zM) (a0 : Nat) (l1 : Int32) (r2 : Option zP) (k : Z E YX11_init (d + 1) (zn M 3) [(0, vr (some (a0, 10, 0))), (1, vi l1), (2, vr r2)] 8 [vr (some ((zsz M), 11, 0)), vr (some (a0, 10, 0))] Q) : Z E YX11_init (d + 1) M [(0, vr (some (a0, 10, 0))), (1, vi l1), (2, vr r2)] 0 [] Q := by
  refine z_aload_n dX11_init_0 rfl rfl ?_
  refine z_objInit dX11_init_1 oiX11_3 (by omega) (by decide) ?_
  refine z_aload_n dX11_init_4 rfl rfl ?_
  refine z_new dX11_init_5 csX11_9 zff_11 ?_
  exact k
theorem sX11_init_8 {E : zE} {d : Nat} {Q : zO → zM → Prop} (M : zM) (a0 : Nat) (l1 : Int32) (r2 : Option zP) (p0 : Nat) (k : Z E YJ2_init d M (zargs 0 [vr (some (p0, 11, 0))]) 0 [] (zafter E YX11_init (d + 1) [(0, vr (some (a0, 10, 0))), (1, vi l1), (2, vr r2)] 9 3 [vr (some (p0, 11, 0)), vr (some (a0, 10, 0))] Q)) : Z E YX11_init (d + 1) M [(0, vr (some (a0, 10, 0))), (1, vi l1), (2, vr r2)] 8 [vr (some (p0, 11, 0)), vr (some (a0, 10, 0))] Q := by
  refine z_dup dX11_init_8 rfl ?_
  exact z_callI (as := []) (st := [vr (some (p0, 11, 0)), vr (some (a0, 10, 0))]) dX11_init_9 isX11_11 (Nat.le_refl _) (Nat.le_of_ble_eq_true rfl) (Nat.le_of_ble_eq_true rfl) rfl k
theorem sX11_init_12 {E : zE} {d : Nat} {Q : zO → zM → Prop} (M : zM) (a0 : Nat) (l1 : Int32) (r2 : Option zP) (p0 : Nat) (k : 16 ≤ a0 ∧ (Z E YX11_init (d + 1) (zn (sr M a0 2 (some (p0, 11, 0))) 3) [(0, vr (some (a0, 10, 0))), (1, vi l1), (2, vr r2)] 19 [vr (some ((zsz M), 11, 0)), vr (some (a0, 10, 0))] Q)) : Z E YX11_init (d + 1) M [(0, vr (some (a0, 10, 0))), (1, vi l1), (2, vr r2)] 12 [vr (some (p0, 11, 0)), vr (some (a0, 10, 0))] Q := by
  obtain ⟨g_, k⟩ := k
  refine z_putr g_ dX11_init_12 (zfwN.f fwX11_12_10 rfl (fun q h => by rw [← Option.some.inj h]; rfl)) rfl ?_
  refine z_aload_n dX11_init_15 rfl rfl ?_
  refine z_new dX11_init_16 csX11_9 zff_11 ?_
  exact k
theorem sX11_init_19 {E : zE} {d : Nat} {Q : zO → zM → Prop} (M : zM) (a0 : Nat) (l1 : Int32) (r2 : Option zP) (p0 : Nat) (k : Z E YJ2_init d M (zargs 0 [vr (some (p0, 11, 0))]) 0 [] (zafter E YX11_init (d + 1) [(0, vr (some (a0, 10, 0))), (1, vi l1), (2, vr r2)] 20 3 [vr (some (p0, 11, 0)), vr (some (a0, 10, 0))] Q)) : Z E YX11_init (d + 1) M [(0, vr (some (a0, 10, 0))), (1, vi l1), (2, vr r2)] 19 [vr (some (p0, 11, 0)), vr (some (a0, 10, 0))] Q := by
  refine z_dup dX11_init_19 rfl ?_
  exact z_callI (as := []) (st := [vr (some (p0, 11, 0)), vr (some (a0, 10, 0))]) dX11_init_20 isX11_11 (Nat.le_refl _) (Nat.le_of_ble_eq_true rfl) (Nat.le_of_ble_eq_true rfl) rfl k
theorem sX11_init_23 {E : zE} {d : Nat} {Q : zO → zM → Prop} (M : zM) (a0 : Nat) (l1 : Int32) (r2 : Option zP) (p0 : Nat) (k : 16 ≤ a0 ∧ (Z E YX11_init (d + 1) (zn (sr M a0 3 (some (p0, 11, 0))) 12) [(0, vr (some (a0, 10, 0))), (1, vi l1), (2, vr r2)] 31 [vr (some ((zsz M), 100, 12)), vr (some (a0, 10, 0))] Q)) : Z E YX11_init (d + 1) M [(0, vr (some (a0, 10, 0))), (1, vi l1), (2, vr r2)] 23 [vr (some (p0, 11, 0)), vr (some (a0, 10, 0))] Q := by
  obtain ⟨g_, k⟩ := k
  refine z_putr g_ dX11_init_23 (zfwN.f fwX11_18_10 rfl (fun q h => by rw [← Option.some.inj h]; rfl)) rfl ?_
  refine z_aload_n dX11_init_26 rfl rfl ?_
  refine z_bipush (v := 12) dX11_init_27 rfl ?_
  refine z_newa (q := 0) (N := 12) dX11_init_29 rfl (by decide) q535 (by decide) (by decide) (by decide) ?_
  exact k
theorem sX11_init_31 {E : zE} {d : Nat} {Q : zO → zM → Prop} (M : zM) (a0 : Nat) (l1 : Int32) (r2 : Option zP) (p0 : Nat) (k : 16 ≤ a0 ∧ (16 ≤ a0 ∧ (16 ≤ a0 ∧ (16 ≤ a0 ∧ (16 ≤ a0 ∧ (Q (.inl none) (sr (si (si (si (sr M a0 4 (some (p0, 100, 12))) a0 7 (-1 : Int32)) a0 8 (-1 : Int32)) a0 0 l1) a0 1 r2))))))) : Z E YX11_init (d + 1) M [(0, vr (some (a0, 10, 0))), (1, vi l1), (2, vr r2)] 31 [vr (some (p0, 100, 12)), vr (some (a0, 10, 0))] Q := by
  obtain ⟨g_, k⟩ := k
  refine z_putr g_ dX11_init_31 (zfwN.w fwX11_21_10) rfl ?_
  refine z_aload_n dX11_init_34 rfl rfl ?_
  refine z_iconst (v := -1) dX11_init_35 rfl ?_
  obtain ⟨g_, k⟩ := k
  refine z_puti g_ dX11_init_36 (zfwN.w fwX11_25_10) rfl ⟨rfl, rfl⟩ ?_
  refine z_aload_n dX11_init_39 rfl rfl ?_
  refine z_iconst (v := -1) dX11_init_40 rfl ?_
  obtain ⟨g_, k⟩ := k
  refine z_puti g_ dX11_init_41 (zfwN.w fwX11_29_10) rfl ⟨rfl, rfl⟩ ?_
  refine z_aload_n dX11_init_44 rfl rfl ?_
  refine z_iload_n dX11_init_45 rfl rfl ?_
  obtain ⟨g_, k⟩ := k
  refine z_puti g_ dX11_init_46 (zfwN.f fwX11_32_10 rfl (fun q h => by rw [← Option.some.inj h]; rfl)) rfl ⟨rfl, rfl⟩ ?_
  refine z_aload_n dX11_init_49 rfl rfl ?_
  refine z_aload_n dX11_init_50 rfl rfl ?_
  obtain ⟨g_, k⟩ := k
  refine z_putr g_ dX11_init_51 (zfwN.f fwX11_35_10 rfl (fun q h => by rw [← Option.some.inj h]; rfl)) rfl ?_
  exact z_vret dX11_init_54 rfl k
/-! ScriptTypes$Code.add(I)V -/
theorem bX11_add_0 : zdec cX11_add 0 [(0, .aload_n 0, 1), (1, .iload_n 1, 1), (2, .invokevirtual 42, 3), (5, .ifCond .eq 4, 3), (8, .return_, 1), (9, .aload_n 0, 1), (10, .getfield 39, 3), (13, .aload_n 0, 1), (14, .getfield 21, 3), (17, .arraylength, 1), (18, .if_icmp .ne 31, 3), (21, .iconst 2, 1), (22, .aload_n 0, 1), (23, .getfield 39, 3), (26, .imul, 1), (27, .newarray .int, 2)] = true := by decide +kernel
theorem dX11_add_0 : decode cX11_add 0 = .ok (.aload_n 0, 1) := zdec_at bX11_add_0 0 rfl
theorem dX11_add_1 : decode cX11_add 1 = .ok (.iload_n 1, 1) := zdec_at bX11_add_0 1 rfl
theorem dX11_add_2 : decode cX11_add 2 = .ok (.invokevirtual 42, 3) := zdec_at bX11_add_0 2 rfl
theorem dX11_add_5 : decode cX11_add 5 = .ok (.ifCond .eq 4, 3) := zdec_at bX11_add_0 3 rfl
theorem dX11_add_8 : decode cX11_add 8 = .ok (.return_, 1) := zdec_at bX11_add_0 4 rfl
theorem dX11_add_9 : decode cX11_add 9 = .ok (.aload_n 0, 1) := zdec_at bX11_add_0 5 rfl
theorem dX11_add_10 : decode cX11_add 10 = .ok (.getfield 39, 3) := zdec_at bX11_add_0 6 rfl
theorem dX11_add_13 : decode cX11_add 13 = .ok (.aload_n 0, 1) := zdec_at bX11_add_0 7 rfl
theorem dX11_add_14 : decode cX11_add 14 = .ok (.getfield 21, 3) := zdec_at bX11_add_0 8 rfl
theorem dX11_add_17 : decode cX11_add 17 = .ok (.arraylength, 1) := zdec_at bX11_add_0 9 rfl
theorem dX11_add_18 : decode cX11_add 18 = .ok (.if_icmp .ne 31, 3) := zdec_at bX11_add_0 10 rfl
theorem dX11_add_21 : decode cX11_add 21 = .ok (.iconst 2, 1) := zdec_at bX11_add_0 11 rfl
theorem dX11_add_22 : decode cX11_add 22 = .ok (.aload_n 0, 1) := zdec_at bX11_add_0 12 rfl
theorem dX11_add_23 : decode cX11_add 23 = .ok (.getfield 39, 3) := zdec_at bX11_add_0 13 rfl
theorem dX11_add_26 : decode cX11_add 26 = .ok (.imul, 1) := zdec_at bX11_add_0 14 rfl
theorem dX11_add_27 : decode cX11_add 27 = .ok (.newarray .int, 2) := zdec_at bX11_add_0 15 rfl
theorem bX11_add_29 : zdec cX11_add 29 [(29, .astore_n 2, 1), (30, .aload_n 0, 1), (31, .getfield 21, 3), (34, .iconst 0, 1), (35, .aload_n 2, 1), (36, .iconst 0, 1), (37, .aload_n 0, 1), (38, .getfield 39, 3), (41, .invokestatic 46, 3), (44, .aload_n 0, 1), (45, .aload_n 2, 1), (46, .putfield 21, 3), (49, .aload_n 0, 1), (50, .getfield 21, 3), (53, .aload_n 0, 1), (54, .dup, 1)] = true := by decide +kernel
theorem dX11_add_29 : decode cX11_add 29 = .ok (.astore_n 2, 1) := zdec_at bX11_add_29 0 rfl
theorem dX11_add_30 : decode cX11_add 30 = .ok (.aload_n 0, 1) := zdec_at bX11_add_29 1 rfl
theorem dX11_add_31 : decode cX11_add 31 = .ok (.getfield 21, 3) := zdec_at bX11_add_29 2 rfl
theorem dX11_add_34 : decode cX11_add 34 = .ok (.iconst 0, 1) := zdec_at bX11_add_29 3 rfl
theorem dX11_add_35 : decode cX11_add 35 = .ok (.aload_n 2, 1) := zdec_at bX11_add_29 4 rfl
theorem dX11_add_36 : decode cX11_add 36 = .ok (.iconst 0, 1) := zdec_at bX11_add_29 5 rfl
theorem dX11_add_37 : decode cX11_add 37 = .ok (.aload_n 0, 1) := zdec_at bX11_add_29 6 rfl
theorem dX11_add_38 : decode cX11_add 38 = .ok (.getfield 39, 3) := zdec_at bX11_add_29 7 rfl
theorem dX11_add_41 : decode cX11_add 41 = .ok (.invokestatic 46, 3) := zdec_at bX11_add_29 8 rfl
theorem dX11_add_44 : decode cX11_add 44 = .ok (.aload_n 0, 1) := zdec_at bX11_add_29 9 rfl
theorem dX11_add_45 : decode cX11_add 45 = .ok (.aload_n 2, 1) := zdec_at bX11_add_29 10 rfl
theorem dX11_add_46 : decode cX11_add 46 = .ok (.putfield 21, 3) := zdec_at bX11_add_29 11 rfl
theorem dX11_add_49 : decode cX11_add 49 = .ok (.aload_n 0, 1) := zdec_at bX11_add_29 12 rfl
theorem dX11_add_50 : decode cX11_add 50 = .ok (.getfield 21, 3) := zdec_at bX11_add_29 13 rfl
theorem dX11_add_53 : decode cX11_add 53 = .ok (.aload_n 0, 1) := zdec_at bX11_add_29 14 rfl
theorem dX11_add_54 : decode cX11_add 54 = .ok (.dup, 1) := zdec_at bX11_add_29 15 rfl
theorem bX11_add_55 : zdec cX11_add 55 [(55, .getfield 39, 3), (58, .dup_x1, 1), (59, .iconst 1, 1), (60, .iadd, 1), (61, .putfield 39, 3), (64, .iload_n 1, 1), (65, .iastore, 1), (66, .return_, 1)] = true := by decide +kernel
theorem dX11_add_55 : decode cX11_add 55 = .ok (.getfield 39, 3) := zdec_at bX11_add_55 0 rfl
theorem dX11_add_58 : decode cX11_add 58 = .ok (.dup_x1, 1) := zdec_at bX11_add_55 1 rfl
theorem dX11_add_59 : decode cX11_add 59 = .ok (.iconst 1, 1) := zdec_at bX11_add_55 2 rfl
theorem dX11_add_60 : decode cX11_add 60 = .ok (.iadd, 1) := zdec_at bX11_add_55 3 rfl
theorem dX11_add_61 : decode cX11_add 61 = .ok (.putfield 39, 3) := zdec_at bX11_add_55 4 rfl
theorem dX11_add_64 : decode cX11_add 64 = .ok (.iload_n 1, 1) := zdec_at bX11_add_55 5 rfl
theorem dX11_add_65 : decode cX11_add 65 = .ok (.iastore, 1) := zdec_at bX11_add_55 6 rfl
theorem dX11_add_66 : decode cX11_add 66 = .ok (.return_, 1) := zdec_at bX11_add_55 7 rfl
theorem sX11_add_0 {E : zE} {d : Nat} {Q : zO → zM → Prop} (M : zM) (a0 : Nat) (l1 : Int32) (k : Z E YX11_has d M (zargs 0 [vr (some (a0, 10, 0)), vi l1]) 0 [] (zafter E YX11_add (d + 1) [(0, vr (some (a0, 10, 0))), (1, vi l1)] 2 3 [] Q)) : Z E YX11_add (d + 1) M [(0, vr (some (a0, 10, 0))), (1, vi l1)] 0 [] Q := by
  refine z_aload_n dX11_add_0 rfl rfl ?_
  refine z_iload_n dX11_add_1 rfl rfl ?_
  exact z_callV (as := [vi l1]) (st := []) dX11_add_2 vsX11_42_10 (Nat.le_refl _) (Nat.le_of_ble_eq_true rfl) (Nat.le_of_ble_eq_true rfl) rfl k
theorem sX11_add_5 {E : zE} {d : Nat} {Q : zO → zM → Prop} (M : zM) (a0 : Nat) (l1 : Int32) (s0 : Int32) (k : if s0 = 0 then (∃ b1 m1 : Nat, (gr M a0 4) = some (b1, 100, m1) ∧ (if (gi M a0 5) = (Int32.ofNat m1) then ((¬ ((2 : Int32) * (gi M a0 5)) < 0 ∧ (((2 : Int32) * (gi M a0 5))).toNatClampNeg * 8 ≤ 536870912) ∧ (Z E YX11_add (d + 1) (zn M (((2 : Int32) * (gi M a0 5))).toNatClampNeg) [(0, vr (some (a0, 10, 0))), (1, vi l1)] 29 [vr (some ((zsz M), 100, (((2 : Int32) * (gi M a0 5))).toNatClampNeg))] Q)) else (Z E YX11_add (d + 1) M [(0, vr (some (a0, 10, 0))), (1, vi l1)] 49 [] Q))) else (Q (.inl none) M)) : Z E YX11_add (d + 1) M [(0, vr (some (a0, 10, 0))), (1, vi l1)] 5 [vi s0] Q := by
  refine z_if_eq (tgt := 9) dX11_add_5 rfl (fun h_ => ?_) (fun h_ => ?_)
  · have k := zit h_ k
    refine z_aload_n dX11_add_9 rfl rfl ?_
    refine z_geti dX11_add_10 fsX11_39_10 ?_
    refine z_aload_n dX11_add_13 rfl rfl ?_
    refine z_getr (r := (gr M a0 4)) dX11_add_14 fsX11_21_10 rfl ?_
    obtain ⟨b1, m1, e1_, k⟩ := k
    refine Z.eqs (lv' := [(0, vr (some (a0, 10, 0))), (1, vi l1)]) (st' := [vr (some (b1, 100, m1)), vi (gi M a0 5)]) rfl (by rw [e1_] <;> rfl) ?_
    refine z_alen (q := 0) (v := Int32.ofNat m1) dX11_add_17 rfl ?_
    refine z_icmp_ne (tgt := 49) dX11_add_18 rfl (fun h_ => ?_) (fun h_ => ?_)
    · have k := zif h_ k
      exact k
    · have k := zit h_ k
      refine z_iconst (v := 2) dX11_add_21 rfl ?_
      refine z_aload_n dX11_add_22 rfl rfl ?_
      refine z_geti dX11_add_23 fsX11_39_10 ?_
      refine z_imul dX11_add_26 ?_
      obtain ⟨b_, k⟩ := k
      refine z_newa (q := 0) (N := (((2 : Int32) * (gi M a0 5))).toNatClampNeg) dX11_add_27 rfl (by decide) q535 b_.1 rfl b_.2 ?_
      exact k
  · have k := zif h_ k
    exact z_vret dX11_add_8 rfl k
theorem sX11_add_29 {E : zE} {d : Nat} {Q : zO → zM → Prop} (M : zM) (a0 : Nat) (l1 : Int32) (p0 : Nat) (np0 : Nat) (k : ∃ b1 m1 : Nat, (gr M a0 4) = some (b1, 100, m1) ∧ (16 ≤ p0 ∧ ((1 ≤ (d + 1)) ∧ (((¬ (0 : Int32) < 0 ∧ ¬ (0 : Int32) < 0 ∧ ¬ (gi M a0 5) < 0) ∧ ((0 : Int32)).toNatClampNeg + ((gi M a0 5)).toNatClampNeg ≤ m1 ∧ ((0 : Int32)).toNatClampNeg + ((gi M a0 5)).toNatClampNeg ≤ np0) ∧ (Z E YX11_add (d + 1) (cpi M b1 ((0 : Int32)).toNatClampNeg p0 ((0 : Int32)).toNatClampNeg ((gi M a0 5)).toNatClampNeg) [(0, vr (some (a0, 10, 0))), (1, vi l1), (2, vr (some (p0, 100, np0)))] 44 [] Q))))) : Z E YX11_add (d + 1) M [(0, vr (some (a0, 10, 0))), (1, vi l1)] 29 [vr (some (p0, 100, np0))] Q := by
  refine z_ast_n dX11_add_29 rfl (by decide) (lv' := [(0, vr (some (a0, 10, 0))), (1, vi l1), (2, vr (some (p0, 100, np0)))]) rfl ?_
  refine z_aload_n dX11_add_30 rfl rfl ?_
  refine z_getr (r := (gr M a0 4)) dX11_add_31 fsX11_21_10 rfl ?_
  refine z_iconst (v := 0) dX11_add_34 rfl ?_
  refine z_aload_n dX11_add_35 rfl rfl ?_
  refine z_iconst (v := 0) dX11_add_36 rfl ?_
  refine z_aload_n dX11_add_37 rfl rfl ?_
  refine z_geti dX11_add_38 fsX11_39_10 ?_
  obtain ⟨b1, m1, e1_, k⟩ := k
  refine Z.eqs (lv' := [(0, vr (some (a0, 10, 0))), (1, vi l1), (2, vr (some (p0, 100, np0)))]) (st' := [vi (gi M a0 5), vi (0 : Int32), vr (some (p0, 100, np0)), vi (0 : Int32), vr (some (b1, 100, m1))]) rfl (by rw [e1_] <;> rfl) ?_
  obtain ⟨g_, k⟩ := k
  obtain ⟨d_, k⟩ := k
  obtain ⟨b_, k⟩ := k
  refine z_copyi g_ dX11_add_41 q1522 d_ (Nat.le_of_ble_eq_true rfl) b_.1.1 b_.1.2.1 b_.1.2.2 b_.2.1 b_.2.2 ?_
  exact k
theorem sX11_add_44 {E : zE} {d : Nat} {Q : zO → zM → Prop} (M : zM) (a0 : Nat) (l1 : Int32) (a2 : Nat) (na2 : Nat) (k : 16 ≤ a0 ∧ (Z E YX11_add (d + 1) (sr M a0 4 (some (a2, 100, na2))) [(0, vr (some (a0, 10, 0))), (1, vi l1)] 49 [] Q)) : Z E YX11_add (d + 1) M [(0, vr (some (a0, 10, 0))), (1, vi l1), (2, vr (some (a2, 100, na2)))] 44 [] Q := by
  refine z_aload_n dX11_add_44 rfl rfl ?_
  refine z_aload_n dX11_add_45 rfl rfl ?_
  obtain ⟨g_, k⟩ := k
  refine z_putr g_ dX11_add_46 (zfwN.w fwX11_21_10) rfl ?_
  refine Z.pick [0, 1] rfl ?_
  exact k
theorem sX11_add_49 {E : zE} {d : Nat} {Q : zO → zM → Prop} (M : zM) (a0 : Nat) (l1 : Int32) (k : 16 ≤ a0 ∧ (∃ b1 m1 : Nat, (gr M a0 4) = some (b1, 100, m1) ∧ (16 ≤ b1 ∧ (vp_in (gi M a0 5) m1 ∧ (Q (.inl none) (si (si M a0 5 ((gi M a0 5) + (1 : Int32))) b1 ((gi M a0 5)).toNatClampNeg l1)))))) : Z E YX11_add (d + 1) M [(0, vr (some (a0, 10, 0))), (1, vi l1)] 49 [] Q := by
  refine z_aload_n dX11_add_49 rfl rfl ?_
  refine z_getr (r := (gr M a0 4)) dX11_add_50 fsX11_21_10 rfl ?_
  refine z_aload_n dX11_add_53 rfl rfl ?_
  refine z_dup dX11_add_54 rfl ?_
  refine z_geti dX11_add_55 fsX11_39_10 ?_
  refine z_dup_x1 dX11_add_58 rfl rfl ?_
  refine z_iconst (v := 1) dX11_add_59 rfl ?_
  refine z_iadd dX11_add_60 ?_
  obtain ⟨g_, k⟩ := k
  refine z_puti g_ dX11_add_61 (zfwN.w fwX11_39_10) rfl ⟨rfl, rfl⟩ ?_
  refine z_iload_n dX11_add_64 rfl rfl ?_
  obtain ⟨b1, m1, e1_, k⟩ := k
  refine Z.eqs (lv' := [(0, vr (some (a0, 10, 0))), (1, vi l1)]) (st' := [vi l1, vi (gi M a0 5), vr (some (b1, 100, m1))]) rfl (by rw [e1_] <;> rfl) ?_
  obtain ⟨g_, k⟩ := k
  obtain ⟨b_, k⟩ := k
  refine z_iast g_ dX11_add_65 b_ ?_
  exact z_vret dX11_add_66 rfl k
/-! ScriptTypes$Code.has(I)Z -/
theorem bX11_has_0 : zdec cX11_has 0 [(0, .iconst 0, 1), (1, .istore_n 2, 1), (2, .iload_n 2, 1), (3, .aload_n 0, 1), (4, .getfield 39, 3), (7, .if_icmp .ge 21, 3), (10, .aload_n 0, 1), (11, .getfield 21, 3), (14, .iload_n 2, 1), (15, .iaload, 1), (16, .iload_n 1, 1), (17, .if_icmp .ne 5, 3), (20, .iconst 1, 1), (21, .ireturn, 1), (22, .iinc 2 1, 3), (25, .goto (-23), 3)] = true := by decide +kernel
theorem dX11_has_0 : decode cX11_has 0 = .ok (.iconst 0, 1) := zdec_at bX11_has_0 0 rfl
theorem dX11_has_1 : decode cX11_has 1 = .ok (.istore_n 2, 1) := zdec_at bX11_has_0 1 rfl
theorem dX11_has_2 : decode cX11_has 2 = .ok (.iload_n 2, 1) := zdec_at bX11_has_0 2 rfl
theorem dX11_has_3 : decode cX11_has 3 = .ok (.aload_n 0, 1) := zdec_at bX11_has_0 3 rfl
theorem dX11_has_4 : decode cX11_has 4 = .ok (.getfield 39, 3) := zdec_at bX11_has_0 4 rfl
theorem dX11_has_7 : decode cX11_has 7 = .ok (.if_icmp .ge 21, 3) := zdec_at bX11_has_0 5 rfl
theorem dX11_has_10 : decode cX11_has 10 = .ok (.aload_n 0, 1) := zdec_at bX11_has_0 6 rfl
theorem dX11_has_11 : decode cX11_has 11 = .ok (.getfield 21, 3) := zdec_at bX11_has_0 7 rfl
theorem dX11_has_14 : decode cX11_has 14 = .ok (.iload_n 2, 1) := zdec_at bX11_has_0 8 rfl
theorem dX11_has_15 : decode cX11_has 15 = .ok (.iaload, 1) := zdec_at bX11_has_0 9 rfl
theorem dX11_has_16 : decode cX11_has 16 = .ok (.iload_n 1, 1) := zdec_at bX11_has_0 10 rfl
theorem dX11_has_17 : decode cX11_has 17 = .ok (.if_icmp .ne 5, 3) := zdec_at bX11_has_0 11 rfl
theorem dX11_has_20 : decode cX11_has 20 = .ok (.iconst 1, 1) := zdec_at bX11_has_0 12 rfl
theorem dX11_has_21 : decode cX11_has 21 = .ok (.ireturn, 1) := zdec_at bX11_has_0 13 rfl
theorem dX11_has_22 : decode cX11_has 22 = .ok (.iinc 2 1, 3) := zdec_at bX11_has_0 14 rfl
theorem dX11_has_25 : decode cX11_has 25 = .ok (.goto (-23), 3) := zdec_at bX11_has_0 15 rfl
theorem bX11_has_28 : zdec cX11_has 28 [(28, .iconst 0, 1), (29, .ireturn, 1)] = true := by decide +kernel
theorem dX11_has_28 : decode cX11_has 28 = .ok (.iconst 0, 1) := zdec_at bX11_has_28 0 rfl
theorem dX11_has_29 : decode cX11_has 29 = .ok (.ireturn, 1) := zdec_at bX11_has_28 1 rfl
theorem sX11_has_0 {E : zE} {d : Nat} {Q : zO → zM → Prop} (M : zM) (a0 : Nat) (l1 : Int32) (k : Z E YX11_has d M [(0, vr (some (a0, 10, 0))), (1, vi l1), (2, vi (0 : Int32))] 2 [] Q) : Z E YX11_has d M [(0, vr (some (a0, 10, 0))), (1, vi l1)] 0 [] Q := by
  refine z_iconst (v := 0) dX11_has_0 rfl ?_
  refine z_ist_n dX11_has_1 rfl (by decide) (lv' := [(0, vr (some (a0, 10, 0))), (1, vi l1), (2, vi (0 : Int32))]) rfl ?_
  exact k
theorem sX11_has_2 {E : zE} {d : Nat} {Q : zO → zM → Prop} (M : zM) (a0 : Nat) (l1 : Int32) (l2 : Int32) (k : if (gi M a0 5) ≤ l2 then (Q (.inl (some (vi (0 : Int32)))) M) else (∃ b1 m1 : Nat, (gr M a0 4) = some (b1, 100, m1) ∧ (vp_in l2 m1 ∧ (if (gi M b1 (l2).toNatClampNeg) = l1 then (Q (.inl (some (vi (1 : Int32)))) M) else (Z E YX11_has d M [(0, vr (some (a0, 10, 0))), (1, vi l1), (2, vi (l2 + (1 : Int32)))] 2 [] Q))))) : Z E YX11_has d M [(0, vr (some (a0, 10, 0))), (1, vi l1), (2, vi l2)] 2 [] Q := by
  refine z_iload_n dX11_has_2 rfl rfl ?_
  refine z_aload_n dX11_has_3 rfl rfl ?_
  refine z_geti dX11_has_4 fsX11_39_10 ?_
  refine z_icmp_ge (tgt := 28) dX11_has_7 rfl (fun h_ => ?_) (fun h_ => ?_)
  · have k := zit h_ k
    refine z_iconst (v := 0) dX11_has_28 rfl ?_
    exact z_iret dX11_has_29 rfl (by decide) k
  · have k := zif h_ k
    refine z_aload_n dX11_has_10 rfl rfl ?_
    refine z_getr (r := (gr M a0 4)) dX11_has_11 fsX11_21_10 rfl ?_
    refine z_iload_n dX11_has_14 rfl rfl ?_
    obtain ⟨b1, m1, e1_, k⟩ := k
    refine Z.eqs (lv' := [(0, vr (some (a0, 10, 0))), (1, vi l1), (2, vi l2)]) (st' := [vi l2, vr (some (b1, 100, m1))]) rfl (by rw [e1_] <;> rfl) ?_
    obtain ⟨b_, k⟩ := k
    refine z_iald dX11_has_15 b_ ?_
    refine z_iload_n dX11_has_16 rfl rfl ?_
    refine z_icmp_ne (tgt := 22) dX11_has_17 rfl (fun h_ => ?_) (fun h_ => ?_)
    · have k := zif h_ k
      refine z_inc (v := (l2 + (1 : Int32))) dX11_has_22 rfl rfl (by decide) (lv' := [(0, vr (some (a0, 10, 0))), (1, vi l1), (2, vi (l2 + (1 : Int32)))]) rfl ?_
      refine z_goto (tgt := 2) dX11_has_25 rfl ?_
      exact k
    · have k := zit h_ k
      refine z_iconst (v := 1) dX11_has_20 rfl ?_
      exact z_iret dX11_has_21 rfl (by decide) k
