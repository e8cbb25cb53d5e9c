/-! the law's own body -/
set_option maxRecDepth 100000
abbrev cX0_law : ByteArray := code
abbrev YX0_law : zY := zlaw
theorem zff_0 : ∀ k, k < 97 → (zty.getD 0 (fun _ => .int)) k ≠ .float ∧ (zty.getD 0 (fun _ => .int)) k ≠ .double := by decide +kernel
theorem zff_1 : ∀ k, k < 151 → (zty.getD 1 (fun _ => .int)) k ≠ .float ∧ (zty.getD 1 (fun _ => .int)) k ≠ .double := by decide +kernel
theorem isX0_24 : zsI "ScriptTypesLaw" 24 YX1_init 0 := ⟨⟨by decide +kernel, q513, rfl, rfl⟩, nomhX1 _ _, rfl, by decide +kernel, q512, Or.inl q511⟩
theorem isX0_27 : zsI "ScriptTypesLaw" 27 YX8_init 0 := ⟨⟨by decide +kernel, q3497, rfl, rfl⟩, nomhX8 _ _, rfl, by decide +kernel, q3496, Or.inl q3495⟩
theorem vsX0_28_0 : zsV "ScriptTypesLaw" 28 0 YX1_feed 5 := ⟨kcX1_feed, q1136, (RX1, TX1, 97), rfl, Or.inl ⟨nomhX1 _ _, by decide +kernel, q1137, Or.inl q1135⟩⟩
theorem vsX0_32_1 : zsV "ScriptTypesLaw" 32 1 YX8_feed 5 := ⟨kcX8_feed, q3961, (RX8, TX8, 151), rfl, Or.inl ⟨nomhX8 _ _, by decide +kernel, q3962, Or.inl q3960⟩⟩
theorem vsX0_33_0 : zsV "ScriptTypesLaw" 33 0 YX1_back 1 := ⟨kcX1_back, q1144, (RX1, TX1, 97), rfl, Or.inl ⟨nomhX1 _ _, by decide +kernel, q1145, Or.inl q1143⟩⟩
theorem vsX0_36_1 : zsV "ScriptTypesLaw" 36 1 YX8_back 1 := ⟨kcX8_back, q3965, (RX8, TX8, 151), rfl, Or.inl ⟨nomhX8 _ _, by decide +kernel, q3966, Or.inl q3964⟩⟩
theorem vsX0_37_0 : zsV "ScriptTypesLaw" 37 0 YX1_read 0 := ⟨kcX1_read, q1148, (RX1, TX1, 97), rfl, Or.inl ⟨nomhX1 _ _, by decide +kernel, q1149, Or.inl q1147⟩⟩
theorem vsX0_40_1 : zsV "ScriptTypesLaw" 40 1 YX8_read 0 := ⟨kcX8_read, q3969, (RX8, TX8, 151), rfl, Or.inl ⟨nomhX8 _ _, by decide +kernel, q3970, Or.inl q3968⟩⟩
theorem vsX0_41_0 : zsV "ScriptTypesLaw" 41 0 YX1_count 1 := ⟨kcX1_count, q2484, (RX1, TX1, 97), rfl, Or.inl ⟨nomhX1 _ _, by decide +kernel, q2485, Or.inl q2483⟩⟩
theorem vsX0_44_1 : zsV "ScriptTypesLaw" 44 1 YX8_count 1 := ⟨kcX8_count, q4721, (RX8, TX8, 151), rfl, Or.inl ⟨nomhX8 _ _, by decide +kernel, q4722, Or.inl q4720⟩⟩
theorem vsX0_45_0 : zsV "ScriptTypesLaw" 45 0 YX1_letter 2 := ⟨kcX1_letter, q2488, (RX1, TX1, 97), rfl, Or.inl ⟨nomhX1 _ _, by decide +kernel, q2489, Or.inl q2487⟩⟩
theorem vsX0_49_1 : zsV "ScriptTypesLaw" 49 1 YX8_letter 2 := ⟨kcX8_letter, q4725, (RX8, TX8, 151), rfl, Or.inl ⟨nomhX8 _ _, by decide +kernel, q4726, Or.inl q4724⟩⟩
theorem vsX0_50_0 : zsV "ScriptTypesLaw" 50 0 YX1_instruction 2 := ⟨kcX1_instruction, q2494, (RX1, TX1, 97), rfl, Or.inl ⟨nomhX1 _ _, by decide +kernel, q2495, Or.inl q2493⟩⟩
theorem vsX0_53_1 : zsV "ScriptTypesLaw" 53 1 YX8_instruction 2 := ⟨kcX8_instruction, q4729, (RX8, TX8, 151), rfl, Or.inl ⟨nomhX8 _ _, by decide +kernel, q4730, Or.inl q4728⟩⟩
theorem ssX0_54 : zsS "ScriptTypesLaw" 54 YX0_begin 1 := ⟨kcX0_begin, nomhX0 _ _, by decide +kernel, q2609, q445, Or.inl q2608⟩
theorem vsX0_59_1 : zsV "ScriptTypesLaw" 59 1 YX8_begin 0 := ⟨kcX8_begin, q4444, (RX8, TX8, 151), rfl, Or.inl ⟨nomhX8 _ _, by decide +kernel, q4445, Or.inl q4443⟩⟩
theorem vsX0_60_1 : zsV "ScriptTypesLaw" 60 1 YX8_thrown 0 := ⟨kcX8_thrown, q3957, (RX8, TX8, 151), rfl, Or.inl ⟨nomhX8 _ _, by decide +kernel, q3958, Or.inl q3956⟩⟩
theorem ssX0_63 : zsS "ScriptTypesLaw" 63 YX0_run 3 := ⟨kcX0_run, nomhX0 _ _, by decide +kernel, q2662, q445, Or.inl q2661⟩
theorem vsX0_66_1 : zsV "ScriptTypesLaw" 66 1 YX8_run 1 := ⟨kcX8_run, q4468, (RX8, TX8, 151), rfl, Or.inl ⟨nomhX8 _ _, by decide +kernel, q4469, Or.inl q4467⟩⟩
theorem vsX0_67_0 : zsV "ScriptTypesLaw" 67 0 YX1_frame 2 := ⟨kcX1_frame, q2498, (RX1, TX1, 97), rfl, Or.inl ⟨nomhX1 _ _, by decide +kernel, q2499, Or.inl q2497⟩⟩
theorem vsX0_70_1 : zsV "ScriptTypesLaw" 70 1 YX8_frame 2 := ⟨kcX8_frame, q4733, (RX8, TX8, 151), rfl, Or.inl ⟨nomhX8 _ _, by decide +kernel, q4734, Or.inl q4732⟩⟩
theorem vsX0_71_0 : zsV "ScriptTypesLaw" 71 0 YX1_value 3 := ⟨kcX1_value, q2502, (RX1, TX1, 97), rfl, Or.inl ⟨nomhX1 _ _, by decide +kernel, q2503, Or.inl q2501⟩⟩
theorem vsX0_75_1 : zsV "ScriptTypesLaw" 75 1 YX8_value_2 3 := ⟨kcX8_value_2, q4737, (RX8, TX8, 151), rfl, Or.inl ⟨nomhX8 _ _, by decide +kernel, q4738, Or.inl q4736⟩⟩
theorem vsX0_76_0 : zsV "ScriptTypesLaw" 76 0 YX1_object 2 := ⟨kcX1_object, q2519, (RX1, TX1, 97), rfl, Or.inl ⟨nomhX1 _ _, by decide +kernel, q2520, Or.inl q2518⟩⟩
theorem vsX0_79_1 : zsV "ScriptTypesLaw" 79 1 YX8_object_2 2 := ⟨kcX8_object_2, q4749, (RX8, TX8, 151), rfl, Or.inl ⟨nomhX8 _ _, by decide +kernel, q4750, Or.inl q4748⟩⟩
theorem vsX0_80_0 : zsV "ScriptTypesLaw" 80 0 YX1_property 3 := ⟨kcX1_property, q2531, (RX1, TX1, 97), rfl, Or.inl ⟨nomhX1 _ _, by decide +kernel, q2532, Or.inl q2530⟩⟩
theorem vsX0_83_1 : zsV "ScriptTypesLaw" 83 1 YX8_property 3 := ⟨kcX8_property, q4753, (RX8, TX8, 151), rfl, Or.inl ⟨nomhX8 _ _, by decide +kernel, q4754, Or.inl q4752⟩⟩
theorem vsX0_84_0 : zsV "ScriptTypesLaw" 84 0 YX1_printed 2 := ⟨kcX1_printed, q2535, (RX1, TX1, 97), rfl, Or.inl ⟨nomhX1 _ _, by decide +kernel, q2536, Or.inl q2534⟩⟩
theorem vsX0_87_1 : zsV "ScriptTypesLaw" 87 1 YX8_printed 2 := ⟨kcX8_printed, q4757, (RX8, TX8, 151), rfl, Or.inl ⟨nomhX8 _ _, by decide +kernel, q4758, Or.inl q4756⟩⟩
theorem vsX0_88_0 : zsV "ScriptTypesLaw" 88 0 YX1_uncaught 1 := ⟨kcX1_uncaught, q2540, (RX1, TX1, 97), rfl, Or.inl ⟨nomhX1 _ _, by decide +kernel, q2541, Or.inl q2539⟩⟩
theorem vsX0_91_1 : zsV "ScriptTypesLaw" 91 1 YX8_uncaught 1 := ⟨kcX8_uncaught, q4761, (RX8, TX8, 151), rfl, Or.inl ⟨nomhX8 _ _, by decide +kernel, q4762, Or.inl q4760⟩⟩
theorem ssX0_92 : zsS "ScriptTypesLaw" 92 YX0_solve 2 := ⟨kcX0_solve, nomhX0 _ _, by decide +kernel, q2879, q445, Or.inl q2878⟩
theorem vsX0_95_1 : zsV "ScriptTypesLaw" 95 1 YX8_solve 0 := ⟨kcX8_solve, q4765, (RX8, TX8, 151), rfl, Or.inl ⟨nomhX8 _ _, by decide +kernel, q4766, Or.inl q4764⟩⟩
theorem vsX0_96_0 : zsV "ScriptTypesLaw" 96 0 YX1_height 1 := ⟨kcX1_height, q2544, (RX1, TX1, 97), rfl, Or.inl ⟨nomhX1 _ _, by decide +kernel, q2545, Or.inl q2543⟩⟩
theorem vsX0_99_1 : zsV "ScriptTypesLaw" 99 1 YX8_height 1 := ⟨kcX8_height, q5159, (RX8, TX8, 151), rfl, Or.inl ⟨nomhX8 _ _, by decide +kernel, q5160, Or.inl q5158⟩⟩
theorem vsX0_100_0 : zsV "ScriptTypesLaw" 100 0 YX1_slot 3 := ⟨kcX1_slot, q2552, (RX1, TX1, 97), rfl, Or.inl ⟨nomhX1 _ _, by decide +kernel, q2553, Or.inl q2551⟩⟩
theorem vsX0_104_1 : zsV "ScriptTypesLaw" 104 1 YX8_slot 3 := ⟨kcX8_slot, q5167, (RX8, TX8, 151), rfl, Or.inl ⟨nomhX8 _ _, by decide +kernel, q5168, Or.inl q5166⟩⟩
theorem vsX0_105_0 : zsV "ScriptTypesLaw" 105 0 YX1_field 4 := ⟨kcX1_field, q2593, (RX1, TX1, 97), rfl, Or.inl ⟨nomhX1 _ _, by decide +kernel, q2594, Or.inl q2592⟩⟩
theorem vsX0_109_1 : zsV "ScriptTypesLaw" 109 1 YX8_field_2 4 := ⟨kcX8_field_2, q5175, (RX8, TX8, 151), rfl, Or.inl ⟨nomhX8 _ _, by decide +kernel, q5176, Or.inl q5174⟩⟩
theorem vsX0_110_0 : zsV "ScriptTypesLaw" 110 0 YX1_link 3 := ⟨kcX1_link, q2597, (RX1, TX1, 97), rfl, Or.inl ⟨nomhX1 _ _, by decide +kernel, q2598, Or.inl q2596⟩⟩
theorem vsX0_113_1 : zsV "ScriptTypesLaw" 113 1 YX8_link 3 := ⟨kcX8_link, q5179, (RX8, TX8, 151), rfl, Or.inl ⟨nomhX8 _ _, by decide +kernel, q5180, Or.inl q5178⟩⟩
theorem vsX0_114_0 : zsV "ScriptTypesLaw" 114 0 YX1_result 3 := ⟨kcX1_result, q2601, (RX1, TX1, 97), rfl, Or.inl ⟨nomhX1 _ _, by decide +kernel, q2602, Or.inl q2600⟩⟩
theorem vsX0_117_1 : zsV "ScriptTypesLaw" 117 1 YX8_result 3 := ⟨kcX8_result, q5183, (RX8, TX8, 151), rfl, Or.inl ⟨nomhX8 _ _, by decide +kernel, q5184, Or.inl q5182⟩⟩
theorem vsX0_118_0 : zsV "ScriptTypesLaw" 118 0 YX1_warns 1 := ⟨kcX1_warns, q2605, (RX1, TX1, 97), rfl, Or.inl ⟨nomhX1 _ _, by decide +kernel, q2606, Or.inl q2604⟩⟩
theorem vsX0_121_1 : zsV "ScriptTypesLaw" 121 1 YX8_warns 1 := ⟨kcX8_warns, q5187, (RX8, TX8, 151), rfl, Or.inl ⟨nomhX8 _ _, by decide +kernel, q5188, Or.inl q5186⟩⟩
/-! ScriptTypesLaw.law([I)Z -/
theorem bX0_law_0 : zdec cX0_law 0 [(0, .new 8, 3), (3, .dup, 1), (4, .invokespecial 24, 3), (7, .astore_n 1, 1), (8, .new 25, 3), (11, .dup, 1), (12, .invokespecial 27, 3), (15, .astore_n 2, 1), (16, .iconst 1, 1), (17, .newarray .long, 2), (19, .astore_n 3, 1), (20, .iconst 0, 1), (21, .istore 4, 2)] = true := by decide +kernel
theorem dX0_law_0 : decode cX0_law 0 = .ok (.new 8, 3) := zdec_at bX0_law_0 0 rfl
theorem dX0_law_3 : decode cX0_law 3 = .ok (.dup, 1) := zdec_at bX0_law_0 1 rfl
theorem dX0_law_4 : decode cX0_law 4 = .ok (.invokespecial 24, 3) := zdec_at bX0_law_0 2 rfl
theorem dX0_law_7 : decode cX0_law 7 = .ok (.astore_n 1, 1) := zdec_at bX0_law_0 3 rfl
theorem dX0_law_8 : decode cX0_law 8 = .ok (.new 25, 3) := zdec_at bX0_law_0 4 rfl
theorem dX0_law_11 : decode cX0_law 11 = .ok (.dup, 1) := zdec_at bX0_law_0 5 rfl
theorem dX0_law_12 : decode cX0_law 12 = .ok (.invokespecial 27, 3) := zdec_at bX0_law_0 6 rfl
theorem dX0_law_15 : decode cX0_law 15 = .ok (.astore_n 2, 1) := zdec_at bX0_law_0 7 rfl
theorem dX0_law_16 : decode cX0_law 16 = .ok (.iconst 1, 1) := zdec_at bX0_law_0 8 rfl
theorem dX0_law_17 : decode cX0_law 17 = .ok (.newarray .long, 2) := zdec_at bX0_law_0 9 rfl
theorem dX0_law_19 : decode cX0_law 19 = .ok (.astore_n 3, 1) := zdec_at bX0_law_0 10 rfl
theorem dX0_law_20 : decode cX0_law 20 = .ok (.iconst 0, 1) := zdec_at bX0_law_0 11 rfl
theorem dX0_law_21 : decode cX0_law 21 = .ok (.istore 4, 2) := zdec_at bX0_law_0 12 rfl
theorem bX0_law_23 : zdec cX0_law 23 [(23, .iload 4, 2), (25, .aload_n 0, 1), (26, .arraylength, 1), (27, .bipush 6, 2), (29, .isub, 1), (30, .if_icmp .gt 946, 3), (33, .aload_n 0, 1), (34, .iload 4, 2), (36, .iaload, 1), (37, .bipush 31, 2), (39, .iand, 1)] = true := by decide +kernel
theorem dX0_law_23 : decode cX0_law 23 = .ok (.iload 4, 2) := zdec_at bX0_law_23 0 rfl
theorem dX0_law_25 : decode cX0_law 25 = .ok (.aload_n 0, 1) := zdec_at bX0_law_23 1 rfl
theorem dX0_law_26 : decode cX0_law 26 = .ok (.arraylength, 1) := zdec_at bX0_law_23 2 rfl
theorem dX0_law_27 : decode cX0_law 27 = .ok (.bipush 6, 2) := zdec_at bX0_law_23 3 rfl
theorem dX0_law_29 : decode cX0_law 29 = .ok (.isub, 1) := zdec_at bX0_law_23 4 rfl
theorem dX0_law_30 : decode cX0_law 30 = .ok (.if_icmp .gt 946, 3) := zdec_at bX0_law_23 5 rfl
theorem dX0_law_33 : decode cX0_law 33 = .ok (.aload_n 0, 1) := zdec_at bX0_law_23 6 rfl
theorem dX0_law_34 : decode cX0_law 34 = .ok (.iload 4, 2) := zdec_at bX0_law_23 7 rfl
theorem dX0_law_36 : decode cX0_law 36 = .ok (.iaload, 1) := zdec_at bX0_law_23 8 rfl
theorem dX0_law_37 : decode cX0_law 37 = .ok (.bipush 31, 2) := zdec_at bX0_law_23 9 rfl
theorem dX0_law_39 : decode cX0_law 39 = .ok (.iand, 1) := zdec_at bX0_law_23 10 rfl
theorem dX0_law_40 : decode cX0_law 40 = .ok (.tableswitch 930 0 20 #[100, 173, 198, 211, 236, 273, 310, 334, 390, 427, 476, 513, 562, 599, 624, 668, 693, 743, 805, 855, 905], 100) := by decide +kernel
theorem bX0_law_140 : zdec cX0_law 140 [(140, .aload_n 1, 1), (141, .aload_n 0, 1), (142, .iload 4, 2), (144, .iconst 1, 1), (145, .iadd, 1), (146, .iaload, 1), (147, .aload_n 0, 1), (148, .iload 4, 2), (150, .iconst 2, 1), (151, .iadd, 1), (152, .iaload, 1), (153, .aload_n 0, 1), (154, .iload 4, 2), (156, .iconst 3, 1), (157, .iadd, 1), (158, .iaload, 1)] = true := by decide +kernel
theorem dX0_law_140 : decode cX0_law 140 = .ok (.aload_n 1, 1) := zdec_at bX0_law_140 0 rfl
theorem dX0_law_141 : decode cX0_law 141 = .ok (.aload_n 0, 1) := zdec_at bX0_law_140 1 rfl
theorem dX0_law_142 : decode cX0_law 142 = .ok (.iload 4, 2) := zdec_at bX0_law_140 2 rfl
theorem dX0_law_144 : decode cX0_law 144 = .ok (.iconst 1, 1) := zdec_at bX0_law_140 3 rfl
theorem dX0_law_145 : decode cX0_law 145 = .ok (.iadd, 1) := zdec_at bX0_law_140 4 rfl
theorem dX0_law_146 : decode cX0_law 146 = .ok (.iaload, 1) := zdec_at bX0_law_140 5 rfl
theorem dX0_law_147 : decode cX0_law 147 = .ok (.aload_n 0, 1) := zdec_at bX0_law_140 6 rfl
theorem dX0_law_148 : decode cX0_law 148 = .ok (.iload 4, 2) := zdec_at bX0_law_140 7 rfl
theorem dX0_law_150 : decode cX0_law 150 = .ok (.iconst 2, 1) := zdec_at bX0_law_140 8 rfl
theorem dX0_law_151 : decode cX0_law 151 = .ok (.iadd, 1) := zdec_at bX0_law_140 9 rfl
theorem dX0_law_152 : decode cX0_law 152 = .ok (.iaload, 1) := zdec_at bX0_law_140 10 rfl
theorem dX0_law_153 : decode cX0_law 153 = .ok (.aload_n 0, 1) := zdec_at bX0_law_140 11 rfl
theorem dX0_law_154 : decode cX0_law 154 = .ok (.iload 4, 2) := zdec_at bX0_law_140 12 rfl
theorem dX0_law_156 : decode cX0_law 156 = .ok (.iconst 3, 1) := zdec_at bX0_law_140 13 rfl
theorem dX0_law_157 : decode cX0_law 157 = .ok (.iadd, 1) := zdec_at bX0_law_140 14 rfl
theorem dX0_law_158 : decode cX0_law 158 = .ok (.iaload, 1) := zdec_at bX0_law_140 15 rfl
theorem bX0_law_159 : zdec cX0_law 159 [(159, .aload_n 0, 1), (160, .iload 4, 2), (162, .iconst 4, 1), (163, .iadd, 1), (164, .iaload, 1), (165, .aload_n 0, 1), (166, .iload 4, 2), (168, .iconst 5, 1), (169, .iadd, 1), (170, .iaload, 1), (171, .invokevirtual 28, 3), (174, .aload_n 2, 1), (175, .aload_n 0, 1), (176, .iload 4, 2), (178, .iconst 1, 1), (179, .iadd, 1)] = true := by decide +kernel
theorem dX0_law_159 : decode cX0_law 159 = .ok (.aload_n 0, 1) := zdec_at bX0_law_159 0 rfl
theorem dX0_law_160 : decode cX0_law 160 = .ok (.iload 4, 2) := zdec_at bX0_law_159 1 rfl
theorem dX0_law_162 : decode cX0_law 162 = .ok (.iconst 4, 1) := zdec_at bX0_law_159 2 rfl
theorem dX0_law_163 : decode cX0_law 163 = .ok (.iadd, 1) := zdec_at bX0_law_159 3 rfl
theorem dX0_law_164 : decode cX0_law 164 = .ok (.iaload, 1) := zdec_at bX0_law_159 4 rfl
theorem dX0_law_165 : decode cX0_law 165 = .ok (.aload_n 0, 1) := zdec_at bX0_law_159 5 rfl
theorem dX0_law_166 : decode cX0_law 166 = .ok (.iload 4, 2) := zdec_at bX0_law_159 6 rfl
theorem dX0_law_168 : decode cX0_law 168 = .ok (.iconst 5, 1) := zdec_at bX0_law_159 7 rfl
theorem dX0_law_169 : decode cX0_law 169 = .ok (.iadd, 1) := zdec_at bX0_law_159 8 rfl
theorem dX0_law_170 : decode cX0_law 170 = .ok (.iaload, 1) := zdec_at bX0_law_159 9 rfl
theorem dX0_law_171 : decode cX0_law 171 = .ok (.invokevirtual 28, 3) := zdec_at bX0_law_159 10 rfl
theorem dX0_law_174 : decode cX0_law 174 = .ok (.aload_n 2, 1) := zdec_at bX0_law_159 11 rfl
theorem dX0_law_175 : decode cX0_law 175 = .ok (.aload_n 0, 1) := zdec_at bX0_law_159 12 rfl
theorem dX0_law_176 : decode cX0_law 176 = .ok (.iload 4, 2) := zdec_at bX0_law_159 13 rfl
theorem dX0_law_178 : decode cX0_law 178 = .ok (.iconst 1, 1) := zdec_at bX0_law_159 14 rfl
theorem dX0_law_179 : decode cX0_law 179 = .ok (.iadd, 1) := zdec_at bX0_law_159 15 rfl
theorem bX0_law_180 : zdec cX0_law 180 [(180, .iaload, 1), (181, .aload_n 0, 1), (182, .iload 4, 2), (184, .iconst 2, 1), (185, .iadd, 1), (186, .iaload, 1), (187, .aload_n 0, 1), (188, .iload 4, 2), (190, .iconst 3, 1), (191, .iadd, 1), (192, .iaload, 1), (193, .aload_n 0, 1), (194, .iload 4, 2), (196, .iconst 4, 1), (197, .iadd, 1), (198, .iaload, 1)] = true := by decide +kernel
theorem dX0_law_180 : decode cX0_law 180 = .ok (.iaload, 1) := zdec_at bX0_law_180 0 rfl
theorem dX0_law_181 : decode cX0_law 181 = .ok (.aload_n 0, 1) := zdec_at bX0_law_180 1 rfl
theorem dX0_law_182 : decode cX0_law 182 = .ok (.iload 4, 2) := zdec_at bX0_law_180 2 rfl
theorem dX0_law_184 : decode cX0_law 184 = .ok (.iconst 2, 1) := zdec_at bX0_law_180 3 rfl
theorem dX0_law_185 : decode cX0_law 185 = .ok (.iadd, 1) := zdec_at bX0_law_180 4 rfl
theorem dX0_law_186 : decode cX0_law 186 = .ok (.iaload, 1) := zdec_at bX0_law_180 5 rfl
theorem dX0_law_187 : decode cX0_law 187 = .ok (.aload_n 0, 1) := zdec_at bX0_law_180 6 rfl
theorem dX0_law_188 : decode cX0_law 188 = .ok (.iload 4, 2) := zdec_at bX0_law_180 7 rfl
theorem dX0_law_190 : decode cX0_law 190 = .ok (.iconst 3, 1) := zdec_at bX0_law_180 8 rfl
theorem dX0_law_191 : decode cX0_law 191 = .ok (.iadd, 1) := zdec_at bX0_law_180 9 rfl
theorem dX0_law_192 : decode cX0_law 192 = .ok (.iaload, 1) := zdec_at bX0_law_180 10 rfl
theorem dX0_law_193 : decode cX0_law 193 = .ok (.aload_n 0, 1) := zdec_at bX0_law_180 11 rfl
theorem dX0_law_194 : decode cX0_law 194 = .ok (.iload 4, 2) := zdec_at bX0_law_180 12 rfl
theorem dX0_law_196 : decode cX0_law 196 = .ok (.iconst 4, 1) := zdec_at bX0_law_180 13 rfl
theorem dX0_law_197 : decode cX0_law 197 = .ok (.iadd, 1) := zdec_at bX0_law_180 14 rfl
theorem dX0_law_198 : decode cX0_law 198 = .ok (.iaload, 1) := zdec_at bX0_law_180 15 rfl
theorem bX0_law_199 : zdec cX0_law 199 [(199, .aload_n 0, 1), (200, .iload 4, 2), (202, .iconst 5, 1), (203, .iadd, 1), (204, .iaload, 1), (205, .invokevirtual 32, 3), (208, .if_icmp .eq 762, 3), (211, .iconst 0, 1), (212, .ireturn, 1), (213, .aload_n 1, 1), (214, .aload_n 0, 1), (215, .iload 4, 2), (217, .iconst 1, 1), (218, .iadd, 1), (219, .iaload, 1), (220, .invokevirtual 33, 3)] = true := by decide +kernel
theorem dX0_law_199 : decode cX0_law 199 = .ok (.aload_n 0, 1) := zdec_at bX0_law_199 0 rfl
theorem dX0_law_200 : decode cX0_law 200 = .ok (.iload 4, 2) := zdec_at bX0_law_199 1 rfl
theorem dX0_law_202 : decode cX0_law 202 = .ok (.iconst 5, 1) := zdec_at bX0_law_199 2 rfl
theorem dX0_law_203 : decode cX0_law 203 = .ok (.iadd, 1) := zdec_at bX0_law_199 3 rfl
theorem dX0_law_204 : decode cX0_law 204 = .ok (.iaload, 1) := zdec_at bX0_law_199 4 rfl
theorem dX0_law_205 : decode cX0_law 205 = .ok (.invokevirtual 32, 3) := zdec_at bX0_law_199 5 rfl
theorem dX0_law_208 : decode cX0_law 208 = .ok (.if_icmp .eq 762, 3) := zdec_at bX0_law_199 6 rfl
theorem dX0_law_211 : decode cX0_law 211 = .ok (.iconst 0, 1) := zdec_at bX0_law_199 7 rfl
theorem dX0_law_212 : decode cX0_law 212 = .ok (.ireturn, 1) := zdec_at bX0_law_199 8 rfl
theorem dX0_law_213 : decode cX0_law 213 = .ok (.aload_n 1, 1) := zdec_at bX0_law_199 9 rfl
theorem dX0_law_214 : decode cX0_law 214 = .ok (.aload_n 0, 1) := zdec_at bX0_law_199 10 rfl
theorem dX0_law_215 : decode cX0_law 215 = .ok (.iload 4, 2) := zdec_at bX0_law_199 11 rfl
theorem dX0_law_217 : decode cX0_law 217 = .ok (.iconst 1, 1) := zdec_at bX0_law_199 12 rfl
theorem dX0_law_218 : decode cX0_law 218 = .ok (.iadd, 1) := zdec_at bX0_law_199 13 rfl
theorem dX0_law_219 : decode cX0_law 219 = .ok (.iaload, 1) := zdec_at bX0_law_199 14 rfl
theorem dX0_law_220 : decode cX0_law 220 = .ok (.invokevirtual 33, 3) := zdec_at bX0_law_199 15 rfl
theorem bX0_law_223 : zdec cX0_law 223 [(223, .aload_n 2, 1), (224, .aload_n 0, 1), (225, .iload 4, 2), (227, .iconst 1, 1), (228, .iadd, 1), (229, .iaload, 1), (230, .invokevirtual 36, 3), (233, .if_icmp .eq 737, 3), (236, .iconst 0, 1), (237, .ireturn, 1), (238, .aload_n 1, 1), (239, .invokevirtual 37, 3), (242, .aload_n 2, 1), (243, .invokevirtual 40, 3), (246, .if_icmp .eq 724, 3), (249, .iconst 0, 1)] = true := by decide +kernel
theorem dX0_law_223 : decode cX0_law 223 = .ok (.aload_n 2, 1) := zdec_at bX0_law_223 0 rfl
theorem dX0_law_224 : decode cX0_law 224 = .ok (.aload_n 0, 1) := zdec_at bX0_law_223 1 rfl
theorem dX0_law_225 : decode cX0_law 225 = .ok (.iload 4, 2) := zdec_at bX0_law_223 2 rfl
theorem dX0_law_227 : decode cX0_law 227 = .ok (.iconst 1, 1) := zdec_at bX0_law_223 3 rfl
theorem dX0_law_228 : decode cX0_law 228 = .ok (.iadd, 1) := zdec_at bX0_law_223 4 rfl
theorem dX0_law_229 : decode cX0_law 229 = .ok (.iaload, 1) := zdec_at bX0_law_223 5 rfl
theorem dX0_law_230 : decode cX0_law 230 = .ok (.invokevirtual 36, 3) := zdec_at bX0_law_223 6 rfl
theorem dX0_law_233 : decode cX0_law 233 = .ok (.if_icmp .eq 737, 3) := zdec_at bX0_law_223 7 rfl
theorem dX0_law_236 : decode cX0_law 236 = .ok (.iconst 0, 1) := zdec_at bX0_law_223 8 rfl
theorem dX0_law_237 : decode cX0_law 237 = .ok (.ireturn, 1) := zdec_at bX0_law_223 9 rfl
theorem dX0_law_238 : decode cX0_law 238 = .ok (.aload_n 1, 1) := zdec_at bX0_law_223 10 rfl
theorem dX0_law_239 : decode cX0_law 239 = .ok (.invokevirtual 37, 3) := zdec_at bX0_law_223 11 rfl
theorem dX0_law_242 : decode cX0_law 242 = .ok (.aload_n 2, 1) := zdec_at bX0_law_223 12 rfl
theorem dX0_law_243 : decode cX0_law 243 = .ok (.invokevirtual 40, 3) := zdec_at bX0_law_223 13 rfl
theorem dX0_law_246 : decode cX0_law 246 = .ok (.if_icmp .eq 724, 3) := zdec_at bX0_law_223 14 rfl
theorem dX0_law_249 : decode cX0_law 249 = .ok (.iconst 0, 1) := zdec_at bX0_law_223 15 rfl
theorem bX0_law_250 : zdec cX0_law 250 [(250, .ireturn, 1), (251, .aload_n 1, 1), (252, .aload_n 0, 1), (253, .iload 4, 2), (255, .iconst 1, 1), (256, .iadd, 1), (257, .iaload, 1), (258, .invokevirtual 41, 3), (261, .aload_n 2, 1), (262, .aload_n 0, 1), (263, .iload 4, 2), (265, .iconst 1, 1), (266, .iadd, 1), (267, .iaload, 1), (268, .invokevirtual 44, 3), (271, .if_icmp .eq 699, 3)] = true := by decide +kernel
theorem dX0_law_250 : decode cX0_law 250 = .ok (.ireturn, 1) := zdec_at bX0_law_250 0 rfl
theorem dX0_law_251 : decode cX0_law 251 = .ok (.aload_n 1, 1) := zdec_at bX0_law_250 1 rfl
theorem dX0_law_252 : decode cX0_law 252 = .ok (.aload_n 0, 1) := zdec_at bX0_law_250 2 rfl
theorem dX0_law_253 : decode cX0_law 253 = .ok (.iload 4, 2) := zdec_at bX0_law_250 3 rfl
theorem dX0_law_255 : decode cX0_law 255 = .ok (.iconst 1, 1) := zdec_at bX0_law_250 4 rfl
theorem dX0_law_256 : decode cX0_law 256 = .ok (.iadd, 1) := zdec_at bX0_law_250 5 rfl
theorem dX0_law_257 : decode cX0_law 257 = .ok (.iaload, 1) := zdec_at bX0_law_250 6 rfl
theorem dX0_law_258 : decode cX0_law 258 = .ok (.invokevirtual 41, 3) := zdec_at bX0_law_250 7 rfl
theorem dX0_law_261 : decode cX0_law 261 = .ok (.aload_n 2, 1) := zdec_at bX0_law_250 8 rfl
theorem dX0_law_262 : decode cX0_law 262 = .ok (.aload_n 0, 1) := zdec_at bX0_law_250 9 rfl
theorem dX0_law_263 : decode cX0_law 263 = .ok (.iload 4, 2) := zdec_at bX0_law_250 10 rfl
theorem dX0_law_265 : decode cX0_law 265 = .ok (.iconst 1, 1) := zdec_at bX0_law_250 11 rfl
theorem dX0_law_266 : decode cX0_law 266 = .ok (.iadd, 1) := zdec_at bX0_law_250 12 rfl
theorem dX0_law_267 : decode cX0_law 267 = .ok (.iaload, 1) := zdec_at bX0_law_250 13 rfl
theorem dX0_law_268 : decode cX0_law 268 = .ok (.invokevirtual 44, 3) := zdec_at bX0_law_250 14 rfl
theorem dX0_law_271 : decode cX0_law 271 = .ok (.if_icmp .eq 699, 3) := zdec_at bX0_law_250 15 rfl
theorem bX0_law_274 : zdec cX0_law 274 [(274, .iconst 0, 1), (275, .ireturn, 1), (276, .aload_n 1, 1), (277, .aload_n 0, 1), (278, .iload 4, 2), (280, .iconst 1, 1), (281, .iadd, 1), (282, .iaload, 1), (283, .aload_n 0, 1), (284, .iload 4, 2), (286, .iconst 2, 1), (287, .iadd, 1), (288, .iaload, 1), (289, .invokevirtual 45, 3), (292, .aload_n 2, 1), (293, .aload_n 0, 1)] = true := by decide +kernel
theorem dX0_law_274 : decode cX0_law 274 = .ok (.iconst 0, 1) := zdec_at bX0_law_274 0 rfl
theorem dX0_law_275 : decode cX0_law 275 = .ok (.ireturn, 1) := zdec_at bX0_law_274 1 rfl
theorem dX0_law_276 : decode cX0_law 276 = .ok (.aload_n 1, 1) := zdec_at bX0_law_274 2 rfl
theorem dX0_law_277 : decode cX0_law 277 = .ok (.aload_n 0, 1) := zdec_at bX0_law_274 3 rfl
theorem dX0_law_278 : decode cX0_law 278 = .ok (.iload 4, 2) := zdec_at bX0_law_274 4 rfl
theorem dX0_law_280 : decode cX0_law 280 = .ok (.iconst 1, 1) := zdec_at bX0_law_274 5 rfl
theorem dX0_law_281 : decode cX0_law 281 = .ok (.iadd, 1) := zdec_at bX0_law_274 6 rfl
theorem dX0_law_282 : decode cX0_law 282 = .ok (.iaload, 1) := zdec_at bX0_law_274 7 rfl
theorem dX0_law_283 : decode cX0_law 283 = .ok (.aload_n 0, 1) := zdec_at bX0_law_274 8 rfl
theorem dX0_law_284 : decode cX0_law 284 = .ok (.iload 4, 2) := zdec_at bX0_law_274 9 rfl
theorem dX0_law_286 : decode cX0_law 286 = .ok (.iconst 2, 1) := zdec_at bX0_law_274 10 rfl
theorem dX0_law_287 : decode cX0_law 287 = .ok (.iadd, 1) := zdec_at bX0_law_274 11 rfl
theorem dX0_law_288 : decode cX0_law 288 = .ok (.iaload, 1) := zdec_at bX0_law_274 12 rfl
theorem dX0_law_289 : decode cX0_law 289 = .ok (.invokevirtual 45, 3) := zdec_at bX0_law_274 13 rfl
theorem dX0_law_292 : decode cX0_law 292 = .ok (.aload_n 2, 1) := zdec_at bX0_law_274 14 rfl
theorem dX0_law_293 : decode cX0_law 293 = .ok (.aload_n 0, 1) := zdec_at bX0_law_274 15 rfl
theorem bX0_law_294 : zdec cX0_law 294 [(294, .iload 4, 2), (296, .iconst 1, 1), (297, .iadd, 1), (298, .iaload, 1), (299, .aload_n 0, 1), (300, .iload 4, 2), (302, .iconst 2, 1), (303, .iadd, 1), (304, .iaload, 1), (305, .invokevirtual 49, 3), (308, .if_icmp .eq 662, 3), (311, .iconst 0, 1), (312, .ireturn, 1), (313, .aload_n 1, 1), (314, .aload_n 0, 1), (315, .iload 4, 2)] = true := by decide +kernel
theorem dX0_law_294 : decode cX0_law 294 = .ok (.iload 4, 2) := zdec_at bX0_law_294 0 rfl
theorem dX0_law_296 : decode cX0_law 296 = .ok (.iconst 1, 1) := zdec_at bX0_law_294 1 rfl
theorem dX0_law_297 : decode cX0_law 297 = .ok (.iadd, 1) := zdec_at bX0_law_294 2 rfl
theorem dX0_law_298 : decode cX0_law 298 = .ok (.iaload, 1) := zdec_at bX0_law_294 3 rfl
theorem dX0_law_299 : decode cX0_law 299 = .ok (.aload_n 0, 1) := zdec_at bX0_law_294 4 rfl
theorem dX0_law_300 : decode cX0_law 300 = .ok (.iload 4, 2) := zdec_at bX0_law_294 5 rfl
theorem dX0_law_302 : decode cX0_law 302 = .ok (.iconst 2, 1) := zdec_at bX0_law_294 6 rfl
theorem dX0_law_303 : decode cX0_law 303 = .ok (.iadd, 1) := zdec_at bX0_law_294 7 rfl
theorem dX0_law_304 : decode cX0_law 304 = .ok (.iaload, 1) := zdec_at bX0_law_294 8 rfl
theorem dX0_law_305 : decode cX0_law 305 = .ok (.invokevirtual 49, 3) := zdec_at bX0_law_294 9 rfl
theorem dX0_law_308 : decode cX0_law 308 = .ok (.if_icmp .eq 662, 3) := zdec_at bX0_law_294 10 rfl
theorem dX0_law_311 : decode cX0_law 311 = .ok (.iconst 0, 1) := zdec_at bX0_law_294 11 rfl
theorem dX0_law_312 : decode cX0_law 312 = .ok (.ireturn, 1) := zdec_at bX0_law_294 12 rfl
theorem dX0_law_313 : decode cX0_law 313 = .ok (.aload_n 1, 1) := zdec_at bX0_law_294 13 rfl
theorem dX0_law_314 : decode cX0_law 314 = .ok (.aload_n 0, 1) := zdec_at bX0_law_294 14 rfl
theorem dX0_law_315 : decode cX0_law 315 = .ok (.iload 4, 2) := zdec_at bX0_law_294 15 rfl
theorem bX0_law_317 : zdec cX0_law 317 [(317, .iconst 1, 1), (318, .iadd, 1), (319, .iaload, 1), (320, .aload_n 0, 1), (321, .iload 4, 2), (323, .iconst 2, 1), (324, .iadd, 1), (325, .iaload, 1), (326, .invokevirtual 50, 3), (329, .aload_n 2, 1), (330, .aload_n 0, 1), (331, .iload 4, 2), (333, .iconst 1, 1), (334, .iadd, 1), (335, .iaload, 1), (336, .aload_n 0, 1)] = true := by decide +kernel
theorem dX0_law_317 : decode cX0_law 317 = .ok (.iconst 1, 1) := zdec_at bX0_law_317 0 rfl
theorem dX0_law_318 : decode cX0_law 318 = .ok (.iadd, 1) := zdec_at bX0_law_317 1 rfl
theorem dX0_law_319 : decode cX0_law 319 = .ok (.iaload, 1) := zdec_at bX0_law_317 2 rfl
theorem dX0_law_320 : decode cX0_law 320 = .ok (.aload_n 0, 1) := zdec_at bX0_law_317 3 rfl
theorem dX0_law_321 : decode cX0_law 321 = .ok (.iload 4, 2) := zdec_at bX0_law_317 4 rfl
theorem dX0_law_323 : decode cX0_law 323 = .ok (.iconst 2, 1) := zdec_at bX0_law_317 5 rfl
theorem dX0_law_324 : decode cX0_law 324 = .ok (.iadd, 1) := zdec_at bX0_law_317 6 rfl
theorem dX0_law_325 : decode cX0_law 325 = .ok (.iaload, 1) := zdec_at bX0_law_317 7 rfl
theorem dX0_law_326 : decode cX0_law 326 = .ok (.invokevirtual 50, 3) := zdec_at bX0_law_317 8 rfl
theorem dX0_law_329 : decode cX0_law 329 = .ok (.aload_n 2, 1) := zdec_at bX0_law_317 9 rfl
theorem dX0_law_330 : decode cX0_law 330 = .ok (.aload_n 0, 1) := zdec_at bX0_law_317 10 rfl
theorem dX0_law_331 : decode cX0_law 331 = .ok (.iload 4, 2) := zdec_at bX0_law_317 11 rfl
theorem dX0_law_333 : decode cX0_law 333 = .ok (.iconst 1, 1) := zdec_at bX0_law_317 12 rfl
theorem dX0_law_334 : decode cX0_law 334 = .ok (.iadd, 1) := zdec_at bX0_law_317 13 rfl
theorem dX0_law_335 : decode cX0_law 335 = .ok (.iaload, 1) := zdec_at bX0_law_317 14 rfl
theorem dX0_law_336 : decode cX0_law 336 = .ok (.aload_n 0, 1) := zdec_at bX0_law_317 15 rfl
theorem bX0_law_337 : zdec cX0_law 337 [(337, .iload 4, 2), (339, .iconst 2, 1), (340, .iadd, 1), (341, .iaload, 1), (342, .invokevirtual 53, 3), (345, .if_icmp .eq 625, 3), (348, .iconst 0, 1), (349, .ireturn, 1), (350, .aload_n 1, 1), (351, .invokestatic 54, 3), (354, .istore 5, 2), (356, .aload_n 2, 1), (357, .invokevirtual 59, 3), (360, .aload_n 2, 1), (361, .invokevirtual 60, 3), (364, .iload 5, 2)] = true := by decide +kernel
theorem dX0_law_337 : decode cX0_law 337 = .ok (.iload 4, 2) := zdec_at bX0_law_337 0 rfl
theorem dX0_law_339 : decode cX0_law 339 = .ok (.iconst 2, 1) := zdec_at bX0_law_337 1 rfl
theorem dX0_law_340 : decode cX0_law 340 = .ok (.iadd, 1) := zdec_at bX0_law_337 2 rfl
theorem dX0_law_341 : decode cX0_law 341 = .ok (.iaload, 1) := zdec_at bX0_law_337 3 rfl
theorem dX0_law_342 : decode cX0_law 342 = .ok (.invokevirtual 53, 3) := zdec_at bX0_law_337 4 rfl
theorem dX0_law_345 : decode cX0_law 345 = .ok (.if_icmp .eq 625, 3) := zdec_at bX0_law_337 5 rfl
theorem dX0_law_348 : decode cX0_law 348 = .ok (.iconst 0, 1) := zdec_at bX0_law_337 6 rfl
theorem dX0_law_349 : decode cX0_law 349 = .ok (.ireturn, 1) := zdec_at bX0_law_337 7 rfl
theorem dX0_law_350 : decode cX0_law 350 = .ok (.aload_n 1, 1) := zdec_at bX0_law_337 8 rfl
theorem dX0_law_351 : decode cX0_law 351 = .ok (.invokestatic 54, 3) := zdec_at bX0_law_337 9 rfl
theorem dX0_law_354 : decode cX0_law 354 = .ok (.istore 5, 2) := zdec_at bX0_law_337 10 rfl
theorem dX0_law_356 : decode cX0_law 356 = .ok (.aload_n 2, 1) := zdec_at bX0_law_337 11 rfl
theorem dX0_law_357 : decode cX0_law 357 = .ok (.invokevirtual 59, 3) := zdec_at bX0_law_337 12 rfl
theorem dX0_law_360 : decode cX0_law 360 = .ok (.aload_n 2, 1) := zdec_at bX0_law_337 13 rfl
theorem dX0_law_361 : decode cX0_law 361 = .ok (.invokevirtual 60, 3) := zdec_at bX0_law_337 14 rfl
theorem dX0_law_364 : decode cX0_law 364 = .ok (.iload 5, 2) := zdec_at bX0_law_337 15 rfl
theorem bX0_law_366 : zdec cX0_law 366 [(366, .if_icmp .eq 5, 3), (369, .iconst 0, 1), (370, .ireturn, 1), (371, .goto 599, 3), (374, .aload_n 1, 1), (375, .aload_n 0, 1), (376, .iload 4, 2), (378, .iconst 1, 1), (379, .iadd, 1), (380, .iaload, 1), (381, .aload_n 3, 1), (382, .invokestatic 63, 3), (385, .istore 5, 2), (387, .aload_n 2, 1), (388, .aload_n 0, 1), (389, .iload 4, 2)] = true := by decide +kernel
theorem dX0_law_366 : decode cX0_law 366 = .ok (.if_icmp .eq 5, 3) := zdec_at bX0_law_366 0 rfl
theorem dX0_law_369 : decode cX0_law 369 = .ok (.iconst 0, 1) := zdec_at bX0_law_366 1 rfl
theorem dX0_law_370 : decode cX0_law 370 = .ok (.ireturn, 1) := zdec_at bX0_law_366 2 rfl
theorem dX0_law_371 : decode cX0_law 371 = .ok (.goto 599, 3) := zdec_at bX0_law_366 3 rfl
theorem dX0_law_374 : decode cX0_law 374 = .ok (.aload_n 1, 1) := zdec_at bX0_law_366 4 rfl
theorem dX0_law_375 : decode cX0_law 375 = .ok (.aload_n 0, 1) := zdec_at bX0_law_366 5 rfl
theorem dX0_law_376 : decode cX0_law 376 = .ok (.iload 4, 2) := zdec_at bX0_law_366 6 rfl
theorem dX0_law_378 : decode cX0_law 378 = .ok (.iconst 1, 1) := zdec_at bX0_law_366 7 rfl
theorem dX0_law_379 : decode cX0_law 379 = .ok (.iadd, 1) := zdec_at bX0_law_366 8 rfl
theorem dX0_law_380 : decode cX0_law 380 = .ok (.iaload, 1) := zdec_at bX0_law_366 9 rfl
theorem dX0_law_381 : decode cX0_law 381 = .ok (.aload_n 3, 1) := zdec_at bX0_law_366 10 rfl
theorem dX0_law_382 : decode cX0_law 382 = .ok (.invokestatic 63, 3) := zdec_at bX0_law_366 11 rfl
theorem dX0_law_385 : decode cX0_law 385 = .ok (.istore 5, 2) := zdec_at bX0_law_366 12 rfl
theorem dX0_law_387 : decode cX0_law 387 = .ok (.aload_n 2, 1) := zdec_at bX0_law_366 13 rfl
theorem dX0_law_388 : decode cX0_law 388 = .ok (.aload_n 0, 1) := zdec_at bX0_law_366 14 rfl
theorem dX0_law_389 : decode cX0_law 389 = .ok (.iload 4, 2) := zdec_at bX0_law_366 15 rfl
theorem bX0_law_391 : zdec cX0_law 391 [(391, .iconst 1, 1), (392, .iadd, 1), (393, .iaload, 1), (394, .invokevirtual 66, 3), (397, .istore 6, 2), (399, .aload_n 2, 1), (400, .invokevirtual 60, 3), (403, .iload 5, 2), (405, .if_icmp .eq 5, 3), (408, .iconst 0, 1), (409, .ireturn, 1), (410, .iload 5, 2), (412, .ifCond .ne 15, 3), (415, .aload_n 3, 1), (416, .iconst 0, 1), (417, .laload, 1)] = true := by decide +kernel
theorem dX0_law_391 : decode cX0_law 391 = .ok (.iconst 1, 1) := zdec_at bX0_law_391 0 rfl
theorem dX0_law_392 : decode cX0_law 392 = .ok (.iadd, 1) := zdec_at bX0_law_391 1 rfl
theorem dX0_law_393 : decode cX0_law 393 = .ok (.iaload, 1) := zdec_at bX0_law_391 2 rfl
theorem dX0_law_394 : decode cX0_law 394 = .ok (.invokevirtual 66, 3) := zdec_at bX0_law_391 3 rfl
theorem dX0_law_397 : decode cX0_law 397 = .ok (.istore 6, 2) := zdec_at bX0_law_391 4 rfl
theorem dX0_law_399 : decode cX0_law 399 = .ok (.aload_n 2, 1) := zdec_at bX0_law_391 5 rfl
theorem dX0_law_400 : decode cX0_law 400 = .ok (.invokevirtual 60, 3) := zdec_at bX0_law_391 6 rfl
theorem dX0_law_403 : decode cX0_law 403 = .ok (.iload 5, 2) := zdec_at bX0_law_391 7 rfl
theorem dX0_law_405 : decode cX0_law 405 = .ok (.if_icmp .eq 5, 3) := zdec_at bX0_law_391 8 rfl
theorem dX0_law_408 : decode cX0_law 408 = .ok (.iconst 0, 1) := zdec_at bX0_law_391 9 rfl
theorem dX0_law_409 : decode cX0_law 409 = .ok (.ireturn, 1) := zdec_at bX0_law_391 10 rfl
theorem dX0_law_410 : decode cX0_law 410 = .ok (.iload 5, 2) := zdec_at bX0_law_391 11 rfl
theorem dX0_law_412 : decode cX0_law 412 = .ok (.ifCond .ne 15, 3) := zdec_at bX0_law_391 12 rfl
theorem dX0_law_415 : decode cX0_law 415 = .ok (.aload_n 3, 1) := zdec_at bX0_law_391 13 rfl
theorem dX0_law_416 : decode cX0_law 416 = .ok (.iconst 0, 1) := zdec_at bX0_law_391 14 rfl
theorem dX0_law_417 : decode cX0_law 417 = .ok (.laload, 1) := zdec_at bX0_law_391 15 rfl
theorem bX0_law_418 : zdec cX0_law 418 [(418, .iload 6, 2), (420, .i2l, 1), (421, .lcmp, 1), (422, .ifCond .eq 5, 3), (425, .iconst 0, 1), (426, .ireturn, 1), (427, .goto 543, 3), (430, .aload_n 1, 1), (431, .aload_n 0, 1), (432, .iload 4, 2), (434, .iconst 1, 1), (435, .iadd, 1), (436, .iaload, 1), (437, .aload_n 0, 1), (438, .iload 4, 2), (440, .iconst 2, 1)] = true := by decide +kernel
theorem dX0_law_418 : decode cX0_law 418 = .ok (.iload 6, 2) := zdec_at bX0_law_418 0 rfl
theorem dX0_law_420 : decode cX0_law 420 = .ok (.i2l, 1) := zdec_at bX0_law_418 1 rfl
theorem dX0_law_421 : decode cX0_law 421 = .ok (.lcmp, 1) := zdec_at bX0_law_418 2 rfl
theorem dX0_law_422 : decode cX0_law 422 = .ok (.ifCond .eq 5, 3) := zdec_at bX0_law_418 3 rfl
theorem dX0_law_425 : decode cX0_law 425 = .ok (.iconst 0, 1) := zdec_at bX0_law_418 4 rfl
theorem dX0_law_426 : decode cX0_law 426 = .ok (.ireturn, 1) := zdec_at bX0_law_418 5 rfl
theorem dX0_law_427 : decode cX0_law 427 = .ok (.goto 543, 3) := zdec_at bX0_law_418 6 rfl
theorem dX0_law_430 : decode cX0_law 430 = .ok (.aload_n 1, 1) := zdec_at bX0_law_418 7 rfl
theorem dX0_law_431 : decode cX0_law 431 = .ok (.aload_n 0, 1) := zdec_at bX0_law_418 8 rfl
theorem dX0_law_432 : decode cX0_law 432 = .ok (.iload 4, 2) := zdec_at bX0_law_418 9 rfl
theorem dX0_law_434 : decode cX0_law 434 = .ok (.iconst 1, 1) := zdec_at bX0_law_418 10 rfl
theorem dX0_law_435 : decode cX0_law 435 = .ok (.iadd, 1) := zdec_at bX0_law_418 11 rfl
theorem dX0_law_436 : decode cX0_law 436 = .ok (.iaload, 1) := zdec_at bX0_law_418 12 rfl
theorem dX0_law_437 : decode cX0_law 437 = .ok (.aload_n 0, 1) := zdec_at bX0_law_418 13 rfl
theorem dX0_law_438 : decode cX0_law 438 = .ok (.iload 4, 2) := zdec_at bX0_law_418 14 rfl
theorem dX0_law_440 : decode cX0_law 440 = .ok (.iconst 2, 1) := zdec_at bX0_law_418 15 rfl
theorem bX0_law_441 : zdec cX0_law 441 [(441, .iadd, 1), (442, .iaload, 1), (443, .invokevirtual 67, 3), (446, .aload_n 2, 1), (447, .aload_n 0, 1), (448, .iload 4, 2), (450, .iconst 1, 1), (451, .iadd, 1), (452, .iaload, 1), (453, .aload_n 0, 1), (454, .iload 4, 2), (456, .iconst 2, 1), (457, .iadd, 1), (458, .iaload, 1), (459, .invokevirtual 70, 3), (462, .if_icmp .eq 508, 3)] = true := by decide +kernel
theorem dX0_law_441 : decode cX0_law 441 = .ok (.iadd, 1) := zdec_at bX0_law_441 0 rfl
theorem dX0_law_442 : decode cX0_law 442 = .ok (.iaload, 1) := zdec_at bX0_law_441 1 rfl
theorem dX0_law_443 : decode cX0_law 443 = .ok (.invokevirtual 67, 3) := zdec_at bX0_law_441 2 rfl
theorem dX0_law_446 : decode cX0_law 446 = .ok (.aload_n 2, 1) := zdec_at bX0_law_441 3 rfl
theorem dX0_law_447 : decode cX0_law 447 = .ok (.aload_n 0, 1) := zdec_at bX0_law_441 4 rfl
theorem dX0_law_448 : decode cX0_law 448 = .ok (.iload 4, 2) := zdec_at bX0_law_441 5 rfl
theorem dX0_law_450 : decode cX0_law 450 = .ok (.iconst 1, 1) := zdec_at bX0_law_441 6 rfl
theorem dX0_law_451 : decode cX0_law 451 = .ok (.iadd, 1) := zdec_at bX0_law_441 7 rfl
theorem dX0_law_452 : decode cX0_law 452 = .ok (.iaload, 1) := zdec_at bX0_law_441 8 rfl
theorem dX0_law_453 : decode cX0_law 453 = .ok (.aload_n 0, 1) := zdec_at bX0_law_441 9 rfl
theorem dX0_law_454 : decode cX0_law 454 = .ok (.iload 4, 2) := zdec_at bX0_law_441 10 rfl
theorem dX0_law_456 : decode cX0_law 456 = .ok (.iconst 2, 1) := zdec_at bX0_law_441 11 rfl
theorem dX0_law_457 : decode cX0_law 457 = .ok (.iadd, 1) := zdec_at bX0_law_441 12 rfl
theorem dX0_law_458 : decode cX0_law 458 = .ok (.iaload, 1) := zdec_at bX0_law_441 13 rfl
theorem dX0_law_459 : decode cX0_law 459 = .ok (.invokevirtual 70, 3) := zdec_at bX0_law_441 14 rfl
theorem dX0_law_462 : decode cX0_law 462 = .ok (.if_icmp .eq 508, 3) := zdec_at bX0_law_441 15 rfl
theorem bX0_law_465 : zdec cX0_law 465 [(465, .iconst 0, 1), (466, .ireturn, 1), (467, .aload_n 1, 1), (468, .aload_n 0, 1), (469, .iload 4, 2), (471, .iconst 1, 1), (472, .iadd, 1), (473, .iaload, 1), (474, .aload_n 0, 1), (475, .iload 4, 2), (477, .iconst 2, 1), (478, .iadd, 1), (479, .iaload, 1), (480, .aload_n 0, 1), (481, .iload 4, 2), (483, .iconst 3, 1)] = true := by decide +kernel
theorem dX0_law_465 : decode cX0_law 465 = .ok (.iconst 0, 1) := zdec_at bX0_law_465 0 rfl
theorem dX0_law_466 : decode cX0_law 466 = .ok (.ireturn, 1) := zdec_at bX0_law_465 1 rfl
theorem dX0_law_467 : decode cX0_law 467 = .ok (.aload_n 1, 1) := zdec_at bX0_law_465 2 rfl
theorem dX0_law_468 : decode cX0_law 468 = .ok (.aload_n 0, 1) := zdec_at bX0_law_465 3 rfl
theorem dX0_law_469 : decode cX0_law 469 = .ok (.iload 4, 2) := zdec_at bX0_law_465 4 rfl
theorem dX0_law_471 : decode cX0_law 471 = .ok (.iconst 1, 1) := zdec_at bX0_law_465 5 rfl
theorem dX0_law_472 : decode cX0_law 472 = .ok (.iadd, 1) := zdec_at bX0_law_465 6 rfl
theorem dX0_law_473 : decode cX0_law 473 = .ok (.iaload, 1) := zdec_at bX0_law_465 7 rfl
theorem dX0_law_474 : decode cX0_law 474 = .ok (.aload_n 0, 1) := zdec_at bX0_law_465 8 rfl
theorem dX0_law_475 : decode cX0_law 475 = .ok (.iload 4, 2) := zdec_at bX0_law_465 9 rfl
theorem dX0_law_477 : decode cX0_law 477 = .ok (.iconst 2, 1) := zdec_at bX0_law_465 10 rfl
theorem dX0_law_478 : decode cX0_law 478 = .ok (.iadd, 1) := zdec_at bX0_law_465 11 rfl
theorem dX0_law_479 : decode cX0_law 479 = .ok (.iaload, 1) := zdec_at bX0_law_465 12 rfl
theorem dX0_law_480 : decode cX0_law 480 = .ok (.aload_n 0, 1) := zdec_at bX0_law_465 13 rfl
theorem dX0_law_481 : decode cX0_law 481 = .ok (.iload 4, 2) := zdec_at bX0_law_465 14 rfl
theorem dX0_law_483 : decode cX0_law 483 = .ok (.iconst 3, 1) := zdec_at bX0_law_465 15 rfl
theorem bX0_law_484 : zdec cX0_law 484 [(484, .iadd, 1), (485, .iaload, 1), (486, .invokevirtual 71, 3), (489, .aload_n 2, 1), (490, .aload_n 0, 1), (491, .iload 4, 2), (493, .iconst 1, 1), (494, .iadd, 1), (495, .iaload, 1), (496, .aload_n 0, 1), (497, .iload 4, 2), (499, .iconst 2, 1), (500, .iadd, 1), (501, .iaload, 1), (502, .aload_n 0, 1), (503, .iload 4, 2)] = true := by decide +kernel
theorem dX0_law_484 : decode cX0_law 484 = .ok (.iadd, 1) := zdec_at bX0_law_484 0 rfl
theorem dX0_law_485 : decode cX0_law 485 = .ok (.iaload, 1) := zdec_at bX0_law_484 1 rfl
theorem dX0_law_486 : decode cX0_law 486 = .ok (.invokevirtual 71, 3) := zdec_at bX0_law_484 2 rfl
theorem dX0_law_489 : decode cX0_law 489 = .ok (.aload_n 2, 1) := zdec_at bX0_law_484 3 rfl
theorem dX0_law_490 : decode cX0_law 490 = .ok (.aload_n 0, 1) := zdec_at bX0_law_484 4 rfl
theorem dX0_law_491 : decode cX0_law 491 = .ok (.iload 4, 2) := zdec_at bX0_law_484 5 rfl
theorem dX0_law_493 : decode cX0_law 493 = .ok (.iconst 1, 1) := zdec_at bX0_law_484 6 rfl
theorem dX0_law_494 : decode cX0_law 494 = .ok (.iadd, 1) := zdec_at bX0_law_484 7 rfl
theorem dX0_law_495 : decode cX0_law 495 = .ok (.iaload, 1) := zdec_at bX0_law_484 8 rfl
theorem dX0_law_496 : decode cX0_law 496 = .ok (.aload_n 0, 1) := zdec_at bX0_law_484 9 rfl
theorem dX0_law_497 : decode cX0_law 497 = .ok (.iload 4, 2) := zdec_at bX0_law_484 10 rfl
theorem dX0_law_499 : decode cX0_law 499 = .ok (.iconst 2, 1) := zdec_at bX0_law_484 11 rfl
theorem dX0_law_500 : decode cX0_law 500 = .ok (.iadd, 1) := zdec_at bX0_law_484 12 rfl
theorem dX0_law_501 : decode cX0_law 501 = .ok (.iaload, 1) := zdec_at bX0_law_484 13 rfl
theorem dX0_law_502 : decode cX0_law 502 = .ok (.aload_n 0, 1) := zdec_at bX0_law_484 14 rfl
theorem dX0_law_503 : decode cX0_law 503 = .ok (.iload 4, 2) := zdec_at bX0_law_484 15 rfl
theorem bX0_law_505 : zdec cX0_law 505 [(505, .iconst 3, 1), (506, .iadd, 1), (507, .iaload, 1), (508, .invokevirtual 75, 3), (511, .if_icmp .eq 459, 3), (514, .iconst 0, 1), (515, .ireturn, 1), (516, .aload_n 1, 1), (517, .aload_n 0, 1), (518, .iload 4, 2), (520, .iconst 1, 1), (521, .iadd, 1), (522, .iaload, 1), (523, .aload_n 0, 1), (524, .iload 4, 2), (526, .iconst 2, 1)] = true := by decide +kernel
theorem dX0_law_505 : decode cX0_law 505 = .ok (.iconst 3, 1) := zdec_at bX0_law_505 0 rfl
theorem dX0_law_506 : decode cX0_law 506 = .ok (.iadd, 1) := zdec_at bX0_law_505 1 rfl
theorem dX0_law_507 : decode cX0_law 507 = .ok (.iaload, 1) := zdec_at bX0_law_505 2 rfl
theorem dX0_law_508 : decode cX0_law 508 = .ok (.invokevirtual 75, 3) := zdec_at bX0_law_505 3 rfl
theorem dX0_law_511 : decode cX0_law 511 = .ok (.if_icmp .eq 459, 3) := zdec_at bX0_law_505 4 rfl
theorem dX0_law_514 : decode cX0_law 514 = .ok (.iconst 0, 1) := zdec_at bX0_law_505 5 rfl
theorem dX0_law_515 : decode cX0_law 515 = .ok (.ireturn, 1) := zdec_at bX0_law_505 6 rfl
theorem dX0_law_516 : decode cX0_law 516 = .ok (.aload_n 1, 1) := zdec_at bX0_law_505 7 rfl
theorem dX0_law_517 : decode cX0_law 517 = .ok (.aload_n 0, 1) := zdec_at bX0_law_505 8 rfl
theorem dX0_law_518 : decode cX0_law 518 = .ok (.iload 4, 2) := zdec_at bX0_law_505 9 rfl
theorem dX0_law_520 : decode cX0_law 520 = .ok (.iconst 1, 1) := zdec_at bX0_law_505 10 rfl
theorem dX0_law_521 : decode cX0_law 521 = .ok (.iadd, 1) := zdec_at bX0_law_505 11 rfl
theorem dX0_law_522 : decode cX0_law 522 = .ok (.iaload, 1) := zdec_at bX0_law_505 12 rfl
theorem dX0_law_523 : decode cX0_law 523 = .ok (.aload_n 0, 1) := zdec_at bX0_law_505 13 rfl
theorem dX0_law_524 : decode cX0_law 524 = .ok (.iload 4, 2) := zdec_at bX0_law_505 14 rfl
theorem dX0_law_526 : decode cX0_law 526 = .ok (.iconst 2, 1) := zdec_at bX0_law_505 15 rfl
theorem bX0_law_527 : zdec cX0_law 527 [(527, .iadd, 1), (528, .iaload, 1), (529, .invokevirtual 76, 3), (532, .aload_n 2, 1), (533, .aload_n 0, 1), (534, .iload 4, 2), (536, .iconst 1, 1), (537, .iadd, 1), (538, .iaload, 1), (539, .aload_n 0, 1), (540, .iload 4, 2), (542, .iconst 2, 1), (543, .iadd, 1), (544, .iaload, 1), (545, .invokevirtual 79, 3), (548, .if_icmp .eq 422, 3)] = true := by decide +kernel
theorem dX0_law_527 : decode cX0_law 527 = .ok (.iadd, 1) := zdec_at bX0_law_527 0 rfl
theorem dX0_law_528 : decode cX0_law 528 = .ok (.iaload, 1) := zdec_at bX0_law_527 1 rfl
theorem dX0_law_529 : decode cX0_law 529 = .ok (.invokevirtual 76, 3) := zdec_at bX0_law_527 2 rfl
theorem dX0_law_532 : decode cX0_law 532 = .ok (.aload_n 2, 1) := zdec_at bX0_law_527 3 rfl
theorem dX0_law_533 : decode cX0_law 533 = .ok (.aload_n 0, 1) := zdec_at bX0_law_527 4 rfl
theorem dX0_law_534 : decode cX0_law 534 = .ok (.iload 4, 2) := zdec_at bX0_law_527 5 rfl
theorem dX0_law_536 : decode cX0_law 536 = .ok (.iconst 1, 1) := zdec_at bX0_law_527 6 rfl
theorem dX0_law_537 : decode cX0_law 537 = .ok (.iadd, 1) := zdec_at bX0_law_527 7 rfl
theorem dX0_law_538 : decode cX0_law 538 = .ok (.iaload, 1) := zdec_at bX0_law_527 8 rfl
theorem dX0_law_539 : decode cX0_law 539 = .ok (.aload_n 0, 1) := zdec_at bX0_law_527 9 rfl
theorem dX0_law_540 : decode cX0_law 540 = .ok (.iload 4, 2) := zdec_at bX0_law_527 10 rfl
theorem dX0_law_542 : decode cX0_law 542 = .ok (.iconst 2, 1) := zdec_at bX0_law_527 11 rfl
theorem dX0_law_543 : decode cX0_law 543 = .ok (.iadd, 1) := zdec_at bX0_law_527 12 rfl
theorem dX0_law_544 : decode cX0_law 544 = .ok (.iaload, 1) := zdec_at bX0_law_527 13 rfl
theorem dX0_law_545 : decode cX0_law 545 = .ok (.invokevirtual 79, 3) := zdec_at bX0_law_527 14 rfl
theorem dX0_law_548 : decode cX0_law 548 = .ok (.if_icmp .eq 422, 3) := zdec_at bX0_law_527 15 rfl
theorem bX0_law_551 : zdec cX0_law 551 [(551, .iconst 0, 1), (552, .ireturn, 1), (553, .aload_n 1, 1), (554, .aload_n 0, 1), (555, .iload 4, 2), (557, .iconst 1, 1), (558, .iadd, 1), (559, .iaload, 1), (560, .aload_n 0, 1), (561, .iload 4, 2), (563, .iconst 2, 1), (564, .iadd, 1), (565, .iaload, 1), (566, .aload_n 0, 1), (567, .iload 4, 2), (569, .iconst 3, 1)] = true := by decide +kernel
theorem dX0_law_551 : decode cX0_law 551 = .ok (.iconst 0, 1) := zdec_at bX0_law_551 0 rfl
theorem dX0_law_552 : decode cX0_law 552 = .ok (.ireturn, 1) := zdec_at bX0_law_551 1 rfl
theorem dX0_law_553 : decode cX0_law 553 = .ok (.aload_n 1, 1) := zdec_at bX0_law_551 2 rfl
theorem dX0_law_554 : decode cX0_law 554 = .ok (.aload_n 0, 1) := zdec_at bX0_law_551 3 rfl
theorem dX0_law_555 : decode cX0_law 555 = .ok (.iload 4, 2) := zdec_at bX0_law_551 4 rfl
theorem dX0_law_557 : decode cX0_law 557 = .ok (.iconst 1, 1) := zdec_at bX0_law_551 5 rfl
theorem dX0_law_558 : decode cX0_law 558 = .ok (.iadd, 1) := zdec_at bX0_law_551 6 rfl
theorem dX0_law_559 : decode cX0_law 559 = .ok (.iaload, 1) := zdec_at bX0_law_551 7 rfl
theorem dX0_law_560 : decode cX0_law 560 = .ok (.aload_n 0, 1) := zdec_at bX0_law_551 8 rfl
theorem dX0_law_561 : decode cX0_law 561 = .ok (.iload 4, 2) := zdec_at bX0_law_551 9 rfl
theorem dX0_law_563 : decode cX0_law 563 = .ok (.iconst 2, 1) := zdec_at bX0_law_551 10 rfl
theorem dX0_law_564 : decode cX0_law 564 = .ok (.iadd, 1) := zdec_at bX0_law_551 11 rfl
theorem dX0_law_565 : decode cX0_law 565 = .ok (.iaload, 1) := zdec_at bX0_law_551 12 rfl
theorem dX0_law_566 : decode cX0_law 566 = .ok (.aload_n 0, 1) := zdec_at bX0_law_551 13 rfl
theorem dX0_law_567 : decode cX0_law 567 = .ok (.iload 4, 2) := zdec_at bX0_law_551 14 rfl
theorem dX0_law_569 : decode cX0_law 569 = .ok (.iconst 3, 1) := zdec_at bX0_law_551 15 rfl
theorem bX0_law_570 : zdec cX0_law 570 [(570, .iadd, 1), (571, .iaload, 1), (572, .invokevirtual 80, 3), (575, .aload_n 2, 1), (576, .aload_n 0, 1), (577, .iload 4, 2), (579, .iconst 1, 1), (580, .iadd, 1), (581, .iaload, 1), (582, .aload_n 0, 1), (583, .iload 4, 2), (585, .iconst 2, 1), (586, .iadd, 1), (587, .iaload, 1), (588, .aload_n 0, 1), (589, .iload 4, 2)] = true := by decide +kernel
theorem dX0_law_570 : decode cX0_law 570 = .ok (.iadd, 1) := zdec_at bX0_law_570 0 rfl
theorem dX0_law_571 : decode cX0_law 571 = .ok (.iaload, 1) := zdec_at bX0_law_570 1 rfl
theorem dX0_law_572 : decode cX0_law 572 = .ok (.invokevirtual 80, 3) := zdec_at bX0_law_570 2 rfl
theorem dX0_law_575 : decode cX0_law 575 = .ok (.aload_n 2, 1) := zdec_at bX0_law_570 3 rfl
theorem dX0_law_576 : decode cX0_law 576 = .ok (.aload_n 0, 1) := zdec_at bX0_law_570 4 rfl
theorem dX0_law_577 : decode cX0_law 577 = .ok (.iload 4, 2) := zdec_at bX0_law_570 5 rfl
theorem dX0_law_579 : decode cX0_law 579 = .ok (.iconst 1, 1) := zdec_at bX0_law_570 6 rfl
theorem dX0_law_580 : decode cX0_law 580 = .ok (.iadd, 1) := zdec_at bX0_law_570 7 rfl
theorem dX0_law_581 : decode cX0_law 581 = .ok (.iaload, 1) := zdec_at bX0_law_570 8 rfl
theorem dX0_law_582 : decode cX0_law 582 = .ok (.aload_n 0, 1) := zdec_at bX0_law_570 9 rfl
theorem dX0_law_583 : decode cX0_law 583 = .ok (.iload 4, 2) := zdec_at bX0_law_570 10 rfl
theorem dX0_law_585 : decode cX0_law 585 = .ok (.iconst 2, 1) := zdec_at bX0_law_570 11 rfl
theorem dX0_law_586 : decode cX0_law 586 = .ok (.iadd, 1) := zdec_at bX0_law_570 12 rfl
theorem dX0_law_587 : decode cX0_law 587 = .ok (.iaload, 1) := zdec_at bX0_law_570 13 rfl
theorem dX0_law_588 : decode cX0_law 588 = .ok (.aload_n 0, 1) := zdec_at bX0_law_570 14 rfl
theorem dX0_law_589 : decode cX0_law 589 = .ok (.iload 4, 2) := zdec_at bX0_law_570 15 rfl
theorem bX0_law_591 : zdec cX0_law 591 [(591, .iconst 3, 1), (592, .iadd, 1), (593, .iaload, 1), (594, .invokevirtual 83, 3), (597, .if_icmp .eq 373, 3), (600, .iconst 0, 1), (601, .ireturn, 1), (602, .aload_n 1, 1), (603, .aload_n 0, 1), (604, .iload 4, 2), (606, .iconst 1, 1), (607, .iadd, 1), (608, .iaload, 1), (609, .aload_n 0, 1), (610, .iload 4, 2), (612, .iconst 2, 1)] = true := by decide +kernel
theorem dX0_law_591 : decode cX0_law 591 = .ok (.iconst 3, 1) := zdec_at bX0_law_591 0 rfl
theorem dX0_law_592 : decode cX0_law 592 = .ok (.iadd, 1) := zdec_at bX0_law_591 1 rfl
theorem dX0_law_593 : decode cX0_law 593 = .ok (.iaload, 1) := zdec_at bX0_law_591 2 rfl
theorem dX0_law_594 : decode cX0_law 594 = .ok (.invokevirtual 83, 3) := zdec_at bX0_law_591 3 rfl
theorem dX0_law_597 : decode cX0_law 597 = .ok (.if_icmp .eq 373, 3) := zdec_at bX0_law_591 4 rfl
theorem dX0_law_600 : decode cX0_law 600 = .ok (.iconst 0, 1) := zdec_at bX0_law_591 5 rfl
theorem dX0_law_601 : decode cX0_law 601 = .ok (.ireturn, 1) := zdec_at bX0_law_591 6 rfl
theorem dX0_law_602 : decode cX0_law 602 = .ok (.aload_n 1, 1) := zdec_at bX0_law_591 7 rfl
theorem dX0_law_603 : decode cX0_law 603 = .ok (.aload_n 0, 1) := zdec_at bX0_law_591 8 rfl
theorem dX0_law_604 : decode cX0_law 604 = .ok (.iload 4, 2) := zdec_at bX0_law_591 9 rfl
theorem dX0_law_606 : decode cX0_law 606 = .ok (.iconst 1, 1) := zdec_at bX0_law_591 10 rfl
theorem dX0_law_607 : decode cX0_law 607 = .ok (.iadd, 1) := zdec_at bX0_law_591 11 rfl
theorem dX0_law_608 : decode cX0_law 608 = .ok (.iaload, 1) := zdec_at bX0_law_591 12 rfl
theorem dX0_law_609 : decode cX0_law 609 = .ok (.aload_n 0, 1) := zdec_at bX0_law_591 13 rfl
theorem dX0_law_610 : decode cX0_law 610 = .ok (.iload 4, 2) := zdec_at bX0_law_591 14 rfl
theorem dX0_law_612 : decode cX0_law 612 = .ok (.iconst 2, 1) := zdec_at bX0_law_591 15 rfl
theorem bX0_law_613 : zdec cX0_law 613 [(613, .iadd, 1), (614, .iaload, 1), (615, .invokevirtual 84, 3), (618, .aload_n 2, 1), (619, .aload_n 0, 1), (620, .iload 4, 2), (622, .iconst 1, 1), (623, .iadd, 1), (624, .iaload, 1), (625, .aload_n 0, 1), (626, .iload 4, 2), (628, .iconst 2, 1), (629, .iadd, 1), (630, .iaload, 1), (631, .invokevirtual 87, 3), (634, .if_icmp .eq 336, 3)] = true := by decide +kernel
theorem dX0_law_613 : decode cX0_law 613 = .ok (.iadd, 1) := zdec_at bX0_law_613 0 rfl
theorem dX0_law_614 : decode cX0_law 614 = .ok (.iaload, 1) := zdec_at bX0_law_613 1 rfl
theorem dX0_law_615 : decode cX0_law 615 = .ok (.invokevirtual 84, 3) := zdec_at bX0_law_613 2 rfl
theorem dX0_law_618 : decode cX0_law 618 = .ok (.aload_n 2, 1) := zdec_at bX0_law_613 3 rfl
theorem dX0_law_619 : decode cX0_law 619 = .ok (.aload_n 0, 1) := zdec_at bX0_law_613 4 rfl
theorem dX0_law_620 : decode cX0_law 620 = .ok (.iload 4, 2) := zdec_at bX0_law_613 5 rfl
theorem dX0_law_622 : decode cX0_law 622 = .ok (.iconst 1, 1) := zdec_at bX0_law_613 6 rfl
theorem dX0_law_623 : decode cX0_law 623 = .ok (.iadd, 1) := zdec_at bX0_law_613 7 rfl
theorem dX0_law_624 : decode cX0_law 624 = .ok (.iaload, 1) := zdec_at bX0_law_613 8 rfl
theorem dX0_law_625 : decode cX0_law 625 = .ok (.aload_n 0, 1) := zdec_at bX0_law_613 9 rfl
theorem dX0_law_626 : decode cX0_law 626 = .ok (.iload 4, 2) := zdec_at bX0_law_613 10 rfl
theorem dX0_law_628 : decode cX0_law 628 = .ok (.iconst 2, 1) := zdec_at bX0_law_613 11 rfl
theorem dX0_law_629 : decode cX0_law 629 = .ok (.iadd, 1) := zdec_at bX0_law_613 12 rfl
theorem dX0_law_630 : decode cX0_law 630 = .ok (.iaload, 1) := zdec_at bX0_law_613 13 rfl
theorem dX0_law_631 : decode cX0_law 631 = .ok (.invokevirtual 87, 3) := zdec_at bX0_law_613 14 rfl
theorem dX0_law_634 : decode cX0_law 634 = .ok (.if_icmp .eq 336, 3) := zdec_at bX0_law_613 15 rfl
theorem bX0_law_637 : zdec cX0_law 637 [(637, .iconst 0, 1), (638, .ireturn, 1), (639, .aload_n 1, 1), (640, .aload_n 0, 1), (641, .iload 4, 2), (643, .iconst 1, 1), (644, .iadd, 1), (645, .iaload, 1), (646, .invokevirtual 88, 3), (649, .aload_n 2, 1), (650, .aload_n 0, 1), (651, .iload 4, 2), (653, .iconst 1, 1), (654, .iadd, 1), (655, .iaload, 1), (656, .invokevirtual 91, 3)] = true := by decide +kernel
theorem dX0_law_637 : decode cX0_law 637 = .ok (.iconst 0, 1) := zdec_at bX0_law_637 0 rfl
theorem dX0_law_638 : decode cX0_law 638 = .ok (.ireturn, 1) := zdec_at bX0_law_637 1 rfl
theorem dX0_law_639 : decode cX0_law 639 = .ok (.aload_n 1, 1) := zdec_at bX0_law_637 2 rfl
theorem dX0_law_640 : decode cX0_law 640 = .ok (.aload_n 0, 1) := zdec_at bX0_law_637 3 rfl
theorem dX0_law_641 : decode cX0_law 641 = .ok (.iload 4, 2) := zdec_at bX0_law_637 4 rfl
theorem dX0_law_643 : decode cX0_law 643 = .ok (.iconst 1, 1) := zdec_at bX0_law_637 5 rfl
theorem dX0_law_644 : decode cX0_law 644 = .ok (.iadd, 1) := zdec_at bX0_law_637 6 rfl
theorem dX0_law_645 : decode cX0_law 645 = .ok (.iaload, 1) := zdec_at bX0_law_637 7 rfl
theorem dX0_law_646 : decode cX0_law 646 = .ok (.invokevirtual 88, 3) := zdec_at bX0_law_637 8 rfl
theorem dX0_law_649 : decode cX0_law 649 = .ok (.aload_n 2, 1) := zdec_at bX0_law_637 9 rfl
theorem dX0_law_650 : decode cX0_law 650 = .ok (.aload_n 0, 1) := zdec_at bX0_law_637 10 rfl
theorem dX0_law_651 : decode cX0_law 651 = .ok (.iload 4, 2) := zdec_at bX0_law_637 11 rfl
theorem dX0_law_653 : decode cX0_law 653 = .ok (.iconst 1, 1) := zdec_at bX0_law_637 12 rfl
theorem dX0_law_654 : decode cX0_law 654 = .ok (.iadd, 1) := zdec_at bX0_law_637 13 rfl
theorem dX0_law_655 : decode cX0_law 655 = .ok (.iaload, 1) := zdec_at bX0_law_637 14 rfl
theorem dX0_law_656 : decode cX0_law 656 = .ok (.invokevirtual 91, 3) := zdec_at bX0_law_637 15 rfl
theorem bX0_law_659 : zdec cX0_law 659 [(659, .if_icmp .eq 311, 3), (662, .iconst 0, 1), (663, .ireturn, 1), (664, .aload_n 1, 1), (665, .aload_n 3, 1), (666, .invokestatic 92, 3), (669, .istore 5, 2), (671, .aload_n 2, 1), (672, .invokevirtual 95, 3), (675, .istore 6, 2), (677, .aload_n 2, 1), (678, .invokevirtual 60, 3), (681, .iload 5, 2), (683, .if_icmp .eq 5, 3), (686, .iconst 0, 1), (687, .ireturn, 1)] = true := by decide +kernel
theorem dX0_law_659 : decode cX0_law 659 = .ok (.if_icmp .eq 311, 3) := zdec_at bX0_law_659 0 rfl
theorem dX0_law_662 : decode cX0_law 662 = .ok (.iconst 0, 1) := zdec_at bX0_law_659 1 rfl
theorem dX0_law_663 : decode cX0_law 663 = .ok (.ireturn, 1) := zdec_at bX0_law_659 2 rfl
theorem dX0_law_664 : decode cX0_law 664 = .ok (.aload_n 1, 1) := zdec_at bX0_law_659 3 rfl
theorem dX0_law_665 : decode cX0_law 665 = .ok (.aload_n 3, 1) := zdec_at bX0_law_659 4 rfl
theorem dX0_law_666 : decode cX0_law 666 = .ok (.invokestatic 92, 3) := zdec_at bX0_law_659 5 rfl
theorem dX0_law_669 : decode cX0_law 669 = .ok (.istore 5, 2) := zdec_at bX0_law_659 6 rfl
theorem dX0_law_671 : decode cX0_law 671 = .ok (.aload_n 2, 1) := zdec_at bX0_law_659 7 rfl
theorem dX0_law_672 : decode cX0_law 672 = .ok (.invokevirtual 95, 3) := zdec_at bX0_law_659 8 rfl
theorem dX0_law_675 : decode cX0_law 675 = .ok (.istore 6, 2) := zdec_at bX0_law_659 9 rfl
theorem dX0_law_677 : decode cX0_law 677 = .ok (.aload_n 2, 1) := zdec_at bX0_law_659 10 rfl
theorem dX0_law_678 : decode cX0_law 678 = .ok (.invokevirtual 60, 3) := zdec_at bX0_law_659 11 rfl
theorem dX0_law_681 : decode cX0_law 681 = .ok (.iload 5, 2) := zdec_at bX0_law_659 12 rfl
theorem dX0_law_683 : decode cX0_law 683 = .ok (.if_icmp .eq 5, 3) := zdec_at bX0_law_659 13 rfl
theorem dX0_law_686 : decode cX0_law 686 = .ok (.iconst 0, 1) := zdec_at bX0_law_659 14 rfl
theorem dX0_law_687 : decode cX0_law 687 = .ok (.ireturn, 1) := zdec_at bX0_law_659 15 rfl
theorem bX0_law_688 : zdec cX0_law 688 [(688, .iload 5, 2), (690, .ifCond .ne 15, 3), (693, .aload_n 3, 1), (694, .iconst 0, 1), (695, .laload, 1), (696, .iload 6, 2), (698, .i2l, 1), (699, .lcmp, 1), (700, .ifCond .eq 5, 3), (703, .iconst 0, 1), (704, .ireturn, 1), (705, .goto 265, 3), (708, .aload_n 1, 1), (709, .aload_n 0, 1), (710, .iload 4, 2), (712, .iconst 1, 1)] = true := by decide +kernel
theorem dX0_law_688 : decode cX0_law 688 = .ok (.iload 5, 2) := zdec_at bX0_law_688 0 rfl
theorem dX0_law_690 : decode cX0_law 690 = .ok (.ifCond .ne 15, 3) := zdec_at bX0_law_688 1 rfl
theorem dX0_law_693 : decode cX0_law 693 = .ok (.aload_n 3, 1) := zdec_at bX0_law_688 2 rfl
theorem dX0_law_694 : decode cX0_law 694 = .ok (.iconst 0, 1) := zdec_at bX0_law_688 3 rfl
theorem dX0_law_695 : decode cX0_law 695 = .ok (.laload, 1) := zdec_at bX0_law_688 4 rfl
theorem dX0_law_696 : decode cX0_law 696 = .ok (.iload 6, 2) := zdec_at bX0_law_688 5 rfl
theorem dX0_law_698 : decode cX0_law 698 = .ok (.i2l, 1) := zdec_at bX0_law_688 6 rfl
theorem dX0_law_699 : decode cX0_law 699 = .ok (.lcmp, 1) := zdec_at bX0_law_688 7 rfl
theorem dX0_law_700 : decode cX0_law 700 = .ok (.ifCond .eq 5, 3) := zdec_at bX0_law_688 8 rfl
theorem dX0_law_703 : decode cX0_law 703 = .ok (.iconst 0, 1) := zdec_at bX0_law_688 9 rfl
theorem dX0_law_704 : decode cX0_law 704 = .ok (.ireturn, 1) := zdec_at bX0_law_688 10 rfl
theorem dX0_law_705 : decode cX0_law 705 = .ok (.goto 265, 3) := zdec_at bX0_law_688 11 rfl
theorem dX0_law_708 : decode cX0_law 708 = .ok (.aload_n 1, 1) := zdec_at bX0_law_688 12 rfl
theorem dX0_law_709 : decode cX0_law 709 = .ok (.aload_n 0, 1) := zdec_at bX0_law_688 13 rfl
theorem dX0_law_710 : decode cX0_law 710 = .ok (.iload 4, 2) := zdec_at bX0_law_688 14 rfl
theorem dX0_law_712 : decode cX0_law 712 = .ok (.iconst 1, 1) := zdec_at bX0_law_688 15 rfl
theorem bX0_law_713 : zdec cX0_law 713 [(713, .iadd, 1), (714, .iaload, 1), (715, .invokevirtual 96, 3), (718, .aload_n 2, 1), (719, .aload_n 0, 1), (720, .iload 4, 2), (722, .iconst 1, 1), (723, .iadd, 1), (724, .iaload, 1), (725, .invokevirtual 99, 3), (728, .if_icmp .eq 242, 3), (731, .iconst 0, 1), (732, .ireturn, 1), (733, .aload_n 1, 1), (734, .aload_n 0, 1), (735, .iload 4, 2)] = true := by decide +kernel
theorem dX0_law_713 : decode cX0_law 713 = .ok (.iadd, 1) := zdec_at bX0_law_713 0 rfl
theorem dX0_law_714 : decode cX0_law 714 = .ok (.iaload, 1) := zdec_at bX0_law_713 1 rfl
theorem dX0_law_715 : decode cX0_law 715 = .ok (.invokevirtual 96, 3) := zdec_at bX0_law_713 2 rfl
theorem dX0_law_718 : decode cX0_law 718 = .ok (.aload_n 2, 1) := zdec_at bX0_law_713 3 rfl
theorem dX0_law_719 : decode cX0_law 719 = .ok (.aload_n 0, 1) := zdec_at bX0_law_713 4 rfl
theorem dX0_law_720 : decode cX0_law 720 = .ok (.iload 4, 2) := zdec_at bX0_law_713 5 rfl
theorem dX0_law_722 : decode cX0_law 722 = .ok (.iconst 1, 1) := zdec_at bX0_law_713 6 rfl
theorem dX0_law_723 : decode cX0_law 723 = .ok (.iadd, 1) := zdec_at bX0_law_713 7 rfl
theorem dX0_law_724 : decode cX0_law 724 = .ok (.iaload, 1) := zdec_at bX0_law_713 8 rfl
theorem dX0_law_725 : decode cX0_law 725 = .ok (.invokevirtual 99, 3) := zdec_at bX0_law_713 9 rfl
theorem dX0_law_728 : decode cX0_law 728 = .ok (.if_icmp .eq 242, 3) := zdec_at bX0_law_713 10 rfl
theorem dX0_law_731 : decode cX0_law 731 = .ok (.iconst 0, 1) := zdec_at bX0_law_713 11 rfl
theorem dX0_law_732 : decode cX0_law 732 = .ok (.ireturn, 1) := zdec_at bX0_law_713 12 rfl
theorem dX0_law_733 : decode cX0_law 733 = .ok (.aload_n 1, 1) := zdec_at bX0_law_713 13 rfl
theorem dX0_law_734 : decode cX0_law 734 = .ok (.aload_n 0, 1) := zdec_at bX0_law_713 14 rfl
theorem dX0_law_735 : decode cX0_law 735 = .ok (.iload 4, 2) := zdec_at bX0_law_713 15 rfl
theorem bX0_law_737 : zdec cX0_law 737 [(737, .iconst 1, 1), (738, .iadd, 1), (739, .iaload, 1), (740, .aload_n 0, 1), (741, .iload 4, 2), (743, .iconst 2, 1), (744, .iadd, 1), (745, .iaload, 1), (746, .aload_n 0, 1), (747, .iload 4, 2), (749, .iconst 3, 1), (750, .iadd, 1), (751, .iaload, 1), (752, .invokevirtual 100, 3), (755, .aload_n 2, 1), (756, .aload_n 0, 1)] = true := by decide +kernel
theorem dX0_law_737 : decode cX0_law 737 = .ok (.iconst 1, 1) := zdec_at bX0_law_737 0 rfl
theorem dX0_law_738 : decode cX0_law 738 = .ok (.iadd, 1) := zdec_at bX0_law_737 1 rfl
theorem dX0_law_739 : decode cX0_law 739 = .ok (.iaload, 1) := zdec_at bX0_law_737 2 rfl
theorem dX0_law_740 : decode cX0_law 740 = .ok (.aload_n 0, 1) := zdec_at bX0_law_737 3 rfl
theorem dX0_law_741 : decode cX0_law 741 = .ok (.iload 4, 2) := zdec_at bX0_law_737 4 rfl
theorem dX0_law_743 : decode cX0_law 743 = .ok (.iconst 2, 1) := zdec_at bX0_law_737 5 rfl
theorem dX0_law_744 : decode cX0_law 744 = .ok (.iadd, 1) := zdec_at bX0_law_737 6 rfl
theorem dX0_law_745 : decode cX0_law 745 = .ok (.iaload, 1) := zdec_at bX0_law_737 7 rfl
theorem dX0_law_746 : decode cX0_law 746 = .ok (.aload_n 0, 1) := zdec_at bX0_law_737 8 rfl
theorem dX0_law_747 : decode cX0_law 747 = .ok (.iload 4, 2) := zdec_at bX0_law_737 9 rfl
theorem dX0_law_749 : decode cX0_law 749 = .ok (.iconst 3, 1) := zdec_at bX0_law_737 10 rfl
theorem dX0_law_750 : decode cX0_law 750 = .ok (.iadd, 1) := zdec_at bX0_law_737 11 rfl
theorem dX0_law_751 : decode cX0_law 751 = .ok (.iaload, 1) := zdec_at bX0_law_737 12 rfl
theorem dX0_law_752 : decode cX0_law 752 = .ok (.invokevirtual 100, 3) := zdec_at bX0_law_737 13 rfl
theorem dX0_law_755 : decode cX0_law 755 = .ok (.aload_n 2, 1) := zdec_at bX0_law_737 14 rfl
theorem dX0_law_756 : decode cX0_law 756 = .ok (.aload_n 0, 1) := zdec_at bX0_law_737 15 rfl
theorem bX0_law_757 : zdec cX0_law 757 [(757, .iload 4, 2), (759, .iconst 1, 1), (760, .iadd, 1), (761, .iaload, 1), (762, .aload_n 0, 1), (763, .iload 4, 2), (765, .iconst 2, 1), (766, .iadd, 1), (767, .iaload, 1), (768, .aload_n 0, 1), (769, .iload 4, 2), (771, .iconst 3, 1), (772, .iadd, 1), (773, .iaload, 1), (774, .invokevirtual 104, 3), (777, .lcmp, 1)] = true := by decide +kernel
theorem dX0_law_757 : decode cX0_law 757 = .ok (.iload 4, 2) := zdec_at bX0_law_757 0 rfl
theorem dX0_law_759 : decode cX0_law 759 = .ok (.iconst 1, 1) := zdec_at bX0_law_757 1 rfl
theorem dX0_law_760 : decode cX0_law 760 = .ok (.iadd, 1) := zdec_at bX0_law_757 2 rfl
theorem dX0_law_761 : decode cX0_law 761 = .ok (.iaload, 1) := zdec_at bX0_law_757 3 rfl
theorem dX0_law_762 : decode cX0_law 762 = .ok (.aload_n 0, 1) := zdec_at bX0_law_757 4 rfl
theorem dX0_law_763 : decode cX0_law 763 = .ok (.iload 4, 2) := zdec_at bX0_law_757 5 rfl
theorem dX0_law_765 : decode cX0_law 765 = .ok (.iconst 2, 1) := zdec_at bX0_law_757 6 rfl
theorem dX0_law_766 : decode cX0_law 766 = .ok (.iadd, 1) := zdec_at bX0_law_757 7 rfl
theorem dX0_law_767 : decode cX0_law 767 = .ok (.iaload, 1) := zdec_at bX0_law_757 8 rfl
theorem dX0_law_768 : decode cX0_law 768 = .ok (.aload_n 0, 1) := zdec_at bX0_law_757 9 rfl
theorem dX0_law_769 : decode cX0_law 769 = .ok (.iload 4, 2) := zdec_at bX0_law_757 10 rfl
theorem dX0_law_771 : decode cX0_law 771 = .ok (.iconst 3, 1) := zdec_at bX0_law_757 11 rfl
theorem dX0_law_772 : decode cX0_law 772 = .ok (.iadd, 1) := zdec_at bX0_law_757 12 rfl
theorem dX0_law_773 : decode cX0_law 773 = .ok (.iaload, 1) := zdec_at bX0_law_757 13 rfl
theorem dX0_law_774 : decode cX0_law 774 = .ok (.invokevirtual 104, 3) := zdec_at bX0_law_757 14 rfl
theorem dX0_law_777 : decode cX0_law 777 = .ok (.lcmp, 1) := zdec_at bX0_law_757 15 rfl
theorem bX0_law_778 : zdec cX0_law 778 [(778, .ifCond .eq 192, 3), (781, .iconst 0, 1), (782, .ireturn, 1), (783, .aload_n 1, 1), (784, .aload_n 0, 1), (785, .iload 4, 2), (787, .iconst 1, 1), (788, .iadd, 1), (789, .iaload, 1), (790, .aload_n 0, 1), (791, .iload 4, 2), (793, .iconst 2, 1), (794, .iadd, 1), (795, .iaload, 1), (796, .aload_n 0, 1), (797, .iload 4, 2)] = true := by decide +kernel
theorem dX0_law_778 : decode cX0_law 778 = .ok (.ifCond .eq 192, 3) := zdec_at bX0_law_778 0 rfl
theorem dX0_law_781 : decode cX0_law 781 = .ok (.iconst 0, 1) := zdec_at bX0_law_778 1 rfl
theorem dX0_law_782 : decode cX0_law 782 = .ok (.ireturn, 1) := zdec_at bX0_law_778 2 rfl
theorem dX0_law_783 : decode cX0_law 783 = .ok (.aload_n 1, 1) := zdec_at bX0_law_778 3 rfl
theorem dX0_law_784 : decode cX0_law 784 = .ok (.aload_n 0, 1) := zdec_at bX0_law_778 4 rfl
theorem dX0_law_785 : decode cX0_law 785 = .ok (.iload 4, 2) := zdec_at bX0_law_778 5 rfl
theorem dX0_law_787 : decode cX0_law 787 = .ok (.iconst 1, 1) := zdec_at bX0_law_778 6 rfl
theorem dX0_law_788 : decode cX0_law 788 = .ok (.iadd, 1) := zdec_at bX0_law_778 7 rfl
theorem dX0_law_789 : decode cX0_law 789 = .ok (.iaload, 1) := zdec_at bX0_law_778 8 rfl
theorem dX0_law_790 : decode cX0_law 790 = .ok (.aload_n 0, 1) := zdec_at bX0_law_778 9 rfl
theorem dX0_law_791 : decode cX0_law 791 = .ok (.iload 4, 2) := zdec_at bX0_law_778 10 rfl
theorem dX0_law_793 : decode cX0_law 793 = .ok (.iconst 2, 1) := zdec_at bX0_law_778 11 rfl
theorem dX0_law_794 : decode cX0_law 794 = .ok (.iadd, 1) := zdec_at bX0_law_778 12 rfl
theorem dX0_law_795 : decode cX0_law 795 = .ok (.iaload, 1) := zdec_at bX0_law_778 13 rfl
theorem dX0_law_796 : decode cX0_law 796 = .ok (.aload_n 0, 1) := zdec_at bX0_law_778 14 rfl
theorem dX0_law_797 : decode cX0_law 797 = .ok (.iload 4, 2) := zdec_at bX0_law_778 15 rfl
theorem bX0_law_799 : zdec cX0_law 799 [(799, .iconst 3, 1), (800, .iadd, 1), (801, .iaload, 1), (802, .aload_n 0, 1), (803, .iload 4, 2), (805, .iconst 4, 1), (806, .iadd, 1), (807, .iaload, 1), (808, .invokevirtual 105, 3), (811, .aload_n 2, 1), (812, .aload_n 0, 1), (813, .iload 4, 2), (815, .iconst 1, 1), (816, .iadd, 1), (817, .iaload, 1), (818, .aload_n 0, 1)] = true := by decide +kernel
theorem dX0_law_799 : decode cX0_law 799 = .ok (.iconst 3, 1) := zdec_at bX0_law_799 0 rfl
theorem dX0_law_800 : decode cX0_law 800 = .ok (.iadd, 1) := zdec_at bX0_law_799 1 rfl
theorem dX0_law_801 : decode cX0_law 801 = .ok (.iaload, 1) := zdec_at bX0_law_799 2 rfl
theorem dX0_law_802 : decode cX0_law 802 = .ok (.aload_n 0, 1) := zdec_at bX0_law_799 3 rfl
theorem dX0_law_803 : decode cX0_law 803 = .ok (.iload 4, 2) := zdec_at bX0_law_799 4 rfl
theorem dX0_law_805 : decode cX0_law 805 = .ok (.iconst 4, 1) := zdec_at bX0_law_799 5 rfl
theorem dX0_law_806 : decode cX0_law 806 = .ok (.iadd, 1) := zdec_at bX0_law_799 6 rfl
theorem dX0_law_807 : decode cX0_law 807 = .ok (.iaload, 1) := zdec_at bX0_law_799 7 rfl
theorem dX0_law_808 : decode cX0_law 808 = .ok (.invokevirtual 105, 3) := zdec_at bX0_law_799 8 rfl
theorem dX0_law_811 : decode cX0_law 811 = .ok (.aload_n 2, 1) := zdec_at bX0_law_799 9 rfl
theorem dX0_law_812 : decode cX0_law 812 = .ok (.aload_n 0, 1) := zdec_at bX0_law_799 10 rfl
theorem dX0_law_813 : decode cX0_law 813 = .ok (.iload 4, 2) := zdec_at bX0_law_799 11 rfl
theorem dX0_law_815 : decode cX0_law 815 = .ok (.iconst 1, 1) := zdec_at bX0_law_799 12 rfl
theorem dX0_law_816 : decode cX0_law 816 = .ok (.iadd, 1) := zdec_at bX0_law_799 13 rfl
theorem dX0_law_817 : decode cX0_law 817 = .ok (.iaload, 1) := zdec_at bX0_law_799 14 rfl
theorem dX0_law_818 : decode cX0_law 818 = .ok (.aload_n 0, 1) := zdec_at bX0_law_799 15 rfl
theorem bX0_law_819 : zdec cX0_law 819 [(819, .iload 4, 2), (821, .iconst 2, 1), (822, .iadd, 1), (823, .iaload, 1), (824, .aload_n 0, 1), (825, .iload 4, 2), (827, .iconst 3, 1), (828, .iadd, 1), (829, .iaload, 1), (830, .aload_n 0, 1), (831, .iload 4, 2), (833, .iconst 4, 1), (834, .iadd, 1), (835, .iaload, 1), (836, .invokevirtual 109, 3), (839, .lcmp, 1)] = true := by decide +kernel
theorem dX0_law_819 : decode cX0_law 819 = .ok (.iload 4, 2) := zdec_at bX0_law_819 0 rfl
theorem dX0_law_821 : decode cX0_law 821 = .ok (.iconst 2, 1) := zdec_at bX0_law_819 1 rfl
theorem dX0_law_822 : decode cX0_law 822 = .ok (.iadd, 1) := zdec_at bX0_law_819 2 rfl
theorem dX0_law_823 : decode cX0_law 823 = .ok (.iaload, 1) := zdec_at bX0_law_819 3 rfl
theorem dX0_law_824 : decode cX0_law 824 = .ok (.aload_n 0, 1) := zdec_at bX0_law_819 4 rfl
theorem dX0_law_825 : decode cX0_law 825 = .ok (.iload 4, 2) := zdec_at bX0_law_819 5 rfl
theorem dX0_law_827 : decode cX0_law 827 = .ok (.iconst 3, 1) := zdec_at bX0_law_819 6 rfl
theorem dX0_law_828 : decode cX0_law 828 = .ok (.iadd, 1) := zdec_at bX0_law_819 7 rfl
theorem dX0_law_829 : decode cX0_law 829 = .ok (.iaload, 1) := zdec_at bX0_law_819 8 rfl
theorem dX0_law_830 : decode cX0_law 830 = .ok (.aload_n 0, 1) := zdec_at bX0_law_819 9 rfl
theorem dX0_law_831 : decode cX0_law 831 = .ok (.iload 4, 2) := zdec_at bX0_law_819 10 rfl
theorem dX0_law_833 : decode cX0_law 833 = .ok (.iconst 4, 1) := zdec_at bX0_law_819 11 rfl
theorem dX0_law_834 : decode cX0_law 834 = .ok (.iadd, 1) := zdec_at bX0_law_819 12 rfl
theorem dX0_law_835 : decode cX0_law 835 = .ok (.iaload, 1) := zdec_at bX0_law_819 13 rfl
theorem dX0_law_836 : decode cX0_law 836 = .ok (.invokevirtual 109, 3) := zdec_at bX0_law_819 14 rfl
theorem dX0_law_839 : decode cX0_law 839 = .ok (.lcmp, 1) := zdec_at bX0_law_819 15 rfl
theorem bX0_law_840 : zdec cX0_law 840 [(840, .ifCond .eq 130, 3), (843, .iconst 0, 1), (844, .ireturn, 1), (845, .aload_n 1, 1), (846, .aload_n 0, 1), (847, .iload 4, 2), (849, .iconst 1, 1), (850, .iadd, 1), (851, .iaload, 1), (852, .aload_n 0, 1), (853, .iload 4, 2), (855, .iconst 2, 1), (856, .iadd, 1), (857, .iaload, 1), (858, .aload_n 0, 1), (859, .iload 4, 2)] = true := by decide +kernel
theorem dX0_law_840 : decode cX0_law 840 = .ok (.ifCond .eq 130, 3) := zdec_at bX0_law_840 0 rfl
theorem dX0_law_843 : decode cX0_law 843 = .ok (.iconst 0, 1) := zdec_at bX0_law_840 1 rfl
theorem dX0_law_844 : decode cX0_law 844 = .ok (.ireturn, 1) := zdec_at bX0_law_840 2 rfl
theorem dX0_law_845 : decode cX0_law 845 = .ok (.aload_n 1, 1) := zdec_at bX0_law_840 3 rfl
theorem dX0_law_846 : decode cX0_law 846 = .ok (.aload_n 0, 1) := zdec_at bX0_law_840 4 rfl
theorem dX0_law_847 : decode cX0_law 847 = .ok (.iload 4, 2) := zdec_at bX0_law_840 5 rfl
theorem dX0_law_849 : decode cX0_law 849 = .ok (.iconst 1, 1) := zdec_at bX0_law_840 6 rfl
theorem dX0_law_850 : decode cX0_law 850 = .ok (.iadd, 1) := zdec_at bX0_law_840 7 rfl
theorem dX0_law_851 : decode cX0_law 851 = .ok (.iaload, 1) := zdec_at bX0_law_840 8 rfl
theorem dX0_law_852 : decode cX0_law 852 = .ok (.aload_n 0, 1) := zdec_at bX0_law_840 9 rfl
theorem dX0_law_853 : decode cX0_law 853 = .ok (.iload 4, 2) := zdec_at bX0_law_840 10 rfl
theorem dX0_law_855 : decode cX0_law 855 = .ok (.iconst 2, 1) := zdec_at bX0_law_840 11 rfl
theorem dX0_law_856 : decode cX0_law 856 = .ok (.iadd, 1) := zdec_at bX0_law_840 12 rfl
theorem dX0_law_857 : decode cX0_law 857 = .ok (.iaload, 1) := zdec_at bX0_law_840 13 rfl
theorem dX0_law_858 : decode cX0_law 858 = .ok (.aload_n 0, 1) := zdec_at bX0_law_840 14 rfl
theorem dX0_law_859 : decode cX0_law 859 = .ok (.iload 4, 2) := zdec_at bX0_law_840 15 rfl
theorem bX0_law_861 : zdec cX0_law 861 [(861, .iconst 3, 1), (862, .iadd, 1), (863, .iaload, 1), (864, .invokevirtual 110, 3), (867, .aload_n 2, 1), (868, .aload_n 0, 1), (869, .iload 4, 2), (871, .iconst 1, 1), (872, .iadd, 1), (873, .iaload, 1), (874, .aload_n 0, 1), (875, .iload 4, 2), (877, .iconst 2, 1), (878, .iadd, 1), (879, .iaload, 1), (880, .aload_n 0, 1)] = true := by decide +kernel
theorem dX0_law_861 : decode cX0_law 861 = .ok (.iconst 3, 1) := zdec_at bX0_law_861 0 rfl
theorem dX0_law_862 : decode cX0_law 862 = .ok (.iadd, 1) := zdec_at bX0_law_861 1 rfl
theorem dX0_law_863 : decode cX0_law 863 = .ok (.iaload, 1) := zdec_at bX0_law_861 2 rfl
theorem dX0_law_864 : decode cX0_law 864 = .ok (.invokevirtual 110, 3) := zdec_at bX0_law_861 3 rfl
theorem dX0_law_867 : decode cX0_law 867 = .ok (.aload_n 2, 1) := zdec_at bX0_law_861 4 rfl
theorem dX0_law_868 : decode cX0_law 868 = .ok (.aload_n 0, 1) := zdec_at bX0_law_861 5 rfl
theorem dX0_law_869 : decode cX0_law 869 = .ok (.iload 4, 2) := zdec_at bX0_law_861 6 rfl
theorem dX0_law_871 : decode cX0_law 871 = .ok (.iconst 1, 1) := zdec_at bX0_law_861 7 rfl
theorem dX0_law_872 : decode cX0_law 872 = .ok (.iadd, 1) := zdec_at bX0_law_861 8 rfl
theorem dX0_law_873 : decode cX0_law 873 = .ok (.iaload, 1) := zdec_at bX0_law_861 9 rfl
theorem dX0_law_874 : decode cX0_law 874 = .ok (.aload_n 0, 1) := zdec_at bX0_law_861 10 rfl
theorem dX0_law_875 : decode cX0_law 875 = .ok (.iload 4, 2) := zdec_at bX0_law_861 11 rfl
theorem dX0_law_877 : decode cX0_law 877 = .ok (.iconst 2, 1) := zdec_at bX0_law_861 12 rfl
theorem dX0_law_878 : decode cX0_law 878 = .ok (.iadd, 1) := zdec_at bX0_law_861 13 rfl
theorem dX0_law_879 : decode cX0_law 879 = .ok (.iaload, 1) := zdec_at bX0_law_861 14 rfl
theorem dX0_law_880 : decode cX0_law 880 = .ok (.aload_n 0, 1) := zdec_at bX0_law_861 15 rfl
theorem bX0_law_881 : zdec cX0_law 881 [(881, .iload 4, 2), (883, .iconst 3, 1), (884, .iadd, 1), (885, .iaload, 1), (886, .invokevirtual 113, 3), (889, .lcmp, 1), (890, .ifCond .eq 80, 3), (893, .iconst 0, 1), (894, .ireturn, 1), (895, .aload_n 1, 1), (896, .aload_n 0, 1), (897, .iload 4, 2), (899, .iconst 1, 1), (900, .iadd, 1), (901, .iaload, 1), (902, .aload_n 0, 1)] = true := by decide +kernel
theorem dX0_law_881 : decode cX0_law 881 = .ok (.iload 4, 2) := zdec_at bX0_law_881 0 rfl
theorem dX0_law_883 : decode cX0_law 883 = .ok (.iconst 3, 1) := zdec_at bX0_law_881 1 rfl
theorem dX0_law_884 : decode cX0_law 884 = .ok (.iadd, 1) := zdec_at bX0_law_881 2 rfl
theorem dX0_law_885 : decode cX0_law 885 = .ok (.iaload, 1) := zdec_at bX0_law_881 3 rfl
theorem dX0_law_886 : decode cX0_law 886 = .ok (.invokevirtual 113, 3) := zdec_at bX0_law_881 4 rfl
theorem dX0_law_889 : decode cX0_law 889 = .ok (.lcmp, 1) := zdec_at bX0_law_881 5 rfl
theorem dX0_law_890 : decode cX0_law 890 = .ok (.ifCond .eq 80, 3) := zdec_at bX0_law_881 6 rfl
theorem dX0_law_893 : decode cX0_law 893 = .ok (.iconst 0, 1) := zdec_at bX0_law_881 7 rfl
theorem dX0_law_894 : decode cX0_law 894 = .ok (.ireturn, 1) := zdec_at bX0_law_881 8 rfl
theorem dX0_law_895 : decode cX0_law 895 = .ok (.aload_n 1, 1) := zdec_at bX0_law_881 9 rfl
theorem dX0_law_896 : decode cX0_law 896 = .ok (.aload_n 0, 1) := zdec_at bX0_law_881 10 rfl
theorem dX0_law_897 : decode cX0_law 897 = .ok (.iload 4, 2) := zdec_at bX0_law_881 11 rfl
theorem dX0_law_899 : decode cX0_law 899 = .ok (.iconst 1, 1) := zdec_at bX0_law_881 12 rfl
theorem dX0_law_900 : decode cX0_law 900 = .ok (.iadd, 1) := zdec_at bX0_law_881 13 rfl
theorem dX0_law_901 : decode cX0_law 901 = .ok (.iaload, 1) := zdec_at bX0_law_881 14 rfl
theorem dX0_law_902 : decode cX0_law 902 = .ok (.aload_n 0, 1) := zdec_at bX0_law_881 15 rfl
theorem bX0_law_903 : zdec cX0_law 903 [(903, .iload 4, 2), (905, .iconst 2, 1), (906, .iadd, 1), (907, .iaload, 1), (908, .aload_n 0, 1), (909, .iload 4, 2), (911, .iconst 3, 1), (912, .iadd, 1), (913, .iaload, 1), (914, .invokevirtual 114, 3), (917, .aload_n 2, 1), (918, .aload_n 0, 1), (919, .iload 4, 2), (921, .iconst 1, 1), (922, .iadd, 1), (923, .iaload, 1)] = true := by decide +kernel
theorem dX0_law_903 : decode cX0_law 903 = .ok (.iload 4, 2) := zdec_at bX0_law_903 0 rfl
theorem dX0_law_905 : decode cX0_law 905 = .ok (.iconst 2, 1) := zdec_at bX0_law_903 1 rfl
theorem dX0_law_906 : decode cX0_law 906 = .ok (.iadd, 1) := zdec_at bX0_law_903 2 rfl
theorem dX0_law_907 : decode cX0_law 907 = .ok (.iaload, 1) := zdec_at bX0_law_903 3 rfl
theorem dX0_law_908 : decode cX0_law 908 = .ok (.aload_n 0, 1) := zdec_at bX0_law_903 4 rfl
theorem dX0_law_909 : decode cX0_law 909 = .ok (.iload 4, 2) := zdec_at bX0_law_903 5 rfl
theorem dX0_law_911 : decode cX0_law 911 = .ok (.iconst 3, 1) := zdec_at bX0_law_903 6 rfl
theorem dX0_law_912 : decode cX0_law 912 = .ok (.iadd, 1) := zdec_at bX0_law_903 7 rfl
theorem dX0_law_913 : decode cX0_law 913 = .ok (.iaload, 1) := zdec_at bX0_law_903 8 rfl
theorem dX0_law_914 : decode cX0_law 914 = .ok (.invokevirtual 114, 3) := zdec_at bX0_law_903 9 rfl
theorem dX0_law_917 : decode cX0_law 917 = .ok (.aload_n 2, 1) := zdec_at bX0_law_903 10 rfl
theorem dX0_law_918 : decode cX0_law 918 = .ok (.aload_n 0, 1) := zdec_at bX0_law_903 11 rfl
theorem dX0_law_919 : decode cX0_law 919 = .ok (.iload 4, 2) := zdec_at bX0_law_903 12 rfl
theorem dX0_law_921 : decode cX0_law 921 = .ok (.iconst 1, 1) := zdec_at bX0_law_903 13 rfl
theorem dX0_law_922 : decode cX0_law 922 = .ok (.iadd, 1) := zdec_at bX0_law_903 14 rfl
theorem dX0_law_923 : decode cX0_law 923 = .ok (.iaload, 1) := zdec_at bX0_law_903 15 rfl
theorem bX0_law_924 : zdec cX0_law 924 [(924, .aload_n 0, 1), (925, .iload 4, 2), (927, .iconst 2, 1), (928, .iadd, 1), (929, .iaload, 1), (930, .aload_n 0, 1), (931, .iload 4, 2), (933, .iconst 3, 1), (934, .iadd, 1), (935, .iaload, 1), (936, .invokevirtual 117, 3), (939, .lcmp, 1), (940, .ifCond .eq 30, 3), (943, .iconst 0, 1), (944, .ireturn, 1), (945, .aload_n 1, 1)] = true := by decide +kernel
theorem dX0_law_924 : decode cX0_law 924 = .ok (.aload_n 0, 1) := zdec_at bX0_law_924 0 rfl
theorem dX0_law_925 : decode cX0_law 925 = .ok (.iload 4, 2) := zdec_at bX0_law_924 1 rfl
theorem dX0_law_927 : decode cX0_law 927 = .ok (.iconst 2, 1) := zdec_at bX0_law_924 2 rfl
theorem dX0_law_928 : decode cX0_law 928 = .ok (.iadd, 1) := zdec_at bX0_law_924 3 rfl
theorem dX0_law_929 : decode cX0_law 929 = .ok (.iaload, 1) := zdec_at bX0_law_924 4 rfl
theorem dX0_law_930 : decode cX0_law 930 = .ok (.aload_n 0, 1) := zdec_at bX0_law_924 5 rfl
theorem dX0_law_931 : decode cX0_law 931 = .ok (.iload 4, 2) := zdec_at bX0_law_924 6 rfl
theorem dX0_law_933 : decode cX0_law 933 = .ok (.iconst 3, 1) := zdec_at bX0_law_924 7 rfl
theorem dX0_law_934 : decode cX0_law 934 = .ok (.iadd, 1) := zdec_at bX0_law_924 8 rfl
theorem dX0_law_935 : decode cX0_law 935 = .ok (.iaload, 1) := zdec_at bX0_law_924 9 rfl
theorem dX0_law_936 : decode cX0_law 936 = .ok (.invokevirtual 117, 3) := zdec_at bX0_law_924 10 rfl
theorem dX0_law_939 : decode cX0_law 939 = .ok (.lcmp, 1) := zdec_at bX0_law_924 11 rfl
theorem dX0_law_940 : decode cX0_law 940 = .ok (.ifCond .eq 30, 3) := zdec_at bX0_law_924 12 rfl
theorem dX0_law_943 : decode cX0_law 943 = .ok (.iconst 0, 1) := zdec_at bX0_law_924 13 rfl
theorem dX0_law_944 : decode cX0_law 944 = .ok (.ireturn, 1) := zdec_at bX0_law_924 14 rfl
theorem dX0_law_945 : decode cX0_law 945 = .ok (.aload_n 1, 1) := zdec_at bX0_law_924 15 rfl
theorem bX0_law_946 : zdec cX0_law 946 [(946, .aload_n 0, 1), (947, .iload 4, 2), (949, .iconst 1, 1), (950, .iadd, 1), (951, .iaload, 1), (952, .invokevirtual 118, 3), (955, .aload_n 2, 1), (956, .aload_n 0, 1), (957, .iload 4, 2), (959, .iconst 1, 1), (960, .iadd, 1), (961, .iaload, 1), (962, .invokevirtual 121, 3), (965, .if_icmp .eq 5, 3), (968, .iconst 0, 1), (969, .ireturn, 1)] = true := by decide +kernel
theorem dX0_law_946 : decode cX0_law 946 = .ok (.aload_n 0, 1) := zdec_at bX0_law_946 0 rfl
theorem dX0_law_947 : decode cX0_law 947 = .ok (.iload 4, 2) := zdec_at bX0_law_946 1 rfl
theorem dX0_law_949 : decode cX0_law 949 = .ok (.iconst 1, 1) := zdec_at bX0_law_946 2 rfl
theorem dX0_law_950 : decode cX0_law 950 = .ok (.iadd, 1) := zdec_at bX0_law_946 3 rfl
theorem dX0_law_951 : decode cX0_law 951 = .ok (.iaload, 1) := zdec_at bX0_law_946 4 rfl
theorem dX0_law_952 : decode cX0_law 952 = .ok (.invokevirtual 118, 3) := zdec_at bX0_law_946 5 rfl
theorem dX0_law_955 : decode cX0_law 955 = .ok (.aload_n 2, 1) := zdec_at bX0_law_946 6 rfl
theorem dX0_law_956 : decode cX0_law 956 = .ok (.aload_n 0, 1) := zdec_at bX0_law_946 7 rfl
theorem dX0_law_957 : decode cX0_law 957 = .ok (.iload 4, 2) := zdec_at bX0_law_946 8 rfl
theorem dX0_law_959 : decode cX0_law 959 = .ok (.iconst 1, 1) := zdec_at bX0_law_946 9 rfl
theorem dX0_law_960 : decode cX0_law 960 = .ok (.iadd, 1) := zdec_at bX0_law_946 10 rfl
theorem dX0_law_961 : decode cX0_law 961 = .ok (.iaload, 1) := zdec_at bX0_law_946 11 rfl
theorem dX0_law_962 : decode cX0_law 962 = .ok (.invokevirtual 121, 3) := zdec_at bX0_law_946 12 rfl
theorem dX0_law_965 : decode cX0_law 965 = .ok (.if_icmp .eq 5, 3) := zdec_at bX0_law_946 13 rfl
theorem dX0_law_968 : decode cX0_law 968 = .ok (.iconst 0, 1) := zdec_at bX0_law_946 14 rfl
theorem dX0_law_969 : decode cX0_law 969 = .ok (.ireturn, 1) := zdec_at bX0_law_946 15 rfl
theorem bX0_law_970 : zdec cX0_law 970 [(970, .iinc 4 6, 3), (973, .goto (-950), 3), (976, .iconst 1, 1), (977, .ireturn, 1)] = true := by decide +kernel
theorem dX0_law_970 : decode cX0_law 970 = .ok (.iinc 4 6, 3) := zdec_at bX0_law_970 0 rfl
theorem dX0_law_973 : decode cX0_law 973 = .ok (.goto (-950), 3) := zdec_at bX0_law_970 1 rfl
theorem dX0_law_976 : decode cX0_law 976 = .ok (.iconst 1, 1) := zdec_at bX0_law_970 2 rfl
theorem dX0_law_977 : decode cX0_law 977 = .ok (.ireturn, 1) := zdec_at bX0_law_970 3 rfl
theorem sX0_law_23 {E : zE} {d : Nat} {Q : zO → zM → Prop} (M : zM) (l4 : Int32) (k : if ((Int32.ofNat (zxl E)) - (6 : Int32)) < l4 then (Q (.inl (some (vi (1 : Int32)))) M) else (vp_in l4 (zxl E) ∧ (if ((zxs E (l4).toNatClampNeg) &&& (31 : Int32)) = 0 then (vp_in (l4 + (1 : Int32)) (zxl E) ∧ (vp_in (l4 + (2 : Int32)) (zxl E) ∧ (vp_in (l4 + (3 : Int32)) (zxl E) ∧ (vp_in (l4 + (4 : Int32)) (zxl E) ∧ (vp_in (l4 + (5 : Int32)) (zxl E) ∧ (Z E YX1_feed d M (zargs 0 [vr (some (16, 0, 0)), vi (zxs E ((l4 + (1 : Int32))).toNatClampNeg), vi (zxs E ((l4 + (2 : Int32))).toNatClampNeg), vi (zxs E ((l4 + (3 : Int32))).toNatClampNeg), vi (zxs E ((l4 + (4 : Int32))).toNatClampNeg), vi (zxs E ((l4 + (5 : Int32))).toNatClampNeg)]) 0 [] (zafter E YX0_law (d + 1) [(0, vr (some (0, 109, 0))), (1, vr (some (16, 0, 0))), (2, vr (some (97, 1, 0))), (3, vr (some (189, 105, 1))), (4, vi l4)] 171 3 [] Q))))))) else (if ((zxs E (l4).toNatClampNeg) &&& (31 : Int32)) = 1 then (vp_in (l4 + (1 : Int32)) (zxl E) ∧ (Z E YX1_back d M (zargs 0 [vr (some (16, 0, 0)), vi (zxs E ((l4 + (1 : Int32))).toNatClampNeg)]) 0 [] (zafter E YX0_law (d + 1) [(0, vr (some (0, 109, 0))), (1, vr (some (16, 0, 0))), (2, vr (some (97, 1, 0))), (3, vr (some (189, 105, 1))), (4, vi l4)] 220 3 [] Q))) else (if ((zxs E (l4).toNatClampNeg) &&& (31 : Int32)) = 2 then (Z E YX1_read d M (zargs 0 [vr (some (16, 0, 0))]) 0 [] (zafter E YX0_law (d + 1) [(0, vr (some (0, 109, 0))), (1, vr (some (16, 0, 0))), (2, vr (some (97, 1, 0))), (3, vr (some (189, 105, 1))), (4, vi l4)] 239 3 [] Q)) else (if ((zxs E (l4).toNatClampNeg) &&& (31 : Int32)) = 3 then (vp_in (l4 + (1 : Int32)) (zxl E) ∧ (Z E YX1_count d M (zargs 0 [vr (some (16, 0, 0)), vi (zxs E ((l4 + (1 : Int32))).toNatClampNeg)]) 0 [] (zafter E YX0_law (d + 1) [(0, vr (some (0, 109, 0))), (1, vr (some (16, 0, 0))), (2, vr (some (97, 1, 0))), (3, vr (some (189, 105, 1))), (4, vi l4)] 258 3 [] Q))) else (if ((zxs E (l4).toNatClampNeg) &&& (31 : Int32)) = 4 then (vp_in (l4 + (1 : Int32)) (zxl E) ∧ (vp_in (l4 + (2 : Int32)) (zxl E) ∧ (Z E YX1_letter d M (zargs 0 [vr (some (16, 0, 0)), vi (zxs E ((l4 + (1 : Int32))).toNatClampNeg), vi (zxs E ((l4 + (2 : Int32))).toNatClampNeg)]) 0 [] (zafter E YX0_law (d + 1) [(0, vr (some (0, 109, 0))), (1, vr (some (16, 0, 0))), (2, vr (some (97, 1, 0))), (3, vr (some (189, 105, 1))), (4, vi l4)] 289 3 [] Q)))) else (if ((zxs E (l4).toNatClampNeg) &&& (31 : Int32)) = 5 then (vp_in (l4 + (1 : Int32)) (zxl E) ∧ (vp_in (l4 + (2 : Int32)) (zxl E) ∧ (Z E YX1_instruction d M (zargs 0 [vr (some (16, 0, 0)), vi (zxs E ((l4 + (1 : Int32))).toNatClampNeg), vi (zxs E ((l4 + (2 : Int32))).toNatClampNeg)]) 0 [] (zafter E YX0_law (d + 1) [(0, vr (some (0, 109, 0))), (1, vr (some (16, 0, 0))), (2, vr (some (97, 1, 0))), (3, vr (some (189, 105, 1))), (4, vi l4)] 326 3 [] Q)))) else (if ((zxs E (l4).toNatClampNeg) &&& (31 : Int32)) = 6 then (Z E YX0_begin d M (zargs 0 [vr (some (16, 0, 0))]) 0 [] (zafter E YX0_law (d + 1) [(0, vr (some (0, 109, 0))), (1, vr (some (16, 0, 0))), (2, vr (some (97, 1, 0))), (3, vr (some (189, 105, 1))), (4, vi l4)] 351 3 [] Q)) else (if ((zxs E (l4).toNatClampNeg) &&& (31 : Int32)) = 7 then (vp_in (l4 + (1 : Int32)) (zxl E) ∧ (Z E YX0_run d M (zargs 0 [vr (some (16, 0, 0)), vi (zxs E ((l4 + (1 : Int32))).toNatClampNeg), vr (some (189, 105, 1))]) 0 [] (zafter E YX0_law (d + 1) [(0, vr (some (0, 109, 0))), (1, vr (some (16, 0, 0))), (2, vr (some (97, 1, 0))), (3, vr (some (189, 105, 1))), (4, vi l4)] 382 3 [] Q))) else (if ((zxs E (l4).toNatClampNeg) &&& (31 : Int32)) = 8 then (vp_in (l4 + (1 : Int32)) (zxl E) ∧ (vp_in (l4 + (2 : Int32)) (zxl E) ∧ (Z E YX1_frame d M (zargs 0 [vr (some (16, 0, 0)), vi (zxs E ((l4 + (1 : Int32))).toNatClampNeg), vi (zxs E ((l4 + (2 : Int32))).toNatClampNeg)]) 0 [] (zafter E YX0_law (d + 1) [(0, vr (some (0, 109, 0))), (1, vr (some (16, 0, 0))), (2, vr (some (97, 1, 0))), (3, vr (some (189, 105, 1))), (4, vi l4)] 443 3 [] Q)))) else (if ((zxs E (l4).toNatClampNeg) &&& (31 : Int32)) = 9 then (vp_in (l4 + (1 : Int32)) (zxl E) ∧ (vp_in (l4 + (2 : Int32)) (zxl E) ∧ (vp_in (l4 + (3 : Int32)) (zxl E) ∧ (Z E YX1_value d M (zargs 0 [vr (some (16, 0, 0)), vi (zxs E ((l4 + (1 : Int32))).toNatClampNeg), vi (zxs E ((l4 + (2 : Int32))).toNatClampNeg), vi (zxs E ((l4 + (3 : Int32))).toNatClampNeg)]) 0 [] (zafter E YX0_law (d + 1) [(0, vr (some (0, 109, 0))), (1, vr (some (16, 0, 0))), (2, vr (some (97, 1, 0))), (3, vr (some (189, 105, 1))), (4, vi l4)] 486 3 [] Q))))) else (if ((zxs E (l4).toNatClampNeg) &&& (31 : Int32)) = 10 then (vp_in (l4 + (1 : Int32)) (zxl E) ∧ (vp_in (l4 + (2 : Int32)) (zxl E) ∧ (Z E YX1_object d M (zargs 0 [vr (some (16, 0, 0)), vi (zxs E ((l4 + (1 : Int32))).toNatClampNeg), vi (zxs E ((l4 + (2 : Int32))).toNatClampNeg)]) 0 [] (zafter E YX0_law (d + 1) [(0, vr (some (0, 109, 0))), (1, vr (some (16, 0, 0))), (2, vr (some (97, 1, 0))), (3, vr (some (189, 105, 1))), (4, vi l4)] 529 3 [] Q)))) else (if ((zxs E (l4).toNatClampNeg) &&& (31 : Int32)) = 11 then (vp_in (l4 + (1 : Int32)) (zxl E) ∧ (vp_in (l4 + (2 : Int32)) (zxl E) ∧ (vp_in (l4 + (3 : Int32)) (zxl E) ∧ (Z E YX1_property d M (zargs 0 [vr (some (16, 0, 0)), vi (zxs E ((l4 + (1 : Int32))).toNatClampNeg), vi (zxs E ((l4 + (2 : Int32))).toNatClampNeg), vi (zxs E ((l4 + (3 : Int32))).toNatClampNeg)]) 0 [] (zafter E YX0_law (d + 1) [(0, vr (some (0, 109, 0))), (1, vr (some (16, 0, 0))), (2, vr (some (97, 1, 0))), (3, vr (some (189, 105, 1))), (4, vi l4)] 572 3 [] Q))))) else (if ((zxs E (l4).toNatClampNeg) &&& (31 : Int32)) = 12 then (vp_in (l4 + (1 : Int32)) (zxl E) ∧ (vp_in (l4 + (2 : Int32)) (zxl E) ∧ (Z E YX1_printed d M (zargs 0 [vr (some (16, 0, 0)), vi (zxs E ((l4 + (1 : Int32))).toNatClampNeg), vi (zxs E ((l4 + (2 : Int32))).toNatClampNeg)]) 0 [] (zafter E YX0_law (d + 1) [(0, vr (some (0, 109, 0))), (1, vr (some (16, 0, 0))), (2, vr (some (97, 1, 0))), (3, vr (some (189, 105, 1))), (4, vi l4)] 615 3 [] Q)))) else (if ((zxs E (l4).toNatClampNeg) &&& (31 : Int32)) = 13 then (vp_in (l4 + (1 : Int32)) (zxl E) ∧ (Z E YX1_uncaught d M (zargs 0 [vr (some (16, 0, 0)), vi (zxs E ((l4 + (1 : Int32))).toNatClampNeg)]) 0 [] (zafter E YX0_law (d + 1) [(0, vr (some (0, 109, 0))), (1, vr (some (16, 0, 0))), (2, vr (some (97, 1, 0))), (3, vr (some (189, 105, 1))), (4, vi l4)] 646 3 [] Q))) else (if ((zxs E (l4).toNatClampNeg) &&& (31 : Int32)) = 14 then (Z E YX0_solve d M (zargs 0 [vr (some (16, 0, 0)), vr (some (189, 105, 1))]) 0 [] (zafter E YX0_law (d + 1) [(0, vr (some (0, 109, 0))), (1, vr (some (16, 0, 0))), (2, vr (some (97, 1, 0))), (3, vr (some (189, 105, 1))), (4, vi l4)] 666 3 [] Q)) else (if ((zxs E (l4).toNatClampNeg) &&& (31 : Int32)) = 15 then (vp_in (l4 + (1 : Int32)) (zxl E) ∧ (Z E YX1_height d M (zargs 0 [vr (some (16, 0, 0)), vi (zxs E ((l4 + (1 : Int32))).toNatClampNeg)]) 0 [] (zafter E YX0_law (d + 1) [(0, vr (some (0, 109, 0))), (1, vr (some (16, 0, 0))), (2, vr (some (97, 1, 0))), (3, vr (some (189, 105, 1))), (4, vi l4)] 715 3 [] Q))) else (if ((zxs E (l4).toNatClampNeg) &&& (31 : Int32)) = 16 then (vp_in (l4 + (1 : Int32)) (zxl E) ∧ (vp_in (l4 + (2 : Int32)) (zxl E) ∧ (vp_in (l4 + (3 : Int32)) (zxl E) ∧ (Z E YX1_slot d M (zargs 0 [vr (some (16, 0, 0)), vi (zxs E ((l4 + (1 : Int32))).toNatClampNeg), vi (zxs E ((l4 + (2 : Int32))).toNatClampNeg), vi (zxs E ((l4 + (3 : Int32))).toNatClampNeg)]) 0 [] (zafter E YX0_law (d + 1) [(0, vr (some (0, 109, 0))), (1, vr (some (16, 0, 0))), (2, vr (some (97, 1, 0))), (3, vr (some (189, 105, 1))), (4, vi l4)] 752 3 [] Q))))) else (if ((zxs E (l4).toNatClampNeg) &&& (31 : Int32)) = 17 then (vp_in (l4 + (1 : Int32)) (zxl E) ∧ (vp_in (l4 + (2 : Int32)) (zxl E) ∧ (vp_in (l4 + (3 : Int32)) (zxl E) ∧ (vp_in (l4 + (4 : Int32)) (zxl E) ∧ (Z E YX1_field d M (zargs 0 [vr (some (16, 0, 0)), vi (zxs E ((l4 + (1 : Int32))).toNatClampNeg), vi (zxs E ((l4 + (2 : Int32))).toNatClampNeg), vi (zxs E ((l4 + (3 : Int32))).toNatClampNeg), vi (zxs E ((l4 + (4 : Int32))).toNatClampNeg)]) 0 [] (zafter E YX0_law (d + 1) [(0, vr (some (0, 109, 0))), (1, vr (some (16, 0, 0))), (2, vr (some (97, 1, 0))), (3, vr (some (189, 105, 1))), (4, vi l4)] 808 3 [] Q)))))) else (if ((zxs E (l4).toNatClampNeg) &&& (31 : Int32)) = 18 then (vp_in (l4 + (1 : Int32)) (zxl E) ∧ (vp_in (l4 + (2 : Int32)) (zxl E) ∧ (vp_in (l4 + (3 : Int32)) (zxl E) ∧ (Z E YX1_link d M (zargs 0 [vr (some (16, 0, 0)), vi (zxs E ((l4 + (1 : Int32))).toNatClampNeg), vi (zxs E ((l4 + (2 : Int32))).toNatClampNeg), vi (zxs E ((l4 + (3 : Int32))).toNatClampNeg)]) 0 [] (zafter E YX0_law (d + 1) [(0, vr (some (0, 109, 0))), (1, vr (some (16, 0, 0))), (2, vr (some (97, 1, 0))), (3, vr (some (189, 105, 1))), (4, vi l4)] 864 3 [] Q))))) else (if ((zxs E (l4).toNatClampNeg) &&& (31 : Int32)) = 19 then (vp_in (l4 + (1 : Int32)) (zxl E) ∧ (vp_in (l4 + (2 : Int32)) (zxl E) ∧ (vp_in (l4 + (3 : Int32)) (zxl E) ∧ (Z E YX1_result d M (zargs 0 [vr (some (16, 0, 0)), vi (zxs E ((l4 + (1 : Int32))).toNatClampNeg), vi (zxs E ((l4 + (2 : Int32))).toNatClampNeg), vi (zxs E ((l4 + (3 : Int32))).toNatClampNeg)]) 0 [] (zafter E YX0_law (d + 1) [(0, vr (some (0, 109, 0))), (1, vr (some (16, 0, 0))), (2, vr (some (97, 1, 0))), (3, vr (some (189, 105, 1))), (4, vi l4)] 914 3 [] Q))))) else (if ((zxs E (l4).toNatClampNeg) &&& (31 : Int32)) = 20 then (vp_in (l4 + (1 : Int32)) (zxl E) ∧ (Z E YX1_warns d M (zargs 0 [vr (some (16, 0, 0)), vi (zxs E ((l4 + (1 : Int32))).toNatClampNeg)]) 0 [] (zafter E YX0_law (d + 1) [(0, vr (some (0, 109, 0))), (1, vr (some (16, 0, 0))), (2, vr (some (97, 1, 0))), (3, vr (some (189, 105, 1))), (4, vi l4)] 952 3 [] Q))) else (Z E YX0_law (d + 1) M [(0, vr (some (0, 109, 0))), (1, vr (some (16, 0, 0))), (2, vr (some (97, 1, 0))), (3, vr (some (189, 105, 1))), (4, vi (l4 + (6 : Int32)))] 23 [] Q)))))))))))))))))))))))) : Z E YX0_law (d + 1) M [(0, vr (some (0, 109, 0))), (1, vr (some (16, 0, 0))), (2, vr (some (97, 1, 0))), (3, vr (some (189, 105, 1))), (4, vi l4)] 23 [] Q := by
  refine z_iload dX0_law_23 rfl ?_
  refine z_aload_n dX0_law_25 rfl rfl ?_
  refine z_xlen dX0_law_26 ?_
  refine z_bipush (v := 6) dX0_law_27 rfl ?_
  refine z_isub dX0_law_29 ?_
  refine z_icmp_gt (tgt := 976) dX0_law_30 rfl (fun h_ => ?_) (fun h_ => ?_)
  · have k := zit h_ k
    refine z_iconst (v := 1) dX0_law_976 rfl ?_
    exact z_iret dX0_law_977 rfl (by decide) k
  · have k := zif h_ k
    refine z_aload_n dX0_law_33 rfl rfl ?_
    refine z_iload dX0_law_34 rfl ?_
    obtain ⟨b_, k⟩ := k
    refine z_xald dX0_law_36 b_ ?_
    refine z_bipush (v := 31) dX0_law_37 rfl ?_
    refine z_iand dX0_law_39 ?_
    by_cases h0_ : ((zxs E (l4).toNatClampNeg) &&& (31 : Int32)) = 0
    · have k := zit h0_ k
      refine z_tableIn (off := 100) (tgt := 140) dX0_law_40 (by rw [h0_]; decide) (by rw [h0_]; decide) (by rw [h0_]; rfl) rfl ?_
      refine z_aload_n dX0_law_140 rfl rfl ?_
      refine z_aload_n dX0_law_141 rfl rfl ?_
      refine z_iload dX0_law_142 rfl ?_
      refine z_iconst (v := 1) dX0_law_144 rfl ?_
      refine z_iadd dX0_law_145 ?_
      obtain ⟨b_, k⟩ := k
      refine z_xald dX0_law_146 b_ ?_
      refine z_aload_n dX0_law_147 rfl rfl ?_
      refine z_iload dX0_law_148 rfl ?_
      refine z_iconst (v := 2) dX0_law_150 rfl ?_
      refine z_iadd dX0_law_151 ?_
      obtain ⟨b_, k⟩ := k
      refine z_xald dX0_law_152 b_ ?_
      refine z_aload_n dX0_law_153 rfl rfl ?_
      refine z_iload dX0_law_154 rfl ?_
      refine z_iconst (v := 3) dX0_law_156 rfl ?_
      refine z_iadd dX0_law_157 ?_
      obtain ⟨b_, k⟩ := k
      refine z_xald dX0_law_158 b_ ?_
      refine z_aload_n dX0_law_159 rfl rfl ?_
      refine z_iload dX0_law_160 rfl ?_
      refine z_iconst (v := 4) dX0_law_162 rfl ?_
      refine z_iadd dX0_law_163 ?_
      obtain ⟨b_, k⟩ := k
      refine z_xald dX0_law_164 b_ ?_
      refine z_aload_n dX0_law_165 rfl rfl ?_
      refine z_iload dX0_law_166 rfl ?_
      refine z_iconst (v := 5) dX0_law_168 rfl ?_
      refine z_iadd dX0_law_169 ?_
      obtain ⟨b_, k⟩ := k
      refine z_xald dX0_law_170 b_ ?_
      exact z_callV (as := [vi (zxs E ((l4 + (1 : Int32))).toNatClampNeg), vi (zxs E ((l4 + (2 : Int32))).toNatClampNeg), vi (zxs E ((l4 + (3 : Int32))).toNatClampNeg), vi (zxs E ((l4 + (4 : Int32))).toNatClampNeg), vi (zxs E ((l4 + (5 : Int32))).toNatClampNeg)]) (st := []) dX0_law_171 vsX0_28_0 (Nat.le_refl _) (Nat.le_of_ble_eq_true rfl) (Nat.le_of_ble_eq_true rfl) rfl k
    · have k := zif h0_ k
      by_cases h1_ : ((zxs E (l4).toNatClampNeg) &&& (31 : Int32)) = 1
      · have k := zit h1_ k
        refine z_tableIn (off := 173) (tgt := 213) dX0_law_40 (by rw [h1_]; decide) (by rw [h1_]; decide) (by rw [h1_]; rfl) rfl ?_
        refine z_aload_n dX0_law_213 rfl rfl ?_
        refine z_aload_n dX0_law_214 rfl rfl ?_
        refine z_iload dX0_law_215 rfl ?_
        refine z_iconst (v := 1) dX0_law_217 rfl ?_
        refine z_iadd dX0_law_218 ?_
        obtain ⟨b_, k⟩ := k
        refine z_xald dX0_law_219 b_ ?_
        exact z_callV (as := [vi (zxs E ((l4 + (1 : Int32))).toNatClampNeg)]) (st := []) dX0_law_220 vsX0_33_0 (Nat.le_refl _) (Nat.le_of_ble_eq_true rfl) (Nat.le_of_ble_eq_true rfl) rfl k
      · have k := zif h1_ k
        by_cases h2_ : ((zxs E (l4).toNatClampNeg) &&& (31 : Int32)) = 2
        · have k := zit h2_ k
          refine z_tableIn (off := 198) (tgt := 238) dX0_law_40 (by rw [h2_]; decide) (by rw [h2_]; decide) (by rw [h2_]; rfl) rfl ?_
          refine z_aload_n dX0_law_238 rfl rfl ?_
          exact z_callV (as := []) (st := []) dX0_law_239 vsX0_37_0 (Nat.le_refl _) (Nat.le_of_ble_eq_true rfl) (Nat.le_of_ble_eq_true rfl) rfl k
        · have k := zif h2_ k
          by_cases h3_ : ((zxs E (l4).toNatClampNeg) &&& (31 : Int32)) = 3
          · have k := zit h3_ k
            refine z_tableIn (off := 211) (tgt := 251) dX0_law_40 (by rw [h3_]; decide) (by rw [h3_]; decide) (by rw [h3_]; rfl) rfl ?_
            refine z_aload_n dX0_law_251 rfl rfl ?_
            refine z_aload_n dX0_law_252 rfl rfl ?_
            refine z_iload dX0_law_253 rfl ?_
            refine z_iconst (v := 1) dX0_law_255 rfl ?_
            refine z_iadd dX0_law_256 ?_
            obtain ⟨b_, k⟩ := k
            refine z_xald dX0_law_257 b_ ?_
            exact z_callV (as := [vi (zxs E ((l4 + (1 : Int32))).toNatClampNeg)]) (st := []) dX0_law_258 vsX0_41_0 (Nat.le_refl _) (Nat.le_of_ble_eq_true rfl) (Nat.le_of_ble_eq_true rfl) rfl k
          · have k := zif h3_ k
            by_cases h4_ : ((zxs E (l4).toNatClampNeg) &&& (31 : Int32)) = 4
            · have k := zit h4_ k
              refine z_tableIn (off := 236) (tgt := 276) dX0_law_40 (by rw [h4_]; decide) (by rw [h4_]; decide) (by rw [h4_]; rfl) rfl ?_
              refine z_aload_n dX0_law_276 rfl rfl ?_
              refine z_aload_n dX0_law_277 rfl rfl ?_
              refine z_iload dX0_law_278 rfl ?_
              refine z_iconst (v := 1) dX0_law_280 rfl ?_
              refine z_iadd dX0_law_281 ?_
              obtain ⟨b_, k⟩ := k
              refine z_xald dX0_law_282 b_ ?_
              refine z_aload_n dX0_law_283 rfl rfl ?_
              refine z_iload dX0_law_284 rfl ?_
              refine z_iconst (v := 2) dX0_law_286 rfl ?_
              refine z_iadd dX0_law_287 ?_
              obtain ⟨b_, k⟩ := k
              refine z_xald dX0_law_288 b_ ?_
              exact z_callV (as := [vi (zxs E ((l4 + (1 : Int32))).toNatClampNeg), vi (zxs E ((l4 + (2 : Int32))).toNatClampNeg)]) (st := []) dX0_law_289 vsX0_45_0 (Nat.le_refl _) (Nat.le_of_ble_eq_true rfl) (Nat.le_of_ble_eq_true rfl) rfl k
            · have k := zif h4_ k
              by_cases h5_ : ((zxs E (l4).toNatClampNeg) &&& (31 : Int32)) = 5
              · have k := zit h5_ k
                refine z_tableIn (off := 273) (tgt := 313) dX0_law_40 (by rw [h5_]; decide) (by rw [h5_]; decide) (by rw [h5_]; rfl) rfl ?_
                refine z_aload_n dX0_law_313 rfl rfl ?_
                refine z_aload_n dX0_law_314 rfl rfl ?_
                refine z_iload dX0_law_315 rfl ?_
                refine z_iconst (v := 1) dX0_law_317 rfl ?_
                refine z_iadd dX0_law_318 ?_
                obtain ⟨b_, k⟩ := k
                refine z_xald dX0_law_319 b_ ?_
                refine z_aload_n dX0_law_320 rfl rfl ?_
                refine z_iload dX0_law_321 rfl ?_
                refine z_iconst (v := 2) dX0_law_323 rfl ?_
                refine z_iadd dX0_law_324 ?_
                obtain ⟨b_, k⟩ := k
                refine z_xald dX0_law_325 b_ ?_
                exact z_callV (as := [vi (zxs E ((l4 + (1 : Int32))).toNatClampNeg), vi (zxs E ((l4 + (2 : Int32))).toNatClampNeg)]) (st := []) dX0_law_326 vsX0_50_0 (Nat.le_refl _) (Nat.le_of_ble_eq_true rfl) (Nat.le_of_ble_eq_true rfl) rfl k
              · have k := zif h5_ k
                by_cases h6_ : ((zxs E (l4).toNatClampNeg) &&& (31 : Int32)) = 6
                · have k := zit h6_ k
                  refine z_tableIn (off := 310) (tgt := 350) dX0_law_40 (by rw [h6_]; decide) (by rw [h6_]; decide) (by rw [h6_]; rfl) rfl ?_
                  refine z_aload_n dX0_law_350 rfl rfl ?_
                  exact z_callS (as := [vr (some (16, 0, 0))]) (st := []) dX0_law_351 ssX0_54 (Nat.le_refl _) (Nat.le_of_ble_eq_true rfl) (Nat.le_of_ble_eq_true rfl) rfl k
                · have k := zif h6_ k
                  by_cases h7_ : ((zxs E (l4).toNatClampNeg) &&& (31 : Int32)) = 7
                  · have k := zit h7_ k
                    refine z_tableIn (off := 334) (tgt := 374) dX0_law_40 (by rw [h7_]; decide) (by rw [h7_]; decide) (by rw [h7_]; rfl) rfl ?_
                    refine z_aload_n dX0_law_374 rfl rfl ?_
                    refine z_aload_n dX0_law_375 rfl rfl ?_
                    refine z_iload dX0_law_376 rfl ?_
                    refine z_iconst (v := 1) dX0_law_378 rfl ?_
                    refine z_iadd dX0_law_379 ?_
                    obtain ⟨b_, k⟩ := k
                    refine z_xald dX0_law_380 b_ ?_
                    refine z_aload_n dX0_law_381 rfl rfl ?_
                    exact z_callS (as := [vr (some (16, 0, 0)), vi (zxs E ((l4 + (1 : Int32))).toNatClampNeg), vr (some (189, 105, 1))]) (st := []) dX0_law_382 ssX0_63 (Nat.le_refl _) (Nat.le_of_ble_eq_true rfl) (Nat.le_of_ble_eq_true rfl) rfl k
                  · have k := zif h7_ k
                    by_cases h8_ : ((zxs E (l4).toNatClampNeg) &&& (31 : Int32)) = 8
                    · have k := zit h8_ k
                      refine z_tableIn (off := 390) (tgt := 430) dX0_law_40 (by rw [h8_]; decide) (by rw [h8_]; decide) (by rw [h8_]; rfl) rfl ?_
                      refine z_aload_n dX0_law_430 rfl rfl ?_
                      refine z_aload_n dX0_law_431 rfl rfl ?_
                      refine z_iload dX0_law_432 rfl ?_
                      refine z_iconst (v := 1) dX0_law_434 rfl ?_
                      refine z_iadd dX0_law_435 ?_
                      obtain ⟨b_, k⟩ := k
                      refine z_xald dX0_law_436 b_ ?_
                      refine z_aload_n dX0_law_437 rfl rfl ?_
                      refine z_iload dX0_law_438 rfl ?_
                      refine z_iconst (v := 2) dX0_law_440 rfl ?_
                      refine z_iadd dX0_law_441 ?_
                      obtain ⟨b_, k⟩ := k
                      refine z_xald dX0_law_442 b_ ?_
                      exact z_callV (as := [vi (zxs E ((l4 + (1 : Int32))).toNatClampNeg), vi (zxs E ((l4 + (2 : Int32))).toNatClampNeg)]) (st := []) dX0_law_443 vsX0_67_0 (Nat.le_refl _) (Nat.le_of_ble_eq_true rfl) (Nat.le_of_ble_eq_true rfl) rfl k
                    · have k := zif h8_ k
                      by_cases h9_ : ((zxs E (l4).toNatClampNeg) &&& (31 : Int32)) = 9
                      · have k := zit h9_ k
                        refine z_tableIn (off := 427) (tgt := 467) dX0_law_40 (by rw [h9_]; decide) (by rw [h9_]; decide) (by rw [h9_]; rfl) rfl ?_
                        refine z_aload_n dX0_law_467 rfl rfl ?_
                        refine z_aload_n dX0_law_468 rfl rfl ?_
                        refine z_iload dX0_law_469 rfl ?_
                        refine z_iconst (v := 1) dX0_law_471 rfl ?_
                        refine z_iadd dX0_law_472 ?_
                        obtain ⟨b_, k⟩ := k
                        refine z_xald dX0_law_473 b_ ?_
                        refine z_aload_n dX0_law_474 rfl rfl ?_
                        refine z_iload dX0_law_475 rfl ?_
                        refine z_iconst (v := 2) dX0_law_477 rfl ?_
                        refine z_iadd dX0_law_478 ?_
                        obtain ⟨b_, k⟩ := k
                        refine z_xald dX0_law_479 b_ ?_
                        refine z_aload_n dX0_law_480 rfl rfl ?_
                        refine z_iload dX0_law_481 rfl ?_
                        refine z_iconst (v := 3) dX0_law_483 rfl ?_
                        refine z_iadd dX0_law_484 ?_
                        obtain ⟨b_, k⟩ := k
                        refine z_xald dX0_law_485 b_ ?_
                        exact z_callV (as := [vi (zxs E ((l4 + (1 : Int32))).toNatClampNeg), vi (zxs E ((l4 + (2 : Int32))).toNatClampNeg), vi (zxs E ((l4 + (3 : Int32))).toNatClampNeg)]) (st := []) dX0_law_486 vsX0_71_0 (Nat.le_refl _) (Nat.le_of_ble_eq_true rfl) (Nat.le_of_ble_eq_true rfl) rfl k
                      · have k := zif h9_ k
                        by_cases h10_ : ((zxs E (l4).toNatClampNeg) &&& (31 : Int32)) = 10
                        · have k := zit h10_ k
                          refine z_tableIn (off := 476) (tgt := 516) dX0_law_40 (by rw [h10_]; decide) (by rw [h10_]; decide) (by rw [h10_]; rfl) rfl ?_
                          refine z_aload_n dX0_law_516 rfl rfl ?_
                          refine z_aload_n dX0_law_517 rfl rfl ?_
                          refine z_iload dX0_law_518 rfl ?_
                          refine z_iconst (v := 1) dX0_law_520 rfl ?_
                          refine z_iadd dX0_law_521 ?_
                          obtain ⟨b_, k⟩ := k
                          refine z_xald dX0_law_522 b_ ?_
                          refine z_aload_n dX0_law_523 rfl rfl ?_
                          refine z_iload dX0_law_524 rfl ?_
                          refine z_iconst (v := 2) dX0_law_526 rfl ?_
                          refine z_iadd dX0_law_527 ?_
                          obtain ⟨b_, k⟩ := k
                          refine z_xald dX0_law_528 b_ ?_
                          exact z_callV (as := [vi (zxs E ((l4 + (1 : Int32))).toNatClampNeg), vi (zxs E ((l4 + (2 : Int32))).toNatClampNeg)]) (st := []) dX0_law_529 vsX0_76_0 (Nat.le_refl _) (Nat.le_of_ble_eq_true rfl) (Nat.le_of_ble_eq_true rfl) rfl k
                        · have k := zif h10_ k
                          by_cases h11_ : ((zxs E (l4).toNatClampNeg) &&& (31 : Int32)) = 11
                          · have k := zit h11_ k
                            refine z_tableIn (off := 513) (tgt := 553) dX0_law_40 (by rw [h11_]; decide) (by rw [h11_]; decide) (by rw [h11_]; rfl) rfl ?_
                            refine z_aload_n dX0_law_553 rfl rfl ?_
                            refine z_aload_n dX0_law_554 rfl rfl ?_
                            refine z_iload dX0_law_555 rfl ?_
                            refine z_iconst (v := 1) dX0_law_557 rfl ?_
                            refine z_iadd dX0_law_558 ?_
                            obtain ⟨b_, k⟩ := k
                            refine z_xald dX0_law_559 b_ ?_
                            refine z_aload_n dX0_law_560 rfl rfl ?_
                            refine z_iload dX0_law_561 rfl ?_
                            refine z_iconst (v := 2) dX0_law_563 rfl ?_
                            refine z_iadd dX0_law_564 ?_
                            obtain ⟨b_, k⟩ := k
                            refine z_xald dX0_law_565 b_ ?_
                            refine z_aload_n dX0_law_566 rfl rfl ?_
                            refine z_iload dX0_law_567 rfl ?_
                            refine z_iconst (v := 3) dX0_law_569 rfl ?_
                            refine z_iadd dX0_law_570 ?_
                            obtain ⟨b_, k⟩ := k
                            refine z_xald dX0_law_571 b_ ?_
                            exact z_callV (as := [vi (zxs E ((l4 + (1 : Int32))).toNatClampNeg), vi (zxs E ((l4 + (2 : Int32))).toNatClampNeg), vi (zxs E ((l4 + (3 : Int32))).toNatClampNeg)]) (st := []) dX0_law_572 vsX0_80_0 (Nat.le_refl _) (Nat.le_of_ble_eq_true rfl) (Nat.le_of_ble_eq_true rfl) rfl k
                          · have k := zif h11_ k
                            by_cases h12_ : ((zxs E (l4).toNatClampNeg) &&& (31 : Int32)) = 12
                            · have k := zit h12_ k
                              refine z_tableIn (off := 562) (tgt := 602) dX0_law_40 (by rw [h12_]; decide) (by rw [h12_]; decide) (by rw [h12_]; rfl) rfl ?_
                              refine z_aload_n dX0_law_602 rfl rfl ?_
                              refine z_aload_n dX0_law_603 rfl rfl ?_
                              refine z_iload dX0_law_604 rfl ?_
                              refine z_iconst (v := 1) dX0_law_606 rfl ?_
                              refine z_iadd dX0_law_607 ?_
                              obtain ⟨b_, k⟩ := k
                              refine z_xald dX0_law_608 b_ ?_
                              refine z_aload_n dX0_law_609 rfl rfl ?_
                              refine z_iload dX0_law_610 rfl ?_
                              refine z_iconst (v := 2) dX0_law_612 rfl ?_
                              refine z_iadd dX0_law_613 ?_
                              obtain ⟨b_, k⟩ := k
                              refine z_xald dX0_law_614 b_ ?_
                              exact z_callV (as := [vi (zxs E ((l4 + (1 : Int32))).toNatClampNeg), vi (zxs E ((l4 + (2 : Int32))).toNatClampNeg)]) (st := []) dX0_law_615 vsX0_84_0 (Nat.le_refl _) (Nat.le_of_ble_eq_true rfl) (Nat.le_of_ble_eq_true rfl) rfl k
                            · have k := zif h12_ k
                              by_cases h13_ : ((zxs E (l4).toNatClampNeg) &&& (31 : Int32)) = 13
                              · have k := zit h13_ k
                                refine z_tableIn (off := 599) (tgt := 639) dX0_law_40 (by rw [h13_]; decide) (by rw [h13_]; decide) (by rw [h13_]; rfl) rfl ?_
                                refine z_aload_n dX0_law_639 rfl rfl ?_
                                refine z_aload_n dX0_law_640 rfl rfl ?_
                                refine z_iload dX0_law_641 rfl ?_
                                refine z_iconst (v := 1) dX0_law_643 rfl ?_
                                refine z_iadd dX0_law_644 ?_
                                obtain ⟨b_, k⟩ := k
                                refine z_xald dX0_law_645 b_ ?_
                                exact z_callV (as := [vi (zxs E ((l4 + (1 : Int32))).toNatClampNeg)]) (st := []) dX0_law_646 vsX0_88_0 (Nat.le_refl _) (Nat.le_of_ble_eq_true rfl) (Nat.le_of_ble_eq_true rfl) rfl k
                              · have k := zif h13_ k
                                by_cases h14_ : ((zxs E (l4).toNatClampNeg) &&& (31 : Int32)) = 14
                                · have k := zit h14_ k
                                  refine z_tableIn (off := 624) (tgt := 664) dX0_law_40 (by rw [h14_]; decide) (by rw [h14_]; decide) (by rw [h14_]; rfl) rfl ?_
                                  refine z_aload_n dX0_law_664 rfl rfl ?_
                                  refine z_aload_n dX0_law_665 rfl rfl ?_
                                  exact z_callS (as := [vr (some (16, 0, 0)), vr (some (189, 105, 1))]) (st := []) dX0_law_666 ssX0_92 (Nat.le_refl _) (Nat.le_of_ble_eq_true rfl) (Nat.le_of_ble_eq_true rfl) rfl k
                                · have k := zif h14_ k
                                  by_cases h15_ : ((zxs E (l4).toNatClampNeg) &&& (31 : Int32)) = 15
                                  · have k := zit h15_ k
                                    refine z_tableIn (off := 668) (tgt := 708) dX0_law_40 (by rw [h15_]; decide) (by rw [h15_]; decide) (by rw [h15_]; rfl) rfl ?_
                                    refine z_aload_n dX0_law_708 rfl rfl ?_
                                    refine z_aload_n dX0_law_709 rfl rfl ?_
                                    refine z_iload dX0_law_710 rfl ?_
                                    refine z_iconst (v := 1) dX0_law_712 rfl ?_
                                    refine z_iadd dX0_law_713 ?_
                                    obtain ⟨b_, k⟩ := k
                                    refine z_xald dX0_law_714 b_ ?_
                                    exact z_callV (as := [vi (zxs E ((l4 + (1 : Int32))).toNatClampNeg)]) (st := []) dX0_law_715 vsX0_96_0 (Nat.le_refl _) (Nat.le_of_ble_eq_true rfl) (Nat.le_of_ble_eq_true rfl) rfl k
                                  · have k := zif h15_ k
                                    by_cases h16_ : ((zxs E (l4).toNatClampNeg) &&& (31 : Int32)) = 16
                                    · have k := zit h16_ k
                                      refine z_tableIn (off := 693) (tgt := 733) dX0_law_40 (by rw [h16_]; decide) (by rw [h16_]; decide) (by rw [h16_]; rfl) rfl ?_
                                      refine z_aload_n dX0_law_733 rfl rfl ?_
                                      refine z_aload_n dX0_law_734 rfl rfl ?_
                                      refine z_iload dX0_law_735 rfl ?_
                                      refine z_iconst (v := 1) dX0_law_737 rfl ?_
                                      refine z_iadd dX0_law_738 ?_
                                      obtain ⟨b_, k⟩ := k
                                      refine z_xald dX0_law_739 b_ ?_
                                      refine z_aload_n dX0_law_740 rfl rfl ?_
                                      refine z_iload dX0_law_741 rfl ?_
                                      refine z_iconst (v := 2) dX0_law_743 rfl ?_
                                      refine z_iadd dX0_law_744 ?_
                                      obtain ⟨b_, k⟩ := k
                                      refine z_xald dX0_law_745 b_ ?_
                                      refine z_aload_n dX0_law_746 rfl rfl ?_
                                      refine z_iload dX0_law_747 rfl ?_
                                      refine z_iconst (v := 3) dX0_law_749 rfl ?_
                                      refine z_iadd dX0_law_750 ?_
                                      obtain ⟨b_, k⟩ := k
                                      refine z_xald dX0_law_751 b_ ?_
                                      exact z_callV (as := [vi (zxs E ((l4 + (1 : Int32))).toNatClampNeg), vi (zxs E ((l4 + (2 : Int32))).toNatClampNeg), vi (zxs E ((l4 + (3 : Int32))).toNatClampNeg)]) (st := []) dX0_law_752 vsX0_100_0 (Nat.le_refl _) (Nat.le_of_ble_eq_true rfl) (Nat.le_of_ble_eq_true rfl) rfl k
                                    · have k := zif h16_ k
                                      by_cases h17_ : ((zxs E (l4).toNatClampNeg) &&& (31 : Int32)) = 17
                                      · have k := zit h17_ k
                                        refine z_tableIn (off := 743) (tgt := 783) dX0_law_40 (by rw [h17_]; decide) (by rw [h17_]; decide) (by rw [h17_]; rfl) rfl ?_
                                        refine z_aload_n dX0_law_783 rfl rfl ?_
                                        refine z_aload_n dX0_law_784 rfl rfl ?_
                                        refine z_iload dX0_law_785 rfl ?_
                                        refine z_iconst (v := 1) dX0_law_787 rfl ?_
                                        refine z_iadd dX0_law_788 ?_
                                        obtain ⟨b_, k⟩ := k
                                        refine z_xald dX0_law_789 b_ ?_
                                        refine z_aload_n dX0_law_790 rfl rfl ?_
                                        refine z_iload dX0_law_791 rfl ?_
                                        refine z_iconst (v := 2) dX0_law_793 rfl ?_
                                        refine z_iadd dX0_law_794 ?_
                                        obtain ⟨b_, k⟩ := k
                                        refine z_xald dX0_law_795 b_ ?_
                                        refine z_aload_n dX0_law_796 rfl rfl ?_
                                        refine z_iload dX0_law_797 rfl ?_
                                        refine z_iconst (v := 3) dX0_law_799 rfl ?_
                                        refine z_iadd dX0_law_800 ?_
                                        obtain ⟨b_, k⟩ := k
                                        refine z_xald dX0_law_801 b_ ?_
                                        refine z_aload_n dX0_law_802 rfl rfl ?_
                                        refine z_iload dX0_law_803 rfl ?_
                                        refine z_iconst (v := 4) dX0_law_805 rfl ?_
                                        refine z_iadd dX0_law_806 ?_
                                        obtain ⟨b_, k⟩ := k
                                        refine z_xald dX0_law_807 b_ ?_
                                        exact z_callV (as := [vi (zxs E ((l4 + (1 : Int32))).toNatClampNeg), vi (zxs E ((l4 + (2 : Int32))).toNatClampNeg), vi (zxs E ((l4 + (3 : Int32))).toNatClampNeg), vi (zxs E ((l4 + (4 : Int32))).toNatClampNeg)]) (st := []) dX0_law_808 vsX0_105_0 (Nat.le_refl _) (Nat.le_of_ble_eq_true rfl) (Nat.le_of_ble_eq_true rfl) rfl k
                                      · have k := zif h17_ k
                                        by_cases h18_ : ((zxs E (l4).toNatClampNeg) &&& (31 : Int32)) = 18
                                        · have k := zit h18_ k
                                          refine z_tableIn (off := 805) (tgt := 845) dX0_law_40 (by rw [h18_]; decide) (by rw [h18_]; decide) (by rw [h18_]; rfl) rfl ?_
                                          refine z_aload_n dX0_law_845 rfl rfl ?_
                                          refine z_aload_n dX0_law_846 rfl rfl ?_
                                          refine z_iload dX0_law_847 rfl ?_
                                          refine z_iconst (v := 1) dX0_law_849 rfl ?_
                                          refine z_iadd dX0_law_850 ?_
                                          obtain ⟨b_, k⟩ := k
                                          refine z_xald dX0_law_851 b_ ?_
                                          refine z_aload_n dX0_law_852 rfl rfl ?_
                                          refine z_iload dX0_law_853 rfl ?_
                                          refine z_iconst (v := 2) dX0_law_855 rfl ?_
                                          refine z_iadd dX0_law_856 ?_
                                          obtain ⟨b_, k⟩ := k
                                          refine z_xald dX0_law_857 b_ ?_
                                          refine z_aload_n dX0_law_858 rfl rfl ?_
                                          refine z_iload dX0_law_859 rfl ?_
                                          refine z_iconst (v := 3) dX0_law_861 rfl ?_
                                          refine z_iadd dX0_law_862 ?_
                                          obtain ⟨b_, k⟩ := k
                                          refine z_xald dX0_law_863 b_ ?_
                                          exact z_callV (as := [vi (zxs E ((l4 + (1 : Int32))).toNatClampNeg), vi (zxs E ((l4 + (2 : Int32))).toNatClampNeg), vi (zxs E ((l4 + (3 : Int32))).toNatClampNeg)]) (st := []) dX0_law_864 vsX0_110_0 (Nat.le_refl _) (Nat.le_of_ble_eq_true rfl) (Nat.le_of_ble_eq_true rfl) rfl k
                                        · have k := zif h18_ k
                                          by_cases h19_ : ((zxs E (l4).toNatClampNeg) &&& (31 : Int32)) = 19
                                          · have k := zit h19_ k
                                            refine z_tableIn (off := 855) (tgt := 895) dX0_law_40 (by rw [h19_]; decide) (by rw [h19_]; decide) (by rw [h19_]; rfl) rfl ?_
                                            refine z_aload_n dX0_law_895 rfl rfl ?_
                                            refine z_aload_n dX0_law_896 rfl rfl ?_
                                            refine z_iload dX0_law_897 rfl ?_
                                            refine z_iconst (v := 1) dX0_law_899 rfl ?_
                                            refine z_iadd dX0_law_900 ?_
                                            obtain ⟨b_, k⟩ := k
                                            refine z_xald dX0_law_901 b_ ?_
                                            refine z_aload_n dX0_law_902 rfl rfl ?_
                                            refine z_iload dX0_law_903 rfl ?_
                                            refine z_iconst (v := 2) dX0_law_905 rfl ?_
                                            refine z_iadd dX0_law_906 ?_
                                            obtain ⟨b_, k⟩ := k
                                            refine z_xald dX0_law_907 b_ ?_
                                            refine z_aload_n dX0_law_908 rfl rfl ?_
                                            refine z_iload dX0_law_909 rfl ?_
                                            refine z_iconst (v := 3) dX0_law_911 rfl ?_
                                            refine z_iadd dX0_law_912 ?_
                                            obtain ⟨b_, k⟩ := k
                                            refine z_xald dX0_law_913 b_ ?_
                                            exact z_callV (as := [vi (zxs E ((l4 + (1 : Int32))).toNatClampNeg), vi (zxs E ((l4 + (2 : Int32))).toNatClampNeg), vi (zxs E ((l4 + (3 : Int32))).toNatClampNeg)]) (st := []) dX0_law_914 vsX0_114_0 (Nat.le_refl _) (Nat.le_of_ble_eq_true rfl) (Nat.le_of_ble_eq_true rfl) rfl k
                                          · have k := zif h19_ k
                                            by_cases h20_ : ((zxs E (l4).toNatClampNeg) &&& (31 : Int32)) = 20
                                            · have k := zit h20_ k
                                              refine z_tableIn (off := 905) (tgt := 945) dX0_law_40 (by rw [h20_]; decide) (by rw [h20_]; decide) (by rw [h20_]; rfl) rfl ?_
                                              refine z_aload_n dX0_law_945 rfl rfl ?_
                                              refine z_aload_n dX0_law_946 rfl rfl ?_
                                              refine z_iload dX0_law_947 rfl ?_
                                              refine z_iconst (v := 1) dX0_law_949 rfl ?_
                                              refine z_iadd dX0_law_950 ?_
                                              obtain ⟨b_, k⟩ := k
                                              refine z_xald dX0_law_951 b_ ?_
                                              exact z_callV (as := [vi (zxs E ((l4 + (1 : Int32))).toNatClampNeg)]) (st := []) dX0_law_952 vsX0_118_0 (Nat.le_refl _) (Nat.le_of_ble_eq_true rfl) (Nat.le_of_ble_eq_true rfl) rfl k
                                            · have k := zif h20_ k
                                              refine z_tout (tgt := 970) [0, 1, 2, 3, 4, 5, 6, 7, 8, 9, 10, 11, 12, 13, 14, 15, 16, 17, 18, 19, 20] (by decide) dX0_law_40 (zall_1 h0_ (zall_1 h1_ (zall_1 h2_ (zall_1 h3_ (zall_1 h4_ (zall_1 h5_ (zall_1 h6_ (zall_1 h7_ (zall_1 h8_ (zall_1 h9_ (zall_1 h10_ (zall_1 h11_ (zall_1 h12_ (zall_1 h13_ (zall_1 h14_ (zall_1 h15_ (zall_1 h16_ (zall_1 h17_ (zall_1 h18_ (zall_1 h19_ (zall_1 h20_ zall_0))))))))))))))))))))) rfl ?_
                                              refine z_inc (v := (l4 + (6 : Int32))) dX0_law_970 rfl rfl (by decide) (lv' := [(0, vr (some (0, 109, 0))), (1, vr (some (16, 0, 0))), (2, vr (some (97, 1, 0))), (3, vr (some (189, 105, 1))), (4, vi (l4 + (6 : Int32)))]) rfl ?_
                                              refine z_goto (tgt := 23) dX0_law_973 rfl ?_
                                              exact k
theorem sX0_law_174 {E : zE} {d : Nat} {Q : zO → zM → Prop} (M : zM) (l4 : Int32) (s0 : Int32) (k : vp_in (l4 + (1 : Int32)) (zxl E) ∧ (vp_in (l4 + (2 : Int32)) (zxl E) ∧ (vp_in (l4 + (3 : Int32)) (zxl E) ∧ (vp_in (l4 + (4 : Int32)) (zxl E) ∧ (vp_in (l4 + (5 : Int32)) (zxl E) ∧ (Z E YX8_feed d M (zargs 0 [vr (some (97, 1, 0)), vi (zxs E ((l4 + (1 : Int32))).toNatClampNeg), vi (zxs E ((l4 + (2 : Int32))).toNatClampNeg), vi (zxs E ((l4 + (3 : Int32))).toNatClampNeg), vi (zxs E ((l4 + (4 : Int32))).toNatClampNeg), vi (zxs E ((l4 + (5 : Int32))).toNatClampNeg)]) 0 [] (zafter E YX0_law (d + 1) [(0, vr (some (0, 109, 0))), (1, vr (some (16, 0, 0))), (2, vr (some (97, 1, 0))), (3, vr (some (189, 105, 1))), (4, vi l4)] 205 3 [vi s0] Q))))))) : Z E YX0_law (d + 1) M [(0, vr (some (0, 109, 0))), (1, vr (some (16, 0, 0))), (2, vr (some (97, 1, 0))), (3, vr (some (189, 105, 1))), (4, vi l4)] 174 [vi s0] Q := by
  refine z_aload_n dX0_law_174 rfl rfl ?_
  refine z_aload_n dX0_law_175 rfl rfl ?_
  refine z_iload dX0_law_176 rfl ?_
  refine z_iconst (v := 1) dX0_law_178 rfl ?_
  refine z_iadd dX0_law_179 ?_
  obtain ⟨b_, k⟩ := k
  refine z_xald dX0_law_180 b_ ?_
  refine z_aload_n dX0_law_181 rfl rfl ?_
  refine z_iload dX0_law_182 rfl ?_
  refine z_iconst (v := 2) dX0_law_184 rfl ?_
  refine z_iadd dX0_law_185 ?_
  obtain ⟨b_, k⟩ := k
  refine z_xald dX0_law_186 b_ ?_
  refine z_aload_n dX0_law_187 rfl rfl ?_
  refine z_iload dX0_law_188 rfl ?_
  refine z_iconst (v := 3) dX0_law_190 rfl ?_
  refine z_iadd dX0_law_191 ?_
  obtain ⟨b_, k⟩ := k
  refine z_xald dX0_law_192 b_ ?_
  refine z_aload_n dX0_law_193 rfl rfl ?_
  refine z_iload dX0_law_194 rfl ?_
  refine z_iconst (v := 4) dX0_law_196 rfl ?_
  refine z_iadd dX0_law_197 ?_
  obtain ⟨b_, k⟩ := k
  refine z_xald dX0_law_198 b_ ?_
  refine z_aload_n dX0_law_199 rfl rfl ?_
  refine z_iload dX0_law_200 rfl ?_
  refine z_iconst (v := 5) dX0_law_202 rfl ?_
  refine z_iadd dX0_law_203 ?_
  obtain ⟨b_, k⟩ := k
  refine z_xald dX0_law_204 b_ ?_
  exact z_callV (as := [vi (zxs E ((l4 + (1 : Int32))).toNatClampNeg), vi (zxs E ((l4 + (2 : Int32))).toNatClampNeg), vi (zxs E ((l4 + (3 : Int32))).toNatClampNeg), vi (zxs E ((l4 + (4 : Int32))).toNatClampNeg), vi (zxs E ((l4 + (5 : Int32))).toNatClampNeg)]) (st := [vi s0]) dX0_law_205 vsX0_32_1 (Nat.le_refl _) (Nat.le_of_ble_eq_true rfl) (Nat.le_of_ble_eq_true rfl) rfl k
theorem sX0_law_208 {E : zE} {d : Nat} {Q : zO → zM → Prop} (M : zM) (l4 : Int32) (s0 : Int32) (s1 : Int32) (k : if s1 = s0 then (Z E YX0_law (d + 1) M [(0, vr (some (0, 109, 0))), (1, vr (some (16, 0, 0))), (2, vr (some (97, 1, 0))), (3, vr (some (189, 105, 1))), (4, vi (l4 + (6 : Int32)))] 23 [] Q) else (Q (.inl (some (vi (0 : Int32)))) M)) : Z E YX0_law (d + 1) M [(0, vr (some (0, 109, 0))), (1, vr (some (16, 0, 0))), (2, vr (some (97, 1, 0))), (3, vr (some (189, 105, 1))), (4, vi l4)] 208 [vi s0, vi s1] Q := by
  refine z_icmp_eq (tgt := 970) dX0_law_208 rfl (fun h_ => ?_) (fun h_ => ?_)
  · have k := zit h_ k
    refine z_inc (v := (l4 + (6 : Int32))) dX0_law_970 rfl rfl (by decide) (lv' := [(0, vr (some (0, 109, 0))), (1, vr (some (16, 0, 0))), (2, vr (some (97, 1, 0))), (3, vr (some (189, 105, 1))), (4, vi (l4 + (6 : Int32)))]) rfl ?_
    refine z_goto (tgt := 23) dX0_law_973 rfl ?_
    exact k
  · have k := zif h_ k
    refine z_iconst (v := 0) dX0_law_211 rfl ?_
    exact z_iret dX0_law_212 rfl (by decide) k
theorem sX0_law_223 {E : zE} {d : Nat} {Q : zO → zM → Prop} (M : zM) (l4 : Int32) (s0 : Int32) (k : vp_in (l4 + (1 : Int32)) (zxl E) ∧ (Z E YX8_back d M (zargs 0 [vr (some (97, 1, 0)), vi (zxs E ((l4 + (1 : Int32))).toNatClampNeg)]) 0 [] (zafter E YX0_law (d + 1) [(0, vr (some (0, 109, 0))), (1, vr (some (16, 0, 0))), (2, vr (some (97, 1, 0))), (3, vr (some (189, 105, 1))), (4, vi l4)] 230 3 [vi s0] Q))) : Z E YX0_law (d + 1) M [(0, vr (some (0, 109, 0))), (1, vr (some (16, 0, 0))), (2, vr (some (97, 1, 0))), (3, vr (some (189, 105, 1))), (4, vi l4)] 223 [vi s0] Q := by
  refine z_aload_n dX0_law_223 rfl rfl ?_
  refine z_aload_n dX0_law_224 rfl rfl ?_
  refine z_iload dX0_law_225 rfl ?_
  refine z_iconst (v := 1) dX0_law_227 rfl ?_
  refine z_iadd dX0_law_228 ?_
  obtain ⟨b_, k⟩ := k
  refine z_xald dX0_law_229 b_ ?_
  exact z_callV (as := [vi (zxs E ((l4 + (1 : Int32))).toNatClampNeg)]) (st := [vi s0]) dX0_law_230 vsX0_36_1 (Nat.le_refl _) (Nat.le_of_ble_eq_true rfl) (Nat.le_of_ble_eq_true rfl) rfl k
theorem sX0_law_233 {E : zE} {d : Nat} {Q : zO → zM → Prop} (M : zM) (l4 : Int32) (s0 : Int32) (s1 : Int32) (k : if s1 = s0 then (Z E YX0_law (d + 1) M [(0, vr (some (0, 109, 0))), (1, vr (some (16, 0, 0))), (2, vr (some (97, 1, 0))), (3, vr (some (189, 105, 1))), (4, vi (l4 + (6 : Int32)))] 23 [] Q) else (Q (.inl (some (vi (0 : Int32)))) M)) : Z E YX0_law (d + 1) M [(0, vr (some (0, 109, 0))), (1, vr (some (16, 0, 0))), (2, vr (some (97, 1, 0))), (3, vr (some (189, 105, 1))), (4, vi l4)] 233 [vi s0, vi s1] Q := by
  refine z_icmp_eq (tgt := 970) dX0_law_233 rfl (fun h_ => ?_) (fun h_ => ?_)
  · have k := zit h_ k
    refine z_inc (v := (l4 + (6 : Int32))) dX0_law_970 rfl rfl (by decide) (lv' := [(0, vr (some (0, 109, 0))), (1, vr (some (16, 0, 0))), (2, vr (some (97, 1, 0))), (3, vr (some (189, 105, 1))), (4, vi (l4 + (6 : Int32)))]) rfl ?_
    refine z_goto (tgt := 23) dX0_law_973 rfl ?_
    exact k
  · have k := zif h_ k
    refine z_iconst (v := 0) dX0_law_236 rfl ?_
    exact z_iret dX0_law_237 rfl (by decide) k
theorem sX0_law_242 {E : zE} {d : Nat} {Q : zO → zM → Prop} (M : zM) (l4 : Int32) (s0 : Int32) (k : Z E YX8_read d M (zargs 0 [vr (some (97, 1, 0))]) 0 [] (zafter E YX0_law (d + 1) [(0, vr (some (0, 109, 0))), (1, vr (some (16, 0, 0))), (2, vr (some (97, 1, 0))), (3, vr (some (189, 105, 1))), (4, vi l4)] 243 3 [vi s0] Q)) : Z E YX0_law (d + 1) M [(0, vr (some (0, 109, 0))), (1, vr (some (16, 0, 0))), (2, vr (some (97, 1, 0))), (3, vr (some (189, 105, 1))), (4, vi l4)] 242 [vi s0] Q := by
  refine z_aload_n dX0_law_242 rfl rfl ?_
  exact z_callV (as := []) (st := [vi s0]) dX0_law_243 vsX0_40_1 (Nat.le_refl _) (Nat.le_of_ble_eq_true rfl) (Nat.le_of_ble_eq_true rfl) rfl k
theorem sX0_law_246 {E : zE} {d : Nat} {Q : zO → zM → Prop} (M : zM) (l4 : Int32) (s0 : Int32) (s1 : Int32) (k : if s1 = s0 then (Z E YX0_law (d + 1) M [(0, vr (some (0, 109, 0))), (1, vr (some (16, 0, 0))), (2, vr (some (97, 1, 0))), (3, vr (some (189, 105, 1))), (4, vi (l4 + (6 : Int32)))] 23 [] Q) else (Q (.inl (some (vi (0 : Int32)))) M)) : Z E YX0_law (d + 1) M [(0, vr (some (0, 109, 0))), (1, vr (some (16, 0, 0))), (2, vr (some (97, 1, 0))), (3, vr (some (189, 105, 1))), (4, vi l4)] 246 [vi s0, vi s1] Q := by
  refine z_icmp_eq (tgt := 970) dX0_law_246 rfl (fun h_ => ?_) (fun h_ => ?_)
  · have k := zit h_ k
    refine z_inc (v := (l4 + (6 : Int32))) dX0_law_970 rfl rfl (by decide) (lv' := [(0, vr (some (0, 109, 0))), (1, vr (some (16, 0, 0))), (2, vr (some (97, 1, 0))), (3, vr (some (189, 105, 1))), (4, vi (l4 + (6 : Int32)))]) rfl ?_
    refine z_goto (tgt := 23) dX0_law_973 rfl ?_
    exact k
  · have k := zif h_ k
    refine z_iconst (v := 0) dX0_law_249 rfl ?_
    exact z_iret dX0_law_250 rfl (by decide) k
theorem sX0_law_261 {E : zE} {d : Nat} {Q : zO → zM → Prop} (M : zM) (l4 : Int32) (s0 : Int32) (k : vp_in (l4 + (1 : Int32)) (zxl E) ∧ (Z E YX8_count d M (zargs 0 [vr (some (97, 1, 0)), vi (zxs E ((l4 + (1 : Int32))).toNatClampNeg)]) 0 [] (zafter E YX0_law (d + 1) [(0, vr (some (0, 109, 0))), (1, vr (some (16, 0, 0))), (2, vr (some (97, 1, 0))), (3, vr (some (189, 105, 1))), (4, vi l4)] 268 3 [vi s0] Q))) : Z E YX0_law (d + 1) M [(0, vr (some (0, 109, 0))), (1, vr (some (16, 0, 0))), (2, vr (some (97, 1, 0))), (3, vr (some (189, 105, 1))), (4, vi l4)] 261 [vi s0] Q := by
  refine z_aload_n dX0_law_261 rfl rfl ?_
  refine z_aload_n dX0_law_262 rfl rfl ?_
  refine z_iload dX0_law_263 rfl ?_
  refine z_iconst (v := 1) dX0_law_265 rfl ?_
  refine z_iadd dX0_law_266 ?_
  obtain ⟨b_, k⟩ := k
  refine z_xald dX0_law_267 b_ ?_
  exact z_callV (as := [vi (zxs E ((l4 + (1 : Int32))).toNatClampNeg)]) (st := [vi s0]) dX0_law_268 vsX0_44_1 (Nat.le_refl _) (Nat.le_of_ble_eq_true rfl) (Nat.le_of_ble_eq_true rfl) rfl k
theorem sX0_law_271 {E : zE} {d : Nat} {Q : zO → zM → Prop} (M : zM) (l4 : Int32) (s0 : Int32) (s1 : Int32) (k : if s1 = s0 then (Z E YX0_law (d + 1) M [(0, vr (some (0, 109, 0))), (1, vr (some (16, 0, 0))), (2, vr (some (97, 1, 0))), (3, vr (some (189, 105, 1))), (4, vi (l4 + (6 : Int32)))] 23 [] Q) else (Q (.inl (some (vi (0 : Int32)))) M)) : Z E YX0_law (d + 1) M [(0, vr (some (0, 109, 0))), (1, vr (some (16, 0, 0))), (2, vr (some (97, 1, 0))), (3, vr (some (189, 105, 1))), (4, vi l4)] 271 [vi s0, vi s1] Q := by
  refine z_icmp_eq (tgt := 970) dX0_law_271 rfl (fun h_ => ?_) (fun h_ => ?_)
  · have k := zit h_ k
    refine z_inc (v := (l4 + (6 : Int32))) dX0_law_970 rfl rfl (by decide) (lv' := [(0, vr (some (0, 109, 0))), (1, vr (some (16, 0, 0))), (2, vr (some (97, 1, 0))), (3, vr (some (189, 105, 1))), (4, vi (l4 + (6 : Int32)))]) rfl ?_
    refine z_goto (tgt := 23) dX0_law_973 rfl ?_
    exact k
  · have k := zif h_ k
    refine z_iconst (v := 0) dX0_law_274 rfl ?_
    exact z_iret dX0_law_275 rfl (by decide) k
theorem sX0_law_292 {E : zE} {d : Nat} {Q : zO → zM → Prop} (M : zM) (l4 : Int32) (s0 : Int32) (k : vp_in (l4 + (1 : Int32)) (zxl E) ∧ (vp_in (l4 + (2 : Int32)) (zxl E) ∧ (Z E YX8_letter d M (zargs 0 [vr (some (97, 1, 0)), vi (zxs E ((l4 + (1 : Int32))).toNatClampNeg), vi (zxs E ((l4 + (2 : Int32))).toNatClampNeg)]) 0 [] (zafter E YX0_law (d + 1) [(0, vr (some (0, 109, 0))), (1, vr (some (16, 0, 0))), (2, vr (some (97, 1, 0))), (3, vr (some (189, 105, 1))), (4, vi l4)] 305 3 [vi s0] Q)))) : Z E YX0_law (d + 1) M [(0, vr (some (0, 109, 0))), (1, vr (some (16, 0, 0))), (2, vr (some (97, 1, 0))), (3, vr (some (189, 105, 1))), (4, vi l4)] 292 [vi s0] Q := by
  refine z_aload_n dX0_law_292 rfl rfl ?_
  refine z_aload_n dX0_law_293 rfl rfl ?_
  refine z_iload dX0_law_294 rfl ?_
  refine z_iconst (v := 1) dX0_law_296 rfl ?_
  refine z_iadd dX0_law_297 ?_
  obtain ⟨b_, k⟩ := k
  refine z_xald dX0_law_298 b_ ?_
  refine z_aload_n dX0_law_299 rfl rfl ?_
  refine z_iload dX0_law_300 rfl ?_
  refine z_iconst (v := 2) dX0_law_302 rfl ?_
  refine z_iadd dX0_law_303 ?_
  obtain ⟨b_, k⟩ := k
  refine z_xald dX0_law_304 b_ ?_
  exact z_callV (as := [vi (zxs E ((l4 + (1 : Int32))).toNatClampNeg), vi (zxs E ((l4 + (2 : Int32))).toNatClampNeg)]) (st := [vi s0]) dX0_law_305 vsX0_49_1 (Nat.le_refl _) (Nat.le_of_ble_eq_true rfl) (Nat.le_of_ble_eq_true rfl) rfl k
theorem sX0_law_308 {E : zE} {d : Nat} {Q : zO → zM → Prop} (M : zM) (l4 : Int32) (s0 : Int32) (s1 : Int32) (k : if s1 = s0 then (Z E YX0_law (d + 1) M [(0, vr (some (0, 109, 0))), (1, vr (some (16, 0, 0))), (2, vr (some (97, 1, 0))), (3, vr (some (189, 105, 1))), (4, vi (l4 + (6 : Int32)))] 23 [] Q) else (Q (.inl (some (vi (0 : Int32)))) M)) : Z E YX0_law (d + 1) M [(0, vr (some (0, 109, 0))), (1, vr (some (16, 0, 0))), (2, vr (some (97, 1, 0))), (3, vr (some (189, 105, 1))), (4, vi l4)] 308 [vi s0, vi s1] Q := by
  refine z_icmp_eq (tgt := 970) dX0_law_308 rfl (fun h_ => ?_) (fun h_ => ?_)
  · have k := zit h_ k
    refine z_inc (v := (l4 + (6 : Int32))) dX0_law_970 rfl rfl (by decide) (lv' := [(0, vr (some (0, 109, 0))), (1, vr (some (16, 0, 0))), (2, vr (some (97, 1, 0))), (3, vr (some (189, 105, 1))), (4, vi (l4 + (6 : Int32)))]) rfl ?_
    refine z_goto (tgt := 23) dX0_law_973 rfl ?_
    exact k
  · have k := zif h_ k
    refine z_iconst (v := 0) dX0_law_311 rfl ?_
    exact z_iret dX0_law_312 rfl (by decide) k
theorem sX0_law_329 {E : zE} {d : Nat} {Q : zO → zM → Prop} (M : zM) (l4 : Int32) (s0 : Int32) (k : vp_in (l4 + (1 : Int32)) (zxl E) ∧ (vp_in (l4 + (2 : Int32)) (zxl E) ∧ (Z E YX8_instruction d M (zargs 0 [vr (some (97, 1, 0)), vi (zxs E ((l4 + (1 : Int32))).toNatClampNeg), vi (zxs E ((l4 + (2 : Int32))).toNatClampNeg)]) 0 [] (zafter E YX0_law (d + 1) [(0, vr (some (0, 109, 0))), (1, vr (some (16, 0, 0))), (2, vr (some (97, 1, 0))), (3, vr (some (189, 105, 1))), (4, vi l4)] 342 3 [vi s0] Q)))) : Z E YX0_law (d + 1) M [(0, vr (some (0, 109, 0))), (1, vr (some (16, 0, 0))), (2, vr (some (97, 1, 0))), (3, vr (some (189, 105, 1))), (4, vi l4)] 329 [vi s0] Q := by
  refine z_aload_n dX0_law_329 rfl rfl ?_
  refine z_aload_n dX0_law_330 rfl rfl ?_
  refine z_iload dX0_law_331 rfl ?_
  refine z_iconst (v := 1) dX0_law_333 rfl ?_
  refine z_iadd dX0_law_334 ?_
  obtain ⟨b_, k⟩ := k
  refine z_xald dX0_law_335 b_ ?_
  refine z_aload_n dX0_law_336 rfl rfl ?_
  refine z_iload dX0_law_337 rfl ?_
  refine z_iconst (v := 2) dX0_law_339 rfl ?_
  refine z_iadd dX0_law_340 ?_
  obtain ⟨b_, k⟩ := k
  refine z_xald dX0_law_341 b_ ?_
  exact z_callV (as := [vi (zxs E ((l4 + (1 : Int32))).toNatClampNeg), vi (zxs E ((l4 + (2 : Int32))).toNatClampNeg)]) (st := [vi s0]) dX0_law_342 vsX0_53_1 (Nat.le_refl _) (Nat.le_of_ble_eq_true rfl) (Nat.le_of_ble_eq_true rfl) rfl k
theorem sX0_law_345 {E : zE} {d : Nat} {Q : zO → zM → Prop} (M : zM) (l4 : Int32) (s0 : Int32) (s1 : Int32) (k : if s1 = s0 then (Z E YX0_law (d + 1) M [(0, vr (some (0, 109, 0))), (1, vr (some (16, 0, 0))), (2, vr (some (97, 1, 0))), (3, vr (some (189, 105, 1))), (4, vi (l4 + (6 : Int32)))] 23 [] Q) else (Q (.inl (some (vi (0 : Int32)))) M)) : Z E YX0_law (d + 1) M [(0, vr (some (0, 109, 0))), (1, vr (some (16, 0, 0))), (2, vr (some (97, 1, 0))), (3, vr (some (189, 105, 1))), (4, vi l4)] 345 [vi s0, vi s1] Q := by
  refine z_icmp_eq (tgt := 970) dX0_law_345 rfl (fun h_ => ?_) (fun h_ => ?_)
  · have k := zit h_ k
    refine z_inc (v := (l4 + (6 : Int32))) dX0_law_970 rfl rfl (by decide) (lv' := [(0, vr (some (0, 109, 0))), (1, vr (some (16, 0, 0))), (2, vr (some (97, 1, 0))), (3, vr (some (189, 105, 1))), (4, vi (l4 + (6 : Int32)))]) rfl ?_
    refine z_goto (tgt := 23) dX0_law_973 rfl ?_
    exact k
  · have k := zif h_ k
    refine z_iconst (v := 0) dX0_law_348 rfl ?_
    exact z_iret dX0_law_349 rfl (by decide) k
theorem sX0_law_354 {E : zE} {d : Nat} {Q : zO → zM → Prop} (M : zM) (l4 : Int32) (s0 : Int32) (k : Z E YX8_begin d M (zargs 0 [vr (some (97, 1, 0))]) 0 [] (zafter E YX0_law (d + 1) [(0, vr (some (0, 109, 0))), (1, vr (some (16, 0, 0))), (2, vr (some (97, 1, 0))), (3, vr (some (189, 105, 1))), (4, vi l4), (5, vi s0)] 357 3 [] Q)) : Z E YX0_law (d + 1) M [(0, vr (some (0, 109, 0))), (1, vr (some (16, 0, 0))), (2, vr (some (97, 1, 0))), (3, vr (some (189, 105, 1))), (4, vi l4)] 354 [vi s0] Q := by
  refine z_ist dX0_law_354 (by decide) (lv' := [(0, vr (some (0, 109, 0))), (1, vr (some (16, 0, 0))), (2, vr (some (97, 1, 0))), (3, vr (some (189, 105, 1))), (4, vi l4), (5, vi s0)]) rfl ?_
  refine z_aload_n dX0_law_356 rfl rfl ?_
  exact z_callV (as := []) (st := []) dX0_law_357 vsX0_59_1 (Nat.le_refl _) (Nat.le_of_ble_eq_true rfl) (Nat.le_of_ble_eq_true rfl) rfl k
theorem sX0_law_360 {E : zE} {d : Nat} {Q : zO → zM → Prop} (M : zM) (l4 : Int32) (l5 : Int32) (k : Z E YX8_thrown d M (zargs 0 [vr (some (97, 1, 0))]) 0 [] (zafter E YX0_law (d + 1) [(0, vr (some (0, 109, 0))), (1, vr (some (16, 0, 0))), (2, vr (some (97, 1, 0))), (3, vr (some (189, 105, 1))), (4, vi l4), (5, vi l5)] 361 3 [] Q)) : Z E YX0_law (d + 1) M [(0, vr (some (0, 109, 0))), (1, vr (some (16, 0, 0))), (2, vr (some (97, 1, 0))), (3, vr (some (189, 105, 1))), (4, vi l4), (5, vi l5)] 360 [] Q := by
  refine z_aload_n dX0_law_360 rfl rfl ?_
  exact z_callV (as := []) (st := []) dX0_law_361 vsX0_60_1 (Nat.le_refl _) (Nat.le_of_ble_eq_true rfl) (Nat.le_of_ble_eq_true rfl) rfl k
theorem sX0_law_364 {E : zE} {d : Nat} {Q : zO → zM → Prop} (M : zM) (l4 : Int32) (l5 : Int32) (s0 : Int32) (k : if s0 = l5 then (Z E YX0_law (d + 1) M [(0, vr (some (0, 109, 0))), (1, vr (some (16, 0, 0))), (2, vr (some (97, 1, 0))), (3, vr (some (189, 105, 1))), (4, vi (l4 + (6 : Int32)))] 23 [] Q) else (Q (.inl (some (vi (0 : Int32)))) M)) : Z E YX0_law (d + 1) M [(0, vr (some (0, 109, 0))), (1, vr (some (16, 0, 0))), (2, vr (some (97, 1, 0))), (3, vr (some (189, 105, 1))), (4, vi l4), (5, vi l5)] 364 [vi s0] Q := by
  refine z_iload dX0_law_364 rfl ?_
  refine z_icmp_eq (tgt := 371) dX0_law_366 rfl (fun h_ => ?_) (fun h_ => ?_)
  · have k := zit h_ k
    refine z_goto (tgt := 970) dX0_law_371 rfl ?_
    refine z_inc (v := (l4 + (6 : Int32))) dX0_law_970 rfl rfl (by decide) (lv' := [(0, vr (some (0, 109, 0))), (1, vr (some (16, 0, 0))), (2, vr (some (97, 1, 0))), (3, vr (some (189, 105, 1))), (4, vi (l4 + (6 : Int32))), (5, vi l5)]) rfl ?_
    refine z_goto (tgt := 23) dX0_law_973 rfl ?_
    refine Z.pick [0, 1, 2, 3, 4] rfl ?_
    exact k
  · have k := zif h_ k
    refine z_iconst (v := 0) dX0_law_369 rfl ?_
    exact z_iret dX0_law_370 rfl (by decide) k
theorem sX0_law_385 {E : zE} {d : Nat} {Q : zO → zM → Prop} (M : zM) (l4 : Int32) (s0 : Int32) (k : vp_in (l4 + (1 : Int32)) (zxl E) ∧ (Z E YX8_run d M (zargs 0 [vr (some (97, 1, 0)), vi (zxs E ((l4 + (1 : Int32))).toNatClampNeg)]) 0 [] (zafter E YX0_law (d + 1) [(0, vr (some (0, 109, 0))), (1, vr (some (16, 0, 0))), (2, vr (some (97, 1, 0))), (3, vr (some (189, 105, 1))), (4, vi l4), (5, vi s0)] 394 3 [] Q))) : Z E YX0_law (d + 1) M [(0, vr (some (0, 109, 0))), (1, vr (some (16, 0, 0))), (2, vr (some (97, 1, 0))), (3, vr (some (189, 105, 1))), (4, vi l4)] 385 [vi s0] Q := by
  refine z_ist dX0_law_385 (by decide) (lv' := [(0, vr (some (0, 109, 0))), (1, vr (some (16, 0, 0))), (2, vr (some (97, 1, 0))), (3, vr (some (189, 105, 1))), (4, vi l4), (5, vi s0)]) rfl ?_
  refine z_aload_n dX0_law_387 rfl rfl ?_
  refine z_aload_n dX0_law_388 rfl rfl ?_
  refine z_iload dX0_law_389 rfl ?_
  refine z_iconst (v := 1) dX0_law_391 rfl ?_
  refine z_iadd dX0_law_392 ?_
  obtain ⟨b_, k⟩ := k
  refine z_xald dX0_law_393 b_ ?_
  exact z_callV (as := [vi (zxs E ((l4 + (1 : Int32))).toNatClampNeg)]) (st := []) dX0_law_394 vsX0_66_1 (Nat.le_refl _) (Nat.le_of_ble_eq_true rfl) (Nat.le_of_ble_eq_true rfl) rfl k
theorem sX0_law_397 {E : zE} {d : Nat} {Q : zO → zM → Prop} (M : zM) (l4 : Int32) (l5 : Int32) (s0 : Int32) (k : Z E YX8_thrown d M (zargs 0 [vr (some (97, 1, 0))]) 0 [] (zafter E YX0_law (d + 1) [(0, vr (some (0, 109, 0))), (1, vr (some (16, 0, 0))), (2, vr (some (97, 1, 0))), (3, vr (some (189, 105, 1))), (4, vi l4), (5, vi l5), (6, vi s0)] 400 3 [] Q)) : Z E YX0_law (d + 1) M [(0, vr (some (0, 109, 0))), (1, vr (some (16, 0, 0))), (2, vr (some (97, 1, 0))), (3, vr (some (189, 105, 1))), (4, vi l4), (5, vi l5)] 397 [vi s0] Q := by
  refine z_ist dX0_law_397 (by decide) (lv' := [(0, vr (some (0, 109, 0))), (1, vr (some (16, 0, 0))), (2, vr (some (97, 1, 0))), (3, vr (some (189, 105, 1))), (4, vi l4), (5, vi l5), (6, vi s0)]) rfl ?_
  refine z_aload_n dX0_law_399 rfl rfl ?_
  exact z_callV (as := []) (st := []) dX0_law_400 vsX0_60_1 (Nat.le_refl _) (Nat.le_of_ble_eq_true rfl) (Nat.le_of_ble_eq_true rfl) rfl k
theorem sX0_law_403 {E : zE} {d : Nat} {Q : zO → zM → Prop} (M : zM) (l4 : Int32) (l5 : Int32) (l6 : Int32) (s0 : Int32) (k : if s0 = l5 then (if l5 = 0 then (vp_in (0 : Int32) 1 ∧ (if (lg_cmp (gl M 189 ((0 : Int32)).toNatClampNeg) (l6).toInt64) = 0 then (Z E YX0_law (d + 1) M [(0, vr (some (0, 109, 0))), (1, vr (some (16, 0, 0))), (2, vr (some (97, 1, 0))), (3, vr (some (189, 105, 1))), (4, vi (l4 + (6 : Int32)))] 23 [] Q) else (Q (.inl (some (vi (0 : Int32)))) M))) else (Z E YX0_law (d + 1) M [(0, vr (some (0, 109, 0))), (1, vr (some (16, 0, 0))), (2, vr (some (97, 1, 0))), (3, vr (some (189, 105, 1))), (4, vi (l4 + (6 : Int32)))] 23 [] Q)) else (Q (.inl (some (vi (0 : Int32)))) M)) : Z E YX0_law (d + 1) M [(0, vr (some (0, 109, 0))), (1, vr (some (16, 0, 0))), (2, vr (some (97, 1, 0))), (3, vr (some (189, 105, 1))), (4, vi l4), (5, vi l5), (6, vi l6)] 403 [vi s0] Q := by
  refine z_iload dX0_law_403 rfl ?_
  refine z_icmp_eq (tgt := 410) dX0_law_405 rfl (fun h_ => ?_) (fun h_ => ?_)
  · have k := zit h_ k
    refine z_iload dX0_law_410 rfl ?_
    refine z_if_ne (tgt := 427) dX0_law_412 rfl (fun h_ => ?_) (fun h_ => ?_)
    · have k := zif h_ k
      refine z_goto (tgt := 970) dX0_law_427 rfl ?_
      refine z_inc (v := (l4 + (6 : Int32))) dX0_law_970 rfl rfl (by decide) (lv' := [(0, vr (some (0, 109, 0))), (1, vr (some (16, 0, 0))), (2, vr (some (97, 1, 0))), (3, vr (some (189, 105, 1))), (4, vi (l4 + (6 : Int32))), (5, vi l5), (6, vi l6)]) rfl ?_
      refine z_goto (tgt := 23) dX0_law_973 rfl ?_
      refine Z.pick [0, 1, 2, 3, 4] rfl ?_
      exact k
    · have k := zit h_ k
      refine z_aload_n dX0_law_415 rfl rfl ?_
      refine z_iconst (v := 0) dX0_law_416 rfl ?_
      obtain ⟨b_, k⟩ := k
      refine z_lald dX0_law_417 b_ ?_
      refine z_iload dX0_law_418 rfl ?_
      refine z_i2l dX0_law_420 ?_
      refine z_lcmp dX0_law_421 ?_
      refine z_if_eq (tgt := 427) dX0_law_422 rfl (fun h_ => ?_) (fun h_ => ?_)
      · have k := zit h_ k
        refine z_goto (tgt := 970) dX0_law_427 rfl ?_
        refine z_inc (v := (l4 + (6 : Int32))) dX0_law_970 rfl rfl (by decide) (lv' := [(0, vr (some (0, 109, 0))), (1, vr (some (16, 0, 0))), (2, vr (some (97, 1, 0))), (3, vr (some (189, 105, 1))), (4, vi (l4 + (6 : Int32))), (5, vi l5), (6, vi l6)]) rfl ?_
        refine z_goto (tgt := 23) dX0_law_973 rfl ?_
        refine Z.pick [0, 1, 2, 3, 4] rfl ?_
        exact k
      · have k := zif h_ k
        refine z_iconst (v := 0) dX0_law_425 rfl ?_
        exact z_iret dX0_law_426 rfl (by decide) k
  · have k := zif h_ k
    refine z_iconst (v := 0) dX0_law_408 rfl ?_
    exact z_iret dX0_law_409 rfl (by decide) k
theorem sX0_law_446 {E : zE} {d : Nat} {Q : zO → zM → Prop} (M : zM) (l4 : Int32) (s0 : Int32) (k : vp_in (l4 + (1 : Int32)) (zxl E) ∧ (vp_in (l4 + (2 : Int32)) (zxl E) ∧ (Z E YX8_frame d M (zargs 0 [vr (some (97, 1, 0)), vi (zxs E ((l4 + (1 : Int32))).toNatClampNeg), vi (zxs E ((l4 + (2 : Int32))).toNatClampNeg)]) 0 [] (zafter E YX0_law (d + 1) [(0, vr (some (0, 109, 0))), (1, vr (some (16, 0, 0))), (2, vr (some (97, 1, 0))), (3, vr (some (189, 105, 1))), (4, vi l4)] 459 3 [vi s0] Q)))) : Z E YX0_law (d + 1) M [(0, vr (some (0, 109, 0))), (1, vr (some (16, 0, 0))), (2, vr (some (97, 1, 0))), (3, vr (some (189, 105, 1))), (4, vi l4)] 446 [vi s0] Q := by
  refine z_aload_n dX0_law_446 rfl rfl ?_
  refine z_aload_n dX0_law_447 rfl rfl ?_
  refine z_iload dX0_law_448 rfl ?_
  refine z_iconst (v := 1) dX0_law_450 rfl ?_
  refine z_iadd dX0_law_451 ?_
  obtain ⟨b_, k⟩ := k
  refine z_xald dX0_law_452 b_ ?_
  refine z_aload_n dX0_law_453 rfl rfl ?_
  refine z_iload dX0_law_454 rfl ?_
  refine z_iconst (v := 2) dX0_law_456 rfl ?_
  refine z_iadd dX0_law_457 ?_
  obtain ⟨b_, k⟩ := k
  refine z_xald dX0_law_458 b_ ?_
  exact z_callV (as := [vi (zxs E ((l4 + (1 : Int32))).toNatClampNeg), vi (zxs E ((l4 + (2 : Int32))).toNatClampNeg)]) (st := [vi s0]) dX0_law_459 vsX0_70_1 (Nat.le_refl _) (Nat.le_of_ble_eq_true rfl) (Nat.le_of_ble_eq_true rfl) rfl k
theorem sX0_law_462 {E : zE} {d : Nat} {Q : zO → zM → Prop} (M : zM) (l4 : Int32) (s0 : Int32) (s1 : Int32) (k : if s1 = s0 then (Z E YX0_law (d + 1) M [(0, vr (some (0, 109, 0))), (1, vr (some (16, 0, 0))), (2, vr (some (97, 1, 0))), (3, vr (some (189, 105, 1))), (4, vi (l4 + (6 : Int32)))] 23 [] Q) else (Q (.inl (some (vi (0 : Int32)))) M)) : Z E YX0_law (d + 1) M [(0, vr (some (0, 109, 0))), (1, vr (some (16, 0, 0))), (2, vr (some (97, 1, 0))), (3, vr (some (189, 105, 1))), (4, vi l4)] 462 [vi s0, vi s1] Q := by
  refine z_icmp_eq (tgt := 970) dX0_law_462 rfl (fun h_ => ?_) (fun h_ => ?_)
  · have k := zit h_ k
    refine z_inc (v := (l4 + (6 : Int32))) dX0_law_970 rfl rfl (by decide) (lv' := [(0, vr (some (0, 109, 0))), (1, vr (some (16, 0, 0))), (2, vr (some (97, 1, 0))), (3, vr (some (189, 105, 1))), (4, vi (l4 + (6 : Int32)))]) rfl ?_
    refine z_goto (tgt := 23) dX0_law_973 rfl ?_
    exact k
  · have k := zif h_ k
    refine z_iconst (v := 0) dX0_law_465 rfl ?_
    exact z_iret dX0_law_466 rfl (by decide) k
theorem sX0_law_489 {E : zE} {d : Nat} {Q : zO → zM → Prop} (M : zM) (l4 : Int32) (s0 : Int32) (k : vp_in (l4 + (1 : Int32)) (zxl E) ∧ (vp_in (l4 + (2 : Int32)) (zxl E) ∧ (vp_in (l4 + (3 : Int32)) (zxl E) ∧ (Z E YX8_value_2 d M (zargs 0 [vr (some (97, 1, 0)), vi (zxs E ((l4 + (1 : Int32))).toNatClampNeg), vi (zxs E ((l4 + (2 : Int32))).toNatClampNeg), vi (zxs E ((l4 + (3 : Int32))).toNatClampNeg)]) 0 [] (zafter E YX0_law (d + 1) [(0, vr (some (0, 109, 0))), (1, vr (some (16, 0, 0))), (2, vr (some (97, 1, 0))), (3, vr (some (189, 105, 1))), (4, vi l4)] 508 3 [vi s0] Q))))) : Z E YX0_law (d + 1) M [(0, vr (some (0, 109, 0))), (1, vr (some (16, 0, 0))), (2, vr (some (97, 1, 0))), (3, vr (some (189, 105, 1))), (4, vi l4)] 489 [vi s0] Q := by
  refine z_aload_n dX0_law_489 rfl rfl ?_
  refine z_aload_n dX0_law_490 rfl rfl ?_
  refine z_iload dX0_law_491 rfl ?_
  refine z_iconst (v := 1) dX0_law_493 rfl ?_
  refine z_iadd dX0_law_494 ?_
  obtain ⟨b_, k⟩ := k
  refine z_xald dX0_law_495 b_ ?_
  refine z_aload_n dX0_law_496 rfl rfl ?_
  refine z_iload dX0_law_497 rfl ?_
  refine z_iconst (v := 2) dX0_law_499 rfl ?_
  refine z_iadd dX0_law_500 ?_
  obtain ⟨b_, k⟩ := k
  refine z_xald dX0_law_501 b_ ?_
  refine z_aload_n dX0_law_502 rfl rfl ?_
  refine z_iload dX0_law_503 rfl ?_
  refine z_iconst (v := 3) dX0_law_505 rfl ?_
  refine z_iadd dX0_law_506 ?_
  obtain ⟨b_, k⟩ := k
  refine z_xald dX0_law_507 b_ ?_
  exact z_callV (as := [vi (zxs E ((l4 + (1 : Int32))).toNatClampNeg), vi (zxs E ((l4 + (2 : Int32))).toNatClampNeg), vi (zxs E ((l4 + (3 : Int32))).toNatClampNeg)]) (st := [vi s0]) dX0_law_508 vsX0_75_1 (Nat.le_refl _) (Nat.le_of_ble_eq_true rfl) (Nat.le_of_ble_eq_true rfl) rfl k
theorem sX0_law_511 {E : zE} {d : Nat} {Q : zO → zM → Prop} (M : zM) (l4 : Int32) (s0 : Int32) (s1 : Int32) (k : if s1 = s0 then (Z E YX0_law (d + 1) M [(0, vr (some (0, 109, 0))), (1, vr (some (16, 0, 0))), (2, vr (some (97, 1, 0))), (3, vr (some (189, 105, 1))), (4, vi (l4 + (6 : Int32)))] 23 [] Q) else (Q (.inl (some (vi (0 : Int32)))) M)) : Z E YX0_law (d + 1) M [(0, vr (some (0, 109, 0))), (1, vr (some (16, 0, 0))), (2, vr (some (97, 1, 0))), (3, vr (some (189, 105, 1))), (4, vi l4)] 511 [vi s0, vi s1] Q := by
  refine z_icmp_eq (tgt := 970) dX0_law_511 rfl (fun h_ => ?_) (fun h_ => ?_)
  · have k := zit h_ k
    refine z_inc (v := (l4 + (6 : Int32))) dX0_law_970 rfl rfl (by decide) (lv' := [(0, vr (some (0, 109, 0))), (1, vr (some (16, 0, 0))), (2, vr (some (97, 1, 0))), (3, vr (some (189, 105, 1))), (4, vi (l4 + (6 : Int32)))]) rfl ?_
    refine z_goto (tgt := 23) dX0_law_973 rfl ?_
    exact k
  · have k := zif h_ k
    refine z_iconst (v := 0) dX0_law_514 rfl ?_
    exact z_iret dX0_law_515 rfl (by decide) k
theorem sX0_law_532 {E : zE} {d : Nat} {Q : zO → zM → Prop} (M : zM) (l4 : Int32) (s0 : Int32) (k : vp_in (l4 + (1 : Int32)) (zxl E) ∧ (vp_in (l4 + (2 : Int32)) (zxl E) ∧ (Z E YX8_object_2 d M (zargs 0 [vr (some (97, 1, 0)), vi (zxs E ((l4 + (1 : Int32))).toNatClampNeg), vi (zxs E ((l4 + (2 : Int32))).toNatClampNeg)]) 0 [] (zafter E YX0_law (d + 1) [(0, vr (some (0, 109, 0))), (1, vr (some (16, 0, 0))), (2, vr (some (97, 1, 0))), (3, vr (some (189, 105, 1))), (4, vi l4)] 545 3 [vi s0] Q)))) : Z E YX0_law (d + 1) M [(0, vr (some (0, 109, 0))), (1, vr (some (16, 0, 0))), (2, vr (some (97, 1, 0))), (3, vr (some (189, 105, 1))), (4, vi l4)] 532 [vi s0] Q := by
  refine z_aload_n dX0_law_532 rfl rfl ?_
  refine z_aload_n dX0_law_533 rfl rfl ?_
  refine z_iload dX0_law_534 rfl ?_
  refine z_iconst (v := 1) dX0_law_536 rfl ?_
  refine z_iadd dX0_law_537 ?_
  obtain ⟨b_, k⟩ := k
  refine z_xald dX0_law_538 b_ ?_
  refine z_aload_n dX0_law_539 rfl rfl ?_
  refine z_iload dX0_law_540 rfl ?_
  refine z_iconst (v := 2) dX0_law_542 rfl ?_
  refine z_iadd dX0_law_543 ?_
  obtain ⟨b_, k⟩ := k
  refine z_xald dX0_law_544 b_ ?_
  exact z_callV (as := [vi (zxs E ((l4 + (1 : Int32))).toNatClampNeg), vi (zxs E ((l4 + (2 : Int32))).toNatClampNeg)]) (st := [vi s0]) dX0_law_545 vsX0_79_1 (Nat.le_refl _) (Nat.le_of_ble_eq_true rfl) (Nat.le_of_ble_eq_true rfl) rfl k
theorem sX0_law_548 {E : zE} {d : Nat} {Q : zO → zM → Prop} (M : zM) (l4 : Int32) (s0 : Int32) (s1 : Int32) (k : if s1 = s0 then (Z E YX0_law (d + 1) M [(0, vr (some (0, 109, 0))), (1, vr (some (16, 0, 0))), (2, vr (some (97, 1, 0))), (3, vr (some (189, 105, 1))), (4, vi (l4 + (6 : Int32)))] 23 [] Q) else (Q (.inl (some (vi (0 : Int32)))) M)) : Z E YX0_law (d + 1) M [(0, vr (some (0, 109, 0))), (1, vr (some (16, 0, 0))), (2, vr (some (97, 1, 0))), (3, vr (some (189, 105, 1))), (4, vi l4)] 548 [vi s0, vi s1] Q := by
  refine z_icmp_eq (tgt := 970) dX0_law_548 rfl (fun h_ => ?_) (fun h_ => ?_)
  · have k := zit h_ k
    refine z_inc (v := (l4 + (6 : Int32))) dX0_law_970 rfl rfl (by decide) (lv' := [(0, vr (some (0, 109, 0))), (1, vr (some (16, 0, 0))), (2, vr (some (97, 1, 0))), (3, vr (some (189, 105, 1))), (4, vi (l4 + (6 : Int32)))]) rfl ?_
    refine z_goto (tgt := 23) dX0_law_973 rfl ?_
    exact k
  · have k := zif h_ k
    refine z_iconst (v := 0) dX0_law_551 rfl ?_
    exact z_iret dX0_law_552 rfl (by decide) k
theorem sX0_law_575 {E : zE} {d : Nat} {Q : zO → zM → Prop} (M : zM) (l4 : Int32) (s0 : Int32) (k : vp_in (l4 + (1 : Int32)) (zxl E) ∧ (vp_in (l4 + (2 : Int32)) (zxl E) ∧ (vp_in (l4 + (3 : Int32)) (zxl E) ∧ (Z E YX8_property d M (zargs 0 [vr (some (97, 1, 0)), vi (zxs E ((l4 + (1 : Int32))).toNatClampNeg), vi (zxs E ((l4 + (2 : Int32))).toNatClampNeg), vi (zxs E ((l4 + (3 : Int32))).toNatClampNeg)]) 0 [] (zafter E YX0_law (d + 1) [(0, vr (some (0, 109, 0))), (1, vr (some (16, 0, 0))), (2, vr (some (97, 1, 0))), (3, vr (some (189, 105, 1))), (4, vi l4)] 594 3 [vi s0] Q))))) : Z E YX0_law (d + 1) M [(0, vr (some (0, 109, 0))), (1, vr (some (16, 0, 0))), (2, vr (some (97, 1, 0))), (3, vr (some (189, 105, 1))), (4, vi l4)] 575 [vi s0] Q := by
  refine z_aload_n dX0_law_575 rfl rfl ?_
  refine z_aload_n dX0_law_576 rfl rfl ?_
  refine z_iload dX0_law_577 rfl ?_
  refine z_iconst (v := 1) dX0_law_579 rfl ?_
  refine z_iadd dX0_law_580 ?_
  obtain ⟨b_, k⟩ := k
  refine z_xald dX0_law_581 b_ ?_
  refine z_aload_n dX0_law_582 rfl rfl ?_
  refine z_iload dX0_law_583 rfl ?_
  refine z_iconst (v := 2) dX0_law_585 rfl ?_
  refine z_iadd dX0_law_586 ?_
  obtain ⟨b_, k⟩ := k
  refine z_xald dX0_law_587 b_ ?_
  refine z_aload_n dX0_law_588 rfl rfl ?_
  refine z_iload dX0_law_589 rfl ?_
  refine z_iconst (v := 3) dX0_law_591 rfl ?_
  refine z_iadd dX0_law_592 ?_
  obtain ⟨b_, k⟩ := k
  refine z_xald dX0_law_593 b_ ?_
  exact z_callV (as := [vi (zxs E ((l4 + (1 : Int32))).toNatClampNeg), vi (zxs E ((l4 + (2 : Int32))).toNatClampNeg), vi (zxs E ((l4 + (3 : Int32))).toNatClampNeg)]) (st := [vi s0]) dX0_law_594 vsX0_83_1 (Nat.le_refl _) (Nat.le_of_ble_eq_true rfl) (Nat.le_of_ble_eq_true rfl) rfl k
theorem sX0_law_597 {E : zE} {d : Nat} {Q : zO → zM → Prop} (M : zM) (l4 : Int32) (s0 : Int32) (s1 : Int32) (k : if s1 = s0 then (Z E YX0_law (d + 1) M [(0, vr (some (0, 109, 0))), (1, vr (some (16, 0, 0))), (2, vr (some (97, 1, 0))), (3, vr (some (189, 105, 1))), (4, vi (l4 + (6 : Int32)))] 23 [] Q) else (Q (.inl (some (vi (0 : Int32)))) M)) : Z E YX0_law (d + 1) M [(0, vr (some (0, 109, 0))), (1, vr (some (16, 0, 0))), (2, vr (some (97, 1, 0))), (3, vr (some (189, 105, 1))), (4, vi l4)] 597 [vi s0, vi s1] Q := by
  refine z_icmp_eq (tgt := 970) dX0_law_597 rfl (fun h_ => ?_) (fun h_ => ?_)
  · have k := zit h_ k
    refine z_inc (v := (l4 + (6 : Int32))) dX0_law_970 rfl rfl (by decide) (lv' := [(0, vr (some (0, 109, 0))), (1, vr (some (16, 0, 0))), (2, vr (some (97, 1, 0))), (3, vr (some (189, 105, 1))), (4, vi (l4 + (6 : Int32)))]) rfl ?_
    refine z_goto (tgt := 23) dX0_law_973 rfl ?_
    exact k
  · have k := zif h_ k
    refine z_iconst (v := 0) dX0_law_600 rfl ?_
    exact z_iret dX0_law_601 rfl (by decide) k
theorem sX0_law_618 {E : zE} {d : Nat} {Q : zO → zM → Prop} (M : zM) (l4 : Int32) (s0 : Int32) (k : vp_in (l4 + (1 : Int32)) (zxl E) ∧ (vp_in (l4 + (2 : Int32)) (zxl E) ∧ (Z E YX8_printed d M (zargs 0 [vr (some (97, 1, 0)), vi (zxs E ((l4 + (1 : Int32))).toNatClampNeg), vi (zxs E ((l4 + (2 : Int32))).toNatClampNeg)]) 0 [] (zafter E YX0_law (d + 1) [(0, vr (some (0, 109, 0))), (1, vr (some (16, 0, 0))), (2, vr (some (97, 1, 0))), (3, vr (some (189, 105, 1))), (4, vi l4)] 631 3 [vi s0] Q)))) : Z E YX0_law (d + 1) M [(0, vr (some (0, 109, 0))), (1, vr (some (16, 0, 0))), (2, vr (some (97, 1, 0))), (3, vr (some (189, 105, 1))), (4, vi l4)] 618 [vi s0] Q := by
  refine z_aload_n dX0_law_618 rfl rfl ?_
  refine z_aload_n dX0_law_619 rfl rfl ?_
  refine z_iload dX0_law_620 rfl ?_
  refine z_iconst (v := 1) dX0_law_622 rfl ?_
  refine z_iadd dX0_law_623 ?_
  obtain ⟨b_, k⟩ := k
  refine z_xald dX0_law_624 b_ ?_
  refine z_aload_n dX0_law_625 rfl rfl ?_
  refine z_iload dX0_law_626 rfl ?_
  refine z_iconst (v := 2) dX0_law_628 rfl ?_
  refine z_iadd dX0_law_629 ?_
  obtain ⟨b_, k⟩ := k
  refine z_xald dX0_law_630 b_ ?_
  exact z_callV (as := [vi (zxs E ((l4 + (1 : Int32))).toNatClampNeg), vi (zxs E ((l4 + (2 : Int32))).toNatClampNeg)]) (st := [vi s0]) dX0_law_631 vsX0_87_1 (Nat.le_refl _) (Nat.le_of_ble_eq_true rfl) (Nat.le_of_ble_eq_true rfl) rfl k
theorem sX0_law_634 {E : zE} {d : Nat} {Q : zO → zM → Prop} (M : zM) (l4 : Int32) (s0 : Int32) (s1 : Int32) (k : if s1 = s0 then (Z E YX0_law (d + 1) M [(0, vr (some (0, 109, 0))), (1, vr (some (16, 0, 0))), (2, vr (some (97, 1, 0))), (3, vr (some (189, 105, 1))), (4, vi (l4 + (6 : Int32)))] 23 [] Q) else (Q (.inl (some (vi (0 : Int32)))) M)) : Z E YX0_law (d + 1) M [(0, vr (some (0, 109, 0))), (1, vr (some (16, 0, 0))), (2, vr (some (97, 1, 0))), (3, vr (some (189, 105, 1))), (4, vi l4)] 634 [vi s0, vi s1] Q := by
  refine z_icmp_eq (tgt := 970) dX0_law_634 rfl (fun h_ => ?_) (fun h_ => ?_)
  · have k := zit h_ k
    refine z_inc (v := (l4 + (6 : Int32))) dX0_law_970 rfl rfl (by decide) (lv' := [(0, vr (some (0, 109, 0))), (1, vr (some (16, 0, 0))), (2, vr (some (97, 1, 0))), (3, vr (some (189, 105, 1))), (4, vi (l4 + (6 : Int32)))]) rfl ?_
    refine z_goto (tgt := 23) dX0_law_973 rfl ?_
    exact k
  · have k := zif h_ k
    refine z_iconst (v := 0) dX0_law_637 rfl ?_
    exact z_iret dX0_law_638 rfl (by decide) k
theorem sX0_law_649 {E : zE} {d : Nat} {Q : zO → zM → Prop} (M : zM) (l4 : Int32) (s0 : Int32) (k : vp_in (l4 + (1 : Int32)) (zxl E) ∧ (Z E YX8_uncaught d M (zargs 0 [vr (some (97, 1, 0)), vi (zxs E ((l4 + (1 : Int32))).toNatClampNeg)]) 0 [] (zafter E YX0_law (d + 1) [(0, vr (some (0, 109, 0))), (1, vr (some (16, 0, 0))), (2, vr (some (97, 1, 0))), (3, vr (some (189, 105, 1))), (4, vi l4)] 656 3 [vi s0] Q))) : Z E YX0_law (d + 1) M [(0, vr (some (0, 109, 0))), (1, vr (some (16, 0, 0))), (2, vr (some (97, 1, 0))), (3, vr (some (189, 105, 1))), (4, vi l4)] 649 [vi s0] Q := by
  refine z_aload_n dX0_law_649 rfl rfl ?_
  refine z_aload_n dX0_law_650 rfl rfl ?_
  refine z_iload dX0_law_651 rfl ?_
  refine z_iconst (v := 1) dX0_law_653 rfl ?_
  refine z_iadd dX0_law_654 ?_
  obtain ⟨b_, k⟩ := k
  refine z_xald dX0_law_655 b_ ?_
  exact z_callV (as := [vi (zxs E ((l4 + (1 : Int32))).toNatClampNeg)]) (st := [vi s0]) dX0_law_656 vsX0_91_1 (Nat.le_refl _) (Nat.le_of_ble_eq_true rfl) (Nat.le_of_ble_eq_true rfl) rfl k
theorem sX0_law_659 {E : zE} {d : Nat} {Q : zO → zM → Prop} (M : zM) (l4 : Int32) (s0 : Int32) (s1 : Int32) (k : if s1 = s0 then (Z E YX0_law (d + 1) M [(0, vr (some (0, 109, 0))), (1, vr (some (16, 0, 0))), (2, vr (some (97, 1, 0))), (3, vr (some (189, 105, 1))), (4, vi (l4 + (6 : Int32)))] 23 [] Q) else (Q (.inl (some (vi (0 : Int32)))) M)) : Z E YX0_law (d + 1) M [(0, vr (some (0, 109, 0))), (1, vr (some (16, 0, 0))), (2, vr (some (97, 1, 0))), (3, vr (some (189, 105, 1))), (4, vi l4)] 659 [vi s0, vi s1] Q := by
  refine z_icmp_eq (tgt := 970) dX0_law_659 rfl (fun h_ => ?_) (fun h_ => ?_)
  · have k := zit h_ k
    refine z_inc (v := (l4 + (6 : Int32))) dX0_law_970 rfl rfl (by decide) (lv' := [(0, vr (some (0, 109, 0))), (1, vr (some (16, 0, 0))), (2, vr (some (97, 1, 0))), (3, vr (some (189, 105, 1))), (4, vi (l4 + (6 : Int32)))]) rfl ?_
    refine z_goto (tgt := 23) dX0_law_973 rfl ?_
    exact k
  · have k := zif h_ k
    refine z_iconst (v := 0) dX0_law_662 rfl ?_
    exact z_iret dX0_law_663 rfl (by decide) k
theorem sX0_law_669 {E : zE} {d : Nat} {Q : zO → zM → Prop} (M : zM) (l4 : Int32) (s0 : Int32) (k : Z E YX8_solve d M (zargs 0 [vr (some (97, 1, 0))]) 0 [] (zafter E YX0_law (d + 1) [(0, vr (some (0, 109, 0))), (1, vr (some (16, 0, 0))), (2, vr (some (97, 1, 0))), (3, vr (some (189, 105, 1))), (4, vi l4), (5, vi s0)] 672 3 [] Q)) : Z E YX0_law (d + 1) M [(0, vr (some (0, 109, 0))), (1, vr (some (16, 0, 0))), (2, vr (some (97, 1, 0))), (3, vr (some (189, 105, 1))), (4, vi l4)] 669 [vi s0] Q := by
  refine z_ist dX0_law_669 (by decide) (lv' := [(0, vr (some (0, 109, 0))), (1, vr (some (16, 0, 0))), (2, vr (some (97, 1, 0))), (3, vr (some (189, 105, 1))), (4, vi l4), (5, vi s0)]) rfl ?_
  refine z_aload_n dX0_law_671 rfl rfl ?_
  exact z_callV (as := []) (st := []) dX0_law_672 vsX0_95_1 (Nat.le_refl _) (Nat.le_of_ble_eq_true rfl) (Nat.le_of_ble_eq_true rfl) rfl k
theorem sX0_law_675 {E : zE} {d : Nat} {Q : zO → zM → Prop} (M : zM) (l4 : Int32) (l5 : Int32) (s0 : Int32) (k : Z E YX8_thrown d M (zargs 0 [vr (some (97, 1, 0))]) 0 [] (zafter E YX0_law (d + 1) [(0, vr (some (0, 109, 0))), (1, vr (some (16, 0, 0))), (2, vr (some (97, 1, 0))), (3, vr (some (189, 105, 1))), (4, vi l4), (5, vi l5), (6, vi s0)] 678 3 [] Q)) : Z E YX0_law (d + 1) M [(0, vr (some (0, 109, 0))), (1, vr (some (16, 0, 0))), (2, vr (some (97, 1, 0))), (3, vr (some (189, 105, 1))), (4, vi l4), (5, vi l5)] 675 [vi s0] Q := by
  refine z_ist dX0_law_675 (by decide) (lv' := [(0, vr (some (0, 109, 0))), (1, vr (some (16, 0, 0))), (2, vr (some (97, 1, 0))), (3, vr (some (189, 105, 1))), (4, vi l4), (5, vi l5), (6, vi s0)]) rfl ?_
  refine z_aload_n dX0_law_677 rfl rfl ?_
  exact z_callV (as := []) (st := []) dX0_law_678 vsX0_60_1 (Nat.le_refl _) (Nat.le_of_ble_eq_true rfl) (Nat.le_of_ble_eq_true rfl) rfl k
theorem sX0_law_681 {E : zE} {d : Nat} {Q : zO → zM → Prop} (M : zM) (l4 : Int32) (l5 : Int32) (l6 : Int32) (s0 : Int32) (k : if s0 = l5 then (if l5 = 0 then (vp_in (0 : Int32) 1 ∧ (if (lg_cmp (gl M 189 ((0 : Int32)).toNatClampNeg) (l6).toInt64) = 0 then (Z E YX0_law (d + 1) M [(0, vr (some (0, 109, 0))), (1, vr (some (16, 0, 0))), (2, vr (some (97, 1, 0))), (3, vr (some (189, 105, 1))), (4, vi (l4 + (6 : Int32)))] 23 [] Q) else (Q (.inl (some (vi (0 : Int32)))) M))) else (Z E YX0_law (d + 1) M [(0, vr (some (0, 109, 0))), (1, vr (some (16, 0, 0))), (2, vr (some (97, 1, 0))), (3, vr (some (189, 105, 1))), (4, vi (l4 + (6 : Int32)))] 23 [] Q)) else (Q (.inl (some (vi (0 : Int32)))) M)) : Z E YX0_law (d + 1) M [(0, vr (some (0, 109, 0))), (1, vr (some (16, 0, 0))), (2, vr (some (97, 1, 0))), (3, vr (some (189, 105, 1))), (4, vi l4), (5, vi l5), (6, vi l6)] 681 [vi s0] Q := by
  refine z_iload dX0_law_681 rfl ?_
  refine z_icmp_eq (tgt := 688) dX0_law_683 rfl (fun h_ => ?_) (fun h_ => ?_)
  · have k := zit h_ k
    refine z_iload dX0_law_688 rfl ?_
    refine z_if_ne (tgt := 705) dX0_law_690 rfl (fun h_ => ?_) (fun h_ => ?_)
    · have k := zif h_ k
      refine z_goto (tgt := 970) dX0_law_705 rfl ?_
      refine z_inc (v := (l4 + (6 : Int32))) dX0_law_970 rfl rfl (by decide) (lv' := [(0, vr (some (0, 109, 0))), (1, vr (some (16, 0, 0))), (2, vr (some (97, 1, 0))), (3, vr (some (189, 105, 1))), (4, vi (l4 + (6 : Int32))), (5, vi l5), (6, vi l6)]) rfl ?_
      refine z_goto (tgt := 23) dX0_law_973 rfl ?_
      refine Z.pick [0, 1, 2, 3, 4] rfl ?_
      exact k
    · have k := zit h_ k
      refine z_aload_n dX0_law_693 rfl rfl ?_
      refine z_iconst (v := 0) dX0_law_694 rfl ?_
      obtain ⟨b_, k⟩ := k
      refine z_lald dX0_law_695 b_ ?_
      refine z_iload dX0_law_696 rfl ?_
      refine z_i2l dX0_law_698 ?_
      refine z_lcmp dX0_law_699 ?_
      refine z_if_eq (tgt := 705) dX0_law_700 rfl (fun h_ => ?_) (fun h_ => ?_)
      · have k := zit h_ k
        refine z_goto (tgt := 970) dX0_law_705 rfl ?_
        refine z_inc (v := (l4 + (6 : Int32))) dX0_law_970 rfl rfl (by decide) (lv' := [(0, vr (some (0, 109, 0))), (1, vr (some (16, 0, 0))), (2, vr (some (97, 1, 0))), (3, vr (some (189, 105, 1))), (4, vi (l4 + (6 : Int32))), (5, vi l5), (6, vi l6)]) rfl ?_
        refine z_goto (tgt := 23) dX0_law_973 rfl ?_
        refine Z.pick [0, 1, 2, 3, 4] rfl ?_
        exact k
      · have k := zif h_ k
        refine z_iconst (v := 0) dX0_law_703 rfl ?_
        exact z_iret dX0_law_704 rfl (by decide) k
  · have k := zif h_ k
    refine z_iconst (v := 0) dX0_law_686 rfl ?_
    exact z_iret dX0_law_687 rfl (by decide) k
theorem sX0_law_718 {E : zE} {d : Nat} {Q : zO → zM → Prop} (M : zM) (l4 : Int32) (s0 : Int32) (k : vp_in (l4 + (1 : Int32)) (zxl E) ∧ (Z E YX8_height d M (zargs 0 [vr (some (97, 1, 0)), vi (zxs E ((l4 + (1 : Int32))).toNatClampNeg)]) 0 [] (zafter E YX0_law (d + 1) [(0, vr (some (0, 109, 0))), (1, vr (some (16, 0, 0))), (2, vr (some (97, 1, 0))), (3, vr (some (189, 105, 1))), (4, vi l4)] 725 3 [vi s0] Q))) : Z E YX0_law (d + 1) M [(0, vr (some (0, 109, 0))), (1, vr (some (16, 0, 0))), (2, vr (some (97, 1, 0))), (3, vr (some (189, 105, 1))), (4, vi l4)] 718 [vi s0] Q := by
  refine z_aload_n dX0_law_718 rfl rfl ?_
  refine z_aload_n dX0_law_719 rfl rfl ?_
  refine z_iload dX0_law_720 rfl ?_
  refine z_iconst (v := 1) dX0_law_722 rfl ?_
  refine z_iadd dX0_law_723 ?_
  obtain ⟨b_, k⟩ := k
  refine z_xald dX0_law_724 b_ ?_
  exact z_callV (as := [vi (zxs E ((l4 + (1 : Int32))).toNatClampNeg)]) (st := [vi s0]) dX0_law_725 vsX0_99_1 (Nat.le_refl _) (Nat.le_of_ble_eq_true rfl) (Nat.le_of_ble_eq_true rfl) rfl k
theorem sX0_law_728 {E : zE} {d : Nat} {Q : zO → zM → Prop} (M : zM) (l4 : Int32) (s0 : Int32) (s1 : Int32) (k : if s1 = s0 then (Z E YX0_law (d + 1) M [(0, vr (some (0, 109, 0))), (1, vr (some (16, 0, 0))), (2, vr (some (97, 1, 0))), (3, vr (some (189, 105, 1))), (4, vi (l4 + (6 : Int32)))] 23 [] Q) else (Q (.inl (some (vi (0 : Int32)))) M)) : Z E YX0_law (d + 1) M [(0, vr (some (0, 109, 0))), (1, vr (some (16, 0, 0))), (2, vr (some (97, 1, 0))), (3, vr (some (189, 105, 1))), (4, vi l4)] 728 [vi s0, vi s1] Q := by
  refine z_icmp_eq (tgt := 970) dX0_law_728 rfl (fun h_ => ?_) (fun h_ => ?_)
  · have k := zit h_ k
    refine z_inc (v := (l4 + (6 : Int32))) dX0_law_970 rfl rfl (by decide) (lv' := [(0, vr (some (0, 109, 0))), (1, vr (some (16, 0, 0))), (2, vr (some (97, 1, 0))), (3, vr (some (189, 105, 1))), (4, vi (l4 + (6 : Int32)))]) rfl ?_
    refine z_goto (tgt := 23) dX0_law_973 rfl ?_
    exact k
  · have k := zif h_ k
    refine z_iconst (v := 0) dX0_law_731 rfl ?_
    exact z_iret dX0_law_732 rfl (by decide) k
theorem sX0_law_755 {E : zE} {d : Nat} {Q : zO → zM → Prop} (M : zM) (l4 : Int32) (s0 : Int64) (k : vp_in (l4 + (1 : Int32)) (zxl E) ∧ (vp_in (l4 + (2 : Int32)) (zxl E) ∧ (vp_in (l4 + (3 : Int32)) (zxl E) ∧ (Z E YX8_slot d M (zargs 0 [vr (some (97, 1, 0)), vi (zxs E ((l4 + (1 : Int32))).toNatClampNeg), vi (zxs E ((l4 + (2 : Int32))).toNatClampNeg), vi (zxs E ((l4 + (3 : Int32))).toNatClampNeg)]) 0 [] (zafter E YX0_law (d + 1) [(0, vr (some (0, 109, 0))), (1, vr (some (16, 0, 0))), (2, vr (some (97, 1, 0))), (3, vr (some (189, 105, 1))), (4, vi l4)] 774 3 [vl s0] Q))))) : Z E YX0_law (d + 1) M [(0, vr (some (0, 109, 0))), (1, vr (some (16, 0, 0))), (2, vr (some (97, 1, 0))), (3, vr (some (189, 105, 1))), (4, vi l4)] 755 [vl s0] Q := by
  refine z_aload_n dX0_law_755 rfl rfl ?_
  refine z_aload_n dX0_law_756 rfl rfl ?_
  refine z_iload dX0_law_757 rfl ?_
  refine z_iconst (v := 1) dX0_law_759 rfl ?_
  refine z_iadd dX0_law_760 ?_
  obtain ⟨b_, k⟩ := k
  refine z_xald dX0_law_761 b_ ?_
  refine z_aload_n dX0_law_762 rfl rfl ?_
  refine z_iload dX0_law_763 rfl ?_
  refine z_iconst (v := 2) dX0_law_765 rfl ?_
  refine z_iadd dX0_law_766 ?_
  obtain ⟨b_, k⟩ := k
  refine z_xald dX0_law_767 b_ ?_
  refine z_aload_n dX0_law_768 rfl rfl ?_
  refine z_iload dX0_law_769 rfl ?_
  refine z_iconst (v := 3) dX0_law_771 rfl ?_
  refine z_iadd dX0_law_772 ?_
  obtain ⟨b_, k⟩ := k
  refine z_xald dX0_law_773 b_ ?_
  exact z_callV (as := [vi (zxs E ((l4 + (1 : Int32))).toNatClampNeg), vi (zxs E ((l4 + (2 : Int32))).toNatClampNeg), vi (zxs E ((l4 + (3 : Int32))).toNatClampNeg)]) (st := [vl s0]) dX0_law_774 vsX0_104_1 (Nat.le_refl _) (Nat.le_of_ble_eq_true rfl) (Nat.le_of_ble_eq_true rfl) rfl k
theorem sX0_law_777 {E : zE} {d : Nat} {Q : zO → zM → Prop} (M : zM) (l4 : Int32) (s0 : Int64) (s1 : Int64) (k : if (lg_cmp s1 s0) = 0 then (Z E YX0_law (d + 1) M [(0, vr (some (0, 109, 0))), (1, vr (some (16, 0, 0))), (2, vr (some (97, 1, 0))), (3, vr (some (189, 105, 1))), (4, vi (l4 + (6 : Int32)))] 23 [] Q) else (Q (.inl (some (vi (0 : Int32)))) M)) : Z E YX0_law (d + 1) M [(0, vr (some (0, 109, 0))), (1, vr (some (16, 0, 0))), (2, vr (some (97, 1, 0))), (3, vr (some (189, 105, 1))), (4, vi l4)] 777 [vl s0, vl s1] Q := by
  refine z_lcmp dX0_law_777 ?_
  refine z_if_eq (tgt := 970) dX0_law_778 rfl (fun h_ => ?_) (fun h_ => ?_)
  · have k := zit h_ k
    refine z_inc (v := (l4 + (6 : Int32))) dX0_law_970 rfl rfl (by decide) (lv' := [(0, vr (some (0, 109, 0))), (1, vr (some (16, 0, 0))), (2, vr (some (97, 1, 0))), (3, vr (some (189, 105, 1))), (4, vi (l4 + (6 : Int32)))]) rfl ?_
    refine z_goto (tgt := 23) dX0_law_973 rfl ?_
    exact k
  · have k := zif h_ k
    refine z_iconst (v := 0) dX0_law_781 rfl ?_
    exact z_iret dX0_law_782 rfl (by decide) k
theorem sX0_law_811 {E : zE} {d : Nat} {Q : zO → zM → Prop} (M : zM) (l4 : Int32) (s0 : Int64) (k : vp_in (l4 + (1 : Int32)) (zxl E) ∧ (vp_in (l4 + (2 : Int32)) (zxl E) ∧ (vp_in (l4 + (3 : Int32)) (zxl E) ∧ (vp_in (l4 + (4 : Int32)) (zxl E) ∧ (Z E YX8_field_2 d M (zargs 0 [vr (some (97, 1, 0)), vi (zxs E ((l4 + (1 : Int32))).toNatClampNeg), vi (zxs E ((l4 + (2 : Int32))).toNatClampNeg), vi (zxs E ((l4 + (3 : Int32))).toNatClampNeg), vi (zxs E ((l4 + (4 : Int32))).toNatClampNeg)]) 0 [] (zafter E YX0_law (d + 1) [(0, vr (some (0, 109, 0))), (1, vr (some (16, 0, 0))), (2, vr (some (97, 1, 0))), (3, vr (some (189, 105, 1))), (4, vi l4)] 836 3 [vl s0] Q)))))) : Z E YX0_law (d + 1) M [(0, vr (some (0, 109, 0))), (1, vr (some (16, 0, 0))), (2, vr (some (97, 1, 0))), (3, vr (some (189, 105, 1))), (4, vi l4)] 811 [vl s0] Q := by
  refine z_aload_n dX0_law_811 rfl rfl ?_
  refine z_aload_n dX0_law_812 rfl rfl ?_
  refine z_iload dX0_law_813 rfl ?_
  refine z_iconst (v := 1) dX0_law_815 rfl ?_
  refine z_iadd dX0_law_816 ?_
  obtain ⟨b_, k⟩ := k
  refine z_xald dX0_law_817 b_ ?_
  refine z_aload_n dX0_law_818 rfl rfl ?_
  refine z_iload dX0_law_819 rfl ?_
  refine z_iconst (v := 2) dX0_law_821 rfl ?_
  refine z_iadd dX0_law_822 ?_
  obtain ⟨b_, k⟩ := k
  refine z_xald dX0_law_823 b_ ?_
  refine z_aload_n dX0_law_824 rfl rfl ?_
  refine z_iload dX0_law_825 rfl ?_
  refine z_iconst (v := 3) dX0_law_827 rfl ?_
  refine z_iadd dX0_law_828 ?_
  obtain ⟨b_, k⟩ := k
  refine z_xald dX0_law_829 b_ ?_
  refine z_aload_n dX0_law_830 rfl rfl ?_
  refine z_iload dX0_law_831 rfl ?_
  refine z_iconst (v := 4) dX0_law_833 rfl ?_
  refine z_iadd dX0_law_834 ?_
  obtain ⟨b_, k⟩ := k
  refine z_xald dX0_law_835 b_ ?_
  exact z_callV (as := [vi (zxs E ((l4 + (1 : Int32))).toNatClampNeg), vi (zxs E ((l4 + (2 : Int32))).toNatClampNeg), vi (zxs E ((l4 + (3 : Int32))).toNatClampNeg), vi (zxs E ((l4 + (4 : Int32))).toNatClampNeg)]) (st := [vl s0]) dX0_law_836 vsX0_109_1 (Nat.le_refl _) (Nat.le_of_ble_eq_true rfl) (Nat.le_of_ble_eq_true rfl) rfl k
theorem sX0_law_839 {E : zE} {d : Nat} {Q : zO → zM → Prop} (M : zM) (l4 : Int32) (s0 : Int64) (s1 : Int64) (k : if (lg_cmp s1 s0) = 0 then (Z E YX0_law (d + 1) M [(0, vr (some (0, 109, 0))), (1, vr (some (16, 0, 0))), (2, vr (some (97, 1, 0))), (3, vr (some (189, 105, 1))), (4, vi (l4 + (6 : Int32)))] 23 [] Q) else (Q (.inl (some (vi (0 : Int32)))) M)) : Z E YX0_law (d + 1) M [(0, vr (some (0, 109, 0))), (1, vr (some (16, 0, 0))), (2, vr (some (97, 1, 0))), (3, vr (some (189, 105, 1))), (4, vi l4)] 839 [vl s0, vl s1] Q := by
  refine z_lcmp dX0_law_839 ?_
  refine z_if_eq (tgt := 970) dX0_law_840 rfl (fun h_ => ?_) (fun h_ => ?_)
  · have k := zit h_ k
    refine z_inc (v := (l4 + (6 : Int32))) dX0_law_970 rfl rfl (by decide) (lv' := [(0, vr (some (0, 109, 0))), (1, vr (some (16, 0, 0))), (2, vr (some (97, 1, 0))), (3, vr (some (189, 105, 1))), (4, vi (l4 + (6 : Int32)))]) rfl ?_
    refine z_goto (tgt := 23) dX0_law_973 rfl ?_
    exact k
  · have k := zif h_ k
    refine z_iconst (v := 0) dX0_law_843 rfl ?_
    exact z_iret dX0_law_844 rfl (by decide) k
theorem sX0_law_867 {E : zE} {d : Nat} {Q : zO → zM → Prop} (M : zM) (l4 : Int32) (s0 : Int64) (k : vp_in (l4 + (1 : Int32)) (zxl E) ∧ (vp_in (l4 + (2 : Int32)) (zxl E) ∧ (vp_in (l4 + (3 : Int32)) (zxl E) ∧ (Z E YX8_link d M (zargs 0 [vr (some (97, 1, 0)), vi (zxs E ((l4 + (1 : Int32))).toNatClampNeg), vi (zxs E ((l4 + (2 : Int32))).toNatClampNeg), vi (zxs E ((l4 + (3 : Int32))).toNatClampNeg)]) 0 [] (zafter E YX0_law (d + 1) [(0, vr (some (0, 109, 0))), (1, vr (some (16, 0, 0))), (2, vr (some (97, 1, 0))), (3, vr (some (189, 105, 1))), (4, vi l4)] 886 3 [vl s0] Q))))) : Z E YX0_law (d + 1) M [(0, vr (some (0, 109, 0))), (1, vr (some (16, 0, 0))), (2, vr (some (97, 1, 0))), (3, vr (some (189, 105, 1))), (4, vi l4)] 867 [vl s0] Q := by
  refine z_aload_n dX0_law_867 rfl rfl ?_
  refine z_aload_n dX0_law_868 rfl rfl ?_
  refine z_iload dX0_law_869 rfl ?_
  refine z_iconst (v := 1) dX0_law_871 rfl ?_
  refine z_iadd dX0_law_872 ?_
  obtain ⟨b_, k⟩ := k
  refine z_xald dX0_law_873 b_ ?_
  refine z_aload_n dX0_law_874 rfl rfl ?_
  refine z_iload dX0_law_875 rfl ?_
  refine z_iconst (v := 2) dX0_law_877 rfl ?_
  refine z_iadd dX0_law_878 ?_
  obtain ⟨b_, k⟩ := k
  refine z_xald dX0_law_879 b_ ?_
  refine z_aload_n dX0_law_880 rfl rfl ?_
  refine z_iload dX0_law_881 rfl ?_
  refine z_iconst (v := 3) dX0_law_883 rfl ?_
  refine z_iadd dX0_law_884 ?_
  obtain ⟨b_, k⟩ := k
  refine z_xald dX0_law_885 b_ ?_
  exact z_callV (as := [vi (zxs E ((l4 + (1 : Int32))).toNatClampNeg), vi (zxs E ((l4 + (2 : Int32))).toNatClampNeg), vi (zxs E ((l4 + (3 : Int32))).toNatClampNeg)]) (st := [vl s0]) dX0_law_886 vsX0_113_1 (Nat.le_refl _) (Nat.le_of_ble_eq_true rfl) (Nat.le_of_ble_eq_true rfl) rfl k
theorem sX0_law_889 {E : zE} {d : Nat} {Q : zO → zM → Prop} (M : zM) (l4 : Int32) (s0 : Int64) (s1 : Int64) (k : if (lg_cmp s1 s0) = 0 then (Z E YX0_law (d + 1) M [(0, vr (some (0, 109, 0))), (1, vr (some (16, 0, 0))), (2, vr (some (97, 1, 0))), (3, vr (some (189, 105, 1))), (4, vi (l4 + (6 : Int32)))] 23 [] Q) else (Q (.inl (some (vi (0 : Int32)))) M)) : Z E YX0_law (d + 1) M [(0, vr (some (0, 109, 0))), (1, vr (some (16, 0, 0))), (2, vr (some (97, 1, 0))), (3, vr (some (189, 105, 1))), (4, vi l4)] 889 [vl s0, vl s1] Q := by
  refine z_lcmp dX0_law_889 ?_
  refine z_if_eq (tgt := 970) dX0_law_890 rfl (fun h_ => ?_) (fun h_ => ?_)
  · have k := zit h_ k
    refine z_inc (v := (l4 + (6 : Int32))) dX0_law_970 rfl rfl (by decide) (lv' := [(0, vr (some (0, 109, 0))), (1, vr (some (16, 0, 0))), (2, vr (some (97, 1, 0))), (3, vr (some (189, 105, 1))), (4, vi (l4 + (6 : Int32)))]) rfl ?_
    refine z_goto (tgt := 23) dX0_law_973 rfl ?_
    exact k
  · have k := zif h_ k
    refine z_iconst (v := 0) dX0_law_893 rfl ?_
    exact z_iret dX0_law_894 rfl (by decide) k
theorem sX0_law_917 {E : zE} {d : Nat} {Q : zO → zM → Prop} (M : zM) (l4 : Int32) (s0 : Int64) (k : vp_in (l4 + (1 : Int32)) (zxl E) ∧ (vp_in (l4 + (2 : Int32)) (zxl E) ∧ (vp_in (l4 + (3 : Int32)) (zxl E) ∧ (Z E YX8_result d M (zargs 0 [vr (some (97, 1, 0)), vi (zxs E ((l4 + (1 : Int32))).toNatClampNeg), vi (zxs E ((l4 + (2 : Int32))).toNatClampNeg), vi (zxs E ((l4 + (3 : Int32))).toNatClampNeg)]) 0 [] (zafter E YX0_law (d + 1) [(0, vr (some (0, 109, 0))), (1, vr (some (16, 0, 0))), (2, vr (some (97, 1, 0))), (3, vr (some (189, 105, 1))), (4, vi l4)] 936 3 [vl s0] Q))))) : Z E YX0_law (d + 1) M [(0, vr (some (0, 109, 0))), (1, vr (some (16, 0, 0))), (2, vr (some (97, 1, 0))), (3, vr (some (189, 105, 1))), (4, vi l4)] 917 [vl s0] Q := by
  refine z_aload_n dX0_law_917 rfl rfl ?_
  refine z_aload_n dX0_law_918 rfl rfl ?_
  refine z_iload dX0_law_919 rfl ?_
  refine z_iconst (v := 1) dX0_law_921 rfl ?_
  refine z_iadd dX0_law_922 ?_
  obtain ⟨b_, k⟩ := k
  refine z_xald dX0_law_923 b_ ?_
  refine z_aload_n dX0_law_924 rfl rfl ?_
  refine z_iload dX0_law_925 rfl ?_
  refine z_iconst (v := 2) dX0_law_927 rfl ?_
  refine z_iadd dX0_law_928 ?_
  obtain ⟨b_, k⟩ := k
  refine z_xald dX0_law_929 b_ ?_
  refine z_aload_n dX0_law_930 rfl rfl ?_
  refine z_iload dX0_law_931 rfl ?_
  refine z_iconst (v := 3) dX0_law_933 rfl ?_
  refine z_iadd dX0_law_934 ?_
  obtain ⟨b_, k⟩ := k
  refine z_xald dX0_law_935 b_ ?_
  exact z_callV (as := [vi (zxs E ((l4 + (1 : Int32))).toNatClampNeg), vi (zxs E ((l4 + (2 : Int32))).toNatClampNeg), vi (zxs E ((l4 + (3 : Int32))).toNatClampNeg)]) (st := [vl s0]) dX0_law_936 vsX0_117_1 (Nat.le_refl _) (Nat.le_of_ble_eq_true rfl) (Nat.le_of_ble_eq_true rfl) rfl k
theorem sX0_law_939 {E : zE} {d : Nat} {Q : zO → zM → Prop} (M : zM) (l4 : Int32) (s0 : Int64) (s1 : Int64) (k : if (lg_cmp s1 s0) = 0 then (Z E YX0_law (d + 1) M [(0, vr (some (0, 109, 0))), (1, vr (some (16, 0, 0))), (2, vr (some (97, 1, 0))), (3, vr (some (189, 105, 1))), (4, vi (l4 + (6 : Int32)))] 23 [] Q) else (Q (.inl (some (vi (0 : Int32)))) M)) : Z E YX0_law (d + 1) M [(0, vr (some (0, 109, 0))), (1, vr (some (16, 0, 0))), (2, vr (some (97, 1, 0))), (3, vr (some (189, 105, 1))), (4, vi l4)] 939 [vl s0, vl s1] Q := by
  refine z_lcmp dX0_law_939 ?_
  refine z_if_eq (tgt := 970) dX0_law_940 rfl (fun h_ => ?_) (fun h_ => ?_)
  · have k := zit h_ k
    refine z_inc (v := (l4 + (6 : Int32))) dX0_law_970 rfl rfl (by decide) (lv' := [(0, vr (some (0, 109, 0))), (1, vr (some (16, 0, 0))), (2, vr (some (97, 1, 0))), (3, vr (some (189, 105, 1))), (4, vi (l4 + (6 : Int32)))]) rfl ?_
    refine z_goto (tgt := 23) dX0_law_973 rfl ?_
    exact k
  · have k := zif h_ k
    refine z_iconst (v := 0) dX0_law_943 rfl ?_
    exact z_iret dX0_law_944 rfl (by decide) k
theorem sX0_law_955 {E : zE} {d : Nat} {Q : zO → zM → Prop} (M : zM) (l4 : Int32) (s0 : Int32) (k : vp_in (l4 + (1 : Int32)) (zxl E) ∧ (Z E YX8_warns d M (zargs 0 [vr (some (97, 1, 0)), vi (zxs E ((l4 + (1 : Int32))).toNatClampNeg)]) 0 [] (zafter E YX0_law (d + 1) [(0, vr (some (0, 109, 0))), (1, vr (some (16, 0, 0))), (2, vr (some (97, 1, 0))), (3, vr (some (189, 105, 1))), (4, vi l4)] 962 3 [vi s0] Q))) : Z E YX0_law (d + 1) M [(0, vr (some (0, 109, 0))), (1, vr (some (16, 0, 0))), (2, vr (some (97, 1, 0))), (3, vr (some (189, 105, 1))), (4, vi l4)] 955 [vi s0] Q := by
  refine z_aload_n dX0_law_955 rfl rfl ?_
  refine z_aload_n dX0_law_956 rfl rfl ?_
  refine z_iload dX0_law_957 rfl ?_
  refine z_iconst (v := 1) dX0_law_959 rfl ?_
  refine z_iadd dX0_law_960 ?_
  obtain ⟨b_, k⟩ := k
  refine z_xald dX0_law_961 b_ ?_
  exact z_callV (as := [vi (zxs E ((l4 + (1 : Int32))).toNatClampNeg)]) (st := [vi s0]) dX0_law_962 vsX0_121_1 (Nat.le_refl _) (Nat.le_of_ble_eq_true rfl) (Nat.le_of_ble_eq_true rfl) rfl k
theorem sX0_law_965 {E : zE} {d : Nat} {Q : zO → zM → Prop} (M : zM) (l4 : Int32) (s0 : Int32) (s1 : Int32) (k : if s1 = s0 then (Z E YX0_law (d + 1) M [(0, vr (some (0, 109, 0))), (1, vr (some (16, 0, 0))), (2, vr (some (97, 1, 0))), (3, vr (some (189, 105, 1))), (4, vi (l4 + (6 : Int32)))] 23 [] Q) else (Q (.inl (some (vi (0 : Int32)))) M)) : Z E YX0_law (d + 1) M [(0, vr (some (0, 109, 0))), (1, vr (some (16, 0, 0))), (2, vr (some (97, 1, 0))), (3, vr (some (189, 105, 1))), (4, vi l4)] 965 [vi s0, vi s1] Q := by
  refine z_icmp_eq (tgt := 970) dX0_law_965 rfl (fun h_ => ?_) (fun h_ => ?_)
  · have k := zit h_ k
    refine z_inc (v := (l4 + (6 : Int32))) dX0_law_970 rfl rfl (by decide) (lv' := [(0, vr (some (0, 109, 0))), (1, vr (some (16, 0, 0))), (2, vr (some (97, 1, 0))), (3, vr (some (189, 105, 1))), (4, vi (l4 + (6 : Int32)))]) rfl ?_
    refine z_goto (tgt := 23) dX0_law_973 rfl ?_
    exact k
  · have k := zif h_ k
    refine z_iconst (v := 0) dX0_law_968 rfl ?_
    exact z_iret dX0_law_969 rfl (by decide) k
