/-! casts, new objects' kinds of fields, what a node's method is, what the component's fields hold -/
set_option maxRecDepth 100000
def cwl : List (Nat × Nat × zP) := [(16, 0, (17, 2, 0)), (16, 2, (20, 101, 256)), (16, 4, (21, 101, 4000)), (16, 6, (22, 2, 0)), (16, 7, (25, 2, 0)), (16, 9, (29, 3, 0)), (16, 13, (38, 101, 300)), (16, 14, (39, 101, 300)), (16, 15, (40, 102, 300)), (16, 16, (41, 102, 300)), (16, 17, (42, 102, 300)), (16, 18, (43, 102, 300)), (16, 19, (44, 102, 300)), (16, 20, (45, 102, 160)), (16, 21, (46, 102, 3000)), (16, 22, (47, 102, 3000)), (16, 23, (48, 101, 3000)), (16, 24, (49, 100, 3000)), (16, 25, (50, 100, 3000)), (16, 30, (51, 13, 0)), (16, 31, (52, 14, 0)), (16, 34, (53, 101, 14500)), (16, 35, (54, 100, 14500)), (16, 36, (55, 100, 14500)), (16, 37, (56, 100, 14500)), (16, 39, (57, 102, 24)), (16, 40, (58, 102, 24)), (16, 41, (59, 102, 24)), (16, 42, (60, 102, 24)), (16, 43, (61, 102, 24)), (16, 44, (62, 102, 24)), (16, 45, (63, 101, 24)), (16, 46, (64, 100, 24)), (16, 47, (65, 102, 960)), (16, 48, (66, 102, 960)), (16, 56, (67, 102, 100)), (16, 64, (68, 104, 624)), (16, 65, (69, 102, 624)), (16, 66, (70, 101, 600)), (16, 78, (71, 4, 0)), (16, 79, (72, 4, 0)), (16, 80, (73, 4, 0)), (16, 81, (74, 4, 0)), (16, 82, (75, 4, 0)), (16, 83, (76, 4, 0)), (16, 84, (77, 4, 0)), (16, 85, (78, 107, 9)), (16, 86, (79, 4, 0)), (16, 87, (80, 5, 0)), (16, 96, (84, 5, 0)), (29, 0, (30, 101, 600)), (29, 1, (31, 102, 600)), (29, 2, (32, 102, 600)), (29, 3, (33, 102, 600)), (29, 4, (34, 100, 600)), (29, 5, (35, 101, 600)), (29, 6, (36, 100, 20)), (29, 10, (37, 11, 0))]
def cw (M : zM) : Prop := ∀ q ∈ cwl, gr M q.1 q.2.1 = some q.2.2
theorem cw_at {M : zM} {a k : Nat} {p : zP} (h : cw M) (i : Nat) (hi : cwl[i]? = some (a, k, p)) : gr M a k = some p :=
  h (a, k, p) (List.mem_of_getElem? hi)
theorem zff_2 : ∀ k, k < 3 → (zty.getD 2 (fun _ => .int)) k ≠ .float ∧ (zty.getD 2 (fun _ => .int)) k ≠ .double := by decide +kernel
theorem zff_3 : ∀ k, k < 13 → (zty.getD 3 (fun _ => .int)) k ≠ .float ∧ (zty.getD 3 (fun _ => .int)) k ≠ .double := by decide +kernel
theorem zff_4 : ∀ k, k < 3 → (zty.getD 4 (fun _ => .int)) k ≠ .float ∧ (zty.getD 4 (fun _ => .int)) k ≠ .double := by decide +kernel
theorem zff_5 : ∀ k, k < 6 → (zty.getD 5 (fun _ => .int)) k ≠ .float ∧ (zty.getD 5 (fun _ => .int)) k ≠ .double := by decide +kernel
theorem zff_6 : ∀ k, k < 21 → (zty.getD 6 (fun _ => .int)) k ≠ .float ∧ (zty.getD 6 (fun _ => .int)) k ≠ .double := by decide +kernel
theorem zff_7 : ∀ k, k < 19 → (zty.getD 7 (fun _ => .int)) k ≠ .float ∧ (zty.getD 7 (fun _ => .int)) k ≠ .double := by decide +kernel
theorem zff_8 : ∀ k, k < 9 → (zty.getD 8 (fun _ => .int)) k ≠ .float ∧ (zty.getD 8 (fun _ => .int)) k ≠ .double := by decide +kernel
theorem zff_9 : ∀ k, k < 8 → (zty.getD 9 (fun _ => .int)) k ≠ .float ∧ (zty.getD 9 (fun _ => .int)) k ≠ .double := by decide +kernel
theorem zff_10 : ∀ k, k < 10 → (zty.getD 10 (fun _ => .int)) k ≠ .float ∧ (zty.getD 10 (fun _ => .int)) k ≠ .double := by decide +kernel
theorem zff_11 : ∀ k, k < 3 → (zty.getD 11 (fun _ => .int)) k ≠ .float ∧ (zty.getD 11 (fun _ => .int)) k ≠ .double := by decide +kernel
theorem zff_12 : ∀ k, k < 7 → (zty.getD 12 (fun _ => .int)) k ≠ .float ∧ (zty.getD 12 (fun _ => .int)) k ≠ .double := by decide +kernel
theorem zff_13 : ∀ k, k < 6 → (zty.getD 13 (fun _ => .int)) k ≠ .float ∧ (zty.getD 13 (fun _ => .int)) k ≠ .double := by decide +kernel
theorem zff_14 : ∀ k, k < 6 → (zty.getD 14 (fun _ => .int)) k ≠ .float ∧ (zty.getD 14 (fun _ => .int)) k ≠ .double := by decide +kernel
theorem zff_17 : ∀ k, k < 9 → (zty.getD 17 (fun _ => .int)) k ≠ .float ∧ (zty.getD 17 (fun _ => .int)) k ≠ .double := by decide +kernel
theorem zff_18 : ∀ k, k < 2 → (zty.getD 18 (fun _ => .int)) k ≠ .float ∧ (zty.getD 18 (fun _ => .int)) k ≠ .double := by decide +kernel
theorem zff_19 : ∀ k, k < 3 → (zty.getD 19 (fun _ => .int)) k ≠ .float ∧ (zty.getD 19 (fun _ => .int)) k ≠ .double := by decide +kernel
theorem zff_20 : ∀ k, k < 1 → (zty.getD 20 (fun _ => .int)) k ≠ .float ∧ (zty.getD 20 (fun _ => .int)) k ≠ .double := by decide +kernel
theorem zff_21 : ∀ k, k < 1 → (zty.getD 21 (fun _ => .int)) k ≠ .float ∧ (zty.getD 21 (fun _ => .int)) k ≠ .double := by decide +kernel
theorem zff_22 : ∀ k, k < 3 → (zty.getD 22 (fun _ => .int)) k ≠ .float ∧ (zty.getD 22 (fun _ => .int)) k ≠ .double := by decide +kernel
theorem zff_23 : ∀ k, k < 1 → (zty.getD 23 (fun _ => .int)) k ≠ .float ∧ (zty.getD 23 (fun _ => .int)) k ≠ .double := by decide +kernel
theorem zff_24 : ∀ k, k < 2 → (zty.getD 24 (fun _ => .int)) k ≠ .float ∧ (zty.getD 24 (fun _ => .int)) k ≠ .double := by decide +kernel
theorem zff_25 : ∀ k, k < 0 → (zty.getD 25 (fun _ => .int)) k ≠ .float ∧ (zty.getD 25 (fun _ => .int)) k ≠ .double := by decide +kernel
theorem zff_26 : ∀ k, k < 1 → (zty.getD 26 (fun _ => .int)) k ≠ .float ∧ (zty.getD 26 (fun _ => .int)) k ≠ .double := by decide +kernel
theorem zff_27 : ∀ k, k < 1 → (zty.getD 27 (fun _ => .int)) k ≠ .float ∧ (zty.getD 27 (fun _ => .int)) k ≠ .double := by decide +kernel
theorem zff_28 : ∀ k, k < 1 → (zty.getD 28 (fun _ => .int)) k ≠ .float ∧ (zty.getD 28 (fun _ => .int)) k ≠ .double := by decide +kernel
theorem zff_29 : ∀ k, k < 3 → (zty.getD 29 (fun _ => .int)) k ≠ .float ∧ (zty.getD 29 (fun _ => .int)) k ≠ .double := by decide +kernel
theorem zff_30 : ∀ k, k < 2 → (zty.getD 30 (fun _ => .int)) k ≠ .float ∧ (zty.getD 30 (fun _ => .int)) k ≠ .double := by decide +kernel
theorem zff_31 : ∀ k, k < 2 → (zty.getD 31 (fun _ => .int)) k ≠ .float ∧ (zty.getD 31 (fun _ => .int)) k ≠ .double := by decide +kernel
theorem zff_32 : ∀ k, k < 3 → (zty.getD 32 (fun _ => .int)) k ≠ .float ∧ (zty.getD 32 (fun _ => .int)) k ≠ .double := by decide +kernel
theorem zff_33 : ∀ k, k < 2 → (zty.getD 33 (fun _ => .int)) k ≠ .float ∧ (zty.getD 33 (fun _ => .int)) k ≠ .double := by decide +kernel
theorem zff_34 : ∀ k, k < 2 → (zty.getD 34 (fun _ => .int)) k ≠ .float ∧ (zty.getD 34 (fun _ => .int)) k ≠ .double := by decide +kernel
theorem zff_35 : ∀ k, k < 2 → (zty.getD 35 (fun _ => .int)) k ≠ .float ∧ (zty.getD 35 (fun _ => .int)) k ≠ .double := by decide +kernel
theorem zff_36 : ∀ k, k < 3 → (zty.getD 36 (fun _ => .int)) k ≠ .float ∧ (zty.getD 36 (fun _ => .int)) k ≠ .double := by decide +kernel
theorem zff_37 : ∀ k, k < 3 → (zty.getD 37 (fun _ => .int)) k ≠ .float ∧ (zty.getD 37 (fun _ => .int)) k ≠ .double := by decide +kernel
theorem zff_38 : ∀ k, k < 5 → (zty.getD 38 (fun _ => .int)) k ≠ .float ∧ (zty.getD 38 (fun _ => .int)) k ≠ .double := by decide +kernel
theorem zff_39 : ∀ k, k < 3 → (zty.getD 39 (fun _ => .int)) k ≠ .float ∧ (zty.getD 39 (fun _ => .int)) k ≠ .double := by decide +kernel
theorem zff_40 : ∀ k, k < 1 → (zty.getD 40 (fun _ => .int)) k ≠ .float ∧ (zty.getD 40 (fun _ => .int)) k ≠ .double := by decide +kernel
theorem zff_41 : ∀ k, k < 1 → (zty.getD 41 (fun _ => .int)) k ≠ .float ∧ (zty.getD 41 (fun _ => .int)) k ≠ .double := by decide +kernel
theorem zff_42 : ∀ k, k < 1 → (zty.getD 42 (fun _ => .int)) k ≠ .float ∧ (zty.getD 42 (fun _ => .int)) k ≠ .double := by decide +kernel
theorem zff_43 : ∀ k, k < 3 → (zty.getD 43 (fun _ => .int)) k ≠ .float ∧ (zty.getD 43 (fun _ => .int)) k ≠ .double := by decide +kernel
theorem zff_44 : ∀ k, k < 4 → (zty.getD 44 (fun _ => .int)) k ≠ .float ∧ (zty.getD 44 (fun _ => .int)) k ≠ .double := by decide +kernel
theorem ctX1_298_10 : zct RX1 298 10 := ⟨(RX11, TX11, 10), "ScriptTypes$Code", rfl, q2136, Or.inr rfl⟩
theorem ctX14_2 : ∀ t, 20 ≤ t → t < 45 → zct RX14 2 t := fun t h1 h2 => by
  rcases (show t = 20 ∨ t = 21 ∨ t = 22 ∨ t = 23 ∨ t = 24 ∨ t = 25 ∨ t = 26 ∨ t = 27 ∨ t = 28 ∨ t = 29 ∨ t = 30 ∨ t = 31 ∨ t = 32 ∨ t = 33 ∨ t = 34 ∨ t = 35 ∨ t = 36 ∨ t = 37 ∨ t = 38 ∨ t = 39 ∨ t = 40 ∨ t = 41 ∨ t = 42 ∨ t = 43 ∨ t = 44 from by omega) with rfl | rfl | rfl | rfl | rfl | rfl | rfl | rfl | rfl | rfl | rfl | rfl | rfl | rfl | rfl | rfl | rfl | rfl | rfl | rfl | rfl | rfl | rfl | rfl | rfl
  · exact ⟨(RX14, TX14, 1), "ScriptTypes$Node", rfl, q2191, Or.inl q5193⟩
  · exact ⟨(RX15, TX15, 1), "ScriptTypes$Node", rfl, q2191, Or.inl q5199⟩
  · exact ⟨(RX16, TX16, 3), "ScriptTypes$Node", rfl, q2191, Or.inl q5212⟩
  · exact ⟨(RX17, TX17, 1), "ScriptTypes$Node", rfl, q2191, Or.inl q5208⟩
  · exact ⟨(RX18, TX18, 2), "ScriptTypes$Node", rfl, q2191, Or.inl q5205⟩
  · exact ⟨(RX19, TX19, 0), "ScriptTypes$Node", rfl, q2191, Or.inl q5214⟩
  · exact ⟨(RX20, TX20, 1), "ScriptTypes$Node", rfl, q2191, Or.inl q5207⟩
  · exact ⟨(RX21, TX21, 1), "ScriptTypes$Node", rfl, q2191, Or.inl q5195⟩
  · exact ⟨(RX22, TX22, 1), "ScriptTypes$Node", rfl, q2191, Or.inl q5197⟩
  · exact ⟨(RX23, TX23, 3), "ScriptTypes$Node", rfl, q2191, Or.inl q5203⟩
  · exact ⟨(RX24, TX24, 2), "ScriptTypes$Node", rfl, q2191, Or.inl q5204⟩
  · exact ⟨(RX26, TX26, 2), "ScriptTypes$Node", rfl, q2191, Or.inl q5209⟩
  · exact ⟨(RX27, TX27, 3), "ScriptTypes$Node", rfl, q2191, Or.inl q5198⟩
  · exact ⟨(RX28, TX28, 2), "ScriptTypes$Node", rfl, q2191, Or.inl q5192⟩
  · exact ⟨(RX29, TX29, 2), "ScriptTypes$Node", rfl, q2191, Or.inl q5194⟩
  · exact ⟨(RX30, TX30, 2), "ScriptTypes$Node", rfl, q2191, Or.inl q5211⟩
  · exact ⟨(RX31, TX31, 3), "ScriptTypes$Node", rfl, q2191, Or.inl q5196⟩
  · exact ⟨(RX32, TX32, 3), "ScriptTypes$Node", rfl, q2191, Or.inl q5202⟩
  · exact ⟨(RX33, TX33, 5), "ScriptTypes$Node", rfl, q2191, Or.inl q5206⟩
  · exact ⟨(RX34, TX34, 3), "ScriptTypes$Node", rfl, q2191, Or.inl q5200⟩
  · exact ⟨(RX35, TX35, 1), "ScriptTypes$Node", rfl, q2191, Or.inl q5201⟩
  · exact ⟨(RX36, TX36, 1), "ScriptTypes$Node", rfl, q2191, Or.inl q5210⟩
  · exact ⟨(RX37, TX37, 1), "ScriptTypes$Node", rfl, q2191, Or.inl q5215⟩
  · exact ⟨(RX38, TX38, 3), "ScriptTypes$Node", rfl, q2191, Or.inl q5216⟩
  · exact ⟨(RX39, TX39, 4), "ScriptTypes$Node", rfl, q2191, Or.inl q5213⟩
theorem ctX16_26_30 : zct RX16 26 30 := ⟨(RX24, TX24, 2), "ScriptTypes$Left", rfl, q2350, Or.inr rfl⟩
theorem ctX16_41_23 : zct RX16 41 23 := ⟨(RX17, TX17, 1), "ScriptTypes$Name", rfl, q2400, Or.inr rfl⟩
theorem ctX22_4 : ∀ t, 20 ≤ t → t < 45 → zct RX22 4 t := fun t h1 h2 => by
  rcases (show t = 20 ∨ t = 21 ∨ t = 22 ∨ t = 23 ∨ t = 24 ∨ t = 25 ∨ t = 26 ∨ t = 27 ∨ t = 28 ∨ t = 29 ∨ t = 30 ∨ t = 31 ∨ t = 32 ∨ t = 33 ∨ t = 34 ∨ t = 35 ∨ t = 36 ∨ t = 37 ∨ t = 38 ∨ t = 39 ∨ t = 40 ∨ t = 41 ∨ t = 42 ∨ t = 43 ∨ t = 44 from by omega) with rfl | rfl | rfl | rfl | rfl | rfl | rfl | rfl | rfl | rfl | rfl | rfl | rfl | rfl | rfl | rfl | rfl | rfl | rfl | rfl | rfl | rfl | rfl | rfl | rfl
  · exact ⟨(RX14, TX14, 1), "ScriptTypes$Node", rfl, q2209, Or.inl q5193⟩
  · exact ⟨(RX15, TX15, 1), "ScriptTypes$Node", rfl, q2209, Or.inl q5199⟩
  · exact ⟨(RX16, TX16, 3), "ScriptTypes$Node", rfl, q2209, Or.inl q5212⟩
  · exact ⟨(RX17, TX17, 1), "ScriptTypes$Node", rfl, q2209, Or.inl q5208⟩
  · exact ⟨(RX18, TX18, 2), "ScriptTypes$Node", rfl, q2209, Or.inl q5205⟩
  · exact ⟨(RX19, TX19, 0), "ScriptTypes$Node", rfl, q2209, Or.inl q5214⟩
  · exact ⟨(RX20, TX20, 1), "ScriptTypes$Node", rfl, q2209, Or.inl q5207⟩
  · exact ⟨(RX21, TX21, 1), "ScriptTypes$Node", rfl, q2209, Or.inl q5195⟩
  · exact ⟨(RX22, TX22, 1), "ScriptTypes$Node", rfl, q2209, Or.inl q5197⟩
  · exact ⟨(RX23, TX23, 3), "ScriptTypes$Node", rfl, q2209, Or.inl q5203⟩
  · exact ⟨(RX24, TX24, 2), "ScriptTypes$Node", rfl, q2209, Or.inl q5204⟩
  · exact ⟨(RX26, TX26, 2), "ScriptTypes$Node", rfl, q2209, Or.inl q5209⟩
  · exact ⟨(RX27, TX27, 3), "ScriptTypes$Node", rfl, q2209, Or.inl q5198⟩
  · exact ⟨(RX28, TX28, 2), "ScriptTypes$Node", rfl, q2209, Or.inl q5192⟩
  · exact ⟨(RX29, TX29, 2), "ScriptTypes$Node", rfl, q2209, Or.inl q5194⟩
  · exact ⟨(RX30, TX30, 2), "ScriptTypes$Node", rfl, q2209, Or.inl q5211⟩
  · exact ⟨(RX31, TX31, 3), "ScriptTypes$Node", rfl, q2209, Or.inl q5196⟩
  · exact ⟨(RX32, TX32, 3), "ScriptTypes$Node", rfl, q2209, Or.inl q5202⟩
  · exact ⟨(RX33, TX33, 5), "ScriptTypes$Node", rfl, q2209, Or.inl q5206⟩
  · exact ⟨(RX34, TX34, 3), "ScriptTypes$Node", rfl, q2209, Or.inl q5200⟩
  · exact ⟨(RX35, TX35, 1), "ScriptTypes$Node", rfl, q2209, Or.inl q5201⟩
  · exact ⟨(RX36, TX36, 1), "ScriptTypes$Node", rfl, q2209, Or.inl q5210⟩
  · exact ⟨(RX37, TX37, 1), "ScriptTypes$Node", rfl, q2209, Or.inl q5215⟩
  · exact ⟨(RX38, TX38, 3), "ScriptTypes$Node", rfl, q2209, Or.inl q5216⟩
  · exact ⟨(RX39, TX39, 4), "ScriptTypes$Node", rfl, q2209, Or.inl q5213⟩
theorem ctX23_4 : ∀ t, 20 ≤ t → t < 45 → zct RX23 4 t := fun t h1 h2 => by
  rcases (show t = 20 ∨ t = 21 ∨ t = 22 ∨ t = 23 ∨ t = 24 ∨ t = 25 ∨ t = 26 ∨ t = 27 ∨ t = 28 ∨ t = 29 ∨ t = 30 ∨ t = 31 ∨ t = 32 ∨ t = 33 ∨ t = 34 ∨ t = 35 ∨ t = 36 ∨ t = 37 ∨ t = 38 ∨ t = 39 ∨ t = 40 ∨ t = 41 ∨ t = 42 ∨ t = 43 ∨ t = 44 from by omega) with rfl | rfl | rfl | rfl | rfl | rfl | rfl | rfl | rfl | rfl | rfl | rfl | rfl | rfl | rfl | rfl | rfl | rfl | rfl | rfl | rfl | rfl | rfl | rfl | rfl
  · exact ⟨(RX14, TX14, 1), "ScriptTypes$Node", rfl, q2316, Or.inl q5193⟩
  · exact ⟨(RX15, TX15, 1), "ScriptTypes$Node", rfl, q2316, Or.inl q5199⟩
  · exact ⟨(RX16, TX16, 3), "ScriptTypes$Node", rfl, q2316, Or.inl q5212⟩
  · exact ⟨(RX17, TX17, 1), "ScriptTypes$Node", rfl, q2316, Or.inl q5208⟩
  · exact ⟨(RX18, TX18, 2), "ScriptTypes$Node", rfl, q2316, Or.inl q5205⟩
  · exact ⟨(RX19, TX19, 0), "ScriptTypes$Node", rfl, q2316, Or.inl q5214⟩
  · exact ⟨(RX20, TX20, 1), "ScriptTypes$Node", rfl, q2316, Or.inl q5207⟩
  · exact ⟨(RX21, TX21, 1), "ScriptTypes$Node", rfl, q2316, Or.inl q5195⟩
  · exact ⟨(RX22, TX22, 1), "ScriptTypes$Node", rfl, q2316, Or.inl q5197⟩
  · exact ⟨(RX23, TX23, 3), "ScriptTypes$Node", rfl, q2316, Or.inl q5203⟩
  · exact ⟨(RX24, TX24, 2), "ScriptTypes$Node", rfl, q2316, Or.inl q5204⟩
  · exact ⟨(RX26, TX26, 2), "ScriptTypes$Node", rfl, q2316, Or.inl q5209⟩
  · exact ⟨(RX27, TX27, 3), "ScriptTypes$Node", rfl, q2316, Or.inl q5198⟩
  · exact ⟨(RX28, TX28, 2), "ScriptTypes$Node", rfl, q2316, Or.inl q5192⟩
  · exact ⟨(RX29, TX29, 2), "ScriptTypes$Node", rfl, q2316, Or.inl q5194⟩
  · exact ⟨(RX30, TX30, 2), "ScriptTypes$Node", rfl, q2316, Or.inl q5211⟩
  · exact ⟨(RX31, TX31, 3), "ScriptTypes$Node", rfl, q2316, Or.inl q5196⟩
  · exact ⟨(RX32, TX32, 3), "ScriptTypes$Node", rfl, q2316, Or.inl q5202⟩
  · exact ⟨(RX33, TX33, 5), "ScriptTypes$Node", rfl, q2316, Or.inl q5206⟩
  · exact ⟨(RX34, TX34, 3), "ScriptTypes$Node", rfl, q2316, Or.inl q5200⟩
  · exact ⟨(RX35, TX35, 1), "ScriptTypes$Node", rfl, q2316, Or.inl q5201⟩
  · exact ⟨(RX36, TX36, 1), "ScriptTypes$Node", rfl, q2316, Or.inl q5210⟩
  · exact ⟨(RX37, TX37, 1), "ScriptTypes$Node", rfl, q2316, Or.inl q5215⟩
  · exact ⟨(RX38, TX38, 3), "ScriptTypes$Node", rfl, q2316, Or.inl q5216⟩
  · exact ⟨(RX39, TX39, 4), "ScriptTypes$Node", rfl, q2316, Or.inl q5213⟩
theorem ctX24_30_19 : zct RX24 30 19 := ⟨(RX25, TX25, 3), "ScriptTypes$Suffix", rfl, q1837, Or.inr rfl⟩
theorem ctX24_4 : ∀ t, 20 ≤ t → t < 45 → zct RX24 4 t := fun t h1 h2 => by
  rcases (show t = 20 ∨ t = 21 ∨ t = 22 ∨ t = 23 ∨ t = 24 ∨ t = 25 ∨ t = 26 ∨ t = 27 ∨ t = 28 ∨ t = 29 ∨ t = 30 ∨ t = 31 ∨ t = 32 ∨ t = 33 ∨ t = 34 ∨ t = 35 ∨ t = 36 ∨ t = 37 ∨ t = 38 ∨ t = 39 ∨ t = 40 ∨ t = 41 ∨ t = 42 ∨ t = 43 ∨ t = 44 from by omega) with rfl | rfl | rfl | rfl | rfl | rfl | rfl | rfl | rfl | rfl | rfl | rfl | rfl | rfl | rfl | rfl | rfl | rfl | rfl | rfl | rfl | rfl | rfl | rfl | rfl
  · exact ⟨(RX14, TX14, 1), "ScriptTypes$Node", rfl, q2445, Or.inl q5193⟩
  · exact ⟨(RX15, TX15, 1), "ScriptTypes$Node", rfl, q2445, Or.inl q5199⟩
  · exact ⟨(RX16, TX16, 3), "ScriptTypes$Node", rfl, q2445, Or.inl q5212⟩
  · exact ⟨(RX17, TX17, 1), "ScriptTypes$Node", rfl, q2445, Or.inl q5208⟩
  · exact ⟨(RX18, TX18, 2), "ScriptTypes$Node", rfl, q2445, Or.inl q5205⟩
  · exact ⟨(RX19, TX19, 0), "ScriptTypes$Node", rfl, q2445, Or.inl q5214⟩
  · exact ⟨(RX20, TX20, 1), "ScriptTypes$Node", rfl, q2445, Or.inl q5207⟩
  · exact ⟨(RX21, TX21, 1), "ScriptTypes$Node", rfl, q2445, Or.inl q5195⟩
  · exact ⟨(RX22, TX22, 1), "ScriptTypes$Node", rfl, q2445, Or.inl q5197⟩
  · exact ⟨(RX23, TX23, 3), "ScriptTypes$Node", rfl, q2445, Or.inl q5203⟩
  · exact ⟨(RX24, TX24, 2), "ScriptTypes$Node", rfl, q2445, Or.inl q5204⟩
  · exact ⟨(RX26, TX26, 2), "ScriptTypes$Node", rfl, q2445, Or.inl q5209⟩
  · exact ⟨(RX27, TX27, 3), "ScriptTypes$Node", rfl, q2445, Or.inl q5198⟩
  · exact ⟨(RX28, TX28, 2), "ScriptTypes$Node", rfl, q2445, Or.inl q5192⟩
  · exact ⟨(RX29, TX29, 2), "ScriptTypes$Node", rfl, q2445, Or.inl q5194⟩
  · exact ⟨(RX30, TX30, 2), "ScriptTypes$Node", rfl, q2445, Or.inl q5211⟩
  · exact ⟨(RX31, TX31, 3), "ScriptTypes$Node", rfl, q2445, Or.inl q5196⟩
  · exact ⟨(RX32, TX32, 3), "ScriptTypes$Node", rfl, q2445, Or.inl q5202⟩
  · exact ⟨(RX33, TX33, 5), "ScriptTypes$Node", rfl, q2445, Or.inl q5206⟩
  · exact ⟨(RX34, TX34, 3), "ScriptTypes$Node", rfl, q2445, Or.inl q5200⟩
  · exact ⟨(RX35, TX35, 1), "ScriptTypes$Node", rfl, q2445, Or.inl q5201⟩
  · exact ⟨(RX36, TX36, 1), "ScriptTypes$Node", rfl, q2445, Or.inl q5210⟩
  · exact ⟨(RX37, TX37, 1), "ScriptTypes$Node", rfl, q2445, Or.inl q5215⟩
  · exact ⟨(RX38, TX38, 3), "ScriptTypes$Node", rfl, q2445, Or.inl q5216⟩
  · exact ⟨(RX39, TX39, 4), "ScriptTypes$Node", rfl, q2445, Or.inl q5213⟩
theorem ctX26_4 : ∀ t, 20 ≤ t → t < 45 → zct RX26 4 t := fun t h1 h2 => by
  rcases (show t = 20 ∨ t = 21 ∨ t = 22 ∨ t = 23 ∨ t = 24 ∨ t = 25 ∨ t = 26 ∨ t = 27 ∨ t = 28 ∨ t = 29 ∨ t = 30 ∨ t = 31 ∨ t = 32 ∨ t = 33 ∨ t = 34 ∨ t = 35 ∨ t = 36 ∨ t = 37 ∨ t = 38 ∨ t = 39 ∨ t = 40 ∨ t = 41 ∨ t = 42 ∨ t = 43 ∨ t = 44 from by omega) with rfl | rfl | rfl | rfl | rfl | rfl | rfl | rfl | rfl | rfl | rfl | rfl | rfl | rfl | rfl | rfl | rfl | rfl | rfl | rfl | rfl | rfl | rfl | rfl | rfl
  · exact ⟨(RX14, TX14, 1), "ScriptTypes$Node", rfl, q2410, Or.inl q5193⟩
  · exact ⟨(RX15, TX15, 1), "ScriptTypes$Node", rfl, q2410, Or.inl q5199⟩
  · exact ⟨(RX16, TX16, 3), "ScriptTypes$Node", rfl, q2410, Or.inl q5212⟩
  · exact ⟨(RX17, TX17, 1), "ScriptTypes$Node", rfl, q2410, Or.inl q5208⟩
  · exact ⟨(RX18, TX18, 2), "ScriptTypes$Node", rfl, q2410, Or.inl q5205⟩
  · exact ⟨(RX19, TX19, 0), "ScriptTypes$Node", rfl, q2410, Or.inl q5214⟩
  · exact ⟨(RX20, TX20, 1), "ScriptTypes$Node", rfl, q2410, Or.inl q5207⟩
  · exact ⟨(RX21, TX21, 1), "ScriptTypes$Node", rfl, q2410, Or.inl q5195⟩
  · exact ⟨(RX22, TX22, 1), "ScriptTypes$Node", rfl, q2410, Or.inl q5197⟩
  · exact ⟨(RX23, TX23, 3), "ScriptTypes$Node", rfl, q2410, Or.inl q5203⟩
  · exact ⟨(RX24, TX24, 2), "ScriptTypes$Node", rfl, q2410, Or.inl q5204⟩
  · exact ⟨(RX26, TX26, 2), "ScriptTypes$Node", rfl, q2410, Or.inl q5209⟩
  · exact ⟨(RX27, TX27, 3), "ScriptTypes$Node", rfl, q2410, Or.inl q5198⟩
  · exact ⟨(RX28, TX28, 2), "ScriptTypes$Node", rfl, q2410, Or.inl q5192⟩
  · exact ⟨(RX29, TX29, 2), "ScriptTypes$Node", rfl, q2410, Or.inl q5194⟩
  · exact ⟨(RX30, TX30, 2), "ScriptTypes$Node", rfl, q2410, Or.inl q5211⟩
  · exact ⟨(RX31, TX31, 3), "ScriptTypes$Node", rfl, q2410, Or.inl q5196⟩
  · exact ⟨(RX32, TX32, 3), "ScriptTypes$Node", rfl, q2410, Or.inl q5202⟩
  · exact ⟨(RX33, TX33, 5), "ScriptTypes$Node", rfl, q2410, Or.inl q5206⟩
  · exact ⟨(RX34, TX34, 3), "ScriptTypes$Node", rfl, q2410, Or.inl q5200⟩
  · exact ⟨(RX35, TX35, 1), "ScriptTypes$Node", rfl, q2410, Or.inl q5201⟩
  · exact ⟨(RX36, TX36, 1), "ScriptTypes$Node", rfl, q2410, Or.inl q5210⟩
  · exact ⟨(RX37, TX37, 1), "ScriptTypes$Node", rfl, q2410, Or.inl q5215⟩
  · exact ⟨(RX38, TX38, 3), "ScriptTypes$Node", rfl, q2410, Or.inl q5216⟩
  · exact ⟨(RX39, TX39, 4), "ScriptTypes$Node", rfl, q2410, Or.inl q5213⟩
theorem ctX27_27_30 : zct RX27 27 30 := ⟨(RX24, TX24, 2), "ScriptTypes$Left", rfl, q2214, Or.inr rfl⟩
theorem ctX27_42_23 : zct RX27 42 23 := ⟨(RX17, TX17, 1), "ScriptTypes$Name", rfl, q2432, Or.inr rfl⟩
theorem ctX28_19_30 : zct RX28 19 30 := ⟨(RX24, TX24, 2), "ScriptTypes$Left", rfl, q2172, Or.inr rfl⟩
theorem ctX28_35_23 : zct RX28 35 23 := ⟨(RX17, TX17, 1), "ScriptTypes$Name", rfl, q2448, Or.inr rfl⟩
theorem ctX29_2 : ∀ t, 20 ≤ t → t < 45 → zct RX29 2 t := fun t h1 h2 => by
  rcases (show t = 20 ∨ t = 21 ∨ t = 22 ∨ t = 23 ∨ t = 24 ∨ t = 25 ∨ t = 26 ∨ t = 27 ∨ t = 28 ∨ t = 29 ∨ t = 30 ∨ t = 31 ∨ t = 32 ∨ t = 33 ∨ t = 34 ∨ t = 35 ∨ t = 36 ∨ t = 37 ∨ t = 38 ∨ t = 39 ∨ t = 40 ∨ t = 41 ∨ t = 42 ∨ t = 43 ∨ t = 44 from by omega) with rfl | rfl | rfl | rfl | rfl | rfl | rfl | rfl | rfl | rfl | rfl | rfl | rfl | rfl | rfl | rfl | rfl | rfl | rfl | rfl | rfl | rfl | rfl | rfl | rfl
  · exact ⟨(RX14, TX14, 1), "ScriptTypes$Node", rfl, q2196, Or.inl q5193⟩
  · exact ⟨(RX15, TX15, 1), "ScriptTypes$Node", rfl, q2196, Or.inl q5199⟩
  · exact ⟨(RX16, TX16, 3), "ScriptTypes$Node", rfl, q2196, Or.inl q5212⟩
  · exact ⟨(RX17, TX17, 1), "ScriptTypes$Node", rfl, q2196, Or.inl q5208⟩
  · exact ⟨(RX18, TX18, 2), "ScriptTypes$Node", rfl, q2196, Or.inl q5205⟩
  · exact ⟨(RX19, TX19, 0), "ScriptTypes$Node", rfl, q2196, Or.inl q5214⟩
  · exact ⟨(RX20, TX20, 1), "ScriptTypes$Node", rfl, q2196, Or.inl q5207⟩
  · exact ⟨(RX21, TX21, 1), "ScriptTypes$Node", rfl, q2196, Or.inl q5195⟩
  · exact ⟨(RX22, TX22, 1), "ScriptTypes$Node", rfl, q2196, Or.inl q5197⟩
  · exact ⟨(RX23, TX23, 3), "ScriptTypes$Node", rfl, q2196, Or.inl q5203⟩
  · exact ⟨(RX24, TX24, 2), "ScriptTypes$Node", rfl, q2196, Or.inl q5204⟩
  · exact ⟨(RX26, TX26, 2), "ScriptTypes$Node", rfl, q2196, Or.inl q5209⟩
  · exact ⟨(RX27, TX27, 3), "ScriptTypes$Node", rfl, q2196, Or.inl q5198⟩
  · exact ⟨(RX28, TX28, 2), "ScriptTypes$Node", rfl, q2196, Or.inl q5192⟩
  · exact ⟨(RX29, TX29, 2), "ScriptTypes$Node", rfl, q2196, Or.inl q5194⟩
  · exact ⟨(RX30, TX30, 2), "ScriptTypes$Node", rfl, q2196, Or.inl q5211⟩
  · exact ⟨(RX31, TX31, 3), "ScriptTypes$Node", rfl, q2196, Or.inl q5196⟩
  · exact ⟨(RX32, TX32, 3), "ScriptTypes$Node", rfl, q2196, Or.inl q5202⟩
  · exact ⟨(RX33, TX33, 5), "ScriptTypes$Node", rfl, q2196, Or.inl q5206⟩
  · exact ⟨(RX34, TX34, 3), "ScriptTypes$Node", rfl, q2196, Or.inl q5200⟩
  · exact ⟨(RX35, TX35, 1), "ScriptTypes$Node", rfl, q2196, Or.inl q5201⟩
  · exact ⟨(RX36, TX36, 1), "ScriptTypes$Node", rfl, q2196, Or.inl q5210⟩
  · exact ⟨(RX37, TX37, 1), "ScriptTypes$Node", rfl, q2196, Or.inl q5215⟩
  · exact ⟨(RX38, TX38, 3), "ScriptTypes$Node", rfl, q2196, Or.inl q5216⟩
  · exact ⟨(RX39, TX39, 4), "ScriptTypes$Node", rfl, q2196, Or.inl q5213⟩
theorem ctX3_131 : ∀ t, 20 ≤ t → t < 45 → zct RX3 131 t := fun t h1 h2 => by
  rcases (show t = 20 ∨ t = 21 ∨ t = 22 ∨ t = 23 ∨ t = 24 ∨ t = 25 ∨ t = 26 ∨ t = 27 ∨ t = 28 ∨ t = 29 ∨ t = 30 ∨ t = 31 ∨ t = 32 ∨ t = 33 ∨ t = 34 ∨ t = 35 ∨ t = 36 ∨ t = 37 ∨ t = 38 ∨ t = 39 ∨ t = 40 ∨ t = 41 ∨ t = 42 ∨ t = 43 ∨ t = 44 from by omega) with rfl | rfl | rfl | rfl | rfl | rfl | rfl | rfl | rfl | rfl | rfl | rfl | rfl | rfl | rfl | rfl | rfl | rfl | rfl | rfl | rfl | rfl | rfl | rfl | rfl
  · exact ⟨(RX14, TX14, 1), "ScriptTypes$Node", rfl, q2165, Or.inl q5193⟩
  · exact ⟨(RX15, TX15, 1), "ScriptTypes$Node", rfl, q2165, Or.inl q5199⟩
  · exact ⟨(RX16, TX16, 3), "ScriptTypes$Node", rfl, q2165, Or.inl q5212⟩
  · exact ⟨(RX17, TX17, 1), "ScriptTypes$Node", rfl, q2165, Or.inl q5208⟩
  · exact ⟨(RX18, TX18, 2), "ScriptTypes$Node", rfl, q2165, Or.inl q5205⟩
  · exact ⟨(RX19, TX19, 0), "ScriptTypes$Node", rfl, q2165, Or.inl q5214⟩
  · exact ⟨(RX20, TX20, 1), "ScriptTypes$Node", rfl, q2165, Or.inl q5207⟩
  · exact ⟨(RX21, TX21, 1), "ScriptTypes$Node", rfl, q2165, Or.inl q5195⟩
  · exact ⟨(RX22, TX22, 1), "ScriptTypes$Node", rfl, q2165, Or.inl q5197⟩
  · exact ⟨(RX23, TX23, 3), "ScriptTypes$Node", rfl, q2165, Or.inl q5203⟩
  · exact ⟨(RX24, TX24, 2), "ScriptTypes$Node", rfl, q2165, Or.inl q5204⟩
  · exact ⟨(RX26, TX26, 2), "ScriptTypes$Node", rfl, q2165, Or.inl q5209⟩
  · exact ⟨(RX27, TX27, 3), "ScriptTypes$Node", rfl, q2165, Or.inl q5198⟩
  · exact ⟨(RX28, TX28, 2), "ScriptTypes$Node", rfl, q2165, Or.inl q5192⟩
  · exact ⟨(RX29, TX29, 2), "ScriptTypes$Node", rfl, q2165, Or.inl q5194⟩
  · exact ⟨(RX30, TX30, 2), "ScriptTypes$Node", rfl, q2165, Or.inl q5211⟩
  · exact ⟨(RX31, TX31, 3), "ScriptTypes$Node", rfl, q2165, Or.inl q5196⟩
  · exact ⟨(RX32, TX32, 3), "ScriptTypes$Node", rfl, q2165, Or.inl q5202⟩
  · exact ⟨(RX33, TX33, 5), "ScriptTypes$Node", rfl, q2165, Or.inl q5206⟩
  · exact ⟨(RX34, TX34, 3), "ScriptTypes$Node", rfl, q2165, Or.inl q5200⟩
  · exact ⟨(RX35, TX35, 1), "ScriptTypes$Node", rfl, q2165, Or.inl q5201⟩
  · exact ⟨(RX36, TX36, 1), "ScriptTypes$Node", rfl, q2165, Or.inl q5210⟩
  · exact ⟨(RX37, TX37, 1), "ScriptTypes$Node", rfl, q2165, Or.inl q5215⟩
  · exact ⟨(RX38, TX38, 3), "ScriptTypes$Node", rfl, q2165, Or.inl q5216⟩
  · exact ⟨(RX39, TX39, 4), "ScriptTypes$Node", rfl, q2165, Or.inl q5213⟩
theorem ctX3_51_17 : zct RX3 51 17 := ⟨(RX40, TX40, 9), "ScriptTypes$Around", rfl, q2227, Or.inr rfl⟩
theorem ctX3_76_10 : zct RX3 76 10 := ⟨(RX11, TX11, 10), "ScriptTypes$Code", rfl, q2155, Or.inr rfl⟩
theorem ctX30_4 : ∀ t, 20 ≤ t → t < 45 → zct RX30 4 t := fun t h1 h2 => by
  rcases (show t = 20 ∨ t = 21 ∨ t = 22 ∨ t = 23 ∨ t = 24 ∨ t = 25 ∨ t = 26 ∨ t = 27 ∨ t = 28 ∨ t = 29 ∨ t = 30 ∨ t = 31 ∨ t = 32 ∨ t = 33 ∨ t = 34 ∨ t = 35 ∨ t = 36 ∨ t = 37 ∨ t = 38 ∨ t = 39 ∨ t = 40 ∨ t = 41 ∨ t = 42 ∨ t = 43 ∨ t = 44 from by omega) with rfl | rfl | rfl | rfl | rfl | rfl | rfl | rfl | rfl | rfl | rfl | rfl | rfl | rfl | rfl | rfl | rfl | rfl | rfl | rfl | rfl | rfl | rfl | rfl | rfl
  · exact ⟨(RX14, TX14, 1), "ScriptTypes$Node", rfl, q2345, Or.inl q5193⟩
  · exact ⟨(RX15, TX15, 1), "ScriptTypes$Node", rfl, q2345, Or.inl q5199⟩
  · exact ⟨(RX16, TX16, 3), "ScriptTypes$Node", rfl, q2345, Or.inl q5212⟩
  · exact ⟨(RX17, TX17, 1), "ScriptTypes$Node", rfl, q2345, Or.inl q5208⟩
  · exact ⟨(RX18, TX18, 2), "ScriptTypes$Node", rfl, q2345, Or.inl q5205⟩
  · exact ⟨(RX19, TX19, 0), "ScriptTypes$Node", rfl, q2345, Or.inl q5214⟩
  · exact ⟨(RX20, TX20, 1), "ScriptTypes$Node", rfl, q2345, Or.inl q5207⟩
  · exact ⟨(RX21, TX21, 1), "ScriptTypes$Node", rfl, q2345, Or.inl q5195⟩
  · exact ⟨(RX22, TX22, 1), "ScriptTypes$Node", rfl, q2345, Or.inl q5197⟩
  · exact ⟨(RX23, TX23, 3), "ScriptTypes$Node", rfl, q2345, Or.inl q5203⟩
  · exact ⟨(RX24, TX24, 2), "ScriptTypes$Node", rfl, q2345, Or.inl q5204⟩
  · exact ⟨(RX26, TX26, 2), "ScriptTypes$Node", rfl, q2345, Or.inl q5209⟩
  · exact ⟨(RX27, TX27, 3), "ScriptTypes$Node", rfl, q2345, Or.inl q5198⟩
  · exact ⟨(RX28, TX28, 2), "ScriptTypes$Node", rfl, q2345, Or.inl q5192⟩
  · exact ⟨(RX29, TX29, 2), "ScriptTypes$Node", rfl, q2345, Or.inl q5194⟩
  · exact ⟨(RX30, TX30, 2), "ScriptTypes$Node", rfl, q2345, Or.inl q5211⟩
  · exact ⟨(RX31, TX31, 3), "ScriptTypes$Node", rfl, q2345, Or.inl q5196⟩
  · exact ⟨(RX32, TX32, 3), "ScriptTypes$Node", rfl, q2345, Or.inl q5202⟩
  · exact ⟨(RX33, TX33, 5), "ScriptTypes$Node", rfl, q2345, Or.inl q5206⟩
  · exact ⟨(RX34, TX34, 3), "ScriptTypes$Node", rfl, q2345, Or.inl q5200⟩
  · exact ⟨(RX35, TX35, 1), "ScriptTypes$Node", rfl, q2345, Or.inl q5201⟩
  · exact ⟨(RX36, TX36, 1), "ScriptTypes$Node", rfl, q2345, Or.inl q5210⟩
  · exact ⟨(RX37, TX37, 1), "ScriptTypes$Node", rfl, q2345, Or.inl q5215⟩
  · exact ⟨(RX38, TX38, 3), "ScriptTypes$Node", rfl, q2345, Or.inl q5216⟩
  · exact ⟨(RX39, TX39, 4), "ScriptTypes$Node", rfl, q2345, Or.inl q5213⟩
theorem ctX39_4 : ∀ t, 20 ≤ t → t < 45 → zct RX39 4 t := fun t h1 h2 => by
  rcases (show t = 20 ∨ t = 21 ∨ t = 22 ∨ t = 23 ∨ t = 24 ∨ t = 25 ∨ t = 26 ∨ t = 27 ∨ t = 28 ∨ t = 29 ∨ t = 30 ∨ t = 31 ∨ t = 32 ∨ t = 33 ∨ t = 34 ∨ t = 35 ∨ t = 36 ∨ t = 37 ∨ t = 38 ∨ t = 39 ∨ t = 40 ∨ t = 41 ∨ t = 42 ∨ t = 43 ∨ t = 44 from by omega) with rfl | rfl | rfl | rfl | rfl | rfl | rfl | rfl | rfl | rfl | rfl | rfl | rfl | rfl | rfl | rfl | rfl | rfl | rfl | rfl | rfl | rfl | rfl | rfl | rfl
  · exact ⟨(RX14, TX14, 1), "ScriptTypes$Node", rfl, q2386, Or.inl q5193⟩
  · exact ⟨(RX15, TX15, 1), "ScriptTypes$Node", rfl, q2386, Or.inl q5199⟩
  · exact ⟨(RX16, TX16, 3), "ScriptTypes$Node", rfl, q2386, Or.inl q5212⟩
  · exact ⟨(RX17, TX17, 1), "ScriptTypes$Node", rfl, q2386, Or.inl q5208⟩
  · exact ⟨(RX18, TX18, 2), "ScriptTypes$Node", rfl, q2386, Or.inl q5205⟩
  · exact ⟨(RX19, TX19, 0), "ScriptTypes$Node", rfl, q2386, Or.inl q5214⟩
  · exact ⟨(RX20, TX20, 1), "ScriptTypes$Node", rfl, q2386, Or.inl q5207⟩
  · exact ⟨(RX21, TX21, 1), "ScriptTypes$Node", rfl, q2386, Or.inl q5195⟩
  · exact ⟨(RX22, TX22, 1), "ScriptTypes$Node", rfl, q2386, Or.inl q5197⟩
  · exact ⟨(RX23, TX23, 3), "ScriptTypes$Node", rfl, q2386, Or.inl q5203⟩
  · exact ⟨(RX24, TX24, 2), "ScriptTypes$Node", rfl, q2386, Or.inl q5204⟩
  · exact ⟨(RX26, TX26, 2), "ScriptTypes$Node", rfl, q2386, Or.inl q5209⟩
  · exact ⟨(RX27, TX27, 3), "ScriptTypes$Node", rfl, q2386, Or.inl q5198⟩
  · exact ⟨(RX28, TX28, 2), "ScriptTypes$Node", rfl, q2386, Or.inl q5192⟩
  · exact ⟨(RX29, TX29, 2), "ScriptTypes$Node", rfl, q2386, Or.inl q5194⟩
  · exact ⟨(RX30, TX30, 2), "ScriptTypes$Node", rfl, q2386, Or.inl q5211⟩
  · exact ⟨(RX31, TX31, 3), "ScriptTypes$Node", rfl, q2386, Or.inl q5196⟩
  · exact ⟨(RX32, TX32, 3), "ScriptTypes$Node", rfl, q2386, Or.inl q5202⟩
  · exact ⟨(RX33, TX33, 5), "ScriptTypes$Node", rfl, q2386, Or.inl q5206⟩
  · exact ⟨(RX34, TX34, 3), "ScriptTypes$Node", rfl, q2386, Or.inl q5200⟩
  · exact ⟨(RX35, TX35, 1), "ScriptTypes$Node", rfl, q2386, Or.inl q5201⟩
  · exact ⟨(RX36, TX36, 1), "ScriptTypes$Node", rfl, q2386, Or.inl q5210⟩
  · exact ⟨(RX37, TX37, 1), "ScriptTypes$Node", rfl, q2386, Or.inl q5215⟩
  · exact ⟨(RX38, TX38, 3), "ScriptTypes$Node", rfl, q2386, Or.inl q5216⟩
  · exact ⟨(RX39, TX39, 4), "ScriptTypes$Node", rfl, q2386, Or.inl q5213⟩
theorem ctX39_57_20 : zct RX39 57 20 := ⟨(RX14, TX14, 1), "ScriptTypes$Block", rfl, q2388, Or.inr rfl⟩
theorem ctX9_140_20 : zct RX9 140 20 := ⟨(RX14, TX14, 1), "ScriptTypes$Block", rfl, q1493, Or.inr rfl⟩
theorem ctX9_214_23 : zct RX9 214 23 := ⟨(RX17, TX17, 1), "ScriptTypes$Name", rfl, q1531, Or.inr rfl⟩
def vt_code : Nat → Option zY
  | 20 => some YX14_code
  | 21 => some YX15_code
  | 22 => some YX16_code
  | 23 => some YX17_code
  | 24 => some YX18_code
  | 25 => some YX19_code
  | 26 => some YX20_code
  | 27 => some YX21_code
  | 28 => some YX22_code
  | 29 => some YX23_code
  | 30 => some YX24_code
  | 31 => some YX26_code
  | 32 => some YX27_code
  | 33 => some YX28_code
  | 34 => some YX29_code
  | 35 => some YX30_code
  | 36 => some YX31_code
  | 37 => some YX32_code
  | 38 => some YX33_code
  | 39 => some YX34_code
  | 40 => some YX35_code
  | 41 => some YX36_code
  | 42 => some YX37_code
  | 43 => some YX38_code
  | 44 => some YX39_code
  | _ => none
def vt_isMember : Nat → Option zY
  | 20 => some YX13_isMember
  | 21 => some YX13_isMember
  | 22 => some YX13_isMember
  | 23 => some YX13_isMember
  | 24 => some YX13_isMember
  | 25 => some YX13_isMember
  | 26 => some YX13_isMember
  | 27 => some YX13_isMember
  | 28 => some YX13_isMember
  | 29 => some YX13_isMember
  | 30 => some YX24_isMember
  | 31 => some YX13_isMember
  | 32 => some YX13_isMember
  | 33 => some YX13_isMember
  | 34 => some YX13_isMember
  | 35 => some YX13_isMember
  | 36 => some YX13_isMember
  | 37 => some YX13_isMember
  | 38 => some YX13_isMember
  | 39 => some YX13_isMember
  | 40 => some YX13_isMember
  | 41 => some YX13_isMember
  | 42 => some YX13_isMember
  | 43 => some YX13_isMember
  | 44 => some YX13_isMember
  | _ => none
def vt_isName : Nat → Option zY
  | 20 => some YX13_isName
  | 21 => some YX13_isName
  | 22 => some YX13_isName
  | 23 => some YX17_isName
  | 24 => some YX13_isName
  | 25 => some YX13_isName
  | 26 => some YX13_isName
  | 27 => some YX13_isName
  | 28 => some YX13_isName
  | 29 => some YX13_isName
  | 30 => some YX13_isName
  | 31 => some YX13_isName
  | 32 => some YX13_isName
  | 33 => some YX13_isName
  | 34 => some YX13_isName
  | 35 => some YX13_isName
  | 36 => some YX13_isName
  | 37 => some YX13_isName
  | 38 => some YX13_isName
  | 39 => some YX13_isName
  | 40 => some YX13_isName
  | 41 => some YX13_isName
  | 42 => some YX13_isName
  | 43 => some YX13_isName
  | 44 => some YX13_isName
  | _ => none
theorem vtX14_24 : ∀ {t : Nat} {Y_ : zY}, vt_code t = some Y_ → zsV RX14 24 t Y_ 1 ∧ 2 ≤ zYl Y_ ∧ zYl Y_ ≤ 6
  | 0, _, h => by cases h
  | 1, _, h => by cases h
  | 2, _, h => by cases h
  | 3, _, h => by cases h
  | 4, _, h => by cases h
  | 5, _, h => by cases h
  | 6, _, h => by cases h
  | 7, _, h => by cases h
  | 8, _, h => by cases h
  | 9, _, h => by cases h
  | 10, _, h => by cases h
  | 11, _, h => by cases h
  | 12, _, h => by cases h
  | 13, _, h => by cases h
  | 14, _, h => by cases h
  | 15, _, h => by cases h
  | 16, _, h => by cases h
  | 17, _, h => by cases h
  | 18, _, h => by cases h
  | 19, _, h => by cases h
  | 20, Y_, h => by rw [← show YX14_code = Y_ from Option.some.inj h]; exact ⟨vsX14_24_20, by decide, by decide⟩
  | 21, Y_, h => by rw [← show YX15_code = Y_ from Option.some.inj h]; exact ⟨vsX14_24_21, by decide, by decide⟩
  | 22, Y_, h => by rw [← show YX16_code = Y_ from Option.some.inj h]; exact ⟨vsX14_24_22, by decide, by decide⟩
  | 23, Y_, h => by rw [← show YX17_code = Y_ from Option.some.inj h]; exact ⟨vsX14_24_23, by decide, by decide⟩
  | 24, Y_, h => by rw [← show YX18_code = Y_ from Option.some.inj h]; exact ⟨vsX14_24_24, by decide, by decide⟩
  | 25, Y_, h => by rw [← show YX19_code = Y_ from Option.some.inj h]; exact ⟨vsX14_24_25, by decide, by decide⟩
  | 26, Y_, h => by rw [← show YX20_code = Y_ from Option.some.inj h]; exact ⟨vsX14_24_26, by decide, by decide⟩
  | 27, Y_, h => by rw [← show YX21_code = Y_ from Option.some.inj h]; exact ⟨vsX14_24_27, by decide, by decide⟩
  | 28, Y_, h => by rw [← show YX22_code = Y_ from Option.some.inj h]; exact ⟨vsX14_24_28, by decide, by decide⟩
  | 29, Y_, h => by rw [← show YX23_code = Y_ from Option.some.inj h]; exact ⟨vsX14_24_29, by decide, by decide⟩
  | 30, Y_, h => by rw [← show YX24_code = Y_ from Option.some.inj h]; exact ⟨vsX14_24_30, by decide, by decide⟩
  | 31, Y_, h => by rw [← show YX26_code = Y_ from Option.some.inj h]; exact ⟨vsX14_24_31, by decide, by decide⟩
  | 32, Y_, h => by rw [← show YX27_code = Y_ from Option.some.inj h]; exact ⟨vsX14_24_32, by decide, by decide⟩
  | 33, Y_, h => by rw [← show YX28_code = Y_ from Option.some.inj h]; exact ⟨vsX14_24_33, by decide, by decide⟩
  | 34, Y_, h => by rw [← show YX29_code = Y_ from Option.some.inj h]; exact ⟨vsX14_24_34, by decide, by decide⟩
  | 35, Y_, h => by rw [← show YX30_code = Y_ from Option.some.inj h]; exact ⟨vsX14_24_35, by decide, by decide⟩
  | 36, Y_, h => by rw [← show YX31_code = Y_ from Option.some.inj h]; exact ⟨vsX14_24_36, by decide, by decide⟩
  | 37, Y_, h => by rw [← show YX32_code = Y_ from Option.some.inj h]; exact ⟨vsX14_24_37, by decide, by decide⟩
  | 38, Y_, h => by rw [← show YX33_code = Y_ from Option.some.inj h]; exact ⟨vsX14_24_38, by decide, by decide⟩
  | 39, Y_, h => by rw [← show YX34_code = Y_ from Option.some.inj h]; exact ⟨vsX14_24_39, by decide, by decide⟩
  | 40, Y_, h => by rw [← show YX35_code = Y_ from Option.some.inj h]; exact ⟨vsX14_24_40, by decide, by decide⟩
  | 41, Y_, h => by rw [← show YX36_code = Y_ from Option.some.inj h]; exact ⟨vsX14_24_41, by decide, by decide⟩
  | 42, Y_, h => by rw [← show YX37_code = Y_ from Option.some.inj h]; exact ⟨vsX14_24_42, by decide, by decide⟩
  | 43, Y_, h => by rw [← show YX38_code = Y_ from Option.some.inj h]; exact ⟨vsX14_24_43, by decide, by decide⟩
  | 44, Y_, h => by rw [← show YX39_code = Y_ from Option.some.inj h]; exact ⟨vsX14_24_44, by decide, by decide⟩
  | t + 45, _, h => by cases h
theorem vtX15_15 : ∀ {t : Nat} {Y_ : zY}, vt_code t = some Y_ → zsV RX15 15 t Y_ 1 ∧ 2 ≤ zYl Y_ ∧ zYl Y_ ≤ 6
  | 0, _, h => by cases h
  | 1, _, h => by cases h
  | 2, _, h => by cases h
  | 3, _, h => by cases h
  | 4, _, h => by cases h
  | 5, _, h => by cases h
  | 6, _, h => by cases h
  | 7, _, h => by cases h
  | 8, _, h => by cases h
  | 9, _, h => by cases h
  | 10, _, h => by cases h
  | 11, _, h => by cases h
  | 12, _, h => by cases h
  | 13, _, h => by cases h
  | 14, _, h => by cases h
  | 15, _, h => by cases h
  | 16, _, h => by cases h
  | 17, _, h => by cases h
  | 18, _, h => by cases h
  | 19, _, h => by cases h
  | 20, Y_, h => by rw [← show YX14_code = Y_ from Option.some.inj h]; exact ⟨vsX15_15_20, by decide, by decide⟩
  | 21, Y_, h => by rw [← show YX15_code = Y_ from Option.some.inj h]; exact ⟨vsX15_15_21, by decide, by decide⟩
  | 22, Y_, h => by rw [← show YX16_code = Y_ from Option.some.inj h]; exact ⟨vsX15_15_22, by decide, by decide⟩
  | 23, Y_, h => by rw [← show YX17_code = Y_ from Option.some.inj h]; exact ⟨vsX15_15_23, by decide, by decide⟩
  | 24, Y_, h => by rw [← show YX18_code = Y_ from Option.some.inj h]; exact ⟨vsX15_15_24, by decide, by decide⟩
  | 25, Y_, h => by rw [← show YX19_code = Y_ from Option.some.inj h]; exact ⟨vsX15_15_25, by decide, by decide⟩
  | 26, Y_, h => by rw [← show YX20_code = Y_ from Option.some.inj h]; exact ⟨vsX15_15_26, by decide, by decide⟩
  | 27, Y_, h => by rw [← show YX21_code = Y_ from Option.some.inj h]; exact ⟨vsX15_15_27, by decide, by decide⟩
  | 28, Y_, h => by rw [← show YX22_code = Y_ from Option.some.inj h]; exact ⟨vsX15_15_28, by decide, by decide⟩
  | 29, Y_, h => by rw [← show YX23_code = Y_ from Option.some.inj h]; exact ⟨vsX15_15_29, by decide, by decide⟩
  | 30, Y_, h => by rw [← show YX24_code = Y_ from Option.some.inj h]; exact ⟨vsX15_15_30, by decide, by decide⟩
  | 31, Y_, h => by rw [← show YX26_code = Y_ from Option.some.inj h]; exact ⟨vsX15_15_31, by decide, by decide⟩
  | 32, Y_, h => by rw [← show YX27_code = Y_ from Option.some.inj h]; exact ⟨vsX15_15_32, by decide, by decide⟩
  | 33, Y_, h => by rw [← show YX28_code = Y_ from Option.some.inj h]; exact ⟨vsX15_15_33, by decide, by decide⟩
  | 34, Y_, h => by rw [← show YX29_code = Y_ from Option.some.inj h]; exact ⟨vsX15_15_34, by decide, by decide⟩
  | 35, Y_, h => by rw [← show YX30_code = Y_ from Option.some.inj h]; exact ⟨vsX15_15_35, by decide, by decide⟩
  | 36, Y_, h => by rw [← show YX31_code = Y_ from Option.some.inj h]; exact ⟨vsX15_15_36, by decide, by decide⟩
  | 37, Y_, h => by rw [← show YX32_code = Y_ from Option.some.inj h]; exact ⟨vsX15_15_37, by decide, by decide⟩
  | 38, Y_, h => by rw [← show YX33_code = Y_ from Option.some.inj h]; exact ⟨vsX15_15_38, by decide, by decide⟩
  | 39, Y_, h => by rw [← show YX34_code = Y_ from Option.some.inj h]; exact ⟨vsX15_15_39, by decide, by decide⟩
  | 40, Y_, h => by rw [← show YX35_code = Y_ from Option.some.inj h]; exact ⟨vsX15_15_40, by decide, by decide⟩
  | 41, Y_, h => by rw [← show YX36_code = Y_ from Option.some.inj h]; exact ⟨vsX15_15_41, by decide, by decide⟩
  | 42, Y_, h => by rw [← show YX37_code = Y_ from Option.some.inj h]; exact ⟨vsX15_15_42, by decide, by decide⟩
  | 43, Y_, h => by rw [← show YX38_code = Y_ from Option.some.inj h]; exact ⟨vsX15_15_43, by decide, by decide⟩
  | 44, Y_, h => by rw [← show YX39_code = Y_ from Option.some.inj h]; exact ⟨vsX15_15_44, by decide, by decide⟩
  | t + 45, _, h => by cases h
theorem vtX16_22 : ∀ {t : Nat} {Y_ : zY}, vt_isMember t = some Y_ → zsV RX16 22 t Y_ 0 ∧ 1 ≤ zYl Y_ ∧ zYl Y_ ≤ 1
  | 0, _, h => by cases h
  | 1, _, h => by cases h
  | 2, _, h => by cases h
  | 3, _, h => by cases h
  | 4, _, h => by cases h
  | 5, _, h => by cases h
  | 6, _, h => by cases h
  | 7, _, h => by cases h
  | 8, _, h => by cases h
  | 9, _, h => by cases h
  | 10, _, h => by cases h
  | 11, _, h => by cases h
  | 12, _, h => by cases h
  | 13, _, h => by cases h
  | 14, _, h => by cases h
  | 15, _, h => by cases h
  | 16, _, h => by cases h
  | 17, _, h => by cases h
  | 18, _, h => by cases h
  | 19, _, h => by cases h
  | 20, Y_, h => by rw [← show YX13_isMember = Y_ from Option.some.inj h]; exact ⟨vsX16_22_20, by decide, by decide⟩
  | 21, Y_, h => by rw [← show YX13_isMember = Y_ from Option.some.inj h]; exact ⟨vsX16_22_21, by decide, by decide⟩
  | 22, Y_, h => by rw [← show YX13_isMember = Y_ from Option.some.inj h]; exact ⟨vsX16_22_22, by decide, by decide⟩
  | 23, Y_, h => by rw [← show YX13_isMember = Y_ from Option.some.inj h]; exact ⟨vsX16_22_23, by decide, by decide⟩
  | 24, Y_, h => by rw [← show YX13_isMember = Y_ from Option.some.inj h]; exact ⟨vsX16_22_24, by decide, by decide⟩
  | 25, Y_, h => by rw [← show YX13_isMember = Y_ from Option.some.inj h]; exact ⟨vsX16_22_25, by decide, by decide⟩
  | 26, Y_, h => by rw [← show YX13_isMember = Y_ from Option.some.inj h]; exact ⟨vsX16_22_26, by decide, by decide⟩
  | 27, Y_, h => by rw [← show YX13_isMember = Y_ from Option.some.inj h]; exact ⟨vsX16_22_27, by decide, by decide⟩
  | 28, Y_, h => by rw [← show YX13_isMember = Y_ from Option.some.inj h]; exact ⟨vsX16_22_28, by decide, by decide⟩
  | 29, Y_, h => by rw [← show YX13_isMember = Y_ from Option.some.inj h]; exact ⟨vsX16_22_29, by decide, by decide⟩
  | 30, Y_, h => by rw [← show YX24_isMember = Y_ from Option.some.inj h]; exact ⟨vsX16_22_30, by decide, by decide⟩
  | 31, Y_, h => by rw [← show YX13_isMember = Y_ from Option.some.inj h]; exact ⟨vsX16_22_31, by decide, by decide⟩
  | 32, Y_, h => by rw [← show YX13_isMember = Y_ from Option.some.inj h]; exact ⟨vsX16_22_32, by decide, by decide⟩
  | 33, Y_, h => by rw [← show YX13_isMember = Y_ from Option.some.inj h]; exact ⟨vsX16_22_33, by decide, by decide⟩
  | 34, Y_, h => by rw [← show YX13_isMember = Y_ from Option.some.inj h]; exact ⟨vsX16_22_34, by decide, by decide⟩
  | 35, Y_, h => by rw [← show YX13_isMember = Y_ from Option.some.inj h]; exact ⟨vsX16_22_35, by decide, by decide⟩
  | 36, Y_, h => by rw [← show YX13_isMember = Y_ from Option.some.inj h]; exact ⟨vsX16_22_36, by decide, by decide⟩
  | 37, Y_, h => by rw [← show YX13_isMember = Y_ from Option.some.inj h]; exact ⟨vsX16_22_37, by decide, by decide⟩
  | 38, Y_, h => by rw [← show YX13_isMember = Y_ from Option.some.inj h]; exact ⟨vsX16_22_38, by decide, by decide⟩
  | 39, Y_, h => by rw [← show YX13_isMember = Y_ from Option.some.inj h]; exact ⟨vsX16_22_39, by decide, by decide⟩
  | 40, Y_, h => by rw [← show YX13_isMember = Y_ from Option.some.inj h]; exact ⟨vsX16_22_40, by decide, by decide⟩
  | 41, Y_, h => by rw [← show YX13_isMember = Y_ from Option.some.inj h]; exact ⟨vsX16_22_41, by decide, by decide⟩
  | 42, Y_, h => by rw [← show YX13_isMember = Y_ from Option.some.inj h]; exact ⟨vsX16_22_42, by decide, by decide⟩
  | 43, Y_, h => by rw [← show YX13_isMember = Y_ from Option.some.inj h]; exact ⟨vsX16_22_43, by decide, by decide⟩
  | 44, Y_, h => by rw [← show YX13_isMember = Y_ from Option.some.inj h]; exact ⟨vsX16_22_44, by decide, by decide⟩
  | t + 45, _, h => by cases h
theorem vtX16_38 : ∀ {t : Nat} {Y_ : zY}, vt_code t = some Y_ → zsV RX16 38 t Y_ 1 ∧ 2 ≤ zYl Y_ ∧ zYl Y_ ≤ 6
  | 0, _, h => by cases h
  | 1, _, h => by cases h
  | 2, _, h => by cases h
  | 3, _, h => by cases h
  | 4, _, h => by cases h
  | 5, _, h => by cases h
  | 6, _, h => by cases h
  | 7, _, h => by cases h
  | 8, _, h => by cases h
  | 9, _, h => by cases h
  | 10, _, h => by cases h
  | 11, _, h => by cases h
  | 12, _, h => by cases h
  | 13, _, h => by cases h
  | 14, _, h => by cases h
  | 15, _, h => by cases h
  | 16, _, h => by cases h
  | 17, _, h => by cases h
  | 18, _, h => by cases h
  | 19, _, h => by cases h
  | 20, Y_, h => by rw [← show YX14_code = Y_ from Option.some.inj h]; exact ⟨vsX16_38_20, by decide, by decide⟩
  | 21, Y_, h => by rw [← show YX15_code = Y_ from Option.some.inj h]; exact ⟨vsX16_38_21, by decide, by decide⟩
  | 22, Y_, h => by rw [← show YX16_code = Y_ from Option.some.inj h]; exact ⟨vsX16_38_22, by decide, by decide⟩
  | 23, Y_, h => by rw [← show YX17_code = Y_ from Option.some.inj h]; exact ⟨vsX16_38_23, by decide, by decide⟩
  | 24, Y_, h => by rw [← show YX18_code = Y_ from Option.some.inj h]; exact ⟨vsX16_38_24, by decide, by decide⟩
  | 25, Y_, h => by rw [← show YX19_code = Y_ from Option.some.inj h]; exact ⟨vsX16_38_25, by decide, by decide⟩
  | 26, Y_, h => by rw [← show YX20_code = Y_ from Option.some.inj h]; exact ⟨vsX16_38_26, by decide, by decide⟩
  | 27, Y_, h => by rw [← show YX21_code = Y_ from Option.some.inj h]; exact ⟨vsX16_38_27, by decide, by decide⟩
  | 28, Y_, h => by rw [← show YX22_code = Y_ from Option.some.inj h]; exact ⟨vsX16_38_28, by decide, by decide⟩
  | 29, Y_, h => by rw [← show YX23_code = Y_ from Option.some.inj h]; exact ⟨vsX16_38_29, by decide, by decide⟩
  | 30, Y_, h => by rw [← show YX24_code = Y_ from Option.some.inj h]; exact ⟨vsX16_38_30, by decide, by decide⟩
  | 31, Y_, h => by rw [← show YX26_code = Y_ from Option.some.inj h]; exact ⟨vsX16_38_31, by decide, by decide⟩
  | 32, Y_, h => by rw [← show YX27_code = Y_ from Option.some.inj h]; exact ⟨vsX16_38_32, by decide, by decide⟩
  | 33, Y_, h => by rw [← show YX28_code = Y_ from Option.some.inj h]; exact ⟨vsX16_38_33, by decide, by decide⟩
  | 34, Y_, h => by rw [← show YX29_code = Y_ from Option.some.inj h]; exact ⟨vsX16_38_34, by decide, by decide⟩
  | 35, Y_, h => by rw [← show YX30_code = Y_ from Option.some.inj h]; exact ⟨vsX16_38_35, by decide, by decide⟩
  | 36, Y_, h => by rw [← show YX31_code = Y_ from Option.some.inj h]; exact ⟨vsX16_38_36, by decide, by decide⟩
  | 37, Y_, h => by rw [← show YX32_code = Y_ from Option.some.inj h]; exact ⟨vsX16_38_37, by decide, by decide⟩
  | 38, Y_, h => by rw [← show YX33_code = Y_ from Option.some.inj h]; exact ⟨vsX16_38_38, by decide, by decide⟩
  | 39, Y_, h => by rw [← show YX34_code = Y_ from Option.some.inj h]; exact ⟨vsX16_38_39, by decide, by decide⟩
  | 40, Y_, h => by rw [← show YX35_code = Y_ from Option.some.inj h]; exact ⟨vsX16_38_40, by decide, by decide⟩
  | 41, Y_, h => by rw [← show YX36_code = Y_ from Option.some.inj h]; exact ⟨vsX16_38_41, by decide, by decide⟩
  | 42, Y_, h => by rw [← show YX37_code = Y_ from Option.some.inj h]; exact ⟨vsX16_38_42, by decide, by decide⟩
  | 43, Y_, h => by rw [← show YX38_code = Y_ from Option.some.inj h]; exact ⟨vsX16_38_43, by decide, by decide⟩
  | 44, Y_, h => by rw [← show YX39_code = Y_ from Option.some.inj h]; exact ⟨vsX16_38_44, by decide, by decide⟩
  | t + 45, _, h => by cases h
theorem vtX21_13 : ∀ {t : Nat} {Y_ : zY}, vt_code t = some Y_ → zsV RX21 13 t Y_ 1 ∧ 2 ≤ zYl Y_ ∧ zYl Y_ ≤ 6
  | 0, _, h => by cases h
  | 1, _, h => by cases h
  | 2, _, h => by cases h
  | 3, _, h => by cases h
  | 4, _, h => by cases h
  | 5, _, h => by cases h
  | 6, _, h => by cases h
  | 7, _, h => by cases h
  | 8, _, h => by cases h
  | 9, _, h => by cases h
  | 10, _, h => by cases h
  | 11, _, h => by cases h
  | 12, _, h => by cases h
  | 13, _, h => by cases h
  | 14, _, h => by cases h
  | 15, _, h => by cases h
  | 16, _, h => by cases h
  | 17, _, h => by cases h
  | 18, _, h => by cases h
  | 19, _, h => by cases h
  | 20, Y_, h => by rw [← show YX14_code = Y_ from Option.some.inj h]; exact ⟨vsX21_13_20, by decide, by decide⟩
  | 21, Y_, h => by rw [← show YX15_code = Y_ from Option.some.inj h]; exact ⟨vsX21_13_21, by decide, by decide⟩
  | 22, Y_, h => by rw [← show YX16_code = Y_ from Option.some.inj h]; exact ⟨vsX21_13_22, by decide, by decide⟩
  | 23, Y_, h => by rw [← show YX17_code = Y_ from Option.some.inj h]; exact ⟨vsX21_13_23, by decide, by decide⟩
  | 24, Y_, h => by rw [← show YX18_code = Y_ from Option.some.inj h]; exact ⟨vsX21_13_24, by decide, by decide⟩
  | 25, Y_, h => by rw [← show YX19_code = Y_ from Option.some.inj h]; exact ⟨vsX21_13_25, by decide, by decide⟩
  | 26, Y_, h => by rw [← show YX20_code = Y_ from Option.some.inj h]; exact ⟨vsX21_13_26, by decide, by decide⟩
  | 27, Y_, h => by rw [← show YX21_code = Y_ from Option.some.inj h]; exact ⟨vsX21_13_27, by decide, by decide⟩
  | 28, Y_, h => by rw [← show YX22_code = Y_ from Option.some.inj h]; exact ⟨vsX21_13_28, by decide, by decide⟩
  | 29, Y_, h => by rw [← show YX23_code = Y_ from Option.some.inj h]; exact ⟨vsX21_13_29, by decide, by decide⟩
  | 30, Y_, h => by rw [← show YX24_code = Y_ from Option.some.inj h]; exact ⟨vsX21_13_30, by decide, by decide⟩
  | 31, Y_, h => by rw [← show YX26_code = Y_ from Option.some.inj h]; exact ⟨vsX21_13_31, by decide, by decide⟩
  | 32, Y_, h => by rw [← show YX27_code = Y_ from Option.some.inj h]; exact ⟨vsX21_13_32, by decide, by decide⟩
  | 33, Y_, h => by rw [← show YX28_code = Y_ from Option.some.inj h]; exact ⟨vsX21_13_33, by decide, by decide⟩
  | 34, Y_, h => by rw [← show YX29_code = Y_ from Option.some.inj h]; exact ⟨vsX21_13_34, by decide, by decide⟩
  | 35, Y_, h => by rw [← show YX30_code = Y_ from Option.some.inj h]; exact ⟨vsX21_13_35, by decide, by decide⟩
  | 36, Y_, h => by rw [← show YX31_code = Y_ from Option.some.inj h]; exact ⟨vsX21_13_36, by decide, by decide⟩
  | 37, Y_, h => by rw [← show YX32_code = Y_ from Option.some.inj h]; exact ⟨vsX21_13_37, by decide, by decide⟩
  | 38, Y_, h => by rw [← show YX33_code = Y_ from Option.some.inj h]; exact ⟨vsX21_13_38, by decide, by decide⟩
  | 39, Y_, h => by rw [← show YX34_code = Y_ from Option.some.inj h]; exact ⟨vsX21_13_39, by decide, by decide⟩
  | 40, Y_, h => by rw [← show YX35_code = Y_ from Option.some.inj h]; exact ⟨vsX21_13_40, by decide, by decide⟩
  | 41, Y_, h => by rw [← show YX36_code = Y_ from Option.some.inj h]; exact ⟨vsX21_13_41, by decide, by decide⟩
  | 42, Y_, h => by rw [← show YX37_code = Y_ from Option.some.inj h]; exact ⟨vsX21_13_42, by decide, by decide⟩
  | 43, Y_, h => by rw [← show YX38_code = Y_ from Option.some.inj h]; exact ⟨vsX21_13_43, by decide, by decide⟩
  | 44, Y_, h => by rw [← show YX39_code = Y_ from Option.some.inj h]; exact ⟨vsX21_13_44, by decide, by decide⟩
  | t + 45, _, h => by cases h
theorem vtX22_32 : ∀ {t : Nat} {Y_ : zY}, vt_code t = some Y_ → zsV RX22 32 t Y_ 1 ∧ 2 ≤ zYl Y_ ∧ zYl Y_ ≤ 6
  | 0, _, h => by cases h
  | 1, _, h => by cases h
  | 2, _, h => by cases h
  | 3, _, h => by cases h
  | 4, _, h => by cases h
  | 5, _, h => by cases h
  | 6, _, h => by cases h
  | 7, _, h => by cases h
  | 8, _, h => by cases h
  | 9, _, h => by cases h
  | 10, _, h => by cases h
  | 11, _, h => by cases h
  | 12, _, h => by cases h
  | 13, _, h => by cases h
  | 14, _, h => by cases h
  | 15, _, h => by cases h
  | 16, _, h => by cases h
  | 17, _, h => by cases h
  | 18, _, h => by cases h
  | 19, _, h => by cases h
  | 20, Y_, h => by rw [← show YX14_code = Y_ from Option.some.inj h]; exact ⟨vsX22_32_20, by decide, by decide⟩
  | 21, Y_, h => by rw [← show YX15_code = Y_ from Option.some.inj h]; exact ⟨vsX22_32_21, by decide, by decide⟩
  | 22, Y_, h => by rw [← show YX16_code = Y_ from Option.some.inj h]; exact ⟨vsX22_32_22, by decide, by decide⟩
  | 23, Y_, h => by rw [← show YX17_code = Y_ from Option.some.inj h]; exact ⟨vsX22_32_23, by decide, by decide⟩
  | 24, Y_, h => by rw [← show YX18_code = Y_ from Option.some.inj h]; exact ⟨vsX22_32_24, by decide, by decide⟩
  | 25, Y_, h => by rw [← show YX19_code = Y_ from Option.some.inj h]; exact ⟨vsX22_32_25, by decide, by decide⟩
  | 26, Y_, h => by rw [← show YX20_code = Y_ from Option.some.inj h]; exact ⟨vsX22_32_26, by decide, by decide⟩
  | 27, Y_, h => by rw [← show YX21_code = Y_ from Option.some.inj h]; exact ⟨vsX22_32_27, by decide, by decide⟩
  | 28, Y_, h => by rw [← show YX22_code = Y_ from Option.some.inj h]; exact ⟨vsX22_32_28, by decide, by decide⟩
  | 29, Y_, h => by rw [← show YX23_code = Y_ from Option.some.inj h]; exact ⟨vsX22_32_29, by decide, by decide⟩
  | 30, Y_, h => by rw [← show YX24_code = Y_ from Option.some.inj h]; exact ⟨vsX22_32_30, by decide, by decide⟩
  | 31, Y_, h => by rw [← show YX26_code = Y_ from Option.some.inj h]; exact ⟨vsX22_32_31, by decide, by decide⟩
  | 32, Y_, h => by rw [← show YX27_code = Y_ from Option.some.inj h]; exact ⟨vsX22_32_32, by decide, by decide⟩
  | 33, Y_, h => by rw [← show YX28_code = Y_ from Option.some.inj h]; exact ⟨vsX22_32_33, by decide, by decide⟩
  | 34, Y_, h => by rw [← show YX29_code = Y_ from Option.some.inj h]; exact ⟨vsX22_32_34, by decide, by decide⟩
  | 35, Y_, h => by rw [← show YX30_code = Y_ from Option.some.inj h]; exact ⟨vsX22_32_35, by decide, by decide⟩
  | 36, Y_, h => by rw [← show YX31_code = Y_ from Option.some.inj h]; exact ⟨vsX22_32_36, by decide, by decide⟩
  | 37, Y_, h => by rw [← show YX32_code = Y_ from Option.some.inj h]; exact ⟨vsX22_32_37, by decide, by decide⟩
  | 38, Y_, h => by rw [← show YX33_code = Y_ from Option.some.inj h]; exact ⟨vsX22_32_38, by decide, by decide⟩
  | 39, Y_, h => by rw [← show YX34_code = Y_ from Option.some.inj h]; exact ⟨vsX22_32_39, by decide, by decide⟩
  | 40, Y_, h => by rw [← show YX35_code = Y_ from Option.some.inj h]; exact ⟨vsX22_32_40, by decide, by decide⟩
  | 41, Y_, h => by rw [← show YX36_code = Y_ from Option.some.inj h]; exact ⟨vsX22_32_41, by decide, by decide⟩
  | 42, Y_, h => by rw [← show YX37_code = Y_ from Option.some.inj h]; exact ⟨vsX22_32_42, by decide, by decide⟩
  | 43, Y_, h => by rw [← show YX38_code = Y_ from Option.some.inj h]; exact ⟨vsX22_32_43, by decide, by decide⟩
  | 44, Y_, h => by rw [← show YX39_code = Y_ from Option.some.inj h]; exact ⟨vsX22_32_44, by decide, by decide⟩
  | t + 45, _, h => by cases h
theorem vtX23_44 : ∀ {t : Nat} {Y_ : zY}, vt_code t = some Y_ → zsV RX23 44 t Y_ 1 ∧ 2 ≤ zYl Y_ ∧ zYl Y_ ≤ 6
  | 0, _, h => by cases h
  | 1, _, h => by cases h
  | 2, _, h => by cases h
  | 3, _, h => by cases h
  | 4, _, h => by cases h
  | 5, _, h => by cases h
  | 6, _, h => by cases h
  | 7, _, h => by cases h
  | 8, _, h => by cases h
  | 9, _, h => by cases h
  | 10, _, h => by cases h
  | 11, _, h => by cases h
  | 12, _, h => by cases h
  | 13, _, h => by cases h
  | 14, _, h => by cases h
  | 15, _, h => by cases h
  | 16, _, h => by cases h
  | 17, _, h => by cases h
  | 18, _, h => by cases h
  | 19, _, h => by cases h
  | 20, Y_, h => by rw [← show YX14_code = Y_ from Option.some.inj h]; exact ⟨vsX23_44_20, by decide, by decide⟩
  | 21, Y_, h => by rw [← show YX15_code = Y_ from Option.some.inj h]; exact ⟨vsX23_44_21, by decide, by decide⟩
  | 22, Y_, h => by rw [← show YX16_code = Y_ from Option.some.inj h]; exact ⟨vsX23_44_22, by decide, by decide⟩
  | 23, Y_, h => by rw [← show YX17_code = Y_ from Option.some.inj h]; exact ⟨vsX23_44_23, by decide, by decide⟩
  | 24, Y_, h => by rw [← show YX18_code = Y_ from Option.some.inj h]; exact ⟨vsX23_44_24, by decide, by decide⟩
  | 25, Y_, h => by rw [← show YX19_code = Y_ from Option.some.inj h]; exact ⟨vsX23_44_25, by decide, by decide⟩
  | 26, Y_, h => by rw [← show YX20_code = Y_ from Option.some.inj h]; exact ⟨vsX23_44_26, by decide, by decide⟩
  | 27, Y_, h => by rw [← show YX21_code = Y_ from Option.some.inj h]; exact ⟨vsX23_44_27, by decide, by decide⟩
  | 28, Y_, h => by rw [← show YX22_code = Y_ from Option.some.inj h]; exact ⟨vsX23_44_28, by decide, by decide⟩
  | 29, Y_, h => by rw [← show YX23_code = Y_ from Option.some.inj h]; exact ⟨vsX23_44_29, by decide, by decide⟩
  | 30, Y_, h => by rw [← show YX24_code = Y_ from Option.some.inj h]; exact ⟨vsX23_44_30, by decide, by decide⟩
  | 31, Y_, h => by rw [← show YX26_code = Y_ from Option.some.inj h]; exact ⟨vsX23_44_31, by decide, by decide⟩
  | 32, Y_, h => by rw [← show YX27_code = Y_ from Option.some.inj h]; exact ⟨vsX23_44_32, by decide, by decide⟩
  | 33, Y_, h => by rw [← show YX28_code = Y_ from Option.some.inj h]; exact ⟨vsX23_44_33, by decide, by decide⟩
  | 34, Y_, h => by rw [← show YX29_code = Y_ from Option.some.inj h]; exact ⟨vsX23_44_34, by decide, by decide⟩
  | 35, Y_, h => by rw [← show YX30_code = Y_ from Option.some.inj h]; exact ⟨vsX23_44_35, by decide, by decide⟩
  | 36, Y_, h => by rw [← show YX31_code = Y_ from Option.some.inj h]; exact ⟨vsX23_44_36, by decide, by decide⟩
  | 37, Y_, h => by rw [← show YX32_code = Y_ from Option.some.inj h]; exact ⟨vsX23_44_37, by decide, by decide⟩
  | 38, Y_, h => by rw [← show YX33_code = Y_ from Option.some.inj h]; exact ⟨vsX23_44_38, by decide, by decide⟩
  | 39, Y_, h => by rw [← show YX34_code = Y_ from Option.some.inj h]; exact ⟨vsX23_44_39, by decide, by decide⟩
  | 40, Y_, h => by rw [← show YX35_code = Y_ from Option.some.inj h]; exact ⟨vsX23_44_40, by decide, by decide⟩
  | 41, Y_, h => by rw [← show YX36_code = Y_ from Option.some.inj h]; exact ⟨vsX23_44_41, by decide, by decide⟩
  | 42, Y_, h => by rw [← show YX37_code = Y_ from Option.some.inj h]; exact ⟨vsX23_44_42, by decide, by decide⟩
  | 43, Y_, h => by rw [← show YX38_code = Y_ from Option.some.inj h]; exact ⟨vsX23_44_43, by decide, by decide⟩
  | 44, Y_, h => by rw [← show YX39_code = Y_ from Option.some.inj h]; exact ⟨vsX23_44_44, by decide, by decide⟩
  | t + 45, _, h => by cases h
theorem vtX24_53 : ∀ {t : Nat} {Y_ : zY}, vt_code t = some Y_ → zsV RX24 53 t Y_ 1 ∧ 2 ≤ zYl Y_ ∧ zYl Y_ ≤ 6
  | 0, _, h => by cases h
  | 1, _, h => by cases h
  | 2, _, h => by cases h
  | 3, _, h => by cases h
  | 4, _, h => by cases h
  | 5, _, h => by cases h
  | 6, _, h => by cases h
  | 7, _, h => by cases h
  | 8, _, h => by cases h
  | 9, _, h => by cases h
  | 10, _, h => by cases h
  | 11, _, h => by cases h
  | 12, _, h => by cases h
  | 13, _, h => by cases h
  | 14, _, h => by cases h
  | 15, _, h => by cases h
  | 16, _, h => by cases h
  | 17, _, h => by cases h
  | 18, _, h => by cases h
  | 19, _, h => by cases h
  | 20, Y_, h => by rw [← show YX14_code = Y_ from Option.some.inj h]; exact ⟨vsX24_53_20, by decide, by decide⟩
  | 21, Y_, h => by rw [← show YX15_code = Y_ from Option.some.inj h]; exact ⟨vsX24_53_21, by decide, by decide⟩
  | 22, Y_, h => by rw [← show YX16_code = Y_ from Option.some.inj h]; exact ⟨vsX24_53_22, by decide, by decide⟩
  | 23, Y_, h => by rw [← show YX17_code = Y_ from Option.some.inj h]; exact ⟨vsX24_53_23, by decide, by decide⟩
  | 24, Y_, h => by rw [← show YX18_code = Y_ from Option.some.inj h]; exact ⟨vsX24_53_24, by decide, by decide⟩
  | 25, Y_, h => by rw [← show YX19_code = Y_ from Option.some.inj h]; exact ⟨vsX24_53_25, by decide, by decide⟩
  | 26, Y_, h => by rw [← show YX20_code = Y_ from Option.some.inj h]; exact ⟨vsX24_53_26, by decide, by decide⟩
  | 27, Y_, h => by rw [← show YX21_code = Y_ from Option.some.inj h]; exact ⟨vsX24_53_27, by decide, by decide⟩
  | 28, Y_, h => by rw [← show YX22_code = Y_ from Option.some.inj h]; exact ⟨vsX24_53_28, by decide, by decide⟩
  | 29, Y_, h => by rw [← show YX23_code = Y_ from Option.some.inj h]; exact ⟨vsX24_53_29, by decide, by decide⟩
  | 30, Y_, h => by rw [← show YX24_code = Y_ from Option.some.inj h]; exact ⟨vsX24_53_30, by decide, by decide⟩
  | 31, Y_, h => by rw [← show YX26_code = Y_ from Option.some.inj h]; exact ⟨vsX24_53_31, by decide, by decide⟩
  | 32, Y_, h => by rw [← show YX27_code = Y_ from Option.some.inj h]; exact ⟨vsX24_53_32, by decide, by decide⟩
  | 33, Y_, h => by rw [← show YX28_code = Y_ from Option.some.inj h]; exact ⟨vsX24_53_33, by decide, by decide⟩
  | 34, Y_, h => by rw [← show YX29_code = Y_ from Option.some.inj h]; exact ⟨vsX24_53_34, by decide, by decide⟩
  | 35, Y_, h => by rw [← show YX30_code = Y_ from Option.some.inj h]; exact ⟨vsX24_53_35, by decide, by decide⟩
  | 36, Y_, h => by rw [← show YX31_code = Y_ from Option.some.inj h]; exact ⟨vsX24_53_36, by decide, by decide⟩
  | 37, Y_, h => by rw [← show YX32_code = Y_ from Option.some.inj h]; exact ⟨vsX24_53_37, by decide, by decide⟩
  | 38, Y_, h => by rw [← show YX33_code = Y_ from Option.some.inj h]; exact ⟨vsX24_53_38, by decide, by decide⟩
  | 39, Y_, h => by rw [← show YX34_code = Y_ from Option.some.inj h]; exact ⟨vsX24_53_39, by decide, by decide⟩
  | 40, Y_, h => by rw [← show YX35_code = Y_ from Option.some.inj h]; exact ⟨vsX24_53_40, by decide, by decide⟩
  | 41, Y_, h => by rw [← show YX36_code = Y_ from Option.some.inj h]; exact ⟨vsX24_53_41, by decide, by decide⟩
  | 42, Y_, h => by rw [← show YX37_code = Y_ from Option.some.inj h]; exact ⟨vsX24_53_42, by decide, by decide⟩
  | 43, Y_, h => by rw [← show YX38_code = Y_ from Option.some.inj h]; exact ⟨vsX24_53_43, by decide, by decide⟩
  | 44, Y_, h => by rw [← show YX39_code = Y_ from Option.some.inj h]; exact ⟨vsX24_53_44, by decide, by decide⟩
  | t + 45, _, h => by cases h
theorem vtX25_23 : ∀ {t : Nat} {Y_ : zY}, vt_code t = some Y_ → zsV RX25 23 t Y_ 1 ∧ 2 ≤ zYl Y_ ∧ zYl Y_ ≤ 6
  | 0, _, h => by cases h
  | 1, _, h => by cases h
  | 2, _, h => by cases h
  | 3, _, h => by cases h
  | 4, _, h => by cases h
  | 5, _, h => by cases h
  | 6, _, h => by cases h
  | 7, _, h => by cases h
  | 8, _, h => by cases h
  | 9, _, h => by cases h
  | 10, _, h => by cases h
  | 11, _, h => by cases h
  | 12, _, h => by cases h
  | 13, _, h => by cases h
  | 14, _, h => by cases h
  | 15, _, h => by cases h
  | 16, _, h => by cases h
  | 17, _, h => by cases h
  | 18, _, h => by cases h
  | 19, _, h => by cases h
  | 20, Y_, h => by rw [← show YX14_code = Y_ from Option.some.inj h]; exact ⟨vsX25_23_20, by decide, by decide⟩
  | 21, Y_, h => by rw [← show YX15_code = Y_ from Option.some.inj h]; exact ⟨vsX25_23_21, by decide, by decide⟩
  | 22, Y_, h => by rw [← show YX16_code = Y_ from Option.some.inj h]; exact ⟨vsX25_23_22, by decide, by decide⟩
  | 23, Y_, h => by rw [← show YX17_code = Y_ from Option.some.inj h]; exact ⟨vsX25_23_23, by decide, by decide⟩
  | 24, Y_, h => by rw [← show YX18_code = Y_ from Option.some.inj h]; exact ⟨vsX25_23_24, by decide, by decide⟩
  | 25, Y_, h => by rw [← show YX19_code = Y_ from Option.some.inj h]; exact ⟨vsX25_23_25, by decide, by decide⟩
  | 26, Y_, h => by rw [← show YX20_code = Y_ from Option.some.inj h]; exact ⟨vsX25_23_26, by decide, by decide⟩
  | 27, Y_, h => by rw [← show YX21_code = Y_ from Option.some.inj h]; exact ⟨vsX25_23_27, by decide, by decide⟩
  | 28, Y_, h => by rw [← show YX22_code = Y_ from Option.some.inj h]; exact ⟨vsX25_23_28, by decide, by decide⟩
  | 29, Y_, h => by rw [← show YX23_code = Y_ from Option.some.inj h]; exact ⟨vsX25_23_29, by decide, by decide⟩
  | 30, Y_, h => by rw [← show YX24_code = Y_ from Option.some.inj h]; exact ⟨vsX25_23_30, by decide, by decide⟩
  | 31, Y_, h => by rw [← show YX26_code = Y_ from Option.some.inj h]; exact ⟨vsX25_23_31, by decide, by decide⟩
  | 32, Y_, h => by rw [← show YX27_code = Y_ from Option.some.inj h]; exact ⟨vsX25_23_32, by decide, by decide⟩
  | 33, Y_, h => by rw [← show YX28_code = Y_ from Option.some.inj h]; exact ⟨vsX25_23_33, by decide, by decide⟩
  | 34, Y_, h => by rw [← show YX29_code = Y_ from Option.some.inj h]; exact ⟨vsX25_23_34, by decide, by decide⟩
  | 35, Y_, h => by rw [← show YX30_code = Y_ from Option.some.inj h]; exact ⟨vsX25_23_35, by decide, by decide⟩
  | 36, Y_, h => by rw [← show YX31_code = Y_ from Option.some.inj h]; exact ⟨vsX25_23_36, by decide, by decide⟩
  | 37, Y_, h => by rw [← show YX32_code = Y_ from Option.some.inj h]; exact ⟨vsX25_23_37, by decide, by decide⟩
  | 38, Y_, h => by rw [← show YX33_code = Y_ from Option.some.inj h]; exact ⟨vsX25_23_38, by decide, by decide⟩
  | 39, Y_, h => by rw [← show YX34_code = Y_ from Option.some.inj h]; exact ⟨vsX25_23_39, by decide, by decide⟩
  | 40, Y_, h => by rw [← show YX35_code = Y_ from Option.some.inj h]; exact ⟨vsX25_23_40, by decide, by decide⟩
  | 41, Y_, h => by rw [← show YX36_code = Y_ from Option.some.inj h]; exact ⟨vsX25_23_41, by decide, by decide⟩
  | 42, Y_, h => by rw [← show YX37_code = Y_ from Option.some.inj h]; exact ⟨vsX25_23_42, by decide, by decide⟩
  | 43, Y_, h => by rw [← show YX38_code = Y_ from Option.some.inj h]; exact ⟨vsX25_23_43, by decide, by decide⟩
  | 44, Y_, h => by rw [← show YX39_code = Y_ from Option.some.inj h]; exact ⟨vsX25_23_44, by decide, by decide⟩
  | t + 45, _, h => by cases h
theorem vtX26_19 : ∀ {t : Nat} {Y_ : zY}, vt_code t = some Y_ → zsV RX26 19 t Y_ 1 ∧ 2 ≤ zYl Y_ ∧ zYl Y_ ≤ 6
  | 0, _, h => by cases h
  | 1, _, h => by cases h
  | 2, _, h => by cases h
  | 3, _, h => by cases h
  | 4, _, h => by cases h
  | 5, _, h => by cases h
  | 6, _, h => by cases h
  | 7, _, h => by cases h
  | 8, _, h => by cases h
  | 9, _, h => by cases h
  | 10, _, h => by cases h
  | 11, _, h => by cases h
  | 12, _, h => by cases h
  | 13, _, h => by cases h
  | 14, _, h => by cases h
  | 15, _, h => by cases h
  | 16, _, h => by cases h
  | 17, _, h => by cases h
  | 18, _, h => by cases h
  | 19, _, h => by cases h
  | 20, Y_, h => by rw [← show YX14_code = Y_ from Option.some.inj h]; exact ⟨vsX26_19_20, by decide, by decide⟩
  | 21, Y_, h => by rw [← show YX15_code = Y_ from Option.some.inj h]; exact ⟨vsX26_19_21, by decide, by decide⟩
  | 22, Y_, h => by rw [← show YX16_code = Y_ from Option.some.inj h]; exact ⟨vsX26_19_22, by decide, by decide⟩
  | 23, Y_, h => by rw [← show YX17_code = Y_ from Option.some.inj h]; exact ⟨vsX26_19_23, by decide, by decide⟩
  | 24, Y_, h => by rw [← show YX18_code = Y_ from Option.some.inj h]; exact ⟨vsX26_19_24, by decide, by decide⟩
  | 25, Y_, h => by rw [← show YX19_code = Y_ from Option.some.inj h]; exact ⟨vsX26_19_25, by decide, by decide⟩
  | 26, Y_, h => by rw [← show YX20_code = Y_ from Option.some.inj h]; exact ⟨vsX26_19_26, by decide, by decide⟩
  | 27, Y_, h => by rw [← show YX21_code = Y_ from Option.some.inj h]; exact ⟨vsX26_19_27, by decide, by decide⟩
  | 28, Y_, h => by rw [← show YX22_code = Y_ from Option.some.inj h]; exact ⟨vsX26_19_28, by decide, by decide⟩
  | 29, Y_, h => by rw [← show YX23_code = Y_ from Option.some.inj h]; exact ⟨vsX26_19_29, by decide, by decide⟩
  | 30, Y_, h => by rw [← show YX24_code = Y_ from Option.some.inj h]; exact ⟨vsX26_19_30, by decide, by decide⟩
  | 31, Y_, h => by rw [← show YX26_code = Y_ from Option.some.inj h]; exact ⟨vsX26_19_31, by decide, by decide⟩
  | 32, Y_, h => by rw [← show YX27_code = Y_ from Option.some.inj h]; exact ⟨vsX26_19_32, by decide, by decide⟩
  | 33, Y_, h => by rw [← show YX28_code = Y_ from Option.some.inj h]; exact ⟨vsX26_19_33, by decide, by decide⟩
  | 34, Y_, h => by rw [← show YX29_code = Y_ from Option.some.inj h]; exact ⟨vsX26_19_34, by decide, by decide⟩
  | 35, Y_, h => by rw [← show YX30_code = Y_ from Option.some.inj h]; exact ⟨vsX26_19_35, by decide, by decide⟩
  | 36, Y_, h => by rw [← show YX31_code = Y_ from Option.some.inj h]; exact ⟨vsX26_19_36, by decide, by decide⟩
  | 37, Y_, h => by rw [← show YX32_code = Y_ from Option.some.inj h]; exact ⟨vsX26_19_37, by decide, by decide⟩
  | 38, Y_, h => by rw [← show YX33_code = Y_ from Option.some.inj h]; exact ⟨vsX26_19_38, by decide, by decide⟩
  | 39, Y_, h => by rw [← show YX34_code = Y_ from Option.some.inj h]; exact ⟨vsX26_19_39, by decide, by decide⟩
  | 40, Y_, h => by rw [← show YX35_code = Y_ from Option.some.inj h]; exact ⟨vsX26_19_40, by decide, by decide⟩
  | 41, Y_, h => by rw [← show YX36_code = Y_ from Option.some.inj h]; exact ⟨vsX26_19_41, by decide, by decide⟩
  | 42, Y_, h => by rw [← show YX37_code = Y_ from Option.some.inj h]; exact ⟨vsX26_19_42, by decide, by decide⟩
  | 43, Y_, h => by rw [← show YX38_code = Y_ from Option.some.inj h]; exact ⟨vsX26_19_43, by decide, by decide⟩
  | 44, Y_, h => by rw [← show YX39_code = Y_ from Option.some.inj h]; exact ⟨vsX26_19_44, by decide, by decide⟩
  | t + 45, _, h => by cases h
theorem vtX27_23 : ∀ {t : Nat} {Y_ : zY}, vt_isMember t = some Y_ → zsV RX27 23 t Y_ 0 ∧ 1 ≤ zYl Y_ ∧ zYl Y_ ≤ 1
  | 0, _, h => by cases h
  | 1, _, h => by cases h
  | 2, _, h => by cases h
  | 3, _, h => by cases h
  | 4, _, h => by cases h
  | 5, _, h => by cases h
  | 6, _, h => by cases h
  | 7, _, h => by cases h
  | 8, _, h => by cases h
  | 9, _, h => by cases h
  | 10, _, h => by cases h
  | 11, _, h => by cases h
  | 12, _, h => by cases h
  | 13, _, h => by cases h
  | 14, _, h => by cases h
  | 15, _, h => by cases h
  | 16, _, h => by cases h
  | 17, _, h => by cases h
  | 18, _, h => by cases h
  | 19, _, h => by cases h
  | 20, Y_, h => by rw [← show YX13_isMember = Y_ from Option.some.inj h]; exact ⟨vsX27_23_20, by decide, by decide⟩
  | 21, Y_, h => by rw [← show YX13_isMember = Y_ from Option.some.inj h]; exact ⟨vsX27_23_21, by decide, by decide⟩
  | 22, Y_, h => by rw [← show YX13_isMember = Y_ from Option.some.inj h]; exact ⟨vsX27_23_22, by decide, by decide⟩
  | 23, Y_, h => by rw [← show YX13_isMember = Y_ from Option.some.inj h]; exact ⟨vsX27_23_23, by decide, by decide⟩
  | 24, Y_, h => by rw [← show YX13_isMember = Y_ from Option.some.inj h]; exact ⟨vsX27_23_24, by decide, by decide⟩
  | 25, Y_, h => by rw [← show YX13_isMember = Y_ from Option.some.inj h]; exact ⟨vsX27_23_25, by decide, by decide⟩
  | 26, Y_, h => by rw [← show YX13_isMember = Y_ from Option.some.inj h]; exact ⟨vsX27_23_26, by decide, by decide⟩
  | 27, Y_, h => by rw [← show YX13_isMember = Y_ from Option.some.inj h]; exact ⟨vsX27_23_27, by decide, by decide⟩
  | 28, Y_, h => by rw [← show YX13_isMember = Y_ from Option.some.inj h]; exact ⟨vsX27_23_28, by decide, by decide⟩
  | 29, Y_, h => by rw [← show YX13_isMember = Y_ from Option.some.inj h]; exact ⟨vsX27_23_29, by decide, by decide⟩
  | 30, Y_, h => by rw [← show YX24_isMember = Y_ from Option.some.inj h]; exact ⟨vsX27_23_30, by decide, by decide⟩
  | 31, Y_, h => by rw [← show YX13_isMember = Y_ from Option.some.inj h]; exact ⟨vsX27_23_31, by decide, by decide⟩
  | 32, Y_, h => by rw [← show YX13_isMember = Y_ from Option.some.inj h]; exact ⟨vsX27_23_32, by decide, by decide⟩
  | 33, Y_, h => by rw [← show YX13_isMember = Y_ from Option.some.inj h]; exact ⟨vsX27_23_33, by decide, by decide⟩
  | 34, Y_, h => by rw [← show YX13_isMember = Y_ from Option.some.inj h]; exact ⟨vsX27_23_34, by decide, by decide⟩
  | 35, Y_, h => by rw [← show YX13_isMember = Y_ from Option.some.inj h]; exact ⟨vsX27_23_35, by decide, by decide⟩
  | 36, Y_, h => by rw [← show YX13_isMember = Y_ from Option.some.inj h]; exact ⟨vsX27_23_36, by decide, by decide⟩
  | 37, Y_, h => by rw [← show YX13_isMember = Y_ from Option.some.inj h]; exact ⟨vsX27_23_37, by decide, by decide⟩
  | 38, Y_, h => by rw [← show YX13_isMember = Y_ from Option.some.inj h]; exact ⟨vsX27_23_38, by decide, by decide⟩
  | 39, Y_, h => by rw [← show YX13_isMember = Y_ from Option.some.inj h]; exact ⟨vsX27_23_39, by decide, by decide⟩
  | 40, Y_, h => by rw [← show YX13_isMember = Y_ from Option.some.inj h]; exact ⟨vsX27_23_40, by decide, by decide⟩
  | 41, Y_, h => by rw [← show YX13_isMember = Y_ from Option.some.inj h]; exact ⟨vsX27_23_41, by decide, by decide⟩
  | 42, Y_, h => by rw [← show YX13_isMember = Y_ from Option.some.inj h]; exact ⟨vsX27_23_42, by decide, by decide⟩
  | 43, Y_, h => by rw [← show YX13_isMember = Y_ from Option.some.inj h]; exact ⟨vsX27_23_43, by decide, by decide⟩
  | 44, Y_, h => by rw [← show YX13_isMember = Y_ from Option.some.inj h]; exact ⟨vsX27_23_44, by decide, by decide⟩
  | t + 45, _, h => by cases h
theorem vtX27_39 : ∀ {t : Nat} {Y_ : zY}, vt_code t = some Y_ → zsV RX27 39 t Y_ 1 ∧ 2 ≤ zYl Y_ ∧ zYl Y_ ≤ 6
  | 0, _, h => by cases h
  | 1, _, h => by cases h
  | 2, _, h => by cases h
  | 3, _, h => by cases h
  | 4, _, h => by cases h
  | 5, _, h => by cases h
  | 6, _, h => by cases h
  | 7, _, h => by cases h
  | 8, _, h => by cases h
  | 9, _, h => by cases h
  | 10, _, h => by cases h
  | 11, _, h => by cases h
  | 12, _, h => by cases h
  | 13, _, h => by cases h
  | 14, _, h => by cases h
  | 15, _, h => by cases h
  | 16, _, h => by cases h
  | 17, _, h => by cases h
  | 18, _, h => by cases h
  | 19, _, h => by cases h
  | 20, Y_, h => by rw [← show YX14_code = Y_ from Option.some.inj h]; exact ⟨vsX27_39_20, by decide, by decide⟩
  | 21, Y_, h => by rw [← show YX15_code = Y_ from Option.some.inj h]; exact ⟨vsX27_39_21, by decide, by decide⟩
  | 22, Y_, h => by rw [← show YX16_code = Y_ from Option.some.inj h]; exact ⟨vsX27_39_22, by decide, by decide⟩
  | 23, Y_, h => by rw [← show YX17_code = Y_ from Option.some.inj h]; exact ⟨vsX27_39_23, by decide, by decide⟩
  | 24, Y_, h => by rw [← show YX18_code = Y_ from Option.some.inj h]; exact ⟨vsX27_39_24, by decide, by decide⟩
  | 25, Y_, h => by rw [← show YX19_code = Y_ from Option.some.inj h]; exact ⟨vsX27_39_25, by decide, by decide⟩
  | 26, Y_, h => by rw [← show YX20_code = Y_ from Option.some.inj h]; exact ⟨vsX27_39_26, by decide, by decide⟩
  | 27, Y_, h => by rw [← show YX21_code = Y_ from Option.some.inj h]; exact ⟨vsX27_39_27, by decide, by decide⟩
  | 28, Y_, h => by rw [← show YX22_code = Y_ from Option.some.inj h]; exact ⟨vsX27_39_28, by decide, by decide⟩
  | 29, Y_, h => by rw [← show YX23_code = Y_ from Option.some.inj h]; exact ⟨vsX27_39_29, by decide, by decide⟩
  | 30, Y_, h => by rw [← show YX24_code = Y_ from Option.some.inj h]; exact ⟨vsX27_39_30, by decide, by decide⟩
  | 31, Y_, h => by rw [← show YX26_code = Y_ from Option.some.inj h]; exact ⟨vsX27_39_31, by decide, by decide⟩
  | 32, Y_, h => by rw [← show YX27_code = Y_ from Option.some.inj h]; exact ⟨vsX27_39_32, by decide, by decide⟩
  | 33, Y_, h => by rw [← show YX28_code = Y_ from Option.some.inj h]; exact ⟨vsX27_39_33, by decide, by decide⟩
  | 34, Y_, h => by rw [← show YX29_code = Y_ from Option.some.inj h]; exact ⟨vsX27_39_34, by decide, by decide⟩
  | 35, Y_, h => by rw [← show YX30_code = Y_ from Option.some.inj h]; exact ⟨vsX27_39_35, by decide, by decide⟩
  | 36, Y_, h => by rw [← show YX31_code = Y_ from Option.some.inj h]; exact ⟨vsX27_39_36, by decide, by decide⟩
  | 37, Y_, h => by rw [← show YX32_code = Y_ from Option.some.inj h]; exact ⟨vsX27_39_37, by decide, by decide⟩
  | 38, Y_, h => by rw [← show YX33_code = Y_ from Option.some.inj h]; exact ⟨vsX27_39_38, by decide, by decide⟩
  | 39, Y_, h => by rw [← show YX34_code = Y_ from Option.some.inj h]; exact ⟨vsX27_39_39, by decide, by decide⟩
  | 40, Y_, h => by rw [← show YX35_code = Y_ from Option.some.inj h]; exact ⟨vsX27_39_40, by decide, by decide⟩
  | 41, Y_, h => by rw [← show YX36_code = Y_ from Option.some.inj h]; exact ⟨vsX27_39_41, by decide, by decide⟩
  | 42, Y_, h => by rw [← show YX37_code = Y_ from Option.some.inj h]; exact ⟨vsX27_39_42, by decide, by decide⟩
  | 43, Y_, h => by rw [← show YX38_code = Y_ from Option.some.inj h]; exact ⟨vsX27_39_43, by decide, by decide⟩
  | 44, Y_, h => by rw [← show YX39_code = Y_ from Option.some.inj h]; exact ⟨vsX27_39_44, by decide, by decide⟩
  | t + 45, _, h => by cases h
theorem vtX28_31 : ∀ {t : Nat} {Y_ : zY}, vt_isName t = some Y_ → zsV RX28 31 t Y_ 0 ∧ 1 ≤ zYl Y_ ∧ zYl Y_ ≤ 1
  | 0, _, h => by cases h
  | 1, _, h => by cases h
  | 2, _, h => by cases h
  | 3, _, h => by cases h
  | 4, _, h => by cases h
  | 5, _, h => by cases h
  | 6, _, h => by cases h
  | 7, _, h => by cases h
  | 8, _, h => by cases h
  | 9, _, h => by cases h
  | 10, _, h => by cases h
  | 11, _, h => by cases h
  | 12, _, h => by cases h
  | 13, _, h => by cases h
  | 14, _, h => by cases h
  | 15, _, h => by cases h
  | 16, _, h => by cases h
  | 17, _, h => by cases h
  | 18, _, h => by cases h
  | 19, _, h => by cases h
  | 20, Y_, h => by rw [← show YX13_isName = Y_ from Option.some.inj h]; exact ⟨vsX28_31_20, by decide, by decide⟩
  | 21, Y_, h => by rw [← show YX13_isName = Y_ from Option.some.inj h]; exact ⟨vsX28_31_21, by decide, by decide⟩
  | 22, Y_, h => by rw [← show YX13_isName = Y_ from Option.some.inj h]; exact ⟨vsX28_31_22, by decide, by decide⟩
  | 23, Y_, h => by rw [← show YX17_isName = Y_ from Option.some.inj h]; exact ⟨vsX28_31_23, by decide, by decide⟩
  | 24, Y_, h => by rw [← show YX13_isName = Y_ from Option.some.inj h]; exact ⟨vsX28_31_24, by decide, by decide⟩
  | 25, Y_, h => by rw [← show YX13_isName = Y_ from Option.some.inj h]; exact ⟨vsX28_31_25, by decide, by decide⟩
  | 26, Y_, h => by rw [← show YX13_isName = Y_ from Option.some.inj h]; exact ⟨vsX28_31_26, by decide, by decide⟩
  | 27, Y_, h => by rw [← show YX13_isName = Y_ from Option.some.inj h]; exact ⟨vsX28_31_27, by decide, by decide⟩
  | 28, Y_, h => by rw [← show YX13_isName = Y_ from Option.some.inj h]; exact ⟨vsX28_31_28, by decide, by decide⟩
  | 29, Y_, h => by rw [← show YX13_isName = Y_ from Option.some.inj h]; exact ⟨vsX28_31_29, by decide, by decide⟩
  | 30, Y_, h => by rw [← show YX13_isName = Y_ from Option.some.inj h]; exact ⟨vsX28_31_30, by decide, by decide⟩
  | 31, Y_, h => by rw [← show YX13_isName = Y_ from Option.some.inj h]; exact ⟨vsX28_31_31, by decide, by decide⟩
  | 32, Y_, h => by rw [← show YX13_isName = Y_ from Option.some.inj h]; exact ⟨vsX28_31_32, by decide, by decide⟩
  | 33, Y_, h => by rw [← show YX13_isName = Y_ from Option.some.inj h]; exact ⟨vsX28_31_33, by decide, by decide⟩
  | 34, Y_, h => by rw [← show YX13_isName = Y_ from Option.some.inj h]; exact ⟨vsX28_31_34, by decide, by decide⟩
  | 35, Y_, h => by rw [← show YX13_isName = Y_ from Option.some.inj h]; exact ⟨vsX28_31_35, by decide, by decide⟩
  | 36, Y_, h => by rw [← show YX13_isName = Y_ from Option.some.inj h]; exact ⟨vsX28_31_36, by decide, by decide⟩
  | 37, Y_, h => by rw [← show YX13_isName = Y_ from Option.some.inj h]; exact ⟨vsX28_31_37, by decide, by decide⟩
  | 38, Y_, h => by rw [← show YX13_isName = Y_ from Option.some.inj h]; exact ⟨vsX28_31_38, by decide, by decide⟩
  | 39, Y_, h => by rw [← show YX13_isName = Y_ from Option.some.inj h]; exact ⟨vsX28_31_39, by decide, by decide⟩
  | 40, Y_, h => by rw [← show YX13_isName = Y_ from Option.some.inj h]; exact ⟨vsX28_31_40, by decide, by decide⟩
  | 41, Y_, h => by rw [← show YX13_isName = Y_ from Option.some.inj h]; exact ⟨vsX28_31_41, by decide, by decide⟩
  | 42, Y_, h => by rw [← show YX13_isName = Y_ from Option.some.inj h]; exact ⟨vsX28_31_42, by decide, by decide⟩
  | 43, Y_, h => by rw [← show YX13_isName = Y_ from Option.some.inj h]; exact ⟨vsX28_31_43, by decide, by decide⟩
  | 44, Y_, h => by rw [← show YX13_isName = Y_ from Option.some.inj h]; exact ⟨vsX28_31_44, by decide, by decide⟩
  | t + 45, _, h => by cases h
theorem vtX28_44 : ∀ {t : Nat} {Y_ : zY}, vt_code t = some Y_ → zsV RX28 44 t Y_ 1 ∧ 2 ≤ zYl Y_ ∧ zYl Y_ ≤ 6
  | 0, _, h => by cases h
  | 1, _, h => by cases h
  | 2, _, h => by cases h
  | 3, _, h => by cases h
  | 4, _, h => by cases h
  | 5, _, h => by cases h
  | 6, _, h => by cases h
  | 7, _, h => by cases h
  | 8, _, h => by cases h
  | 9, _, h => by cases h
  | 10, _, h => by cases h
  | 11, _, h => by cases h
  | 12, _, h => by cases h
  | 13, _, h => by cases h
  | 14, _, h => by cases h
  | 15, _, h => by cases h
  | 16, _, h => by cases h
  | 17, _, h => by cases h
  | 18, _, h => by cases h
  | 19, _, h => by cases h
  | 20, Y_, h => by rw [← show YX14_code = Y_ from Option.some.inj h]; exact ⟨vsX28_44_20, by decide, by decide⟩
  | 21, Y_, h => by rw [← show YX15_code = Y_ from Option.some.inj h]; exact ⟨vsX28_44_21, by decide, by decide⟩
  | 22, Y_, h => by rw [← show YX16_code = Y_ from Option.some.inj h]; exact ⟨vsX28_44_22, by decide, by decide⟩
  | 23, Y_, h => by rw [← show YX17_code = Y_ from Option.some.inj h]; exact ⟨vsX28_44_23, by decide, by decide⟩
  | 24, Y_, h => by rw [← show YX18_code = Y_ from Option.some.inj h]; exact ⟨vsX28_44_24, by decide, by decide⟩
  | 25, Y_, h => by rw [← show YX19_code = Y_ from Option.some.inj h]; exact ⟨vsX28_44_25, by decide, by decide⟩
  | 26, Y_, h => by rw [← show YX20_code = Y_ from Option.some.inj h]; exact ⟨vsX28_44_26, by decide, by decide⟩
  | 27, Y_, h => by rw [← show YX21_code = Y_ from Option.some.inj h]; exact ⟨vsX28_44_27, by decide, by decide⟩
  | 28, Y_, h => by rw [← show YX22_code = Y_ from Option.some.inj h]; exact ⟨vsX28_44_28, by decide, by decide⟩
  | 29, Y_, h => by rw [← show YX23_code = Y_ from Option.some.inj h]; exact ⟨vsX28_44_29, by decide, by decide⟩
  | 30, Y_, h => by rw [← show YX24_code = Y_ from Option.some.inj h]; exact ⟨vsX28_44_30, by decide, by decide⟩
  | 31, Y_, h => by rw [← show YX26_code = Y_ from Option.some.inj h]; exact ⟨vsX28_44_31, by decide, by decide⟩
  | 32, Y_, h => by rw [← show YX27_code = Y_ from Option.some.inj h]; exact ⟨vsX28_44_32, by decide, by decide⟩
  | 33, Y_, h => by rw [← show YX28_code = Y_ from Option.some.inj h]; exact ⟨vsX28_44_33, by decide, by decide⟩
  | 34, Y_, h => by rw [← show YX29_code = Y_ from Option.some.inj h]; exact ⟨vsX28_44_34, by decide, by decide⟩
  | 35, Y_, h => by rw [← show YX30_code = Y_ from Option.some.inj h]; exact ⟨vsX28_44_35, by decide, by decide⟩
  | 36, Y_, h => by rw [← show YX31_code = Y_ from Option.some.inj h]; exact ⟨vsX28_44_36, by decide, by decide⟩
  | 37, Y_, h => by rw [← show YX32_code = Y_ from Option.some.inj h]; exact ⟨vsX28_44_37, by decide, by decide⟩
  | 38, Y_, h => by rw [← show YX33_code = Y_ from Option.some.inj h]; exact ⟨vsX28_44_38, by decide, by decide⟩
  | 39, Y_, h => by rw [← show YX34_code = Y_ from Option.some.inj h]; exact ⟨vsX28_44_39, by decide, by decide⟩
  | 40, Y_, h => by rw [← show YX35_code = Y_ from Option.some.inj h]; exact ⟨vsX28_44_40, by decide, by decide⟩
  | 41, Y_, h => by rw [← show YX36_code = Y_ from Option.some.inj h]; exact ⟨vsX28_44_41, by decide, by decide⟩
  | 42, Y_, h => by rw [← show YX37_code = Y_ from Option.some.inj h]; exact ⟨vsX28_44_42, by decide, by decide⟩
  | 43, Y_, h => by rw [← show YX38_code = Y_ from Option.some.inj h]; exact ⟨vsX28_44_43, by decide, by decide⟩
  | 44, Y_, h => by rw [← show YX39_code = Y_ from Option.some.inj h]; exact ⟨vsX28_44_44, by decide, by decide⟩
  | t + 45, _, h => by cases h
theorem vtX29_28 : ∀ {t : Nat} {Y_ : zY}, vt_code t = some Y_ → zsV RX29 28 t Y_ 1 ∧ 2 ≤ zYl Y_ ∧ zYl Y_ ≤ 6
  | 0, _, h => by cases h
  | 1, _, h => by cases h
  | 2, _, h => by cases h
  | 3, _, h => by cases h
  | 4, _, h => by cases h
  | 5, _, h => by cases h
  | 6, _, h => by cases h
  | 7, _, h => by cases h
  | 8, _, h => by cases h
  | 9, _, h => by cases h
  | 10, _, h => by cases h
  | 11, _, h => by cases h
  | 12, _, h => by cases h
  | 13, _, h => by cases h
  | 14, _, h => by cases h
  | 15, _, h => by cases h
  | 16, _, h => by cases h
  | 17, _, h => by cases h
  | 18, _, h => by cases h
  | 19, _, h => by cases h
  | 20, Y_, h => by rw [← show YX14_code = Y_ from Option.some.inj h]; exact ⟨vsX29_28_20, by decide, by decide⟩
  | 21, Y_, h => by rw [← show YX15_code = Y_ from Option.some.inj h]; exact ⟨vsX29_28_21, by decide, by decide⟩
  | 22, Y_, h => by rw [← show YX16_code = Y_ from Option.some.inj h]; exact ⟨vsX29_28_22, by decide, by decide⟩
  | 23, Y_, h => by rw [← show YX17_code = Y_ from Option.some.inj h]; exact ⟨vsX29_28_23, by decide, by decide⟩
  | 24, Y_, h => by rw [← show YX18_code = Y_ from Option.some.inj h]; exact ⟨vsX29_28_24, by decide, by decide⟩
  | 25, Y_, h => by rw [← show YX19_code = Y_ from Option.some.inj h]; exact ⟨vsX29_28_25, by decide, by decide⟩
  | 26, Y_, h => by rw [← show YX20_code = Y_ from Option.some.inj h]; exact ⟨vsX29_28_26, by decide, by decide⟩
  | 27, Y_, h => by rw [← show YX21_code = Y_ from Option.some.inj h]; exact ⟨vsX29_28_27, by decide, by decide⟩
  | 28, Y_, h => by rw [← show YX22_code = Y_ from Option.some.inj h]; exact ⟨vsX29_28_28, by decide, by decide⟩
  | 29, Y_, h => by rw [← show YX23_code = Y_ from Option.some.inj h]; exact ⟨vsX29_28_29, by decide, by decide⟩
  | 30, Y_, h => by rw [← show YX24_code = Y_ from Option.some.inj h]; exact ⟨vsX29_28_30, by decide, by decide⟩
  | 31, Y_, h => by rw [← show YX26_code = Y_ from Option.some.inj h]; exact ⟨vsX29_28_31, by decide, by decide⟩
  | 32, Y_, h => by rw [← show YX27_code = Y_ from Option.some.inj h]; exact ⟨vsX29_28_32, by decide, by decide⟩
  | 33, Y_, h => by rw [← show YX28_code = Y_ from Option.some.inj h]; exact ⟨vsX29_28_33, by decide, by decide⟩
  | 34, Y_, h => by rw [← show YX29_code = Y_ from Option.some.inj h]; exact ⟨vsX29_28_34, by decide, by decide⟩
  | 35, Y_, h => by rw [← show YX30_code = Y_ from Option.some.inj h]; exact ⟨vsX29_28_35, by decide, by decide⟩
  | 36, Y_, h => by rw [← show YX31_code = Y_ from Option.some.inj h]; exact ⟨vsX29_28_36, by decide, by decide⟩
  | 37, Y_, h => by rw [← show YX32_code = Y_ from Option.some.inj h]; exact ⟨vsX29_28_37, by decide, by decide⟩
  | 38, Y_, h => by rw [← show YX33_code = Y_ from Option.some.inj h]; exact ⟨vsX29_28_38, by decide, by decide⟩
  | 39, Y_, h => by rw [← show YX34_code = Y_ from Option.some.inj h]; exact ⟨vsX29_28_39, by decide, by decide⟩
  | 40, Y_, h => by rw [← show YX35_code = Y_ from Option.some.inj h]; exact ⟨vsX29_28_40, by decide, by decide⟩
  | 41, Y_, h => by rw [← show YX36_code = Y_ from Option.some.inj h]; exact ⟨vsX29_28_41, by decide, by decide⟩
  | 42, Y_, h => by rw [← show YX37_code = Y_ from Option.some.inj h]; exact ⟨vsX29_28_42, by decide, by decide⟩
  | 43, Y_, h => by rw [← show YX38_code = Y_ from Option.some.inj h]; exact ⟨vsX29_28_43, by decide, by decide⟩
  | 44, Y_, h => by rw [← show YX39_code = Y_ from Option.some.inj h]; exact ⟨vsX29_28_44, by decide, by decide⟩
  | t + 45, _, h => by cases h
theorem vtX3_130 : ∀ {t : Nat} {Y_ : zY}, vt_code t = some Y_ → zsV RX3 130 t Y_ 1 ∧ 2 ≤ zYl Y_ ∧ zYl Y_ ≤ 6
  | 0, _, h => by cases h
  | 1, _, h => by cases h
  | 2, _, h => by cases h
  | 3, _, h => by cases h
  | 4, _, h => by cases h
  | 5, _, h => by cases h
  | 6, _, h => by cases h
  | 7, _, h => by cases h
  | 8, _, h => by cases h
  | 9, _, h => by cases h
  | 10, _, h => by cases h
  | 11, _, h => by cases h
  | 12, _, h => by cases h
  | 13, _, h => by cases h
  | 14, _, h => by cases h
  | 15, _, h => by cases h
  | 16, _, h => by cases h
  | 17, _, h => by cases h
  | 18, _, h => by cases h
  | 19, _, h => by cases h
  | 20, Y_, h => by rw [← show YX14_code = Y_ from Option.some.inj h]; exact ⟨vsX3_130_20, by decide, by decide⟩
  | 21, Y_, h => by rw [← show YX15_code = Y_ from Option.some.inj h]; exact ⟨vsX3_130_21, by decide, by decide⟩
  | 22, Y_, h => by rw [← show YX16_code = Y_ from Option.some.inj h]; exact ⟨vsX3_130_22, by decide, by decide⟩
  | 23, Y_, h => by rw [← show YX17_code = Y_ from Option.some.inj h]; exact ⟨vsX3_130_23, by decide, by decide⟩
  | 24, Y_, h => by rw [← show YX18_code = Y_ from Option.some.inj h]; exact ⟨vsX3_130_24, by decide, by decide⟩
  | 25, Y_, h => by rw [← show YX19_code = Y_ from Option.some.inj h]; exact ⟨vsX3_130_25, by decide, by decide⟩
  | 26, Y_, h => by rw [← show YX20_code = Y_ from Option.some.inj h]; exact ⟨vsX3_130_26, by decide, by decide⟩
  | 27, Y_, h => by rw [← show YX21_code = Y_ from Option.some.inj h]; exact ⟨vsX3_130_27, by decide, by decide⟩
  | 28, Y_, h => by rw [← show YX22_code = Y_ from Option.some.inj h]; exact ⟨vsX3_130_28, by decide, by decide⟩
  | 29, Y_, h => by rw [← show YX23_code = Y_ from Option.some.inj h]; exact ⟨vsX3_130_29, by decide, by decide⟩
  | 30, Y_, h => by rw [← show YX24_code = Y_ from Option.some.inj h]; exact ⟨vsX3_130_30, by decide, by decide⟩
  | 31, Y_, h => by rw [← show YX26_code = Y_ from Option.some.inj h]; exact ⟨vsX3_130_31, by decide, by decide⟩
  | 32, Y_, h => by rw [← show YX27_code = Y_ from Option.some.inj h]; exact ⟨vsX3_130_32, by decide, by decide⟩
  | 33, Y_, h => by rw [← show YX28_code = Y_ from Option.some.inj h]; exact ⟨vsX3_130_33, by decide, by decide⟩
  | 34, Y_, h => by rw [← show YX29_code = Y_ from Option.some.inj h]; exact ⟨vsX3_130_34, by decide, by decide⟩
  | 35, Y_, h => by rw [← show YX30_code = Y_ from Option.some.inj h]; exact ⟨vsX3_130_35, by decide, by decide⟩
  | 36, Y_, h => by rw [← show YX31_code = Y_ from Option.some.inj h]; exact ⟨vsX3_130_36, by decide, by decide⟩
  | 37, Y_, h => by rw [← show YX32_code = Y_ from Option.some.inj h]; exact ⟨vsX3_130_37, by decide, by decide⟩
  | 38, Y_, h => by rw [← show YX33_code = Y_ from Option.some.inj h]; exact ⟨vsX3_130_38, by decide, by decide⟩
  | 39, Y_, h => by rw [← show YX34_code = Y_ from Option.some.inj h]; exact ⟨vsX3_130_39, by decide, by decide⟩
  | 40, Y_, h => by rw [← show YX35_code = Y_ from Option.some.inj h]; exact ⟨vsX3_130_40, by decide, by decide⟩
  | 41, Y_, h => by rw [← show YX36_code = Y_ from Option.some.inj h]; exact ⟨vsX3_130_41, by decide, by decide⟩
  | 42, Y_, h => by rw [← show YX37_code = Y_ from Option.some.inj h]; exact ⟨vsX3_130_42, by decide, by decide⟩
  | 43, Y_, h => by rw [← show YX38_code = Y_ from Option.some.inj h]; exact ⟨vsX3_130_43, by decide, by decide⟩
  | 44, Y_, h => by rw [← show YX39_code = Y_ from Option.some.inj h]; exact ⟨vsX3_130_44, by decide, by decide⟩
  | t + 45, _, h => by cases h
theorem vtX30_40 : ∀ {t : Nat} {Y_ : zY}, vt_code t = some Y_ → zsV RX30 40 t Y_ 1 ∧ 2 ≤ zYl Y_ ∧ zYl Y_ ≤ 6
  | 0, _, h => by cases h
  | 1, _, h => by cases h
  | 2, _, h => by cases h
  | 3, _, h => by cases h
  | 4, _, h => by cases h
  | 5, _, h => by cases h
  | 6, _, h => by cases h
  | 7, _, h => by cases h
  | 8, _, h => by cases h
  | 9, _, h => by cases h
  | 10, _, h => by cases h
  | 11, _, h => by cases h
  | 12, _, h => by cases h
  | 13, _, h => by cases h
  | 14, _, h => by cases h
  | 15, _, h => by cases h
  | 16, _, h => by cases h
  | 17, _, h => by cases h
  | 18, _, h => by cases h
  | 19, _, h => by cases h
  | 20, Y_, h => by rw [← show YX14_code = Y_ from Option.some.inj h]; exact ⟨vsX30_40_20, by decide, by decide⟩
  | 21, Y_, h => by rw [← show YX15_code = Y_ from Option.some.inj h]; exact ⟨vsX30_40_21, by decide, by decide⟩
  | 22, Y_, h => by rw [← show YX16_code = Y_ from Option.some.inj h]; exact ⟨vsX30_40_22, by decide, by decide⟩
  | 23, Y_, h => by rw [← show YX17_code = Y_ from Option.some.inj h]; exact ⟨vsX30_40_23, by decide, by decide⟩
  | 24, Y_, h => by rw [← show YX18_code = Y_ from Option.some.inj h]; exact ⟨vsX30_40_24, by decide, by decide⟩
  | 25, Y_, h => by rw [← show YX19_code = Y_ from Option.some.inj h]; exact ⟨vsX30_40_25, by decide, by decide⟩
  | 26, Y_, h => by rw [← show YX20_code = Y_ from Option.some.inj h]; exact ⟨vsX30_40_26, by decide, by decide⟩
  | 27, Y_, h => by rw [← show YX21_code = Y_ from Option.some.inj h]; exact ⟨vsX30_40_27, by decide, by decide⟩
  | 28, Y_, h => by rw [← show YX22_code = Y_ from Option.some.inj h]; exact ⟨vsX30_40_28, by decide, by decide⟩
  | 29, Y_, h => by rw [← show YX23_code = Y_ from Option.some.inj h]; exact ⟨vsX30_40_29, by decide, by decide⟩
  | 30, Y_, h => by rw [← show YX24_code = Y_ from Option.some.inj h]; exact ⟨vsX30_40_30, by decide, by decide⟩
  | 31, Y_, h => by rw [← show YX26_code = Y_ from Option.some.inj h]; exact ⟨vsX30_40_31, by decide, by decide⟩
  | 32, Y_, h => by rw [← show YX27_code = Y_ from Option.some.inj h]; exact ⟨vsX30_40_32, by decide, by decide⟩
  | 33, Y_, h => by rw [← show YX28_code = Y_ from Option.some.inj h]; exact ⟨vsX30_40_33, by decide, by decide⟩
  | 34, Y_, h => by rw [← show YX29_code = Y_ from Option.some.inj h]; exact ⟨vsX30_40_34, by decide, by decide⟩
  | 35, Y_, h => by rw [← show YX30_code = Y_ from Option.some.inj h]; exact ⟨vsX30_40_35, by decide, by decide⟩
  | 36, Y_, h => by rw [← show YX31_code = Y_ from Option.some.inj h]; exact ⟨vsX30_40_36, by decide, by decide⟩
  | 37, Y_, h => by rw [← show YX32_code = Y_ from Option.some.inj h]; exact ⟨vsX30_40_37, by decide, by decide⟩
  | 38, Y_, h => by rw [← show YX33_code = Y_ from Option.some.inj h]; exact ⟨vsX30_40_38, by decide, by decide⟩
  | 39, Y_, h => by rw [← show YX34_code = Y_ from Option.some.inj h]; exact ⟨vsX30_40_39, by decide, by decide⟩
  | 40, Y_, h => by rw [← show YX35_code = Y_ from Option.some.inj h]; exact ⟨vsX30_40_40, by decide, by decide⟩
  | 41, Y_, h => by rw [← show YX36_code = Y_ from Option.some.inj h]; exact ⟨vsX30_40_41, by decide, by decide⟩
  | 42, Y_, h => by rw [← show YX37_code = Y_ from Option.some.inj h]; exact ⟨vsX30_40_42, by decide, by decide⟩
  | 43, Y_, h => by rw [← show YX38_code = Y_ from Option.some.inj h]; exact ⟨vsX30_40_43, by decide, by decide⟩
  | 44, Y_, h => by rw [← show YX39_code = Y_ from Option.some.inj h]; exact ⟨vsX30_40_44, by decide, by decide⟩
  | t + 45, _, h => by cases h
theorem vtX31_21 : ∀ {t : Nat} {Y_ : zY}, vt_code t = some Y_ → zsV RX31 21 t Y_ 1 ∧ 2 ≤ zYl Y_ ∧ zYl Y_ ≤ 6
  | 0, _, h => by cases h
  | 1, _, h => by cases h
  | 2, _, h => by cases h
  | 3, _, h => by cases h
  | 4, _, h => by cases h
  | 5, _, h => by cases h
  | 6, _, h => by cases h
  | 7, _, h => by cases h
  | 8, _, h => by cases h
  | 9, _, h => by cases h
  | 10, _, h => by cases h
  | 11, _, h => by cases h
  | 12, _, h => by cases h
  | 13, _, h => by cases h
  | 14, _, h => by cases h
  | 15, _, h => by cases h
  | 16, _, h => by cases h
  | 17, _, h => by cases h
  | 18, _, h => by cases h
  | 19, _, h => by cases h
  | 20, Y_, h => by rw [← show YX14_code = Y_ from Option.some.inj h]; exact ⟨vsX31_21_20, by decide, by decide⟩
  | 21, Y_, h => by rw [← show YX15_code = Y_ from Option.some.inj h]; exact ⟨vsX31_21_21, by decide, by decide⟩
  | 22, Y_, h => by rw [← show YX16_code = Y_ from Option.some.inj h]; exact ⟨vsX31_21_22, by decide, by decide⟩
  | 23, Y_, h => by rw [← show YX17_code = Y_ from Option.some.inj h]; exact ⟨vsX31_21_23, by decide, by decide⟩
  | 24, Y_, h => by rw [← show YX18_code = Y_ from Option.some.inj h]; exact ⟨vsX31_21_24, by decide, by decide⟩
  | 25, Y_, h => by rw [← show YX19_code = Y_ from Option.some.inj h]; exact ⟨vsX31_21_25, by decide, by decide⟩
  | 26, Y_, h => by rw [← show YX20_code = Y_ from Option.some.inj h]; exact ⟨vsX31_21_26, by decide, by decide⟩
  | 27, Y_, h => by rw [← show YX21_code = Y_ from Option.some.inj h]; exact ⟨vsX31_21_27, by decide, by decide⟩
  | 28, Y_, h => by rw [← show YX22_code = Y_ from Option.some.inj h]; exact ⟨vsX31_21_28, by decide, by decide⟩
  | 29, Y_, h => by rw [← show YX23_code = Y_ from Option.some.inj h]; exact ⟨vsX31_21_29, by decide, by decide⟩
  | 30, Y_, h => by rw [← show YX24_code = Y_ from Option.some.inj h]; exact ⟨vsX31_21_30, by decide, by decide⟩
  | 31, Y_, h => by rw [← show YX26_code = Y_ from Option.some.inj h]; exact ⟨vsX31_21_31, by decide, by decide⟩
  | 32, Y_, h => by rw [← show YX27_code = Y_ from Option.some.inj h]; exact ⟨vsX31_21_32, by decide, by decide⟩
  | 33, Y_, h => by rw [← show YX28_code = Y_ from Option.some.inj h]; exact ⟨vsX31_21_33, by decide, by decide⟩
  | 34, Y_, h => by rw [← show YX29_code = Y_ from Option.some.inj h]; exact ⟨vsX31_21_34, by decide, by decide⟩
  | 35, Y_, h => by rw [← show YX30_code = Y_ from Option.some.inj h]; exact ⟨vsX31_21_35, by decide, by decide⟩
  | 36, Y_, h => by rw [← show YX31_code = Y_ from Option.some.inj h]; exact ⟨vsX31_21_36, by decide, by decide⟩
  | 37, Y_, h => by rw [← show YX32_code = Y_ from Option.some.inj h]; exact ⟨vsX31_21_37, by decide, by decide⟩
  | 38, Y_, h => by rw [← show YX33_code = Y_ from Option.some.inj h]; exact ⟨vsX31_21_38, by decide, by decide⟩
  | 39, Y_, h => by rw [← show YX34_code = Y_ from Option.some.inj h]; exact ⟨vsX31_21_39, by decide, by decide⟩
  | 40, Y_, h => by rw [← show YX35_code = Y_ from Option.some.inj h]; exact ⟨vsX31_21_40, by decide, by decide⟩
  | 41, Y_, h => by rw [← show YX36_code = Y_ from Option.some.inj h]; exact ⟨vsX31_21_41, by decide, by decide⟩
  | 42, Y_, h => by rw [← show YX37_code = Y_ from Option.some.inj h]; exact ⟨vsX31_21_42, by decide, by decide⟩
  | 43, Y_, h => by rw [← show YX38_code = Y_ from Option.some.inj h]; exact ⟨vsX31_21_43, by decide, by decide⟩
  | 44, Y_, h => by rw [← show YX39_code = Y_ from Option.some.inj h]; exact ⟨vsX31_21_44, by decide, by decide⟩
  | t + 45, _, h => by cases h
theorem vtX32_21 : ∀ {t : Nat} {Y_ : zY}, vt_code t = some Y_ → zsV RX32 21 t Y_ 1 ∧ 2 ≤ zYl Y_ ∧ zYl Y_ ≤ 6
  | 0, _, h => by cases h
  | 1, _, h => by cases h
  | 2, _, h => by cases h
  | 3, _, h => by cases h
  | 4, _, h => by cases h
  | 5, _, h => by cases h
  | 6, _, h => by cases h
  | 7, _, h => by cases h
  | 8, _, h => by cases h
  | 9, _, h => by cases h
  | 10, _, h => by cases h
  | 11, _, h => by cases h
  | 12, _, h => by cases h
  | 13, _, h => by cases h
  | 14, _, h => by cases h
  | 15, _, h => by cases h
  | 16, _, h => by cases h
  | 17, _, h => by cases h
  | 18, _, h => by cases h
  | 19, _, h => by cases h
  | 20, Y_, h => by rw [← show YX14_code = Y_ from Option.some.inj h]; exact ⟨vsX32_21_20, by decide, by decide⟩
  | 21, Y_, h => by rw [← show YX15_code = Y_ from Option.some.inj h]; exact ⟨vsX32_21_21, by decide, by decide⟩
  | 22, Y_, h => by rw [← show YX16_code = Y_ from Option.some.inj h]; exact ⟨vsX32_21_22, by decide, by decide⟩
  | 23, Y_, h => by rw [← show YX17_code = Y_ from Option.some.inj h]; exact ⟨vsX32_21_23, by decide, by decide⟩
  | 24, Y_, h => by rw [← show YX18_code = Y_ from Option.some.inj h]; exact ⟨vsX32_21_24, by decide, by decide⟩
  | 25, Y_, h => by rw [← show YX19_code = Y_ from Option.some.inj h]; exact ⟨vsX32_21_25, by decide, by decide⟩
  | 26, Y_, h => by rw [← show YX20_code = Y_ from Option.some.inj h]; exact ⟨vsX32_21_26, by decide, by decide⟩
  | 27, Y_, h => by rw [← show YX21_code = Y_ from Option.some.inj h]; exact ⟨vsX32_21_27, by decide, by decide⟩
  | 28, Y_, h => by rw [← show YX22_code = Y_ from Option.some.inj h]; exact ⟨vsX32_21_28, by decide, by decide⟩
  | 29, Y_, h => by rw [← show YX23_code = Y_ from Option.some.inj h]; exact ⟨vsX32_21_29, by decide, by decide⟩
  | 30, Y_, h => by rw [← show YX24_code = Y_ from Option.some.inj h]; exact ⟨vsX32_21_30, by decide, by decide⟩
  | 31, Y_, h => by rw [← show YX26_code = Y_ from Option.some.inj h]; exact ⟨vsX32_21_31, by decide, by decide⟩
  | 32, Y_, h => by rw [← show YX27_code = Y_ from Option.some.inj h]; exact ⟨vsX32_21_32, by decide, by decide⟩
  | 33, Y_, h => by rw [← show YX28_code = Y_ from Option.some.inj h]; exact ⟨vsX32_21_33, by decide, by decide⟩
  | 34, Y_, h => by rw [← show YX29_code = Y_ from Option.some.inj h]; exact ⟨vsX32_21_34, by decide, by decide⟩
  | 35, Y_, h => by rw [← show YX30_code = Y_ from Option.some.inj h]; exact ⟨vsX32_21_35, by decide, by decide⟩
  | 36, Y_, h => by rw [← show YX31_code = Y_ from Option.some.inj h]; exact ⟨vsX32_21_36, by decide, by decide⟩
  | 37, Y_, h => by rw [← show YX32_code = Y_ from Option.some.inj h]; exact ⟨vsX32_21_37, by decide, by decide⟩
  | 38, Y_, h => by rw [← show YX33_code = Y_ from Option.some.inj h]; exact ⟨vsX32_21_38, by decide, by decide⟩
  | 39, Y_, h => by rw [← show YX34_code = Y_ from Option.some.inj h]; exact ⟨vsX32_21_39, by decide, by decide⟩
  | 40, Y_, h => by rw [← show YX35_code = Y_ from Option.some.inj h]; exact ⟨vsX32_21_40, by decide, by decide⟩
  | 41, Y_, h => by rw [← show YX36_code = Y_ from Option.some.inj h]; exact ⟨vsX32_21_41, by decide, by decide⟩
  | 42, Y_, h => by rw [← show YX37_code = Y_ from Option.some.inj h]; exact ⟨vsX32_21_42, by decide, by decide⟩
  | 43, Y_, h => by rw [← show YX38_code = Y_ from Option.some.inj h]; exact ⟨vsX32_21_43, by decide, by decide⟩
  | 44, Y_, h => by rw [← show YX39_code = Y_ from Option.some.inj h]; exact ⟨vsX32_21_44, by decide, by decide⟩
  | t + 45, _, h => by cases h
theorem vtX33_28 : ∀ {t : Nat} {Y_ : zY}, vt_code t = some Y_ → zsV RX33 28 t Y_ 1 ∧ 2 ≤ zYl Y_ ∧ zYl Y_ ≤ 6
  | 0, _, h => by cases h
  | 1, _, h => by cases h
  | 2, _, h => by cases h
  | 3, _, h => by cases h
  | 4, _, h => by cases h
  | 5, _, h => by cases h
  | 6, _, h => by cases h
  | 7, _, h => by cases h
  | 8, _, h => by cases h
  | 9, _, h => by cases h
  | 10, _, h => by cases h
  | 11, _, h => by cases h
  | 12, _, h => by cases h
  | 13, _, h => by cases h
  | 14, _, h => by cases h
  | 15, _, h => by cases h
  | 16, _, h => by cases h
  | 17, _, h => by cases h
  | 18, _, h => by cases h
  | 19, _, h => by cases h
  | 20, Y_, h => by rw [← show YX14_code = Y_ from Option.some.inj h]; exact ⟨vsX33_28_20, by decide, by decide⟩
  | 21, Y_, h => by rw [← show YX15_code = Y_ from Option.some.inj h]; exact ⟨vsX33_28_21, by decide, by decide⟩
  | 22, Y_, h => by rw [← show YX16_code = Y_ from Option.some.inj h]; exact ⟨vsX33_28_22, by decide, by decide⟩
  | 23, Y_, h => by rw [← show YX17_code = Y_ from Option.some.inj h]; exact ⟨vsX33_28_23, by decide, by decide⟩
  | 24, Y_, h => by rw [← show YX18_code = Y_ from Option.some.inj h]; exact ⟨vsX33_28_24, by decide, by decide⟩
  | 25, Y_, h => by rw [← show YX19_code = Y_ from Option.some.inj h]; exact ⟨vsX33_28_25, by decide, by decide⟩
  | 26, Y_, h => by rw [← show YX20_code = Y_ from Option.some.inj h]; exact ⟨vsX33_28_26, by decide, by decide⟩
  | 27, Y_, h => by rw [← show YX21_code = Y_ from Option.some.inj h]; exact ⟨vsX33_28_27, by decide, by decide⟩
  | 28, Y_, h => by rw [← show YX22_code = Y_ from Option.some.inj h]; exact ⟨vsX33_28_28, by decide, by decide⟩
  | 29, Y_, h => by rw [← show YX23_code = Y_ from Option.some.inj h]; exact ⟨vsX33_28_29, by decide, by decide⟩
  | 30, Y_, h => by rw [← show YX24_code = Y_ from Option.some.inj h]; exact ⟨vsX33_28_30, by decide, by decide⟩
  | 31, Y_, h => by rw [← show YX26_code = Y_ from Option.some.inj h]; exact ⟨vsX33_28_31, by decide, by decide⟩
  | 32, Y_, h => by rw [← show YX27_code = Y_ from Option.some.inj h]; exact ⟨vsX33_28_32, by decide, by decide⟩
  | 33, Y_, h => by rw [← show YX28_code = Y_ from Option.some.inj h]; exact ⟨vsX33_28_33, by decide, by decide⟩
  | 34, Y_, h => by rw [← show YX29_code = Y_ from Option.some.inj h]; exact ⟨vsX33_28_34, by decide, by decide⟩
  | 35, Y_, h => by rw [← show YX30_code = Y_ from Option.some.inj h]; exact ⟨vsX33_28_35, by decide, by decide⟩
  | 36, Y_, h => by rw [← show YX31_code = Y_ from Option.some.inj h]; exact ⟨vsX33_28_36, by decide, by decide⟩
  | 37, Y_, h => by rw [← show YX32_code = Y_ from Option.some.inj h]; exact ⟨vsX33_28_37, by decide, by decide⟩
  | 38, Y_, h => by rw [← show YX33_code = Y_ from Option.some.inj h]; exact ⟨vsX33_28_38, by decide, by decide⟩
  | 39, Y_, h => by rw [← show YX34_code = Y_ from Option.some.inj h]; exact ⟨vsX33_28_39, by decide, by decide⟩
  | 40, Y_, h => by rw [← show YX35_code = Y_ from Option.some.inj h]; exact ⟨vsX33_28_40, by decide, by decide⟩
  | 41, Y_, h => by rw [← show YX36_code = Y_ from Option.some.inj h]; exact ⟨vsX33_28_41, by decide, by decide⟩
  | 42, Y_, h => by rw [← show YX37_code = Y_ from Option.some.inj h]; exact ⟨vsX33_28_42, by decide, by decide⟩
  | 43, Y_, h => by rw [← show YX38_code = Y_ from Option.some.inj h]; exact ⟨vsX33_28_43, by decide, by decide⟩
  | 44, Y_, h => by rw [← show YX39_code = Y_ from Option.some.inj h]; exact ⟨vsX33_28_44, by decide, by decide⟩
  | t + 45, _, h => by cases h
theorem vtX34_30 : ∀ {t : Nat} {Y_ : zY}, vt_code t = some Y_ → zsV RX34 30 t Y_ 1 ∧ 2 ≤ zYl Y_ ∧ zYl Y_ ≤ 6
  | 0, _, h => by cases h
  | 1, _, h => by cases h
  | 2, _, h => by cases h
  | 3, _, h => by cases h
  | 4, _, h => by cases h
  | 5, _, h => by cases h
  | 6, _, h => by cases h
  | 7, _, h => by cases h
  | 8, _, h => by cases h
  | 9, _, h => by cases h
  | 10, _, h => by cases h
  | 11, _, h => by cases h
  | 12, _, h => by cases h
  | 13, _, h => by cases h
  | 14, _, h => by cases h
  | 15, _, h => by cases h
  | 16, _, h => by cases h
  | 17, _, h => by cases h
  | 18, _, h => by cases h
  | 19, _, h => by cases h
  | 20, Y_, h => by rw [← show YX14_code = Y_ from Option.some.inj h]; exact ⟨vsX34_30_20, by decide, by decide⟩
  | 21, Y_, h => by rw [← show YX15_code = Y_ from Option.some.inj h]; exact ⟨vsX34_30_21, by decide, by decide⟩
  | 22, Y_, h => by rw [← show YX16_code = Y_ from Option.some.inj h]; exact ⟨vsX34_30_22, by decide, by decide⟩
  | 23, Y_, h => by rw [← show YX17_code = Y_ from Option.some.inj h]; exact ⟨vsX34_30_23, by decide, by decide⟩
  | 24, Y_, h => by rw [← show YX18_code = Y_ from Option.some.inj h]; exact ⟨vsX34_30_24, by decide, by decide⟩
  | 25, Y_, h => by rw [← show YX19_code = Y_ from Option.some.inj h]; exact ⟨vsX34_30_25, by decide, by decide⟩
  | 26, Y_, h => by rw [← show YX20_code = Y_ from Option.some.inj h]; exact ⟨vsX34_30_26, by decide, by decide⟩
  | 27, Y_, h => by rw [← show YX21_code = Y_ from Option.some.inj h]; exact ⟨vsX34_30_27, by decide, by decide⟩
  | 28, Y_, h => by rw [← show YX22_code = Y_ from Option.some.inj h]; exact ⟨vsX34_30_28, by decide, by decide⟩
  | 29, Y_, h => by rw [← show YX23_code = Y_ from Option.some.inj h]; exact ⟨vsX34_30_29, by decide, by decide⟩
  | 30, Y_, h => by rw [← show YX24_code = Y_ from Option.some.inj h]; exact ⟨vsX34_30_30, by decide, by decide⟩
  | 31, Y_, h => by rw [← show YX26_code = Y_ from Option.some.inj h]; exact ⟨vsX34_30_31, by decide, by decide⟩
  | 32, Y_, h => by rw [← show YX27_code = Y_ from Option.some.inj h]; exact ⟨vsX34_30_32, by decide, by decide⟩
  | 33, Y_, h => by rw [← show YX28_code = Y_ from Option.some.inj h]; exact ⟨vsX34_30_33, by decide, by decide⟩
  | 34, Y_, h => by rw [← show YX29_code = Y_ from Option.some.inj h]; exact ⟨vsX34_30_34, by decide, by decide⟩
  | 35, Y_, h => by rw [← show YX30_code = Y_ from Option.some.inj h]; exact ⟨vsX34_30_35, by decide, by decide⟩
  | 36, Y_, h => by rw [← show YX31_code = Y_ from Option.some.inj h]; exact ⟨vsX34_30_36, by decide, by decide⟩
  | 37, Y_, h => by rw [← show YX32_code = Y_ from Option.some.inj h]; exact ⟨vsX34_30_37, by decide, by decide⟩
  | 38, Y_, h => by rw [← show YX33_code = Y_ from Option.some.inj h]; exact ⟨vsX34_30_38, by decide, by decide⟩
  | 39, Y_, h => by rw [← show YX34_code = Y_ from Option.some.inj h]; exact ⟨vsX34_30_39, by decide, by decide⟩
  | 40, Y_, h => by rw [← show YX35_code = Y_ from Option.some.inj h]; exact ⟨vsX34_30_40, by decide, by decide⟩
  | 41, Y_, h => by rw [← show YX36_code = Y_ from Option.some.inj h]; exact ⟨vsX34_30_41, by decide, by decide⟩
  | 42, Y_, h => by rw [← show YX37_code = Y_ from Option.some.inj h]; exact ⟨vsX34_30_42, by decide, by decide⟩
  | 43, Y_, h => by rw [← show YX38_code = Y_ from Option.some.inj h]; exact ⟨vsX34_30_43, by decide, by decide⟩
  | 44, Y_, h => by rw [← show YX39_code = Y_ from Option.some.inj h]; exact ⟨vsX34_30_44, by decide, by decide⟩
  | t + 45, _, h => by cases h
theorem vtX36_21 : ∀ {t : Nat} {Y_ : zY}, vt_code t = some Y_ → zsV RX36 21 t Y_ 1 ∧ 2 ≤ zYl Y_ ∧ zYl Y_ ≤ 6
  | 0, _, h => by cases h
  | 1, _, h => by cases h
  | 2, _, h => by cases h
  | 3, _, h => by cases h
  | 4, _, h => by cases h
  | 5, _, h => by cases h
  | 6, _, h => by cases h
  | 7, _, h => by cases h
  | 8, _, h => by cases h
  | 9, _, h => by cases h
  | 10, _, h => by cases h
  | 11, _, h => by cases h
  | 12, _, h => by cases h
  | 13, _, h => by cases h
  | 14, _, h => by cases h
  | 15, _, h => by cases h
  | 16, _, h => by cases h
  | 17, _, h => by cases h
  | 18, _, h => by cases h
  | 19, _, h => by cases h
  | 20, Y_, h => by rw [← show YX14_code = Y_ from Option.some.inj h]; exact ⟨vsX36_21_20, by decide, by decide⟩
  | 21, Y_, h => by rw [← show YX15_code = Y_ from Option.some.inj h]; exact ⟨vsX36_21_21, by decide, by decide⟩
  | 22, Y_, h => by rw [← show YX16_code = Y_ from Option.some.inj h]; exact ⟨vsX36_21_22, by decide, by decide⟩
  | 23, Y_, h => by rw [← show YX17_code = Y_ from Option.some.inj h]; exact ⟨vsX36_21_23, by decide, by decide⟩
  | 24, Y_, h => by rw [← show YX18_code = Y_ from Option.some.inj h]; exact ⟨vsX36_21_24, by decide, by decide⟩
  | 25, Y_, h => by rw [← show YX19_code = Y_ from Option.some.inj h]; exact ⟨vsX36_21_25, by decide, by decide⟩
  | 26, Y_, h => by rw [← show YX20_code = Y_ from Option.some.inj h]; exact ⟨vsX36_21_26, by decide, by decide⟩
  | 27, Y_, h => by rw [← show YX21_code = Y_ from Option.some.inj h]; exact ⟨vsX36_21_27, by decide, by decide⟩
  | 28, Y_, h => by rw [← show YX22_code = Y_ from Option.some.inj h]; exact ⟨vsX36_21_28, by decide, by decide⟩
  | 29, Y_, h => by rw [← show YX23_code = Y_ from Option.some.inj h]; exact ⟨vsX36_21_29, by decide, by decide⟩
  | 30, Y_, h => by rw [← show YX24_code = Y_ from Option.some.inj h]; exact ⟨vsX36_21_30, by decide, by decide⟩
  | 31, Y_, h => by rw [← show YX26_code = Y_ from Option.some.inj h]; exact ⟨vsX36_21_31, by decide, by decide⟩
  | 32, Y_, h => by rw [← show YX27_code = Y_ from Option.some.inj h]; exact ⟨vsX36_21_32, by decide, by decide⟩
  | 33, Y_, h => by rw [← show YX28_code = Y_ from Option.some.inj h]; exact ⟨vsX36_21_33, by decide, by decide⟩
  | 34, Y_, h => by rw [← show YX29_code = Y_ from Option.some.inj h]; exact ⟨vsX36_21_34, by decide, by decide⟩
  | 35, Y_, h => by rw [← show YX30_code = Y_ from Option.some.inj h]; exact ⟨vsX36_21_35, by decide, by decide⟩
  | 36, Y_, h => by rw [← show YX31_code = Y_ from Option.some.inj h]; exact ⟨vsX36_21_36, by decide, by decide⟩
  | 37, Y_, h => by rw [← show YX32_code = Y_ from Option.some.inj h]; exact ⟨vsX36_21_37, by decide, by decide⟩
  | 38, Y_, h => by rw [← show YX33_code = Y_ from Option.some.inj h]; exact ⟨vsX36_21_38, by decide, by decide⟩
  | 39, Y_, h => by rw [← show YX34_code = Y_ from Option.some.inj h]; exact ⟨vsX36_21_39, by decide, by decide⟩
  | 40, Y_, h => by rw [← show YX35_code = Y_ from Option.some.inj h]; exact ⟨vsX36_21_40, by decide, by decide⟩
  | 41, Y_, h => by rw [← show YX36_code = Y_ from Option.some.inj h]; exact ⟨vsX36_21_41, by decide, by decide⟩
  | 42, Y_, h => by rw [← show YX37_code = Y_ from Option.some.inj h]; exact ⟨vsX36_21_42, by decide, by decide⟩
  | 43, Y_, h => by rw [← show YX38_code = Y_ from Option.some.inj h]; exact ⟨vsX36_21_43, by decide, by decide⟩
  | 44, Y_, h => by rw [← show YX39_code = Y_ from Option.some.inj h]; exact ⟨vsX36_21_44, by decide, by decide⟩
  | t + 45, _, h => by cases h
theorem vtX37_15 : ∀ {t : Nat} {Y_ : zY}, vt_code t = some Y_ → zsV RX37 15 t Y_ 1 ∧ 2 ≤ zYl Y_ ∧ zYl Y_ ≤ 6
  | 0, _, h => by cases h
  | 1, _, h => by cases h
  | 2, _, h => by cases h
  | 3, _, h => by cases h
  | 4, _, h => by cases h
  | 5, _, h => by cases h
  | 6, _, h => by cases h
  | 7, _, h => by cases h
  | 8, _, h => by cases h
  | 9, _, h => by cases h
  | 10, _, h => by cases h
  | 11, _, h => by cases h
  | 12, _, h => by cases h
  | 13, _, h => by cases h
  | 14, _, h => by cases h
  | 15, _, h => by cases h
  | 16, _, h => by cases h
  | 17, _, h => by cases h
  | 18, _, h => by cases h
  | 19, _, h => by cases h
  | 20, Y_, h => by rw [← show YX14_code = Y_ from Option.some.inj h]; exact ⟨vsX37_15_20, by decide, by decide⟩
  | 21, Y_, h => by rw [← show YX15_code = Y_ from Option.some.inj h]; exact ⟨vsX37_15_21, by decide, by decide⟩
  | 22, Y_, h => by rw [← show YX16_code = Y_ from Option.some.inj h]; exact ⟨vsX37_15_22, by decide, by decide⟩
  | 23, Y_, h => by rw [← show YX17_code = Y_ from Option.some.inj h]; exact ⟨vsX37_15_23, by decide, by decide⟩
  | 24, Y_, h => by rw [← show YX18_code = Y_ from Option.some.inj h]; exact ⟨vsX37_15_24, by decide, by decide⟩
  | 25, Y_, h => by rw [← show YX19_code = Y_ from Option.some.inj h]; exact ⟨vsX37_15_25, by decide, by decide⟩
  | 26, Y_, h => by rw [← show YX20_code = Y_ from Option.some.inj h]; exact ⟨vsX37_15_26, by decide, by decide⟩
  | 27, Y_, h => by rw [← show YX21_code = Y_ from Option.some.inj h]; exact ⟨vsX37_15_27, by decide, by decide⟩
  | 28, Y_, h => by rw [← show YX22_code = Y_ from Option.some.inj h]; exact ⟨vsX37_15_28, by decide, by decide⟩
  | 29, Y_, h => by rw [← show YX23_code = Y_ from Option.some.inj h]; exact ⟨vsX37_15_29, by decide, by decide⟩
  | 30, Y_, h => by rw [← show YX24_code = Y_ from Option.some.inj h]; exact ⟨vsX37_15_30, by decide, by decide⟩
  | 31, Y_, h => by rw [← show YX26_code = Y_ from Option.some.inj h]; exact ⟨vsX37_15_31, by decide, by decide⟩
  | 32, Y_, h => by rw [← show YX27_code = Y_ from Option.some.inj h]; exact ⟨vsX37_15_32, by decide, by decide⟩
  | 33, Y_, h => by rw [← show YX28_code = Y_ from Option.some.inj h]; exact ⟨vsX37_15_33, by decide, by decide⟩
  | 34, Y_, h => by rw [← show YX29_code = Y_ from Option.some.inj h]; exact ⟨vsX37_15_34, by decide, by decide⟩
  | 35, Y_, h => by rw [← show YX30_code = Y_ from Option.some.inj h]; exact ⟨vsX37_15_35, by decide, by decide⟩
  | 36, Y_, h => by rw [← show YX31_code = Y_ from Option.some.inj h]; exact ⟨vsX37_15_36, by decide, by decide⟩
  | 37, Y_, h => by rw [← show YX32_code = Y_ from Option.some.inj h]; exact ⟨vsX37_15_37, by decide, by decide⟩
  | 38, Y_, h => by rw [← show YX33_code = Y_ from Option.some.inj h]; exact ⟨vsX37_15_38, by decide, by decide⟩
  | 39, Y_, h => by rw [← show YX34_code = Y_ from Option.some.inj h]; exact ⟨vsX37_15_39, by decide, by decide⟩
  | 40, Y_, h => by rw [← show YX35_code = Y_ from Option.some.inj h]; exact ⟨vsX37_15_40, by decide, by decide⟩
  | 41, Y_, h => by rw [← show YX36_code = Y_ from Option.some.inj h]; exact ⟨vsX37_15_41, by decide, by decide⟩
  | 42, Y_, h => by rw [← show YX37_code = Y_ from Option.some.inj h]; exact ⟨vsX37_15_42, by decide, by decide⟩
  | 43, Y_, h => by rw [← show YX38_code = Y_ from Option.some.inj h]; exact ⟨vsX37_15_43, by decide, by decide⟩
  | 44, Y_, h => by rw [← show YX39_code = Y_ from Option.some.inj h]; exact ⟨vsX37_15_44, by decide, by decide⟩
  | t + 45, _, h => by cases h
theorem vtX38_43 : ∀ {t : Nat} {Y_ : zY}, vt_code t = some Y_ → zsV RX38 43 t Y_ 1 ∧ 2 ≤ zYl Y_ ∧ zYl Y_ ≤ 6
  | 0, _, h => by cases h
  | 1, _, h => by cases h
  | 2, _, h => by cases h
  | 3, _, h => by cases h
  | 4, _, h => by cases h
  | 5, _, h => by cases h
  | 6, _, h => by cases h
  | 7, _, h => by cases h
  | 8, _, h => by cases h
  | 9, _, h => by cases h
  | 10, _, h => by cases h
  | 11, _, h => by cases h
  | 12, _, h => by cases h
  | 13, _, h => by cases h
  | 14, _, h => by cases h
  | 15, _, h => by cases h
  | 16, _, h => by cases h
  | 17, _, h => by cases h
  | 18, _, h => by cases h
  | 19, _, h => by cases h
  | 20, Y_, h => by rw [← show YX14_code = Y_ from Option.some.inj h]; exact ⟨vsX38_43_20, by decide, by decide⟩
  | 21, Y_, h => by rw [← show YX15_code = Y_ from Option.some.inj h]; exact ⟨vsX38_43_21, by decide, by decide⟩
  | 22, Y_, h => by rw [← show YX16_code = Y_ from Option.some.inj h]; exact ⟨vsX38_43_22, by decide, by decide⟩
  | 23, Y_, h => by rw [← show YX17_code = Y_ from Option.some.inj h]; exact ⟨vsX38_43_23, by decide, by decide⟩
  | 24, Y_, h => by rw [← show YX18_code = Y_ from Option.some.inj h]; exact ⟨vsX38_43_24, by decide, by decide⟩
  | 25, Y_, h => by rw [← show YX19_code = Y_ from Option.some.inj h]; exact ⟨vsX38_43_25, by decide, by decide⟩
  | 26, Y_, h => by rw [← show YX20_code = Y_ from Option.some.inj h]; exact ⟨vsX38_43_26, by decide, by decide⟩
  | 27, Y_, h => by rw [← show YX21_code = Y_ from Option.some.inj h]; exact ⟨vsX38_43_27, by decide, by decide⟩
  | 28, Y_, h => by rw [← show YX22_code = Y_ from Option.some.inj h]; exact ⟨vsX38_43_28, by decide, by decide⟩
  | 29, Y_, h => by rw [← show YX23_code = Y_ from Option.some.inj h]; exact ⟨vsX38_43_29, by decide, by decide⟩
  | 30, Y_, h => by rw [← show YX24_code = Y_ from Option.some.inj h]; exact ⟨vsX38_43_30, by decide, by decide⟩
  | 31, Y_, h => by rw [← show YX26_code = Y_ from Option.some.inj h]; exact ⟨vsX38_43_31, by decide, by decide⟩
  | 32, Y_, h => by rw [← show YX27_code = Y_ from Option.some.inj h]; exact ⟨vsX38_43_32, by decide, by decide⟩
  | 33, Y_, h => by rw [← show YX28_code = Y_ from Option.some.inj h]; exact ⟨vsX38_43_33, by decide, by decide⟩
  | 34, Y_, h => by rw [← show YX29_code = Y_ from Option.some.inj h]; exact ⟨vsX38_43_34, by decide, by decide⟩
  | 35, Y_, h => by rw [← show YX30_code = Y_ from Option.some.inj h]; exact ⟨vsX38_43_35, by decide, by decide⟩
  | 36, Y_, h => by rw [← show YX31_code = Y_ from Option.some.inj h]; exact ⟨vsX38_43_36, by decide, by decide⟩
  | 37, Y_, h => by rw [← show YX32_code = Y_ from Option.some.inj h]; exact ⟨vsX38_43_37, by decide, by decide⟩
  | 38, Y_, h => by rw [← show YX33_code = Y_ from Option.some.inj h]; exact ⟨vsX38_43_38, by decide, by decide⟩
  | 39, Y_, h => by rw [← show YX34_code = Y_ from Option.some.inj h]; exact ⟨vsX38_43_39, by decide, by decide⟩
  | 40, Y_, h => by rw [← show YX35_code = Y_ from Option.some.inj h]; exact ⟨vsX38_43_40, by decide, by decide⟩
  | 41, Y_, h => by rw [← show YX36_code = Y_ from Option.some.inj h]; exact ⟨vsX38_43_41, by decide, by decide⟩
  | 42, Y_, h => by rw [← show YX37_code = Y_ from Option.some.inj h]; exact ⟨vsX38_43_42, by decide, by decide⟩
  | 43, Y_, h => by rw [← show YX38_code = Y_ from Option.some.inj h]; exact ⟨vsX38_43_43, by decide, by decide⟩
  | 44, Y_, h => by rw [← show YX39_code = Y_ from Option.some.inj h]; exact ⟨vsX38_43_44, by decide, by decide⟩
  | t + 45, _, h => by cases h
theorem vtX39_33 : ∀ {t : Nat} {Y_ : zY}, vt_code t = some Y_ → zsV RX39 33 t Y_ 1 ∧ 2 ≤ zYl Y_ ∧ zYl Y_ ≤ 6
  | 0, _, h => by cases h
  | 1, _, h => by cases h
  | 2, _, h => by cases h
  | 3, _, h => by cases h
  | 4, _, h => by cases h
  | 5, _, h => by cases h
  | 6, _, h => by cases h
  | 7, _, h => by cases h
  | 8, _, h => by cases h
  | 9, _, h => by cases h
  | 10, _, h => by cases h
  | 11, _, h => by cases h
  | 12, _, h => by cases h
  | 13, _, h => by cases h
  | 14, _, h => by cases h
  | 15, _, h => by cases h
  | 16, _, h => by cases h
  | 17, _, h => by cases h
  | 18, _, h => by cases h
  | 19, _, h => by cases h
  | 20, Y_, h => by rw [← show YX14_code = Y_ from Option.some.inj h]; exact ⟨vsX39_33_20, by decide, by decide⟩
  | 21, Y_, h => by rw [← show YX15_code = Y_ from Option.some.inj h]; exact ⟨vsX39_33_21, by decide, by decide⟩
  | 22, Y_, h => by rw [← show YX16_code = Y_ from Option.some.inj h]; exact ⟨vsX39_33_22, by decide, by decide⟩
  | 23, Y_, h => by rw [← show YX17_code = Y_ from Option.some.inj h]; exact ⟨vsX39_33_23, by decide, by decide⟩
  | 24, Y_, h => by rw [← show YX18_code = Y_ from Option.some.inj h]; exact ⟨vsX39_33_24, by decide, by decide⟩
  | 25, Y_, h => by rw [← show YX19_code = Y_ from Option.some.inj h]; exact ⟨vsX39_33_25, by decide, by decide⟩
  | 26, Y_, h => by rw [← show YX20_code = Y_ from Option.some.inj h]; exact ⟨vsX39_33_26, by decide, by decide⟩
  | 27, Y_, h => by rw [← show YX21_code = Y_ from Option.some.inj h]; exact ⟨vsX39_33_27, by decide, by decide⟩
  | 28, Y_, h => by rw [← show YX22_code = Y_ from Option.some.inj h]; exact ⟨vsX39_33_28, by decide, by decide⟩
  | 29, Y_, h => by rw [← show YX23_code = Y_ from Option.some.inj h]; exact ⟨vsX39_33_29, by decide, by decide⟩
  | 30, Y_, h => by rw [← show YX24_code = Y_ from Option.some.inj h]; exact ⟨vsX39_33_30, by decide, by decide⟩
  | 31, Y_, h => by rw [← show YX26_code = Y_ from Option.some.inj h]; exact ⟨vsX39_33_31, by decide, by decide⟩
  | 32, Y_, h => by rw [← show YX27_code = Y_ from Option.some.inj h]; exact ⟨vsX39_33_32, by decide, by decide⟩
  | 33, Y_, h => by rw [← show YX28_code = Y_ from Option.some.inj h]; exact ⟨vsX39_33_33, by decide, by decide⟩
  | 34, Y_, h => by rw [← show YX29_code = Y_ from Option.some.inj h]; exact ⟨vsX39_33_34, by decide, by decide⟩
  | 35, Y_, h => by rw [← show YX30_code = Y_ from Option.some.inj h]; exact ⟨vsX39_33_35, by decide, by decide⟩
  | 36, Y_, h => by rw [← show YX31_code = Y_ from Option.some.inj h]; exact ⟨vsX39_33_36, by decide, by decide⟩
  | 37, Y_, h => by rw [← show YX32_code = Y_ from Option.some.inj h]; exact ⟨vsX39_33_37, by decide, by decide⟩
  | 38, Y_, h => by rw [← show YX33_code = Y_ from Option.some.inj h]; exact ⟨vsX39_33_38, by decide, by decide⟩
  | 39, Y_, h => by rw [← show YX34_code = Y_ from Option.some.inj h]; exact ⟨vsX39_33_39, by decide, by decide⟩
  | 40, Y_, h => by rw [← show YX35_code = Y_ from Option.some.inj h]; exact ⟨vsX39_33_40, by decide, by decide⟩
  | 41, Y_, h => by rw [← show YX36_code = Y_ from Option.some.inj h]; exact ⟨vsX39_33_41, by decide, by decide⟩
  | 42, Y_, h => by rw [← show YX37_code = Y_ from Option.some.inj h]; exact ⟨vsX39_33_42, by decide, by decide⟩
  | 43, Y_, h => by rw [← show YX38_code = Y_ from Option.some.inj h]; exact ⟨vsX39_33_43, by decide, by decide⟩
  | 44, Y_, h => by rw [← show YX39_code = Y_ from Option.some.inj h]; exact ⟨vsX39_33_44, by decide, by decide⟩
  | t + 45, _, h => by cases h
theorem vtX9_234 : ∀ {t : Nat} {Y_ : zY}, vt_isName t = some Y_ → zsV RX9 234 t Y_ 0 ∧ 1 ≤ zYl Y_ ∧ zYl Y_ ≤ 1
  | 0, _, h => by cases h
  | 1, _, h => by cases h
  | 2, _, h => by cases h
  | 3, _, h => by cases h
  | 4, _, h => by cases h
  | 5, _, h => by cases h
  | 6, _, h => by cases h
  | 7, _, h => by cases h
  | 8, _, h => by cases h
  | 9, _, h => by cases h
  | 10, _, h => by cases h
  | 11, _, h => by cases h
  | 12, _, h => by cases h
  | 13, _, h => by cases h
  | 14, _, h => by cases h
  | 15, _, h => by cases h
  | 16, _, h => by cases h
  | 17, _, h => by cases h
  | 18, _, h => by cases h
  | 19, _, h => by cases h
  | 20, Y_, h => by rw [← show YX13_isName = Y_ from Option.some.inj h]; exact ⟨vsX9_234_20, by decide, by decide⟩
  | 21, Y_, h => by rw [← show YX13_isName = Y_ from Option.some.inj h]; exact ⟨vsX9_234_21, by decide, by decide⟩
  | 22, Y_, h => by rw [← show YX13_isName = Y_ from Option.some.inj h]; exact ⟨vsX9_234_22, by decide, by decide⟩
  | 23, Y_, h => by rw [← show YX17_isName = Y_ from Option.some.inj h]; exact ⟨vsX9_234_23, by decide, by decide⟩
  | 24, Y_, h => by rw [← show YX13_isName = Y_ from Option.some.inj h]; exact ⟨vsX9_234_24, by decide, by decide⟩
  | 25, Y_, h => by rw [← show YX13_isName = Y_ from Option.some.inj h]; exact ⟨vsX9_234_25, by decide, by decide⟩
  | 26, Y_, h => by rw [← show YX13_isName = Y_ from Option.some.inj h]; exact ⟨vsX9_234_26, by decide, by decide⟩
  | 27, Y_, h => by rw [← show YX13_isName = Y_ from Option.some.inj h]; exact ⟨vsX9_234_27, by decide, by decide⟩
  | 28, Y_, h => by rw [← show YX13_isName = Y_ from Option.some.inj h]; exact ⟨vsX9_234_28, by decide, by decide⟩
  | 29, Y_, h => by rw [← show YX13_isName = Y_ from Option.some.inj h]; exact ⟨vsX9_234_29, by decide, by decide⟩
  | 30, Y_, h => by rw [← show YX13_isName = Y_ from Option.some.inj h]; exact ⟨vsX9_234_30, by decide, by decide⟩
  | 31, Y_, h => by rw [← show YX13_isName = Y_ from Option.some.inj h]; exact ⟨vsX9_234_31, by decide, by decide⟩
  | 32, Y_, h => by rw [← show YX13_isName = Y_ from Option.some.inj h]; exact ⟨vsX9_234_32, by decide, by decide⟩
  | 33, Y_, h => by rw [← show YX13_isName = Y_ from Option.some.inj h]; exact ⟨vsX9_234_33, by decide, by decide⟩
  | 34, Y_, h => by rw [← show YX13_isName = Y_ from Option.some.inj h]; exact ⟨vsX9_234_34, by decide, by decide⟩
  | 35, Y_, h => by rw [← show YX13_isName = Y_ from Option.some.inj h]; exact ⟨vsX9_234_35, by decide, by decide⟩
  | 36, Y_, h => by rw [← show YX13_isName = Y_ from Option.some.inj h]; exact ⟨vsX9_234_36, by decide, by decide⟩
  | 37, Y_, h => by rw [← show YX13_isName = Y_ from Option.some.inj h]; exact ⟨vsX9_234_37, by decide, by decide⟩
  | 38, Y_, h => by rw [← show YX13_isName = Y_ from Option.some.inj h]; exact ⟨vsX9_234_38, by decide, by decide⟩
  | 39, Y_, h => by rw [← show YX13_isName = Y_ from Option.some.inj h]; exact ⟨vsX9_234_39, by decide, by decide⟩
  | 40, Y_, h => by rw [← show YX13_isName = Y_ from Option.some.inj h]; exact ⟨vsX9_234_40, by decide, by decide⟩
  | 41, Y_, h => by rw [← show YX13_isName = Y_ from Option.some.inj h]; exact ⟨vsX9_234_41, by decide, by decide⟩
  | 42, Y_, h => by rw [← show YX13_isName = Y_ from Option.some.inj h]; exact ⟨vsX9_234_42, by decide, by decide⟩
  | 43, Y_, h => by rw [← show YX13_isName = Y_ from Option.some.inj h]; exact ⟨vsX9_234_43, by decide, by decide⟩
  | 44, Y_, h => by rw [← show YX13_isName = Y_ from Option.some.inj h]; exact ⟨vsX9_234_44, by decide, by decide⟩
  | t + 45, _, h => by cases h
theorem vtX9_274 : ∀ {t : Nat} {Y_ : zY}, vt_isMember t = some Y_ → zsV RX9 274 t Y_ 0 ∧ 1 ≤ zYl Y_ ∧ zYl Y_ ≤ 1
  | 0, _, h => by cases h
  | 1, _, h => by cases h
  | 2, _, h => by cases h
  | 3, _, h => by cases h
  | 4, _, h => by cases h
  | 5, _, h => by cases h
  | 6, _, h => by cases h
  | 7, _, h => by cases h
  | 8, _, h => by cases h
  | 9, _, h => by cases h
  | 10, _, h => by cases h
  | 11, _, h => by cases h
  | 12, _, h => by cases h
  | 13, _, h => by cases h
  | 14, _, h => by cases h
  | 15, _, h => by cases h
  | 16, _, h => by cases h
  | 17, _, h => by cases h
  | 18, _, h => by cases h
  | 19, _, h => by cases h
  | 20, Y_, h => by rw [← show YX13_isMember = Y_ from Option.some.inj h]; exact ⟨vsX9_274_20, by decide, by decide⟩
  | 21, Y_, h => by rw [← show YX13_isMember = Y_ from Option.some.inj h]; exact ⟨vsX9_274_21, by decide, by decide⟩
  | 22, Y_, h => by rw [← show YX13_isMember = Y_ from Option.some.inj h]; exact ⟨vsX9_274_22, by decide, by decide⟩
  | 23, Y_, h => by rw [← show YX13_isMember = Y_ from Option.some.inj h]; exact ⟨vsX9_274_23, by decide, by decide⟩
  | 24, Y_, h => by rw [← show YX13_isMember = Y_ from Option.some.inj h]; exact ⟨vsX9_274_24, by decide, by decide⟩
  | 25, Y_, h => by rw [← show YX13_isMember = Y_ from Option.some.inj h]; exact ⟨vsX9_274_25, by decide, by decide⟩
  | 26, Y_, h => by rw [← show YX13_isMember = Y_ from Option.some.inj h]; exact ⟨vsX9_274_26, by decide, by decide⟩
  | 27, Y_, h => by rw [← show YX13_isMember = Y_ from Option.some.inj h]; exact ⟨vsX9_274_27, by decide, by decide⟩
  | 28, Y_, h => by rw [← show YX13_isMember = Y_ from Option.some.inj h]; exact ⟨vsX9_274_28, by decide, by decide⟩
  | 29, Y_, h => by rw [← show YX13_isMember = Y_ from Option.some.inj h]; exact ⟨vsX9_274_29, by decide, by decide⟩
  | 30, Y_, h => by rw [← show YX24_isMember = Y_ from Option.some.inj h]; exact ⟨vsX9_274_30, by decide, by decide⟩
  | 31, Y_, h => by rw [← show YX13_isMember = Y_ from Option.some.inj h]; exact ⟨vsX9_274_31, by decide, by decide⟩
  | 32, Y_, h => by rw [← show YX13_isMember = Y_ from Option.some.inj h]; exact ⟨vsX9_274_32, by decide, by decide⟩
  | 33, Y_, h => by rw [← show YX13_isMember = Y_ from Option.some.inj h]; exact ⟨vsX9_274_33, by decide, by decide⟩
  | 34, Y_, h => by rw [← show YX13_isMember = Y_ from Option.some.inj h]; exact ⟨vsX9_274_34, by decide, by decide⟩
  | 35, Y_, h => by rw [← show YX13_isMember = Y_ from Option.some.inj h]; exact ⟨vsX9_274_35, by decide, by decide⟩
  | 36, Y_, h => by rw [← show YX13_isMember = Y_ from Option.some.inj h]; exact ⟨vsX9_274_36, by decide, by decide⟩
  | 37, Y_, h => by rw [← show YX13_isMember = Y_ from Option.some.inj h]; exact ⟨vsX9_274_37, by decide, by decide⟩
  | 38, Y_, h => by rw [← show YX13_isMember = Y_ from Option.some.inj h]; exact ⟨vsX9_274_38, by decide, by decide⟩
  | 39, Y_, h => by rw [← show YX13_isMember = Y_ from Option.some.inj h]; exact ⟨vsX9_274_39, by decide, by decide⟩
  | 40, Y_, h => by rw [← show YX13_isMember = Y_ from Option.some.inj h]; exact ⟨vsX9_274_40, by decide, by decide⟩
  | 41, Y_, h => by rw [← show YX13_isMember = Y_ from Option.some.inj h]; exact ⟨vsX9_274_41, by decide, by decide⟩
  | 42, Y_, h => by rw [← show YX13_isMember = Y_ from Option.some.inj h]; exact ⟨vsX9_274_42, by decide, by decide⟩
  | 43, Y_, h => by rw [← show YX13_isMember = Y_ from Option.some.inj h]; exact ⟨vsX9_274_43, by decide, by decide⟩
  | 44, Y_, h => by rw [← show YX13_isMember = Y_ from Option.some.inj h]; exact ⟨vsX9_274_44, by decide, by decide⟩
  | t + 45, _, h => by cases h
