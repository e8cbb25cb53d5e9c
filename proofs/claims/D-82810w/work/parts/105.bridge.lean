/-! THE BRIDGE: from the law's entry to the judgement Z -/
theorem zinst : ∀ (t : Nat) (q : vw_C), zcl[t]? = some q → Cond.instantiable q.1 q.2.2 ∈ lw_all
  | 0, q, h => by rw [← show (RX1, TX1, 97) = q from Option.some.inj h]; exact q510
  | 1, q, h => by rw [← show (RX8, TX8, 151) = q from Option.some.inj h]; exact q3494
  | 2, q, h => by rw [← show (RX2, TX2, 3) = q from Option.some.inj h]; exact q518
  | 3, q, h => by rw [← show (RX3, TX3, 13) = q from Option.some.inj h]; exact q564
  | 4, q, h => by rw [← show (RX6, TX6, 3) = q from Option.some.inj h]; exact q706
  | 5, q, h => by rw [← show (RX7, TX7, 6) = q from Option.some.inj h]; exact q730
  | 6, q, h => by rw [← show (RX42, TX42, 21) = q from Option.some.inj h]; exact q2886
  | 7, q, h => by rw [← show (RX43, TX43, 19) = q from Option.some.inj h]; exact q2975
  | 8, q, h => by rw [← show (RX9, TX9, 9) = q from Option.some.inj h]; exact q1153
  | 9, q, h => by rw [← show (RX10, TX10, 8) = q from Option.some.inj h]; exact q1161
  | 10, q, h => by rw [← show (RX11, TX11, 10) = q from Option.some.inj h]; exact q1227
  | 11, q, h => by rw [← show (RJ2, TJ2, 3) = q from Option.some.inj h]; exact q538
  | 12, q, h => by rw [← show (RX12, TX12, 7) = q from Option.some.inj h]; exact q1393
  | 13, q, h => by rw [← show (RX4, TX4, 6) = q from Option.some.inj h]; exact q623
  | 14, q, h => by rw [← show (RX5, TX5, 6) = q from Option.some.inj h]; exact q691
  | 15, q, h => by rw [← show (RJ14, TJ14, 6) = q from Option.some.inj h]; exact q2617
  | 16, q, h => by rw [← show (RJ15, TJ15, 6) = q from Option.some.inj h]; exact q2670
  | 17, q, h => by rw [← show (RX40, TX40, 9) = q from Option.some.inj h]; exact q2228
  | 18, q, h => by rw [← show (RX41, TX41, 2) = q from Option.some.inj h]; exact q2234
  | 19, q, h => by rw [← show (RX25, TX25, 3) = q from Option.some.inj h]; exact q1738
  | 20, q, h => by rw [← show (RX14, TX14, 1) = q from Option.some.inj h]; exact q1494
  | 21, q, h => by rw [← show (RX15, TX15, 1) = q from Option.some.inj h]; exact q1528
  | 22, q, h => by rw [← show (RX16, TX16, 3) = q from Option.some.inj h]; exact q1530
  | 23, q, h => by rw [← show (RX17, TX17, 1) = q from Option.some.inj h]; exact q1532
  | 24, q, h => by rw [← show (RX18, TX18, 2) = q from Option.some.inj h]; exact q1590
  | 25, q, h => by rw [← show (RX19, TX19, 0) = q from Option.some.inj h]; exact q1607
  | 26, q, h => by rw [← show (RX20, TX20, 1) = q from Option.some.inj h]; exact q1636
  | 27, q, h => by rw [← show (RX21, TX21, 1) = q from Option.some.inj h]; exact q1646
  | 28, q, h => by rw [← show (RX22, TX22, 1) = q from Option.some.inj h]; exact q1652
  | 29, q, h => by rw [← show (RX23, TX23, 3) = q from Option.some.inj h]; exact q1678
  | 30, q, h => by rw [← show (RX24, TX24, 2) = q from Option.some.inj h]; exact q1718
  | 31, q, h => by rw [← show (RX26, TX26, 2) = q from Option.some.inj h]; exact q1755
  | 32, q, h => by rw [← show (RX27, TX27, 3) = q from Option.some.inj h]; exact q1852
  | 33, q, h => by rw [← show (RX28, TX28, 2) = q from Option.some.inj h]; exact q1868
  | 34, q, h => by rw [← show (RX29, TX29, 2) = q from Option.some.inj h]; exact q1885
  | 35, q, h => by rw [← show (RX30, TX30, 2) = q from Option.some.inj h]; exact q1902
  | 36, q, h => by rw [← show (RX31, TX31, 3) = q from Option.some.inj h]; exact q1924
  | 37, q, h => by rw [← show (RX32, TX32, 3) = q from Option.some.inj h]; exact q1974
  | 38, q, h => by rw [← show (RX33, TX33, 5) = q from Option.some.inj h]; exact q1995
  | 39, q, h => by rw [← show (RX34, TX34, 3) = q from Option.some.inj h]; exact q2038
  | 40, q, h => by rw [← show (RX35, TX35, 1) = q from Option.some.inj h]; exact q2054
  | 41, q, h => by rw [← show (RX36, TX36, 1) = q from Option.some.inj h]; exact q2064
  | 42, q, h => by rw [← show (RX37, TX37, 1) = q from Option.some.inj h]; exact q2074
  | 43, q, h => by rw [← show (RX38, TX38, 3) = q from Option.some.inj h]; exact q2092
  | 44, q, h => by rw [← show (RX39, TX39, 4) = q from Option.some.inj h]; exact q2112
  | t + 45, q, h => by cases h
/-- the law's own method -/
def zlaw : zY := (x, code, 7, ret, [])
section
variable {s : State} {b : Nat}
theorem zb_cls (h : ∀ w ∈ lw_tbl, w.before #[Value.ref b] s = true) : ∃ (dC : Nat → ClassId) (dI : Nat → Nat → Nat), ∀ (t : Nat) (q : vw_C), zcl[t]? = some q → u_Kn s q.1 q.2.1 q.2.2 (dC t) (dI t) := by
  have hk : ∀ t : Nat, ∃ r : ClassId × (Nat → Nat), ∀ q : vw_C, zcl[t]? = some q → u_Kn s q.1 q.2.1 q.2.2 r.1 r.2 := by
    intro t
    cases hq : zcl[t]? with
    | none => exact ⟨(0, fun _ => 0), fun q hq' => by cases hq'⟩
    | some q =>
      obtain ⟨cC, iS, hu⟩ := u_known (ws := lw_all) (fun w hw => h w (lw_all_tbl hw)) (zcf t q hq).1 (h _ (lw_all_tbl (zinst t q hq)))
      exact ⟨(cC, iS), fun q' hq' => by cases hq'; exact hu⟩
  exact ⟨fun t => (hk t).choose.1, fun t => (hk t).choose.2, fun t q hq => (hk t).choose_spec q hq⟩
theorem zb_prim {ty : FieldType} (hn : ∀ C, ty ≠ .object C) (h : (Cond.arrayClass ty).before #[Value.ref b] s = true) : ∃ c, ArrOfT s c ty ∧ va_RA s c ty := by
  obtain ⟨c, k, comp, h1, h2, h3⟩ := Cond.arrayClass_spec h
  refine ⟨c, fun n z => ⟨fun q hq => (by cases hq), k, h2, comp, h3⟩, ?_⟩
  cases ty with
  | object C => exact absurd rfl (hn C)
  | _ => exact h1
theorem zb_obj {C : String} (h : (Cond.arrayOver (.object C)).before #[Value.ref b] s = true) : ∃ c, ArrOfT s c (.object C) ∧ va_RA s c (.object C) := by
  obtain ⟨comp, c, k, h1, h2, h3, h4, h5⟩ := Cond.arrayOver_spec h
  exact ⟨c, fun n z => ⟨fun q hq => (by cases hq), k, h3, comp, h4⟩, k, comp, h3, h4, h1, h5⟩
theorem zb_arr (h : ∀ w ∈ lw_tbl, w.before #[Value.ref b] s = true) : ∃ dA : Nat → ClassId, ∀ k, k < 8 → ArrOfT s (dA k) (zqt k) ∧ va_RA s (dA k) (zqt k) := by

  obtain ⟨c0, e0⟩ := zb_prim (b := b) (s := s) (ty := zqt 0) (fun C hC => by cases hC) (h _ (lw_all_tbl q535))
  obtain ⟨c1, e1⟩ := zb_prim (b := b) (s := s) (ty := zqt 1) (fun C hC => by cases hC) (h _ (lw_all_tbl q536))
  obtain ⟨c2, e2⟩ := zb_prim (b := b) (s := s) (ty := zqt 2) (fun C hC => by cases hC) (h _ (lw_all_tbl q621))
  obtain ⟨c3, e3⟩ := zb_prim (b := b) (s := s) (ty := zqt 3) (fun C hC => by cases hC) (h _ (lw_all_tbl q3955))
  obtain ⟨c4, e4⟩ := zb_prim (b := b) (s := s) (ty := zqt 4) (fun C hC => by cases hC) (h _ (lw_all_tbl q727))
  obtain ⟨c5, e5⟩ := zb_prim (b := b) (s := s) (ty := zqt 5) (fun C hC => by cases hC) (h _ (lw_all_tbl q755))
  obtain ⟨c6, e6⟩ := zb_obj (b := b) (s := s) (C := "java/lang/Object") (h _ q1366)
  obtain ⟨c7, e7⟩ := zb_obj (b := b) (s := s) (C := "ScriptTypes$Bag") (h _ q728)
  refine ⟨fun k => match k with | 0 => c0 | 1 => c1 | 2 => c2 | 3 => c3 | 4 => c4 | 5 => c5 | 6 => c6 | _ => c7, fun k hk => ?_⟩
  match k, hk with
  | 0, _ => exact e0
  | 1, _ => exact e1
  | 2, _ => exact e2
  | 3, _ => exact e3
  | 4, _ => exact e4
  | 5, _ => exact e5
  | 6, _ => exact e6
  | 7, _ => exact e7
  | k + 8, hk => omega
theorem zb_st {C n d : String} {A : Nat → Prop} (hl : (Cond.laysStatic C n d).before #[Value.ref b] s = true) (hini : (Cond.initialized C).before #[Value.ref b] s = true) (h : (Cond.isRef (.static C n d)).before #[Value.ref b] s = true) (hA : ∀ a : Nat, a < s.heap.size → ¬ A a) : ∃ r : Option (Nat × Nat) × Nat, (r.1 = none ∧ va_Z C n d .null A s s.heap) ∨ (r.1 = some (108, 0) ∧ va_Z C n d (.ref r.2) A s s.heap) := by
  rcases va_Zqof hl hini h hA with h | ⟨t, h⟩
  · exact ⟨(none, 0), Or.inl ⟨rfl, h⟩⟩
  · exact ⟨(some (108, 0), t), Or.inr ⟨rfl, h⟩⟩
end
/-- the premises of the start, one by one -/
def zFL : List Cond := flatC (Jvm.Cond.and given_1 narrow_1)
def ztm : Nat → Term
  | 0 => .string "ScriptTypes" 44
  | 1 => .string "ScriptTypes" 247
  | 2 => .string "ScriptTypes" 253
  | 3 => .string "ScriptTypesModel" 313
  | _ => .string "ScriptTypesModel" 387
def zb_e (i j : Nat) : Cond := .eq (.elem (.field (ztm i) "java/lang/String" "value" "[B") (.int (Int32.ofNat j))) (.int ((zsbyt.getD i []).getD j 0))

theorem zb_el0 : (zFL.drop 548).take 229 = (List.range 229).map (zb_e 0) := by decide +kernel
theorem zb_el1 : (zFL.drop 240).take 172 = (List.range 172).map (zb_e 1) := by decide +kernel
theorem zb_el2 : (zFL.drop 416).take 127 = (List.range 127).map (zb_e 2) := by decide +kernel
theorem zb_el3 : (zFL.drop 783).take 230 = (List.range 230).map (zb_e 3) := by decide +kernel
theorem zb_el4 : (zFL.drop 1200).take 127 = (List.range 127).map (zb_e 4) := by decide +kernel
theorem zb_el : ∀ i, i < 5 → ∀ j, j < zslen.getD i 0 → zb_e i j ∈ zFL
  | 0, _, j, hj => List.mem_of_mem_drop (List.mem_of_mem_take (by rw [zb_el0]; exact List.mem_map.mpr ⟨j, List.mem_range.mpr hj, rfl⟩))
  | 1, _, j, hj => List.mem_of_mem_drop (List.mem_of_mem_take (by rw [zb_el1]; exact List.mem_map.mpr ⟨j, List.mem_range.mpr hj, rfl⟩))
  | 2, _, j, hj => List.mem_of_mem_drop (List.mem_of_mem_take (by rw [zb_el2]; exact List.mem_map.mpr ⟨j, List.mem_range.mpr hj, rfl⟩))
  | 3, _, j, hj => List.mem_of_mem_drop (List.mem_of_mem_take (by rw [zb_el3]; exact List.mem_map.mpr ⟨j, List.mem_range.mpr hj, rfl⟩))
  | 4, _, j, hj => List.mem_of_mem_drop (List.mem_of_mem_take (by rw [zb_el4]; exact List.mem_map.mpr ⟨j, List.mem_range.mpr hj, rfl⟩))
  | i + 5, h, _, _ => by omega
theorem zb_c1 : ∀ i, i < 5 → Cond.exactly (ztm i) "java/lang/String" ∈ zFL ∧ Cond.eq (.field (ztm i) "java/lang/String" "coder" "B") (.int 0) ∈ zFL ∧ Cond.arrayOf (.field (ztm i) "java/lang/String" "value" "[B") .byte ∈ zFL ∧ Cond.eq (.length (.field (ztm i) "java/lang/String" "value" "[B")) (.int (Int32.ofNat (zslen.getD i 0))) ∈ zFL := by decide +kernel
theorem zb_c2 : ∀ i, i < 5 → ∀ j, j < 5 → i ≠ j → Cond.not (Cond.eq (ztm i) (ztm j)) ∈ zFL ∨ Cond.not (Cond.eq (ztm j) (ztm i)) ∈ zFL := by decide +kernel
theorem zb_c3 : Cond.eq (.string "ScriptTypes" 247) (.string "ScriptTypesModel" 379) ∈ zFL := by decide +kernel
theorem zb_c4 : Cond.isRef (.static "java/util/ArrayList" "DEFAULTCAPACITY_EMPTY_ELEMENTDATA" "[Ljava/lang/Object;") ∈ zFL ∧ Cond.arrayOf (.static "java/util/ArrayList" "DEFAULTCAPACITY_EMPTY_ELEMENTDATA" "[Ljava/lang/Object;") (.object "java/lang/Object") ∈ zFL ∧ Cond.eq (.length (.static "java/util/ArrayList" "DEFAULTCAPACITY_EMPTY_ELEMENTDATA" "[Ljava/lang/Object;")) (.int 0) ∈ zFL ∧ Cond.isRef (.static "java/lang/Throwable" "UNASSIGNED_STACK" "[Ljava/lang/StackTraceElement;") ∈ zFL ∧ Cond.isRef (.static "java/lang/Throwable" "SUPPRESSED_SENTINEL" "Ljava/util/List;") ∈ zFL ∧ Cond.isRef (.static "jdk/internal/util/Preconditions" "SIOOBE_FORMATTER" "Ljava/util/function/BiFunction;") ∈ zFL ∧ Cond.eq (.static "java/lang/String" "COMPACT_STRINGS" "Z") (.int 1) ∈ zFL := by decide +kernel
theorem zb_c5 : Cond.isRef (.mirror "[Ljava/lang/Object;") ∈ zFL := by decide +kernel
/-- what was there before: addresses, kinds -/
def zb_ex (b t1 t2 t3 t14 : Nat) (adK adV : Nat → Nat) (i : Nat) : Nat := if i = 0 then b else if i = 1 then t1 else if i = 2 then t2 else if i = 3 then t3 else if i = 14 then t14 else if i < 9 then adK (i - 4) else adV (i - 9)
def zb_xr (r2 r3 r14 : Option (Nat × Nat)) (i : Nat) : Option (Nat × Nat) := if i = 2 then r2 else if i = 3 then r3 else if i = 14 then r14 else none
theorem zb_E {s : State} {b L : Nat} {xs : Nat → Int32} (h : ∀ w ∈ lw_tbl, w.before #[Value.ref b] s = true) (hX : va_X b L xs s s.heap) (hb : b < s.heap.size) (hgv : (Jvm.Cond.and given_1 narrow_1).before #[Value.ref b] s = true) :
    ∃ E : zE, zEok E ∧ zs0 E = s ∧ zsb E = b ∧ zba E = s.heap.size ∧ zxl E = L ∧ zxs E = xs ∧ ∀ (a : Nat) (v : Nat × Nat), zxt E a = some v → a < 16 ∧ 108 ≤ v.1 := by
  have hf : ∀ c ∈ zFL, c.before #[Value.ref b] s = true := flat_of_before _ hgv
  have hA : ∀ a : Nat, a < s.heap.size → ¬ (fun a => s.heap.size ≤ a) a := fun a ha => Nat.not_le.mpr ha
  obtain ⟨dC, dI, hcl⟩ := zb_cls h
  obtain ⟨dA, har⟩ := zb_arr h
  obtain ⟨c1, c2, c3, c4, c5, c6, c7⟩ := zb_c4
  obtain ⟨t1, e1, hT1⟩ := va_Tof (A := fun a => s.heap.size ≤ a) (N := 0) (f := fun _ => .null) (by decide) (hf _ c2) (va_eqt (hf _ c3)) (fun j hj => absurd hj (Nat.not_lt_zero j)) hA
  obtain ⟨r2, h2⟩ := zb_st (A := fun a => s.heap.size ≤ a) (h _ q649) (h _ (lw_all_tbl q452)) (hf _ c4) hA
  obtain ⟨r3, h3⟩ := zb_st (A := fun a => s.heap.size ≤ a) (h _ q651) (h _ (lw_all_tbl q452)) (hf _ c5) hA
  obtain ⟨r14, h14⟩ := zb_st (A := fun a => s.heap.size ≤ a) (h _ q790) (h _ (lw_all_tbl q461)) (hf _ c6) hA
  obtain ⟨adK, adV0, hS0, hev⟩ := vk_Sof (args := #[Value.ref b]) (s := s) (N := 5) (tm := ztm) (len := zslen) (byt := zsbyt) (A := fun a => s.heap.size ≤ a) (by decide) (fun i hi => hf _ (zb_c1 i hi).1) (fun i hi => hf _ (zb_c1 i hi).2.1) (fun i hi => hf _ (zb_c1 i hi).2.2.1) (fun i hi => hf _ (zb_c1 i hi).2.2.2) (fun i hi j hj => hf _ (zb_el i hi j hj))
    (fun i j hi hj hij => (zb_c2 i hi j hj hij).imp (hf _) (hf _)) hA
  obtain ⟨t15, ht15⟩ : ∃ a, (Term.mirror "[Ljava/lang/Object;").eval #[Value.ref b] s none [] s = some (.ref a) := by
    have hq := hf _ zb_c5
    cases hv : (Term.mirror "[Ljava/lang/Object;").eval #[Value.ref b] s none [] s with
    | none => simp [Cond.before, Cond.holds, Cond.value, hv] at hq
    | some w =>
      obtain ⟨c, k, a, -, -, -, rfl⟩ := Term.mirror_spec hv
      exact ⟨a, rfl⟩
  obtain ⟨adV, hS, h6⟩ : ∃ adV' : Nat → Nat, vk_S 5 zslen zsbyt adK adV' (fun a => s.heap.size ≤ a) s s.heap ∧ adV' 6 = t15 := by
    refine ⟨fun i => if i = 6 then t15 else adV0 i, ⟨fun i hi => ?_, hS0.2⟩, if_pos rfl⟩
    have e : (if i = 6 then t15 else adV0 i) = adV0 i := if_neg (by omega)
    simp only [e]
    exact hS0.1 i hi
  have hS1 : t1 < s.heap.size := Nat.not_le.mp hT1.out
  have hz1 := va_Zof (A := fun a => s.heap.size ≤ a) (h _ q550) (h _ (lw_all_tbl q450)) e1 hA
  have hz5 := va_Zof (A := fun a => s.heap.size ≤ a) (h _ q774) (h _ (lw_all_tbl q459)) (va_eqi (hf _ c7)) hA
  have he379 : (Term.string "ScriptTypesModel" 379).eval #[Value.ref b] s none [] s = some (.ref (adK 1)) := by
    have hq := hf _ zb_c3
    have h247 := hev 1 (by decide)
    have h247' : (Term.string "ScriptTypes" 247).eval #[Value.ref b] s none [] s = some (.ref (adK 1)) := h247
    cases hv : (Term.string "ScriptTypesModel" 379).eval #[Value.ref b] s none [] s with
    | none => simp [Cond.before, Cond.holds, Cond.value, hv, h247'] at hq
    | some w =>
      simp only [Cond.before, Cond.holds, Cond.value, hv, h247'] at hq
      cases w <;> simp_all
  refine ⟨(s, dC, dI, dA, s.heap.size, zb_ex b t1 r2.2 r3.2 r14.2 adK adV, b, zb_xr r2.1 r3.1 r14.1, L, xs), ⟨h, ⟨hcl, fun k q hk => ?_⟩, rfl, fun i hi => ?_, hgv, hX, rfl, hT1, fun i q hi => ?_, ⟨fun i hi => ?_, fun i j hi hj he => ?_⟩, fun i q hi => ?_, hz5, ?_⟩, rfl, rfl, rfl, rfl, rfl, fun a v ha => ?_⟩
  · match k, hk with
    | 0, hk => cases hk; exact har 0 (by decide)
    | 1, hk => cases hk; exact har 1 (by decide)
    | 2, hk => cases hk; exact har 2 (by decide)
    | 3, hk => cases hk; exact har 3 (by decide)
    | 4, hk => cases hk; exact har 4 (by decide)
    | 5, hk => cases hk; exact har 5 (by decide)
    | 6, hk => cases hk; exact har 6 (by decide)
    | 7, hk => cases hk; exact har 7 (by decide)
    | k + 8, hk => cases hk
  · match i, hi with
    | 0, _ => exact hb
    | 1, _ => exact hS1
    | i + 2, hi => omega
  · match i, hi with
    | 0, hi => cases hi; exact hz1
    | 1, hi =>
      cases hi
      rcases h2 with ⟨e, hz⟩ | ⟨e, hz⟩
      · have e9 : zsv (s, dC, dI, dA, s.heap.size, zb_ex b t1 r2.2 r3.2 r14.2 adK adV, b, zb_xr r2.1 r3.1 r14.1, L, xs) 2 = none := by show Option.map _ r2.1 = _; rw [e]; rfl
        show va_Z _ _ _ (zcv _ (vr (zsv _ 2))) _ _ _
        rw [e9]; exact hz
      · have e9 : zsv (s, dC, dI, dA, s.heap.size, zb_ex b t1 r2.2 r3.2 r14.2 adK adV, b, zb_xr r2.1 r3.1 r14.1, L, xs) 2 = some (2, 108, 0) := by show Option.map _ r2.1 = _; rw [e]; rfl
        show va_Z _ _ _ (zcv _ (vr (zsv _ 2))) _ _ _
        rw [e9]; exact hz
    | 2, hi =>
      cases hi
      rcases h3 with ⟨e, hz⟩ | ⟨e, hz⟩
      · have e9 : zsv (s, dC, dI, dA, s.heap.size, zb_ex b t1 r2.2 r3.2 r14.2 adK adV, b, zb_xr r2.1 r3.1 r14.1, L, xs) 3 = none := by show Option.map _ r3.1 = _; rw [e]; rfl
        show va_Z _ _ _ (zcv _ (vr (zsv _ 3))) _ _ _
        rw [e9]; exact hz
      · have e9 : zsv (s, dC, dI, dA, s.heap.size, zb_ex b t1 r2.2 r3.2 r14.2 adK adV, b, zb_xr r2.1 r3.1 r14.1, L, xs) 3 = some (3, 108, 0) := by show Option.map _ r3.1 = _; rw [e]; rfl
        show va_Z _ _ _ (zcv _ (vr (zsv _ 3))) _ _ _
        rw [e9]; exact hz
    | 3, hi =>
      cases hi
      rcases h14 with ⟨e, hz⟩ | ⟨e, hz⟩
      · have e9 : zsv (s, dC, dI, dA, s.heap.size, zb_ex b t1 r2.2 r3.2 r14.2 adK adV, b, zb_xr r2.1 r3.1 r14.1, L, xs) 14 = none := by show Option.map _ r14.1 = _; rw [e]; rfl
        show va_Z _ _ _ (zcv _ (vr (zsv _ 14))) _ _ _
        rw [e9]; exact hz
      · have e9 : zsv (s, dC, dI, dA, s.heap.size, zb_ex b t1 r2.2 r3.2 r14.2 adK adV, b, zb_xr r2.1 r3.1 r14.1, L, xs) 14 = some (14, 108, 0) := by show Option.map _ r14.1 = _; rw [e]; rfl
        show va_Z _ _ _ (zcv _ (vr (zsv _ 14))) _ _ _
        rw [e9]; exact hz
    | i + 4, hi => cases hi
  · have e4 : zb_ex b t1 r2.2 r3.2 r14.2 adK adV (i + 4) = adK i := by
      unfold zb_ex
      rw [if_neg (by omega), if_neg (by omega), if_neg (by omega), if_neg (by omega), if_neg (by omega), if_pos (by omega), Nat.add_sub_cancel]
    have e5 : zb_ex b t1 r2.2 r3.2 r14.2 adK adV (i + 9) = adV i := by
      unfold zb_ex
      rw [if_neg (by omega), if_neg (by omega), if_neg (by omega), if_neg (by omega), if_neg (by omega), if_neg (by omega), Nat.add_sub_cancel]
    show va_O _ (zb_ex b t1 r2.2 r3.2 r14.2 adK adV (i + 4)) _ _ _ ∧ va_OF _ _ _ _ (zb_ex b t1 r2.2 r3.2 r14.2 adK adV (i + 4)) _ _ _ ∧ va_OF _ _ _ (.ref (zb_ex b t1 r2.2 r3.2 r14.2 adK adV (i + 9))) (zb_ex b t1 r2.2 r3.2 r14.2 adK adV (i + 4)) _ _ _ ∧ va_T _ (zb_ex b t1 r2.2 r3.2 r14.2 adK adV (i + 9)) _ _ _ _ _
    rw [e4, e5]
    exact hS.1 i hi
  · have e4 : ∀ i, i < 5 → zb_ex b t1 r2.2 r3.2 r14.2 adK adV (i + 4) = adK i := by
      intro i hi
      unfold zb_ex
      rw [if_neg (by omega), if_neg (by omega), if_neg (by omega), if_neg (by omega), if_neg (by omega), if_pos (by omega), Nat.add_sub_cancel]
    have he' : zb_ex b t1 r2.2 r3.2 r14.2 adK adV (i + 4) = zb_ex b t1 r2.2 r3.2 r14.2 adK adV (j + 4) := he
    rw [e4 i hi, e4 j hj] at he'
    exact hS.2 i j hi hj he'
  · match i, hi with
    | 0, hi => cases hi; exact ⟨by decide, vk_R.of (A := #[Value.ref b]) (h _ q826) (hev 0 (by decide))⟩
    | 1, hi => cases hi; exact ⟨by decide, vk_R.of (A := #[Value.ref b]) (h _ q756) (hev 1 (by decide))⟩
    | 2, hi => cases hi; exact ⟨by decide, vk_R.of (A := #[Value.ref b]) (h _ q4025) he379⟩
    | 3, hi => cases hi; exact ⟨by decide, vk_R.of (A := #[Value.ref b]) (h _ q821) (hev 2 (by decide))⟩
    | 4, hi => cases hi; exact ⟨by decide, vk_R.of (A := #[Value.ref b]) (h _ q3976) (hev 3 (by decide))⟩
    | 5, hi => cases hi; exact ⟨by decide, vk_R.of (A := #[Value.ref b]) (h _ q4041) (hev 4 (by decide))⟩
    | i + 6, hi => cases hi
  · show _ = some (Value.ref (adV 6))
    rw [h6]
    exact ht15
  · have hz : zxt (s, dC, dI, dA, s.heap.size, zb_ex b t1 r2.2 r3.2 r14.2 adK adV, b, zb_xr r2.1 r3.1 r14.1, L, xs) a = some v := ha
    unfold zxt at hz
    cases hfx : zfix a with
    | some w =>
      rw [hfx] at hz
      cases hz
      unfold zfix at hfx
      split at hfx
      · cases hfx; exact ⟨by omega, by decide⟩
      · split at hfx
        · cases hfx; exact ⟨by omega, by decide⟩
        · split at hfx
          · cases hfx; exact ⟨by omega, by show 108 ≤ 111; decide⟩
          · split at hfx
            · cases hfx; exact ⟨by omega, by show 108 ≤ 112; decide⟩
            · split at hfx
              · cases hfx; exact ⟨by omega, by show 108 ≤ 108; decide⟩
              · cases hfx
    | none =>
      rw [hfx] at hz
      have hz' : zb_xr r2.1 r3.1 r14.1 a = some v := hz
      unfold zb_xr at hz'
      split at hz'
      · rcases h2 with ⟨e, -⟩ | ⟨e, -⟩ <;> rw [e] at hz' <;> cases hz' <;> exact ⟨by omega, by decide⟩
      · split at hz'
        · rcases h3 with ⟨e, -⟩ | ⟨e, -⟩ <;> rw [e] at hz' <;> cases hz' <;> exact ⟨by omega, by decide⟩
        · split at hz'
          · rcases h14 with ⟨e, -⟩ | ⟨e, -⟩ <;> rw [e] at hz' <;> cases hz' <;> exact ⟨by omega, by decide⟩
          · cases hz'
/-- the memory at the law's entry: nothing is there -/
def zM0 : zM := ((16, 0), (fun _ _ => 0), (fun _ _ => 0), (fun _ _ => none))
/-- what the law's end is owed -/
def zQ1 (o : zO) (M : zM) : Prop := o = .inl (some (vi 1)) ∧ zsz M ≤ 558422 ∧ zsu M ≤ 7426261
/-- THE CLAIM OUT OF THE LAW's JUDGEMENT -/
theorem z_whole {p : Program} {e : Env} {s : State} {m : MethodId} {below : List Frame} {meth : Method} {c : Code} (l : Launch) {b L : Nat} {xs : Nat → Int32} (hL : L ≤ 384) (hx : p.tables.exec = Jvm.exec) (hcode : c.code = code) (hret : meth.sig.returnType = ret) (hml : c.maxLocals = 7) (hown : s.vm.findClass "ScriptTypesLaw" = some m.cls) (hts : ∀ w ∈ lw_tbl, w.before #[Value.ref b] s = true) (hX : va_X b L xs s s.heap) (hb : b < s.heap.size) (hlk : meth.locks = false) (hgv : (Jvm.Cond.and given_1 narrow_1).before #[Value.ref b] s = true)
    (hfl : l.flags = flags0) (hnm : meth.name = "law") (het : c.exceptionTable = #[]) (K : ∀ E : zE, zEok E → zxl E ≤ 384 → Z E zlaw 2048 zM0 [(0, vr (some (0, 109, 0)))] 0 [] zQ1) :
    W p l e room_1 s m #[Value.ref b] below meth c s.heap [] 0 0 (fun t => t.status = .running ∧ Ended t below (.returned (some (.int 1))) ∧ Framed s (.returned (some (.int 1))) t [] 558406 7426261) (entryFrame m ([Value.ref b] : List Value).toArray 7) := by
  obtain ⟨E, hE, e1, e2, e3, e4, e5, e6⟩ := zb_E hts hX hb hgv
  subst e1
  obtain ⟨o, M', h1, h2, ⟨rfl, h3, h4⟩, hrun⟩ := K E hE (by rw [e4]; exact hL)
  have hG : zG E zlaw 2048 p l room_1 (zs0 E) m meth c := ⟨hx, hcode, hml, hown, State.WarmedH.refl _, hlk, hret, hnm, by rw [het]; rfl, by decide, by decide, hE, hfl⟩
  have hR : zrel E (zxt E) zM0 (zs0 E).heap := by
    refine ⟨⟨by rw [e3]; rfl, fun q hq => rfl, fun i v hv => hv⟩, by decide, fun a t n ha => ?_, fun a w k p ha hp => by cases hp⟩
    obtain ⟨g1, g2⟩ := e6 a (t, n) ha
    refine ⟨⟨g1, fun _ => g2⟩, ?_⟩
    unfold zcell
    have g2' : 108 ≤ t := g2
    rw [if_neg (by omega)]
    exact Or.inr ⟨g2', g1⟩
  have h0 : zcv E (vr (some (0, 109, 0))) = Value.ref b := by
    show Value.ref (zex E 0) = _
    rw [hE.2.2.2.2.2.2.1, e2]
  have hle := lv_entry [Value.ref b] (n := 7) (by show 1 ≤ 7; decide)
  have hlv : lv_args 0 [Value.ref b] = zlv E [(0, vr (some (0, 109, 0)))] := by
    show [(0, Value.ref b)] = [(0, zcv E (vr (some (0, 109, 0))))]
    rw [h0]
  rw [hlv] at hle
  rw [lg_entry_eq]
  refine zW_mono (fun t ht => ?_) (hrun (zxt E) p l e room_1 (zs0 E) m #[Value.ref b] below meth c hG (zs0 E).heap [] 0 0 _ hR (fun q hq => ?_) (fun v hv => by cases hv) (fun q hq => by cases hq) (by show 0 + (zsz M' - 16) ≤ 558406; omega) (by show 0 + (zsu M' - 0) ≤ 7426261; omega) hle)
  · obtain ⟨a1, a2, a3, LL, a4, a5, -⟩ := ht
    refine ⟨a1, a2, ⟨_, rfl⟩, a3, a4.weaken (fun q hq hlt => ?_) (by show 0 + (zsz M' - 16) ≤ 558406; omega) (by show 0 + (zsu M' - 0) ≤ 7426261; omega)⟩
    exact absurd hlt (Nat.not_lt.mpr (by rw [← e3]; exact a5 q hq))
  · cases hq with
    | head => show zxt E 0 = some (109, 0); rfl
    | tail _ hq => cases hq
