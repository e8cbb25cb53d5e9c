/-! rows of Z: arrays of references, copies of booleans -/
set_option maxRecDepth 100000
section
variable {E : zE} {Y : zY} {d : Nat} {M : zM} {lv : List (Nat × zV)} {a t n k idx pc : Nat} {st : List zV} {Q : zO → zM → Prop}
theorem z_anew {q : Nat} {C : String} {N : Nat} {x : Int32} (hd : decode (zYc Y) pc = .ok (.anewarray idx, 3)) (hq : q = 6 ∧ C = "java/lang/Object" ∨ q = 7 ∧ C = "ScriptTypes$Bag") (hl : Cond.classLink (zYy Y).cls idx C ∈ lw_all) (ho : Cond.arrayOver (.object C) ∈ lw_tbl) (hx : ¬ x < 0) (hN : x.toNatClampNeg = N) (hb : N * 4 ≤ 536870912) (kz : Z E Y d (zn M N) lv (pc + 3) (vr (some (zsz M, 100 + q, N)) :: st) Q) : Z E Y d M lv pc (vi x :: st) Q := by
  refine Z.alloc (N := N) (fun τ p l e R s m args below meth c hG H locs cells slots ls Qs hR hs hcl hsl kk => ?_) (fun τ hs => zv_tl hs) kz
  subst hN
  have hover : va_AO C s := va_AO.moved hG.warm.alike (va_AO.of (hG.ok.1 _ ho))
  refine W.anew hG.1 hG.2.1 hG.own (hG.words args _ hl) (va_AO.use hover) rfl hd rfl hx hb hcl hsl fun cA kA comp f1 f2 f3 f4 => ?_
  have key : (ztys E)[q]? = some (zdA E q, .object C) ∧ q < 8 ∧ zqk q = 2 := by
    rcases hq with ⟨rfl, rfl⟩ | ⟨rfl, rfl⟩
    · exact ⟨rfl, by decide, rfl⟩
    · exact ⟨rfl, by decide, rfl⟩
  obtain ⟨k1, k2, k3⟩ := key
  obtain ⟨-, kA', comp', g1, g2, g3, g4⟩ := hG.kn.2 q _ k1
  obtain rfl : cA = zdA E q := Option.some.inj (f1.symm.trans g4)
  have e1 : (H.push ({ cls := zdA E q, slots := Array.replicate x.toNatClampNeg .null, vm := .none } : Cell))[H.size]? = some (arrV (zdA E q) x.toNatClampNeg (fun _ => .null)) := by rw [Array.getElem?_push_size, ← arrV_new]
  have hz := kk (H.push ({ cls := zdA E q, slots := Array.replicate x.toNatClampNeg .null, vm := .none } : Cell)) (hR.new (t := 100 + q) (n := x.toNatClampNeg) (by simp) (fun q hq => by rw [Array.getElem?_push, if_neg (Nat.ne_of_lt hq)]) ?_)
  · rw [List.map_cons, zcv_r, hR.at] at hz
    exact hz
  · unfold zcell
    rw [if_neg (by omega), hR.at, show 100 + q - 100 = q by omega]
    refine Or.inl ⟨by omega, ?_⟩
    rw [e1]
    congr 2
    funext j
    rw [k3]
    show Value.null = zcv E (vr (gr (zn M x.toNatClampNeg) (zsz M) j))
    rw [gr_zn, if_pos rfl]
    rfl
theorem z_copyz {a0 n0 : Nat} {sp dp k : Int32} (ha : 16 ≤ a) (hd : decode (zYc Y) pc = .ok (.invokestatic idx, 3)) (hk : Cond.methodLink (zYy Y).cls idx arraycopyName ∈ lw_all) (hdd : 1 ≤ d) (hst : (st.map zcat).sum ≤ 20) (h1 : ¬ sp < 0) (h2 : ¬ dp < 0) (h3 : ¬ k < 0) (h4 : sp.toNatClampNeg + k.toNatClampNeg ≤ n0) (h5 : dp.toNatClampNeg + k.toNatClampNeg ≤ n) (hz : ∀ i, i < k.toNatClampNeg → zfit .boolean (gi M a0 (sp.toNatClampNeg + i)))
    (kz : Z E Y d (cpi M a0 sp.toNatClampNeg a dp.toNatClampNeg k.toNatClampNeg) lv (pc + 3) st Q) : Z E Y d M lv pc (vi k :: vi dp :: vr (some (a, 104, n)) :: vi sp :: vr (some (a0, 104, n0)) :: st) Q := by
  obtain ⟨o, M', z1, z2, z3, hr⟩ := kz
  refine ⟨o, M', z1, z2, z3, fun τ p l e R s m args below meth c hG H locs cells slots ls hR hl hs hL hc hn hh => ?_⟩
  have hv0 : τ a0 = some (100 + 4, n0) := zv_hd (zv_tl (zv_tl (zv_tl (zv_tl hs))))
  have hv : τ a = some (100 + 4, n) := zv_hd (zv_tl (zv_tl hs))
  have hc0 : H[zrho E a0]? = some (arrV (zdA E 4) n0 (fun j => Value.int (gi M a0 j))) := hR.arr (Or.inl (by decide)) hv0
  have hc1 : H[zrho E a]? = some (arrV (zdA E 4) n (fun j => Value.int (gi M a j))) := hR.arr (Or.inl (by decide)) hv
  have hfr : d ≤ R.frames := hG.2.2.2.2.2.2.2.2.2.1
  have hlo : 41 * d ≤ R.locals := hG.2.2.2.2.2.2.2.2.2.2.1
  have hsum : ((st.map (zcv E)).map fun v => v.category).sum = (st.map zcat).sum := by
    rw [List.map_map]
    congr 1
    exact List.map_congr_left fun v _ => zcat_cv E v
  have hnw : nativeFrameWords "java/lang/System" "arraycopy" 5 ≤ 10 := by decide +kernel
  have nn : ∀ z : Int32, ¬ z < 0 → z.toInt = (z.toNatClampNeg : Int) := by
    intro z hz
    have hz0 : (0 : Int) ≤ z.toInt := by
      have := Int32.not_lt.mp hz
      simpa using Int32.le_iff_toInt_le.mp this
    show z.toInt = ((z.toInt.toNat : Nat) : Int)
    omega
  intro T hT X
  obtain ⟨-, k0, hk0, cm0, hkk0⟩ := (hG.arr 4 rfl).1 n0 (fun j => Value.int (gi M a0 j))
  obtain ⟨-, k1, hk1, cm1, hkk1⟩ := (hG.arr 4 rfl).1 n (fun j => Value.int (gi M a j))
  obtain ⟨vm', X', step⟩ := X.arraycopy hG.1 hG.own (hG.words args _ hk) (hG.words args _ q1373) (hG.words args _ q1372) (hG.words args _ q470) (src := zrho E a0) (dst := zrho E a) (cs := arrV (zdA E 4) n0 (fun j => Value.int (gi M a0 j))) (cd := arrV (zdA E 4) n (fun j => Value.int (gi M a j))) (srcPos := sp) (destPos := dp) (n := k) (by rw [hT]; exact hc0) (by rw [hT]; exact hc1)
    (fun _ h => by cases h) (fun _ h => by cases h) (fun h => by cases h) (fun h => by cases h) hk0 hk1 hkk0 hkk1 (by decide) h1 h2 h3
    (by rw [nn sp h1, nn k h3, arrV_size]; omega)
    (by rw [nn dp h2, nn k h3, arrV_size]; omega)
    (fun vm₁ _ i hi => by
      have e : (arrV (zdA E 4) n0 (fun j => Value.int (gi M a0 j))).slots.getD (sp.toNatClampNeg + i) .null = Value.int (gi M a0 (sp.toNatClampNeg + i)) := by
        rw [Array.getD_eq_getD_getElem?, arrV_read _ _ (by omega)]
        rfl
      refine ⟨?_, ?_⟩
      · rw [e]; exact (hz i hi).2
      · rw [e]; exact trivial)
    (g := F0 m pc ls (.int k :: .int dp :: .ref (zrho E a) :: .int sp :: .ref (zrho E a0) :: st.map (zcv E))) rfl (by rw [hG.2.2.1]; exact hh.1) (rest := st.map (zcv E)) rfl (by rw [hG.2.1]; exact hd) (by omega) (by rw [hsum]; show 2 * 0 + _ + _ ≤ _; omega)
  have e1 : copied (arrV (zdA E 4) n0 (fun j => Value.int (gi M a0 j))) (arrV (zdA E 4) n (fun j => Value.int (gi M a j))) sp dp k = arrV (zdA E 4) n (fun j => Value.int (va_cpy (gi M a0) (gi M a) sp.toNatClampNeg dp.toNatClampNeg k.toNatClampNeg j)) := va_copied (fun z => Value.int z) (zdA E 4) (zdA E 4) (gi M a0) (gi M a) h4
  rw [e1] at X' step
  have hlt : zrho E a < H.size := (Array.getElem?_eq_some_iff.mp hc1).1
  have hheap : ((T.setVm vm').setCell (zrho E a) (arrV (zdA E 4) n (fun j => Value.int (va_cpy (gi M a0) (gi M a) sp.toNatClampNeg dp.toNatClampNeg k.toNatClampNeg j)))).heap = H.setIfInBounds (zrho E a) (arrV (zdA E 4) n (fun j => Value.int (va_cpy (gi M a0) (gi M a) sp.toNatClampNeg dp.toNatClampNeg k.toNatClampNeg j))) := by rw [← hT]; rfl
  have hR1 : zrel E τ (cpi M a0 sp.toNatClampNeg a dp.toNatClampNeg k.toNatClampNeg) (H.setIfInBounds (zrho E a) (arrV (zdA E 4) n (fun j => Value.int (va_cpy (gi M a0) (gi M a) sp.toNatClampNeg dp.toNatClampNeg k.toNatClampNeg j)))) := by
    refine hR.put hG.ok hv ha rfl (fun b j kd hb => ?_) (by simp) (fun x hx => by simp [Array.getElem?_setIfInBounds, Ne.symm hx]) ?_ hR.2.2.2
    · match kd with
      | 0 => show Value.int (if b = a then _ else gi M b j) = _; rw [if_neg hb]; rfl
      | 1 => rfl
      | kd + 2 => rfl
    · unfold zcell
      rw [if_neg (by decide)]
      refine Or.inl ⟨by decide, ?_⟩
      rw [show (H.setIfInBounds (zrho E a) (arrV (zdA E 4) n (fun j => Value.int (va_cpy (gi M a0) (gi M a) sp.toNatClampNeg dp.toNatClampNeg k.toNatClampNeg j))))[zrho E a]? = some (arrV (zdA E 4) n (fun j => Value.int (va_cpy (gi M a0) (gi M a) sp.toNatClampNeg dp.toNatClampNeg k.toNatClampNeg j))) by simp [Array.getElem?_setIfInBounds, hlt]]
      congr 2
      funext j
      show _ = Value.int (if a = a then _ else _)
      rw [if_pos rfl]
  obtain ⟨t, a1, b1⟩ := hr τ p l e R s m args below meth c hG _ _ cells slots ls hR1 hl (zv_tl (zv_tl (zv_tl (zv_tl (zv_tl hs))))) (fun q hq => by
      rcases List.mem_append.mp hq with h | h
      · exact hL q h
      · obtain ⟨z, -, hz⟩ := List.mem_map.mp h
        rw [← hz]
        exact zrho_ge ha) hc hn hh _ hheap X'
  exact ⟨t, step t a1, b1⟩
end
