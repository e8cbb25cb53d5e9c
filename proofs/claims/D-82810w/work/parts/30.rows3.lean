/-! rows of Z: casts, comparing references, stores of references, null receivers -/
def zct (own : String) (idx t : Nat) : Prop := ∃ (q : vw_C) (nm : String), zcl[t]? = some q ∧ Cond.classLink own idx nm ∈ lw_all ∧ (Cond.castable q.1 nm ∈ lw_tbl ∨ q.1 = nm)
def zfst (r : Option zP) : Option Nat := r.map (fun q => q.1)
def zcmp (x : Option zP) : Prop := ∀ p, x = some p → p.1 = 1 ∨ 16 ≤ p.1
theorem zrho_inj {E : zE} (hE : zEok E) {a b : Nat} (ha : a = 1 ∨ 16 ≤ a) (hb : b = 1 ∨ 16 ≤ b) (h : zrho E a = zrho E b) : a = b := by
  have h1 := hE.2.2.2.1 1 (by decide)
  unfold zrho at h
  rcases ha with rfl | ha
  · rcases hb with rfl | hb
    · rfl
    · rw [if_pos (by decide), if_neg (by omega)] at h; omega
  · rcases hb with rfl | hb
    · rw [if_neg (by omega), if_pos (by decide)] at h; omega
    · rw [if_neg (by omega), if_neg (by omega)] at h; omega
theorem zrf (E : zE) (r : Option zP) : zcv E (vr r) = va_rf ((zfst r).map (zrho E)) := by cases r <;> rfl
theorem zfst_inj {E : zE} (hE : zEok E) {x y : Option zP} (hx : zcmp x) (hy : zcmp y) (h : (zfst x).map (zrho E) = (zfst y).map (zrho E)) : zfst x = zfst y := by
  cases x with
  | none => cases y with
    | none => rfl
    | some y => cases h
  | some x => cases y with
    | none => cases h
    | some y => exact congrArg some (zrho_inj hE (hx x rfl) (hy y rfl) (Option.some.inj h))
/-- a stretch copied -/
def cpi (M : zM) (a0 i0 a i n : Nat) : zM := (M.1, (fun b j => if b = a then va_cpy (gi M a0) (gi M a) i0 i n j else gi M b j), M.2.2.1, M.2.2.2)
def cpl (M : zM) (a0 i0 a i n : Nat) : zM := (M.1, M.2.1, (fun b j => if b = a then va_cpy (gl M a0) (gl M a) i0 i n j else gl M b j), M.2.2.2)
section
variable {E : zE} {Y : zY} {d : Nat} {M : zM} {lv lv' : List (Nat × zV)} {a t n idx pc : Nat} {st st' : List zV} {Q : zO → zM → Prop}
theorem Z.eqs (hl : lv = lv') (hs : st = st') (k : Z E Y d M lv' pc st' Q) : Z E Y d M lv pc st Q := by rw [hl, hs]; exact k
theorem z_ckcast (hd : decode (zYc Y) pc = .ok (.checkcast idx, 3)) (hs : zct (zYy Y).cls idx t) (kz : Z E Y d M lv (pc + 3) (vr (some (a, t, n)) :: st) Q) : Z E Y d M lv pc (vr (some (a, t, n)) :: st) Q := by
  obtain ⟨q, nm, hq, hl, hc⟩ := hs
  refine Z.read (fun τ p l e R s m args below meth c hG H locs cells slots ls Qs hR hs kk => ?_) (fun τ H hR hs => hs) kz
  obtain ⟨cell, q1, q2, q3, q4⟩ := ((hR.2.2.1 a t n (zv_hd hs)).2).obj hq
  have hcl : s.vm.findClass q.1 = some cell.cls := by rw [q2]; exact (hG.kn.1 t q hq).2.1
  have hst : cell.vm.isStatics = false := by rw [q3]; rfl
  rcases hc with hc | rfl
  · exact va_castY hG.1 hG.2.1 hG.own (hG.words args _ hl) (va_Nw.warmC hG.warm (va_Nw.of rfl (hG.ok.1 _ hc))) ⟨cell, q1, hst, hcl⟩ hd kk
  · exact va_castS hG.1 hG.2.1 hG.own (hG.words args _ hl) (hG.kn.1 t q hq).2 ⟨cell, q1, hst, hcl⟩ hd kk
theorem z_castN (hd : decode (zYc Y) pc = .ok (.checkcast idx, 3)) (kz : Z E Y d M lv (pc + 3) (vr none :: st) Q) : Z E Y d M lv pc (vr none :: st) Q :=
  Z.read (fun τ p l e R s m args below meth c hG H locs cells slots ls Qs hR hs kk => lv_castN hG.1 hG.2.1 hd kk) (fun τ H hR hs => hs) kz
theorem z_acmp_eq {x y : Option zP} {off : Int} {tgt : Nat} (hd : decode (zYc Y) pc = .ok (.if_acmp .eq off, 3)) (ht : (pc : Int) + off = (tgt : Int)) (hx : zcmp x) (hy : zcmp y) (k1 : zfst x = zfst y → Z E Y d M lv tgt st Q) (k2 : ¬ zfst x = zfst y → Z E Y d M lv (pc + 3) st Q) : Z E Y d M lv pc (vr y :: vr x :: st) Q := by
  refine Z.br (c := zfst x = zfst y) (fun p l e R s m args below meth co hG H locs cells slots ls Qs hh kt kf => ?_) (fun τ hl hs => zv_tl (zv_tl hs)) (fun τ hl hs => zv_tl (zv_tl hs)) k1 k2
  rw [List.map_cons, List.map_cons, zrf, zrf]
  exact lv_acmp_eq hG.1 hG.2.1 hd ht (fun h => kt (zfst_inj hG.ok hx hy h)) (fun h => kf (fun q => h (by rw [q])))
theorem z_acmp_ne {x y : Option zP} {off : Int} {tgt : Nat} (hd : decode (zYc Y) pc = .ok (.if_acmp .ne off, 3)) (ht : (pc : Int) + off = (tgt : Int)) (hx : zcmp x) (hy : zcmp y) (k1 : ¬ zfst x = zfst y → Z E Y d M lv tgt st Q) (k2 : zfst x = zfst y → Z E Y d M lv (pc + 3) st Q) : Z E Y d M lv pc (vr y :: vr x :: st) Q := by
  refine Z.br (c := ¬ zfst x = zfst y) (fun p l e R s m args below meth co hG H locs cells slots ls Qs hh kt kf => ?_) (fun τ hl hs => zv_tl (zv_tl hs)) (fun τ hl hs => zv_tl (zv_tl hs)) k1 (fun h => k2 (Decidable.of_not_not h))
  rw [List.map_cons, List.map_cons, zrf, zrf]
  exact lv_acmp_ne hG.1 hG.2.1 hd ht (fun h => kt (fun q => h (by rw [q]))) (fun h => kf (fun q => q (zfst_inj hG.ok hx hy h)))
def zsto (q t : Nat) : Prop := ∃ r : vw_C, zcl[t]? = some r ∧ (q = 6 ∧ Cond.castable r.1 "java/lang/Object" ∈ lw_tbl ∨ q = 7 ∧ r.1 = "ScriptTypes$Bag")
theorem z_aast {v : zP} {q : Nat} {i : Int32} (ha : 16 ≤ a) (hd : decode (zYc Y) pc = .ok (.aastore, 1)) (hi : vp_in i n) (hc : zsto q v.2.1) (kz : Z E Y d (sr M a i.toNatClampNeg (some v)) lv (pc + 1) st Q) : Z E Y d M lv pc (vr (some v) :: vi i :: vr (some (a, 100 + q, n)) :: st) Q := by
  refine Z.write (M1 := sr M a i.toNatClampNeg (some v)) rfl rfl (fun τ p l e R s m args below meth c hG H locs cells slots ls Qs hR hs hL kk => ?_) (fun τ hs => zv_tl (zv_tl (zv_tl hs))) kz
  have hv : τ a = some (100 + q, n) := zv_hd (zv_tl (zv_tl hs))
  have hw : τ v.1 = some v.2 := zv_hd hs
  obtain ⟨r, hr, hc⟩ := hc
  obtain ⟨cell, q1, q2, q3, q4⟩ := ((hR.2.2.1 v.1 v.2.1 v.2.2 hw).2).obj hr
  have hcls : s.vm.findClass r.1 = some cell.cls := by rw [q2]; exact (hG.kn.1 _ r hr).2.1
  obtain ⟨kC, hkC, -⟩ := Vm.findClass_spec hcls
  have hex : ∃ (kA kE : Class) (comp : ClassId) (C : String), s.vm.classes[zdA E q]? = some kA ∧ kA.kind = .array comp (.object C) ∧ s.vm.classes[comp]? = some kE ∧ s.vm.assignable cell.cls comp = true ∧ zqk q = 2 := by
    rcases hc with ⟨rfl, hc⟩ | ⟨rfl, hc⟩
    · obtain ⟨kA, comp, k1, k2, k3, -⟩ := (hG.kn.2 6 _ rfl).2
      obtain ⟨kE, hkE, -⟩ := Vm.findClass_spec k3
      obtain ⟨c0, t0, f1, f2, f3⟩ := Cond.castable_spec (va_Nw.use (A := args) rfl (va_Nw.warmC hG.warm (va_Nw.of rfl (hG.ok.1 _ hc))))
      cases hcls.symm.trans f1
      cases k3.symm.trans f2
      exact ⟨kA, kE, comp, _, k1, k2, hkE, f3, rfl⟩
    · obtain ⟨kA, comp, k1, k2, k3, -⟩ := (hG.kn.2 7 _ rfl).2
      obtain ⟨kE, hkE, -⟩ := Vm.findClass_spec k3
      rw [hc] at hcls
      cases hcls.symm.trans k3
      exact ⟨kA, kE, _, _, k1, k2, hkE, va_asg _ _, rfl⟩
  obtain ⟨kA, kE, comp, C, k1, k2, hkE, has, hk2⟩ := hex
  refine W.aast hG.1 hG.2.1 (hR.arr (Or.inr ha) hv) (fun q h => by cases h) (fun h => by cases h) k1 k2 rfl hkE ⟨fun h => hi (Or.inl h), by show _ < (arrV _ _ _).slots.size; rw [arrV_size]; exact zin_lt hi⟩ q1 (fun z h => by rw [q3] at h; cases h) hkC has rfl rfl hd fun H1 e1 e2 e3 => ?_
  refine kk H1 _ (hR.arrput hG.ok hv ha rfl (fun b j kd hb => ?_) e2 e3 e1 (fun j => ?_) (fun b c k p hb hp => ?_)) (zlocs hL ha)
  · match kd with
    | 0 => rfl
    | 1 => rfl
    | kd + 2 => show zcv E (vr (gr (sr M a i.toNatClampNeg (some v)) b j)) = zcv E (vr (gr M b j)); rw [gr_sr, if_neg hb]
  · rw [hk2]
    show zcv E (vr (gr (sr M a i.toNatClampNeg (some v)) a j)) = _
    rw [gr_sr, if_pos rfl]
    unfold updV
    split <;> rfl
  · rw [gr_sr] at hp
    split at hp
    · split at hp
      · cases hp; exact hw
      · exact hR.2.2.2 b c k p hb hp
    · exact hR.2.2.2 b c k p hb hp
/-- a static that is a reference -/
theorem z_gets {i : Nat} {q : String × String × String × Nat} (hd : decode (zYc Y) pc = .ok (.getstatic idx, 3)) (hq : zsta[i]? = some q) (hl : Cond.fieldLink (zYy Y).cls idx q.1 q.2.1 q.2.2.1 ∈ lw_all) (kz : Z E Y d M lv (pc + 3) (vr (zsv E q.2.2.2) :: st) Q) : Z E Y d M lv pc st Q := by
  refine Z.read (fun τ p l e R s m args below meth c hG H locs cells slots ls Qs hR hs kk => ?_) (fun τ H hR hs => zv_cons ?_ hs) kz
  · obtain ⟨cf, kf, fi, f, a, cell, h1, h2, h3, h4, h5, h6, h7, h8⟩ := va_Z.moved hG.warm.alike (hG.ok.2.2.2.2.2.2.2.2.1 i q hq)
    have h8' : a < zba E := Nat.not_le.mp h8
    exact W.gets hG.1 hG.2.1 hG.own (hG.words args _ hl) h1 h2 h3 h4 ((hR.1.2.1 a h8').trans h5) (fun e => by rw [e] at h6; cases h6) h7 rfl hd kk
  · unfold zsv
    cases h : zxt E q.2.2.2 with
    | none => trivial
    | some v => exact hR.1.2.2 q.2.2.2 v h
/-- the length of ArrayList's empty array -/
theorem z_elen (hd : decode (zYc Y) pc = .ok (.arraylength, 1)) (kz : Z E Y d M lv (pc + 1) (vi 0 :: st) Q) : Z E Y d M lv pc (vr (some (1, 110, n)) :: st) Q := by
  refine Z.read (fun τ p l e R s m args below meth c hG H locs cells slots ls Qs hR hs kk => ?_) (fun τ H hR hs => by exact zv_cons trivial (zv_tl hs)) kz
  obtain ⟨cell, h1, h2, h3, h4, h5, h6, h7⟩ := va_T.moved hG.warm.alike hG.ok.2.2.2.2.2.2.2.1
  have h7' : zex E 1 < zba E := Nat.not_le.mp h7
  exact W.alen (n := 0) hG.1 hG.2.1 ((hR.1.2.1 (zex E 1) h7').trans h1) h2 h5 rfl rfl hd kk
/-- the script's length and cells -/
theorem z_xlen (hd : decode (zYc Y) pc = .ok (.arraylength, 1)) (kz : Z E Y d M lv (pc + 1) (vi (Int32.ofNat (zxl E)) :: st) Q) : Z E Y d M lv pc (vr (some (0, 109, n)) :: st) Q := by
  refine Z.read (fun τ p l e R s m args below meth c hG H locs cells slots ls Qs hR hs kk => ?_) (fun τ H hR hs => by exact zv_cons trivial (zv_tl hs)) kz
  obtain ⟨scr, h1, h2, h3, h4, h5⟩ := va_X.moved hG.warm.alike hG.ok.2.2.2.2.2.1
  have e0 : zex E 0 = zsb E := hG.ok.2.2.2.2.2.2.1
  have hlt : zsb E < zba E := by rw [← e0]; exact hG.ok.2.2.2.1 0 (by decide)
  exact W.alen (n := Int32.ofNat (zxl E)) hG.1 hG.2.1 (a := zex E 0) (by rw [e0]; exact (hR.1.2.1 _ hlt).trans h1) h2 (by rw [h4] <;> rfl) rfl rfl hd kk
theorem z_xald {i : Int32} (hd : decode (zYc Y) pc = .ok (.iaload, 1)) (hi : vp_in i (zxl E)) (kz : Z E Y d M lv (pc + 1) (vi (zxs E i.toNatClampNeg) :: st) Q) : Z E Y d M lv pc (vi i :: vr (some (0, 109, n)) :: st) Q := by
  refine Z.read (fun τ p l e R s m args below meth c hG H locs cells slots ls Qs hR hs kk => ?_) (fun τ H hR hs => by exact zv_cons trivial (zv_tl (zv_tl hs))) kz
  obtain ⟨scr, h1, h2, h3, h4, h5⟩ := va_X.moved hG.warm.alike hG.ok.2.2.2.2.2.1
  have e0 : zex E 0 = zsb E := hG.ok.2.2.2.2.2.2.1
  have hlt : zsb E < zba E := by rw [← e0]; exact hG.ok.2.2.2.1 0 (by decide)
  exact W.iald hG.1 hG.2.1 (a := zex E 0) (by rw [e0]; exact (hR.1.2.1 _ hlt).trans h1) h2 h3 (by rw [h4]; exact hi) (h5 _ (zin_lt hi)) rfl rfl hd kk
theorem z_copyi {a0 n0 : Nat} {sp dp k : Int32} (ha : 16 ≤ a) (hd : decode (zYc Y) pc = .ok (.invokestatic idx, 3)) (hk : Cond.methodLink (zYy Y).cls idx arraycopyName ∈ lw_all) (hdd : 1 ≤ d) (hst : (st.map zcat).sum ≤ 20) (h1 : ¬ sp < 0) (h2 : ¬ dp < 0) (h3 : ¬ k < 0) (h4 : sp.toNatClampNeg + k.toNatClampNeg ≤ n0) (h5 : dp.toNatClampNeg + k.toNatClampNeg ≤ n)
    (kz : Z E Y d (cpi M a0 sp.toNatClampNeg a dp.toNatClampNeg k.toNatClampNeg) lv (pc + 3) st Q) : Z E Y d M lv pc (vi k :: vi dp :: vr (some (a, 100, n)) :: vi sp :: vr (some (a0, 100, n0)) :: st) Q := by
  obtain ⟨o, M', z1, z2, z3, hr⟩ := kz
  refine ⟨o, M', z1, z2, z3, fun τ p l e R s m args below meth c hG H locs cells slots ls hR hl hs hL hc hn hh => ?_⟩
  have hv0 : τ a0 = some (100 + 0, n0) := zv_hd (zv_tl (zv_tl (zv_tl (zv_tl hs))))
  have hv : τ a = some (100 + 0, n) := zv_hd (zv_tl (zv_tl hs))
  have hc0 : H[zrho E a0]? = some (arrV (zdA E 0) n0 (fun j => Value.int (gi M a0 j))) := hR.arr (Or.inl (by decide)) hv0
  have hc1 : H[zrho E a]? = some (arrV (zdA E 0) n (fun j => Value.int (gi M a j))) := hR.arr (Or.inl (by decide)) hv
  have hfr : d ≤ R.frames := hG.2.2.2.2.2.2.2.2.2.1
  have hlo : 41 * d ≤ R.locals := hG.2.2.2.2.2.2.2.2.2.2.1
  have hsum : ((st.map (zcv E)).map fun v => v.category).sum = (st.map zcat).sum := by
    rw [List.map_map]
    congr 1
    exact List.map_congr_left fun v _ => zcat_cv E v
  have hnw : nativeFrameWords "java/lang/System" "arraycopy" 5 ≤ 10 := by decide +kernel
  have nn : ∀ z : Int32, ¬ z < 0 → z.toInt = (z.toNatClampNeg : Int) := by
    intro z hz
    have hz0 : (0 : Int) ≤ z.toInt := by
      have := Int32.not_lt.mp hz
      simpa using Int32.le_iff_toInt_le.mp this
    show z.toInt = ((z.toInt.toNat : Nat) : Int)
    omega
  intro T hT X
  obtain ⟨-, k0, hk0, cm0, hkk0⟩ := (hG.arr 0 rfl).1 n0 (fun j => Value.int (gi M a0 j))
  obtain ⟨-, k1, hk1, cm1, hkk1⟩ := (hG.arr 0 rfl).1 n (fun j => Value.int (gi M a j))
  obtain ⟨vm', X', step⟩ := X.arraycopy hG.1 hG.own (hG.words args _ hk) (hG.words args _ q1373) (hG.words args _ q1372) (hG.words args _ q470) (src := zrho E a0) (dst := zrho E a) (cs := arrV (zdA E 0) n0 (fun j => Value.int (gi M a0 j))) (cd := arrV (zdA E 0) n (fun j => Value.int (gi M a j))) (srcPos := sp) (destPos := dp) (n := k) (by rw [hT]; exact hc0) (by rw [hT]; exact hc1)
    (fun _ h => by cases h) (fun _ h => by cases h) (fun h => by cases h) (fun h => by cases h) hk0 hk1 hkk0 hkk1 (by decide) h1 h2 h3
    (by rw [nn sp h1, nn k h3, arrV_size]; omega)
    (by rw [nn dp h2, nn k h3, arrV_size]; omega)
    (fun vm₁ _ i hi => by
      have e : (arrV (zdA E 0) n0 (fun j => Value.int (gi M a0 j))).slots.getD (sp.toNatClampNeg + i) .null = Value.int (gi M a0 (sp.toNatClampNeg + i)) := by
        rw [Array.getD_eq_getD_getElem?, arrV_read _ _ (by omega)]
        rfl
      refine ⟨?_, ?_⟩
      · rw [e]; rfl
      · rw [e]; exact trivial)
    (g := F0 m pc ls (.int k :: .int dp :: .ref (zrho E a) :: .int sp :: .ref (zrho E a0) :: st.map (zcv E))) rfl (by rw [hG.2.2.1]; exact hh.1) (rest := st.map (zcv E)) rfl (by rw [hG.2.1]; exact hd) (by omega) (by rw [hsum]; show 2 * 0 + _ + _ ≤ _; omega)
  have e1 : copied (arrV (zdA E 0) n0 (fun j => Value.int (gi M a0 j))) (arrV (zdA E 0) n (fun j => Value.int (gi M a j))) sp dp k = arrV (zdA E 0) n (fun j => Value.int (va_cpy (gi M a0) (gi M a) sp.toNatClampNeg dp.toNatClampNeg k.toNatClampNeg j)) := va_copied (fun z => Value.int z) (zdA E 0) (zdA E 0) (gi M a0) (gi M a) h4
  rw [e1] at X' step
  have hlt : zrho E a < H.size := (Array.getElem?_eq_some_iff.mp hc1).1
  have hheap : ((T.setVm vm').setCell (zrho E a) (arrV (zdA E 0) n (fun j => Value.int (va_cpy (gi M a0) (gi M a) sp.toNatClampNeg dp.toNatClampNeg k.toNatClampNeg j)))).heap = H.setIfInBounds (zrho E a) (arrV (zdA E 0) n (fun j => Value.int (va_cpy (gi M a0) (gi M a) sp.toNatClampNeg dp.toNatClampNeg k.toNatClampNeg j))) := by rw [← hT]; rfl
  have hR1 : zrel E τ (cpi M a0 sp.toNatClampNeg a dp.toNatClampNeg k.toNatClampNeg) (H.setIfInBounds (zrho E a) (arrV (zdA E 0) n (fun j => Value.int (va_cpy (gi M a0) (gi M a) sp.toNatClampNeg dp.toNatClampNeg k.toNatClampNeg j)))) := by
    refine hR.put hG.ok hv ha rfl (fun b j kd hb => ?_) (by simp) (fun x hx => by simp [Array.getElem?_setIfInBounds, Ne.symm hx]) ?_ hR.2.2.2
    · match kd with
      | 0 => show Value.int (if b = a then _ else gi M b j) = _; rw [if_neg hb]; rfl
      | 1 => rfl
      | kd + 2 => rfl
    · unfold zcell
      rw [if_neg (by decide)]
      refine Or.inl ⟨by decide, ?_⟩
      rw [show (H.setIfInBounds (zrho E a) (arrV (zdA E 0) n (fun j => Value.int (va_cpy (gi M a0) (gi M a) sp.toNatClampNeg dp.toNatClampNeg k.toNatClampNeg j))))[zrho E a]? = some (arrV (zdA E 0) n (fun j => Value.int (va_cpy (gi M a0) (gi M a) sp.toNatClampNeg dp.toNatClampNeg k.toNatClampNeg j))) by simp [Array.getElem?_setIfInBounds, hlt]]
      congr 2
      funext j
      show _ = Value.int (if a = a then _ else _)
      rw [if_pos rfl]
  obtain ⟨t, a1, b1⟩ := hr τ p l e R s m args below meth c hG _ _ cells slots ls hR1 hl (zv_tl (zv_tl (zv_tl (zv_tl (zv_tl hs))))) (fun q hq => by
      rcases List.mem_append.mp hq with h | h
      · exact hL q h
      · obtain ⟨z, -, hz⟩ := List.mem_map.mp h
        rw [← hz]
        exact zrho_ge ha) hc hn hh _ hheap X'
  exact ⟨t, step t a1, b1⟩
theorem z_copyl {a0 n0 : Nat} {sp dp k : Int32} (ha : 16 ≤ a) (hd : decode (zYc Y) pc = .ok (.invokestatic idx, 3)) (hk : Cond.methodLink (zYy Y).cls idx arraycopyName ∈ lw_all) (hdd : 1 ≤ d) (hst : (st.map zcat).sum ≤ 20) (h1 : ¬ sp < 0) (h2 : ¬ dp < 0) (h3 : ¬ k < 0) (h4 : sp.toNatClampNeg + k.toNatClampNeg ≤ n0) (h5 : dp.toNatClampNeg + k.toNatClampNeg ≤ n)
    (kz : Z E Y d (cpl M a0 sp.toNatClampNeg a dp.toNatClampNeg k.toNatClampNeg) lv (pc + 3) st Q) : Z E Y d M lv pc (vi k :: vi dp :: vr (some (a, 105, n)) :: vi sp :: vr (some (a0, 105, n0)) :: st) Q := by
  obtain ⟨o, M', z1, z2, z3, hr⟩ := kz
  refine ⟨o, M', z1, z2, z3, fun τ p l e R s m args below meth c hG H locs cells slots ls hR hl hs hL hc hn hh => ?_⟩
  have hv0 : τ a0 = some (100 + 5, n0) := zv_hd (zv_tl (zv_tl (zv_tl (zv_tl hs))))
  have hv : τ a = some (100 + 5, n) := zv_hd (zv_tl (zv_tl hs))
  have hc0 : H[zrho E a0]? = some (arrV (zdA E 5) n0 (fun j => Value.long (gl M a0 j))) := hR.arr (Or.inl (by decide)) hv0
  have hc1 : H[zrho E a]? = some (arrV (zdA E 5) n (fun j => Value.long (gl M a j))) := hR.arr (Or.inl (by decide)) hv
  have hfr : d ≤ R.frames := hG.2.2.2.2.2.2.2.2.2.1
  have hlo : 41 * d ≤ R.locals := hG.2.2.2.2.2.2.2.2.2.2.1
  have hsum : ((st.map (zcv E)).map fun v => v.category).sum = (st.map zcat).sum := by
    rw [List.map_map]
    congr 1
    exact List.map_congr_left fun v _ => zcat_cv E v
  have hnw : nativeFrameWords "java/lang/System" "arraycopy" 5 ≤ 10 := by decide +kernel
  have nn : ∀ z : Int32, ¬ z < 0 → z.toInt = (z.toNatClampNeg : Int) := by
    intro z hz
    have hz0 : (0 : Int) ≤ z.toInt := by
      have := Int32.not_lt.mp hz
      simpa using Int32.le_iff_toInt_le.mp this
    show z.toInt = ((z.toInt.toNat : Nat) : Int)
    omega
  intro T hT X
  obtain ⟨-, k0, hk0, cm0, hkk0⟩ := (hG.arr 5 rfl).1 n0 (fun j => Value.long (gl M a0 j))
  obtain ⟨-, k1, hk1, cm1, hkk1⟩ := (hG.arr 5 rfl).1 n (fun j => Value.long (gl M a j))
  obtain ⟨vm', X', step⟩ := X.arraycopy hG.1 hG.own (hG.words args _ hk) (hG.words args _ q1373) (hG.words args _ q1372) (hG.words args _ q470) (src := zrho E a0) (dst := zrho E a) (cs := arrV (zdA E 5) n0 (fun j => Value.long (gl M a0 j))) (cd := arrV (zdA E 5) n (fun j => Value.long (gl M a j))) (srcPos := sp) (destPos := dp) (n := k) (by rw [hT]; exact hc0) (by rw [hT]; exact hc1)
    (fun _ h => by cases h) (fun _ h => by cases h) (fun h => by cases h) (fun h => by cases h) hk0 hk1 hkk0 hkk1 (by decide) h1 h2 h3
    (by rw [nn sp h1, nn k h3, arrV_size]; omega)
    (by rw [nn dp h2, nn k h3, arrV_size]; omega)
    (fun vm₁ _ i hi => by
      have e : (arrV (zdA E 5) n0 (fun j => Value.long (gl M a0 j))).slots.getD (sp.toNatClampNeg + i) .null = Value.long (gl M a0 (sp.toNatClampNeg + i)) := by
        rw [Array.getD_eq_getD_getElem?, arrV_read _ _ (by omega)]
        rfl
      refine ⟨?_, ?_⟩
      · rw [e]; rfl
      · rw [e]; exact trivial)
    (g := F0 m pc ls (.int k :: .int dp :: .ref (zrho E a) :: .int sp :: .ref (zrho E a0) :: st.map (zcv E))) rfl (by rw [hG.2.2.1]; exact hh.1) (rest := st.map (zcv E)) rfl (by rw [hG.2.1]; exact hd) (by omega) (by rw [hsum]; show 2 * 0 + _ + _ ≤ _; omega)
  have e1 : copied (arrV (zdA E 5) n0 (fun j => Value.long (gl M a0 j))) (arrV (zdA E 5) n (fun j => Value.long (gl M a j))) sp dp k = arrV (zdA E 5) n (fun j => Value.long (va_cpy (gl M a0) (gl M a) sp.toNatClampNeg dp.toNatClampNeg k.toNatClampNeg j)) := va_copied (fun z => Value.long z) (zdA E 5) (zdA E 5) (gl M a0) (gl M a) h4
  rw [e1] at X' step
  have hlt : zrho E a < H.size := (Array.getElem?_eq_some_iff.mp hc1).1
  have hheap : ((T.setVm vm').setCell (zrho E a) (arrV (zdA E 5) n (fun j => Value.long (va_cpy (gl M a0) (gl M a) sp.toNatClampNeg dp.toNatClampNeg k.toNatClampNeg j)))).heap = H.setIfInBounds (zrho E a) (arrV (zdA E 5) n (fun j => Value.long (va_cpy (gl M a0) (gl M a) sp.toNatClampNeg dp.toNatClampNeg k.toNatClampNeg j))) := by rw [← hT]; rfl
  have hR1 : zrel E τ (cpl M a0 sp.toNatClampNeg a dp.toNatClampNeg k.toNatClampNeg) (H.setIfInBounds (zrho E a) (arrV (zdA E 5) n (fun j => Value.long (va_cpy (gl M a0) (gl M a) sp.toNatClampNeg dp.toNatClampNeg k.toNatClampNeg j)))) := by
    refine hR.put hG.ok hv ha rfl (fun b j kd hb => ?_) (by simp) (fun x hx => by simp [Array.getElem?_setIfInBounds, Ne.symm hx]) ?_ hR.2.2.2
    · match kd with
      | 0 => rfl
      | 1 => show Value.long (if b = a then _ else gl M b j) = _; rw [if_neg hb]; rfl
      | kd + 2 => rfl
    · unfold zcell
      rw [if_neg (by decide)]
      refine Or.inl ⟨by decide, ?_⟩
      rw [show (H.setIfInBounds (zrho E a) (arrV (zdA E 5) n (fun j => Value.long (va_cpy (gl M a0) (gl M a) sp.toNatClampNeg dp.toNatClampNeg k.toNatClampNeg j))))[zrho E a]? = some (arrV (zdA E 5) n (fun j => Value.long (va_cpy (gl M a0) (gl M a) sp.toNatClampNeg dp.toNatClampNeg k.toNatClampNeg j))) by simp [Array.getElem?_setIfInBounds, hlt]]
      congr 2
      funext j
      show _ = Value.long (if a = a then _ else _)
      rw [if_pos rfl]
  obtain ⟨t, a1, b1⟩ := hr τ p l e R s m args below meth c hG _ _ cells slots ls hR1 hl (zv_tl (zv_tl (zv_tl (zv_tl (zv_tl hs))))) (fun q hq => by
      rcases List.mem_append.mp hq with h | h
      · exact hL q h
      · obtain ⟨z, -, hz⟩ := List.mem_map.mp h
        rw [← hz]
        exact zrho_ge ha) hc hn hh _ hheap X'
  exact ⟨t, step t a1, b1⟩
end
