/-! rows of Z: Object[].class, getClass, copies of references, null into an array; Arrays.copyOf -/
def cpr (M : zM) (a0 i0 a i n : Nat) : zM := (M.1, M.2.1, M.2.2.1, (fun b j => if b = a then va_cpy (gr M a0) (gr M a) i0 i n j else gr M b j))
theorem gr_cpr (M : zM) (a0 i0 a i n b j : Nat) : gr (cpr M a0 i0 a i n) b j = if b = a then va_cpy (gr M a0) (gr M a) i0 i n j else gr M b j := rfl
section
variable {E : zE} {Y : zY} {d : Nat} {M : zM} {lv : List (Nat × zV)} {a n idx pc : Nat} {st : List zV} {Q : zO → zM → Prop}
theorem zG.mir {p : Program} {l : Launch} {R : Room} {s : State} {m : MethodId} {meth : Method} {c : Code} (hG : zG E Y d p l R s m meth c) (args : Array Value) : (Term.mirror "[Ljava/lang/Object;").eval args s none [] s = some (.ref (zex E 15)) := by
  obtain ⟨c', k, a, h1, h2, h3, h4⟩ := Term.mirror_spec hG.ok.2.2.2.2.2.2.2.2.2.2.2.2
  cases h4
  obtain ⟨k', hk', hm, -⟩ := hG.warm.mirror h2
  have h1' : s.vm.findClass "[Ljava/lang/Object;" = some c' := by rw [hG.warm.alike.findClass]; exact h1
  simp only [Term.eval, h1', hk', hm, h3, Option.bind_some, Option.bind_eq_bind, Option.pure_def]
theorem z_ldcm (hd : decode (zYc Y) pc = .ok (.ldc idx, 2)) (hl : Cond.classLink (zYy Y).cls idx "[Ljava/lang/Object;" ∈ lw_all) (kz : Z E Y d M lv (pc + 2) (vr (some (15, 108, 0)) :: st) Q) : Z E Y d M lv pc st Q := by
  refine Z.read (fun τ p l e R s m args below meth c hG H locs cells slots ls Qs hR hs kk => ?_) (fun τ H hR hs => zv_cons (show zvv τ (vr (some (15, 108, 0))) from hR.1.2.2 15 (108, 0) rfl) hs) kz
  intro T hT X
  obtain ⟨vm', X', step⟩ := X.ldcMirror hG.1 hG.own (hG.words args _ hl) (hG.mir args) (g := F0 m pc ls (st.map (zcv E))) rfl (by rw [hG.2.1]; exact hd)
  obtain ⟨t, a1, b1⟩ := kk (T.setVm vm') hT X'
  exact ⟨t, step t a1, b1⟩
theorem z_getc (hd : decode (zYc Y) pc = .ok (.invokevirtual idx, 3)) (hl : Cond.methodLink (zYy Y).cls idx ⟨"java/lang/Object", "getClass", "()Ljava/lang/Class;"⟩ ∈ lw_all) (hdd : 1 ≤ d) (hst : (st.map zcat).sum ≤ 20) (kz : Z E Y d M lv (pc + 3) (vr (some (15, 108, 0)) :: st) Q) : Z E Y d M lv pc (vr (some (a, 106, n)) :: st) Q := by
  obtain ⟨o, M', z1, z2, z3, hr⟩ := kz
  refine ⟨o, M', z1, z2, z3, fun τ p l e R s m args below meth c hG H locs cells slots ls hR hl' hs hL hc hn hh => ?_⟩
  have hv : τ a = some (100 + 6, n) := zv_hd hs
  have hc1 : H[zrho E a]? = some (arrV (zdA E 6) n (fun j => zfv E M a j (zqk 6))) := hR.arr (Or.inl (by decide)) hv
  have hfr : d ≤ R.frames := hG.2.2.2.2.2.2.2.2.2.1
  have hlo : 41 * d ≤ R.locals := hG.2.2.2.2.2.2.2.2.2.2.1
  have hsum : ((st.map (zcv E)).map fun v => v.category).sum = (st.map zcat).sum := by
    rw [List.map_map]
    congr 1
    exact List.map_congr_left fun v _ => zcat_cv E v
  intro T hT X
  obtain ⟨-, kA, comp, k1, k2, k3, k4⟩ := hG.kn.2 6 _ rfl
  obtain ⟨vm', X', step⟩ := X.getClass hG.1 hG.own (hG.words args _ hl) (hG.words args _ q1315) (hG.words args _ q1361) (hG.words args _ q1314) (hG.words args _ q5219) (a := zrho E a) (by rw [hT]; exact hc1) (fun k h => by cases h) (show s.vm.findClass "[Ljava/lang/Object;" = some (zdA E 6) from k4) (hG.mir args) (g := F0 m pc ls (.ref (zrho E a) :: st.map (zcv E))) rfl (by rw [hG.2.2.1]; exact hh.1) (rest := st.map (zcv E)) rfl (by rw [hG.2.1]; exact hd) (by omega) (by rw [hsum]; show 2 * 0 + _ + _ ≤ _; omega)
  obtain ⟨t, a1, b1⟩ := hr τ p l e R s m args below meth c hG H locs cells slots ls hR hl' (zv_cons (show zvv τ (vr (some (15, 108, 0))) from hR.1.2.2 15 (108, 0) rfl) (zv_tl hs)) hL hc hn hh (T.setVm vm') hT X'
  exact ⟨t, step t a1, b1⟩
theorem z_acmp_neS {q : zP} {off : Int} {tgt : Nat} (hd : decode (zYc Y) pc = .ok (.if_acmp .ne off, 3)) (ht : (pc : Int) + off = (tgt : Int)) (kz : Z E Y d M lv (pc + 3) st Q) : Z E Y d M lv pc (vr (some q) :: vr (some q) :: st) Q := by
  refine Z.br (c := False) (pc1 := tgt) (st1 := st) (fun p l e R s m args below meth co hG H locs cells slots ls Qs hh kt kf => ?_) (fun τ hl hs => zv_tl (zv_tl hs)) (fun τ hl hs => zv_tl (zv_tl hs)) (fun h => h.elim) (fun _ => kz)
  rw [List.map_cons, List.map_cons, zrf]
  exact lv_acmp_ne hG.1 hG.2.1 hd ht (fun h => (h rfl).elim) (fun _ => kf (fun q => q))
theorem z_aastN {q : Nat} {i : Int32} (hq : q = 6) (ha : 16 ≤ a) (hd : decode (zYc Y) pc = .ok (.aastore, 1)) (hi : vp_in i n) (kz : Z E Y d (sr M a i.toNatClampNeg none) lv (pc + 1) st Q) : Z E Y d M lv pc (vr none :: vi i :: vr (some (a, 100 + q, n)) :: st) Q := by
  subst hq
  refine Z.write (M1 := sr M a i.toNatClampNeg none) rfl rfl (fun τ p l e R s m args below meth c hG H locs cells slots ls Qs hR hs hL kk => ?_) (fun τ hs => zv_tl (zv_tl (zv_tl hs))) kz
  have hv : τ a = some (100 + 6, n) := zv_hd (zv_tl (zv_tl hs))
  refine va_WaastN (C := "java/lang/Object") hG.1 hG.2.1 (hR.arr (Or.inr ha) hv) ((hG.kn.2 6 _ rfl).1 n _) (fun h => by cases h) (zin hi) rfl rfl hd fun H1 e1 e2 e3 => ?_
  refine kk H1 _ (hR.arrput hG.ok hv ha rfl (fun b j kd hb => ?_) e2 e3 e1 (fun j => ?_) (fun b c k p hb hp => ?_)) (zlocs hL ha)
  · match kd with
    | 0 => rfl
    | 1 => rfl
    | kd + 2 => show zcv E (vr (gr (sr M a i.toNatClampNeg none) b j)) = zcv E (vr (gr M b j)); rw [gr_sr, if_neg hb]
  · show zcv E (vr (gr (sr M a i.toNatClampNeg none) a j)) = _
    rw [gr_sr, if_pos rfl]
    unfold updV
    split <;> rfl
  · rw [gr_sr] at hp
    split at hp
    · split at hp
      · cases hp
      · exact hR.2.2.2 b c k p hb hp
    · exact hR.2.2.2 b c k p hb hp
theorem z_copyr {a0 n0 : Nat} {sp dp k : Int32} (ha : 16 ≤ a) (hd : decode (zYc Y) pc = .ok (.invokestatic idx, 3)) (hk : Cond.methodLink (zYy Y).cls idx arraycopyName ∈ lw_all) (hdd : 1 ≤ d) (hst : (st.map zcat).sum ≤ 20) (h1 : ¬ sp < 0) (h2 : ¬ dp < 0) (h3 : ¬ k < 0) (h4 : sp.toNatClampNeg + k.toNatClampNeg ≤ n0) (h5 : dp.toNatClampNeg + k.toNatClampNeg ≤ n) (hz : ∀ i p, i < k.toNatClampNeg → gr M a0 (sp.toNatClampNeg + i) = some p → zsto 6 p.2.1)
    (kz : Z E Y d (cpr M a0 sp.toNatClampNeg a dp.toNatClampNeg k.toNatClampNeg) lv (pc + 3) st Q) : Z E Y d M lv pc (vi k :: vi dp :: vr (some (a, 106, n)) :: vi sp :: vr (some (a0, 106, n0)) :: st) Q := by
  obtain ⟨o, M', z1, z2, z3, hr⟩ := kz
  refine ⟨o, M', z1, z2, z3, fun τ p l e R s m args below meth c hG H locs cells slots ls hR hl hs hL hc hn hh => ?_⟩
  have hv0 : τ a0 = some (100 + 6, n0) := zv_hd (zv_tl (zv_tl (zv_tl (zv_tl hs))))
  have hv : τ a = some (100 + 6, n) := zv_hd (zv_tl (zv_tl hs))
  have hc0 : H[zrho E a0]? = some (arrV (zdA E 6) n0 (fun j => zcv E (vr (gr M a0 j)))) := hR.arr (Or.inl (by decide)) hv0
  have hc1 : H[zrho E a]? = some (arrV (zdA E 6) n (fun j => zcv E (vr (gr M a j)))) := hR.arr (Or.inl (by decide)) hv
  have hfr : d ≤ R.frames := hG.2.2.2.2.2.2.2.2.2.1
  have hlo : 41 * d ≤ R.locals := hG.2.2.2.2.2.2.2.2.2.2.1
  have hsum : ((st.map (zcv E)).map fun v => v.category).sum = (st.map zcat).sum := by
    rw [List.map_map]
    congr 1
    exact List.map_congr_left fun v _ => zcat_cv E v
  have hnw : nativeFrameWords "java/lang/System" "arraycopy" 5 ≤ 10 := by decide +kernel
  have nn : ∀ z : Int32, ¬ z < 0 → z.toInt = (z.toNatClampNeg : Int) := by
    intro z hz
    have hz0 : (0 : Int) ≤ z.toInt := by
      have := Int32.not_lt.mp hz
      simpa using Int32.le_iff_toInt_le.mp this
    show z.toInt = ((z.toInt.toNat : Nat) : Int)
    omega
  intro T hT X
  obtain ⟨-, kA, comp, k1, k2, k3, k4⟩ := hG.kn.2 6 _ rfl
  obtain ⟨vm', X', step⟩ := X.arraycopy hG.1 hG.own (hG.words args _ hk) (hG.words args _ q1373) (hG.words args _ q1372) (hG.words args _ q470) (src := zrho E a0) (dst := zrho E a) (cs := arrV (zdA E 6) n0 (fun j => zcv E (vr (gr M a0 j)))) (cd := arrV (zdA E 6) n (fun j => zcv E (vr (gr M a j)))) (srcPos := sp) (destPos := dp) (n := k) (by rw [hT]; exact hc0) (by rw [hT]; exact hc1)
    (fun _ h => by cases h) (fun _ h => by cases h) (fun h => by cases h) (fun h => by cases h) k1 k1 k2 k2 (by decide) h1 h2 h3
    (by rw [nn sp h1, nn k h3, arrV_size]; omega)
    (by rw [nn dp h2, nn k h3, arrV_size]; omega)
    (fun vm₁ hA i hi => by
      have e : (arrV (zdA E 6) n0 (fun j => zcv E (vr (gr M a0 j)))).slots.getD (sp.toNatClampNeg + i) .null = zcv E (vr (gr M a0 (sp.toNatClampNeg + i))) := by
        rw [Array.getD_eq_getD_getElem?, arrV_read _ _ (by omega)]
        rfl
      rw [e]
      cases hg : gr M a0 (sp.toNatClampNeg + i) with
      | none => exact ⟨rfl, trivial⟩
      | some v =>
        have hw : τ v.1 = some v.2 := hR.2.2.2 a0 _ _ v hv0 hg
        obtain ⟨r, hr', hc'⟩ := hz i v hi hg
        obtain ⟨cell, q1, q2, q3, q4⟩ := ((hR.2.2.1 v.1 v.2.1 v.2.2 hw).2).obj hr'
        have hcls : s.vm.findClass r.1 = some cell.cls := by rw [q2]; exact (hG.kn.1 _ r hr').2.1
        obtain ⟨kC, hkC, -⟩ := Vm.findClass_spec hcls
        have hc6 : Cond.castable r.1 "java/lang/Object" ∈ lw_tbl := hc'.elim (fun h => h.2) (fun h => absurd h.1 (by decide))
        obtain ⟨c0, t0, f1, f2, f3⟩ := Cond.castable_spec (va_Nw.use (A := args) rfl (va_Nw.warmC hG.warm (va_Nw.of rfl (hG.ok.1 _ hc6))))
        cases hcls.symm.trans f1
        cases k3.symm.trans f2
        obtain ⟨kE, hkE, -⟩ := Vm.findClass_spec k3
        obtain ⟨kC', hkC', -⟩ := hA.2.2 _ _ hkC
        obtain ⟨kE', hkE', -⟩ := hA.2.2 _ _ hkE
        exact ⟨rfl, cell, by show T.heap[_]? = _; rw [hT]; exact q1, (fun k h => by rw [q3] at h; cases h), ⟨kC', hkC'⟩, ⟨kE', hkE'⟩, by show vm₁.assignable _ _ = true; rw [hA.assignable]; exact f3⟩)
    (g := F0 m pc ls (.int k :: .int dp :: .ref (zrho E a) :: .int sp :: .ref (zrho E a0) :: st.map (zcv E))) rfl (by rw [hG.2.2.1]; exact hh.1) (rest := st.map (zcv E)) rfl (by rw [hG.2.1]; exact hd) (by omega) (by rw [hsum]; show 2 * 0 + _ + _ ≤ _; omega)
  have e1 : copied (arrV (zdA E 6) n0 (fun j => zcv E (vr (gr M a0 j)))) (arrV (zdA E 6) n (fun j => zcv E (vr (gr M a j)))) sp dp k = arrV (zdA E 6) n (fun j => zcv E (vr (va_cpy (gr M a0) (gr M a) sp.toNatClampNeg dp.toNatClampNeg k.toNatClampNeg j))) := va_copied (fun z => zcv E (vr z)) (zdA E 6) (zdA E 6) (gr M a0) (gr M a) h4
  rw [e1] at X' step
  have hlt : zrho E a < H.size := (Array.getElem?_eq_some_iff.mp hc1).1
  have hheap : ((T.setVm vm').setCell (zrho E a) (arrV (zdA E 6) n (fun j => zcv E (vr (va_cpy (gr M a0) (gr M a) sp.toNatClampNeg dp.toNatClampNeg k.toNatClampNeg j))))).heap = H.setIfInBounds (zrho E a) (arrV (zdA E 6) n (fun j => zcv E (vr (va_cpy (gr M a0) (gr M a) sp.toNatClampNeg dp.toNatClampNeg k.toNatClampNeg j)))) := by rw [← hT]; rfl
  have hR1 : zrel E τ (cpr M a0 sp.toNatClampNeg a dp.toNatClampNeg k.toNatClampNeg) (H.setIfInBounds (zrho E a) (arrV (zdA E 6) n (fun j => zcv E (vr (va_cpy (gr M a0) (gr M a) sp.toNatClampNeg dp.toNatClampNeg k.toNatClampNeg j))))) := by
    refine hR.put hG.ok hv ha rfl (fun b j kd hb => ?_) (by simp) (fun x hx => by simp [Array.getElem?_setIfInBounds, Ne.symm hx]) ?_ (fun b c k p hb hp => by
      rw [gr_cpr] at hp
      split at hp
      · unfold va_cpy at hp
        split at hp
        · exact hR.2.2.2 a0 _ _ p hv0 hp
        · exact hR.2.2.2 a _ _ p hv hp
      · exact hR.2.2.2 b c k p hb hp)
    · match kd with
      | 0 => rfl
      | 1 => rfl
      | kd + 2 => show zcv E (vr (if b = a then _ else gr M b j)) = _; rw [if_neg hb]; rfl
    · unfold zcell
      rw [if_neg (by decide)]
      refine Or.inl ⟨by decide, ?_⟩
      rw [show (H.setIfInBounds (zrho E a) (arrV (zdA E 6) n (fun j => zcv E (vr (va_cpy (gr M a0) (gr M a) sp.toNatClampNeg dp.toNatClampNeg k.toNatClampNeg j)))))[zrho E a]? = some (arrV (zdA E 6) n (fun j => zcv E (vr (va_cpy (gr M a0) (gr M a) sp.toNatClampNeg dp.toNatClampNeg k.toNatClampNeg j)))) by simp [Array.getElem?_setIfInBounds, hlt]]
      congr 2
      funext j
      show _ = zcv E (vr (if a = a then _ else _))
      rw [if_pos rfl]
  obtain ⟨t, a1, b1⟩ := hr τ p l e R s m args below meth c hG _ _ cells slots ls hR1 hl (zv_tl (zv_tl (zv_tl (zv_tl (zv_tl hs))))) (fun q hq => by
      rcases List.mem_append.mp hq with h | h
      · exact hL q h
      · obtain ⟨z, -, hz⟩ := List.mem_map.mp h
        rw [← hz]
        exact zrho_ge ha) hc hn hh _ hheap X'
  exact ⟨t, step t a1, b1⟩end
/-! java/util/Arrays.copyOf -/
theorem bJ12_copyOf_0 : zdec cJ12_copyOf 0 [(0, .aload_n 0, 1), (1, .iload_n 1, 1), (2, .aload_n 0, 1), (3, .invokevirtual 86, 3), (6, .invokestatic 300, 3), (9, .areturn, 1)] = true := by decide +kernel
theorem bJ12_copyOf_2_0 : zdec cJ12_copyOf_2 0 [(0, .aload_n 2, 1), (1, .ldc 110, 2), (3, .if_acmp .ne 10, 3), (6, .iload_n 1, 1), (7, .anewarray 2, 3), (10, .goto 14, 3)] = true := by decide +kernel
theorem bJ12_copyOf_2_24 : zdec cJ12_copyOf_2 24 [(24, .astore_n 3, 1), (25, .aload_n 0, 1), (26, .iconst 0, 1), (27, .aload_n 3, 1), (28, .iconst 0, 1), (29, .aload_n 0, 1), (30, .arraylength, 1), (31, .iload_n 1, 1), (32, .invokestatic 304, 3), (35, .invokestatic 150, 3), (38, .aload_n 3, 1), (39, .areturn, 1)] = true := by decide +kernel
section
variable {E : zE} {d : Nat} {Q : zO → zM → Prop}
theorem sJ12_copyOf_0 (M : zM) (b m : Nat) (l1 : Int32) (k : Z E YJ12_copyOf_2 d M (zargs 0 [vr (some (b, 106, m)), vi l1, vr (some (15, 108, 0))]) 0 [] (zafter E YJ12_copyOf (d + 1) [] 6 3 [] Q)) : Z E YJ12_copyOf (d + 1) M [(0, vr (some (b, 106, m))), (1, vi l1)] 0 [] Q := by
  refine z_aload_n (zdec_at bJ12_copyOf_0 0 rfl) rfl rfl ?_
  refine z_iload_n (zdec_at bJ12_copyOf_0 1 rfl) rfl rfl ?_
  refine z_aload_n (zdec_at bJ12_copyOf_0 2 rfl) rfl rfl ?_
  refine z_getc (zdec_at bJ12_copyOf_0 3 rfl) q1313 (by omega) (Nat.le_of_ble_eq_true rfl) ?_
  refine Z.pick [] rfl ?_
  exact z_callS (as := [vr (some (b, 106, m)), vi l1, vr (some (15, 108, 0))]) (st := []) (zdec_at bJ12_copyOf_0 4 rfl) ssJ12_300 (Nat.le_refl _) (Nat.le_of_ble_eq_true rfl) (Nat.le_of_ble_eq_true rfl) rfl k
theorem sJ12_copyOf_9 (M : zM) (u0 : Option zP) (k : Q (.inl (some (vr u0))) M) : Z E YJ12_copyOf (d + 1) M [] 9 [vr u0] Q := z_aret (zdec_at bJ12_copyOf_0 5 rfl) rfl rfl k
theorem sJ12_copyOf_2_0 (M : zM) (b m : Nat) (l1 : Int32) (hl : ¬ l1 < 0 ∧ l1.toNatClampNeg * 4 ≤ 536870912) (k : Z E YJ11_min d (zn M l1.toNatClampNeg) (zargs 0 [vi (Int32.ofNat m), vi l1]) 0 [] (zafter E YJ12_copyOf_2 (d + 1) [(3, vr (some (zsz M, 106, l1.toNatClampNeg)))] 32 3 [vi 0, vr (some (zsz M, 106, l1.toNatClampNeg)), vi 0, vr (some (b, 106, m))] Q)) : Z E YJ12_copyOf_2 (d + 1) M [(0, vr (some (b, 106, m))), (1, vi l1), (2, vr (some (15, 108, 0)))] 0 [] Q := by
  refine z_aload_n (zdec_at bJ12_copyOf_2_0 0 rfl) rfl rfl ?_
  refine z_ldcm (zdec_at bJ12_copyOf_2_0 1 rfl) q1365 ?_
  refine z_acmp_neS (tgt := 13) (zdec_at bJ12_copyOf_2_0 2 rfl) rfl ?_
  refine z_iload_n (zdec_at bJ12_copyOf_2_0 3 rfl) rfl rfl ?_
  refine z_anew (q := 6) (N := l1.toNatClampNeg) (zdec_at bJ12_copyOf_2_0 4 rfl) (Or.inl ⟨rfl, rfl⟩) q1367 q1366 hl.1 rfl hl.2 ?_
  refine z_goto (tgt := 24) (zdec_at bJ12_copyOf_2_0 5 rfl) rfl ?_
  refine z_ast_n (zdec_at bJ12_copyOf_2_24 0 rfl) rfl (by decide) (lv' := [(0, vr (some (b, 106, m))), (1, vi l1), (2, vr (some (15, 108, 0))), (3, vr (some (zsz M, 106, l1.toNatClampNeg)))]) rfl ?_
  refine z_aload_n (zdec_at bJ12_copyOf_2_24 1 rfl) rfl rfl ?_
  refine z_iconst (v := 0) (zdec_at bJ12_copyOf_2_24 2 rfl) rfl ?_
  refine z_aload_n (zdec_at bJ12_copyOf_2_24 3 rfl) rfl rfl ?_
  refine z_iconst (v := 0) (zdec_at bJ12_copyOf_2_24 4 rfl) rfl ?_
  refine z_aload_n (zdec_at bJ12_copyOf_2_24 5 rfl) rfl rfl ?_
  refine z_alen (q := 6) (v := Int32.ofNat m) (zdec_at bJ12_copyOf_2_24 6 rfl) rfl ?_
  refine z_iload_n (zdec_at bJ12_copyOf_2_24 7 rfl) rfl rfl ?_
  refine Z.pick [3] rfl ?_
  exact z_callS (as := [vi (Int32.ofNat m), vi l1]) (st := [vi 0, vr (some (zsz M, 106, l1.toNatClampNeg)), vi 0, vr (some (b, 106, m))]) (zdec_at bJ12_copyOf_2_24 8 rfl) ssJ12_304 (Nat.le_refl _) (Nat.le_of_ble_eq_true rfl) (Nat.le_of_ble_eq_true rfl) rfl k
theorem sJ12_copyOf_2_35 (M : zM) (b m a n : Nat) (s0 : Int32) (ha : 16 ≤ a) (h3 : ¬ s0 < 0) (h4 : s0.toNatClampNeg ≤ m) (h5 : s0.toNatClampNeg ≤ n) (hz : ∀ i p, i < s0.toNatClampNeg → gr M b i = some p → zsto 6 p.2.1) (k : Q (.inl (some (vr (some (a, 106, n))))) (cpr M b 0 a 0 s0.toNatClampNeg)) : Z E YJ12_copyOf_2 (d + 1) M [(3, vr (some (a, 106, n)))] 35 [vi s0, vi 0, vr (some (a, 106, n)), vi 0, vr (some (b, 106, m))] Q := by
  refine z_copyr ha (zdec_at bJ12_copyOf_2_24 9 rfl) q1371 (by omega) (Nat.le_of_ble_eq_true rfl) (by decide) (by decide) h3 (by show 0 + _ ≤ _; omega) (by show 0 + _ ≤ _; omega) (fun i p hi hp => hz i p hi (by rw [← hp]; congr 1; show i = 0 + i; omega)) ?_
  refine z_aload_n (zdec_at bJ12_copyOf_2_24 10 rfl) rfl rfl ?_
  exact z_aret (zdec_at bJ12_copyOf_2_24 11 rfl) rfl rfl k
/-- Arrays.copyOf(Object[], int): a longer one -/
theorem l_copyOf {M : zM} {b m n : Nat} (hn : n < 1000000) (hmn : m ≤ n) (h16 : 16 ≤ zsz M) (hz : ∀ i p, i < m → gr M b i = some p → zsto 6 p.2.1) (hb : b ≠ zsz M) (hQ : Q (.inl (some (vr (some (zsz M, 106, n))))) (cpr (zn M n) b 0 (zsz M) 0 m)) : Z E YJ12_copyOf (d + 2) M [(0, vr (some (b, 106, m))), (1, vi (nI n))] 0 [] Q := by
  refine sJ12_copyOf_0 M b m (nI n) ?_
  have c1 : (nI n).toNatClampNeg = n := nI_clamp (by omega)
  have c2 : (Int32.ofNat m).toNatClampNeg = m := nI_clamp (by omega)
  have c3 : ∀ x : Nat, x < 2 ^ 31 → ¬ nI x < 0 := fun x hx => nI_nlt (b := 0) (Nat.zero_le _) hx
  refine sJ12_copyOf_2_0 M b m (nI n) ⟨c3 n (by omega), by rw [c1]; omega⟩ ?_
  rw [c1]
  refine sJ11_min_0 _ _ _ ?_
  have fin : Z E YJ12_copyOf_2 (d + 1) (zn M n) [(3, vr (some (zsz M, 106, n)))] 35 [vi (nI m), vi 0, vr (some (zsz M, 106, n)), vi 0, vr (some (b, 106, m))] (zafter E YJ12_copyOf (d + 1 + 1) [] 6 3 [] Q) := by
    refine sJ12_copyOf_2_35 (zn M n) b m (zsz M) n (nI m) h16 (c3 m (by omega)) (by rw [show (nI m).toNatClampNeg = m from c2]; exact Nat.le_refl _) (by rw [show (nI m).toNatClampNeg = m from c2]; exact hmn) (fun i p hi hp => ?_) ?_
    · rw [show (nI m).toNatClampNeg = m from c2] at hi
      rw [gr_zn, if_neg hb] at hp
      exact hz i p hi hp
    · rw [show (nI m).toNatClampNeg = m from c2]
      show Z E YJ12_copyOf (d + 1 + 1) _ [] 9 [vr (some (zsz M, 106, n))] Q
      exact sJ12_copyOf_9 _ _ hQ
  by_cases h : nI n < Int32.ofNat m
  · exact absurd h (nI_nlt hmn (by omega))
  · rw [if_neg h]
    exact fin
end
