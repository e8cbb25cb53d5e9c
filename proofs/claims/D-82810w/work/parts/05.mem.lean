/-! rows of Z: fields, arrays, new cells -/
def zcf_p (q : vw_C) (ty : Nat → FieldType) : Prop := (∀ w ∈ u_ws q.1 q.2.1 q.2.2, w ∈ lw_all) ∧ (∀ a, a < q.2.2 → ∀ b, b < q.2.2 → a ≠ b → (q.2.1 a).2.1 ≠ (q.2.1 b).2.1) ∧ ∀ k, k < q.2.2 → parseFieldDescriptor (q.2.1 k).2.2.1 = some (ty k)
theorem zcf : ∀ (t : Nat) (q : vw_C), zcl[t]? = some q → zcf_p q (zty.getD t (fun _ => .int))
  | 0, q, h => by rw [← show (RX1, TX1, 97) = q from Option.some.inj h]; exact ⟨in_X1, nmX1, tyX1_ok⟩
  | 1, q, h => by rw [← show (RX8, TX8, 151) = q from Option.some.inj h]; exact ⟨in_X8, nmX8, tyX8_ok⟩
  | 2, q, h => by rw [← show (RX2, TX2, 3) = q from Option.some.inj h]; exact ⟨in_X2, nmX2, tyX2_ok⟩
  | 3, q, h => by rw [← show (RX3, TX3, 13) = q from Option.some.inj h]; exact ⟨in_X3, nmX3, tyX3_ok⟩
  | 4, q, h => by rw [← show (RX6, TX6, 3) = q from Option.some.inj h]; exact ⟨in_X6, nmX6, tyX6_ok⟩
  | 5, q, h => by rw [← show (RX7, TX7, 6) = q from Option.some.inj h]; exact ⟨in_X7, nmX7, tyX7_ok⟩
  | 6, q, h => by rw [← show (RX42, TX42, 21) = q from Option.some.inj h]; exact ⟨in_X42, nmX42, tyX42_ok⟩
  | 7, q, h => by rw [← show (RX43, TX43, 19) = q from Option.some.inj h]; exact ⟨in_X43, nmX43, tyX43_ok⟩
  | 8, q, h => by rw [← show (RX9, TX9, 9) = q from Option.some.inj h]; exact ⟨in_X9, nmX9, tyX9_ok⟩
  | 9, q, h => by rw [← show (RX10, TX10, 8) = q from Option.some.inj h]; exact ⟨in_X10, nmX10, tyX10_ok⟩
  | 10, q, h => by rw [← show (RX11, TX11, 10) = q from Option.some.inj h]; exact ⟨in_X11, nmX11, tyX11_ok⟩
  | 11, q, h => by rw [← show (RJ2, TJ2, 3) = q from Option.some.inj h]; exact ⟨in_J2, nmJ2, tyJ2_ok⟩
  | 12, q, h => by rw [← show (RX12, TX12, 7) = q from Option.some.inj h]; exact ⟨in_X12, nmX12, tyX12_ok⟩
  | 13, q, h => by rw [← show (RX4, TX4, 6) = q from Option.some.inj h]; exact ⟨in_X4, nmX4, tyX4_ok⟩
  | 14, q, h => by rw [← show (RX5, TX5, 6) = q from Option.some.inj h]; exact ⟨in_X5, nmX5, tyX5_ok⟩
  | 15, q, h => by rw [← show (RJ14, TJ14, 6) = q from Option.some.inj h]; exact ⟨in_J14, nmJ14, tyJ14_ok⟩
  | 16, q, h => by rw [← show (RJ15, TJ15, 6) = q from Option.some.inj h]; exact ⟨in_J15, nmJ15, tyJ15_ok⟩
  | 17, q, h => by rw [← show (RX40, TX40, 9) = q from Option.some.inj h]; exact ⟨in_X40, nmX40, tyX40_ok⟩
  | 18, q, h => by rw [← show (RX41, TX41, 2) = q from Option.some.inj h]; exact ⟨in_X41, nmX41, tyX41_ok⟩
  | 19, q, h => by rw [← show (RX25, TX25, 3) = q from Option.some.inj h]; exact ⟨in_X25, nmX25, tyX25_ok⟩
  | 20, q, h => by rw [← show (RX14, TX14, 1) = q from Option.some.inj h]; exact ⟨in_X14, nmX14, tyX14_ok⟩
  | 21, q, h => by rw [← show (RX15, TX15, 1) = q from Option.some.inj h]; exact ⟨in_X15, nmX15, tyX15_ok⟩
  | 22, q, h => by rw [← show (RX16, TX16, 3) = q from Option.some.inj h]; exact ⟨in_X16, nmX16, tyX16_ok⟩
  | 23, q, h => by rw [← show (RX17, TX17, 1) = q from Option.some.inj h]; exact ⟨in_X17, nmX17, tyX17_ok⟩
  | 24, q, h => by rw [← show (RX18, TX18, 2) = q from Option.some.inj h]; exact ⟨in_X18, nmX18, tyX18_ok⟩
  | 25, q, h => by rw [← show (RX19, TX19, 0) = q from Option.some.inj h]; exact ⟨in_X19, nmX19, tyX19_ok⟩
  | 26, q, h => by rw [← show (RX20, TX20, 1) = q from Option.some.inj h]; exact ⟨in_X20, nmX20, tyX20_ok⟩
  | 27, q, h => by rw [← show (RX21, TX21, 1) = q from Option.some.inj h]; exact ⟨in_X21, nmX21, tyX21_ok⟩
  | 28, q, h => by rw [← show (RX22, TX22, 1) = q from Option.some.inj h]; exact ⟨in_X22, nmX22, tyX22_ok⟩
  | 29, q, h => by rw [← show (RX23, TX23, 3) = q from Option.some.inj h]; exact ⟨in_X23, nmX23, tyX23_ok⟩
  | 30, q, h => by rw [← show (RX24, TX24, 2) = q from Option.some.inj h]; exact ⟨in_X24, nmX24, tyX24_ok⟩
  | 31, q, h => by rw [← show (RX26, TX26, 2) = q from Option.some.inj h]; exact ⟨in_X26, nmX26, tyX26_ok⟩
  | 32, q, h => by rw [← show (RX27, TX27, 3) = q from Option.some.inj h]; exact ⟨in_X27, nmX27, tyX27_ok⟩
  | 33, q, h => by rw [← show (RX28, TX28, 2) = q from Option.some.inj h]; exact ⟨in_X28, nmX28, tyX28_ok⟩
  | 34, q, h => by rw [← show (RX29, TX29, 2) = q from Option.some.inj h]; exact ⟨in_X29, nmX29, tyX29_ok⟩
  | 35, q, h => by rw [← show (RX30, TX30, 2) = q from Option.some.inj h]; exact ⟨in_X30, nmX30, tyX30_ok⟩
  | 36, q, h => by rw [← show (RX31, TX31, 3) = q from Option.some.inj h]; exact ⟨in_X31, nmX31, tyX31_ok⟩
  | 37, q, h => by rw [← show (RX32, TX32, 3) = q from Option.some.inj h]; exact ⟨in_X32, nmX32, tyX32_ok⟩
  | 38, q, h => by rw [← show (RX33, TX33, 5) = q from Option.some.inj h]; exact ⟨in_X33, nmX33, tyX33_ok⟩
  | 39, q, h => by rw [← show (RX34, TX34, 3) = q from Option.some.inj h]; exact ⟨in_X34, nmX34, tyX34_ok⟩
  | 40, q, h => by rw [← show (RX35, TX35, 1) = q from Option.some.inj h]; exact ⟨in_X35, nmX35, tyX35_ok⟩
  | 41, q, h => by rw [← show (RX36, TX36, 1) = q from Option.some.inj h]; exact ⟨in_X36, nmX36, tyX36_ok⟩
  | 42, q, h => by rw [← show (RX37, TX37, 1) = q from Option.some.inj h]; exact ⟨in_X37, nmX37, tyX37_ok⟩
  | 43, q, h => by rw [← show (RX38, TX38, 3) = q from Option.some.inj h]; exact ⟨in_X38, nmX38, tyX38_ok⟩
  | 44, q, h => by rw [← show (RX39, TX39, 4) = q from Option.some.inj h]; exact ⟨in_X39, nmX39, tyX39_ok⟩
  | t + 45, q, h => by cases h
theorem zcl_lt {t : Nat} {q : vw_C} (h : zcl[t]? = some q) : t < 100 := by
  have h1 : t < zcl.length := (List.getElem?_eq_some_iff.mp h).1
  have h2 : zcl.length = 45 := rfl
  omega
/-- a field of the class t, its place k, its kind kd, as the class own's pool spells it at idx -/
def zfs (own : String) (idx t k kd : Nat) : Prop := ∃ q : vw_C, zcl[t]? = some q ∧ k < q.2.2 ∧ zkd (q.2.1 k).2.2.1 = kd ∧
  (Cond.fieldLink own idx (q.2.1 k).1 (q.2.1 k).2.1 (q.2.1 k).2.2.1 ∈ lw_all ∨ (∃ host : String, Cond.fieldLinkNest own idx (q.2.1 k).1 (q.2.1 k).2.1 (q.2.1 k).2.2.1 host ∈ lw_tbl) ∨
    ∃ ref : String, Cond.fieldLink own idx ref (q.2.1 k).2.1 (q.2.1 k).2.2.1 ∈ lw_all ∧ Cond.sameField ref (q.2.1 k).1 (q.2.1 k).2.1 (q.2.1 k).2.2.1 ∈ lw_all)
/-- ... that may be written: its type; a final one by its own class's constructor -/
def zfw (y : MethodName) (idx t k : Nat) (ty : FieldType) : Prop := zfs y.cls idx t k (zkt ty) ∧ ∃ q : vw_C, zcl[t]? = some q ∧ parseFieldDescriptor (q.2.1 k).2.2.1 = some ty ∧ ((q.2.1 k).2.2.2 = false ∨ ((q.2.1 k).2.2.2 = true ∧ y.name = "<init>" ∧ (q.2.1 k).1 = y.cls))
theorem zvp_rho {E : zE} {a b : Nat} (ha : 16 ≤ a) (hb : 16 ≤ b) (h : zrho E b = zrho E a) : b = a := by
  unfold zrho at h
  rw [if_neg (show ¬ a < 16 by omega), if_neg (show ¬ b < 16 by omega)] at h
  omega
theorem zrho_ge {E : zE} {a : Nat} (ha : 16 ≤ a) : zba E ≤ zrho E a := by
  unfold zrho
  rw [if_neg (show ¬ a < 16 by omega)]
  omega
/-- the memory's relation behind a write to one cell -/
theorem zrel.put {E : zE} (hE : zEok E) {τ : zT} {M M1 : zM} {H H1 : Heap} (hR : zrel E τ M H) {a t n : Nat} (hv : τ a = some (t, n)) (ha : 16 ≤ a) (hsz : zsz M1 = zsz M) (hoff : ∀ b k kd, b ≠ a → zfv E M1 b k kd = zfv E M b k kd)
    (hz : H1.size = H.size) (ho : ∀ q, q ≠ zrho E a → H1[q]? = H[q]?) (hc : zcell E M1 a t n H1) (hp : ∀ (b : Nat) (w : Nat × Nat) (k : Nat) (p : zP), τ b = some w → gr M1 b k = some p → τ p.1 = some p.2) : zrel E τ M1 H1 := by
  obtain ⟨⟨r1, r0⟩, r2, r3, r4⟩ := hR
  refine ⟨⟨by rw [hz, hsz]; exact r1, fun q hq => (ho q (by have := zrho_ge (E := E) ha; omega)).trans (r0.1 q hq), r0.2⟩, by rw [hsz]; exact r2, fun b t' n' hb => ⟨⟨by rw [hsz]; exact (r3 b t' n' hb).1.1, (r3 b t' n' hb).1.2⟩, ?_⟩, hp⟩
  by_cases hba : b = a
  · subst hba
    cases hv.symm.trans hb
    exact hc
  · have hne : t' < 108 → zrho E b ≠ zrho E a := fun h8 h => hba (zvp_rho ha (by
      rcases Nat.lt_or_ge b 16 with h9 | h9
      · have := (r3 b t' n' hb).1.2 h9
        omega
      · exact h9) h)
    have h2 := (r3 b t' n' hb).2
    unfold zcell at h2 ⊢
    split at h2
    · rename_i ht
      rw [if_pos ht]
      obtain ⟨q, h3, h4⟩ := h2
      exact ⟨q, h3, (h4.kept (ho _ (hne (by omega)))).to (fun k _ => (hoff b k _ hba).symm)⟩
    · rename_i ht
      rw [if_neg ht]
      rcases h2 with h2 | h2
      · refine Or.inl ⟨h2.1, ?_⟩
        rw [ho _ (hne h2.1), h2.2]
        congr 2
        funext j
        exact (hoff b j _ hba).symm
      · exact Or.inr h2
section
variable {p : Program} {l : Launch} {e : Env} {R : Room} {s : State} {m : MethodId} {args : Array Value} {below : List Frame} {meth : Method} {c : Code} {H : Heap} {locs : List Loc} {cells slots : Nat} {Qs : State → Prop}
variable {E : zE} {Y : zY} {d : Nat} {M : zM} {τ : zT} {a t n k kd idx pc : Nat} {ls : Array Slot} {rest : List Value}
theorem zG.ok (hG : zG E Y d p l R s m meth c) : zEok E := hG.2.2.2.2.2.2.2.2.2.2.2.1
theorem zG.fl (hG : zG E Y d p l R s m meth c) : l.flags = flags0 := hG.2.2.2.2.2.2.2.2.2.2.2.2
theorem zG.warm (hG : zG E Y d p l R s m meth c) : (zs0 E).WarmedH s.vm := hG.2.2.2.2.1
theorem zG.own (hG : zG E Y d p l R s m meth c) : s.vm.findClass (zYy Y).cls = some m.cls := hG.2.2.2.1
theorem zG.kn (hG : zG E Y d p l R s m meth c) : va_K (zdC E, zdI E) zcl (ztys E) s := zKn hG.ok hG.warm
theorem zG.words (hG : zG E Y d p l R s m meth c) (args : Array Value) : ∀ w ∈ lw_all, w.before args s = true := fun _ hw => zword hG.ok hG.warm hw args
theorem zG.nestF (hG : zG E Y d p l R s m meth c) {o : String} {i : Nat} {b f dd h : String} (hw : Cond.fieldLinkNest o i b f dd h ∈ lw_tbl) (args : Array Value) : (Cond.fieldLinkNest o i b f dd h).before args s = true :=
  va_Nw.use rfl (va_Nw.warmF hG.warm (va_Nw.of rfl (hG.ok.1 _ hw)))
theorem zG.nestM (hG : zG E Y d p l R s m meth c) {o : String} {i : Nat} {x : MethodName} {h : String} (hw : Cond.methodLinkNest o i x h ∈ lw_tbl) (args : Array Value) : (Cond.methodLinkNest o i x h).before args s = true :=
  va_Nw.use rfl (va_Nw.warmM hG.warm (va_Nw.of rfl (hG.ok.1 _ hw)))
theorem zcell.obj {q : vw_C} (h : zcell E M a t n H) (hq : zcl[t]? = some q) : t_OB (zrho E a) (zdC E t) q.2.2 (zdI E t) H (fun k => zfv E M a k (zkd (q.2.1 k).2.2.1)) := by
  unfold zcell at h
  rw [if_pos (zcl_lt hq)] at h
  obtain ⟨q', h1, h2⟩ := h
  cases hq.symm.trans h1
  exact h2
theorem zcell.arr {q : Nat} (hq : q < 8 ∨ 16 ≤ a) (h : zcell E M a (100 + q) n H) : q < 8 ∧ H[zrho E a]? = some (arrV (zdA E q) n (fun j => zfv E M a j (zqk q))) := by
  unfold zcell at h
  rw [if_neg (by omega), show 100 + q - 100 = q by omega] at h
  rcases h with h | h
  · exact ⟨by omega, h.2⟩
  · exfalso; omega
/-- the field's own facts at the state -/
theorem zfld (hG : zG E Y d p l R s m meth c) (args : Array Value) (hf : zfs (zYy Y).cls idx t k kd) : ∃ (q : vw_C) (cf : Nat) (kf : Class) (fi : Nat) (f : Field), zcl[t]? = some q ∧ k < q.2.2 ∧ zkd (q.2.1 k).2.2.1 = kd ∧ s.fieldFound? (q.2.1 k).1 (q.2.1 k).2.1 (q.2.1 k).2.2.1 = some (cf, kf, fi, f) ∧ f.slot = zdI E t k ∧ f.isStatic = false := by
  obtain ⟨q, h1, h2, h3, -⟩ := hf
  obtain ⟨hS, hfc, kC, hkC, -⟩ := hG.kn.1 t q h1
  obtain ⟨cf, kf, fi, f, hi, hsl⟩ := hS k h2
  exact ⟨q, cf, kf, fi, f, h1, h2, h3, hi, hsl, (u_facts hfc hkC (u_lays (hG.words args) (zcf t q h1).1 h2) hi).1⟩
theorem zW_get (hG : zG E Y d p l R s m meth c) (hR : zrel E τ M H) (hv : τ a = some (t, n)) (hf : zfs (zYy Y).cls idx t k kd) (hd : decode (zYc Y) pc = .ok (.getfield idx, 3))
    (kk : W p l e R s m args below meth c H locs cells slots Qs (F0 m (pc + 3) ls (zfv E M a k kd :: rest))) : W p l e R s m args below meth c H locs cells slots Qs (F0 m pc ls (.ref (zrho E a) :: rest)) := by
  obtain ⟨q, cf, kf, fi, f, h1, h2, h3, hi, hsl, hst⟩ := zfld hG args hf
  obtain ⟨cell, q1, q2, q3, q4⟩ := ((hR.2.2.1 a t n hv).2).obj h1
  have hslot : cell.slots[f.slot]? = some (zfv E M a k kd) := by have := q4 k h2; dsimp only at this; rw [hsl, this, h3]
  have hkn : cell.vm ≠ .unknown := by rw [q3]; exact fun h => by cases h
  obtain ⟨q', g1, g2, g3, g4⟩ := hf
  obtain rfl : q' = q := Option.some.inj (g1.symm.trans h1)
  rcases g4 with g4 | ⟨host, g4⟩ | ⟨ref, g4, g5⟩
  · exact W.getf hG.1 hG.2.1 hG.own (hG.words args _ g4) hi hst q1 hkn hslot rfl rfl hd kk
  · exact va_Wgetf hG.1 hG.2.1 hG.own (hG.nestF g4 args) hi hst q1 hkn hslot rfl rfl hd kk
  · exact W.getf hG.1 hG.2.1 hG.own (hG.words args _ g4) (u_same (hG.words args _ g5) _ hi) hst q1 hkn hslot rfl rfl hd kk
theorem zW_put (hG : zG E Y d p l R s m meth c) (hR : zrel E τ M H) (hv : τ a = some (t, n)) {ty : FieldType} (hf : zfw (zYy Y) idx t k ty) {v : Value} (hn : narrow ty v = v) (hft : fits ty v = true) (hd : decode (zYc Y) pc = .ok (.putfield idx, 3))
    (kk : ∀ H' : Heap, H'.size = H.size → (∀ q, q ≠ zrho E a → H'[q]? = H[q]?) → (∀ q : vw_C, zcl[t]? = some q → t_OB (zrho E a) (zdC E t) q.2.2 (zdI E t) H' (updV (fun k => zfv E M a k (zkd (q.2.1 k).2.2.1)) k v)) →
      W p l e R s m args below meth c H' (locs ++ [⟨zrho E a, zdI E t k⟩]) cells slots Qs (F0 m (pc + 3) ls rest)) : W p l e R s m args below meth c H locs cells slots Qs (F0 m pc ls (v :: .ref (zrho E a) :: rest)) := by
  obtain ⟨hf0, qq, hqq, hpd, hfin⟩ := hf
  obtain ⟨q, cf, kf, fi, f, h1, h2, h3, hi, hsl, hst⟩ := zfld hG args hf0
  obtain rfl : q = qq := Option.some.inj (h1.symm.trans hqq)
  obtain ⟨cell, q1, q2, q3, q4⟩ := ((hR.2.2.1 a t n hv).2).obj h1
  have hcf := zcf t q h1
  obtain ⟨hS, hfc, kC, hkC, hkind⟩ := hG.kn.1 t q h1
  have hkn : cell.vm ≠ .unknown := by rw [q3]; exact fun h => by cases h
  have hlt : f.slot < cell.slots.size := by rw [hsl]; exact k2_hasslot (q4 k h2)
  have h6 := u_fits hfc hkC hkind (u_lays (hG.words args) hcf.1 h2) hi hpd hn hft
  have hfit : s.fitsSlot cell.cls cell.vm f.slot v = true := by rw [q2, q3]; exact h6.2
  have hap : ∀ x y, x < q.2.2 → y < q.2.2 → x ≠ y → zdI E t x ≠ zdI E t y := fun x y hx hy hne => va_apart (D := (zdC E, zdI E)) (own := "") (hG.words args) hcf.1 _ hcf.2.2 hcf.2.1 hG.kn h1 x y hx hy hne
  have ha : zrho E a < H.size := (Array.getElem?_eq_some_iff.mp q1).1
  have hfin' : hasFlag f.accessFlags Acc.final = false ∨ (m.cls = cf ∧ meth.name = "<init>") := by
    rcases hfin with hfin | ⟨hfin, hin, hdecl⟩
    · left
      have hlay := hG.words args _ (hcf.1 _ (u_in_lay h2))
      unfold u_lay at hlay
      rw [if_neg (by rw [hfin]; decide)] at hlay
      exact (u_store hfc hkC hkind hlay hi hpd hn hft).1
    · right
      have hlay := hG.words args _ (hcf.1 _ (u_in_lay h2))
      unfold u_lay at hlay
      rw [if_pos hfin] at hlay
      obtain ⟨_, _, c', _, _, _, -, -, hf', -, -, -, hown2, -⟩ := Cond.laysFinal_spec hlay
      have e1 : c' = cf := by have := hi.symm.trans hf'; simp at this; exact this.1.symm
      rw [hdecl] at hown2
      exact ⟨by rw [← e1]; exact Option.some.inj (hG.own.symm.trans hown2), hG.2.2.2.2.2.2.2.1.trans hin⟩
  have key : W p l e R s m args below meth c (H.setIfInBounds (zrho E a) (cell.setSlot f.slot v)) (locs ++ [⟨zrho E a, f.slot⟩]) cells slots Qs (F0 m (pc + 3) ls rest) := by
    rw [hsl]
    refine kk _ (by simp) (fun q hq => by simp [Array.getElem?_setIfInBounds, Ne.symm hq]) (fun q' hq' => ?_)
    obtain rfl : q' = q := Option.some.inj (hq'.symm.trans h1)
    exact ⟨cell.setSlot (zdI E t k) v, by simp [Array.getElem?_setIfInBounds, ha], q2, q3, t_set q4 hap h2 v⟩
  obtain ⟨q', g1, g2, g3, g4⟩ := hf0
  obtain rfl : q' = q := Option.some.inj (g1.symm.trans h1)
  rcases g4 with g4 | ⟨host, g4⟩ | ⟨ref, g4, g5⟩
  · exact W.putf hG.1 hG.2.1 hG.own (hG.words args _ g4) hi hst hfin' q1 hkn hlt h6.1 hfit rfl rfl hd key
  · exact va_Wputf hG.1 hG.2.1 hG.own (hG.nestF g4 args) hi hst hfin' q1 hkn hlt h6.1 hfit rfl rfl hd key
  · exact W.putf hG.1 hG.2.1 hG.own (hG.words args _ g4) (u_same (hG.words args _ g5) _ hi) hst hfin' q1 hkn hlt h6.1 hfit rfl rfl hd key
end
theorem zlocs {E : zE} {locs : List Loc} {a i : Nat} (h : ∀ q ∈ locs, zba E ≤ q.base) (ha : 16 ≤ a) : ∀ q ∈ locs ++ [(⟨zrho E a, i⟩ : Loc)], zba E ≤ q.base := by
  intro q hq
  rcases List.mem_append.mp hq with h1 | h1
  · exact h q h1
  · rw [List.mem_singleton.mp h1]; exact zrho_ge ha
section
variable {E : zE} {Y : zY} {d : Nat} {M : zM} {lv : List (Nat × zV)} {a t n k idx pc : Nat} {st : List zV} {Q : zO → zM → Prop}
/-- a step that reads the memory -/
theorem Z.read {pc' : Nat} {st' : List zV} (h : ∀ (τ : zT) (p : Program) (l : Launch) (e : Env) (R : Room) (s : State) (m : MethodId) (args : Array Value) (below : List Frame) (meth : Method) (c : Code), zG E Y d p l R s m meth c → ∀ (H : Heap) (locs : List Loc) (cells slots : Nat) (ls : Array Slot) (Qs : State → Prop), zrel E τ M H → (∀ v ∈ st, zvv τ v) →
      W p l e R s m args below meth c H locs cells slots Qs (F0 m pc' ls (st'.map (zcv E))) → W p l e R s m args below meth c H locs cells slots Qs (F0 m pc ls (st.map (zcv E))))
    (hv : ∀ (τ : zT) (H : Heap), zrel E τ M H → (∀ v ∈ st, zvv τ v) → ∀ v ∈ st', zvv τ v) (k : Z E Y d M lv pc' st' Q) : Z E Y d M lv pc st Q := by
  obtain ⟨o, M', h1, h2, h3, hr⟩ := k
  exact ⟨o, M', h1, h2, h3, fun τ p l e R s m args below meth c hG H locs cells slots ls hR hl hs hL hc hn hh =>
    h τ p l e R s m args below meth c hG H locs cells slots ls _ hR hs (hr τ p l e R s m args below meth c hG H locs cells slots ls hR hl (hv τ H hR hs) hL hc hn hh)⟩
/-- a step that writes the memory -/
theorem Z.write {M1 : zM} {pc' : Nat} {st' : List zV} (hs1 : zsz M1 = zsz M) (hs2 : zsu M1 = zsu M) (h : ∀ (τ : zT) (p : Program) (l : Launch) (e : Env) (R : Room) (s : State) (m : MethodId) (args : Array Value) (below : List Frame) (meth : Method) (c : Code), zG E Y d p l R s m meth c → ∀ (H : Heap) (locs : List Loc) (cells slots : Nat) (ls : Array Slot) (Qs : State → Prop), zrel E τ M H → (∀ v ∈ st, zvv τ v) → (∀ q ∈ locs, zba E ≤ q.base) →
      (∀ (H1 : Heap) (locs1 : List Loc), zrel E τ M1 H1 → (∀ q ∈ locs1, zba E ≤ q.base) → W p l e R s m args below meth c H1 locs1 cells slots Qs (F0 m pc' ls (st'.map (zcv E)))) → W p l e R s m args below meth c H locs cells slots Qs (F0 m pc ls (st.map (zcv E))))
    (hv : ∀ (τ : zT), (∀ v ∈ st, zvv τ v) → ∀ v ∈ st', zvv τ v) (k : Z E Y d M1 lv pc' st' Q) : Z E Y d M lv pc st Q := by
  obtain ⟨o, M', h1, h2, h3, hr⟩ := k
  refine ⟨o, M', by rw [← hs1]; exact h1, by rw [← hs2]; exact h2, h3, fun τ p l e R s m args below meth c hG H locs cells slots ls hR hl hs hL hc hn hh => ?_⟩
  rw [← hs1, ← hs2] at *
  exact h τ p l e R s m args below meth c hG H locs cells slots ls _ hR hs hL (fun H1 locs1 hR1 hL1 => hr τ p l e R s m args below meth c hG H1 locs1 cells slots ls hR1 hl (hv τ hs) hL1 hc hn hh)
theorem z_geti (hd : decode (zYc Y) pc = .ok (.getfield idx, 3)) (hf : zfs (zYy Y).cls idx t k 0) (kz : Z E Y d M lv (pc + 3) (vi (gi M a k) :: st) Q) : Z E Y d M lv pc (vr (some (a, t, n)) :: st) Q :=
  Z.read (fun τ p l e R s m args below meth c hG H locs cells slots ls Qs hR hs kk => zW_get hG hR (zv_hd hs) hf hd kk) (fun τ H hR hs => by exact zv_cons trivial (zv_tl hs)) kz
theorem z_getl (hd : decode (zYc Y) pc = .ok (.getfield idx, 3)) (hf : zfs (zYy Y).cls idx t k 1) (kz : Z E Y d M lv (pc + 3) (vl (gl M a k) :: st) Q) : Z E Y d M lv pc (vr (some (a, t, n)) :: st) Q :=
  Z.read (fun τ p l e R s m args below meth c hG H locs cells slots ls Qs hR hs kk => zW_get hG hR (zv_hd hs) hf hd kk) (fun τ H hR hs => by exact zv_cons trivial (zv_tl hs)) kz
theorem z_getr {r : Option zP} (hd : decode (zYc Y) pc = .ok (.getfield idx, 3)) (hf : zfs (zYy Y).cls idx t k 2) (hr : gr M a k = r) (kz : Z E Y d M lv (pc + 3) (vr r :: st) Q) : Z E Y d M lv pc (vr (some (a, t, n)) :: st) Q := by
  subst hr
  refine Z.read (fun τ p l e R s m args below meth c hG H locs cells slots ls Qs hR hs kk => zW_get hG hR (zv_hd hs) hf hd kk) (fun τ H hR hs => zv_cons ?_ (zv_tl hs)) kz
  cases h : gr M a k with
  | none => trivial
  | some p => exact hR.2.2.2 a (t, n) k p (zv_hd hs) h
/-- what may be stored in a place of this type -/
def zfit (ty : FieldType) (x : Int32) : Prop := narrow ty (.int x) = .int x ∧ fits ty (.int x) = true
theorem z_puti {ty : FieldType} {x : Int32} (ha : 16 ≤ a) (hd : decode (zYc Y) pc = .ok (.putfield idx, 3)) (hf : zfw (zYy Y) idx t k ty) (hk : zkt ty = 0) (hx : zfit ty x) (kz : Z E Y d (si M a k x) lv (pc + 3) st Q) : Z E Y d M lv pc (vi x :: vr (some (a, t, n)) :: st) Q := by
  refine Z.write (M1 := si M a k x) rfl rfl (fun τ p l e R s m args below meth c hG H locs cells slots ls Qs hR hs hL kk => ?_) (fun τ hs => zv_tl (zv_tl hs)) kz
  have hv : τ a = some (t, n) := zv_hd (zv_tl hs)
  refine zW_put hG hR hv hf hx.1 hx.2 hd fun H' e1 e2 e3 => kk H' _ (hR.put hG.ok hv ha rfl (fun b j kd hb => ?_) e1 e2 ?_ hR.2.2.2) (zlocs hL ha)
  · match kd with
    | 0 => show Value.int (gi (si M a k x) b j) = .int (gi M b j); rw [gi_si, if_neg hb]
    | 1 => rfl
    | kd + 2 => rfl
  · obtain ⟨hf0, qq, hqq, hpd, -⟩ := hf
    obtain ⟨q, g1, g2, g3, -⟩ := hf0
    unfold zcell
    rw [if_pos (zcl_lt g1)]
    refine ⟨q, g1, (e3 q g1).to fun j hj => ?_⟩
    unfold updV
    split
    · rename_i hjk
      subst hjk
      rw [g3, hk]
      show Value.int x = .int (gi (si M a j x) a j)
      rw [gi_si, if_pos rfl, if_pos rfl]
    · rename_i hjk
      dsimp only
      match hq : zkd (q.2.1 j).2.2.1 with
      | 0 => show Value.int (gi M a j) = .int (gi (si M a k x) a j); rw [gi_si, if_pos rfl, if_neg hjk]
      | 1 => rfl
      | kd + 2 => rfl
theorem z_putl {x : Int64} (ha : 16 ≤ a) (hd : decode (zYc Y) pc = .ok (.putfield idx, 3)) (hf : zfw (zYy Y) idx t k .long) (kz : Z E Y d (sl M a k x) lv (pc + 3) st Q) : Z E Y d M lv pc (vl x :: vr (some (a, t, n)) :: st) Q := by
  refine Z.write (M1 := sl M a k x) rfl rfl (fun τ p l e R s m args below meth c hG H locs cells slots ls Qs hR hs hL kk => ?_) (fun τ hs => zv_tl (zv_tl hs)) kz
  have hv : τ a = some (t, n) := zv_hd (zv_tl hs)
  refine zW_put hG hR hv hf (v := .long x) rfl rfl hd fun H' e1 e2 e3 => kk H' _ (hR.put hG.ok hv ha rfl (fun b j kd hb => ?_) e1 e2 ?_ hR.2.2.2) (zlocs hL ha)
  · match kd with
    | 0 => rfl
    | 1 => show Value.long (gl (sl M a k x) b j) = .long (gl M b j); rw [gl_sl, if_neg hb]
    | kd + 2 => rfl
  · obtain ⟨hf0, qq, hqq, hpd, -⟩ := hf
    obtain ⟨q, g1, g2, g3, -⟩ := hf0
    unfold zcell
    rw [if_pos (zcl_lt g1)]
    refine ⟨q, g1, (e3 q g1).to fun j hj => ?_⟩
    unfold updV
    split
    · rename_i hjk
      subst hjk
      rw [g3]
      show Value.long x = .long (gl (sl M a j x) a j)
      rw [gl_sl, if_pos rfl, if_pos rfl]
    · rename_i hjk
      dsimp only
      match hq : zkd (q.2.1 j).2.2.1 with
      | 0 => rfl
      | 1 => show Value.long (gl M a j) = .long (gl (sl M a k x) a j); rw [gl_sl, if_pos rfl, if_neg hjk]
      | kd + 2 => rfl
theorem zcv_ref {E : zE} (r : Option zP) {ty : FieldType} (h : zkt ty = 2) : narrow ty (zcv E (vr r)) = zcv E (vr r) ∧ fits ty (zcv E (vr r)) = true := by
  cases ty <;> first | (exfalso; revert h; decide) | (cases r <;> exact ⟨rfl, rfl⟩)
theorem z_putr {ty : FieldType} {r : Option zP} (ha : 16 ≤ a) (hd : decode (zYc Y) pc = .ok (.putfield idx, 3)) (hf : zfw (zYy Y) idx t k ty) (hk : zkt ty = 2) (kz : Z E Y d (sr M a k r) lv (pc + 3) st Q) : Z E Y d M lv pc (vr r :: vr (some (a, t, n)) :: st) Q := by
  refine Z.write (M1 := sr M a k r) rfl rfl (fun τ p l e R s m args below meth c hG H locs cells slots ls Qs hR hs hL kk => ?_) (fun τ hs => zv_tl (zv_tl hs)) kz
  have hv : τ a = some (t, n) := zv_hd (zv_tl hs)
  refine zW_put hG hR hv hf (zcv_ref r hk).1 (zcv_ref r hk).2 hd fun H' e1 e2 e3 => kk H' _ (hR.put hG.ok hv ha rfl (fun b j kd hb => ?_) e1 e2 ?_ ?_) (zlocs hL ha)
  · match kd with
    | 0 => rfl
    | 1 => rfl
    | kd + 2 => show zcv E (vr (gr (sr M a k r) b j)) = zcv E (vr (gr M b j)); rw [gr_sr, if_neg hb]
  · obtain ⟨hf0, qq, hqq, hpd, -⟩ := hf
    obtain ⟨q, g1, g2, g3, -⟩ := hf0
    unfold zcell
    rw [if_pos (zcl_lt g1)]
    refine ⟨q, g1, (e3 q g1).to fun j hj => ?_⟩
    unfold updV
    split
    · rename_i hjk
      subst hjk
      rw [g3, hk]
      show zcv E (vr r) = zcv E (vr (gr (sr M a j r) a j))
      rw [gr_sr, if_pos rfl, if_pos rfl]
    · rename_i hjk
      dsimp only
      match hq : zkd (q.2.1 j).2.2.1 with
      | 0 => rfl
      | 1 => rfl
      | kd + 2 => show zcv E (vr (gr M a j)) = zcv E (vr (gr (sr M a k r) a j)); rw [gr_sr, if_pos rfl, if_neg hjk]
  · intro b w j p hb hp
    rw [gr_sr] at hp
    split at hp
    · split at hp
      · subst hp
        exact zv_hd hs
      · exact hR.2.2.2 b w j p hb hp
    · exact hR.2.2.2 b w j p hb hp
end
