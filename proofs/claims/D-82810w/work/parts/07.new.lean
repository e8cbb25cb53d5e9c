/-! rows of Z: new cells, ends -/
def zup (τ : zT) (a : Nat) (v : Nat × Nat) : zT := fun b => if b = a then some v else τ b
theorem zrel.fresh {E : zE} {τ : zT} {M : zM} {H : Heap} (hR : zrel E τ M H) : τ (zsz M) = none := by
  cases h : τ (zsz M) with
  | none => rfl
  | some v => exact absurd (hR.2.2.1 _ v.1 v.2 h).1.1 (Nat.lt_irrefl _)
theorem zrel.up {E : zE} {τ : zT} {M : zM} {H : Heap} (hR : zrel E τ M H) (v : Nat × Nat) : zle τ (zup τ (zsz M) v) := by
  intro a w ha
  unfold zup
  rw [if_neg]
  · exact ha
  · intro h; rw [h, hR.fresh] at ha; cases ha
theorem zrel.at {E : zE} {τ : zT} {M : zM} {H : Heap} (hR : zrel E τ M H) : zrho E (zsz M) = H.size := by
  have h1 := hR.1.1
  have h2 := hR.2.1
  unfold zrho
  rw [if_neg (by omega)]
  omega
theorem zcell.lt {E : zE} {M : zM} {a t n : Nat} {H : Heap} (h : zcell E M a t n H) (h8 : t < 108) : zrho E a < H.size := by
  unfold zcell at h
  split at h
  · obtain ⟨q, -, cell, h1, -⟩ := h
    exact (Array.getElem?_eq_some_iff.mp h1).1
  · rcases h with h | h
    · exact (Array.getElem?_eq_some_iff.mp h.2).1
    · exfalso; omega
theorem zrel.new {E : zE} {τ : zT} {M : zM} {H H1 : Heap} (hR : zrel E τ M H) {t n N : Nat} (hz : H1.size = H.size + 1) (ho : ∀ q, q < H.size → H1[q]? = H[q]?) (hc : zcell E (zn M N) (zsz M) t n H1) : zrel E (zup τ (zsz M) (t, n)) (zn M N) H1 := by
  obtain ⟨⟨r1, r0⟩, r2, r3, r4⟩ := id hR
  have hno : ∀ b w, τ b = some w → b ≠ zsz M := fun b w hb h => by rw [h, hR.fresh] at hb; cases hb
  refine ⟨⟨by rw [hz, zsz_zn]; omega, fun q hq => (ho q (by omega)).trans (r0.1 q hq), fun i v h => hR.up (t, n) i v (r0.2 i v h)⟩, by rw [zsz_zn]; omega, fun b t' n' hb => ?_, fun b w k p hb hp => ?_⟩
  · unfold zup at hb
    split at hb
    · rename_i hba
      cases hb
      rw [hba]
      refine ⟨⟨by rw [zsz_zn]; omega, fun h16 => ?_⟩, hc⟩
      omega
    · rename_i hba
      obtain ⟨g1, g2⟩ := r3 b t' n' hb
      refine ⟨⟨by rw [zsz_zn]; omega, g1.2⟩, ?_⟩
      have hoff : ∀ k kd, zfv E (zn M N) b k kd = zfv E M b k kd := fun k kd => by
        match kd with
        | 0 => show Value.int (gi (zn M N) b k) = .int (gi M b k); rw [gi_zn, if_neg hba]
        | 1 => show Value.long (gl (zn M N) b k) = .long (gl M b k); rw [gl_zn, if_neg hba]
        | kd + 2 => show zcv E (vr (gr (zn M N) b k)) = zcv E (vr (gr M b k)); rw [gr_zn, if_neg hba]
      have hlt := g2.lt
      unfold zcell at g2 ⊢
      split at g2
      · rename_i ht
        rw [if_pos ht]
        obtain ⟨q, h3, h4⟩ := g2
        exact ⟨q, h3, (h4.kept (ho _ (hlt (by omega)))).to (fun k _ => (hoff k _).symm)⟩
      · rename_i ht
        rw [if_neg ht]
        rcases g2 with g2 | g2
        · refine Or.inl ⟨g2.1, ?_⟩
          rw [ho _ (hlt g2.1), g2.2]
          congr 2
          funext j
          exact (hoff j _).symm
        · exact Or.inr g2
  · rw [gr_zn] at hp
    split at hp
    · cases hp
    · rename_i hba
      unfold zup at hb
      rw [if_neg hba] at hb
      exact hR.up (t, n) _ _ (r4 b w k p hb hp)
section
variable {E : zE} {Y : zY} {d : Nat} {M : zM} {lv : List (Nat × zV)} {a t n k idx pc : Nat} {st : List zV} {Q : zO → zM → Prop}
theorem Z.alloc {N : Nat} {pc' : Nat} {st0 : List zV} (h : ∀ (τ : zT) (p : Program) (l : Launch) (e : Env) (R : Room) (s : State) (m : MethodId) (args : Array Value) (below : List Frame) (meth : Method) (c : Code), zG E Y d p l R s m meth c → ∀ (H : Heap) (locs : List Loc) (cells slots : Nat) (ls : Array Slot) (Qs : State → Prop), zrel E τ M H → (∀ v ∈ st, zvv τ v) → cells + 1 ≤ R.cells → slots + N ≤ R.slots →
      (∀ H1 : Heap, zrel E (zup τ (zsz M) (t, n)) (zn M N) H1 → W p l e R s m args below meth c H1 locs (cells + 1) (slots + N) Qs (F0 m pc' ls ((vr (some (zsz M, t, n)) :: st0).map (zcv E)))) → W p l e R s m args below meth c H locs cells slots Qs (F0 m pc ls (st.map (zcv E))))
    (hv : ∀ (τ : zT), (∀ v ∈ st, zvv τ v) → ∀ v ∈ st0, zvv τ v) (k : Z E Y d (zn M N) lv pc' (vr (some (zsz M, t, n)) :: st0) Q) : Z E Y d M lv pc st Q := by
  obtain ⟨o, M', h1, h2, h3, hr⟩ := k
  rw [zsz_zn] at h1
  rw [zsu_zn] at h2
  refine ⟨o, M', by omega, by omega, h3, fun τ p l e R s m args below meth c hG H locs cells slots ls hR hl hs hL hc hn hh => ?_⟩
  refine h τ p l e R s m args below meth c hG H locs cells slots ls _ hR hs (by omega) (by omega) (fun H1 hR1 => ?_)
  have hr1 := hr (zup τ (zsz M) (t, n)) p l e R s m args below meth c hG H1 locs (cells + 1) (slots + N) ls hR1 (fun q hq => (hl q hq).le (hR.up _)) (zv_cons (by show zup τ (zsz M) (t, n) (zsz M) = _; unfold zup; rw [if_pos rfl]) (fun v hv' => (hv τ hs v hv').le (hR.up _))) hL (by rw [zsz_zn]; omega) (by rw [zsu_zn]; omega) hh
  rw [zsz_zn, zsu_zn, show cells + 1 + (zsz M' - (zsz M + 1)) = cells + (zsz M' - zsz M) by omega, show slots + N + (zsu M' - (zsu M + N)) = slots + (zsu M' - zsu M) by omega] at hr1
  intro T hT X
  obtain ⟨t1, a1, b1, b2, b3, L, b4, b5, τ', b6, b7⟩ := hr1 T hT X
  exact ⟨t1, a1, b1, b2, b3, L, b4, b5, τ', (hR.up _).tr b6, b7⟩
/-- a class that the pool of own names at idx can be made -/
def zcs (own : String) (idx t N : Nat) : Prop := ∃ q : vw_C, zcl[t]? = some q ∧ q.2.2 = N ∧ Cond.classLink own idx q.1 ∈ lw_all ∧ Cond.instantiable q.1 q.2.2 ∈ lw_all ∧ Cond.initialized q.1 ∈ lw_all
theorem zdef {ty : FieldType} (h : ty ≠ .float ∧ ty ≠ .double) (E : zE) (M : zM) (N k : Nat) : defaultValue ty = zfv E (zn M N) (zsz M) k (zkt ty) := by
  cases ty with
  | long => show _ = Value.long (gl (zn M N) (zsz M) k); rw [gl_zn, if_pos rfl]; rfl
  | object _ => show _ = zcv E (vr (gr (zn M N) (zsz M) k)); rw [gr_zn, if_pos rfl]; rfl
  | array _ => show _ = zcv E (vr (gr (zn M N) (zsz M) k)); rw [gr_zn, if_pos rfl]; rfl
  | float => exact absurd rfl h.1
  | double => exact absurd rfl h.2
  | _ => show _ = Value.int (gi (zn M N) (zsz M) k); rw [gi_zn, if_pos rfl]; rfl
theorem z_new {N : Nat} (hd : decode (zYc Y) pc = .ok (.new idx, 3)) (hc : zcs (zYy Y).cls idx t N) (hff : ∀ k, k < N → (zty.getD t (fun _ => .int)) k ≠ .float ∧ (zty.getD t (fun _ => .int)) k ≠ .double) (kz : Z E Y d (zn M N) lv (pc + 3) (vr (some (zsz M, t, 0)) :: st) Q) : Z E Y d M lv pc st Q := by
  refine Z.alloc (N := N) (fun τ p l e R s m args below meth c hG H locs cells slots ls Qs hR hs hcl hsl kk => ?_) (fun τ hs => hs) kz
  obtain ⟨q, h1, h2, h3, h4, h5⟩ := hc
  have hKn := hG.kn.1 t q h1
  have hcf := zcf t q h1
  subst h2
  refine W.newcK hG.1 hG.2.1 hG.own (hG.words args _ h3) (hG.words args _ h4) (hG.words args _ h5) rfl hd hcl hsl hKn.2.1 rfl fun H1 kC hkC e1 e2 e3 => ?_
  have hz := kk H1 (hR.new e2 e3 ?_)
  · rw [List.map_cons, zcv_r, hR.at] at hz
    exact hz
  · unfold zcell
    rw [if_pos (zcl_lt h1), hR.at]
    refine ⟨q, h1, (u_born _ (hG.words args) hcf.1 hKn hkC e1 hcf.2.2).to fun k hk => ?_⟩
    rw [zdef (hff k hk) E M q.2.2 k]
    have : zkd (q.2.1 k).2.2.1 = zkt ((zty.getD t (fun _ => .int)) k) := by unfold zkd; rw [hcf.2.2 k hk]
    rw [this]
/-- an array of a primitive type -/
theorem z_newa {at' : ArrayType} {q : Nat} {N : Nat} {x : Int32} (hd : decode (zYc Y) pc = .ok (.newarray at', 2)) (hty : newarray.typeOf at' = zqt q) (hq : q < 6) (hw : Cond.arrayClass (zqt q) ∈ lw_all) (hx : ¬ x < 0) (hN : x.toNatClampNeg = N) (hb : N * 8 ≤ 536870912) (kz : Z E Y d (zn M N) lv (pc + 2) (vr (some (zsz M, 100 + q, N)) :: st) Q) : Z E Y d M lv pc (vi x :: st) Q := by
  refine Z.alloc (N := N) (fun τ p l e R s m args below meth c hG H locs cells slots ls Qs hR hs hcl hsl kk => ?_) (fun τ hs => zv_tl hs) kz
  have key : ∀ ty, ty = zqt q → (ztys E)[q]? = some (zdA E q, ty) ∧ N * componentBytes ty ≤ 536870912 ∧ (ty ≠ .float ∧ ty ≠ .double) ∧ (va_RA s (zdA E q) ty → s.vm.findClass ("[" ++ ty.toString) = some (zdA E q)) := by
    intro ty hty
    subst hty
    match q, hq with
    | 0, _ => exact ⟨rfl, by show N * 4 ≤ _; omega, ⟨by decide, by decide⟩, fun h => h⟩
    | 1, _ => exact ⟨rfl, by show N * 1 ≤ _; omega, ⟨by decide, by decide⟩, fun h => h⟩
    | 2, _ => exact ⟨rfl, by show N * 2 ≤ _; omega, ⟨by decide, by decide⟩, fun h => h⟩
    | 3, _ => exact ⟨rfl, by show N * 2 ≤ _; omega, ⟨by decide, by decide⟩, fun h => h⟩
    | 4, _ => exact ⟨rfl, by show N * 1 ≤ _; omega, ⟨by decide, by decide⟩, fun h => h⟩
    | 5, _ => exact ⟨rfl, by show N * 8 ≤ _; omega, ⟨by decide, by decide⟩, fun h => h⟩
  obtain ⟨k1, k2, k3, k4⟩ := key _ hty
  have hra := k4 (hG.kn.2 q _ k1).2
  refine va_newaK hG.1 hG.2.1 (by rw [hty]; exact hG.words args _ hw) rfl hd rfl hx hN k2 hcl hsl rfl fun H1 cA e1 e2 e3 e4 e5 => ?_
  obtain rfl : cA = zdA E q := Option.some.inj (e5.symm.trans hra)
  have hz := kk H1 (hR.new e2 e3 ?_)
  · rw [List.map_cons, zcv_r, hR.at] at hz
    exact hz
  · unfold zcell
    rw [if_neg (by omega), hR.at, show 100 + q - 100 = q by omega]
    refine Or.inl ⟨by omega, ?_⟩
    rw [e1]
    congr 2
    funext j
    rw [zdef k3 E M N j, hty]
    rfl
end
section
variable {p : Program} {l : Launch} {e : Env} {R : Room} {s : State} {m : MethodId} {args : Array Value} {below : List Frame} {meth : Method} {c : Code} {H : Heap} {locs : List Loc} {cells slots : Nat}
theorem zW_mono {Q Q' : State → Prop} {g : JFrame} (h : ∀ t, Q t → Q' t) (k : W p l e R s m args below meth c H locs cells slots Q g) : W p l e R s m args below meth c H locs cells slots Q' g := fun T hT X => by
  obtain ⟨t, a, b⟩ := k T hT X
  exact ⟨t, a, h t b⟩
end
section
variable {E : zE} {Y : zY} {d : Nat} {M : zM} {lv : List (Nat × zV)} {a t n k idx pc : Nat} {st : List zV} {Q : zO → zM → Prop}
/-- an end, out of the kit's -/
theorem Z.ends {o : zO} (h : ∀ (τ : zT) (p : Program) (l : Launch) (e : Env) (R : Room) (s : State) (m : MethodId) (args : Array Value) (below : List Frame) (meth : Method) (c : Code), zG E Y d p l R s m meth c → ∀ (H : Heap) (locs : List Loc) (cells slots : Nat) (ls : Array Slot), (∀ q ∈ locs, zba E ≤ q.base) →
      W p l e R s m args below meth c H locs cells slots (MQ below (fun _ _ o' t => o' = zco E o ∧ t.heap = H) args s cells slots (fun q => zba E ≤ q)) (F0 m pc ls (st.map (zcv E))))
    (hv : ∀ (τ : zT), (∀ v ∈ st, zvv τ v) → zvo τ o) (hQ : Q o M) : Z E Y d M lv pc st Q := by
  refine ⟨o, M, Nat.le_refl _, Nat.le_refl _, hQ, fun τ p l e R s m args below meth c hG H locs cells slots ls hR hl hs hL hc hn hh => ?_⟩
  rw [Nat.sub_self, Nat.sub_self, Nat.add_zero, Nat.add_zero]
  refine zW_mono ?_ (h τ p l e R s m args below meth c hG H locs cells slots ls hL)
  rintro t1 ⟨o', b1, b2, ⟨b3, b4⟩, L, ⟨b5, b6, b7⟩, b8⟩
  subst b3
  exact ⟨b1, b2, b6, L, b7, b8, τ, zle.rf, by rw [b4]; exact hR, hv τ hs⟩
theorem z_iret {x : Int32} {ty : FieldType} (hd : decode (zYc Y) pc = .ok (.ireturn, 1)) (hr : zYr Y = some ty) (hx : narrow ty (.int x) = .int x) (hQ : Q (.inl (some (vi x))) M) : Z E Y d M lv pc [vi x] Q :=
  Z.ends (o := .inl (some (vi x))) (fun τ p l e R s m args below meth c hG H locs cells slots ls hL => W.zret (ty := ty) hG.1 hG.2.1 (hG.2.2.2.2.2.2.1.trans hr) hx (fun t ht hW => ⟨rfl, ht⟩) hL hd hG.2.2.2.2.2.1) (fun τ hs => trivial) hQ
theorem z_vret (hd : decode (zYc Y) pc = .ok (.return_, 1)) (hr : zYr Y = none) (hQ : Q (.inl none) M) : Z E Y d M lv pc [] Q :=
  Z.ends (o := .inl none) (fun τ p l e R s m args below meth c hG H locs cells slots ls hL => W.vret hG.1 hG.2.1 (hG.2.2.2.2.2.2.1.trans hr) (fun t ht hW => ⟨rfl, ht⟩) hL hd hG.2.2.2.2.2.1) (fun τ hs => trivial) hQ
theorem z_lret {x : Int64} (hd : decode (zYc Y) pc = .ok (.lreturn, 1)) (hr : zYr Y = some .long) (hQ : Q (.inl (some (vl x))) M) : Z E Y d M lv pc [vl x] Q :=
  Z.ends (o := .inl (some (vl x))) (fun τ p l e R s m args below meth c hG H locs cells slots ls hL => W.lret hG.1 hG.2.1 (hG.2.2.2.2.2.2.1.trans hr) (fun t ht hW => ⟨rfl, ht⟩) hL hd hG.2.2.2.2.2.1) (fun τ hs => trivial) hQ
theorem z_aret {r : Option zP} {ty : FieldType} (hd : decode (zYc Y) pc = .ok (.areturn, 1)) (hr : zYr Y = some ty) (ht : zkt ty = 2) (hQ : Q (.inl (some (vr r))) M) : Z E Y d M lv pc [vr r] Q := by
  refine Z.ends (o := .inl (some (vr r))) (fun τ p l e R s m args below meth c hG H locs cells slots ls hL => W.aret (rt := ty) hG.1 hG.2.1 (hG.2.2.2.2.2.2.1.trans hr) ?_ ?_ (fun t ht hW => ⟨rfl, ht⟩) hL hd hG.2.2.2.2.2.1) (fun τ hs => zv_hd hs) hQ
  · cases ty <;> first | (exfalso; revert ht; decide) | exact Or.inl ⟨_, rfl⟩ | exact Or.inr ⟨_, rfl⟩
  · cases r with
    | none => exact Or.inl rfl
    | some p => exact Or.inr ⟨_, rfl⟩
end
