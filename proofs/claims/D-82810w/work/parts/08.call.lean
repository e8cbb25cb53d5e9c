/-! rows of Z: calls and throws -/
theorem zSteps_weaken {tb : Tables} {e : Env} {mid below : List Frame} {a b : State} (h : Steps tb e (mid ++ below) a b) : Steps tb e below a b := by
  obtain ⟨n, hn, w⟩ := h
  exact ⟨n, hn, fun k hk => (w k hk).weaken⟩
def zargs : Nat → List zV → List (Nat × zV)
  | _, [] => []
  | i, v :: vs => (i, v) :: zargs (if zcat v = 2 then i + 2 else i + 1) vs
theorem zargs_cv (E : zE) : ∀ (vs : List zV) (i : Nat), zlv E (zargs i vs) = lv_args i (vs.map (zcv E))
  | [], _ => rfl
  | v :: vs, i => by
    show (i, zcv E v) :: zlv E (zargs _ vs) = (i, zcv E v) :: lv_args _ _
    rw [zargs_cv E vs, zcat_cv]
theorem zargs_mem : ∀ (vs : List zV) (i : Nat) (q : Nat × zV), q ∈ zargs i vs → q.2 ∈ vs
  | v :: vs, i, q, h => by
    rcases List.mem_cons.mp h with h | h
    · rw [h]; exact List.mem_cons_self
    · exact List.mem_cons_of_mem _ (zargs_mem vs _ q h)
/-- how many words the arguments take -/
def zwords (vs : List zV) : Nat := (vs.map zcat).sum
theorem zwords_sl (E : zE) : ∀ vs : List zV, (lg_sl (vs.map (zcv E))).length = zwords vs
  | [] => rfl
  | .inl _ :: vs => by have := zwords_sl E vs; simp [zwords, lg_sl, zcv, zcat, Value.category] at this ⊢; omega
  | .inr (.inl _) :: vs => by have := zwords_sl E vs; simp [zwords, lg_sl, zcv, zcat, Value.category] at this ⊢; omega
  | .inr (.inr none) :: vs => by have := zwords_sl E vs; simp [zwords, lg_sl, zcv, zcat, Value.category] at this ⊢; omega
  | .inr (.inr (some _)) :: vs => by have := zwords_sl E vs; simp [zwords, lg_sl, zcv, zcat, Value.category] at this ⊢; omega
/-- the tables hold the method's code -/
def zcode (Y : zY) : Prop := plainFor (zYy Y) = true ∧ ((Cond.code (zYy Y) (zYc Y) (zYl Y) (zYr Y) ∈ lw_all ∧ zYh Y = []) ∨ Cond.codeWith (zYy Y) (zYc Y) (zYl Y) (zYr Y) (zYh Y) ∈ lw_all)
theorem zcode.spec {E : zE} {s : State} (hE : zEok E) (hW : (zs0 E).WarmedH s.vm) {Y : zY} (h : zcode Y) : ∃ (mk : MethodId) (methk : Method) (ck : Code), s.methodNamed? (zYy Y) = some mk ∧ s.vm.method? mk = some methk ∧ methk.code = some ck ∧ ck.code = zYc Y ∧ ck.maxLocals = zYl Y ∧ methk.sig.returnType = zYr Y ∧ methk.locks = false ∧
    ck.exceptionTable.toList.map (fun h => (h.startPc, h.endPc, h.handlerPc, h.catchType)) = zYh Y ∧ parseMethodDescriptor (zYy Y).desc = some methk.sig := by
  rcases h.2 with ⟨h1, h2⟩ | h1
  · have hc := zword hE hW h1 #[]
    obtain ⟨mk, hn⟩ := Cond.code_named hc
    obtain ⟨meth, c, g1, g2, g3, g4, g5, g6, g7, g8⟩ := Cond.code_spec hn hc
    refine ⟨mk, meth, c, hn, g1, g2, g3, g4, g5, g6, ?_, g8⟩
    have : c.exceptionTable = #[] := by simpa using g7
    rw [this, h2]
    rfl
  · have hc := zword hE hW h1 #[]
    obtain ⟨m, meth, c, g0, g1, g2, g3, g4, g5, g6, g7, g8⟩ := Cond.codeWith_spec hc
    exact ⟨m, meth, c, g0, g1, g2, g3, g4, g6, g7, g5, g8⟩
/-- a thrown object q is looked for in this frame, at pc -/
def zrunT (E : zE) (Y : zY) (d : Nat) (M : zM) (lv : List (Nat × zV)) (pc : Nat) (q : zP) (o : zO) (M' : zM) : Prop :=
  ∀ (τ : zT) (p : Program) (l : Launch) (e : Env) (R : Room) (s : State) (m : MethodId) (args : Array Value) (below : List Frame) (meth : Method) (c : Code), zG E Y d p l R s m meth c →
    ∀ (H : Heap) (locs : List Loc) (cells slots : Nat) (ls : Array Slot), zrel E τ M H → (∀ q ∈ lv, zvv τ q.2) → τ q.1 = some q.2 → (∀ q ∈ locs, zba E ≤ q.base) →
      cells + (zsz M' - zsz M) ≤ R.cells → slots + (zsu M' - zsu M) ≤ R.slots → lv_has ls (zYl Y) (zlv E lv) → ∀ (st : List Value) (T : State), T.heap = H → Stand p l e R s m args below meth c T locs cells slots →
      ∃ t, Steps p.tables e below ((T.setTop (F0 m pc ls st)).pushFrame (.throwing (zrho E q.1))) t ∧ zend E τ M' o s below (cells + (zsz M' - zsz M)) (slots + (zsu M' - zsu M)) t
def ZT (E : zE) (Y : zY) (d : Nat) (M : zM) (lv : List (Nat × zV)) (pc : Nat) (q : zP) (Q : zO → zM → Prop) : Prop :=
  ∃ (o : zO) (M' : zM), zsz M ≤ zsz M' ∧ zsu M ≤ zsu M' ∧ Q o M' ∧ zrunT E Y d M lv pc q o M'
/-- behind a call -/
def zafter (E : zE) (Y : zY) (d : Nat) (lv : List (Nat × zV)) (pc len : Nat) (st : List zV) (Q : zO → zM → Prop) : zO → zM → Prop
  | .inl v, M1 => Z E Y d M1 lv (pc + len) (v.toList ++ st) Q
  | .inr q, M1 => ZT E Y d M1 lv pc q Q
theorem ZT.out {E : zE} {Y : zY} {d : Nat} {M : zM} {lv : List (Nat × zV)} {pc : Nat} {q : zP} {Q : zO → zM → Prop} (hh : ∀ h ∈ zYh Y, ¬ (h.1 ≤ pc ∧ pc < h.2.1)) (hQ : Q (.inr q) M) : ZT E Y d M lv pc q Q := by
  refine ⟨.inr q, M, Nat.le_refl _, Nat.le_refl _, hQ, fun τ p l e R s m args below meth c hG H locs cells slots ls hR hl hq hL hc hn hls st T hT X => ?_⟩
  rw [Nat.sub_self, Nat.sub_self, Nat.add_zero, Nat.add_zero]
  have hout : ∀ x ∈ c.exceptionTable.toList, covers x (F0 m pc ls st).pc = false := by
    intro x hx
    have hm : (x.startPc, x.endPc, x.handlerPc, x.catchType) ∈ zYh Y := by rw [← hG.2.2.2.2.2.2.2.2.1]; exact List.mem_map.mpr ⟨x, hx, rfl⟩
    have := hh _ hm
    simpa [covers] using this
  obtain ⟨h1, h2, h3, h4, h5⟩ := X.leaveThrown (zrho E q.1) (g := F0 m pc ls st) rfl rfl rfl hout hG.2.2.2.2.2.1
  exact ⟨_, h1, h2, h3, h4, locs, h5, hL, τ, zle.rf, by show zrel E τ M T.heap; rw [hT]; exact hR, hq⟩
section
variable {E : zE} {Y : zY} {d : Nat} {M : zM} {lv : List (Nat × zV)} {idx pc : Nat} {st : List zV} {Q : zO → zM → Prop}
theorem z_athrow {q : zP} (hd : decode (zYc Y) pc = .ok (.athrow, 1)) (k : ZT E Y d M lv pc q Q) : Z E Y d M lv pc (vr (some q) :: st) Q := by
  obtain ⟨o, M', h1, h2, h3, hr⟩ := k
  refine ⟨o, M', h1, h2, h3, fun τ p l e R s m args below meth c hG H locs cells slots ls hR hl hs hL hc hn hh => ?_⟩
  intro T hT X
  obtain ⟨t, a1, b1⟩ := hr τ p l e R s m args below meth c hG H locs cells slots ls hR hl (zv_hd hs) hL hc hn hh (st.map (zcv E)) T hT X
  refine ⟨t, ?_, b1⟩
  have hexec := hG.1
  have hb := hG.2.1
  have hstack : (F0 m pc ls ((vr (some q) :: st).map (zcv E))).stack = .ref (zrho E q.1) :: st.map (zcv E) := rfl
  have hd' : decode c.code pc = .ok (.athrow, 1) := by rw [hb]; exact hd
  jvm_step X.here [hexec, hd', athrow.wp_sem, hstack]
  exact a1
/-- the core of every call -/
theorem zW_call {p : Program} {l : Launch} {e : Env} {R : Room} {s : State} {m : MethodId} {args : Array Value} {below : List Frame} {meth : Method} {c : Code} (hG : zG E Y d p l R s m meth c) {Y' : zY} (hcd : zcode Y') {d' : Nat} (hdd : d' + 1 ≤ d) {av : List zV} {o1 : zO} {M1 : zM} (hrun : zrun E Y' d' M (zargs 0 av) 0 [] o1 M1)
    (hwl : zwords av ≤ zYl Y') (hst : (st.map zcat).sum + zYl Y' ≤ 29) {τ : zT} {H : Heap} {locs : List Loc} {cells slots : Nat} {ls : Array Slot} (hR : zrel E τ M H) (hav : ∀ v ∈ av, zvv τ v) (hL : ∀ q ∈ locs, zba E ≤ q.base) (hcells : cells + (zsz M1 - zsz M) ≤ R.cells) (hslots : slots + (zsu M1 - zsu M) ≤ R.slots)
    (hsize : ls.size = zYl Y) {ig : Instr} {len : Nat} (hdg : decode (zYc Y) pc = .ok (ig, len)) {Qs : State → Prop} {g0 : JFrame}
    (hstep : ∀ T : State, T.heap = H → Stand p l e R s m args below meth c T locs cells slots → ∀ mk, s.methodNamed? (zYy Y') = some mk → ∃ vm', Stand p l e R s m args below meth c (T.setVm vm') locs cells slots ∧
      ∀ target, (∀ acts, Steps p.tables e below (doInvoke e ((T.setVm vm').setTop (F0 m pc ls (st.map (zcv E)))) acts mk (av.map (zcv E)).toArray).1 target) → Steps p.tables e below (T.setTop g0) target)
    (hret : ∀ (v : Option zV), o1 = .inl v → ∀ (τ' : zT) (H1 : Heap) (L : List Loc), zle τ τ' → zrel E τ' M1 H1 → zvo τ' o1 → (∀ q ∈ locs ++ L, zba E ≤ q.base) →
      W p l e R s m args below meth c H1 (locs ++ L) (cells + (zsz M1 - zsz M)) (slots + (zsu M1 - zsu M)) Qs (F0 m (pc + len) ls ((v.toList ++ st).map (zcv E))))
    (hthr : ∀ q : zP, o1 = .inr q → ∀ (τ' : zT) (H1 : Heap) (L : List Loc), zle τ τ' → zrel E τ' M1 H1 → zvo τ' o1 → (∀ q ∈ locs ++ L, zba E ≤ q.base) → ∀ T' : State, T'.heap = H1 → Stand p l e R s m args below meth c T' (locs ++ L) (cells + (zsz M1 - zsz M)) (slots + (zsu M1 - zsu M)) →
      ∃ t, Steps p.tables e below ((T'.setTop (F0 m pc ls (st.map (zcv E)))).pushFrame (.throwing (zrho E q.1))) t ∧ Qs t) : W p l e R s m args below meth c H locs cells slots Qs g0 := by
  intro T hT X
  obtain ⟨mk, methk, ck, n0, n1, n2, n3, n4, n5, n6, n7, n8⟩ := hcd.spec hG.ok hG.warm
  obtain ⟨vm', X1, hst1⟩ := hstep T hT X mk n0
  have hW1 : s.WarmedH vm' := X1.warmed
  have hW0 : (zs0 E).WarmedH vm' := State.WarmedH.trans hG.warm hW1
  obtain ⟨mk', methk', ck', k0, k1, k2, k3, k4, k5, k6, k7, k8⟩ := hcd.spec (s := T.setVm vm') hG.ok hW0
  have hnk : (T.setVm vm').methodNamed? (zYy Y') = some mk := X1.named n0
  obtain rfl : mk' = mk := Option.some.inj (k0.symm.trans hnk)
  have hdg' : decode c.code (F0 m pc ls (st.map (zcv E))).pc = .ok (ig, len) := by rw [hG.2.1]; exact hdg
  have hsum : ((F0 m pc ls (st.map (zcv E))).stack.map fun v => v.category).sum = (st.map zcat).sum := by
    show ((st.map (zcv E)).map fun v => v.category).sum = _
    rw [List.map_map]
    congr 1
    exact List.map_congr_left fun v _ => zcat_cv E v
  have hfr : d ≤ R.frames := hG.2.2.2.2.2.2.2.2.2.1
  have hlo : 41 * d ≤ R.locals := hG.2.2.2.2.2.2.2.2.2.2.1
  obtain ⟨Y0, hin⟩ := X1.into (g := F0 m pc ls (st.map (zcv E))) rfl (by show ls.size = _; rw [hsize, hG.2.2.1]) hdg' (av.map (zcv E)).toArray (R' := { frames := d', cells := zsz M1 - zsz M, slots := zsu M1 - zsu M, locals := 41 * d' }) k1 k2 k6 (State.plainMethod.of_named hcd.1 k0 k1)
    (by show d' + 1 ≤ _; omega) (by rw [hsum, k4]; show 2 * 0 + _ + _ + 41 * d' ≤ _; omega) hcells hslots
  have hmeth : methk'.name = (zYy Y').name := (name_of_methodNamed k0 k1).1
  have hG' : zG E Y' d' p l { frames := d', cells := zsz M1 - zsz M, slots := zsu M1 - zsu M, locals := 41 * d' } ((T.setVm vm').calling (F0 m pc ls (st.map (zcv E))) mk' (av.map (zcv E)).toArray) mk' methk' ck' :=
    ⟨hG.1, k3, k4, findClass_of_methodNamed (s := T.setVm vm') k0, hW0, k6, k5, hmeth, k7, Nat.le_refl _, Nat.le_refl _, hG.ok, hG.fl⟩
  have hle := lv_entry (av.map (zcv E)) (n := zYl Y') (by rw [zwords_sl]; exact hwl)
  rw [← zargs_cv] at hle
  have hw := hrun τ p l e _ _ mk' (av.map (zcv E)).toArray (.java (F0 m pc ls (st.map (zcv E))) :: below) methk' ck' hG' H [] 0 0 _ hR (fun q hq => hav _ (zargs_mem _ _ _ hq)) (fun v hv => by cases hv) (fun q hq => by cases hq) (by show 0 + (zsz M1 - zsz M) ≤ zsz M1 - zsz M; omega) (by show 0 + (zsu M1 - zsu M) ≤ zsu M1 - zsu M; omega) hle
  rw [show ([] : List zV).map (zcv E) = [] from rfl, ← lg_entry_eq, ← k4] at hw
  obtain ⟨t, a1, b1, b2, b3, L, b4, b5, τ', b6, b7, b8⟩ := hw _ (by show T.heap = H; exact hT) Y0
  rw [Nat.zero_add, Nat.zero_add] at b4
  have hLL : ∀ q ∈ locs ++ L, zba E ≤ q.base := fun q hq => by
    rcases List.mem_append.mp hq with h | h
    · exact hL q h
    · exact b5 q h
  cases o1 with
  | inl v =>
    obtain ⟨T', X', hW', hB', ht⟩ := X1.outOf (g := F0 m pc ls (st.map (zcv E))) rfl hdg' b2 b3 b4
    have hh : T'.heap = t.heap := by rw [ht]; simp
    obtain ⟨t2, a2, c2⟩ := hret v rfl τ' T'.heap L b6 (by rw [hh]; exact b7) b8 hLL T' rfl X'
    refine ⟨t2, hst1 t2 fun acts => ?_, c2⟩
    rw [hin acts]
    refine (zSteps_weaken (mid := [.java (F0 m pc ls (st.map (zcv E)))]) a1).trans ?_
    rw [ht]
    have e1 : ((v.map (zcv E)).toList ++ st.map (zcv E)) = (v.toList ++ st).map (zcv E) := by cases v <;> rfl
    rw [e1]
    exact a2
  | inr q =>
    obtain ⟨T', X', hW', hB', ht⟩ := X1.outOfThrown (g := F0 m pc ls (st.map (zcv E))) rfl b2 b3 b4
    have hh : T'.heap = t.heap := by rw [ht]; simp [State.pushFrame, State.setFrames, State.setTop, State.modifyTopJava]
    obtain ⟨t2, a2, c2⟩ := hthr q rfl τ' T'.heap L b6 (by rw [hh]; exact b7) b8 hLL T' rfl X'
    refine ⟨t2, hst1 t2 fun acts => ?_, c2⟩
    rw [hin acts]
    refine (zSteps_weaken (mid := [.java (F0 m pc ls (st.map (zcv E)))]) a1).trans ?_
    rw [ht]
    exact a2
end
