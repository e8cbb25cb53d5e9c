/-! rows of Z: the calls -/
section
variable {E : zE} {Y Y' : zY} {d d' : Nat} {M : zM} {lv : List (Nat × zV)} {idx pc : Nat} {st stk av as : List zV} {Q : zO → zM → Prop}
theorem Z.call (hcd : zcode Y') (hdd : d' + 1 ≤ d) (hw : zwords av ≤ zYl Y') (hst : (st.map zcat).sum + zYl Y' ≤ 29) {ig : Instr} {len : Nat} (hdg : decode (zYc Y) pc = .ok (ig, len))
    (hstep : ∀ (τ : zT) (p : Program) (l : Launch) (e : Env) (R : Room) (s : State) (m : MethodId) (args : Array Value) (below : List Frame) (meth : Method) (c : Code), zG E Y d p l R s m meth c → ∀ (H : Heap) (locs : List Loc) (cells slots : Nat) (ls : Array Slot), zrel E τ M H → (∀ v ∈ av, zvv τ v) → ls.size = zYl Y →
      ∀ T : State, T.heap = H → Stand p l e R s m args below meth c T locs cells slots → ∀ mk, s.methodNamed? (zYy Y') = some mk → ∃ vm', Stand p l e R s m args below meth c (T.setVm vm') locs cells slots ∧
        ∀ target, (∀ acts, Steps p.tables e below (doInvoke e ((T.setVm vm').setTop (F0 m pc ls (st.map (zcv E)))) acts mk (av.map (zcv E)).toArray).1 target) → Steps p.tables e below (T.setTop (F0 m pc ls (stk.map (zcv E)))) target)
    (hvv : ∀ τ : zT, (∀ v ∈ stk, zvv τ v) → (∀ v ∈ av, zvv τ v) ∧ ∀ v ∈ st, zvv τ v)
    (k : Z E Y' d' M (zargs 0 av) 0 [] (zafter E Y d lv pc len st Q)) : Z E Y d M lv pc stk Q := by
  obtain ⟨o1, M1, s1, s2, hQ1, hrun⟩ := k
  cases o1 with
  | inl v =>
    obtain ⟨o, M', s3, s4, hQ, hr⟩ := hQ1
    refine ⟨o, M', by omega, by omega, hQ, fun τ p l e R s m args below meth c hG H locs cells slots ls hR hl hs hL hc hn hh => ?_⟩
    refine zW_call (st := st) (ls := ls) hG hcd hdd hrun hw hst hR (hvv τ hs).1 hL (by omega) (by omega) hh.1 hdg (hstep τ p l e R s m args below meth c hG H locs cells slots ls hR (hvv τ hs).1 hh.1) ?_ (fun q hq => by cases hq)
    intro v' hv' τ' H1 L ht hR1 hvo hLL
    cases hv'
    have hw1 := hr τ' p l e R s m args below meth c hG H1 (locs ++ L) (cells + (zsz M1 - zsz M)) (slots + (zsu M1 - zsu M)) ls hR1 (fun q hq => (hl q hq).le ht) (fun x hx => ?_) hLL (by omega) (by omega) hh
    · rw [show cells + (zsz M1 - zsz M) + (zsz M' - zsz M1) = cells + (zsz M' - zsz M) by omega, show slots + (zsu M1 - zsu M) + (zsu M' - zsu M1) = slots + (zsu M' - zsu M) by omega] at hw1
      refine zW_mono ?_ hw1
      rintro t ⟨b1, b2, b3, L', b4, b5, τ2, b6, b7⟩
      exact ⟨b1, b2, b3, L', b4, b5, τ2, ht.tr b6, b7⟩
    · rcases List.mem_append.mp hx with h | h
      · cases v with
        | none => cases h
        | some w => rw [show x = w from by simpa using h]; exact hvo
      · exact ((hvv τ hs).2 x h).le ht
  | inr q =>
    obtain ⟨o, M', s3, s4, hQ, hr⟩ := hQ1
    refine ⟨o, M', by omega, by omega, hQ, fun τ p l e R s m args below meth c hG H locs cells slots ls hR hl hs hL hc hn hh => ?_⟩
    refine zW_call (st := st) (ls := ls) hG hcd hdd hrun hw hst hR (hvv τ hs).1 hL (by omega) (by omega) hh.1 hdg (hstep τ p l e R s m args below meth c hG H locs cells slots ls hR (hvv τ hs).1 hh.1) (fun v hv => by cases hv) ?_
    intro q' hq' τ' H1 L ht hR1 hvo hLL T' hT' X'
    cases hq'
    obtain ⟨t, a1, b1, b2, b3, L', b4, b5, τ2, b6, b7⟩ := hr τ' p l e R s m args below meth c hG H1 (locs ++ L) (cells + (zsz M1 - zsz M)) (slots + (zsu M1 - zsu M)) ls hR1 (fun q hq => (hl q hq).le ht) hvo hLL (by omega) (by omega) hh (st.map (zcv E)) T' hT' X'
    rw [show cells + (zsz M1 - zsz M) + (zsz M' - zsz M1) = cells + (zsz M' - zsz M) by omega, show slots + (zsu M1 - zsu M) + (zsu M' - zsu M1) = slots + (zsu M' - zsu M) by omega] at b4
    exact ⟨t, a1, b1, b2, b3, L', b4, b5, τ2, ht.tr b6, b7⟩
def zNoMH (y : MethodName) : Prop := y.cls ≠ "java/lang/invoke/MethodHandle" ∧ y.cls ≠ "java/lang/invoke/VarHandle"
/-- a virtual call of n arguments on an object of tag t, as the pool of own spells it at idx, comes to Y' -/
def zsV (own : String) (idx t : Nat) (Y' : zY) (n : Nat) : Prop := zcode Y' ∧ Cond.instanceMethod (zYy Y') ∈ lw_all ∧ ∃ q : vw_C, zcl[t]? = some q ∧
  ((zNoMH (zYy Y') ∧ (parseMethodDescriptor (zYy Y').desc).map (fun d => d.parameters.length) = some n ∧ Cond.selects q.1 (zYy Y') (zYy Y') ∈ lw_all ∧ (Cond.methodLink own idx (zYy Y') ∈ lw_all ∨ ∃ host, Cond.methodLinkNest own idx (zYy Y') host ∈ lw_tbl)) ∨
    ∃ (x : MethodName) (owner : String), zNoMH ⟨owner, x.name, x.desc⟩ ∧ (parseMethodDescriptor x.desc).map (fun d => d.parameters.length) = some n ∧ Cond.selects q.1 x (zYy Y') ∈ lw_all ∧ Cond.methodLink own idx x ∈ lw_all ∧ Cond.sameMethod x.cls owner x.name x.desc ∈ lw_all ∧
      (Cond.declares ⟨owner, x.name, x.desc⟩ ∈ lw_tbl ∨ ∃ b L r, Cond.instanceMethod ⟨owner, x.name, x.desc⟩ ∈ lw_all ∧ Cond.code ⟨owner, x.name, x.desc⟩ b L r ∈ lw_all))
theorem zmap_rev (E : zE) (a : zP) (as st : List zV) : (as.reverse ++ vr (some a) :: st).map (zcv E) = (as.map (zcv E)).reverse ++ Value.ref (zrho E a.1) :: st.map (zcv E) := by
  rw [List.map_append, List.map_reverse]; rfl
theorem zvv_rev {τ : zT} {a : zV} (h : ∀ v ∈ as.reverse ++ a :: st, zvv τ v) : (∀ v ∈ a :: as, zvv τ v) ∧ ∀ v ∈ st, zvv τ v := by
  refine ⟨fun v hv => ?_, fun v hv => h v (List.mem_append_right _ (List.mem_cons_of_mem _ hv))⟩
  rcases List.mem_cons.mp hv with e | e
  · rw [e]; exact h a (List.mem_append_right _ List.mem_cons_self)
  · exact h v (List.mem_append_left _ (List.mem_reverse.mpr e))
theorem z_callV {a t n : Nat} (hd : decode (zYc Y) pc = .ok (.invokevirtual idx, 3)) (hs : zsV (zYy Y).cls idx t Y' as.length) (hdd : d' + 1 ≤ d) (hw : zwords (vr (some (a, t, n)) :: as) ≤ zYl Y') (hst : (st.map zcat).sum + zYl Y' ≤ 29) (hk : as.reverse ++ vr (some (a, t, n)) :: st = stk)
    (k : Z E Y' d' M (zargs 0 (vr (some (a, t, n)) :: as)) 0 [] (zafter E Y d lv pc 3 st Q)) : Z E Y d M lv pc stk Q := by
  obtain ⟨hcd, hinst0, q, hq, hkind⟩ := hs
  refine Z.call hcd hdd hw hst hd (fun τ p l e R s m args below meth c hG H locs cells slots ls hR hav hsz T hT X mk hnamed => ?_) (fun τ h => by rw [← hk] at h; exact zvv_rev h) k
  obtain ⟨mk0, methk, ck, n0, n1, n2, n3, n4, n5, n6, n7, n8⟩ := hcd.spec hG.ok hG.warm
  obtain rfl : mk0 = mk := Option.some.inj (n0.symm.trans hnamed)
  obtain ⟨mkI, methI, i0, i1, i2, i3⟩ := Cond.instanceMethod_spec (hG.words args _ hinst0)
  obtain rfl : mk0 = mkI := Option.some.inj (n0.symm.trans i0)
  obtain rfl : methk = methI := Option.some.inj (n1.symm.trans i1)
  have hva : τ a = some (t, n) := hav _ List.mem_cons_self
  obtain ⟨cell, q1, q2, q3, q4⟩ := ((hR.2.2.1 a t n hva).2).obj hq
  have hcls : s.vm.findClass q.1 = some cell.cls := by rw [q2]; exact (hG.kn.1 t q hq).2.1
  have hcell : T.heap[zrho E a]? = some cell := by rw [hT]; exact q1
  have hobj : ∀ z, cell.vm ≠ .statics z := fun z h => by rw [q3] at h; cases h
  have hstack : (F0 m pc ls (stk.map (zcv E))).stack = (as.map (zcv E)).reverse ++ Value.ref (zrho E a) :: st.map (zcv E) := by
    show stk.map (zcv E) = _
    rw [← hk]; exact zmap_rev E (a, t, n) as st
  have hdg' : decode c.code (F0 m pc ls (stk.map (zcv E))).pc = .ok (.invokevirtual idx, 3) := by rw [hG.2.1]; exact hd
  rcases hkind with ⟨hno, hpar, hsel, hlink⟩ | ⟨x, owner, hno, hpar, hsel, hlink, hsame, hdecl⟩
  · obtain ⟨c2, r2, m2, g1, g2, g3, g4, kP, hkP, hkPi⟩ := Cond.selects_spec (hG.words args _ hsel)
    obtain rfl : cell.cls = c2 := Option.some.inj (hcls.symm.trans g1)
    obtain rfl : mk0 = r2 := Option.some.inj ((State.methodFound?_of_named n0 hno).symm.trans g2)
    obtain rfl : mk0 = m2 := Option.some.inj (n0.symm.trans g3)
    have hselP : selectMethod e.platform s.vm cell.cls mk0 = .method mk0 := by rw [Launch.admits_selectMethod X.admits]; exact g4
    have hlen : (as.map (zcv E)).length = methk.sig.parameters.length := by
      rw [n8] at hpar
      rw [List.length_map]
      exact (Option.some.inj hpar).symm
    rcases hlink with hlink | ⟨host, hlink⟩
    · obtain ⟨vm1, X1, hst1⟩ := X.invokevirtual hG.1 hG.own (hG.words args _ hlink) n0 n1 i2 hkP hkPi hno hcell hobj hselP n1 i3 hkP hkPi rfl hlen hstack hdg'
      exact ⟨vm1, X1, hst1⟩
    · obtain ⟨vm1, X1, hst1⟩ := X.invokevirtualNest hG.1 hG.own (hG.nestM hlink args) n0 n1 i2 hkP hkPi hno hcell hobj hselP n1 i3 hkP hkPi rfl hlen hstack hdg'
      exact ⟨vm1, X1, hst1⟩
  · obtain ⟨r0, r, hn, hrm, hstR, hsigR⟩ : va_Decl s ⟨owner, x.name, x.desc⟩ := by
      rcases hdecl with h | ⟨b, L, r, h1, h2⟩
      · exact va_Decl.abs (va_Nw.warmD hG.warm (va_Nw.of rfl (hG.ok.1 _ h)))
      · exact va_Decl.of (hG.words args _ h1) (hG.words args _ h2)
    have hsm := hG.words args _ hsame
    obtain ⟨cn, ckc, r1, hcn, hck, hni, hf, hn1⟩ := Cond.sameMethod_found hsm
    obtain rfl : r0 = r1 := Option.some.inj (hn.symm.trans hn1)
    obtain ⟨c2, r2, m2, g1, g2, g3, g4, kP, hkP, hkPi⟩ := Cond.selects_spec (hG.words args _ hsel)
    obtain rfl : cell.cls = c2 := Option.some.inj (hcls.symm.trans g1)
    obtain rfl : r0 = r2 := Option.some.inj (hf.symm.trans g2)
    obtain rfl : mk0 = m2 := Option.some.inj (n0.symm.trans g3)
    have hselP : selectMethod e.platform s.vm cell.cls r0 = .method mk0 := by rw [Launch.admits_selectMethod X.admits]; exact g4
    have hlen : (as.map (zcv E)).length = r.sig.parameters.length := by
      have h8 : parseMethodDescriptor x.desc = some r.sig := hsigR
      rw [h8] at hpar
      rw [List.length_map]
      exact (Option.some.inj hpar).symm
    obtain ⟨vm1, X1, hst1⟩ := X.invokevirtualUp hG.1 hG.own (hG.words args _ hlink) hsm hno hn hrm hstR hcell hobj hselP n1 i3 hkP hkPi rfl hlen hstack hdg'
    exact ⟨vm1, X1, hst1⟩
/-- a static call of n arguments -/
def zsS (own : String) (idx : Nat) (Y' : zY) (n : Nat) : Prop := zcode Y' ∧ zNoMH (zYy Y') ∧ (parseMethodDescriptor (zYy Y').desc).map (fun d => d.parameters.length) = some n ∧ Cond.static (zYy Y') ∈ lw_all ∧ Cond.initialized (zYy Y').cls ∈ lw_all ∧
  (Cond.methodLink own idx (zYy Y') ∈ lw_all ∨ ∃ host, Cond.methodLinkNest own idx (zYy Y') host ∈ lw_tbl)
theorem z_callS (hd : decode (zYc Y) pc = .ok (.invokestatic idx, 3)) (hs : zsS (zYy Y).cls idx Y' as.length) (hdd : d' + 1 ≤ d) (hw : zwords as ≤ zYl Y') (hst : (st.map zcat).sum + zYl Y' ≤ 29) (hk : as.reverse ++ st = stk)
    (k : Z E Y' d' M (zargs 0 as) 0 [] (zafter E Y d lv pc 3 st Q)) : Z E Y d M lv pc stk Q := by
  obtain ⟨hcd, hno, hpar, hstat, hini, hlink⟩ := hs
  refine Z.call hcd hdd hw hst hd (fun τ p l e R s m args below meth c hG H locs cells slots ls hR hav hsz T hT X mk hnamed => ?_) (fun τ h => by rw [← hk] at h; exact ⟨fun v hv => h v (List.mem_append_left _ (List.mem_reverse.mpr hv)), fun v hv => h v (List.mem_append_right _ hv)⟩) k
  obtain ⟨mk0, methk, ck, n0, n1, n2, n3, n4, n5, n6, n7, n8⟩ := hcd.spec hG.ok hG.warm
  obtain rfl : mk0 = mk := Option.some.inj (n0.symm.trans hnamed)
  have hstatic : methk.isStatic = true := Cond.static_spec n0 n1 (hG.words args _ hstat)
  obtain ⟨kP, hkP, -⟩ := className_of_methodNamed n0
  have hinitP : kP.init = .initialized := Cond.initialized_spec (findClass_of_methodNamed n0) hkP (hG.words args _ hini)
  have hstack : (F0 m pc ls (stk.map (zcv E))).stack = (as.map (zcv E)).reverse ++ st.map (zcv E) := by
    show stk.map (zcv E) = _
    rw [← hk, List.map_append, List.map_reverse]
  have hdg' : decode c.code (F0 m pc ls (stk.map (zcv E))).pc = .ok (.invokestatic idx, 3) := by rw [hG.2.1]; exact hd
  have hlen : (as.map (zcv E)).length = methk.sig.parameters.length := by
    rw [n8] at hpar
    rw [List.length_map]
    exact (Option.some.inj hpar).symm
  rcases hlink with hlink | ⟨host, hlink⟩
  · obtain ⟨vm1, X1, hst1⟩ := X.invokestatic hG.1 hG.own (hG.words args _ hlink) n0 n1 hstatic hkP hinitP hno rfl hlen hstack hdg'
    exact ⟨vm1, X1, hst1⟩
  · obtain ⟨vm1, X1, hst1⟩ := X.invokestaticNest hG.1 hG.own (hG.nestM hlink args) n0 n1 hstatic hkP hinitP hno rfl hlen hstack hdg'
    exact ⟨vm1, X1, hst1⟩
/-- a constructor's call of n arguments -/
def zsI (own : String) (idx : Nat) (Y' : zY) (n : Nat) : Prop := (plainFor (zYy Y') = true ∧ Cond.code (zYy Y') (zYc Y') (zYl Y') none ∈ lw_all ∧ zYh Y' = [] ∧ zYr Y' = none) ∧ zNoMH (zYy Y') ∧ (zYy Y').name = "<init>" ∧ (parseMethodDescriptor (zYy Y').desc).map (fun d => d.parameters.length) = some n ∧ Cond.instanceMethod (zYy Y') ∈ lw_all ∧
  (Cond.methodLink own idx (zYy Y') ∈ lw_all ∨ ∃ host, Cond.methodLinkNest own idx (zYy Y') host ∈ lw_tbl)
theorem z_callI {a : zP} (hd : decode (zYc Y) pc = .ok (.invokespecial idx, 3)) (hs : zsI (zYy Y).cls idx Y' as.length) (hdd : d' + 1 ≤ d) (hw : zwords (vr (some a) :: as) ≤ zYl Y') (hst : (st.map zcat).sum + zYl Y' ≤ 29) (hk : as.reverse ++ vr (some a) :: st = stk)
    (k : Z E Y' d' M (zargs 0 (vr (some a) :: as)) 0 [] (zafter E Y d lv pc 3 st Q)) : Z E Y d M lv pc stk Q := by
  obtain ⟨⟨hpf, hcd0, hh0, hr0⟩, hno, hnm, hpar, hinst, hlink⟩ := hs
  have hcd : zcode Y' := ⟨hpf, Or.inl ⟨by rw [hr0]; exact hcd0, hh0⟩⟩
  refine Z.call hcd hdd hw hst hd (fun τ p l e R s m args below meth c hG H locs cells slots ls hR hav hsz T hT X mk hnamed => ?_) (fun τ h => by rw [← hk] at h; exact zvv_rev h) k
  have hstack : (F0 m pc ls (stk.map (zcv E))).stack = (as.map (zcv E)).reverse ++ Value.ref (zrho E a.1) :: st.map (zcv E) := by
    show stk.map (zcv E) = _
    rw [← hk]; exact zmap_rev E a as st
  have hdg' : decode c.code (F0 m pc ls (stk.map (zcv E))).pc = .ok (.invokespecial idx, 3) := by rw [hG.2.1]; exact hd
  have hlen : ∀ sig, parseMethodDescriptor (zYy Y').desc = some sig → (as.map (zcv E)).length = sig.parameters.length := fun sig h => by
    rw [h] at hpar
    rw [List.length_map]
    exact (Option.some.inj hpar).symm
  have hpl : e.platform.magicAccessors = ({} : Platform).magicAccessors := by rw [X.admits.platform]
  rcases hlink with hlink | ⟨host, hlink⟩
  · obtain ⟨mk1, methM, cM, kP, vm1, m0, m1, m2, -, m3, -, m4, -, hW1, hst1⟩ := Steps.initColdArgs (e := e) X.here hG.1 X.warmed hpl hG.own hnm hno (hG.words args _ hlink) (hG.words args _ hinst) (hG.words args _ hcd0) (f := F0 m pc ls (stk.map (zcv E))) rfl hlen hstack hdg'
    obtain rfl : mk1 = mk := Option.some.inj (m0.symm.trans hnamed)
    exact ⟨vm1, X.noted hW1, hst1⟩
  · obtain ⟨mk1, methM, cM, kP, vm1, m0, m1, m2, -, m3, -, m4, -, hW1, hst1⟩ := Steps.initColdArgsNest (e := e) X.here hG.1 X.warmed hpl hG.own hnm hno (hG.nestM hlink args) (hG.words args _ hinst) (hG.words args _ hcd0) (f := F0 m pc ls (stk.map (zcv E))) rfl hlen hstack hdg'
    obtain rfl : mk1 = mk := Option.some.inj (m0.symm.trans hnamed)
    exact ⟨vm1, X.noted hW1, hst1⟩
end
