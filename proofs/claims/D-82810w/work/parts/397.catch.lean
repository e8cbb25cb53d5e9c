/-! rows of ZT: a handler that catches; its class may not be resolved yet -/
set_option maxRecDepth 100000
section
variable {e : Env} {s : State} {f : JFrame} {a : Addr}
theorem zgo_cold {x : ExceptionTableEntry} {t : List ExceptionTableEntry} {c : ClassId} {vm' : Vm} (hx : covers x f.pc = true) (h0 : x.catchType ≠ 0) (hg : (Jvm.resolveClass f.method.cls x.catchType).Gives e.toSetting s.vm (.ok c) vm') (hr : vm'.classReady f.method.cls x.catchType c) (hsz : vm'.classes.size ≤ s.vm.classes.size) {Q : Handler → Pre} {E : CtlPost} {d : Bool} {acts : List Action} :
    wp (findHandler.go f a (x :: t)) Q E e d acts s ↔ wp (findHandler.go f a (x :: t)) Q E e d acts (s.setVm vm') := by
  simp only [covers] at hx
  obtain ⟨ha, ht⟩ := hg.op (op := VmOp.resolveClass f.method.cls x.catchType) rfl
  obtain ⟨k, hkd, hres⟩ := hr
  have hm := resolveClass_memo (vm := vm') e hkd hres
  simp [findHandler.go, hx, h0, ha, ht, hsz, hm, VmOp.dirties, VmOp.acts]
  exact Iff.rfl
theorem zcatch_step {r : List Frame} {pc : Nat} {vm' : Vm} (hfind : ∀ (Q : Handler → Pre) (E : CtlPost) (d : Bool) (acts : List Action), wp (findHandler f a) Q E e d acts s ↔ Q (.found pc) d acts (s.setVm vm')) :
    (stepThrowing e s a (.java f :: r)).Is ((s.setVm vm').setFrames (.java { f with pc := pc, stack := [.ref a] } :: r)) [] := by
  simp only [stepThrowing, searchFrame, vmDo]
  generalize hr : Sem.go _ e false [] s = res
  obtain ⟨as, rfl, ha⟩ := Sem.eq_ok_of hr (a := Handler.found pc) (s' := s.setVm vm') (acts' := []) (by simp [hfind _ _ _ _])
  exact ⟨rfl, ha⟩
theorem zcaught {tb : Tables} {target : State} {g : JFrame} {c : Code} {below : List Frame} (h : At s g.method c below) {pc : Nat} {vm' : Vm} (hfind : ∀ (Q : Handler → Pre) (E : CtlPost) (d : Bool) (acts : List Action), wp (findHandler g a) Q E e d acts ((s.setTop g).pushFrame (.throwing a)) ↔ Q (.found pc) d acts (((s.setTop g).pushFrame (.throwing a)).setVm vm'))
    (hrest : Steps tb e below ((s.setVm vm').setTop { g with pc := pc, stack := [.ref a] }) target) : Steps tb e below ((s.setTop g).pushFrame (.throwing a)) target := by
  obtain ⟨hgo, hw⟩ := h.throwing a
  refine Steps.head hgo hw ?_
  rw [stepThread_throwing (frames_entered h.top _), (zcatch_step (s := (s.setTop g).pushFrame (.throwing a)) hfind).1]
  obtain ⟨g₀, hg⟩ := Option.isSome_iff_exists.mp h.top
  obtain ⟨r, hr⟩ := State.topJava?_eq_some.mp hg
  have hr' : (s.setVm vm').frames = .java g₀ :: r := hr
  rw [State.setTop_of_frames _ hr'] at hrest
  rw [hr]
  rw [State.pushFrame, State.setTop_of_frames _ hr]
  have e1 : (((s.setFrames (.java g :: r)).setFrames (.throwing a :: (s.setFrames (.java g :: r)).frames)).setVm vm') = ((s.setVm vm').setFrames (.java g :: r)).setFrames (.throwing a :: (s.setFrames (.java g :: r)).frames) := rfl
  rw [e1, State.setFrames_setFrames, State.setFrames_setFrames]
  exact hrest
end
/-- the search of a table for an object of tag t comes to the handler hp -/
def zcatch (own : String) (pc t hp : Nat) : List (Nat × Nat × Nat × Nat) → Prop
  | [] => False
  | h :: rest => (¬ (h.1 ≤ pc ∧ pc < h.2.1) ∧ zcatch own pc t hp rest) ∨ ((h.1 ≤ pc ∧ pc < h.2.1) ∧ h.2.2.2 ≠ 0 ∧ ∃ (nm : String) (r : vw_C), Cond.classLink own h.2.2.2 nm ∈ lw_all ∧ zcl[t]? = some r ∧
      ((r.1 = nm ∧ h.2.2.1 = hp) ∨ (Cond.not (Cond.castable r.1 nm) ∈ zFL ∧ zcatch own pc t hp rest)))
theorem zT_setVm (T : State) (g : JFrame) (a : Addr) (v : Vm) : ((T.setTop g).pushFrame (.throwing a)).setVm v = (((T.setVm v).setTop g).pushFrame (.throwing a)) := rfl
theorem zsearch {E : zE} {Y : zY} {dd : Nat} {p : Program} {l : Launch} {e : Env} {R : Room} {s : State} {m : MethodId} {args : Array Value} {below : List Frame} {meth : Method} {c : Code} (hG : zG E Y dd p l R s m meth c) {g : JFrame} (hgm : g.method = m) {a : Addr} {cell : Cell} {t hp : Nat} {locs : List Loc} {cells slots : Nat}
    (hst : cell.vm.isStatics = false) (hcl : ∀ r, zcl[t]? = some r → s.vm.findClass r.1 = some cell.cls ∧ ClassAt s r.1 cell.cls) :
    ∀ (L : List ExceptionTableEntry), zcatch (zYy Y).cls g.pc t hp (L.map (fun h => (h.startPc, h.endPc, h.handlerPc, h.catchType))) → ∀ T : State, T.heap[a]? = some cell → Stand p l e R s m args below meth c T locs cells slots →
      ∃ vm', Stand p l e R s m args below meth c (T.setVm vm') locs cells slots ∧ ∀ (Q : Handler → Pre) (EE : CtlPost) (d : Bool) (acts : List Action), wp (findHandler.go g a L) Q EE e d acts ((T.setTop g).pushFrame (.throwing a)) ↔ Q (.found hp) d acts (((T.setTop g).pushFrame (.throwing a)).setVm vm')
  | [], h, _, _, _ => by cases h
  | x :: L, h, T, hcell, X => by
    rcases h with ⟨h1, h2⟩ | ⟨h1, h0, nm, r, hlink, hr, h2⟩
    · obtain ⟨vm', X', hf⟩ := zsearch hG hgm hst hcl L h2 T hcell X
      refine ⟨vm', X', fun Q EE d acts => ?_⟩
      have hx : covers x g.pc = false := by
        simp only [covers]
        simpa using h1
      rw [W.findHandler_go_skip hx]
      exact hf Q EE d acts
    · have hx : covers x g.pc = true := by
        simp only [covers]
        simpa using h1
      have hpl : e.platform.magicAccessors = ({} : Platform).magicAccessors := by rw [X.admits.platform]
      obtain ⟨cT, hcT, hcl2⟩ := Cond.classLink_spec hG.own (hG.words args _ hlink) e.platform hpl
      obtain ⟨hg₁, hwarm₁, hready₁⟩ := State.classEntry (e := e) X.warmed hcl2
      obtain ⟨_, _, _, kt, _, _, _, _, _, hkt, _, _⟩ := hcl2.here
      have X₁ := X.noted hwarm₁
      obtain ⟨q1, q2⟩ := hcl r hr
      obtain ⟨kt', hkt', -⟩ := hwarm₁.alike.2.2 _ _ hkt
      obtain ⟨-, kc, hkc, -⟩ := q2
      obtain ⟨kc', hkc', -⟩ := hwarm₁.alike.2.2 _ _ hkc
      have hstep : ∀ (Q : Handler → Pre) (EE : CtlPost) (d : Bool) (acts : List Action), wp (findHandler.go g a (x :: L)) Q EE e d acts ((T.setTop g).pushFrame (.throwing a)) ↔
          if (T.vm.noted m.cls x.catchType (.cls cT)).assignable cell.cls cT = true then Q (.found x.handlerPc) d acts (((T.setTop g).pushFrame (.throwing a)).setVm (T.vm.noted m.cls x.catchType (.cls cT))) else wp (findHandler.go g a L) Q EE e d acts (((T.setTop g).pushFrame (.throwing a)).setVm (T.vm.noted m.cls x.catchType (.cls cT))) := by
        intro Q EE d acts
        rw [zgo_cold (vm' := T.vm.noted m.cls x.catchType (.cls cT)) hx h0 (by rw [hgm]; exact hg₁) (by rw [hgm]; exact hready₁) (by show (T.vm.noted m.cls x.catchType (.cls cT)).classes.size ≤ T.vm.classes.size; simp [Vm.noted])]
        exact W.findHandler_go_class (s := ((T.setTop g).pushFrame (.throwing a)).setVm (T.vm.noted m.cls x.catchType (.cls cT))) hx h0 (by rw [hgm]; exact hready₁) (by rw [zT_setVm, Stand.throwing_heap]; exact hcell) (VmData.ne_statics_of hst) ⟨kc', hkc'⟩ ⟨kt', hkt'⟩
      rcases h2 with ⟨h2, h3⟩ | ⟨h2, h3⟩
      · have hT : cT = cell.cls := by rw [← h2] at hcT; exact Option.some.inj (hcT.symm.trans q1)
        subst hT
        have hasg : (T.vm.noted m.cls x.catchType (.cls cell.cls)).assignable cell.cls cell.cls = true := by rw [hwarm₁.alike.assignable]; exact va_assign (hcl r hr).2
        refine ⟨_, X₁, fun Q EE d acts => ?_⟩
        rw [hstep, if_pos hasg, ← h3]
      · have hno : (T.vm.noted m.cls x.catchType (.cls cT)).assignable cell.cls cT = false := by
          rw [hwarm₁.alike.assignable]
          cases hasg : s.vm.assignable cell.cls cT with
          | false => rfl
          | true =>
            exfalso
            have hn : (Cond.not (Cond.castable r.1 nm)).before #[Value.ref (zsb E)] (zs0 E) = true := flat_of_before _ hG.ok.2.2.2.2.1 _ h2
            have hs0 : (Cond.castable r.1 nm).before #[Value.ref (zsb E)] (zs0 E) = true := by
              have f1 : (zs0 E).vm.findClass r.1 = some cell.cls := by rw [← hG.warm.alike.findClass]; exact q1
              have f2 : (zs0 E).vm.findClass nm = some cT := by rw [← hG.warm.alike.findClass]; exact hcT
              have f3 : (zs0 E).vm.assignable cell.cls cT = true := by rw [← hG.warm.alike.assignable]; exact hasg
              simp [Cond.before, Cond.holds, Cond.value, f1, f2, f3]
            have hs0' := hs0
            simp only [Cond.before, Cond.holds] at hn hs0'
            simp only [Cond.value] at hn hs0'
            simp_all
        obtain ⟨vm2, X2, hf⟩ := zsearch hG hgm hst hcl L h3 (T.setVm (T.vm.noted m.cls x.catchType (.cls cT))) hcell X₁
        refine ⟨vm2, X2, fun Q EE d acts => ?_⟩
        rw [hstep, if_neg (by rw [hno]; decide)]
        exact hf Q EE d acts
/-- caught: the run goes on at the handler, the exception alone on the stack -/
theorem ZT.catch {E : zE} {Y : zY} {d : Nat} {M : zM} {lv : List (Nat × zV)} {pc a t n hp : Nat} {Q : zO → zM → Prop} (h : zcatch (zYy Y).cls pc t hp (zYh Y)) (ht : t < 100) (k : Z E Y d M lv hp [vr (some (a, t, n))] Q) : ZT E Y d M lv pc (a, t, n) Q := by
  obtain ⟨o, M', h1, h2, h3, hr⟩ := k
  refine ⟨o, M', h1, h2, h3, fun τ p l e R s m args below meth c hG H locs cells slots ls hR hl hq hL hc hn hls st T hT X => ?_⟩
  have hcc := (hR.2.2.1 a t n hq).2
  have hcc' := hcc
  unfold zcell at hcc'
  rw [if_pos ht] at hcc'
  obtain ⟨r, hr0, -⟩ := hcc'
  obtain ⟨cell, q1, q2, q3, q4⟩ := hcc.obj hr0
  have hstat : cell.vm.isStatics = false := by rw [q3]; rfl
  have hkn := (hG.kn.1 t r hr0).2
  have hcl : ∀ r', zcl[t]? = some r' → s.vm.findClass r'.1 = some cell.cls ∧ ClassAt s r'.1 cell.cls := fun r' h' => by
    cases hr0.symm.trans h'
    rw [q2]
    exact ⟨hkn.1, hkn⟩
  obtain ⟨vm', X', hf⟩ := zsearch hG (g := F0 m pc ls st) rfl (a := zrho E a) (cell := cell) (t := t) (hp := hp) hstat hcl c.exceptionTable.toList (by rw [hG.2.2.2.2.2.2.2.2.1]; exact h) T (by rw [hT]; exact q1) X
  obtain ⟨t2, a1, b1⟩ := hr τ p l e R s m args below meth c hG H locs cells slots ls hR hl (zv_cons hq (fun v hv => by cases hv)) hL hc hn hls (T.setVm vm') hT X'
  refine ⟨t2, zcaught (g := F0 m pc ls st) X.here (pc := hp) (vm' := vm') (fun Q EE d acts => ?_) a1, b1⟩
  rw [W.findHandler_eq (meth := meth) (code := c) (by rw [Stand.throwing_vm]; exact X.method') X.code]
  exact hf Q EE d acts
