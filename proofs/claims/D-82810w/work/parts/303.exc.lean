/-! new exceptions of the JDK's, made and initialised in one row -/
set_option maxRecDepth 100000
theorem zx_a1 : ∀ x ∈ Bundle.throwableAtoms, x ∈ lw_all ∨ x = Cond.laysStatic Bundle.tN "UNASSIGNED_STACK" Bundle.steD ∨ x = Cond.laysStatic Bundle.tN "SUPPRESSED_SENTINEL" Bundle.listD := by decide +kernel
/-- the tables of s over the heap of the law's entry -/
def zsq (E : zE) (s : State) : State := (zs0 E).setVm s.vm
theorem zx_th {E : zE} {s : State} (hE : zEok E) (hW : (zs0 E).WarmedH s.vm) : ∀ x ∈ Bundle.throwableAtoms, x.before #[Value.ref (zsb E)] (zsq E s) = true := fun x hx => by
  rcases zx_a1 x hx with h | h | h
  · exact zword (s := zsq E s) hE hW h _
  · rw [h]; exact Cond.laysStatic_setVm hW.alike (hE.1 _ q649)
  · rw [h]; exact Cond.laysStatic_setVm hW.alike (hE.1 _ q651)
theorem zx_links {T : ThrowableC} {pl : Platform} {E : zE} {s : State} (L : T.Links pl (zsq E s)) : T.Links pl s := by
  cases L
  constructor <;> assumption
theorem zx_links0 {P : PassC} {pl : Platform} {E : zE} {s : State} (L : P.Links0 pl (zsq E s)) : P.Links0 pl s := by
  cases L
  constructor <;> assumption
def zx_ref (E : zE) (i : Nat) : RefV := ⟨zcv E (vr (zsv E i)), by cases h : zsv E i <;> rfl⟩

theorem zx_c15 : ∀ x ∈ Bundle.chain0Atoms "java/lang/IllegalStateException" ["java/lang/RuntimeException", "java/lang/Exception"], x ∈ lw_all ∨ x = Cond.declares (Bundle.init0 "java/lang/RuntimeException") ∨ x = Cond.declares (Bundle.init0 "java/lang/Exception") ∨ x = Cond.declares (Bundle.init0 "java/lang/Throwable") := by decide +kernel
theorem zx_d15 : Cond.instantiable "java/lang/IllegalStateException" 6 ∈ lw_all ∧ Cond.selects "java/lang/IllegalStateException" Bundle.tFill0 Bundle.tFill0 ∈ lw_all ∧ Cond.selects "java/lang/IllegalStateException" Bundle.tFill Bundle.tFill ∈ lw_all ∧ Cond.lays "java/lang/IllegalStateException" Bundle.tN "cause" "Ljava/lang/Throwable;" ∈ lw_all ∧ Cond.lays "java/lang/IllegalStateException" Bundle.tN "stackTrace" Bundle.steD ∈ lw_all ∧ Cond.lays "java/lang/IllegalStateException" Bundle.tN "suppressedExceptions" Bundle.listD ∈ lw_all ∧ Cond.fieldLink Bundle.tN 198 Bundle.tN "backtrace" "Ljava/lang/Object;" ∈ lw_all ∧ Cond.lays Bundle.tN Bundle.tN "backtrace" "Ljava/lang/Object;" ∈ lw_all ∧ Cond.lays "java/lang/IllegalStateException" Bundle.tN "backtrace" "Ljava/lang/Object;" ∈ lw_all ∧ Cond.instanceMethod (Bundle.init0 "java/lang/IllegalStateException") ∈ lw_all ∧ Cond.code (Bundle.init0 "java/lang/IllegalStateException") Bundle.five 1 none ∈ lw_all ∧ Cond.initialized "java/lang/IllegalStateException" ∈ lw_all := by decide +kernel
theorem zx_ch15 {E : zE} {s : State} (hE : zEok E) (hW : (zs0 E).WarmedH s.vm) : ∀ x ∈ Bundle.chain0Atoms "java/lang/IllegalStateException" ["java/lang/RuntimeException", "java/lang/Exception"], x.before #[] (zsq E s) = true := fun x hx => by
  rcases zx_c15 x hx with h | h | h | h
  · exact zword (s := zsq E s) hE hW h _
  · rw [h]; exact va_Nw.warmD (U := zsq E s) hW (va_Nw.of rfl (hE.1 _ q625))
  · rw [h]; exact va_Nw.warmD (U := zsq E s) hW (va_Nw.of rfl (hE.1 _ q627))
  · rw [h]; exact va_Nw.warmD (U := zsq E s) hW (va_Nw.of rfl (hE.1 _ q629))
set_option maxHeartbeats 2000000 in
theorem z_newExc15 {E : zE} {Y : zY} {d : Nat} {M : zM} {lv : List (Nat × zV)} {i1 ic pc : Nat} {st : List zV} {Q : zO → zM → Prop} (hd : decode (zYc Y) pc = .ok (.new i1, 3)) (hd3 : decode (zYc Y) (pc + 3) = .ok (.dup, 1)) (hd4 : decode (zYc Y) (pc + 3 + 1) = .ok (.invokespecial ic, 3)) (hl1 : Cond.classLink (zYy Y).cls i1 "java/lang/IllegalStateException" ∈ lw_all) (hl2 : Cond.methodLink (zYy Y).cls ic (Bundle.init0 "java/lang/IllegalStateException") ∈ lw_all) (hdd : 7 ≤ d) (hst : (st.map zcat).sum ≤ 20)
    (kz : Z E Y d (sr (sr (sr (zn M 6) (zsz M) 0 (some (zsz M, 15, 0))) (zsz M) 1 (zsv E 2)) (zsz M) 2 (zsv E 3)) lv (pc + 7) (vr (some (zsz M, 15, 0)) :: st) Q) : Z E Y d M lv pc st Q := by
  obtain ⟨o, M', h1, h2, h3, hr⟩ := kz
  have e1 : zsz (sr (sr (sr (zn M 6) (zsz M) 0 (some (zsz M, 15, 0))) (zsz M) 1 (zsv E 2)) (zsz M) 2 (zsv E 3)) = zsz M + 1 := rfl
  have e2 : zsu (sr (sr (sr (zn M 6) (zsz M) 0 (some (zsz M, 15, 0))) (zsz M) 1 (zsv E 2)) (zsz M) 2 (zsv E 3)) = zsu M + 6 := rfl
  rw [e1] at h1
  rw [e2] at h2
  refine ⟨o, M', by omega, by omega, h3, fun τ p l e R s m args below meth c hG H locs cells slots ls hR hl hs hL hc hn hh => ?_⟩
  obtain ⟨d1, d2, d3, d4, d5, d6, d7, d8, d9, d10, d11, d12⟩ := zx_d15
  have hE := hG.ok
  have hW := hG.warm
  have hqq : zcl[15]? = some (RJ14, TJ14, 6) := rfl
  have hKn := hG.kn.1 15 _ hqq
  have hcf := zcf 15 _ hqq
  refine W.newcK hG.1 hG.2.1 hG.own (hG.words args _ hl1) (hG.words args _ d1) (hG.words args _ d12) rfl hd (by omega) (by omega) hKn.2.1 rfl fun H1 kC hkC f1 f2 f3 => ?_
  have hR1 : zrel E (zup τ (zsz M) (15, 0)) (zn M 6) H1 := by
    refine hR.new f2 f3 ?_
    unfold zcell
    rw [if_pos (by decide), hR.at]
    refine ⟨_, hqq, (u_born _ (hG.words args) hcf.1 hKn hkC f1 hcf.2.2).to fun k hk => ?_⟩
    have hff : (zty.getD 15 (fun _ => .int)) k ≠ .float ∧ (zty.getD 15 (fun _ => .int)) k ≠ .double := by
      have : ∀ k, k < 6 → (zty.getD 15 (fun _ => .int)) k ≠ .float ∧ (zty.getD 15 (fun _ => .int)) k ≠ .double := by decide +kernel
      exact this k hk
    rw [zdef hff E M 6 k]
    have : zkd ((TJ14) k).2.2.1 = zkt ((zty.getD 15 (fun _ => .int)) k) := by unfold zkd; rw [hcf.2.2 k hk]
    rw [this]
  refine lv_dup hG.1 hG.2.1 hd3 rfl ?_
  intro T hT X
  have howns : e.platform.frameOwnsMonitors = true := by rw [X.admits.platform]
  have hfin : e.platform.finalization = false := by rw [X.admits.platform]
  have hpl : e.platform.magicAccessors = ({} : Platform).magicAccessors := by rw [X.admits.platform]
  have htr : e.platform.stackTraces = false := Launch.traces_off hG.fl X.admits
  obtain ⟨TT, ZZ, L0, LZ, YY⟩ := ThrowableC.of_atoms (args := #[Value.ref (zsb E)]) (s := zsq E s) howns hfin hpl (zx_th hE hW)
  obtain ⟨P1, Ps, hlen, L1, hLs, hP1m, hlink1, hlink⟩ := Bundle.chain0 (args := #[]) (s := zsq E s) (pl := e.platform) hpl YY.init0 ["java/lang/RuntimeException", "java/lang/Exception"] "java/lang/IllegalStateException" (by decide +kernel) (by decide +kernel) (zx_ch15 hE hW)
  have wq : ∀ {x : Cond}, x ∈ lw_all → x.before #[] (zsq E s) = true := fun hx => zword (s := zsq E s) hE hW hx _
  have hfound : (zsq E s).vm.findClass "java/lang/IllegalStateException" = some P1.m.cls := findClass_of_methodNamed (s := zsq E s) hP1m
  have hcC : P1.m.cls = zdC E 15 := Option.some.inj (hfound.symm.trans hKn.2.1)
  have hk : (zsq E s).vm.classes[P1.m.cls]? = some kC := by rw [hcC]; exact hkC
  obtain ⟨c1, kX', hc1, hk', hord', -, -, hn6⟩ := Cond.instantiable_spec (wq d1)
  have e3 : c1 = P1.m.cls := Option.some.inj (hc1.symm.trans hfound)
  subst e3
  have e4 : kX' = kC := Option.some.inj (hk'.symm.trans hk)
  subst e4
  have hsel0 : selectMethod e.platform s.vm P1.m.cls TT.fill0 = .method TT.fill0 := by
    obtain ⟨c2, r2, m2, q1, q2, q3, q4, -⟩ := Cond.selects_spec (wq d2)
    cases Option.some.inj (q1.symm.trans hfound)
    cases Option.some.inj (q2.symm.trans (State.methodFound?_of_named YY.fill0 (by decide)))
    cases Option.some.inj (q3.symm.trans YY.fill0)
    rw [Launch.admits_selectMethod X.admits]; exact q4
  have hselF : selectMethod e.platform s.vm P1.m.cls TT.fill = .method TT.fill := by
    obtain ⟨c2, r2, m2, q1, q2, q3, q4, -⟩ := Cond.selects_spec (wq d3)
    cases Option.some.inj (q1.symm.trans hfound)
    cases Option.some.inj (q2.symm.trans (State.methodFound?_of_named YY.fill (by decide)))
    cases Option.some.inj (q3.symm.trans YY.fill)
    rw [Launch.admits_selectMethod X.admits]; exact q4
  obtain ⟨cf, kf, fi, ff, aS, cS, g1, g2, g3, g4, g5, g6, g7, g8⟩ := va_Z.moved (U := zsq E s) hW.alike (hE.2.2.2.2.2.2.2.2.1 1 _ rfl)
  obtain ⟨cf', kf', fi', ff', aS', cS', g1', g2', g3', g4', g5', g6', g7', g8'⟩ := va_Z.moved (U := zsq E s) hW.alike (hE.2.2.2.2.2.2.2.2.1 2 _ rfl)
  cases Option.some.inj (g1.symm.trans YY.unassigned)
  cases Option.some.inj (g1'.symm.trans YY.sentinel)
  cases Option.some.inj (g4.symm.trans L0.statics)
  cases Option.some.inj (g4'.symm.trans L0.statics)
  cases Option.some.inj (g5'.symm.trans g5)
  have hba : zba E ≤ H.size := by have h9 := hR.1.1; have h8 := hR.2.1; omega
  have hlt8 : TT.aS < zba E := Nat.not_le.mp g8
  have hcellS : T.heap[TT.aS]? = some cS := by rw [hT, f3 _ (by omega)]; exact (hR.1.2.1 _ hlt8).trans g5
  have hknownS : cS.vm ≠ .unknown := fun hu => by rw [hu] at g6; cases g6
  have hcell : T.heap[H.size]? = some (blank P1.m.cls kX') := by rw [hT, hcC]; exact f1
  obtain ⟨ci198, i198, fB, hk198, hg198, ha198, hsB, -, hnB, htB, hffB⟩ := Cond.ownField (t := .object "java/lang/Object") YY.found L0.cls (by decide +kernel) (wq d7) (wq d8) e.platform hpl
  obtain ⟨tyC, dC, hdC, hdnC⟩ := Cond.laysAt hfound hk YY.cause (wq d4)
  obtain ⟨tyS, dS, hdS, hdnS⟩ := Cond.laysAt hfound hk YY.stack (wq d5)
  obtain ⟨tyP, dP, hdP, hdnP⟩ := Cond.laysAt hfound hk YY.supp (wq d6)
  obtain ⟨tyB, dB, hdB, hdnB⟩ := Cond.laysAt hfound hk hffB (wq d9)
  have bC := Cond.laysApart hdB hdC hdnB hdnC (by rw [hnB, YY.causeName]; decide)
  have bS := Cond.laysApart hdB hdS hdnB hdnS (by rw [hnB, YY.stackName]; decide)
  have bP := Cond.laysApart hdB hdP hdnB hdnP (by rw [hnB, YY.suppName]; decide)
  have hskip : SkipFacts TT e.platform s (fun u => u) (zx_ref E 2) ((preparedCellV TT.toThrowableT (blank P1.m.cls kX') H.size (zx_ref E 2) (zx_ref E 3)).withEntry T.cur) :=
    ⟨{ ci198 := ci198, i198 := i198, fBack := fB }, ⟨hk198, hg198, ha198, hsB⟩, by
      have := fresh_default (c := P1.m.cls) tyB
      rw [htB] at this
      simpa [blank, preparedCellV, Cell.setSlot, Cell.withEntry, Array.getElem?_setIfInBounds, bC, bS, bP, bC.symm, bS.symm, bP.symm, defaultValue] using this, fun _ _ => rfl⟩
  obtain ⟨tm, methC, cdC, kCC, vm₁, hnC, -, -, -, -, -, -, -, hW₁, st1⟩ := Steps.initCold (tb := p.tables) (e := e) (below := below) (s := s) (U := T) X.here hG.1 X.warmed hpl hG.own (t := Bundle.init0 "java/lang/IllegalStateException") rfl rfl (by decide +kernel)
    (hG.words args _ hl2) (hG.words args _ d10) (bytes := Bundle.five) (maxL := 1) (hG.words args _ d11)
    (f := F0 m (pc + 3 + 1) ls (.ref H.size :: .ref H.size :: st.map (zcv E))) rfl (a := H.size) (rest := .ref H.size :: st.map (zcv E)) rfl (by rw [hG.2.1]; exact hd4)
  have hnC' : (zsq E s).methodNamed? (Bundle.init0 "java/lang/IllegalStateException") = some tm := hnC
  cases Option.some.inj (hnC'.symm.trans hP1m)
  have X₁ := X.noted hW₁
  have hsum : ((st.map (zcv E)).map fun v => v.category).sum = (st.map zcat).sum := by
    rw [List.map_map]
    congr 1
    exact List.map_congr_left fun v _ => zcat_cv E v
  have hfr : d ≤ R.frames := hG.2.2.2.2.2.2.2.2.2.1
  have hlo : 41 * d ≤ R.locals := hG.2.2.2.2.2.2.2.2.2.2.1
  obtain ⟨vm₂, X₂, st2⟩ := X₁.ctorPlainOffV hG.1 (g := F0 m (pc + 3 + 1) ls (.ref H.size :: st.map (zcv E))) rfl (hh.1.trans hG.2.2.1.symm) TT (zx_links L0) ZZ LZ (P1 :: Ps)
    (fun P hP => by rcases List.mem_cons.mp hP with rfl | hP; exact zx_links0 L1; exact zx_links0 (hLs P hP)) ⟨hlink1, hlink⟩ (u0 := zx_ref E 2) (sen := zx_ref E 3) (self := H.size) (cell := blank P1.m.cls kX') (cellS := cS)
    hcell (fun _ hz => by cases hz) (fun hz => by cases hz) rfl rfl hsel0 hselF hcellS (Nat.ne_of_lt (Nat.lt_of_lt_of_le hlt8 hba)) hknownS g7 g7'
    (Takes.of_laid hk hord' tyC (by rw [YY.causeType]; rfl)) (Takes.of_laid hk hord' tyS (by rw [YY.stackType]; exact fits_refV_array _ (zx_ref E 2))) (Takes.of_laid hk hord' tyP (by rw [YY.suppType]; exact fits_refV_object _ (zx_ref E 3))) YY.objLocals hskip htr [] (by rw [hG.2.1]; exact hd4)
    (by simp only [List.length_cons, hlen]; show 2 + 1 + 2 < _; omega) (by simp only [List.length_cons, hlen]; show 2 * 0 + ((Value.ref H.size :: st.map (zcv E)).map fun v => v.category).sum + (13 * (2 + 1) + 41) ≤ _; rw [List.map_cons, List.sum_cons, hsum]; show 2 * 0 + (1 + _) + _ ≤ _; omega)
  have hv0 : zup τ (zsz M) (15, 0) (zsz M) = some (15, 0) := by unfold zup; rw [if_pos rfl]
  have h16 : 16 ≤ zsz M := hR.2.1
  have sl : ∀ k, k < 6 → ∃ cf kf fi fd, (zsq E s).fieldFound? (TJ14 k).1 (TJ14 k).2.1 (TJ14 k).2.2.1 = some (cf, kf, fi, fd) ∧ fd.slot = zdI E 15 k := hKn.1
  have s0 : TT.fCause.slot = zdI E 15 0 := by
    obtain ⟨_, _, _, fd, u1, u2⟩ := sl 0 (by decide)
    cases Option.some.inj (u1.symm.trans YY.cause)
    exact u2
  have s1 : TT.fStack.slot = zdI E 15 1 := by
    obtain ⟨_, _, _, fd, u1, u2⟩ := sl 1 (by decide)
    cases Option.some.inj (u1.symm.trans YY.stack)
    exact u2
  have s2 : TT.fSupp.slot = zdI E 15 2 := by
    obtain ⟨_, _, _, fd, u1, u2⟩ := sl 2 (by decide)
    cases Option.some.inj (u1.symm.trans YY.supp)
    exact u2
  have hap : ∀ x y, x < 6 → y < 6 → x ≠ y → zdI E 15 x ≠ zdI E 15 y := fun x y hx hy hne => va_apart (D := (zdC E, zdI E)) (own := "") (hG.words args) hcf.1 _ hcf.2.2 hcf.2.1 hG.kn hqq x y hx hy hne
  obtain ⟨cell0, q1, q2, q3, q4⟩ := ((hR1.2.2.1 (zsz M) 15 0 hv0).2).obj hqq
  have ec : cell0 = blank P1.m.cls kX' := Option.some.inj (q1.symm.trans (by rw [hR.at, hcC]; exact f1))
  rw [ec] at q4
  have w1 := t_set q4 hap (show 0 < 6 by decide) (Value.ref H.size)
  have w2 := t_set w1 hap (show 1 < 6 by decide) (zx_ref E 2).v
  have w3 := t_set w2 hap (show 2 < 6 by decide) (zx_ref E 3).v
  have w4 := t_set w3 hap (show 1 < 6 by decide) (zx_ref E 2).v
  dsimp only [preparedCellV] at X₂ st2
  rw [s0, s1, s2] at X₂ st2
  generalize hc2 : ((((blank P1.m.cls kX').setSlot (zdI E 15 0) (Value.ref H.size)).setSlot (zdI E 15 1) (zx_ref E 2).v).setSlot (zdI E 15 2) (zx_ref E 3).v).setSlot (zdI E 15 1) (zx_ref E 2).v = cell2 at X₂ st2 w4
  have hlt2 : H.size < H1.size := by omega
  have hR2 : zrel E (zup τ (zsz M) (15, 0)) (sr (sr (sr (zn M 6) (zsz M) 0 (some (zsz M, 15, 0))) (zsz M) 1 (zsv E 2)) (zsz M) 2 (zsv E 3)) (H1.setIfInBounds H.size cell2) := by
    refine hR1.put hE hv0 h16 rfl (fun b k kd hb => ?_) (by simp) (fun x hx => ?_) ?_ (fun b w k pp hb hp => ?_)
    · match kd with
      | 0 => rfl
      | 1 => rfl
      | kd + 2 =>
        show zcv E (vr (gr (sr (sr (sr (zn M 6) (zsz M) 0 (some (zsz M, 15, 0))) (zsz M) 1 (zsv E 2)) (zsz M) 2 (zsv E 3)) b k)) = zcv E (vr (gr (zn M 6) b k))
        rw [gr_sr, if_neg hb, gr_sr, if_neg hb, gr_sr, if_neg hb]
    · rw [hR.at] at hx
      simp [Array.getElem?_setIfInBounds, Ne.symm hx]
    · unfold zcell
      rw [if_pos (by decide), hR.at]
      refine ⟨_, hqq, cell2, by simp [Array.getElem?_setIfInBounds, hlt2], ?_, ?_, fun k hk => ?_⟩
      · rw [← hc2]; exact hcC
      · rw [← hc2]; rfl
      · rw [w4 k hk]
        congr 1
        have zk : ∀ j, j < 6 → zkd (TJ14 j).2.2.1 = if j = 5 then 0 else 2 := by decide +kernel
        show _ = zfv E _ (zsz M) k (zkd (TJ14 k).2.2.1)
        match k, hk with
        | 0, _ =>
          rw [zk 0 (by decide)]
          show Value.ref H.size = zcv E (vr (gr _ (zsz M) 0))
          rw [gr_sr, if_pos rfl, if_neg (by decide), gr_sr, if_pos rfl, if_neg (by decide), gr_sr, if_pos rfl, if_pos rfl, zcv_r, hR.at]
        | 1, _ =>
          rw [zk 1 (by decide)]
          show (zx_ref E 2).v = zcv E (vr (gr _ (zsz M) 1))
          rw [gr_sr, if_pos rfl, if_neg (by decide), gr_sr, if_pos rfl, if_pos rfl]
          rfl
        | 2, _ =>
          rw [zk 2 (by decide)]
          show (zx_ref E 3).v = zcv E (vr (gr _ (zsz M) 2))
          rw [gr_sr, if_pos rfl, if_pos rfl]
          rfl
        | 3, _ =>
          show zfv E (zn M 6) (zsz M) 3 (zkd (TJ14 3).2.2.1) = _
          rw [zk 3 (by decide)]
          show zcv E (vr (gr _ (zsz M) 3)) = zcv E (vr (gr _ (zsz M) 3))
          rw [gr_sr, if_pos rfl, if_neg (by decide), gr_sr, if_pos rfl, if_neg (by decide), gr_sr, if_pos rfl, if_neg (by decide)]
        | 4, _ =>
          show zfv E (zn M 6) (zsz M) 4 (zkd (TJ14 4).2.2.1) = _
          rw [zk 4 (by decide)]
          show zcv E (vr (gr _ (zsz M) 4)) = zcv E (vr (gr _ (zsz M) 4))
          rw [gr_sr, if_pos rfl, if_neg (by decide), gr_sr, if_pos rfl, if_neg (by decide), gr_sr, if_pos rfl, if_neg (by decide)]
        | 5, _ =>
          show zfv E (zn M 6) (zsz M) 5 (zkd (TJ14 5).2.2.1) = _
          rw [zk 5 (by decide)]
          rfl
        | k + 6, hk => exact absurd hk (by show ¬ k + 6 < 6; omega)
    · by_cases hbz : b = zsz M
      · rw [hbz, gr_sr, if_pos rfl] at hp
        split at hp
        · unfold zsv at hp
          cases hx3 : zxt E 3 with
          | none => rw [hx3] at hp; cases hp
          | some v => rw [hx3] at hp; cases hp; exact hR1.1.2.2 3 v hx3
        · rw [gr_sr, if_pos rfl] at hp
          split at hp
          · unfold zsv at hp
            cases hx3 : zxt E 2 with
            | none => rw [hx3] at hp; cases hp
            | some v => rw [hx3] at hp; cases hp; exact hR1.1.2.2 2 v hx3
          · rw [gr_sr, if_pos rfl] at hp
            split at hp
            · cases hp; exact hv0
            · rw [gr_zn, if_pos rfl] at hp; cases hp
      · rw [gr_sr, if_neg hbz, gr_sr, if_neg hbz, gr_sr, if_neg hbz] at hp
        exact hR1.2.2.2 b w k pp hb hp
  have hHeq : (((T.setVm vm₁).setVm vm₂).setCell H.size cell2).heap = H1.setIfInBounds H.size cell2 := by rw [← hT]; rfl
  have hr1 := hr (zup τ (zsz M) (15, 0)) p l e R s m args below meth c hG (H1.setIfInBounds H.size cell2) (locs ++ [⟨H.size, zdI E 15 0⟩, ⟨H.size, zdI E 15 1⟩, ⟨H.size, zdI E 15 2⟩, ⟨H.size, zdI E 15 1⟩]) (cells + 1) (slots + 6) ls hR2 (fun q hq => (hl q hq).le (hR.up _)) (zv_cons hv0 (fun v hv => (hs v hv).le (hR.up _))) (fun q hq => ?_) (by rw [e1]; omega) (by rw [e2]; omega) hh
  · rw [e1, e2, show cells + 1 + (zsz M' - (zsz M + 1)) = cells + (zsz M' - zsz M) by omega, show slots + 6 + (zsu M' - (zsu M + 6)) = slots + (zsu M' - zsu M) by omega] at hr1
    obtain ⟨t2, a1, b1, b2, b3, LL, b4, b5, τ2, b6, b7⟩ := hr1 _ hHeq X₂
    refine ⟨t2, st1 _ (fun acts => ?_), b1, b2, b3, LL, b4, b5, τ2, (hR.up _).tr b6, b7⟩
    rw [doInvoke_state]
    refine st2 _ ?_
    have ea : (vr (some (zsz M, 15, 0)) :: st).map (zcv E) = Value.ref H.size :: st.map (zcv E) := by rw [List.map_cons, zcv_r, hR.at]
    rw [ea] at a1
    exact a1
  · rcases List.mem_append.mp hq with h9 | h9
    · exact hL q h9
    · have hb9 : q.base = H.size := by
        simp only [List.mem_cons, List.not_mem_nil, or_false] at h9
        rcases h9 with rfl | rfl | rfl | rfl <;> rfl
      rw [hb9]; exact hba
theorem zx_c16 : ∀ x ∈ Bundle.chain0Atoms "java/lang/IllegalArgumentException" ["java/lang/RuntimeException", "java/lang/Exception"], x ∈ lw_all ∨ x = Cond.declares (Bundle.init0 "java/lang/RuntimeException") ∨ x = Cond.declares (Bundle.init0 "java/lang/Exception") ∨ x = Cond.declares (Bundle.init0 "java/lang/Throwable") := by decide +kernel
theorem zx_d16 : Cond.instantiable "java/lang/IllegalArgumentException" 6 ∈ lw_all ∧ Cond.selects "java/lang/IllegalArgumentException" Bundle.tFill0 Bundle.tFill0 ∈ lw_all ∧ Cond.selects "java/lang/IllegalArgumentException" Bundle.tFill Bundle.tFill ∈ lw_all ∧ Cond.lays "java/lang/IllegalArgumentException" Bundle.tN "cause" "Ljava/lang/Throwable;" ∈ lw_all ∧ Cond.lays "java/lang/IllegalArgumentException" Bundle.tN "stackTrace" Bundle.steD ∈ lw_all ∧ Cond.lays "java/lang/IllegalArgumentException" Bundle.tN "suppressedExceptions" Bundle.listD ∈ lw_all ∧ Cond.fieldLink Bundle.tN 198 Bundle.tN "backtrace" "Ljava/lang/Object;" ∈ lw_all ∧ Cond.lays Bundle.tN Bundle.tN "backtrace" "Ljava/lang/Object;" ∈ lw_all ∧ Cond.lays "java/lang/IllegalArgumentException" Bundle.tN "backtrace" "Ljava/lang/Object;" ∈ lw_all ∧ Cond.instanceMethod (Bundle.init0 "java/lang/IllegalArgumentException") ∈ lw_all ∧ Cond.code (Bundle.init0 "java/lang/IllegalArgumentException") Bundle.five 1 none ∈ lw_all ∧ Cond.initialized "java/lang/IllegalArgumentException" ∈ lw_all := by decide +kernel
theorem zx_ch16 {E : zE} {s : State} (hE : zEok E) (hW : (zs0 E).WarmedH s.vm) : ∀ x ∈ Bundle.chain0Atoms "java/lang/IllegalArgumentException" ["java/lang/RuntimeException", "java/lang/Exception"], x.before #[] (zsq E s) = true := fun x hx => by
  rcases zx_c16 x hx with h | h | h | h
  · exact zword (s := zsq E s) hE hW h _
  · rw [h]; exact va_Nw.warmD (U := zsq E s) hW (va_Nw.of rfl (hE.1 _ q625))
  · rw [h]; exact va_Nw.warmD (U := zsq E s) hW (va_Nw.of rfl (hE.1 _ q627))
  · rw [h]; exact va_Nw.warmD (U := zsq E s) hW (va_Nw.of rfl (hE.1 _ q629))
set_option maxHeartbeats 2000000 in
theorem z_newExc16 {E : zE} {Y : zY} {d : Nat} {M : zM} {lv : List (Nat × zV)} {i1 ic pc : Nat} {st : List zV} {Q : zO → zM → Prop} (hd : decode (zYc Y) pc = .ok (.new i1, 3)) (hd3 : decode (zYc Y) (pc + 3) = .ok (.dup, 1)) (hd4 : decode (zYc Y) (pc + 3 + 1) = .ok (.invokespecial ic, 3)) (hl1 : Cond.classLink (zYy Y).cls i1 "java/lang/IllegalArgumentException" ∈ lw_all) (hl2 : Cond.methodLink (zYy Y).cls ic (Bundle.init0 "java/lang/IllegalArgumentException") ∈ lw_all) (hdd : 7 ≤ d) (hst : (st.map zcat).sum ≤ 20)
    (kz : Z E Y d (sr (sr (sr (zn M 6) (zsz M) 0 (some (zsz M, 16, 0))) (zsz M) 1 (zsv E 2)) (zsz M) 2 (zsv E 3)) lv (pc + 7) (vr (some (zsz M, 16, 0)) :: st) Q) : Z E Y d M lv pc st Q := by
  obtain ⟨o, M', h1, h2, h3, hr⟩ := kz
  have e1 : zsz (sr (sr (sr (zn M 6) (zsz M) 0 (some (zsz M, 16, 0))) (zsz M) 1 (zsv E 2)) (zsz M) 2 (zsv E 3)) = zsz M + 1 := rfl
  have e2 : zsu (sr (sr (sr (zn M 6) (zsz M) 0 (some (zsz M, 16, 0))) (zsz M) 1 (zsv E 2)) (zsz M) 2 (zsv E 3)) = zsu M + 6 := rfl
  rw [e1] at h1
  rw [e2] at h2
  refine ⟨o, M', by omega, by omega, h3, fun τ p l e R s m args below meth c hG H locs cells slots ls hR hl hs hL hc hn hh => ?_⟩
  obtain ⟨d1, d2, d3, d4, d5, d6, d7, d8, d9, d10, d11, d12⟩ := zx_d16
  have hE := hG.ok
  have hW := hG.warm
  have hqq : zcl[16]? = some (RJ15, TJ15, 6) := rfl
  have hKn := hG.kn.1 16 _ hqq
  have hcf := zcf 16 _ hqq
  refine W.newcK hG.1 hG.2.1 hG.own (hG.words args _ hl1) (hG.words args _ d1) (hG.words args _ d12) rfl hd (by omega) (by omega) hKn.2.1 rfl fun H1 kC hkC f1 f2 f3 => ?_
  have hR1 : zrel E (zup τ (zsz M) (16, 0)) (zn M 6) H1 := by
    refine hR.new f2 f3 ?_
    unfold zcell
    rw [if_pos (by decide), hR.at]
    refine ⟨_, hqq, (u_born _ (hG.words args) hcf.1 hKn hkC f1 hcf.2.2).to fun k hk => ?_⟩
    have hff : (zty.getD 16 (fun _ => .int)) k ≠ .float ∧ (zty.getD 16 (fun _ => .int)) k ≠ .double := by
      have : ∀ k, k < 6 → (zty.getD 16 (fun _ => .int)) k ≠ .float ∧ (zty.getD 16 (fun _ => .int)) k ≠ .double := by decide +kernel
      exact this k hk
    rw [zdef hff E M 6 k]
    have : zkd ((TJ15) k).2.2.1 = zkt ((zty.getD 16 (fun _ => .int)) k) := by unfold zkd; rw [hcf.2.2 k hk]
    rw [this]
  refine lv_dup hG.1 hG.2.1 hd3 rfl ?_
  intro T hT X
  have howns : e.platform.frameOwnsMonitors = true := by rw [X.admits.platform]
  have hfin : e.platform.finalization = false := by rw [X.admits.platform]
  have hpl : e.platform.magicAccessors = ({} : Platform).magicAccessors := by rw [X.admits.platform]
  have htr : e.platform.stackTraces = false := Launch.traces_off hG.fl X.admits
  obtain ⟨TT, ZZ, L0, LZ, YY⟩ := ThrowableC.of_atoms (args := #[Value.ref (zsb E)]) (s := zsq E s) howns hfin hpl (zx_th hE hW)
  obtain ⟨P1, Ps, hlen, L1, hLs, hP1m, hlink1, hlink⟩ := Bundle.chain0 (args := #[]) (s := zsq E s) (pl := e.platform) hpl YY.init0 ["java/lang/RuntimeException", "java/lang/Exception"] "java/lang/IllegalArgumentException" (by decide +kernel) (by decide +kernel) (zx_ch16 hE hW)
  have wq : ∀ {x : Cond}, x ∈ lw_all → x.before #[] (zsq E s) = true := fun hx => zword (s := zsq E s) hE hW hx _
  have hfound : (zsq E s).vm.findClass "java/lang/IllegalArgumentException" = some P1.m.cls := findClass_of_methodNamed (s := zsq E s) hP1m
  have hcC : P1.m.cls = zdC E 16 := Option.some.inj (hfound.symm.trans hKn.2.1)
  have hk : (zsq E s).vm.classes[P1.m.cls]? = some kC := by rw [hcC]; exact hkC
  obtain ⟨c1, kX', hc1, hk', hord', -, -, hn6⟩ := Cond.instantiable_spec (wq d1)
  have e3 : c1 = P1.m.cls := Option.some.inj (hc1.symm.trans hfound)
  subst e3
  have e4 : kX' = kC := Option.some.inj (hk'.symm.trans hk)
  subst e4
  have hsel0 : selectMethod e.platform s.vm P1.m.cls TT.fill0 = .method TT.fill0 := by
    obtain ⟨c2, r2, m2, q1, q2, q3, q4, -⟩ := Cond.selects_spec (wq d2)
    cases Option.some.inj (q1.symm.trans hfound)
    cases Option.some.inj (q2.symm.trans (State.methodFound?_of_named YY.fill0 (by decide)))
    cases Option.some.inj (q3.symm.trans YY.fill0)
    rw [Launch.admits_selectMethod X.admits]; exact q4
  have hselF : selectMethod e.platform s.vm P1.m.cls TT.fill = .method TT.fill := by
    obtain ⟨c2, r2, m2, q1, q2, q3, q4, -⟩ := Cond.selects_spec (wq d3)
    cases Option.some.inj (q1.symm.trans hfound)
    cases Option.some.inj (q2.symm.trans (State.methodFound?_of_named YY.fill (by decide)))
    cases Option.some.inj (q3.symm.trans YY.fill)
    rw [Launch.admits_selectMethod X.admits]; exact q4
  obtain ⟨cf, kf, fi, ff, aS, cS, g1, g2, g3, g4, g5, g6, g7, g8⟩ := va_Z.moved (U := zsq E s) hW.alike (hE.2.2.2.2.2.2.2.2.1 1 _ rfl)
  obtain ⟨cf', kf', fi', ff', aS', cS', g1', g2', g3', g4', g5', g6', g7', g8'⟩ := va_Z.moved (U := zsq E s) hW.alike (hE.2.2.2.2.2.2.2.2.1 2 _ rfl)
  cases Option.some.inj (g1.symm.trans YY.unassigned)
  cases Option.some.inj (g1'.symm.trans YY.sentinel)
  cases Option.some.inj (g4.symm.trans L0.statics)
  cases Option.some.inj (g4'.symm.trans L0.statics)
  cases Option.some.inj (g5'.symm.trans g5)
  have hba : zba E ≤ H.size := by have h9 := hR.1.1; have h8 := hR.2.1; omega
  have hlt8 : TT.aS < zba E := Nat.not_le.mp g8
  have hcellS : T.heap[TT.aS]? = some cS := by rw [hT, f3 _ (by omega)]; exact (hR.1.2.1 _ hlt8).trans g5
  have hknownS : cS.vm ≠ .unknown := fun hu => by rw [hu] at g6; cases g6
  have hcell : T.heap[H.size]? = some (blank P1.m.cls kX') := by rw [hT, hcC]; exact f1
  obtain ⟨ci198, i198, fB, hk198, hg198, ha198, hsB, -, hnB, htB, hffB⟩ := Cond.ownField (t := .object "java/lang/Object") YY.found L0.cls (by decide +kernel) (wq d7) (wq d8) e.platform hpl
  obtain ⟨tyC, dC, hdC, hdnC⟩ := Cond.laysAt hfound hk YY.cause (wq d4)
  obtain ⟨tyS, dS, hdS, hdnS⟩ := Cond.laysAt hfound hk YY.stack (wq d5)
  obtain ⟨tyP, dP, hdP, hdnP⟩ := Cond.laysAt hfound hk YY.supp (wq d6)
  obtain ⟨tyB, dB, hdB, hdnB⟩ := Cond.laysAt hfound hk hffB (wq d9)
  have bC := Cond.laysApart hdB hdC hdnB hdnC (by rw [hnB, YY.causeName]; decide)
  have bS := Cond.laysApart hdB hdS hdnB hdnS (by rw [hnB, YY.stackName]; decide)
  have bP := Cond.laysApart hdB hdP hdnB hdnP (by rw [hnB, YY.suppName]; decide)
  have hskip : SkipFacts TT e.platform s (fun u => u) (zx_ref E 2) ((preparedCellV TT.toThrowableT (blank P1.m.cls kX') H.size (zx_ref E 2) (zx_ref E 3)).withEntry T.cur) :=
    ⟨{ ci198 := ci198, i198 := i198, fBack := fB }, ⟨hk198, hg198, ha198, hsB⟩, by
      have := fresh_default (c := P1.m.cls) tyB
      rw [htB] at this
      simpa [blank, preparedCellV, Cell.setSlot, Cell.withEntry, Array.getElem?_setIfInBounds, bC, bS, bP, bC.symm, bS.symm, bP.symm, defaultValue] using this, fun _ _ => rfl⟩
  obtain ⟨tm, methC, cdC, kCC, vm₁, hnC, -, -, -, -, -, -, -, hW₁, st1⟩ := Steps.initCold (tb := p.tables) (e := e) (below := below) (s := s) (U := T) X.here hG.1 X.warmed hpl hG.own (t := Bundle.init0 "java/lang/IllegalArgumentException") rfl rfl (by decide +kernel)
    (hG.words args _ hl2) (hG.words args _ d10) (bytes := Bundle.five) (maxL := 1) (hG.words args _ d11)
    (f := F0 m (pc + 3 + 1) ls (.ref H.size :: .ref H.size :: st.map (zcv E))) rfl (a := H.size) (rest := .ref H.size :: st.map (zcv E)) rfl (by rw [hG.2.1]; exact hd4)
  have hnC' : (zsq E s).methodNamed? (Bundle.init0 "java/lang/IllegalArgumentException") = some tm := hnC
  cases Option.some.inj (hnC'.symm.trans hP1m)
  have X₁ := X.noted hW₁
  have hsum : ((st.map (zcv E)).map fun v => v.category).sum = (st.map zcat).sum := by
    rw [List.map_map]
    congr 1
    exact List.map_congr_left fun v _ => zcat_cv E v
  have hfr : d ≤ R.frames := hG.2.2.2.2.2.2.2.2.2.1
  have hlo : 41 * d ≤ R.locals := hG.2.2.2.2.2.2.2.2.2.2.1
  obtain ⟨vm₂, X₂, st2⟩ := X₁.ctorPlainOffV hG.1 (g := F0 m (pc + 3 + 1) ls (.ref H.size :: st.map (zcv E))) rfl (hh.1.trans hG.2.2.1.symm) TT (zx_links L0) ZZ LZ (P1 :: Ps)
    (fun P hP => by rcases List.mem_cons.mp hP with rfl | hP; exact zx_links0 L1; exact zx_links0 (hLs P hP)) ⟨hlink1, hlink⟩ (u0 := zx_ref E 2) (sen := zx_ref E 3) (self := H.size) (cell := blank P1.m.cls kX') (cellS := cS)
    hcell (fun _ hz => by cases hz) (fun hz => by cases hz) rfl rfl hsel0 hselF hcellS (Nat.ne_of_lt (Nat.lt_of_lt_of_le hlt8 hba)) hknownS g7 g7'
    (Takes.of_laid hk hord' tyC (by rw [YY.causeType]; rfl)) (Takes.of_laid hk hord' tyS (by rw [YY.stackType]; exact fits_refV_array _ (zx_ref E 2))) (Takes.of_laid hk hord' tyP (by rw [YY.suppType]; exact fits_refV_object _ (zx_ref E 3))) YY.objLocals hskip htr [] (by rw [hG.2.1]; exact hd4)
    (by simp only [List.length_cons, hlen]; show 2 + 1 + 2 < _; omega) (by simp only [List.length_cons, hlen]; show 2 * 0 + ((Value.ref H.size :: st.map (zcv E)).map fun v => v.category).sum + (13 * (2 + 1) + 41) ≤ _; rw [List.map_cons, List.sum_cons, hsum]; show 2 * 0 + (1 + _) + _ ≤ _; omega)
  have hv0 : zup τ (zsz M) (16, 0) (zsz M) = some (16, 0) := by unfold zup; rw [if_pos rfl]
  have h16 : 16 ≤ zsz M := hR.2.1
  have sl : ∀ k, k < 6 → ∃ cf kf fi fd, (zsq E s).fieldFound? (TJ15 k).1 (TJ15 k).2.1 (TJ15 k).2.2.1 = some (cf, kf, fi, fd) ∧ fd.slot = zdI E 16 k := hKn.1
  have s0 : TT.fCause.slot = zdI E 16 0 := by
    obtain ⟨_, _, _, fd, u1, u2⟩ := sl 0 (by decide)
    cases Option.some.inj (u1.symm.trans YY.cause)
    exact u2
  have s1 : TT.fStack.slot = zdI E 16 1 := by
    obtain ⟨_, _, _, fd, u1, u2⟩ := sl 1 (by decide)
    cases Option.some.inj (u1.symm.trans YY.stack)
    exact u2
  have s2 : TT.fSupp.slot = zdI E 16 2 := by
    obtain ⟨_, _, _, fd, u1, u2⟩ := sl 2 (by decide)
    cases Option.some.inj (u1.symm.trans YY.supp)
    exact u2
  have hap : ∀ x y, x < 6 → y < 6 → x ≠ y → zdI E 16 x ≠ zdI E 16 y := fun x y hx hy hne => va_apart (D := (zdC E, zdI E)) (own := "") (hG.words args) hcf.1 _ hcf.2.2 hcf.2.1 hG.kn hqq x y hx hy hne
  obtain ⟨cell0, q1, q2, q3, q4⟩ := ((hR1.2.2.1 (zsz M) 16 0 hv0).2).obj hqq
  have ec : cell0 = blank P1.m.cls kX' := Option.some.inj (q1.symm.trans (by rw [hR.at, hcC]; exact f1))
  rw [ec] at q4
  have w1 := t_set q4 hap (show 0 < 6 by decide) (Value.ref H.size)
  have w2 := t_set w1 hap (show 1 < 6 by decide) (zx_ref E 2).v
  have w3 := t_set w2 hap (show 2 < 6 by decide) (zx_ref E 3).v
  have w4 := t_set w3 hap (show 1 < 6 by decide) (zx_ref E 2).v
  dsimp only [preparedCellV] at X₂ st2
  rw [s0, s1, s2] at X₂ st2
  generalize hc2 : ((((blank P1.m.cls kX').setSlot (zdI E 16 0) (Value.ref H.size)).setSlot (zdI E 16 1) (zx_ref E 2).v).setSlot (zdI E 16 2) (zx_ref E 3).v).setSlot (zdI E 16 1) (zx_ref E 2).v = cell2 at X₂ st2 w4
  have hlt2 : H.size < H1.size := by omega
  have hR2 : zrel E (zup τ (zsz M) (16, 0)) (sr (sr (sr (zn M 6) (zsz M) 0 (some (zsz M, 16, 0))) (zsz M) 1 (zsv E 2)) (zsz M) 2 (zsv E 3)) (H1.setIfInBounds H.size cell2) := by
    refine hR1.put hE hv0 h16 rfl (fun b k kd hb => ?_) (by simp) (fun x hx => ?_) ?_ (fun b w k pp hb hp => ?_)
    · match kd with
      | 0 => rfl
      | 1 => rfl
      | kd + 2 =>
        show zcv E (vr (gr (sr (sr (sr (zn M 6) (zsz M) 0 (some (zsz M, 16, 0))) (zsz M) 1 (zsv E 2)) (zsz M) 2 (zsv E 3)) b k)) = zcv E (vr (gr (zn M 6) b k))
        rw [gr_sr, if_neg hb, gr_sr, if_neg hb, gr_sr, if_neg hb]
    · rw [hR.at] at hx
      simp [Array.getElem?_setIfInBounds, Ne.symm hx]
    · unfold zcell
      rw [if_pos (by decide), hR.at]
      refine ⟨_, hqq, cell2, by simp [Array.getElem?_setIfInBounds, hlt2], ?_, ?_, fun k hk => ?_⟩
      · rw [← hc2]; exact hcC
      · rw [← hc2]; rfl
      · rw [w4 k hk]
        congr 1
        have zk : ∀ j, j < 6 → zkd (TJ15 j).2.2.1 = if j = 5 then 0 else 2 := by decide +kernel
        show _ = zfv E _ (zsz M) k (zkd (TJ15 k).2.2.1)
        match k, hk with
        | 0, _ =>
          rw [zk 0 (by decide)]
          show Value.ref H.size = zcv E (vr (gr _ (zsz M) 0))
          rw [gr_sr, if_pos rfl, if_neg (by decide), gr_sr, if_pos rfl, if_neg (by decide), gr_sr, if_pos rfl, if_pos rfl, zcv_r, hR.at]
        | 1, _ =>
          rw [zk 1 (by decide)]
          show (zx_ref E 2).v = zcv E (vr (gr _ (zsz M) 1))
          rw [gr_sr, if_pos rfl, if_neg (by decide), gr_sr, if_pos rfl, if_pos rfl]
          rfl
        | 2, _ =>
          rw [zk 2 (by decide)]
          show (zx_ref E 3).v = zcv E (vr (gr _ (zsz M) 2))
          rw [gr_sr, if_pos rfl, if_pos rfl]
          rfl
        | 3, _ =>
          show zfv E (zn M 6) (zsz M) 3 (zkd (TJ15 3).2.2.1) = _
          rw [zk 3 (by decide)]
          show zcv E (vr (gr _ (zsz M) 3)) = zcv E (vr (gr _ (zsz M) 3))
          rw [gr_sr, if_pos rfl, if_neg (by decide), gr_sr, if_pos rfl, if_neg (by decide), gr_sr, if_pos rfl, if_neg (by decide)]
        | 4, _ =>
          show zfv E (zn M 6) (zsz M) 4 (zkd (TJ15 4).2.2.1) = _
          rw [zk 4 (by decide)]
          show zcv E (vr (gr _ (zsz M) 4)) = zcv E (vr (gr _ (zsz M) 4))
          rw [gr_sr, if_pos rfl, if_neg (by decide), gr_sr, if_pos rfl, if_neg (by decide), gr_sr, if_pos rfl, if_neg (by decide)]
        | 5, _ =>
          show zfv E (zn M 6) (zsz M) 5 (zkd (TJ15 5).2.2.1) = _
          rw [zk 5 (by decide)]
          rfl
        | k + 6, hk => exact absurd hk (by show ¬ k + 6 < 6; omega)
    · by_cases hbz : b = zsz M
      · rw [hbz, gr_sr, if_pos rfl] at hp
        split at hp
        · unfold zsv at hp
          cases hx3 : zxt E 3 with
          | none => rw [hx3] at hp; cases hp
          | some v => rw [hx3] at hp; cases hp; exact hR1.1.2.2 3 v hx3
        · rw [gr_sr, if_pos rfl] at hp
          split at hp
          · unfold zsv at hp
            cases hx3 : zxt E 2 with
            | none => rw [hx3] at hp; cases hp
            | some v => rw [hx3] at hp; cases hp; exact hR1.1.2.2 2 v hx3
          · rw [gr_sr, if_pos rfl] at hp
            split at hp
            · cases hp; exact hv0
            · rw [gr_zn, if_pos rfl] at hp; cases hp
      · rw [gr_sr, if_neg hbz, gr_sr, if_neg hbz, gr_sr, if_neg hbz] at hp
        exact hR1.2.2.2 b w k pp hb hp
  have hHeq : (((T.setVm vm₁).setVm vm₂).setCell H.size cell2).heap = H1.setIfInBounds H.size cell2 := by rw [← hT]; rfl
  have hr1 := hr (zup τ (zsz M) (16, 0)) p l e R s m args below meth c hG (H1.setIfInBounds H.size cell2) (locs ++ [⟨H.size, zdI E 16 0⟩, ⟨H.size, zdI E 16 1⟩, ⟨H.size, zdI E 16 2⟩, ⟨H.size, zdI E 16 1⟩]) (cells + 1) (slots + 6) ls hR2 (fun q hq => (hl q hq).le (hR.up _)) (zv_cons hv0 (fun v hv => (hs v hv).le (hR.up _))) (fun q hq => ?_) (by rw [e1]; omega) (by rw [e2]; omega) hh
  · rw [e1, e2, show cells + 1 + (zsz M' - (zsz M + 1)) = cells + (zsz M' - zsz M) by omega, show slots + 6 + (zsu M' - (zsu M + 6)) = slots + (zsu M' - zsu M) by omega] at hr1
    obtain ⟨t2, a1, b1, b2, b3, LL, b4, b5, τ2, b6, b7⟩ := hr1 _ hHeq X₂
    refine ⟨t2, st1 _ (fun acts => ?_), b1, b2, b3, LL, b4, b5, τ2, (hR.up _).tr b6, b7⟩
    rw [doInvoke_state]
    refine st2 _ ?_
    have ea : (vr (some (zsz M, 16, 0)) :: st).map (zcv E) = Value.ref H.size :: st.map (zcv E) := by rw [List.map_cons, zcv_r, hR.at]
    rw [ea] at a1
    exact a1
  · rcases List.mem_append.mp hq with h9 | h9
    · exact hL q h9
    · have hb9 : q.base = H.size := by
        simp only [List.mem_cons, List.not_mem_nil, or_false] at h9
        rcases h9 with rfl | rfl | rfl | rfl <;> rfl
      rw [hb9]; exact hba
