/-! P's RESULTS are in the class: statements, functions -/
section
variable {z : pZ} {K k : Nat} {r : pT} {c : pC}
def cXs (k : Nat) (c : pC) (s : pS) (y : gSt) : Prop := cSt (nmS s) (fuS s c.1) 20 c.2.1 c.2.2 k y
theorem cXs.ad {s s' : pS} {y : gSt} (h : cXs k c s y) (a : gad c.1 s s') : cXs k c s' y := cSt.ad h a
theorem cXs.mono {s : pS} {y : gSt} {m : Nat} (h : cXs k c s y) (hm : k ≤ m) : cXs m c s y := cSt.up (Nat.le_refl _) (fun _ z => z) h m hm
theorem cEx.h20 {s : pS} {v : gV} (h : cV s c.1 k v) (hk : k ≤ 20) : cEx (nmS s) (fuS s c.1) 20 v.1 := .mono h.1 hk
theorem cl_sem {s : pS} (hs : iS c.1 s) : sat (pSem z s) fun _ s' => gad c.1 s s' := by
  unfold pSem
  exact sat_ite (fun _ => sat_nx (gad_nx hs)) (fun _ => sat_ite (fun _ => sat_prt (gad.rf hs)) (fun _ => sat_flt))
theorem cl_stms (hr : clT k r) {stop : pS → Bool} : ∀ (f : Nat) (acc : gSt) (s : pS), iS c.1 s → cXs (2 * k) c s acc → sat (pStms r c stop f acc s) (cS k c s) := by
  intro f
  induction f with
  | zero => intros; exact sat_err
  | succ f ih =>
    intro acc s hs ha
    unfold pStms
    exact sat_ite (fun _ => sat_prt ⟨gad.rf hs, ha⟩) (fun _ => sat_bnd ((hr.stmt c s hs).mono fun y s1 h1 => (ih _ s1 h1.1.2.1 (.sq (ha.ad h1.1) h1.2)).mono fun y' s' h => ⟨h1.1.tr h.1, h.2⟩))
theorem cl_blk (hr : clT k r) {s : pS} (hs : iS c.1 s) : sat (pBlk z K r c s) (cS k c s) := by
  unfold pBlk
  have n1 := gad_nx hs
  exact sat_bnd (sat_ned (sat_bnd ((cl_stms hr K gNo _ n1.2.1 .no).mono fun y s1 h1 => sat_bnd (sat_nx (sat_prt ⟨(n1.tr h1.1).tr (gad_nx h1.1.2.1), cXs.ad h1.2 (gad_nx h1.1.2.1)⟩)))))
theorem cl_rnd (hr : clT k r) {s : pS} (hs : iS c.1 s) : sat (pRnd z r c s) (cR k c s) := by
  unfold pRnd
  have n1 := gad_nx hs
  exact sat_bnd (sat_ned (sat_bnd ((hr.expr true c _ n1.2.1).mono fun v s1 h1 => sat_bnd (sat_ned (sat_prt ⟨(n1.tr h1.1).tr (gad_nx h1.1.2.1), h1.2.ad (gad_nx h1.1.2.1)⟩)))))
theorem cl_lpd (hr : clT k r) {s : pS} (hs : iS c.1 s) : sat (pLpd r c s) fun y s' => gad c.1 s s' ∧ cXs (2 * k) (c.1, c.2.1 + 1, c.2.2) s' y := hr.stmt (c.1, c.2.1 + 1, c.2.2) s hs
theorem cl_vars (hr : clT k r) (hk : k ≤ 20) (i : Bool) : ∀ (f n : Nat) (b : Bool) (acc : gSt) (s : pS), iS c.1 s → cXs (2 * k) c s acc → sat (pVars z r i c f n b acc s) fun q s' => gad c.1 s s' ∧ cXs (2 * k) c s' q.1 ∧ (nam (z.2.1 s.1) s).1 < nmS s' := by
  intro f
  induction f with
  | zero => intros; exact sat_err
  | succ f ih =>
    intro n b acc s hs ha
    rw [pVars_eq]
    refine sat_bnd (sat_nn ?_)
    have a0 := gad_nm (z.2.1 s.1) hs
    have a1 := a0.1.tr (gad_hld a0.1.2.1 a0.2)
    have x1 : (nam (z.2.1 s.1) s).1 < nmS (hld c.1 (nam (z.2.1 s.1) s).1 (s.1 + 1, (nam (z.2.1 s.1) s).2.2)) := a0.2
    generalize hx : (nam (z.2.1 s.1) s).1 = x at *
    generalize hld c.1 x (s.1 + 1, (nam (z.2.1 s.1) s).2.2) = s1 at *
    unfold pVb
    refine sat_bnd (sat.mono (F := fun q s2 => gad c.1 s1 s2 ∧ cXs (2 * k) c s2 q.1) ?_ fun q s2 h2 => ?_)
    · refine sat_ite (fun _ => sat_bnd (sat_nx (sat_bnd ((hr.wth i c _ (gad_nx a1.2.1).2.1).mono fun v s2 h2 => sat_prt ?_)))) (fun _ => sat_prt ⟨gad.rf a1.2.1, ha.ad a1⟩)
      have a2 := (gad_nx a1.2.1).tr h2.1
      exact ⟨a2, cSt.sq (x := acc) (y := gPl (gGvN none x v.1)) (ha.ad (a1.tr a2)) (.pl (.gvn0 (Nat.lt_of_lt_of_le x1 a2.1.nm) (cEx.h20 h2.2 hk)))⟩
    · refine sat_ite (fun _ => sat_bnd (sat_nx ((ih (n + 1) q.2 q.1 _ (gad_nx h2.1.2.1).2.1 (h2.2.ad (gad_nx h2.1.2.1))).mono fun q' s3 h3 => ?_))) (fun _ => sat_prt ⟨a1.tr h2.1, h2.2, Nat.lt_of_lt_of_le x1 h2.1.1.nm⟩)
      have a3 := (h2.1.tr (gad_nx h2.1.2.1)).tr h3.1
      exact ⟨a1.tr a3, h3.2.1, Nat.lt_of_lt_of_le x1 a3.1.nm⟩
theorem cl_each (hr : clT k r) (hk : k ≤ 20) {x : Nat} {s : pS} (hs : iS c.1 s) (hx : x < nmS s) : sat (pEach z r c x s) (cS k c s) := by
  unfold pEach
  have n1 := gad_nx hs
  refine sat_bnd (sat_nx (sat_bnd ((hr.expr true c _ n1.2.1).mono fun v s1 h1 => sat_bnd (sat_ned (sat_bnd ((cl_lpd hr (gad_nx h1.1.2.1).2.1).mono fun y s2 h2 => sat_prt ?_))))))
  have a2 := (gad_nx h1.1.2.1).tr h2.1
  have a := (n1.tr h1.1).tr a2
  exact ⟨a, .ea (Nat.lt_of_lt_of_le hx a.1.nm) (cEx.h20 (h1.2.ad a2) hk) h2.2⟩
theorem cl_for2 (hr : clT k r) (hk : k ≤ 20) {i : gSt} {s : pS} (hs : iS c.1 s) (hi : cXs (2 * k) c s i) : sat (pFor2 z r c i s) (cS k c s) := by
  unfold pFor2
  have n1 := gad_nx hs
  refine sat_bnd (sat_ned (sat_bnd (sat.mono (F := fun x s1 => gad c.1 (s.1 + 1, s.2) s1 ∧ ∀ g, x = some g → cEx (nmS s1) (fuS s1 c.1) 20 g) ?_ fun x s1 h1 => ?_)))
  · exact sat_ite (fun _ => sat_prt ⟨gad.rf n1.2.1, fun g e => by cases e⟩) (fun _ => sat_bnd ((hr.expr true c _ n1.2.1).mono fun v s1 h1 => sat_prt ⟨h1.1, fun g e => by cases e; exact cEx.h20 h1.2 hk⟩))
  have n2 := gad_nx h1.1.2.1
  refine sat_bnd (sat_ned (sat_bnd (sat.mono (F := fun st s2 => gad c.1 (s1.1 + 1, s1.2) s2 ∧ cXs (2 * k) c s2 st) ?_ fun st s2 h2 => ?_)))
  · exact sat_ite (fun _ => sat_prt ⟨gad.rf n2.2.1, .no⟩) (fun _ => sat_bnd ((hr.expr true c _ n2.2.1).mono fun v s1 h1 => sat_prt ⟨h1.1, .pl (cEx.h20 h1.2 hk)⟩))
  refine sat_bnd (sat_ned (sat_bnd ((cl_lpd hr (gad_nx h2.1.2.1).2.1).mono fun y s3 h3 => sat_prt ?_)))
  have a3 := (gad_nx h2.1.2.1).tr h3.1
  have a2 := (n2.tr h2.1).tr a3
  have a := (n1.tr h1.1).tr a2
  refine ⟨a, ?_⟩
  cases x with
  | none => exact .for0 (hi.ad a) (h2.2.ad a3) h3.2
  | some g => exact .for1 ((h1.2 g rfl).ad a2) (hi.ad a) (h2.2.ad a3) h3.2
theorem cl_for (hr : clT k r) (hk : k ≤ 20) {s : pS} (hs : iS c.1 s) : sat (pFor z K r c s) (cS k c s) := by
  unfold pFor
  have n1 := gad_nx hs
  refine sat_bnd (sat_ned (sat_ite (fun _ => sat_bnd (sat_nx (sat_bnd ((cl_vars hr hk false K 0 false gNo _ (gad_nx n1.2.1).2.1 .no).mono fun q s2 h2 => ?_)))) (fun _ => ?_)))
  · have a2 := (n1.tr (gad_nx n1.2.1)).tr h2.1
    exact sat_ite (fun _ => (cl_each hr hk h2.1.2.1 h2.2.2).mono fun y s' h => ⟨a2.tr h.1, h.2⟩) (fun _ => (cl_for2 hr hk h2.1.2.1 h2.2.1).mono fun y s' h => ⟨a2.tr h.1, h.2⟩)
  · refine sat_ite (fun _ => (cl_for2 hr hk n1.2.1 .no).mono fun y s' h => ⟨n1.tr h.1, h.2⟩) (fun _ => sat_bnd ((hr.expr false c _ n1.2.1).mono fun v s2 h2 => ?_))
    have a2 := n1.tr h2.1
    refine sat_ite (fun h => (cl_each hr hk h2.1.2.1 (h2.2.nam ?_)).mono fun y s' h => ⟨a2.tr h.1, h.2⟩) (fun _ => (cl_for2 hr hk h2.1.2.1 (.pl (cEx.h20 h2.2 hk))).mono fun y s' h => ⟨a2.tr h.1, h.2⟩)
    have := (Bool.and_eq_true_iff.mp h).2
    exact beq_iff_eq.mp this
theorem cl_try (hr : clT k r) {s : pS} (hs : iS c.1 s) : sat (pTry z K r c s) (cS (k + 1) c s) := by
  rw [pTry_eq]
  refine sat_bnd ((cl_blk hr hs).mono fun y s1 h1 => sat_bnd (sat.mono (F := fun q s2 => gad c.1 s1 s2 ∧ cXs (2 * k + 1) c s2 q.1) ?_ fun q s2 h2 => ?_))
  · refine sat_ite (fun _ => sat_bnd (sat_nx (sat_bnd (sat_ned (sat_bnd (sat_nn ?_)))))) (fun _ => sat_prt ⟨gad.rf h1.1.2.1, cXs.mono h1.2 (Nat.le_succ _)⟩)
    have n1 := (gad_nx h1.1.2.1).tr (gad_nx (gad_nx h1.1.2.1).2.1)
    have a0 := gad_nm (z.2.1 (s1.1 + 1 + 1)) n1.2.1
    have a1 := n1.tr (a0.1.tr (gad_hld a0.1.2.1 a0.2))
    have x1 : (nam (z.2.1 (s1.1 + 1 + 1)) (s1.1 + 1 + 1, s1.2)).1 < nmS (hld c.1 (nam (z.2.1 (s1.1 + 1 + 1)) (s1.1 + 1 + 1, s1.2)).1 (s1.1 + 1 + 1 + 1, (nam (z.2.1 (s1.1 + 1 + 1)) (s1.1 + 1 + 1, s1.2)).2.2)) := a0.2
    generalize (nam (z.2.1 (s1.1 + 1 + 1)) (s1.1 + 1 + 1, s1.2)).1 = x at *
    generalize hld c.1 x (s1.1 + 1 + 1 + 1, (nam (z.2.1 (s1.1 + 1 + 1)) (s1.1 + 1 + 1, s1.2)).2.2) = s2 at *
    unfold pTb
    refine sat_bnd (sat_ned (sat_bnd ((cl_blk hr (gad_nx a1.2.1).2.1).mono fun w s3 h3 => sat_prt ?_)))
    have a3 := (gad_nx a1.2.1).tr h3.1
    exact ⟨a1.tr a3, cSt.trc (y := y) (z := w) (n := x) (Nat.lt_of_lt_of_le x1 a3.1.nm) (cXs.ad h1.2 (a1.tr a3)) h3.2⟩
  · unfold pTf
    refine sat_ite (fun _ => sat_bnd (sat_nx (sat_bnd ((cl_blk hr (gad_nx h2.1.2.1).2.1).mono fun w s3 h3 => sat_prt ?_)))) (fun _ => sat_ite (fun _ => sat_prt ⟨h1.1.tr h2.1, cXs.mono h2.2 (by omega)⟩) (fun _ => sat_flt))
    have a3 := (gad_nx h2.1.2.1).tr h3.1
    exact ⟨(h1.1.tr h2.1).tr a3, cSt.trf (y := q.1) (z := w) (h2.2.ad a3) (cXs.mono h3.2 (Nat.le_succ _))⟩
def cQ (k : Nat) (c : pC) (s : pS) (l : List (Option gEx × gSt)) : Prop := ∀ q ∈ l, (∀ g, q.1 = some g → cEx (nmS s) (fuS s c.1) 20 g) ∧ cXs (2 * k) c s q.2
theorem cl_cas (hr : clT k r) (hk : k ≤ 20) : ∀ (f : Nat) (d : Bool) (acc : List (Option gEx × gSt)) (s : pS), iS c.1 s → cQ k c s acc → sat (pCas z K r c f d acc s) fun l s' => gad c.1 s s' ∧ cQ k c s' l := by
  intro f
  induction f with
  | zero => intros; exact sat_err
  | succ f ih =>
    intro d acc s hs ha
    unfold pCas
    have n1 := gad_nx hs
    refine sat_ite (fun h => sat_prt ⟨gad.rf hs, ha⟩) (fun _ => sat_ite (fun _ => sat_flt) (fun _ => sat_bnd (sat.mono (F := fun x s1 => gad c.1 s s1 ∧ ∀ g, x = some g → cEx (nmS s1) (fuS s1 c.1) 20 g) ?_ fun x s1 h1 => sat_bnd (sat_ned (sat_bnd ((cl_stms hr K gNo _ (gad_nx h1.1.2.1).2.1 .no).mono fun y s2 h2 => ?_))))))
    · refine sat_ite (fun _ => sat_bnd (sat_nx (sat_prt ⟨n1, fun g e => by cases e⟩))) (fun _ => sat_bnd (sat_nek (sat_bnd ((hr.expr true c _ n1.2.1).mono fun v s1 h1 => sat_prt ⟨n1.tr h1.1, fun g e => by cases e; exact cEx.h20 h1.2 hk⟩))))
    · have a2 := (gad_nx h1.1.2.1).tr h2.1
      refine (ih _ (acc ++ [(x, y)]) s2 h2.1.2.1 (fun q hq => ?_)).mono fun l s' h => ⟨(h1.1.tr a2).tr h.1, h.2⟩
      rcases List.mem_append.mp hq with w | w
      · exact ⟨fun g hg => ((ha q w).1 g hg).ad (h1.1.tr a2), (ha q w).2.ad (h1.1.tr a2)⟩
      · rw [List.mem_singleton.mp w]; exact ⟨fun g hg => (h1.2 g hg).ad a2, h2.2⟩
theorem cl_swi (hr : clT k r) (hk : k ≤ 20) {s : pS} (hs : iS c.1 s) : sat (pSwi z K r c s) (cS k c s) := by
  unfold pSwi
  refine sat_bnd ((cl_rnd hr hs).mono fun v s1 h1 => sat_bnd (sat_ned (sat_bnd ((cl_cas (c := (c.1, c.2.1, c.2.2 + 1)) hr hk K false [] _ (gad_nx h1.1.2.1).2.1 (fun q hq => by cases hq)).mono fun l s2 h2 => sat_bnd (sat_nx (sat_prt ?_))))))
  have a3 := gad_nx (c := c.1) h2.1.2.1
  have a2 := ((gad_nx h1.1.2.1).tr h2.1).tr a3
  exact ⟨h1.1.tr a2, cSt.sw (x := v.1) (cs := l) (cEx.h20 (h1.2.ad a2) hk) (fun q hq g hg => ((h2.2 q hq).1 g hg).ad a3) (fun q hq => ((h2.2 q hq).2).ad a3)⟩
theorem cl_inn (hr : clT k r) (hk : k ≤ 20) (w : Int32) {s : pS} (hs : iS c.1 s) (hb : w = 0 → 1 ≤ c.2.1 + c.2.2) (hc : w = 3 → 1 ≤ c.2.1) : sat (pInn z K w r c s) (cS (k + 1) c s) := by
  have up : ∀ {y : gSt} {s1 s' : pS}, gad c.1 s s1 → cS k c s1 y s' → cS (k + 1) c s y s' := fun a h => ⟨a.tr h.1, cXs.mono h.2 (by omega)⟩
  have pl : ∀ {g : gEx} {s' : pS}, cEx (nmS s') (fuS s' c.1) 20 g → cXs (2 * (k + 1)) c s' (gPl g) := fun h => cSt.pl h
  unfold pInn
  refine sat_ite (fun _ => sat_bnd ((cl_vars hr hk true K 0 false gNo s hs .no).mono fun q s1 h1 => sat_bnd ((cl_sem h1.1.2.1).mono fun _ s2 h2 => sat_prt (up (gad.rf hs) ⟨h1.1.tr h2, h1.2.1.ad h2⟩)))) (fun _ => ?_)
  refine sat_ite (fun _ => sat_bnd ((cl_rnd hr hs).mono fun v s1 h1 => sat_bnd ((hr.stmt c s1 h1.1.2.1).mono fun y s2 h2 => sat_ite (fun _ => sat_bnd (sat_nx (sat_bnd ((hr.stmt c _ (gad_nx h2.1.2.1).2.1).mono fun w s3 h3 => sat_prt ?_)))) (fun _ => sat_prt (up (gad.rf hs) ⟨h1.1.tr h2.1, cSt.ift (x := v.1) (y := y) (cEx.h20 (h1.2.ad h2.1) hk) h2.2⟩))))) (fun _ => ?_)
  · have a3 := (gad_nx h2.1.2.1).tr h3.1
    exact up (gad.rf hs) ⟨(h1.1.tr h2.1).tr a3, cSt.ife (x := v.1) (y := y) (z := w) (cEx.h20 (h1.2.ad (h2.1.tr a3)) hk) (cSt.ad h2.2 a3) h3.2⟩
  refine sat_ite (fun _ => sat_bnd ((cl_rnd hr hs).mono fun v s1 h1 => sat_bnd ((cl_lpd hr h1.1.2.1).mono fun y s2 h2 => sat_prt (up (gad.rf hs) ⟨h1.1.tr h2.1, cSt.wh (x := v.1) (y := y) (cEx.h20 (h1.2.ad h2.1) hk) h2.2⟩)))) (fun _ => ?_)
  refine sat_ite (fun _ => sat_bnd ((cl_lpd hr hs).mono fun y s1 h1 => sat_bnd (sat_nek (sat_bnd ((cl_rnd hr (gad_nx h1.1.2.1).2.1).mono fun v s2 h2 => ?_))))) (fun _ => ?_)
  · have a2 := (gad_nx h1.1.2.1).tr h2.1
    have y2 : cS k c s (gDo y v.1) s2 := ⟨h1.1.tr a2, cSt.dow (x := v.1) (y := y) (cEx.h20 h2.2 hk) (cSt.ad h1.2 a2)⟩
    exact sat_ite (fun _ => sat_bnd (sat_nx (sat_prt (up (gad.rf hs) ⟨y2.1.tr (gad_nx h2.1.2.1), cSt.ad y2.2 (gad_nx h2.1.2.1)⟩)))) (fun _ => sat_prt (up (gad.rf hs) y2))
  refine sat_ite (fun _ => (cl_for hr hk hs).mono fun _ _ h => up (gad.rf hs) h) (fun _ => ?_)
  refine sat_ite (fun e => sat_bnd ((cl_sem hs).mono fun _ s2 h2 => sat_prt ⟨h2, .brk (hb e)⟩)) (fun _ => ?_)
  refine sat_ite (fun e => sat_bnd ((cl_sem hs).mono fun _ s2 h2 => sat_prt ⟨h2, .cnt (hc e)⟩)) (fun _ => ?_)
  refine sat_ite (fun _ => sat_bnd (sat.mono (F := cS k c s) (sat_ite (fun _ => sat_prt ⟨gad.rf hs, cSt.bk (x := gCo 0 0) (.co (coK_lt 0 (by decide)))⟩) (fun _ => sat_bnd ((hr.expr true c s hs).mono fun v s1 h1 => sat_prt ⟨h1.1, cSt.bk (x := v.1) (cEx.h20 h1.2 hk)⟩))) fun y s1 h1 => sat_bnd ((cl_sem h1.1.2.1).mono fun _ s2 h2 => sat_prt (up (gad.rf hs) ⟨h1.1.tr h2, cSt.ad h1.2 h2⟩)))) (fun _ => ?_)
  refine sat_ite (fun _ => sat_ite (fun _ => sat_flt) (fun _ => sat_bnd ((hr.expr true c s hs).mono fun v s1 h1 => sat_bnd ((cl_sem h1.1.2.1).mono fun _ s2 h2 => sat_prt (up (gad.rf hs) ⟨h1.1.tr h2, cSt.to (x := v.1) (cEx.h20 (h1.2.ad h2) hk)⟩))))) (fun _ => ?_)
  exact sat_ite (fun _ => cl_try hr hs) (fun _ => (cl_swi hr hk hs).mono fun _ _ h => up (gad.rf hs) h)
theorem cl_stm {j : Nat} {ro : Option pT} (hr : clO j ro) (hj : j ≤ 20) {s : pS} (hs : iS c.1 s) : sat (pStm z K ro c s) (cS j c s) := by
  unfold pStm
  have n1 := gad_nx hs
  refine sat_ite (fun ho => sat_ite (fun _ => sat_flt) (fun hb => sat_opens fun r' e => ?_)) (fun _ => ?_)
  · obtain ⟨k, rfl, hr'⟩ := hr r' e
    have key : ∀ w : Int32, isK z w s = true ↔ tkd z s.1 = 2 ∧ twh z s.1 = w := fun w => by unfold isK; rw [Bool.and_eq_true, decide_eq_true_eq, decide_eq_true_eq]
    have h2 : tkd z s.1 = 2 := Classical.byContradiction fun n => by
      have : ∀ w : Int32, isK z w s = false := fun w => by
        cases hh : isK z w s with
        | false => rfl
        | true => exact absurd ((key w).mp hh).1 n
      unfold isOwn at ho
      simp only [this, Bool.or_false] at ho
      cases ho
    refine sat_bnd (sat_nx ((cl_inn hr' (by omega) _ n1.2.1 (fun w0 => ?_) (fun w3 => ?_)).mono fun y s' h => ⟨n1.tr h.1, h.2⟩))
    · refine Classical.byContradiction fun n => hb ?_
      rw [(key 0).mpr ⟨h2, w0⟩, beq_iff_eq.mpr (show c.2.1 + c.2.2 = 0 by omega)]; rfl
    · refine Classical.byContradiction fun n => hb ?_
      rw [(key 3).mpr ⟨h2, w3⟩, beq_iff_eq.mpr (show c.2.1 = 0 by omega)]
      simp
  refine sat_ite (fun _ => sat_opens fun r' e => ?_) (fun _ => ?_)
  · obtain ⟨k, rfl, hr'⟩ := hr r' e
    exact (cl_blk hr' hs).mono fun y s' h => ⟨h.1, cXs.mono h.2 (by omega)⟩
  refine sat_ite (fun _ => sat_opens fun r' e => sat_bnd (sat_nx (sat_prt ⟨n1, .no⟩))) (fun _ => ?_)
  refine sat_ite (fun _ => sat_opens fun r' e => ?_) (fun _ => sat_flt)
  obtain ⟨k, rfl, hr'⟩ := hr r' e
  exact sat_bnd ((hr'.expr true c s hs).mono fun v s1 h1 => sat_bnd ((cl_sem h1.1.2.1).mono fun _ s2 h2 => sat_prt ⟨h1.1.tr h2, cSt.pl (x := v.1) (cEx.h20 (h1.2.ad h2) (by omega))⟩))
/-! functions -/
theorem cl_pars (f : Nat) : ∀ (u n : Nat) (s : pS), iS f s → (∃ q, s.2.2[f]? = some q ∧ n ≤ q.1.length) → sat (pPars z f u n s) fun m s' => gad f s s' ∧ ∃ q, s'.2.2[f]? = some q ∧ m ≤ q.1.length := by
  intro u
  induction u with
  | zero => intros; exact sat_err
  | succ u ih =>
    intro n s hs hq
    rw [pPars_eq]
    refine sat_ite (fun h => sat_prt ⟨gad.rf hs, hq⟩) (fun _ => sat_ite (fun _ => sat_flt) (fun _ => sat_ite (fun _ => sat_flt) (fun hm => sat_bnd (sat_tk ?_))))
    have a0 := gad_nm (z.2.1 s.1) hs
    have a1 := a0.1.tr (gad_hld a0.1.2.1 a0.2)
    have q1 : ∃ q, (hld f (nam (z.2.1 s.1) s).1 (s.1 + 1, (nam (z.2.1 s.1) s).2.2)).2.2[f]? = some q ∧ n + 1 ≤ q.1.length := by
      obtain ⟨q, e1, e2⟩ := hq
      rw [e1] at hm
      have hm : ¬ (nam (z.2.1 s.1) s).1 ∈ q.1 := fun y => hm (decide_eq_true y)
      have e3 : (hld f (nam (z.2.1 s.1) s).1 (s.1 + 1, (nam (z.2.1 s.1) s).2.2)).2.2 = adV f (nam (z.2.1 s.1) s).1 s.2.2 := rfl
      refine ⟨(q.1 ++ [(nam (z.2.1 s.1) s).1], q.2), ?_, by rw [List.length_append]; show n + 1 ≤ q.1.length + 1; omega⟩
      rw [e3]
      unfold adV
      rw [e1]
      dsimp only
      rw [if_neg hm, List.getElem?_set_self (List.getElem?_eq_some_iff.mp e1).1]
    generalize hld f (nam (z.2.1 s.1) s).1 (s.1 + 1, (nam (z.2.1 s.1) s).2.2) = s1 at *
    unfold pPb
    exact sat_ite (fun _ => (ih (n + 1) s1 a1.2.1 q1).mono fun m s' h => ⟨a1.tr h.1, h.2⟩) (fun _ => sat_ite (fun _ => sat_flt) (fun _ => sat_bnd (sat_ned (sat_ite (fun _ => (ih (n + 1) _ (gad_nx a1.2.1).2.1 q1).mono fun m s' h => ⟨(a1.tr (gad_nx a1.2.1)).tr h.1, h.2⟩) (fun _ => sat_flt)))))
def cD (c : Nat) (s : pS) (l : List (Nat × Nat)) : Prop := ∀ q ∈ l, fuS s c q.1 ∧ q.2 < nmS s
theorem cD.ad {a : Nat} {f : Nat} {s s' : pS} {l : List (Nat × Nat)} (h : cD a s l) (g : gad f s s') : cD a s' l := fun q hq => ⟨g.1.fn (h q hq).1, Nat.lt_of_lt_of_le (h q hq).2 g.1.nm⟩
theorem cl_pts {d : Nat} {st : pC → pS → pR gSt} {fn : pC → pS → pR (Nat × Nat)} (hst : ∀ s, iS c.1 s → sat (st c s) fun y s' => gad c.1 s s' ∧ cXs d c s' y) (hfn : ∀ s, iS c.1 s → sat (fn c s) fun f s' => gad c.1 s s' ∧ fuS s' c.1 f.1 ∧ f.2 < nmS s') {stop : pS → Bool} : ∀ (u : Nat) (dc : List (Nat × Nat)) (acc : gSt) (s : pS), iS c.1 s → cD c.1 s dc → cXs d c s acc → sat (pPts z st fn c stop u dc acc s) fun q s' => gad c.1 s s' ∧ cD c.1 s' q.1 ∧ cXs d c s' q.2 := by
  intro u
  induction u with
  | zero => intros; exact sat_err
  | succ u ih =>
    intro dc acc s hs hd ha
    unfold pPts
    refine sat_ite (fun h => sat_prt ⟨gad.rf hs, hd, ha⟩) (fun _ => sat_ite (fun _ => sat_bnd ((hfn s hs).mono fun f s1 h1 => (ih _ acc s1 h1.1.2.1 (fun q hq => ?_) (ha.ad h1.1)).mono fun q s' h => ⟨h1.1.tr h.1, h.2⟩)) (fun _ => sat_bnd ((hst s hs).mono fun y s1 h1 => (ih dc _ s1 h1.1.2.1 (hd.ad h1.1) (cSt.sq (x := acc) (y := y) (ha.ad h1.1) h1.2)).mono fun q s' h => ⟨h1.1.tr h.1, h.2⟩)))
    rcases List.mem_append.mp hq with y | y
    · exact hd.ad h1.1 q y
    · rw [List.mem_singleton.mp y]; exact h1.2
theorem cl_dcl {j : Nat} {ro : Option pT} (hr : clO j ro) {s : pS} (hs : iS c.1 s) : sat (pDcl z ro c s) fun f s' => gad c.1 s s' ∧ fuS s' c.1 f.1 ∧ f.2 < nmS s' := by
  unfold pDcl
  refine sat_opens fun r' e => ?_
  obtain ⟨k, -, hr'⟩ := hr r' e
  exact sat_bnd (sat_nx ((hr'.func true c _ (gad_nx hs).2.1).mono fun f s' h => ⟨(gad_nx hs).tr h.1, h.2.1, h.2.2 rfl⟩))
theorem setF_get {f : Nat} {g : gF → gF} {s : pS} : (setF f g s).1 = s.1 ∧ (setF f g s).2.1 = s.2.1 ∧ (setF f g s).2.2.length = s.2.2.length ∧ (∀ k, k ≠ f → (setF f g s).2.2[k]? = s.2.2[k]?) ∧ ∀ q, s.2.2[f]? = some q → (setF f g s).2.2[f]? = some (g q) := by
  have e : (setF f g s).2.2 = match s.2.2[f]? with | some q => s.2.2.set f (g q) | none => s.2.2 := rfl
  cases h : s.2.2[f]? with
  | none => rw [h] at e; rw [e]; exact ⟨rfl, rfl, rfl, fun _ _ => rfl, fun q z => by cases z⟩
  | some q =>
    rw [h] at e
    rw [e]
    have hl : f < s.2.2.length := (List.getElem?_eq_some_iff.mp h).1
    exact ⟨rfl, rfl, by simp, fun k hk => List.getElem?_set_ne (fun z => hk z.symm), fun q' z => by cases z; simp [hl]⟩
theorem fOK.up2 {s s' : pS} (hn : nmS s ≤ nmS s') (hf : ∀ a f, fuS s a f → fuS s' a f) {k : Nat} {q : gF} (z : fOK s k q) : fOK s' k q := ⟨z.1.up hn (hf k) 40 (Nat.le_refl _), fun r hr => ⟨hf k _ (z.2 r hr).1, Nat.lt_of_lt_of_le (z.2 r hr).2 hn⟩⟩
/-- a function that is being made: N; the rest that came since is done -/
def Gs (N c0 : Nat) (s : pS) : Prop := iS N s ∧ (∃ q, s.2.2[N]? = some q ∧ q.2.2.2.1 = c0) ∧ nwF (N + 1) s
theorem Gs.ad {N c0 : Nat} {s s' : pS} (h : Gs N c0 s) (a : gad N s s') : Gs N c0 s' := by
  obtain ⟨h1, ⟨q, h2, h3⟩, h4⟩ := h
  obtain ⟨q', e1, e2, -⟩ := a.1.2.2.2.2.1 N q h1.1 h2
  refine ⟨a.2.1, ⟨q', e1, by rw [e2]; exact h3⟩, fun k q hk hq => ?_⟩
  by_cases y : s.2.2.length ≤ k
  · exact a.2.2 k q y hq
  · have e : s.2.2[k]? = some (s.2.2[k]'(by omega)) := List.getElem?_eq_getElem (by omega)
    obtain ⟨q', e1, e2, -⟩ := a.1.2.2.2.2.1 k _ (by omega) e
    rw [e1] at hq
    cases hq
    exact (h4 k _ hk e).up a.1 e2
theorem fnS_set {N : Nat} {g : gF → gF} (hg : ∀ q, (g q).2.2.2.1 = q.2.2.2.1) {s : pS} {a f : Nat} (h : fuS s a f) : fuS (setF N g s) a f := by
  obtain ⟨h1, q, h2, h3⟩ := h
  obtain ⟨-, -, -, e4, e5⟩ := setF_get (f := N) (g := g) (s := s)
  by_cases y : f = N
  · rw [y] at h2 ⊢
    exact ⟨by omega, g q, e5 q h2, (hg q).trans h3⟩
  · exact ⟨h1, q, (e4 f y).trans h2, h3⟩
theorem Gs.set {N c0 : Nat} {g : gF → gF} (hg : ∀ q, (g q).2.2.2.1 = q.2.2.2.1) {s : pS} (h : Gs N c0 s) (hv : ∀ q, s.2.2[N]? = some q → vOK s N (g q)) : Gs N c0 (setF N g s) := by
  obtain ⟨e1, e2, e3, e4, e5⟩ := setF_get (f := N) (g := g) (s := s)
  obtain ⟨h1, ⟨q, h2, h3⟩, h4⟩ := h
  have hn : nmS s ≤ nmS (setF N g s) := by unfold nmS; rw [e2]; exact Nat.le_refl _
  refine ⟨⟨by rw [e3]; exact h1.1, fun k q' hq => ?_⟩, ⟨g q, e5 q h2, (hg q).trans h3⟩, fun k q' hk hq => ?_⟩
  · by_cases y : k = N
    · rw [y, e5 q h2] at hq
      cases hq
      rw [y]; exact (hv q h2).up hn
    · rw [e4 k y] at hq
      exact (h1.2 k q' hq).up hn
  · rw [e4 k (by omega)] at hq
    exact (h4 k q' hk hq).up2 hn fun a f y => fnS_set hg y
theorem iS.to {c d : Nat} {s : pS} (h : iS c s) (hd : d < s.2.2.length) : iS d s := ⟨hd, h.2⟩
theorem sat_and {α : Type} {x : pR α} {F G : α → pS → Prop} (h : sat x F) (h' : sat x G) : sat x fun a s => F a s ∧ G a s := fun a s e => ⟨h a s e, h' a s e⟩
theorem cl_fun {j : Nat} {ro : Option pT} (hr : clO j ro) (hj : j ≤ 20) (ho : okO ro) (d : Bool) {s : pS} (hs : iS c.1 s) : sat (pFun z K ro d c s) (cF d c s) := by
  refine (sat_and (ok_fun (z := z) (K := K) (c := c) ho d s) (G := fun f s' => Gs s.2.2.length c.1 s' ∧ (∀ q, s'.2.2[s.2.2.length]? = some q → fOK s' s.2.2.length q) ∧ (d = true → f.2 < nmS s')) ?_).mono fun f s' h => ?_
  · rw [pFun_eq]
    have hl0 : (s.2.2 ++ [([], 0, none, c.1, [], gNo)]).length = s.2.2.length + 1 := by simp
    have eN : (s.2.2 ++ [([], 0, none, c.1, [], gNo)])[s.2.2.length]? = some ([], 0, none, c.1, [], gNo) := by
      rw [List.getElem?_append_right (Nat.le_refl _), Nat.sub_self]; rfl
    have G0 : Gs s.2.2.length c.1 (s.1, s.2.1, s.2.2 ++ [([], 0, none, c.1, [], gNo)]) := by
      refine ⟨⟨by show _ < (s.2.2 ++ [([], 0, none, c.1, [], gNo)]).length; omega, fun k q hq => ?_⟩, ⟨_, eN, rfl⟩, fun k q hk hq => ?_⟩
      · have hq : (s.2.2 ++ [([], 0, none, c.1, [], gNo)])[k]? = some q := hq
        by_cases y : k < s.2.2.length
        · rw [List.getElem?_append_left y] at hq
          exact hs.2 k q hq
        · have : k < s.2.2.length + 1 := by rw [← hl0]; exact (List.getElem?_eq_some_iff.mp hq).1
          have e : k = s.2.2.length := by omega
          rw [e, eN] at hq
          cases hq
          exact ⟨(fun x hx => by cases hx), (fun x hx => by cases hx), (fun _ => by rw [e]; exact hs.1), List.nodup_nil, Nat.le_refl _⟩
      · have hq : (s.2.2 ++ [([], 0, none, c.1, [], gNo)])[k]? = some q := hq
        rw [List.getElem?_eq_none (by omega)] at hq; cases hq
    have hcN : c.1 < s.2.2.length := hs.1
    generalize s.2.2.length = N at *
    obtain ⟨s0, es0⟩ : ∃ s0 : pS, s0 = (s.1, s.2.1, s.2.2 ++ [([], 0, none, c.1, [], gNo)]) := ⟨_, rfl⟩
    rw [← es0] at G0 ⊢
    have l0 : c.1 < s0.2.2.length := Nat.lt_trans hcN G0.1.1
    unfold pFb
    refine sat_bnd (sat.mono (F := fun x s1 => Gs N c.1 s1 ∧ (d = true → x < nmS s1)) ?_ fun x s1 h1 => ?_)
    · refine sat_ite (fun _ => sat_bnd (sat_nn (sat_prt ?_))) (fun hd => sat_ite (fun _ => sat_bnd (sat_tk (sat_prt ?_))) (fun _ => sat_prt ⟨G0, fun e => absurd e hd⟩))
      · have a0 := gad_nm (c := N) (z.2.1 s0.1) G0.1
        by_cases hc : c.1 = 0
        · rw [if_pos hc]; exact ⟨G0.ad a0.1, fun _ => a0.2⟩
        · rw [if_neg hc]
          have G1 := G0.ad a0.1
          have a1 := gad_hld (c := c.1) (x := (nam (z.2.1 s0.1) s0).1) (G1.1.to (Nat.lt_trans hcN G1.1.1)) a0.2
          obtain ⟨q, e1, e2⟩ := G1.2.1
          obtain ⟨q', f1, f2, -⟩ := a1.1.2.2.2.2.1 N q G1.1.1 e1
          refine ⟨⟨a1.2.1.to (show N < (adV c.1 _ _).length by rw [(adV_get c.1 _ _).1]; exact G1.1.1), ⟨q', f1, by rw [f2]; exact e2⟩, fun k q hk hq => ?_⟩, fun _ => a0.2⟩
          have lq := (List.getElem?_eq_some_iff.mp hq).1
          have lq : k < (s0.1 + 1, (nam (z.2.1 s0.1) s0).2.2).2.2.length := by rw [← (adV_get c.1 (nam (z.2.1 s0.1) s0).1 _).1]; exact lq
          have e := List.getElem?_eq_getElem lq
          obtain ⟨q', e1, e2, -⟩ := a1.1.2.2.2.2.1 k _ lq e
          rw [e1] at hq
          cases hq
          exact (G1.2.2 k _ hk e).up a1.1 e2
      · have a0 := gad_nm (c := N) (z.2.1 s0.1) G0.1
        have G1 := G0.ad a0.1
        refine ⟨Gs.set (g := fun q => (q.1, q.2.1, some (nam (z.2.1 s0.1) s0).1, q.2.2.2)) (fun _ => rfl) G1 fun q hq => ?_, fun e => absurd e hd⟩
        have := G1.1.2 N q hq
        exact ⟨this.1, fun x hx => by cases hx; exact a0.2, this.2.2⟩
    unfold pFi
    have n1 := gad_nx h1.1.1
    refine sat_bnd (sat_ned (sat_bnd ((cl_pars N K 0 _ n1.2.1 (by obtain ⟨q, e, -⟩ := h1.1.2.1; exact ⟨q, e, Nat.zero_le _⟩)).mono fun n s2 ⟨h2, h2q⟩ => sat_bnd (sat_nx ?_))))
    have a2 := (n1.tr h2).tr (gad_nx h2.2.1)
    have G2 := h1.1.ad a2
    have x2 : d = true → x < nmS (s2.1 + 1, s2.2) := fun e => Nat.lt_of_lt_of_le (h1.2 e) a2.1.nm
    have G3 : Gs N c.1 (setF N (ownF n) (s2.1 + 1, s2.2)) := Gs.set (g := ownF n) (fun _ => rfl) G2 fun q hq => by
      have := G2.1.2 N q hq
      obtain ⟨q0, e0, l0⟩ := h2q
      have e0 : (s2.1 + 1, s2.2).2.2[N]? = some q0 := e0
      rw [hq] at e0
      cases e0
      refine ⟨fun y hy => ?_, this.2.1, this.2.2.1, ?_, ?_⟩
      rotate_left
      · show (match q.2.2.1 with | some x => if x ∈ q.1 then q.1 else q.1 ++ [x] | none => q.1).Nodup
        cases q.2.2.1 with
        | none => exact this.2.2.2.1
        | some x =>
          dsimp only
          split
          · exact this.2.2.2.1
          · rename_i m
            exact List.nodup_append.mpr ⟨this.2.2.2.1, (by simp), fun a ha b hb => by rw [List.mem_singleton.mp hb]; exact fun e => m (by rw [← e]; exact ha)⟩
      · show n ≤ (match q.2.2.1 with | some x => if x ∈ q.1 then q.1 else q.1 ++ [x] | none => q.1).length
        cases q.2.2.1 with
        | none => exact l0
        | some x =>
          dsimp only
          split
          · exact l0
          · rw [List.length_append]; omega
      unfold ownF at hy
      dsimp only at hy
      cases ho : q.2.2.1 with
      | none => rw [ho] at hy; exact this.1 y hy
      | some w =>
        rw [ho] at hy
        dsimp only at hy
        by_cases m : w ∈ q.1
        · rw [if_pos m] at hy; exact this.1 y hy
        · rw [if_neg m] at hy
          rcases List.mem_append.mp hy with u | u
          · exact this.1 y u
          · rw [List.mem_singleton.mp u]; exact this.2.1 w ho
    have x3 : d = true → x < nmS (setF N (ownF n) (s2.1 + 1, s2.2)) := fun e => by unfold nmS; rw [setF_get.2.1]; exact x2 e
    generalize setF N (ownF n) (s2.1 + 1, s2.2) = s3 at *
    unfold pFe
    have n3 := gad_nx G3.1
    refine sat_bnd (sat_ned (sat_bnd ((cl_pts (c := (N, 0, 0)) (d := 2 * j) (fun s hs => (cl_stm hr hj hs).mono fun y s' h => h) (fun s hs => cl_dcl hr hs) K [] gNo _ n3.2.1 (fun q hq => by cases hq) .no).mono fun q s4 h4 => sat_bnd (sat_nx (sat_prt ?_)))))
    have n4 := gad_nx h4.1.2.1
    have a4 := (n3.tr h4.1).tr n4
    have G4 := G3.ad a4
    have G5 : Gs N c.1 (setF N (endF q) (s4.1 + 1, s4.2)) := Gs.set (g := endF q) (fun _ => rfl) G4 fun p hp => G4.1.2 N p hp
    refine ⟨G5, fun p hp => ?_, fun e => by unfold nmS; rw [setF_get.2.1]; exact Nat.lt_of_lt_of_le (x3 e) a4.1.nm⟩
    obtain ⟨p0, hp0, -⟩ := G4.2.1
    rw [(setF_get (f := N) (g := endF q) (s := (s4.1 + 1, s4.2))).2.2.2.2 p0 hp0] at hp
    cases hp
    have hq : fOK (s4.1 + 1, s4.2) N (endF q p0) := ⟨(h4.2.2.ad n4).mono (by omega), h4.2.1.ad n4⟩
    exact hq.up2 (s' := setF N (endF q) (s4.1 + 1, s4.2)) (by unfold nmS; rw [(setF_get (f := N) (g := endF q)).2.1]; exact Nat.le_refl _) fun a f y => fnS_set (g := endF q) (fun _ => rfl) y
  · obtain ⟨h1, h2, h3, h4⟩ := h
    obtain ⟨q, e1, e2⟩ := h2.2.1
    refine ⟨⟨h1.1, h2.1.to (by have := h2.1.1; have := hs.1; omega), fun k q hk hq => ?_⟩, ⟨by rw [h1.2.2]; have := hs.1; omega, q, by rw [h1.2.2]; exact e1, e2⟩, h4⟩
    by_cases y : k = s.2.2.length
    · rw [y] at hq ⊢; exact h3 q hq
    · exact h2.2.2 k q (by omega) hq
theorem cl_mk {j : Nat} {ro : Option pT} (hr : clO j ro) (hj : j ≤ 20) (ho : okO ro) : clT j (pMk z K ro) := ⟨fun c s hs => cl_prim hr hs, fun n e c s hs hn he => cl_mem hr hn hs he, fun c s hs => cl_args hr hs, fun c s hs => cl_made hr hs, fun c s hs => cl_unit hr hs, fun i c s hs => cl_asg hr i hs, fun i c s hs => cl_expr hr i hs, fun c s hs => cl_stm hr hj hs, fun d c s hs => cl_fun hr hj ho d hs, fun i c s hs => (cl_wth hr i hs).mono fun _ _ h => h.1⟩
theorem cl_lv (z : pZ) (K : Nat) : ∀ k, k ≤ 20 → clT k (pLv z K k)
  | 0, _ => cl_mk (fun _ e => by cases e) (by omega) (fun _ e => by cases e)
  | k + 1, h => cl_mk (fun r e => by cases e; exact ⟨k, rfl, cl_lv z K k (by omega)⟩) h (fun r e => by cases e; exact ok_lv z K k)
/-- a whole script: every function is in the class -/
theorem cl_scr (z : pZ) (K : Nat) (L : List (List Int32)) : sat (pScr z K L) fun _ s' => iS 0 s' ∧ nwF 0 s' ∧ L <+: s'.2.1 := by
  unfold pScr
  refine sat_ite (fun _ => sat_err) (fun _ => ?_)
  have i0 : iS 0 (0, L, [([], 0, none, 0, [], gNo)]) := ⟨by show 0 < 1; decide, fun k q hq => by
    have hq : [(([], 0, none, 0, [], gNo) : gF)][k]? = some q := hq
    have : k = 0 := by have := (List.getElem?_eq_some_iff.mp hq).1; simpa using this
    rw [this] at hq
    cases hq
    exact ⟨(fun x hx => by cases hx), (fun x hx => by cases hx), (fun z => by omega), List.nodup_nil, Nat.le_refl _⟩⟩
  refine sat_bnd ((cl_pts (c := (0, 0, 0)) (d := 40) (fun s hs => ((cl_lv z K 20 (Nat.le_refl _)).stmt (0, 0, 0) s hs).mono fun y s' h => h) (fun s hs => cl_dcl (j := 20) (fun r e => by cases e; exact ⟨19, rfl, cl_lv z K 19 (by decide)⟩) hs) K [] gNo _ i0 (fun q hq => by cases hq) .no).mono fun q s1 h1 => sat_prt ?_)
  have G1 : Gs 0 0 s1 := by
    obtain ⟨p, e1, e2, -⟩ := h1.1.1.2.2.2.2.1 0 _ (by show 0 < 1; decide) (show [(([], 0, none, 0, [], gNo) : gF)][0]? = some ([], 0, none, 0, [], gNo) from rfl)
    exact ⟨h1.1.2.1, ⟨p, e1, by rw [e2]⟩, fun k q hk hq => h1.1.2.2 k q hk hq⟩
  have G5 : Gs 0 0 (setF 0 (endF q) s1) := Gs.set (g := endF q) (fun _ => rfl) G1 fun p hp => G1.1.2 0 p hp
  refine ⟨G5.1, fun k p hk hp => ?_, ?_⟩
  · by_cases y : k = 0
    · rw [y] at hp ⊢
      obtain ⟨p0, hp0, -⟩ := G1.2.1
      have hp : (setF 0 (endF q) s1).2.2[0]? = some p := hp
      rw [(setF_get (f := 0) (g := endF q) (s := s1)).2.2.2.2 p0 hp0] at hp
      cases hp
      have hq : fOK s1 0 (endF q p0) := ⟨h1.2.2, h1.2.1⟩
      exact hq.up2 (s' := setF 0 (endF q) s1) (by unfold nmS; rw [(setF_get (f := 0) (g := endF q)).2.1]; exact Nat.le_refl _) fun a f y => fnS_set (g := endF q) (fun _ => rfl) y
    · exact G5.2.2 k p (by omega) hp
  · show L <+: (setF 0 (endF q) s1).2.1
    rw [setF_get.2.1]; exact h1.1.1.2.1.1
end
