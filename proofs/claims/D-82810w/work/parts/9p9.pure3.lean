/-! P's RESULTS: statements, functions, all levels -/
section
variable (z : pZ) (K : Nat)
/-- behind a name of var; behind catch (name; behind a parameter; a function, once it is there -/
def pVb (r : pT) (i : Bool) (c : pC) (f n : Nat) (b : Bool) (acc : gSt) (x : Nat) (s : pS) : pR (gSt × Bool × Bool) := bnd (if isS z 47 s then bnd (nxt' z s) fun _ s => bnd (r.wth i c s) fun v s => prt (gSq acc (gPl (gGvN none x v.1)), true) s else prt (acc, b) s) fun q s =>
      if isS z 32 s then bnd (nxt' z s) fun _ s => pVars z r i c f (n + 1) q.2 q.1 s else prt (q.1, q.2, n == 0) s
theorem pVars_eq (r : pT) (i : Bool) (c : pC) (f n : Nat) (b : Bool) (acc : gSt) (s : pS) : pVars z r i c (f + 1) n b acc s = bnd (nedN z s) fun x s => pVb z r i c f n b acc x (hld c.1 x s) := rfl
def pTb (r : pT) (c : pC) (y : gSt) (x : Nat) (s : pS) : pR (gSt × Bool) := bnd (nedS z 27 s) fun _ s => bnd (pBlk z K r c s) fun w s => prt (gTrC y x w, true) s
def pTf (r : pT) (c : pC) (q : gSt × Bool) (s : pS) : pR gSt := if isK z 9 s then bnd (nxt' z s) fun _ s => bnd (pBlk z K r c s) fun w s => prt (gTrF q.1 w) s else if q.2 then prt q.1 s else flt z 2 s
theorem pTry_eq (r : pT) (c : pC) (s : pS) : pTry z K r c s = bnd (pBlk z K r c s) fun y s => bnd (if isK z 2 s then bnd (nxt' z s) fun _ s => bnd (nedS z 26 s) fun _ s => bnd (nedN z s) fun x s => pTb z K r c y x (hld c.1 x s) else prt (y, false) s) fun q s => pTf z K r c q s := rfl
def pPb (f u n : Nat) (s : pS) : pR Nat := if isS z 27 s then pPars z f u (n + 1) s else if n + 1 = 8 then flt z 2 s else bnd (nedS z 32 s) fun _ s => if tkd z s.1 = 1 then pPars z f u (n + 1) s else flt z 2 s
theorem pPars_eq (f u n : Nat) (s : pS) : pPars z f (u + 1) n s = if isS z 27 s then prt n s else if ¬ tkd z s.1 = 1 then flt z 2 s else if (match s.2.2[f]? with | some q => decide ((nam (z.2.1 s.1) s).1 ∈ q.1) | none => false) then flt z 3 s else bnd (takN z s) fun x s => pPb z f u n (hld f x s) := rfl
/-- the parameters are read: n -/
def ownF (n : Nat) (q : gF) : gF := ((match q.2.2.1 with | some x => if x ∈ q.1 then q.1 else q.1 ++ [x] | none => q.1), n, q.2.2)
def endF (p : List (Nat × Nat) × gSt) (q : gF) : gF := (q.1, q.2.1, q.2.2.1, q.2.2.2.1, p.1, p.2)
def pFe (r : Option pT) (f x : Nat) (s : pS) : pR (Nat × Nat) := bnd (nedS z 24 s) fun _ s => bnd (pPts z (pStm z K r) (pDcl z r) (f, 0, 0) (isS z 25) K [] gNo s) fun q s => bnd (nxt' z s) fun _ s => prt (f, x) (setF f (endF q) s)
def pFi (r : Option pT) (f x : Nat) (s : pS) : pR (Nat × Nat) := bnd (nedS z 26 s) fun _ s => bnd (pPars z f K 0 s) fun n s => bnd (nxt' z s) fun _ s => pFe z K r f x (setF f (ownF n) s)
def pFb (r : Option pT) (d : Bool) (c : pC) (f : Nat) (s : pS) : pR (Nat × Nat) := bnd (if d then bnd (nedN z s) fun x s => prt x (if c.1 = 0 then s else hld c.1 x s) else if tkd z s.1 = 1 then bnd (takN z s) fun x s => prt x (setF f (fun q => (q.1, q.2.1, some x, q.2.2.2)) s) else prt 0 s) fun x s => pFi z K r f x s
theorem pFun_eq (r : Option pT) (d : Bool) (c : pC) (s : pS) : pFun z K r d c s = pFb z K r d c s.2.2.length (s.1, s.2.1, s.2.2 ++ [([], 0, none, c.1, [], gNo)]) := rfl
end
section
variable {z : pZ} {K : Nat} {r : pT} {c : pC}
theorem ok_sem (s : pS) {F : Unit → pS → Prop} (h0 : F () s) (h1 : F () (s.1 + 1, s.2)) : sat (pSem z s) F := by
  unfold pSem
  exact sat_ite (fun _ => sat_nx h1) (fun _ => sat_ite (fun _ => sat_prt h0) (fun _ => sat_flt))
theorem ok_stms (hr : okT r) {stop : pS → Bool} : ∀ (f : Nat) (acc : gSt) (s : pS), gokT acc → sat (pStms r c stop f acc s) fun y s' => adv c.1 s s' ∧ gokT y ∧ stop s' = true := by
  intro f
  induction f with
  | zero => intros; exact sat_err
  | succ f ih =>
    intro acc s ha
    unfold pStms
    exact sat_ite (fun hs => sat_prt ⟨adv.rf, ha, hs⟩) (fun _ => sat_bnd ((hr.stmt c s).mono fun y s1 h1 => (ih _ s1 (gokT_Sq ha h1.2.2)).mono fun y' s' h => ⟨h1.1.tr h.1, h.2⟩))
theorem ok_blk (hr : okT r) (s : pS) : sat (pBlk z K r c s) (rS c s) := by
  unfold pBlk
  refine sat_bnd (sat_ned (sat_bnd ((ok_stms hr K gNo _ gokT_No).mono fun y s1 h1 => sat_bnd (sat_nx (sat_prt ⟨((adv_nx s).tr h1.1).tr (adv_nx s1), by have := h1.1.1; dsimp only at this ⊢; omega, h1.2.1⟩)))))
theorem ok_rnd (hr : okT r) (s : pS) : sat (pRnd z r c s) fun v s' => adv c.1 s s' ∧ s.1 + 2 < s'.1 ∧ okV (12 * (s'.1 - s.1 - 2)) v := by
  unfold pRnd
  refine sat_bnd (sat_ned (sat_bnd ((hr.expr true c _).mono fun v s1 h1 => sat_bnd (sat_ned (sat_prt ?_)))))
  have l1 := h1.2.1
  dsimp only at l1
  exact ⟨((adv_nx s).tr h1.1).tr (adv_nx s1), by dsimp only; omega, h1.2.2.mono (by dsimp only; omega)⟩
theorem ok_lpd (hr : okT r) (s : pS) : sat (pLpd r c s) (rS c s) := hr.stmt (c.1, c.2.1 + 1, c.2.2) s
theorem ok_vars (hr : okT r) (i : Bool) : ∀ (f n : Nat) (b : Bool) (acc : gSt) (s : pS), gokT acc → sat (pVars z r i c f n b acc s) fun q s' => adv c.1 s s' ∧ s.1 < s'.1 ∧ gokT q.1 := by
  intro f
  induction f with
  | zero => intros; exact sat_err
  | succ f ih =>
    intro n b acc s ha
    rw [pVars_eq]
    refine sat_bnd (sat_nen fun w => ?_)
    have a1 : adv c.1 s (hld c.1 (nam w s).1 (s.1 + 1, (nam w s).2.2)) := (adv_nm w s).tr (adv_hld _ _)
    have p1 : (hld c.1 (nam w s).1 (s.1 + 1, (nam w s).2.2)).1 = s.1 + 1 := rfl
    generalize hld c.1 (nam w s).1 (s.1 + 1, (nam w s).2.2) = s1 at *
    unfold pVb
    refine sat_bnd (sat.mono (F := fun q s2 => adv c.1 s1 s2 ∧ gokT q.1) ?_ fun q s2 h2 => ?_)
    · refine sat_ite (fun _ => sat_bnd (sat_nx (sat_bnd ((hr.wth i c _).mono fun v s2 h2 => sat_prt ⟨(adv_nx s1).tr h2.1, ?_⟩)))) (fun _ => sat_prt ⟨adv.rf, ha⟩)
      exact gokT_Sq (x := acc) (y := gPl (gGvN none (nam w s).1 v.1)) ha (gokT_Pl (gok_GvN h2.2.2.1.1))
    · have l2 := h2.1.1
      refine sat_ite (fun _ => sat_bnd (sat_nx ((ih (n + 1) q.2 q.1 _ h2.2).mono fun q' s3 h3 => ⟨((a1.tr h2.1).tr (adv_nx s2)).tr h3.1, by have := h3.2.1; dsimp only at this; omega, h3.2.2⟩))) (fun _ => sat_prt ⟨a1.tr h2.1, by omega, h2.2⟩)
theorem ok_each (hr : okT r) (x : Nat) (s : pS) : sat (pEach z r c x s) (rS c s) := by
  unfold pEach
  refine sat_bnd (sat_nx (sat_bnd ((hr.expr true c _).mono fun v s1 h1 => sat_bnd (sat_ned (sat_bnd ((ok_lpd hr _).mono fun y s2 h2 => sat_prt ?_))))))
  have l1 := h1.2.1
  have l2 := h2.2.1
  dsimp only at l1 l2
  exact ⟨(((adv_nx s).tr h1.1).tr (adv_nx s1)).tr h2.1, by omega, gokT_Ea h1.2.2.1.1 h2.2.2⟩
theorem ok_for2 (hr : okT r) {i : gSt} (hi : gokT i) (s : pS) : sat (pFor2 z r c i s) (rS c s) := by
  unfold pFor2
  refine sat_bnd (sat_ned (sat_bnd (sat.mono (F := fun x s1 => adv c.1 (s.1 + 1, s.2) s1 ∧ ∀ g, x = some g → gok g) ?_ fun x s1 h1 => ?_)))
  · exact sat_ite (fun _ => sat_prt ⟨adv.rf, fun g e => by cases e⟩) (fun _ => sat_bnd ((hr.expr true c _).mono fun v s1 h1 => sat_prt ⟨h1.1, fun g e => by cases e; exact h1.2.2.1.1⟩))
  refine sat_bnd (sat_ned (sat_bnd (sat.mono (F := fun st s2 => adv c.1 (s1.1 + 1, s1.2) s2 ∧ gokT st) ?_ fun st s2 h2 => ?_)))
  · exact sat_ite (fun _ => sat_prt ⟨adv.rf, gokT_No⟩) (fun _ => sat_bnd ((hr.expr true c _).mono fun v s1 h1 => sat_prt ⟨h1.1, gokT_Pl h1.2.2.1.1⟩))
  refine sat_bnd (sat_ned (sat_bnd ((ok_lpd hr _).mono fun y s3 h3 => sat_prt ?_)))
  have l1 := h1.1.1
  have l2 := h2.1.1
  have l3 := h3.2.1
  dsimp only at l1 l2 l3
  exact ⟨(((((adv_nx s).tr h1.1).tr (adv_nx s1)).tr h2.1).tr (adv_nx s2)).tr h3.1, by omega, gokT_For hi h1.2 h2.2 h3.2.2⟩
theorem ok_for (hr : okT r) (s : pS) : sat (pFor z K r c s) (rS c s) := by
  unfold pFor
  have up : ∀ {s1 : pS} {y : gSt} {s2 : pS}, adv c.1 s s1 → rS c s1 y s2 → rS c s y s2 := fun a h => ⟨a.tr h.1, by have := a.1; have := h.2.1; omega, h.2.2⟩
  refine sat_bnd (sat_ned (sat_ite (fun _ => sat_bnd (sat_nx (sat_bnd ((ok_vars hr false K 0 false gNo _ gokT_No).mono fun q s2 h2 => ?_)))) (fun _ => ?_)))
  · have a2 := ((adv_nx s).tr (adv_nx _)).tr h2.1
    exact sat_ite (fun _ => (ok_each hr _ s2).mono fun y s' h => up a2 h) (fun _ => (ok_for2 hr h2.2.2 s2).mono fun y s' h => up a2 h)
  · refine sat_ite (fun _ => (ok_for2 hr gokT_No _).mono fun y s' h => up (adv_nx s) h) (fun _ => sat_bnd ((hr.expr false c _).mono fun v s2 h2 => ?_))
    have a2 := (adv_nx s).tr h2.1
    exact sat_ite (fun _ => (ok_each hr _ s2).mono fun y s' h => up a2 h) (fun _ => (ok_for2 hr (gokT_Pl h2.2.2.1.1) s2).mono fun y s' h => up a2 h)
theorem ok_try (hr : okT r) (s : pS) : sat (pTry z K r c s) (rS c s) := by
  rw [pTry_eq]
  refine sat_bnd ((ok_blk hr s).mono fun y s1 h1 => sat_bnd (sat.mono (F := fun q s2 => adv c.1 s1 s2 ∧ gokT q.1) ?_ fun q s2 h2 => ?_))
  · refine sat_ite (fun _ => sat_bnd (sat_nx (sat_bnd (sat_ned (sat_bnd (sat_nen fun w => ?_)))))) (fun _ => sat_prt ⟨adv.rf, h1.2.2⟩)
    have a1 : adv c.1 s1 (hld c.1 (nam w (s1.1 + 1 + 1, s1.2)).1 (s1.1 + 1 + 1 + 1, (nam w (s1.1 + 1 + 1, s1.2)).2.2)) := (((adv_nx s1).tr (adv_nx _)).tr (adv_nm w _)).tr (adv_hld _ _)
    generalize hld c.1 (nam w (s1.1 + 1 + 1, s1.2)).1 (s1.1 + 1 + 1 + 1, (nam w (s1.1 + 1 + 1, s1.2)).2.2) = s2 at *
    unfold pTb
    exact sat_bnd (sat_ned (sat_bnd ((ok_blk hr _).mono fun w s3 h3 => sat_prt ⟨(a1.tr (adv_nx s2)).tr h3.1, gokT_TrC h1.2.2 h3.2.2⟩)))
  · have l1 := h1.2.1
    have l2 := h2.1.1
    unfold pTf
    refine sat_ite (fun _ => sat_bnd (sat_nx (sat_bnd ((ok_blk hr _).mono fun w s3 h3 => sat_prt ⟨((h1.1.tr h2.1).tr (adv_nx s2)).tr h3.1, by have := h3.2.1; dsimp only at this; omega, gokT_TrF h2.2 h3.2.2⟩)))) (fun _ => sat_ite (fun _ => sat_prt ⟨h1.1.tr h2.1, by omega, h2.2⟩) (fun _ => sat_flt))
theorem ok_cas (hr : okT r) : ∀ (f : Nat) (d : Bool) (acc : List (Option gEx × gSt)) (s : pS), (∀ q ∈ acc, (∀ g, q.1 = some g → gok g) ∧ gokT q.2) → sat (pCas z K r c f d acc s) fun l s' => adv c.1 s s' ∧ (∀ q ∈ l, (∀ g, q.1 = some g → gok g) ∧ gokT q.2) ∧ isS z 25 s' = true := by
  intro f
  induction f with
  | zero => intros; exact sat_err
  | succ f ih =>
    intro d acc s ha
    unfold pCas
    refine sat_ite (fun h => sat_prt ⟨adv.rf, ha, h⟩) (fun _ => sat_ite (fun _ => sat_flt) (fun _ => sat_bnd (sat.mono (F := fun x s1 => adv c.1 s s1 ∧ ∀ g, x = some g → gok g) ?_ fun x s1 h1 => sat_bnd (sat_ned (sat_bnd ((ok_stms hr K gNo _ gokT_No).mono fun y s2 h2 => ?_))))))
    · refine sat_ite (fun _ => sat_bnd (sat_nx (sat_prt ⟨adv_nx s, fun g e => by cases e⟩))) (fun _ => sat_bnd (sat_nek (sat_bnd ((hr.expr true c _).mono fun v s1 h1 => sat_prt ⟨(adv_nx s).tr h1.1, fun g e => by cases e; exact h1.2.2.1.1⟩))))
    · refine (ih _ (acc ++ [(x, y)]) s2 (fun q hq => ?_)).mono fun l s' h => ⟨((h1.1.tr (adv_nx s1)).tr h2.1).tr h.1, h.2⟩
      rcases List.mem_append.mp hq with w | w
      · exact ha q w
      · rw [List.mem_singleton.mp w]; exact ⟨h1.2, h2.2.1⟩
theorem ok_swi (hr : okT r) (s : pS) : sat (pSwi z K r c s) (rS c s) := by
  unfold pSwi
  refine sat_bnd ((ok_rnd hr s).mono fun v s1 h1 => sat_bnd (sat_ned (sat_bnd ((ok_cas (c := (c.1, c.2.1, c.2.2 + 1)) hr K false [] _ (fun q hq => by cases hq)).mono fun l s2 h2 => sat_bnd (sat_nx (sat_prt ?_))))))
  have l1 := h1.2.1
  have l2 := h2.1.1
  dsimp only at l2
  exact ⟨((h1.1.tr (adv_nx s1)).tr h2.1).tr (adv_nx s2), by dsimp only; omega, gokT_Sw h1.2.2.1.1 (fun q hq => (h2.2.1 q hq).1) (fun q hq => (h2.2.1 q hq).2)⟩
theorem ok_inn (hr : okT r) (w : Int32) (s : pS) : sat (pInn z K w r c s) fun y s' => adv c.1 s s' ∧ gokT y := by
  have dn : ∀ {y : gSt} {s' : pS}, rS c s y s' → adv c.1 s s' ∧ gokT y := fun h => ⟨h.1, h.2.2⟩
  unfold pInn
  refine sat_ite (fun _ => sat_bnd ((ok_vars hr true K 0 false gNo s gokT_No).mono fun q s1 h1 => sat_bnd (ok_sem s1 (sat_prt ⟨h1.1, h1.2.2⟩) (sat_prt ⟨h1.1.tr (adv_nx s1), h1.2.2⟩)))) (fun _ => ?_)
  refine sat_ite (fun _ => sat_bnd ((ok_rnd hr s).mono fun v s1 h1 => sat_bnd ((hr.stmt c s1).mono fun y s2 h2 => sat_ite (fun _ => sat_bnd (sat_nx (sat_bnd ((hr.stmt c _).mono fun w s3 h3 => sat_prt ⟨((h1.1.tr h2.1).tr (adv_nx s2)).tr h3.1, gokT_IfE h1.2.2.1.1 h2.2.2 h3.2.2⟩)))) (fun _ => sat_prt ⟨h1.1.tr h2.1, gokT_If h1.2.2.1.1 h2.2.2⟩)))) (fun _ => ?_)
  refine sat_ite (fun _ => sat_bnd ((ok_rnd hr s).mono fun v s1 h1 => sat_bnd ((ok_lpd hr s1).mono fun y s2 h2 => sat_prt ⟨h1.1.tr h2.1, gokT_Wh h1.2.2.1.1 h2.2.2⟩))) (fun _ => ?_)
  refine sat_ite (fun _ => sat_bnd ((ok_lpd hr s).mono fun y s1 h1 => sat_bnd (sat_nek (sat_bnd ((ok_rnd hr _).mono fun v s2 h2 => ?_))))) (fun _ => ?_)
  · have a2 := (h1.1.tr (adv_nx s1)).tr h2.1
    exact sat_ite (fun _ => sat_bnd (sat_nx (sat_prt ⟨a2.tr (adv_nx s2), gokT_Do h2.2.2.1.1 h1.2.2⟩))) (fun _ => sat_prt ⟨a2, gokT_Do h2.2.2.1.1 h1.2.2⟩)
  refine sat_ite (fun _ => (ok_for hr s).mono fun _ _ h => dn h) (fun _ => ?_)
  refine sat_ite (fun _ => sat_bnd (ok_sem s (sat_prt ⟨adv.rf, gokT_Go true⟩) (sat_prt ⟨adv_nx s, gokT_Go true⟩))) (fun _ => ?_)
  refine sat_ite (fun _ => sat_bnd (ok_sem s (sat_prt ⟨adv.rf, gokT_Go false⟩) (sat_prt ⟨adv_nx s, gokT_Go false⟩))) (fun _ => ?_)
  refine sat_ite (fun _ => sat_bnd (sat.mono (F := fun y s1 => adv c.1 s s1 ∧ gokT y) (sat_ite (fun _ => sat_prt ⟨adv.rf, gokT_Bk (gok_Co 0 0)⟩) (fun _ => sat_bnd ((hr.expr true c s).mono fun v s1 h1 => sat_prt ⟨h1.1, gokT_Bk h1.2.2.1.1⟩))) fun y s1 h1 => sat_bnd (ok_sem s1 (sat_prt h1) (sat_prt ⟨h1.1.tr (adv_nx s1), h1.2⟩)))) (fun _ => ?_)
  refine sat_ite (fun _ => sat_ite (fun _ => sat_flt) (fun _ => sat_bnd ((hr.expr true c s).mono fun v s1 h1 => sat_bnd (ok_sem s1 (sat_prt ⟨h1.1, gokT_To h1.2.2.1.1⟩) (sat_prt ⟨h1.1.tr (adv_nx s1), gokT_To h1.2.2.1.1⟩))))) (fun _ => ?_)
  exact sat_ite (fun _ => (ok_try hr s).mono fun _ _ h => dn h) (fun _ => (ok_swi hr s).mono fun _ _ h => dn h)
theorem ok_stm {ro : Option pT} (hr : okO ro) (s : pS) : sat (pStm z K ro c s) (rS c s) := by
  unfold pStm
  refine sat_ite (fun _ => sat_ite (fun _ => sat_flt) (fun _ => sat_opens fun r' e => sat_bnd (sat_nx ((ok_inn (hr r' e) _ _).mono fun y s' h => ⟨(adv_nx s).tr h.1, by have := h.1.1; dsimp only at this; omega, h.2⟩)))) (fun _ => ?_)
  refine sat_ite (fun _ => sat_opens fun r' e => ok_blk (hr r' e) s) (fun _ => ?_)
  refine sat_ite (fun _ => sat_opens fun r' e => sat_bnd (sat_nx (sat_prt ⟨adv_nx s, Nat.lt_succ_self _, gokT_No⟩))) (fun _ => ?_)
  refine sat_ite (fun _ => sat_opens fun r' e => sat_bnd (((hr r' e).expr true c s).mono fun v s1 h1 => sat_bnd (ok_sem s1 (sat_prt ⟨h1.1, h1.2.1, gokT_Pl h1.2.2.1.1⟩) (sat_prt ⟨h1.1.tr (adv_nx s1), by have := h1.2.1; dsimp only; omega, gokT_Pl h1.2.2.1.1⟩)))) (fun _ => sat_flt)
/-! functions -/
theorem ok_pars (f : Nat) : ∀ (u n : Nat) (s : pS), sat (pPars z f u n s) fun m s' => adv f s s' ∧ s'.2.2.length = s.2.2.length ∧ isS z 27 s' = true := by
  intro u
  induction u with
  | zero => intros; exact sat_err
  | succ u ih =>
    intro n s
    rw [pPars_eq]
    refine sat_ite (fun h => sat_prt ⟨adv.rf, rfl, h⟩) (fun _ => sat_ite (fun _ => sat_flt) (fun _ => sat_ite (fun _ => sat_flt) (fun _ => sat_bnd (sat_tak fun w => ?_))))
    have a1 : adv f s (hld f (nam w s).1 (s.1 + 1, (nam w s).2.2)) := (adv_nm w s).tr (adv_hld _ _)
    have l1 : (hld f (nam w s).1 (s.1 + 1, (nam w s).2.2)).2.2.length = s.2.2.length := (adV_get f (nam w s).1 s.2.2).1
    generalize hld f (nam w s).1 (s.1 + 1, (nam w s).2.2) = s1 at *
    unfold pPb
    refine sat_ite (fun _ => (ih (n + 1) s1).mono fun m s' h => ⟨a1.tr h.1, h.2.1.trans l1, h.2.2⟩) (fun _ => sat_ite (fun _ => sat_flt) (fun _ => sat_bnd (sat_ned (sat_ite (fun _ => (ih (n + 1) _).mono fun m s' h => ⟨(a1.tr (adv_nx s1)).tr h.1, h.2.1.trans l1, h.2.2⟩) (fun _ => sat_flt)))))
theorem ok_pts {st : pC → pS → pR gSt} {fn : pC → pS → pR (Nat × Nat)} (hst : ∀ s, sat (st c s) (rS c s)) (hfn : ∀ s, sat (fn c s) fun _ s' => adv c.1 s s') {stop : pS → Bool} : ∀ (u : Nat) (dc : List (Nat × Nat)) (acc : gSt) (s : pS), gokT acc → sat (pPts z st fn c stop u dc acc s) fun q s' => adv c.1 s s' ∧ gokT q.2 ∧ stop s' = true := by
  intro u
  induction u with
  | zero => intros; exact sat_err
  | succ u ih =>
    intro dc acc s ha
    unfold pPts
    refine sat_ite (fun h => sat_prt ⟨adv.rf, ha, h⟩) (fun _ => sat_ite (fun _ => sat_bnd ((hfn s).mono fun f s1 h1 => (ih _ acc s1 ha).mono fun q s' h => ⟨h1.tr h.1, h.2⟩)) (fun _ => sat_bnd ((hst s).mono fun y s1 h1 => (ih dc _ s1 (gokT_Sq ha h1.2.2)).mono fun q s' h => ⟨h1.1.tr h.1, h.2⟩)))
theorem ok_dcl {ro : Option pT} (hr : okO ro) (s : pS) : sat (pDcl z ro c s) fun f s' => adv c.1 s s' ∧ f.1 = s.2.2.length := by
  unfold pDcl
  exact sat_opens fun r' e => sat_bnd (sat_nx (((hr r' e).func true c _).mono fun f s' h => ⟨(adv_nx s).tr h.1, h.2.2⟩))
theorem setF_av {f : Nat} {g : gF → gF} {s : pS} {N c : Nat} (hf : N ≤ f) (hg : ∀ q, okF q → okF (g q)) : (setF f g s).1 = s.1 ∧ (setF f g s).2.1 = s.2.1 ∧ (setF f g s).2.2.length = s.2.2.length ∧ avF N c s.2.2 (setF f g s).2.2 := by
  have e : (setF f g s).2.2 = match s.2.2[f]? with | some q => s.2.2.set f (g q) | none => s.2.2 := rfl
  cases h : s.2.2[f]? with
  | none => rw [h] at e; rw [e]; exact ⟨rfl, rfl, rfl, avF.rf⟩
  | some q =>
    rw [h] at e
    rw [e]
    have hl : f < s.2.2.length := (List.getElem?_eq_some_iff.mp h).1
    have e0 : ∀ k : Nat, k ≠ f → (s.2.2.set f (g q))[k]? = s.2.2[k]? := fun k e => List.getElem?_set_ne (fun z => e z.symm)
    have e1 : (s.2.2.set f (g q))[f]? = some (g q) := by simp [hl]
    refine ⟨rfl, rfl, by simp, by simp, fun k q' hk hq => ⟨q', by dsimp only; rw [e0 k (by omega)]; exact hq, rfl, List.prefix_refl _, fun _ => rfl⟩, fun y k q' hk hq => ?_⟩
    dsimp only at hq
    by_cases z : k = f
    · rw [z, e1] at hq
      cases hq
      exact hg q (y f q hf h)
    · rw [e0 k z] at hq
      exact y k q' hk hq
/-- names, functions: what goes on within a function that is being made -/
def avS (N c : Nat) (s s' : pS) : Prop := s.1 ≤ s'.1 ∧ (s.2.1 <+: s'.2.1 ∧ s'.2.1.length ≤ s.2.1.length + (s'.1 - s.1)) ∧ s'.2.2.length ≤ s.2.2.length + (s'.1 - s.1) ∧ avF N c s.2.2 s'.2.2
theorem avS.tr {N c : Nat} {s s' s'' : pS} (h : avS N c s s') (h' : avS N c s' s'') : avS N c s s'' := by
  obtain ⟨a1, a2, a3, a4⟩ := h
  obtain ⟨b1, b2, b3, b4⟩ := h'
  exact ⟨by omega, ⟨a2.1.trans b2.1, by omega⟩, by omega, a4.tr b4⟩
theorem adv.avS {N c f : Nat} {s s' : pS} (h : adv f s s') (hN : N ≤ s.2.2.length) (hf : f = c ∨ N ≤ f) : avS N c s s' := ⟨h.1, h.2.1, h.2.2.1, h.2.2.2.dn hN hf⟩
theorem avS_set {f : Nat} {g : gF → gF} {s : pS} {N c : Nat} (hf : N ≤ f) (hg : ∀ q, okF q → okF (g q)) : avS N c s (setF f g s) := by
  obtain ⟨h1, h2, h3, h4⟩ := setF_av (c := c) (s := s) hf hg
  exact ⟨Nat.le_of_eq h1.symm, by rw [h2]; exact ⟨List.prefix_refl _, Nat.le_add_right _ _⟩, by omega, h4⟩
theorem ok_fun {ro : Option pT} (hr : okO ro) (d : Bool) (s : pS) : sat (pFun z K ro d c s) (rF c s) := by
  rw [pFun_eq]
  have h0 : avF s.2.2.length c.1 s.2.2 (s.2.2 ++ [([], 0, none, c.1, [], gNo)]) := by
    refine ⟨by simp, fun k q hk hq => ⟨q, by rw [List.getElem?_append_left hk]; exact hq, rfl, List.prefix_refl _, fun _ => rfl⟩, fun y k q hk hq => ?_⟩
    rw [List.getElem?_append_right hk] at hq
    have : k - s.2.2.length = 0 := by
      have := (List.getElem?_eq_some_iff.mp hq).1
      simpa using this
    rw [this] at hq
    cases hq
    exact gokT_No
  have hl0 : (s.2.2 ++ [([], 0, none, c.1, [], gNo)]).length = s.2.2.length + 1 := by simp
  generalize hN : s.2.2.length = N at *
  obtain ⟨s0, es0⟩ : ∃ s0 : pS, s0 = (s.1, s.2.1, s.2.2 ++ [([], 0, none, c.1, [], gNo)]) := ⟨_, rfl⟩
  rw [← es0]
  have f0 : s0.1 = s.1 ∧ s0.2.1 = s.2.1 ∧ s0.2.2.length = N + 1 ∧ avF N c.1 s.2.2 s0.2.2 := by rw [es0]; exact ⟨rfl, rfl, hl0, h0⟩
  clear es0 h0 hl0
  unfold pFb
  refine sat_bnd (sat.mono (F := fun x s1 => avS N c.1 s0 s1 ∧ s1.2.2.length = N + 1) ?_ fun x s1 h1 => ?_)
  · refine sat_ite (fun _ => sat_bnd (sat_nen fun w => sat_prt ?_)) (fun _ => sat_ite (fun _ => sat_bnd (sat_tak fun w => sat_prt ⟨((adv_nm (c := c.1) w s0).avS (by omega) (.inl rfl)).tr (avS_set (Nat.le_refl _) fun q hq => hq), ?_⟩)) (fun _ => sat_prt ⟨(adv.rf (c := c.1)).avS (by omega) (.inl rfl), f0.2.2.1⟩))
    · by_cases hc : c.1 = 0
      · rw [if_pos hc]; exact ⟨(adv_nm (c := c.1) w s0).avS (by omega) (.inl rfl), f0.2.2.1⟩
      · rw [if_neg hc]; exact ⟨((adv_nm (c := c.1) w s0).tr (adv_hld _ _)).avS (by omega) (.inl rfl), (adV_get _ _ _).1.trans f0.2.2.1⟩
    · exact ((setF_av (c := c.1) (N := N) (g := fun q => (q.1, q.2.1, some (nam w s0).1, q.2.2.2)) (s := (s0.1 + 1, (nam w s0).2.2)) (Nat.le_refl _) fun q hq => hq).2.2.1).trans f0.2.2.1
  unfold pFi
  refine sat_bnd (sat_ned (sat_bnd ((ok_pars N K 0 _).mono fun n s2 h2 => sat_bnd (sat_nx ?_))))
  have q2 : s2.2.2.length = N + 1 := h2.2.1.trans h1.2
  have a2 : avS N c.1 s0 (s2.1 + 1, s2.2) := ((h1.1.tr ((adv_nx (c := N) s1).avS (by omega) (.inr (Nat.le_refl _)))).tr (h2.1.avS (by show N ≤ s1.2.2.length; omega) (.inr (Nat.le_refl _)))).tr ((adv_nx (c := N) s2).avS (by omega) (.inr (Nat.le_refl _)))
  have g2 : ∀ q : gF, okF q → okF (ownF n q) := fun q hq => hq
  have k3 := setF_av (f := N) (s := (s2.1 + 1, s2.2)) (N := N) (c := c.1) (Nat.le_refl _) g2
  have a3 : avS N c.1 s0 (setF N (ownF n) (s2.1 + 1, s2.2)) := a2.tr (avS_set (Nat.le_refl _) g2)
  have q3 := k3.2.2.1.trans q2
  have p3 := k3.1
  generalize setF N (ownF n) (s2.1 + 1, s2.2) = s3 at *
  unfold pFe
  refine sat_bnd (sat_ned (sat_bnd ((ok_pts (c := (N, 0, 0)) (fun s => ok_stm hr s) (fun s => (ok_dcl hr s).mono fun _ _ h => h.1) K [] gNo _ gokT_No).mono fun q s4 h4 => sat_bnd (sat_nx (sat_prt ?_)))))
  have a4 : avS N c.1 s0 (s4.1 + 1, s4.2) := ((a3.tr ((adv_nx (c := N) s3).avS (by omega) (.inr (Nat.le_refl _)))).tr (h4.1.avS (by show N ≤ s3.2.2.length; omega) (.inr (Nat.le_refl _)))).tr ((adv_nx (c := N) s4).avS (by have := h4.1.2.2.2.1; dsimp only at this; omega) (.inr (Nat.le_refl _)))
  have a5 := a4.tr (avS_set (f := N) (g := endF q) (N := N) (c := c.1) (Nat.le_refl _) fun _ _ => h4.2.1)
  have k5 := setF_av (f := N) (g := endF q) (s := (s4.1 + 1, s4.2)) (N := N) (c := c.1) (Nat.le_refl _) fun _ _ => h4.2.1
  have l4 := h4.1.1
  have l4' := h4.1.2.2.1
  have l2 := h2.1.1
  dsimp only at l4 l4' l2
  have b1 := h1.1.1
  refine ⟨⟨?_, ?_, ?_, ?_⟩, ?_, hN.symm⟩
  · have := a5.1; omega
  · have := a5.2.1; rw [f0.2.1, f0.1] at this; exact this
  · rw [k5.2.2.1, k5.1]
    show s4.2.2.length ≤ _ + (s4.1 + 1 - s.1)
    dsimp only at p3
    omega
  · rw [hN]; exact f0.2.2.2.tr a5.2.2.2
  · rw [k5.1]; show s.1 < s4.1 + 1; dsimp only at p3; omega
theorem ok_mk {ro : Option pT} (hr : okO ro) : okT (pMk z K ro) := ⟨fun c s => ok_prim hr s, fun n e c s he => ok_mem hr he s, fun c s => ok_args hr s, fun c s => ok_made hr s, fun c s => ok_unit hr s, fun i c s => ok_asg hr i s, fun i c s => ok_expr hr i s, fun c s => ok_stm hr s, fun d c s => ok_fun hr d s, fun i c s => ok_wth hr i s⟩
theorem ok_lv (z : pZ) (K : Nat) : ∀ k, okT (pLv z K k)
  | 0 => ok_mk (fun _ e => by cases e)
  | k + 1 => ok_mk (fun r e => by cases e; exact ok_lv z K k)
end
