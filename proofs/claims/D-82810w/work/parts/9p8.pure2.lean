/-! P's RESULTS: of every function of P -/
def rV (n : Nat) (c : pC) (s : pS) (v : gV) (s' : pS) : Prop := adv c.1 s s' ∧ s.1 < s'.1 ∧ okV (n + 12 * (s'.1 - s.1)) v
def rL (n : Nat) (c : pC) (s : pS) (l : List gEx) (s' : pS) : Prop := adv c.1 s s' ∧ s.1 + 2 ≤ s'.1 ∧ gEs (12 * (s'.1 - s.1 - n)) l
def rS (c : pC) (s : pS) (y : gSt) (s' : pS) : Prop := adv c.1 s s' ∧ s.1 < s'.1 ∧ gokT y
def rF (c : pC) (s : pS) (f : Nat × Nat) (s' : pS) : Prop := adv c.1 s s' ∧ s.1 < s'.1 ∧ f.1 = s.2.2.length
def okT (r : pT) : Prop := (∀ c s, sat (r.prim c s) (rV 0 c s)) ∧ (∀ n e c s, okV n e → sat (r.mem e c s) (rV n c s)) ∧ (∀ c s, sat (r.args c s) (rL 2 c s)) ∧ (∀ c s, sat (r.made c s) (rV 0 c s)) ∧ (∀ c s, sat (r.unit c s) (rV 0 c s)) ∧ (∀ i c s, sat (r.asg i c s) (rV 0 c s)) ∧ (∀ i c s, sat (r.expr i c s) (rV 0 c s)) ∧ (∀ c s, sat (r.stmt c s) (rS c s)) ∧ (∀ d c s, sat (r.func d c s) (rF c s)) ∧ ∀ i c s, sat (r.wth i c s) (rV 0 c s)
theorem okT.prim {r : pT} (h : okT r) : ∀ c s, sat (r.prim c s) (rV 0 c s) := h.1
theorem okT.mem {r : pT} (h : okT r) : ∀ n e c s, okV n e → sat (r.mem e c s) (rV n c s) := h.2.1
theorem okT.args {r : pT} (h : okT r) : ∀ c s, sat (r.args c s) (rL 2 c s) := h.2.2.1
theorem okT.made {r : pT} (h : okT r) : ∀ c s, sat (r.made c s) (rV 0 c s) := h.2.2.2.1
theorem okT.unit {r : pT} (h : okT r) : ∀ c s, sat (r.unit c s) (rV 0 c s) := h.2.2.2.2.1
theorem okT.asg {r : pT} (h : okT r) : ∀ i c s, sat (r.asg i c s) (rV 0 c s) := h.2.2.2.2.2.1
theorem okT.expr {r : pT} (h : okT r) : ∀ i c s, sat (r.expr i c s) (rV 0 c s) := h.2.2.2.2.2.2.1
theorem okT.stmt {r : pT} (h : okT r) : ∀ c s, sat (r.stmt c s) (rS c s) := h.2.2.2.2.2.2.2.1
theorem okT.func {r : pT} (h : okT r) : ∀ d c s, sat (r.func d c s) (rF c s) := h.2.2.2.2.2.2.2.2.1
theorem okT.wth {r : pT} (h : okT r) : ∀ i c s, sat (r.wth i c s) (rV 0 c s) := h.2.2.2.2.2.2.2.2.2
def okO (r : Option pT) : Prop := ∀ r', r = some r' → okT r'
section
variable {z : pZ} {K : Nat} {r : pT} {c : pC}
theorem ok_arr (hr : okT r) {t0 : Nat} : ∀ (f n : Nat) (acc : List gEx) (s : pS), gEs n acc → t0 < s.1 → n + 8 * acc.length + (if acc = [] then 12 else 4) ≤ 12 * (s.1 - t0) → sat (pArr z r c f acc s) fun l s' => adv c.1 s s' ∧ s.1 < s'.1 ∧ ∃ m, gEs m l ∧ m + 4 * l.length + 1 ≤ 12 * (s'.1 - t0) := by
  intro f
  induction f with
  | zero => intros; exact sat_err
  | succ f ih =>
    intro n acc s hn ht hb
    unfold pArr
    refine sat_ite (fun _ => sat_bnd (sat_nx (sat_prt ⟨adv_nx s, Nat.lt_succ_self _, n, hn, ?_⟩))) (fun _ => ?_)
    · dsimp only
      split at hb <;> omega
    refine sat_bnd (F := _) (sat.mono (F := fun _ s1 => adv c.1 s s1 ∧ (acc = [] ∧ s1 = s ∨ acc ≠ [] ∧ s1.1 = s.1 + 1)) ?_ (fun _ s1 h1 => ?_))
    · refine sat_ite (fun h => sat_prt ⟨adv.rf, .inl ⟨h, rfl⟩⟩) (fun h => sat_ite (fun _ => sat_flt) (fun _ => sat_nx ⟨adv_nx s, .inr ⟨h, rfl⟩⟩))
    · refine sat_bnd ((hr.asg true c s1).mono fun v s2 h2 => ?_)
      obtain ⟨a2, l2, v2⟩ := h2
      have ap := hn.app v2.1
      refine (ih _ _ s2 ap (by have := h1.1.1; omega) ?_).mono fun l s3 h3 => ⟨(h1.1.tr a2).tr h3.1, by have := h1.1.1; omega, h3.2.2⟩
      rw [List.length_append, if_neg (by simp)]
      show n + (0 + 12 * (s2.1 - s1.1)) + 8 * (acc.length + 1) + 4 ≤ _
      rcases h1.2 with ⟨e1, e2⟩ | ⟨e1, e2⟩
      · rw [if_pos e1] at hb; rw [e2]; rw [e2] at l2; omega
      · rw [if_neg e1] at hb; omega
theorem ok_key {s : pS} : sat (pKey z s) fun _ s' => adv c.1 s s' ∧ s'.1 = s.1 + 1 := by
  unfold pKey
  refine sat_ite (fun _ => sat_tak fun w => ⟨adv_nm w s, rfl⟩) (fun _ => sat_ite (fun _ => sat_bnd (sat_nx (sat_prt ⟨adv_nm _ s, rfl⟩))) (fun _ => sat_flt))
theorem ok_obj (hr : okT r) {t0 : Nat} : ∀ (f n : Nat) (acc : List (Nat × gEx)) (s : pS), gEs n (acc.map (·.2)) → t0 < s.1 → n + 8 * acc.length + (if acc = [] then 12 else 4) ≤ 12 * (s.1 - t0) → sat (pObj z r c f acc s) fun l s' => adv c.1 s s' ∧ s.1 < s'.1 ∧ ∃ m, gEs m (l.map (·.2)) ∧ m + 4 * l.length + 1 ≤ 12 * (s'.1 - t0) := by
  intro f
  induction f with
  | zero => intros; exact sat_err
  | succ f ih =>
    intro n acc s hn ht hb
    unfold pObj
    refine sat_ite (fun _ => sat_bnd (sat_nx (sat_prt ⟨adv_nx s, Nat.lt_succ_self _, n, hn, ?_⟩))) (fun _ => ?_)
    · dsimp only
      split at hb <;> omega
    refine sat_bnd (F := _) (sat.mono (F := fun _ s1 => adv c.1 s s1 ∧ (acc = [] ∧ s1 = s ∨ acc ≠ [] ∧ s1.1 = s.1 + 1)) ?_ (fun _ s1 h1 => ?_))
    · refine sat_ite (fun h => sat_prt ⟨adv.rf, .inl ⟨h, rfl⟩⟩) (fun h => sat_ite (fun _ => sat_flt) (fun _ => sat_nx ⟨adv_nx s, .inr ⟨h, rfl⟩⟩))
    · refine sat_bnd ((ok_key (c := c)).mono fun x sk hk => sat_bnd (sat_ned (sat_bnd ((hr.asg true c _).mono fun v s2 h2 => ?_))))
      obtain ⟨a2, l2, v2⟩ := h2
      have ap := hn.app v2.1
      have a12 : adv c.1 s s2 := ((h1.1.tr hk.1).tr (adv_nx sk)).tr a2
      have l2 : sk.1 + 1 < s2.1 := l2
      have k1 := hk.2
      refine (ih (n + (0 + 12 * (s2.1 - (sk.1 + 1)))) (acc ++ [(x, v.1)]) s2 (by rw [List.map_append]; exact ap) (by have := h1.1.1; omega) ?_).mono fun l s3 h3 => ⟨a12.tr h3.1, by have := h1.1.1; omega, h3.2.2⟩
      rw [List.length_append, if_neg (by simp)]
      show n + (0 + 12 * (s2.1 - (sk.1 + 1))) + 8 * (acc.length + 1) + 4 ≤ _
      rcases h1.2 with ⟨e1, e2⟩ | ⟨e1, e2⟩
      · rw [if_pos e1] at hb; rw [e2] at k1; omega
      · rw [if_neg e1] at hb; omega
theorem numb_map : ∀ (l : List gEx) (k : Nat), (numb k l).map (·.2.2) = l ∧ (numb k l).length = l.length
  | [], _ => ⟨rfl, rfl⟩
  | x :: r, k => by
    have := numb_map r (k + 1)
    exact ⟨by show x :: (numb (k + 1) r).map (·.2.2) = _; rw [this.1], by show (numb (k + 1) r).length + 1 = r.length + 1; rw [this.2]⟩
theorem ok_prim {ro : Option pT} (hr : okO ro) (s : pS) : sat (pPrim z K ro c s) (rV 0 c s) := by
  have one : ∀ g : gEx, gE 1 g → sat (bnd (nxt' z s) fun _ s => prt (vOf g) s) (rV 0 c s) := fun g hg => sat_bnd (sat_nx (sat_prt ⟨adv_nx s, Nat.lt_succ_self _, (okV_of hg).mono (by dsimp only; omega)⟩))
  unfold pPrim
  refine sat_ite (fun _ => sat_bnd (sat_tak fun w => sat_prt ⟨adv_nm w s, Nat.lt_succ_self _, (okV_nm _).mono (by dsimp only; omega)⟩)) (fun _ => ?_)
  refine sat_ite (fun _ => one _ (gE_Co ..)) (fun _ => ?_)
  refine sat_ite (fun _ => sat_bnd (sat_tak fun w => sat_prt ⟨adv_nm w s, Nat.lt_succ_self _, (okV_of (gE_Co ..)).mono (by dsimp only; omega)⟩)) (fun _ => ?_)
  refine sat_ite (fun _ => one _ gE_Th) (fun _ => ?_)
  refine sat_ite (fun _ => one _ (gE_Co ..)) (fun _ => ?_)
  refine sat_ite (fun _ => one _ (gE_Co ..)) (fun _ => ?_)
  refine sat_ite (fun _ => one _ (gE_Co ..)) (fun _ => ?_)
  refine sat_ite (fun _ => one _ (gE_Co ..)) (fun _ => ?_)
  refine sat_ite (fun _ => one _ (gE_Co ..)) (fun _ => ?_)
  refine sat_ite (fun _ => sat_opens fun r' e => sat_bnd (sat_nx (sat_bnd (((hr r' e).func false c _).mono fun f s' h => sat_prt ⟨(adv_nx s).tr h.1, by have := h.2.1; dsimp only at this; omega, (okV_of (gE_Md _)).mono (by have := h.2.1; dsimp only at this; omega)⟩)))) (fun _ => ?_)
  refine sat_ite (fun _ => sat_opens fun r' e => sat_bnd (sat_nx (sat_bnd (((hr r' e).expr true c _).mono fun v s' h => sat_bnd (sat_ned (sat_prt ⟨((adv_nx s).tr h.1).tr (adv_nx s'), by have := h.2.1; dsimp only at this ⊢; omega, (okV_of h.2.2.1).mono (by have := h.2.1; dsimp only at this ⊢; omega)⟩)))))) (fun _ => ?_)
  refine sat_ite (fun _ => sat_opens fun r' e => sat_bnd (sat_nx (sat_bnd ((ok_arr (hr r' e) (t0 := s.1) K 0 [] _ trivial (Nat.lt_succ_self _) (by dsimp only; rw [if_pos rfl]; show 0 + 8 * 0 + 12 ≤ _; omega)).mono fun l s' h => ?_)))) (fun _ => ?_)
  · obtain ⟨h1, h2, m, h3, h4⟩ := h
    dsimp only at h2
    refine sat_prt ⟨(adv_nx s).tr h1, by omega, (okV_of (gE_Itm (n := m) (by rw [(numb_map l 0).1]; exact h3))).mono (by rw [(numb_map l 0).2]; omega)⟩
  refine sat_ite (fun _ => sat_opens fun r' e => sat_bnd (sat_nx (sat_bnd ((ok_obj (hr r' e) (t0 := s.1) K 0 [] _ trivial (Nat.lt_succ_self _) (by dsimp only; rw [if_pos rfl]; show 0 + 8 * 0 + 12 ≤ _; omega)).mono fun l s' h => ?_)))) (fun _ => sat_flt)
  obtain ⟨h1, h2, m, h3, h4⟩ := h
  dsimp only at h2
  refine sat_prt ⟨(adv_nx s).tr h1, by omega, (okV_of (gE_Itm (n := m) (by rw [List.map_map]; exact h3))).mono (by rw [List.length_map]; omega)⟩
theorem ok_mem {ro : Option pT} (hr : okO ro) {n : Nat} {e : gV} (he : okV n e) (s : pS) : sat (pMem z ro e c s) (rV n c s) := by
  unfold pMem
  refine sat_ite (fun _ => sat_bnd (sat_nx (sat_ite (fun _ => sat_bnd (sat_tak fun w => sat_prt ⟨(adv_nx s).tr (adv_nm w _), by dsimp only; omega, (okV_mm he.1 (gE_Co ..)).mono (by dsimp only; omega)⟩)) (fun _ => sat_flt)))) (fun _ => ?_)
  refine sat_opens fun r' e' => sat_bnd (sat_nx (sat_bnd (((hr r' e').expr true c _).mono fun v s' h => sat_bnd (sat_ned (sat_prt ⟨((adv_nx s).tr h.1).tr (adv_nx s'), by have := h.2.1; dsimp only at this ⊢; omega, (okV_mm he.1 h.2.2.1).mono (by have := h.2.1; dsimp only at this ⊢; omega)⟩)))))
theorem ok_arg1 (hr : okT r) : ∀ (f n : Nat) (acc : List gEx) (s : pS), gEs n acc → sat (pArg1 z r c f acc s) fun l s' => adv c.1 s s' ∧ gEs (n + 12 * (s'.1 - s.1)) l := by
  intro f
  induction f with
  | zero => intros; exact sat_err
  | succ f ih =>
    intro n acc s hn
    unfold pArg1
    refine sat_ite (fun _ => sat_ite (fun _ => sat_flt) (fun _ => sat_bnd (sat_nx (sat_bnd ((hr.asg true c _).mono fun v s2 h2 => ?_))))) (fun _ => sat_prt ⟨adv.rf, hn.mono (by omega)⟩)
    obtain ⟨a2, l2, v2⟩ := h2
    dsimp only at l2
    refine (ih _ _ s2 (hn.app v2.1)).mono fun l s3 h3 => ⟨((adv_nx s).tr a2).tr h3.1, h3.2.mono (by have := h3.1.1; dsimp only; omega)⟩
theorem ok_args {ro : Option pT} (hr : okO ro) (s : pS) : sat (pArgs z K ro c s) (rL 2 c s) := by
  unfold pArgs
  refine sat_opens fun r' e => sat_bnd (sat_nx (sat_bnd (sat.mono (F := fun l s' => adv c.1 (s.1 + 1, s.2) s' ∧ gEs (12 * (s'.1 - (s.1 + 1))) l) ?_ fun l s' h => sat_bnd (sat_ned (sat_prt ⟨((adv_nx s).tr h.1).tr (adv_nx s'), by have := h.1.1; dsimp only at this ⊢; omega, h.2.mono (by dsimp only; omega)⟩)))))
  refine sat_ite (fun _ => sat_prt ⟨adv.rf, trivial⟩) (fun _ => sat_bnd (((hr r' e).asg true c _).mono fun v s1 h1 => ?_))
  obtain ⟨a1, l1, v1⟩ := h1
  dsimp only at l1 v1
  have hv : gEs (0 + 12 * (s1.1 - (s.1 + 1))) [v.1] := ⟨_, 0, by omega, v1.1, trivial⟩
  refine (ok_arg1 (hr r' e) K _ _ s1 hv).mono fun l s' h => ⟨a1.tr h.1, h.2.mono (by have := h.1.1; omega)⟩
theorem ok_mems (hr : okT r) : ∀ (f n : Nat) (e : gV) (s : pS), okV n e → sat (pMems z r c f e s) fun v s' => adv c.1 s s' ∧ okV (n + 12 * (s'.1 - s.1)) v := by
  intro f
  induction f with
  | zero => intros; exact sat_err
  | succ f ih =>
    intro n e s he
    unfold pMems
    refine sat_ite (fun _ => sat_bnd ((hr.mem n e c s he).mono fun v s1 h1 => (ih _ v s1 h1.2.2).mono fun v' s' h => ⟨h1.1.tr h.1, h.2.mono (by have := h.1.1; have := h1.2.1; omega)⟩)) (fun _ => sat_prt ⟨adv.rf, he.mono (by omega)⟩)
theorem ok_made {ro : Option pT} (hr : okO ro) (s : pS) : sat (pMade z K ro c s) (rV 0 c s) := by
  unfold pMade
  refine sat_opens fun r' e => sat_bnd (sat_nx (sat_bnd (sat.mono (F := rV 0 c (s.1 + 1, s.2)) (sat_ite (fun _ => (hr r' e).made c _) (fun _ => (hr r' e).prim c _)) fun v s1 h1 => sat_bnd ((ok_mems (hr r' e) K _ v s1 h1.2.2).mono fun v2 s2 h2 => sat_bnd (sat.mono (F := fun l s' => adv c.1 s2 s' ∧ gEs (12 * (s'.1 - s2.1)) l) (sat_ite (fun _ => ((hr r' e).args c s2).mono fun l s' h => ⟨h.1, h.2.2.mono (by omega)⟩) (fun _ => sat_prt ⟨adv.rf, trivial⟩)) fun l s3 h3 => sat_prt ?_)))))
  have l1 := h1.2.1
  have l2 := h2.1.1
  have l3 := h3.1.1
  dsimp only at l1
  refine ⟨(((adv_nx s).tr h1.1).tr h2.1).tr h3.1, by omega, (okV_of (gE_New h2.2.1 h3.2)).mono (by dsimp only; omega)⟩
theorem ok_cl {n m : Nat} {e : gV} {l : List gEx} (he : okV n e) (hl : gEs m l) : okV (n + m + 2) (vCl e l) := by
  unfold vCl
  refine okV_of ?_
  by_cases h : e.2.1 = 2
  · rw [if_pos h]
    obtain ⟨a, b, h1, h2, h3⟩ := he.mem (by omega) (by omega)
    exact (gE_CallM h1 h2 hl).mono (by omega)
  · rw [if_neg h]
    exact gE_Call he.1 hl
theorem ok_sufs {ro : Option pT} (hr : okO ro) : ∀ (f n : Nat) (e : gV) (s : pS), okV n e → sat (pSufs z K ro c f e s) fun v s' => adv c.1 s s' ∧ okV (n + 12 * (s'.1 - s.1)) v := by
  intro f
  induction f with
  | zero => intros; exact sat_err
  | succ f ih =>
    intro n e s he
    unfold pSufs
    refine sat_ite (fun _ => sat_bnd ((ok_args hr s).mono fun l s1 h1 => ?_)) (fun _ => sat_ite (fun _ => sat_bnd ((ok_mem hr he s).mono fun v s1 h1 => (ih _ v s1 h1.2.2).mono fun v' s' h => ⟨h1.1.tr h.1, h.2.mono (by have := h.1.1; have := h1.2.1; omega)⟩)) (fun _ => sat_prt ⟨adv.rf, he.mono (by omega)⟩))
    have l1 := h1.2.1
    refine (ih _ _ s1 (ok_cl he h1.2.2)).mono fun v' s' h => ⟨h1.1.tr h.1, h.2.mono (by have := h.1.1; omega)⟩
theorem ok_left {ro : Option pT} (hr : okO ro) (s : pS) : sat (pLeft z K ro c s) (rV 0 c s) := by
  unfold pLeft
  refine sat_bnd (sat.mono (F := rV 0 c s) (sat_ite (fun _ => ok_made hr s) (fun _ => ok_prim hr s)) fun v s1 h1 => (ok_sufs hr K _ v s1 h1.2.2).mono fun v' s' h => ⟨h1.1.tr h.1, by have := h.1.1; have := h1.2.1; omega, h.2.mono (by have := h.1.1; have := h1.2.1; omega)⟩)
theorem ok_post {ro : Option pT} (hr : okO ro) (s : pS) : sat (pPost z K ro c s) (rV 0 c s) := by
  unfold pPost
  refine sat_bnd ((ok_left hr s).mono fun v s1 h1 => sat_ite (fun _ => sat_ite (fun _ => sat_flt) (fun h0 => sat_bnd (sat_nx (sat_prt ⟨h1.1.tr (adv_nx s1), by have := h1.2.1; dsimp only; omega, ?_⟩)))) (fun _ => sat_prt h1))
  have l1 := h1.2.1
  have : 0 + 12 * (s1.1 + 1 - s.1) = 12 * (s1.1 - s.1) + 12 := by omega
  refine okV.mono (n := 12 * (s1.1 - s.1) + 12) (okV_of ?_) (Nat.le_of_eq this.symm)
  by_cases h : v.2.1 = 1
  · rw [if_pos h]; exact (gE_BhN _ _).mono (by omega)
  · rw [if_neg h]
    obtain ⟨a, b, k1, k2, k3⟩ := h1.2.2.mem h0 h
    exact (gE_BhM k1 k2).mono (by omega)
theorem ok_ahd {n : Nat} {s : pS} {e : gV} (he : okV n e) (s' : pS) : sat (pAhd z s e s') fun v s2 => s2 = s' ∧ okV (n + 12) v := by
  unfold pAhd
  refine sat_ite (fun _ => sat_ite (fun _ => sat_flt) (fun h0 => sat_prt ⟨rfl, okV_of ?_⟩)) (fun _ => ?_)
  · by_cases h : e.2.1 = 1
    · rw [if_pos h]; exact (gE_BfN _ _).mono (by omega)
    · rw [if_neg h]
      obtain ⟨a, b, k1, k2, k3⟩ := he.mem h0 h
      exact (gE_BfM k1 k2).mono (by omega)
  refine sat_ite (fun _ => sat_ite (fun h2 => sat_prt ⟨rfl, okV_of ?_⟩) (fun _ => sat_flt)) (fun _ => ?_)
  · obtain ⟨a, b, k1, k2, k3⟩ := he.mem (by omega) (by omega)
    exact (gE_Del k1 k2).mono (by omega)
  refine sat_ite (fun _ => sat_prt ⟨rfl, okV_of ((gE_Void he.1).mono (by omega))⟩) (fun _ => ?_)
  refine sat_ite (fun _ => sat_prt ⟨rfl, okV_of ?_⟩) (fun _ => sat_prt ⟨rfl, okV_of ((gE_Un he.1).mono (by omega))⟩)
  by_cases h : e.2.1 = 1
  · rw [if_pos h]; exact (gE_Typ _).mono (by omega)
  · rw [if_neg h]; exact (gE_Un he.1).mono (by omega)
theorem ok_unit {ro : Option pT} (hr : okO ro) (s : pS) : sat (pUnit z K ro c s) (rV 0 c s) := by
  unfold pUnit
  refine sat_ite (fun _ => sat_opens fun r' e => sat_bnd (sat_nx (sat_bnd (((hr r' e).unit c _).mono fun v s1 h1 => (ok_ahd h1.2.2 s1).mono fun v' s2 h2 => ?_)))) (fun _ => ok_post hr s)
  have l1 := h1.2.1
  dsimp only at l1
  rw [h2.1]
  exact ⟨(adv_nx s).tr h1.1, by omega, h2.2.mono (by dsimp only; omega)⟩
theorem ok_blp {i : Bool} {l : Nat} {un : pS → pR gV} (hu : ∀ s, sat (un s) (rV 0 c s)) : ∀ (f n : Nat) (e : gV) (s : pS), okV n e → sat (pBlp z i l un f e s) fun v s' => adv c.1 s s' ∧ okV (n + 12 * (s'.1 - s.1)) v := by
  intro f
  induction f with
  | zero => intros; exact sat_err
  | succ f ih =>
    intro n e s he
    unfold pBlp
    cases hs : pStr z i s with
    | none => exact sat_prt ⟨adv.rf, he.mono (by omega)⟩
    | some p =>
      obtain ⟨l', h⟩ := p
      refine sat_ite (fun _ => sat_bnd (sat_nx (sat_bnd ((hu _).mono fun v s1 h1 => ?_)))) (fun _ => sat_prt ⟨adv.rf, he.mono (by omega)⟩)
      have l1 := h1.2.1
      dsimp only at l1
      have hg : gE (n + (0 + 12 * (s1.1 - (s.1 + 1))) + 1) (gOp l h e.1 v.1) := by
        unfold gOp
        split
        · exact gE_And he.1 h1.2.2.1
        · split
          · exact gE_And he.1 h1.2.2.1
          · exact gE_Bin he.1 h1.2.2.1
      refine (ih _ _ s1 (okV_of hg)).mono fun v' s' h => ⟨((adv_nx s).tr h1.1).tr h.1, h.2.mono (by have := h.1.1; omega)⟩
theorem ok_bin {ro : Option pT} (hr : okO ro) (i : Bool) : ∀ (n : Nat) (s : pS), sat (pBin z K ro i c n s) (rV 0 c s)
  | 0, s => ok_unit hr s
  | n + 1, s => by
    unfold pBin
    exact sat_bnd ((ok_bin hr i n s).mono fun v s1 h1 => (ok_blp (ok_bin hr i n) K _ v s1 h1.2.2).mono fun v' s' h => ⟨h1.1.tr h.1, by have := h.1.1; have := h1.2.1; omega, h.2.mono (by have := h.1.1; have := h1.2.1; omega)⟩)
theorem ok_wth {ro : Option pT} (hr : okO ro) (i : Bool) (s : pS) : sat (pWth z ro i c s) (rV 0 c s) := by
  unfold pWth
  exact sat_ite (fun _ => sat_opens fun r' e => (hr r' e).asg i c s) (fun _ => sat_flt)
theorem ok_asg {ro : Option pT} (hr : okO ro) (i : Bool) (s : pS) : sat (pAsg z K ro i c s) (rV 0 c s) := by
  unfold pAsg
  refine sat_bnd ((ok_bin hr i 10 s).mono fun v s1 h1 => ?_)
  have l1 := h1.2.1
  refine sat_ite (fun _ => sat_bnd (sat_nx (sat_bnd ((ok_wth hr i _).mono fun va s2 h2 => sat_bnd (sat_ned (sat_bnd ((ok_wth hr i _).mono fun vb s3 h3 => sat_prt ?_))))))) (fun _ => ?_)
  · have l2 := h2.2.1
    have l3 := h3.2.1
    dsimp only at l2 l3
    exact ⟨(((h1.1.tr (adv_nx s1)).tr h2.1).tr (adv_nx s2)).tr h3.1, by omega, (okV_of (gE_Choice h1.2.2.1 h2.2.2.1 h3.2.2.1)).mono (by dsimp only; omega)⟩
  · cases hp : pSet z s1 with
    | none => exact sat_prt h1
    | some h =>
      refine sat_ite (fun _ => sat_flt) (fun h0 => sat_bnd (sat_nx (sat_bnd ((ok_wth hr i _).mono fun va s2 h2 => sat_prt ?_))))
      have l2 := h2.2.1
      dsimp only at l2
      refine ⟨(h1.1.tr (adv_nx s1)).tr h2.1, by omega, ?_⟩
      refine okV.mono (n := 12 * (s1.1 - s.1) + 12 * (s2.1 - (s1.1 + 1)) + 12) (okV_of ?_) (by omega)
      by_cases h' : v.2.1 = 1
      · rw [if_pos h']; exact (gE_GvN h2.2.2.1).mono (by dsimp only; omega)
      · rw [if_neg h']
        obtain ⟨a, b, k1, k2, k3⟩ := h1.2.2.mem h0 h'
        exact (gE_GvM k1 k2 h2.2.2.1).mono (by dsimp only; omega)
theorem ok_coms {ro : Option pT} (hr : okO ro) (i : Bool) : ∀ (f n : Nat) (e : gV) (s : pS), okV n e → sat (pComs z K ro i c f e s) fun v s' => adv c.1 s s' ∧ okV (n + 12 * (s'.1 - s.1)) v := by
  intro f
  induction f with
  | zero => intros; exact sat_err
  | succ f ih =>
    intro n e s he
    unfold pComs
    refine sat_ite (fun _ => sat_bnd (sat_nx (sat_bnd ((ok_asg hr i _).mono fun v s1 h1 => ?_)))) (fun _ => sat_prt ⟨adv.rf, he.mono (by omega)⟩)
    have l1 := h1.2.1
    dsimp only at l1
    exact (ih _ _ s1 (okV_of (gE_Com he.1 h1.2.2.1))).mono fun v' s' h => ⟨((adv_nx s).tr h1.1).tr h.1, h.2.mono (by have := h.1.1; dsimp only; omega)⟩
theorem ok_expr {ro : Option pT} (hr : okO ro) (i : Bool) (s : pS) : sat (pExpr z K ro i c s) (rV 0 c s) := by
  unfold pExpr
  exact sat_bnd ((ok_asg hr i s).mono fun v s1 h1 => (ok_coms hr i K _ v s1 h1.2.2).mono fun v' s' h => ⟨h1.1.tr h.1, by have := h.1.1; have := h1.2.1; omega, h.2.mono (by have := h.1.1; have := h1.2.1; omega)⟩)
end
