/-! FUNCTIONS ARE NOT DEEP: an invariant of P's state -/
/-- what every step of P keeps, in the function c -/
def ivc (c : Nat) (I : pS → Prop) : Prop := (∀ s, I s → I (s.1 + 1, s.2)) ∧ (∀ s w, I s → I (s.1 + 1, (nam w s).2.2)) ∧ ∀ s x, I s → I (hld c x s)
/-- a level's functions keep it -/
def rIv (c : Nat) (I : pS → Prop) (r : pT) : Prop := ∀ (C : pC) (s : pS), C.1 = c → I s → sat (r.prim C s) (fun _ => I) ∧ (∀ e, sat (r.mem e C s) (fun _ => I)) ∧ sat (r.args C s) (fun _ => I) ∧ sat (r.made C s) (fun _ => I) ∧ sat (r.unit C s) (fun _ => I) ∧ (∀ i, sat (r.asg i C s) (fun _ => I)) ∧ (∀ i, sat (r.expr i C s) (fun _ => I)) ∧ sat (r.stmt C s) (fun _ => I) ∧ (∀ d, sat (r.func d C s) (fun _ => I)) ∧ ∀ i, sat (r.wth i C s) (fun _ => I)
section
variable {z : pZ} {K : Nat} {I : pS → Prop} {c : Nat} {C : pC} {r : pT} {ro : Option pT}
theorem bDv {α β : Type} {x : pR α} {k : α → pS → pR β} (h : sat x (fun _ => I)) (h' : ∀ a s, I s → sat (k a s) (fun _ => I)) : sat (bnd x k) (fun _ => I) := sat_bnd (h.mono fun a s hs => h' a s hs)
theorem nxI (hI : ivc c I) {s : pS} (hs : I s) : sat (nxt' z s) (fun _ => I) := sat_nx (hI.1 s hs)
theorem neI (hI : ivc c I) {s : pS} (hs : I s) (j : Int32) : sat (nedS z j s) (fun _ => I) := sat_ned (hI.1 s hs)
theorem nkI (hI : ivc c I) {s : pS} (hs : I s) (j : Int32) : sat (nedK z j s) (fun _ => I) := sat_nek (hI.1 s hs)
theorem tkI (hI : ivc c I) {s : pS} (hs : I s) : sat (takN z s) (fun _ => I) := sat_tak fun w => hI.2.1 s w hs
theorem nnI (hI : ivc c I) {s : pS} (hs : I s) : sat (nedN z s) (fun _ => I) := sat_nen fun w => hI.2.1 s w hs
theorem smI (hI : ivc c I) {s : pS} (hs : I s) : sat (pSem z s) (fun _ => I) := ok_sem s hs (hI.1 s hs)
theorem nmI (hI : ivc c I) {s : pS} (hs : I s) (w : List Int32) : sat (nxt' z (nam w s).2) (fun _ => I) := sat_nx (hI.2.1 s w hs)
/-- the next level, if there is one -/
def oIv (c : Nat) (I : pS → Prop) (ro : Option pT) : Prop := ∀ r', ro = some r' → rIv c I r'
theorem opDv {α : Type} {s : pS} {k : pT → pR α} (hro : oIv c I ro) (h : ∀ r', rIv c I r' → sat (k r') (fun _ => I)) : sat (opens z ro s k) (fun _ => I) := sat_opens fun r' e => h r' (hro r' e)
theorem iv_arr (hI : ivc C.1 I) (hr : rIv C.1 I r) : ∀ (f : Nat) (acc : List gEx) (s : pS), I s → sat (pArr z r C f acc s) (fun _ => I) := by
  intro f
  induction f with
  | zero => intros; exact sat_err
  | succ f ih =>
    intro acc s hs
    unfold pArr
    (repeat' first | exact sat_err | exact sat_flt | exact sat_prt (by assumption) | exact nxI (by assumption) (by assumption) | exact neI (by assumption) (by assumption) _ | exact nkI (by assumption) (by assumption) _ | exact tkI (by assumption) (by assumption) | exact nnI (by assumption) (by assumption) | exact smI (by assumption) (by assumption) | exact nmI (by assumption) (by assumption) _ | exact (by assumption : rIv _ _ _) _ _ rfl (by assumption) |>.1 | exact ((by assumption : rIv _ _ _) _ _ rfl (by assumption)).2.1 _ | exact ((by assumption : rIv _ _ _) _ _ rfl (by assumption)).2.2.1 | exact ((by assumption : rIv _ _ _) _ _ rfl (by assumption)).2.2.2.1 | exact ((by assumption : rIv _ _ _) _ _ rfl (by assumption)).2.2.2.2.1 | exact ((by assumption : rIv _ _ _) _ _ rfl (by assumption)).2.2.2.2.2.1 _ | exact ((by assumption : rIv _ _ _) _ _ rfl (by assumption)).2.2.2.2.2.2.1 _ | exact ((by assumption : rIv _ _ _) _ _ rfl (by assumption)).2.2.2.2.2.2.2.1 | exact ((by assumption : rIv _ _ _) _ _ rfl (by assumption)).2.2.2.2.2.2.2.2.1 _ | exact ((by assumption : rIv _ _ _) _ _ rfl (by assumption)).2.2.2.2.2.2.2.2.2 _ | with_reducible refine sat_ite (fun _ => ?_) (fun _ => ?_) | with_reducible refine opDv (by assumption) (fun _ _ => ?_) | with_reducible refine bDv ?_ (fun _ _ _ => ?_))
    all_goals exact ih _ _ (by assumption)
theorem iv_key (hI : ivc C.1 I) (s : pS) (hs : I s) : sat (pKey z s) (fun _ => I) := by
  unfold pKey
  (repeat' first | exact sat_err | exact sat_flt | exact sat_prt (by assumption) | exact nxI (by assumption) (by assumption) | exact neI (by assumption) (by assumption) _ | exact nkI (by assumption) (by assumption) _ | exact tkI (by assumption) (by assumption) | exact nnI (by assumption) (by assumption) | exact smI (by assumption) (by assumption) | exact nmI (by assumption) (by assumption) _ | exact (by assumption : rIv _ _ _) _ _ rfl (by assumption) |>.1 | exact ((by assumption : rIv _ _ _) _ _ rfl (by assumption)).2.1 _ | exact ((by assumption : rIv _ _ _) _ _ rfl (by assumption)).2.2.1 | exact ((by assumption : rIv _ _ _) _ _ rfl (by assumption)).2.2.2.1 | exact ((by assumption : rIv _ _ _) _ _ rfl (by assumption)).2.2.2.2.1 | exact ((by assumption : rIv _ _ _) _ _ rfl (by assumption)).2.2.2.2.2.1 _ | exact ((by assumption : rIv _ _ _) _ _ rfl (by assumption)).2.2.2.2.2.2.1 _ | exact ((by assumption : rIv _ _ _) _ _ rfl (by assumption)).2.2.2.2.2.2.2.1 | exact ((by assumption : rIv _ _ _) _ _ rfl (by assumption)).2.2.2.2.2.2.2.2.1 _ | exact ((by assumption : rIv _ _ _) _ _ rfl (by assumption)).2.2.2.2.2.2.2.2.2 _ | with_reducible refine sat_ite (fun _ => ?_) (fun _ => ?_) | with_reducible refine opDv (by assumption) (fun _ _ => ?_) | with_reducible refine bDv ?_ (fun _ _ _ => ?_))
theorem iv_obj (hI : ivc C.1 I) (hr : rIv C.1 I r) : ∀ (f : Nat) (acc : List (Nat × gEx)) (s : pS), I s → sat (pObj z r C f acc s) (fun _ => I) := by
  intro f
  induction f with
  | zero => intros; exact sat_err
  | succ f ih =>
    intro acc s hs
    unfold pObj
    (repeat' first | exact sat_err | exact sat_flt | exact sat_prt (by assumption) | exact nxI (by assumption) (by assumption) | exact neI (by assumption) (by assumption) _ | exact nkI (by assumption) (by assumption) _ | exact tkI (by assumption) (by assumption) | exact nnI (by assumption) (by assumption) | exact smI (by assumption) (by assumption) | exact nmI (by assumption) (by assumption) _ | exact (by assumption : rIv _ _ _) _ _ rfl (by assumption) |>.1 | exact ((by assumption : rIv _ _ _) _ _ rfl (by assumption)).2.1 _ | exact ((by assumption : rIv _ _ _) _ _ rfl (by assumption)).2.2.1 | exact ((by assumption : rIv _ _ _) _ _ rfl (by assumption)).2.2.2.1 | exact ((by assumption : rIv _ _ _) _ _ rfl (by assumption)).2.2.2.2.1 | exact ((by assumption : rIv _ _ _) _ _ rfl (by assumption)).2.2.2.2.2.1 _ | exact ((by assumption : rIv _ _ _) _ _ rfl (by assumption)).2.2.2.2.2.2.1 _ | exact ((by assumption : rIv _ _ _) _ _ rfl (by assumption)).2.2.2.2.2.2.2.1 | exact ((by assumption : rIv _ _ _) _ _ rfl (by assumption)).2.2.2.2.2.2.2.2.1 _ | exact ((by assumption : rIv _ _ _) _ _ rfl (by assumption)).2.2.2.2.2.2.2.2.2 _ | with_reducible refine sat_ite (fun _ => ?_) (fun _ => ?_) | with_reducible refine opDv (by assumption) (fun _ _ => ?_) | with_reducible refine bDv ?_ (fun _ _ _ => ?_))
    all_goals first
      | exact ih _ _ (by assumption)
      | exact iv_key (by assumption) _ (by assumption)
theorem iv_prim (hI : ivc C.1 I) (hro : oIv C.1 I ro) (s : pS) (hs : I s) : sat (pPrim z K ro C s) (fun _ => I) := by
  unfold pPrim
  (repeat' first | exact sat_err | exact sat_flt | exact sat_prt (by assumption) | exact nxI (by assumption) (by assumption) | exact neI (by assumption) (by assumption) _ | exact nkI (by assumption) (by assumption) _ | exact tkI (by assumption) (by assumption) | exact nnI (by assumption) (by assumption) | exact smI (by assumption) (by assumption) | exact nmI (by assumption) (by assumption) _ | exact (by assumption : rIv _ _ _) _ _ rfl (by assumption) |>.1 | exact ((by assumption : rIv _ _ _) _ _ rfl (by assumption)).2.1 _ | exact ((by assumption : rIv _ _ _) _ _ rfl (by assumption)).2.2.1 | exact ((by assumption : rIv _ _ _) _ _ rfl (by assumption)).2.2.2.1 | exact ((by assumption : rIv _ _ _) _ _ rfl (by assumption)).2.2.2.2.1 | exact ((by assumption : rIv _ _ _) _ _ rfl (by assumption)).2.2.2.2.2.1 _ | exact ((by assumption : rIv _ _ _) _ _ rfl (by assumption)).2.2.2.2.2.2.1 _ | exact ((by assumption : rIv _ _ _) _ _ rfl (by assumption)).2.2.2.2.2.2.2.1 | exact ((by assumption : rIv _ _ _) _ _ rfl (by assumption)).2.2.2.2.2.2.2.2.1 _ | exact ((by assumption : rIv _ _ _) _ _ rfl (by assumption)).2.2.2.2.2.2.2.2.2 _ | with_reducible refine sat_ite (fun _ => ?_) (fun _ => ?_) | with_reducible refine opDv (by assumption) (fun _ _ => ?_) | with_reducible refine bDv ?_ (fun _ _ _ => ?_))
  all_goals first
    | exact iv_arr (by assumption) (by assumption) _ _ _ (by assumption)
    | exact iv_obj (by assumption) (by assumption) _ _ _ (by assumption)
theorem iv_mem (hI : ivc C.1 I) (hro : oIv C.1 I ro) (e : gV) (s : pS) (hs : I s) : sat (pMem z ro e C s) (fun _ => I) := by
  unfold pMem
  (repeat' first | exact sat_err | exact sat_flt | exact sat_prt (by assumption) | exact nxI (by assumption) (by assumption) | exact neI (by assumption) (by assumption) _ | exact nkI (by assumption) (by assumption) _ | exact tkI (by assumption) (by assumption) | exact nnI (by assumption) (by assumption) | exact smI (by assumption) (by assumption) | exact nmI (by assumption) (by assumption) _ | exact (by assumption : rIv _ _ _) _ _ rfl (by assumption) |>.1 | exact ((by assumption : rIv _ _ _) _ _ rfl (by assumption)).2.1 _ | exact ((by assumption : rIv _ _ _) _ _ rfl (by assumption)).2.2.1 | exact ((by assumption : rIv _ _ _) _ _ rfl (by assumption)).2.2.2.1 | exact ((by assumption : rIv _ _ _) _ _ rfl (by assumption)).2.2.2.2.1 | exact ((by assumption : rIv _ _ _) _ _ rfl (by assumption)).2.2.2.2.2.1 _ | exact ((by assumption : rIv _ _ _) _ _ rfl (by assumption)).2.2.2.2.2.2.1 _ | exact ((by assumption : rIv _ _ _) _ _ rfl (by assumption)).2.2.2.2.2.2.2.1 | exact ((by assumption : rIv _ _ _) _ _ rfl (by assumption)).2.2.2.2.2.2.2.2.1 _ | exact ((by assumption : rIv _ _ _) _ _ rfl (by assumption)).2.2.2.2.2.2.2.2.2 _ | with_reducible refine sat_ite (fun _ => ?_) (fun _ => ?_) | with_reducible refine opDv (by assumption) (fun _ _ => ?_) | with_reducible refine bDv ?_ (fun _ _ _ => ?_))
theorem iv_arg1 (hI : ivc C.1 I) (hr : rIv C.1 I r) : ∀ (f : Nat) (acc : List gEx) (s : pS), I s → sat (pArg1 z r C f acc s) (fun _ => I) := by
  intro f
  induction f with
  | zero => intros; exact sat_err
  | succ f ih =>
    intro acc s hs
    unfold pArg1
    (repeat' first | exact sat_err | exact sat_flt | exact sat_prt (by assumption) | exact nxI (by assumption) (by assumption) | exact neI (by assumption) (by assumption) _ | exact nkI (by assumption) (by assumption) _ | exact tkI (by assumption) (by assumption) | exact nnI (by assumption) (by assumption) | exact smI (by assumption) (by assumption) | exact nmI (by assumption) (by assumption) _ | exact (by assumption : rIv _ _ _) _ _ rfl (by assumption) |>.1 | exact ((by assumption : rIv _ _ _) _ _ rfl (by assumption)).2.1 _ | exact ((by assumption : rIv _ _ _) _ _ rfl (by assumption)).2.2.1 | exact ((by assumption : rIv _ _ _) _ _ rfl (by assumption)).2.2.2.1 | exact ((by assumption : rIv _ _ _) _ _ rfl (by assumption)).2.2.2.2.1 | exact ((by assumption : rIv _ _ _) _ _ rfl (by assumption)).2.2.2.2.2.1 _ | exact ((by assumption : rIv _ _ _) _ _ rfl (by assumption)).2.2.2.2.2.2.1 _ | exact ((by assumption : rIv _ _ _) _ _ rfl (by assumption)).2.2.2.2.2.2.2.1 | exact ((by assumption : rIv _ _ _) _ _ rfl (by assumption)).2.2.2.2.2.2.2.2.1 _ | exact ((by assumption : rIv _ _ _) _ _ rfl (by assumption)).2.2.2.2.2.2.2.2.2 _ | with_reducible refine sat_ite (fun _ => ?_) (fun _ => ?_) | with_reducible refine opDv (by assumption) (fun _ _ => ?_) | with_reducible refine bDv ?_ (fun _ _ _ => ?_))
    all_goals first
      | exact ih _ _ (by assumption)
theorem iv_args (hI : ivc C.1 I) (hro : oIv C.1 I ro) (s : pS) (hs : I s) : sat (pArgs z K ro C s) (fun _ => I) := by
  unfold pArgs
  (repeat' first | exact sat_err | exact sat_flt | exact sat_prt (by assumption) | exact nxI (by assumption) (by assumption) | exact neI (by assumption) (by assumption) _ | exact nkI (by assumption) (by assumption) _ | exact tkI (by assumption) (by assumption) | exact nnI (by assumption) (by assumption) | exact smI (by assumption) (by assumption) | exact nmI (by assumption) (by assumption) _ | exact (by assumption : rIv _ _ _) _ _ rfl (by assumption) |>.1 | exact ((by assumption : rIv _ _ _) _ _ rfl (by assumption)).2.1 _ | exact ((by assumption : rIv _ _ _) _ _ rfl (by assumption)).2.2.1 | exact ((by assumption : rIv _ _ _) _ _ rfl (by assumption)).2.2.2.1 | exact ((by assumption : rIv _ _ _) _ _ rfl (by assumption)).2.2.2.2.1 | exact ((by assumption : rIv _ _ _) _ _ rfl (by assumption)).2.2.2.2.2.1 _ | exact ((by assumption : rIv _ _ _) _ _ rfl (by assumption)).2.2.2.2.2.2.1 _ | exact ((by assumption : rIv _ _ _) _ _ rfl (by assumption)).2.2.2.2.2.2.2.1 | exact ((by assumption : rIv _ _ _) _ _ rfl (by assumption)).2.2.2.2.2.2.2.2.1 _ | exact ((by assumption : rIv _ _ _) _ _ rfl (by assumption)).2.2.2.2.2.2.2.2.2 _ | with_reducible refine sat_ite (fun _ => ?_) (fun _ => ?_) | with_reducible refine opDv (by assumption) (fun _ _ => ?_) | with_reducible refine bDv ?_ (fun _ _ _ => ?_))
  all_goals first
    | exact iv_arg1 (by assumption) (by assumption) _ _ _ (by assumption)
theorem iv_mems (hI : ivc C.1 I) (hr : rIv C.1 I r) : ∀ (f : Nat) (acc : gV) (s : pS), I s → sat (pMems z r C f acc s) (fun _ => I) := by
  intro f
  induction f with
  | zero => intros; exact sat_err
  | succ f ih =>
    intro acc s hs
    unfold pMems
    (repeat' first | exact sat_err | exact sat_flt | exact sat_prt (by assumption) | exact nxI (by assumption) (by assumption) | exact neI (by assumption) (by assumption) _ | exact nkI (by assumption) (by assumption) _ | exact tkI (by assumption) (by assumption) | exact nnI (by assumption) (by assumption) | exact smI (by assumption) (by assumption) | exact nmI (by assumption) (by assumption) _ | exact (by assumption : rIv _ _ _) _ _ rfl (by assumption) |>.1 | exact ((by assumption : rIv _ _ _) _ _ rfl (by assumption)).2.1 _ | exact ((by assumption : rIv _ _ _) _ _ rfl (by assumption)).2.2.1 | exact ((by assumption : rIv _ _ _) _ _ rfl (by assumption)).2.2.2.1 | exact ((by assumption : rIv _ _ _) _ _ rfl (by assumption)).2.2.2.2.1 | exact ((by assumption : rIv _ _ _) _ _ rfl (by assumption)).2.2.2.2.2.1 _ | exact ((by assumption : rIv _ _ _) _ _ rfl (by assumption)).2.2.2.2.2.2.1 _ | exact ((by assumption : rIv _ _ _) _ _ rfl (by assumption)).2.2.2.2.2.2.2.1 | exact ((by assumption : rIv _ _ _) _ _ rfl (by assumption)).2.2.2.2.2.2.2.2.1 _ | exact ((by assumption : rIv _ _ _) _ _ rfl (by assumption)).2.2.2.2.2.2.2.2.2 _ | with_reducible refine sat_ite (fun _ => ?_) (fun _ => ?_) | with_reducible refine opDv (by assumption) (fun _ _ => ?_) | with_reducible refine bDv ?_ (fun _ _ _ => ?_))
    all_goals first
      | exact ih _ _ (by assumption)
theorem iv_made (hI : ivc C.1 I) (hro : oIv C.1 I ro) (s : pS) (hs : I s) : sat (pMade z K ro C s) (fun _ => I) := by
  unfold pMade
  (repeat' first | exact sat_err | exact sat_flt | exact sat_prt (by assumption) | exact nxI (by assumption) (by assumption) | exact neI (by assumption) (by assumption) _ | exact nkI (by assumption) (by assumption) _ | exact tkI (by assumption) (by assumption) | exact nnI (by assumption) (by assumption) | exact smI (by assumption) (by assumption) | exact nmI (by assumption) (by assumption) _ | exact (by assumption : rIv _ _ _) _ _ rfl (by assumption) |>.1 | exact ((by assumption : rIv _ _ _) _ _ rfl (by assumption)).2.1 _ | exact ((by assumption : rIv _ _ _) _ _ rfl (by assumption)).2.2.1 | exact ((by assumption : rIv _ _ _) _ _ rfl (by assumption)).2.2.2.1 | exact ((by assumption : rIv _ _ _) _ _ rfl (by assumption)).2.2.2.2.1 | exact ((by assumption : rIv _ _ _) _ _ rfl (by assumption)).2.2.2.2.2.1 _ | exact ((by assumption : rIv _ _ _) _ _ rfl (by assumption)).2.2.2.2.2.2.1 _ | exact ((by assumption : rIv _ _ _) _ _ rfl (by assumption)).2.2.2.2.2.2.2.1 | exact ((by assumption : rIv _ _ _) _ _ rfl (by assumption)).2.2.2.2.2.2.2.2.1 _ | exact ((by assumption : rIv _ _ _) _ _ rfl (by assumption)).2.2.2.2.2.2.2.2.2 _ | with_reducible refine sat_ite (fun _ => ?_) (fun _ => ?_) | with_reducible refine opDv (by assumption) (fun _ _ => ?_) | with_reducible refine bDv ?_ (fun _ _ _ => ?_))
  all_goals first
    | exact iv_mems (by assumption) (by assumption) _ _ _ (by assumption)
theorem iv_sufs (hI : ivc C.1 I) (hro : oIv C.1 I ro) : ∀ (f : Nat) (acc : gV) (s : pS), I s → sat (pSufs z K ro C f acc s) (fun _ => I) := by
  intro f
  induction f with
  | zero => intros; exact sat_err
  | succ f ih =>
    intro acc s hs
    unfold pSufs
    (repeat' first | exact sat_err | exact sat_flt | exact sat_prt (by assumption) | exact nxI (by assumption) (by assumption) | exact neI (by assumption) (by assumption) _ | exact nkI (by assumption) (by assumption) _ | exact tkI (by assumption) (by assumption) | exact nnI (by assumption) (by assumption) | exact smI (by assumption) (by assumption) | exact nmI (by assumption) (by assumption) _ | exact (by assumption : rIv _ _ _) _ _ rfl (by assumption) |>.1 | exact ((by assumption : rIv _ _ _) _ _ rfl (by assumption)).2.1 _ | exact ((by assumption : rIv _ _ _) _ _ rfl (by assumption)).2.2.1 | exact ((by assumption : rIv _ _ _) _ _ rfl (by assumption)).2.2.2.1 | exact ((by assumption : rIv _ _ _) _ _ rfl (by assumption)).2.2.2.2.1 | exact ((by assumption : rIv _ _ _) _ _ rfl (by assumption)).2.2.2.2.2.1 _ | exact ((by assumption : rIv _ _ _) _ _ rfl (by assumption)).2.2.2.2.2.2.1 _ | exact ((by assumption : rIv _ _ _) _ _ rfl (by assumption)).2.2.2.2.2.2.2.1 | exact ((by assumption : rIv _ _ _) _ _ rfl (by assumption)).2.2.2.2.2.2.2.2.1 _ | exact ((by assumption : rIv _ _ _) _ _ rfl (by assumption)).2.2.2.2.2.2.2.2.2 _ | with_reducible refine sat_ite (fun _ => ?_) (fun _ => ?_) | with_reducible refine opDv (by assumption) (fun _ _ => ?_) | with_reducible refine bDv ?_ (fun _ _ _ => ?_))
    all_goals first
      | exact ih _ _ (by assumption)
      | exact iv_args (by assumption) (by assumption) _ (by assumption)
      | exact iv_mem (by assumption) (by assumption) _ _ (by assumption)
theorem iv_left (hI : ivc C.1 I) (hro : oIv C.1 I ro) (s : pS) (hs : I s) : sat (pLeft z K ro C s) (fun _ => I) := by
  unfold pLeft
  (repeat' first | exact sat_err | exact sat_flt | exact sat_prt (by assumption) | exact nxI (by assumption) (by assumption) | exact neI (by assumption) (by assumption) _ | exact nkI (by assumption) (by assumption) _ | exact tkI (by assumption) (by assumption) | exact nnI (by assumption) (by assumption) | exact smI (by assumption) (by assumption) | exact nmI (by assumption) (by assumption) _ | exact (by assumption : rIv _ _ _) _ _ rfl (by assumption) |>.1 | exact ((by assumption : rIv _ _ _) _ _ rfl (by assumption)).2.1 _ | exact ((by assumption : rIv _ _ _) _ _ rfl (by assumption)).2.2.1 | exact ((by assumption : rIv _ _ _) _ _ rfl (by assumption)).2.2.2.1 | exact ((by assumption : rIv _ _ _) _ _ rfl (by assumption)).2.2.2.2.1 | exact ((by assumption : rIv _ _ _) _ _ rfl (by assumption)).2.2.2.2.2.1 _ | exact ((by assumption : rIv _ _ _) _ _ rfl (by assumption)).2.2.2.2.2.2.1 _ | exact ((by assumption : rIv _ _ _) _ _ rfl (by assumption)).2.2.2.2.2.2.2.1 | exact ((by assumption : rIv _ _ _) _ _ rfl (by assumption)).2.2.2.2.2.2.2.2.1 _ | exact ((by assumption : rIv _ _ _) _ _ rfl (by assumption)).2.2.2.2.2.2.2.2.2 _ | with_reducible refine sat_ite (fun _ => ?_) (fun _ => ?_) | with_reducible refine opDv (by assumption) (fun _ _ => ?_) | with_reducible refine bDv ?_ (fun _ _ _ => ?_))
  all_goals first
    | exact iv_made (by assumption) (by assumption) _ (by assumption)
    | exact iv_prim (by assumption) (by assumption) _ (by assumption)
    | exact iv_sufs (by assumption) (by assumption) _ _ _ (by assumption)
theorem iv_post (hI : ivc C.1 I) (hro : oIv C.1 I ro) (s : pS) (hs : I s) : sat (pPost z K ro C s) (fun _ => I) := by
  unfold pPost
  (repeat' first | exact sat_err | exact sat_flt | exact sat_prt (by assumption) | exact nxI (by assumption) (by assumption) | exact neI (by assumption) (by assumption) _ | exact nkI (by assumption) (by assumption) _ | exact tkI (by assumption) (by assumption) | exact nnI (by assumption) (by assumption) | exact smI (by assumption) (by assumption) | exact nmI (by assumption) (by assumption) _ | exact (by assumption : rIv _ _ _) _ _ rfl (by assumption) |>.1 | exact ((by assumption : rIv _ _ _) _ _ rfl (by assumption)).2.1 _ | exact ((by assumption : rIv _ _ _) _ _ rfl (by assumption)).2.2.1 | exact ((by assumption : rIv _ _ _) _ _ rfl (by assumption)).2.2.2.1 | exact ((by assumption : rIv _ _ _) _ _ rfl (by assumption)).2.2.2.2.1 | exact ((by assumption : rIv _ _ _) _ _ rfl (by assumption)).2.2.2.2.2.1 _ | exact ((by assumption : rIv _ _ _) _ _ rfl (by assumption)).2.2.2.2.2.2.1 _ | exact ((by assumption : rIv _ _ _) _ _ rfl (by assumption)).2.2.2.2.2.2.2.1 | exact ((by assumption : rIv _ _ _) _ _ rfl (by assumption)).2.2.2.2.2.2.2.2.1 _ | exact ((by assumption : rIv _ _ _) _ _ rfl (by assumption)).2.2.2.2.2.2.2.2.2 _ | with_reducible refine sat_ite (fun _ => ?_) (fun _ => ?_) | with_reducible refine opDv (by assumption) (fun _ _ => ?_) | with_reducible refine bDv ?_ (fun _ _ _ => ?_))
  all_goals first
    | exact iv_left (by assumption) (by assumption) _ (by assumption)
theorem iv_ahd {s0 : pS} {e : gV} (s : pS) (hs : I s) : sat (pAhd z s0 e s) (fun _ => I) := by
  unfold pAhd
  (repeat' first | exact sat_err | exact sat_flt | exact sat_prt (by assumption) | exact nxI (by assumption) (by assumption) | exact neI (by assumption) (by assumption) _ | exact nkI (by assumption) (by assumption) _ | exact tkI (by assumption) (by assumption) | exact nnI (by assumption) (by assumption) | exact smI (by assumption) (by assumption) | exact nmI (by assumption) (by assumption) _ | exact (by assumption : rIv _ _ _) _ _ rfl (by assumption) |>.1 | exact ((by assumption : rIv _ _ _) _ _ rfl (by assumption)).2.1 _ | exact ((by assumption : rIv _ _ _) _ _ rfl (by assumption)).2.2.1 | exact ((by assumption : rIv _ _ _) _ _ rfl (by assumption)).2.2.2.1 | exact ((by assumption : rIv _ _ _) _ _ rfl (by assumption)).2.2.2.2.1 | exact ((by assumption : rIv _ _ _) _ _ rfl (by assumption)).2.2.2.2.2.1 _ | exact ((by assumption : rIv _ _ _) _ _ rfl (by assumption)).2.2.2.2.2.2.1 _ | exact ((by assumption : rIv _ _ _) _ _ rfl (by assumption)).2.2.2.2.2.2.2.1 | exact ((by assumption : rIv _ _ _) _ _ rfl (by assumption)).2.2.2.2.2.2.2.2.1 _ | exact ((by assumption : rIv _ _ _) _ _ rfl (by assumption)).2.2.2.2.2.2.2.2.2 _ | with_reducible refine sat_ite (fun _ => ?_) (fun _ => ?_) | with_reducible refine opDv (by assumption) (fun _ _ => ?_) | with_reducible refine bDv ?_ (fun _ _ _ => ?_))
theorem iv_unit (hI : ivc C.1 I) (hro : oIv C.1 I ro) (s : pS) (hs : I s) : sat (pUnit z K ro C s) (fun _ => I) := by
  unfold pUnit
  (repeat' first | exact sat_err | exact sat_flt | exact sat_prt (by assumption) | exact nxI (by assumption) (by assumption) | exact neI (by assumption) (by assumption) _ | exact nkI (by assumption) (by assumption) _ | exact tkI (by assumption) (by assumption) | exact nnI (by assumption) (by assumption) | exact smI (by assumption) (by assumption) | exact nmI (by assumption) (by assumption) _ | exact (by assumption : rIv _ _ _) _ _ rfl (by assumption) |>.1 | exact ((by assumption : rIv _ _ _) _ _ rfl (by assumption)).2.1 _ | exact ((by assumption : rIv _ _ _) _ _ rfl (by assumption)).2.2.1 | exact ((by assumption : rIv _ _ _) _ _ rfl (by assumption)).2.2.2.1 | exact ((by assumption : rIv _ _ _) _ _ rfl (by assumption)).2.2.2.2.1 | exact ((by assumption : rIv _ _ _) _ _ rfl (by assumption)).2.2.2.2.2.1 _ | exact ((by assumption : rIv _ _ _) _ _ rfl (by assumption)).2.2.2.2.2.2.1 _ | exact ((by assumption : rIv _ _ _) _ _ rfl (by assumption)).2.2.2.2.2.2.2.1 | exact ((by assumption : rIv _ _ _) _ _ rfl (by assumption)).2.2.2.2.2.2.2.2.1 _ | exact ((by assumption : rIv _ _ _) _ _ rfl (by assumption)).2.2.2.2.2.2.2.2.2 _ | with_reducible refine sat_ite (fun _ => ?_) (fun _ => ?_) | with_reducible refine opDv (by assumption) (fun _ _ => ?_) | with_reducible refine bDv ?_ (fun _ _ _ => ?_))
  all_goals first
    | exact iv_ahd _ (by assumption)
    | exact iv_post (by assumption) (by assumption) _ (by assumption)
theorem iv_blp (hI : ivc C.1 I) {i : Bool} {l : Nat} {un : pS → pR gV} (hu : ∀ s, I s → sat (un s) (fun _ => I)) : ∀ (f : Nat) (e : gV) (s : pS), I s → sat (pBlp z i l un f e s) (fun _ => I) := by
  intro f
  induction f with
  | zero => intros; exact sat_err
  | succ f ih =>
    intro e s hs
    unfold pBlp
    split
    · exact sat_prt hs
    · (repeat' first | exact sat_err | exact sat_flt | exact sat_prt (by assumption) | exact nxI (by assumption) (by assumption) | exact neI (by assumption) (by assumption) _ | exact nkI (by assumption) (by assumption) _ | exact tkI (by assumption) (by assumption) | exact nnI (by assumption) (by assumption) | exact smI (by assumption) (by assumption) | exact nmI (by assumption) (by assumption) _ | exact (by assumption : rIv _ _ _) _ _ rfl (by assumption) |>.1 | exact ((by assumption : rIv _ _ _) _ _ rfl (by assumption)).2.1 _ | exact ((by assumption : rIv _ _ _) _ _ rfl (by assumption)).2.2.1 | exact ((by assumption : rIv _ _ _) _ _ rfl (by assumption)).2.2.2.1 | exact ((by assumption : rIv _ _ _) _ _ rfl (by assumption)).2.2.2.2.1 | exact ((by assumption : rIv _ _ _) _ _ rfl (by assumption)).2.2.2.2.2.1 _ | exact ((by assumption : rIv _ _ _) _ _ rfl (by assumption)).2.2.2.2.2.2.1 _ | exact ((by assumption : rIv _ _ _) _ _ rfl (by assumption)).2.2.2.2.2.2.2.1 | exact ((by assumption : rIv _ _ _) _ _ rfl (by assumption)).2.2.2.2.2.2.2.2.1 _ | exact ((by assumption : rIv _ _ _) _ _ rfl (by assumption)).2.2.2.2.2.2.2.2.2 _ | with_reducible refine sat_ite (fun _ => ?_) (fun _ => ?_) | with_reducible refine opDv (by assumption) (fun _ _ => ?_) | with_reducible refine bDv ?_ (fun _ _ _ => ?_))
      all_goals first
        | exact hu _ (by assumption)
        | exact ih _ _ (by assumption)
theorem iv_bin (hI : ivc C.1 I) (hro : oIv C.1 I ro) (i : Bool) : ∀ (m : Nat) (s : pS), I s → sat (pBin z K ro i C m s) (fun _ => I)
  | 0, s, hs => iv_unit hI hro s hs
  | m + 1, s, hs => by
    unfold pBin
    refine bDv (iv_bin hI hro i m s hs) (fun a s1 h1 => ?_)
    exact iv_blp hI (fun s hs => iv_bin hI hro i m s hs) _ _ _ h1
theorem iv_wth (hI : ivc C.1 I) (hro : oIv C.1 I ro) (i : Bool) (s : pS) (hs : I s) : sat (pWth z ro i C s) (fun _ => I) := by
  unfold pWth
  (repeat' first | exact sat_err | exact sat_flt | exact sat_prt (by assumption) | exact nxI (by assumption) (by assumption) | exact neI (by assumption) (by assumption) _ | exact nkI (by assumption) (by assumption) _ | exact tkI (by assumption) (by assumption) | exact nnI (by assumption) (by assumption) | exact smI (by assumption) (by assumption) | exact nmI (by assumption) (by assumption) _ | exact (by assumption : rIv _ _ _) _ _ rfl (by assumption) |>.1 | exact ((by assumption : rIv _ _ _) _ _ rfl (by assumption)).2.1 _ | exact ((by assumption : rIv _ _ _) _ _ rfl (by assumption)).2.2.1 | exact ((by assumption : rIv _ _ _) _ _ rfl (by assumption)).2.2.2.1 | exact ((by assumption : rIv _ _ _) _ _ rfl (by assumption)).2.2.2.2.1 | exact ((by assumption : rIv _ _ _) _ _ rfl (by assumption)).2.2.2.2.2.1 _ | exact ((by assumption : rIv _ _ _) _ _ rfl (by assumption)).2.2.2.2.2.2.1 _ | exact ((by assumption : rIv _ _ _) _ _ rfl (by assumption)).2.2.2.2.2.2.2.1 | exact ((by assumption : rIv _ _ _) _ _ rfl (by assumption)).2.2.2.2.2.2.2.2.1 _ | exact ((by assumption : rIv _ _ _) _ _ rfl (by assumption)).2.2.2.2.2.2.2.2.2 _ | with_reducible refine sat_ite (fun _ => ?_) (fun _ => ?_) | with_reducible refine opDv (by assumption) (fun _ _ => ?_) | with_reducible refine bDv ?_ (fun _ _ _ => ?_))
theorem iv_asg (hI : ivc C.1 I) (hro : oIv C.1 I ro) (i : Bool) (s : pS) (hs : I s) : sat (pAsg z K ro i C s) (fun _ => I) := by
  unfold pAsg
  refine bDv (iv_bin hI hro i 10 s hs) (fun e s1 h1 => ?_)
  refine sat_ite (fun _ => ?_) (fun _ => ?_)
  · (repeat' first | exact sat_err | exact sat_flt | exact sat_prt (by assumption) | exact nxI (by assumption) (by assumption) | exact neI (by assumption) (by assumption) _ | exact nkI (by assumption) (by assumption) _ | exact tkI (by assumption) (by assumption) | exact nnI (by assumption) (by assumption) | exact smI (by assumption) (by assumption) | exact nmI (by assumption) (by assumption) _ | exact (by assumption : rIv _ _ _) _ _ rfl (by assumption) |>.1 | exact ((by assumption : rIv _ _ _) _ _ rfl (by assumption)).2.1 _ | exact ((by assumption : rIv _ _ _) _ _ rfl (by assumption)).2.2.1 | exact ((by assumption : rIv _ _ _) _ _ rfl (by assumption)).2.2.2.1 | exact ((by assumption : rIv _ _ _) _ _ rfl (by assumption)).2.2.2.2.1 | exact ((by assumption : rIv _ _ _) _ _ rfl (by assumption)).2.2.2.2.2.1 _ | exact ((by assumption : rIv _ _ _) _ _ rfl (by assumption)).2.2.2.2.2.2.1 _ | exact ((by assumption : rIv _ _ _) _ _ rfl (by assumption)).2.2.2.2.2.2.2.1 | exact ((by assumption : rIv _ _ _) _ _ rfl (by assumption)).2.2.2.2.2.2.2.2.1 _ | exact ((by assumption : rIv _ _ _) _ _ rfl (by assumption)).2.2.2.2.2.2.2.2.2 _ | with_reducible refine sat_ite (fun _ => ?_) (fun _ => ?_) | with_reducible refine opDv (by assumption) (fun _ _ => ?_) | with_reducible refine bDv ?_ (fun _ _ _ => ?_))
    all_goals exact iv_wth (by assumption) (by assumption) _ _ (by assumption)
  · split
    · exact sat_prt h1
    · (repeat' first | exact sat_err | exact sat_flt | exact sat_prt (by assumption) | exact nxI (by assumption) (by assumption) | exact neI (by assumption) (by assumption) _ | exact nkI (by assumption) (by assumption) _ | exact tkI (by assumption) (by assumption) | exact nnI (by assumption) (by assumption) | exact smI (by assumption) (by assumption) | exact nmI (by assumption) (by assumption) _ | exact (by assumption : rIv _ _ _) _ _ rfl (by assumption) |>.1 | exact ((by assumption : rIv _ _ _) _ _ rfl (by assumption)).2.1 _ | exact ((by assumption : rIv _ _ _) _ _ rfl (by assumption)).2.2.1 | exact ((by assumption : rIv _ _ _) _ _ rfl (by assumption)).2.2.2.1 | exact ((by assumption : rIv _ _ _) _ _ rfl (by assumption)).2.2.2.2.1 | exact ((by assumption : rIv _ _ _) _ _ rfl (by assumption)).2.2.2.2.2.1 _ | exact ((by assumption : rIv _ _ _) _ _ rfl (by assumption)).2.2.2.2.2.2.1 _ | exact ((by assumption : rIv _ _ _) _ _ rfl (by assumption)).2.2.2.2.2.2.2.1 | exact ((by assumption : rIv _ _ _) _ _ rfl (by assumption)).2.2.2.2.2.2.2.2.1 _ | exact ((by assumption : rIv _ _ _) _ _ rfl (by assumption)).2.2.2.2.2.2.2.2.2 _ | with_reducible refine sat_ite (fun _ => ?_) (fun _ => ?_) | with_reducible refine opDv (by assumption) (fun _ _ => ?_) | with_reducible refine bDv ?_ (fun _ _ _ => ?_))
      all_goals exact iv_wth (by assumption) (by assumption) _ _ (by assumption)
theorem iv_coms (hI : ivc C.1 I) (hro : oIv C.1 I ro) (i : Bool) : ∀ (f : Nat) (e : gV) (s : pS), I s → sat (pComs z K ro i C f e s) (fun _ => I) := by
  intro f
  induction f with
  | zero => intros; exact sat_err
  | succ f ih =>
    intro e s hs
    unfold pComs
    (repeat' first | exact sat_err | exact sat_flt | exact sat_prt (by assumption) | exact nxI (by assumption) (by assumption) | exact neI (by assumption) (by assumption) _ | exact nkI (by assumption) (by assumption) _ | exact tkI (by assumption) (by assumption) | exact nnI (by assumption) (by assumption) | exact smI (by assumption) (by assumption) | exact nmI (by assumption) (by assumption) _ | exact (by assumption : rIv _ _ _) _ _ rfl (by assumption) |>.1 | exact ((by assumption : rIv _ _ _) _ _ rfl (by assumption)).2.1 _ | exact ((by assumption : rIv _ _ _) _ _ rfl (by assumption)).2.2.1 | exact ((by assumption : rIv _ _ _) _ _ rfl (by assumption)).2.2.2.1 | exact ((by assumption : rIv _ _ _) _ _ rfl (by assumption)).2.2.2.2.1 | exact ((by assumption : rIv _ _ _) _ _ rfl (by assumption)).2.2.2.2.2.1 _ | exact ((by assumption : rIv _ _ _) _ _ rfl (by assumption)).2.2.2.2.2.2.1 _ | exact ((by assumption : rIv _ _ _) _ _ rfl (by assumption)).2.2.2.2.2.2.2.1 | exact ((by assumption : rIv _ _ _) _ _ rfl (by assumption)).2.2.2.2.2.2.2.2.1 _ | exact ((by assumption : rIv _ _ _) _ _ rfl (by assumption)).2.2.2.2.2.2.2.2.2 _ | with_reducible refine sat_ite (fun _ => ?_) (fun _ => ?_) | with_reducible refine opDv (by assumption) (fun _ _ => ?_) | with_reducible refine bDv ?_ (fun _ _ _ => ?_))
    all_goals first
      | exact iv_asg (by assumption) (by assumption) _ _ (by assumption)
      | exact ih _ _ (by assumption)
theorem iv_expr (hI : ivc C.1 I) (hro : oIv C.1 I ro) (i : Bool) (s : pS) (hs : I s) : sat (pExpr z K ro i C s) (fun _ => I) := by
  unfold pExpr
  exact bDv (iv_asg hI hro i s hs) fun e s1 h1 => iv_coms hI hro i _ _ _ h1
theorem iv_stms (hr : rIv C.1 I r) {stop : pS → Bool} : ∀ (f : Nat) (acc : gSt) (s : pS), I s → sat (pStms r C stop f acc s) (fun _ => I) := by
  intro f
  induction f with
  | zero => intros; exact sat_err
  | succ f ih =>
    intro acc s hs
    unfold pStms
    (repeat' first | exact sat_err | exact sat_flt | exact sat_prt (by assumption) | exact nxI (by assumption) (by assumption) | exact neI (by assumption) (by assumption) _ | exact nkI (by assumption) (by assumption) _ | exact tkI (by assumption) (by assumption) | exact nnI (by assumption) (by assumption) | exact smI (by assumption) (by assumption) | exact nmI (by assumption) (by assumption) _ | exact (by assumption : rIv _ _ _) _ _ rfl (by assumption) |>.1 | exact ((by assumption : rIv _ _ _) _ _ rfl (by assumption)).2.1 _ | exact ((by assumption : rIv _ _ _) _ _ rfl (by assumption)).2.2.1 | exact ((by assumption : rIv _ _ _) _ _ rfl (by assumption)).2.2.2.1 | exact ((by assumption : rIv _ _ _) _ _ rfl (by assumption)).2.2.2.2.1 | exact ((by assumption : rIv _ _ _) _ _ rfl (by assumption)).2.2.2.2.2.1 _ | exact ((by assumption : rIv _ _ _) _ _ rfl (by assumption)).2.2.2.2.2.2.1 _ | exact ((by assumption : rIv _ _ _) _ _ rfl (by assumption)).2.2.2.2.2.2.2.1 | exact ((by assumption : rIv _ _ _) _ _ rfl (by assumption)).2.2.2.2.2.2.2.2.1 _ | exact ((by assumption : rIv _ _ _) _ _ rfl (by assumption)).2.2.2.2.2.2.2.2.2 _ | with_reducible refine sat_ite (fun _ => ?_) (fun _ => ?_) | with_reducible refine opDv (by assumption) (fun _ _ => ?_) | with_reducible refine bDv ?_ (fun _ _ _ => ?_))
    all_goals exact ih _ _ (by assumption)
theorem iv_blk (hI : ivc C.1 I) (hr : rIv C.1 I r) (s : pS) (hs : I s) : sat (pBlk z K r C s) (fun _ => I) := by
  unfold pBlk
  (repeat' first | exact sat_err | exact sat_flt | exact sat_prt (by assumption) | exact nxI (by assumption) (by assumption) | exact neI (by assumption) (by assumption) _ | exact nkI (by assumption) (by assumption) _ | exact tkI (by assumption) (by assumption) | exact nnI (by assumption) (by assumption) | exact smI (by assumption) (by assumption) | exact nmI (by assumption) (by assumption) _ | exact (by assumption : rIv _ _ _) _ _ rfl (by assumption) |>.1 | exact ((by assumption : rIv _ _ _) _ _ rfl (by assumption)).2.1 _ | exact ((by assumption : rIv _ _ _) _ _ rfl (by assumption)).2.2.1 | exact ((by assumption : rIv _ _ _) _ _ rfl (by assumption)).2.2.2.1 | exact ((by assumption : rIv _ _ _) _ _ rfl (by assumption)).2.2.2.2.1 | exact ((by assumption : rIv _ _ _) _ _ rfl (by assumption)).2.2.2.2.2.1 _ | exact ((by assumption : rIv _ _ _) _ _ rfl (by assumption)).2.2.2.2.2.2.1 _ | exact ((by assumption : rIv _ _ _) _ _ rfl (by assumption)).2.2.2.2.2.2.2.1 | exact ((by assumption : rIv _ _ _) _ _ rfl (by assumption)).2.2.2.2.2.2.2.2.1 _ | exact ((by assumption : rIv _ _ _) _ _ rfl (by assumption)).2.2.2.2.2.2.2.2.2 _ | with_reducible refine sat_ite (fun _ => ?_) (fun _ => ?_) | with_reducible refine opDv (by assumption) (fun _ _ => ?_) | with_reducible refine bDv ?_ (fun _ _ _ => ?_))
  all_goals first
    | exact iv_stms (by assumption) _ _ _ (by assumption)
theorem iv_rnd (hI : ivc C.1 I) (hr : rIv C.1 I r) (s : pS) (hs : I s) : sat (pRnd z r C s) (fun _ => I) := by
  unfold pRnd
  (repeat' first | exact sat_err | exact sat_flt | exact sat_prt (by assumption) | exact nxI (by assumption) (by assumption) | exact neI (by assumption) (by assumption) _ | exact nkI (by assumption) (by assumption) _ | exact tkI (by assumption) (by assumption) | exact nnI (by assumption) (by assumption) | exact smI (by assumption) (by assumption) | exact nmI (by assumption) (by assumption) _ | exact (by assumption : rIv _ _ _) _ _ rfl (by assumption) |>.1 | exact ((by assumption : rIv _ _ _) _ _ rfl (by assumption)).2.1 _ | exact ((by assumption : rIv _ _ _) _ _ rfl (by assumption)).2.2.1 | exact ((by assumption : rIv _ _ _) _ _ rfl (by assumption)).2.2.2.1 | exact ((by assumption : rIv _ _ _) _ _ rfl (by assumption)).2.2.2.2.1 | exact ((by assumption : rIv _ _ _) _ _ rfl (by assumption)).2.2.2.2.2.1 _ | exact ((by assumption : rIv _ _ _) _ _ rfl (by assumption)).2.2.2.2.2.2.1 _ | exact ((by assumption : rIv _ _ _) _ _ rfl (by assumption)).2.2.2.2.2.2.2.1 | exact ((by assumption : rIv _ _ _) _ _ rfl (by assumption)).2.2.2.2.2.2.2.2.1 _ | exact ((by assumption : rIv _ _ _) _ _ rfl (by assumption)).2.2.2.2.2.2.2.2.2 _ | with_reducible refine sat_ite (fun _ => ?_) (fun _ => ?_) | with_reducible refine opDv (by assumption) (fun _ _ => ?_) | with_reducible refine bDv ?_ (fun _ _ _ => ?_))
theorem iv_lpd (hr : rIv C.1 I r) (s : pS) (hs : I s) : sat (pLpd r C s) (fun _ => I) := (hr (C.1, C.2.1 + 1, C.2.2) s rfl hs).2.2.2.2.2.2.2.1
theorem iv_vars (hI : ivc C.1 I) (hr : rIv C.1 I r) (i : Bool) : ∀ (f m : Nat) (b : Bool) (acc : gSt) (s : pS), I s → sat (pVars z r i C f m b acc s) (fun _ => I) := by
  intro f
  induction f with
  | zero => intros; exact sat_err
  | succ f ih =>
    intro m b acc s hs
    rw [pVars_eq]
    refine bDv (nnI hI hs) (fun x s1 h1 => ?_)
    have h2 := hI.2.2 s1 x h1
    unfold pVb
    (repeat' first | exact sat_err | exact sat_flt | exact sat_prt (by assumption) | exact nxI (by assumption) (by assumption) | exact neI (by assumption) (by assumption) _ | exact nkI (by assumption) (by assumption) _ | exact tkI (by assumption) (by assumption) | exact nnI (by assumption) (by assumption) | exact smI (by assumption) (by assumption) | exact nmI (by assumption) (by assumption) _ | exact (by assumption : rIv _ _ _) _ _ rfl (by assumption) |>.1 | exact ((by assumption : rIv _ _ _) _ _ rfl (by assumption)).2.1 _ | exact ((by assumption : rIv _ _ _) _ _ rfl (by assumption)).2.2.1 | exact ((by assumption : rIv _ _ _) _ _ rfl (by assumption)).2.2.2.1 | exact ((by assumption : rIv _ _ _) _ _ rfl (by assumption)).2.2.2.2.1 | exact ((by assumption : rIv _ _ _) _ _ rfl (by assumption)).2.2.2.2.2.1 _ | exact ((by assumption : rIv _ _ _) _ _ rfl (by assumption)).2.2.2.2.2.2.1 _ | exact ((by assumption : rIv _ _ _) _ _ rfl (by assumption)).2.2.2.2.2.2.2.1 | exact ((by assumption : rIv _ _ _) _ _ rfl (by assumption)).2.2.2.2.2.2.2.2.1 _ | exact ((by assumption : rIv _ _ _) _ _ rfl (by assumption)).2.2.2.2.2.2.2.2.2 _ | with_reducible refine sat_ite (fun _ => ?_) (fun _ => ?_) | with_reducible refine opDv (by assumption) (fun _ _ => ?_) | with_reducible refine bDv ?_ (fun _ _ _ => ?_))
    all_goals exact ih _ _ _ _ (by assumption)
theorem iv_each (hI : ivc C.1 I) (hr : rIv C.1 I r) (x : Nat) (s : pS) (hs : I s) : sat (pEach z r C x s) (fun _ => I) := by
  unfold pEach
  (repeat' first | exact sat_err | exact sat_flt | exact sat_prt (by assumption) | exact nxI (by assumption) (by assumption) | exact neI (by assumption) (by assumption) _ | exact nkI (by assumption) (by assumption) _ | exact tkI (by assumption) (by assumption) | exact nnI (by assumption) (by assumption) | exact smI (by assumption) (by assumption) | exact nmI (by assumption) (by assumption) _ | exact (by assumption : rIv _ _ _) _ _ rfl (by assumption) |>.1 | exact ((by assumption : rIv _ _ _) _ _ rfl (by assumption)).2.1 _ | exact ((by assumption : rIv _ _ _) _ _ rfl (by assumption)).2.2.1 | exact ((by assumption : rIv _ _ _) _ _ rfl (by assumption)).2.2.2.1 | exact ((by assumption : rIv _ _ _) _ _ rfl (by assumption)).2.2.2.2.1 | exact ((by assumption : rIv _ _ _) _ _ rfl (by assumption)).2.2.2.2.2.1 _ | exact ((by assumption : rIv _ _ _) _ _ rfl (by assumption)).2.2.2.2.2.2.1 _ | exact ((by assumption : rIv _ _ _) _ _ rfl (by assumption)).2.2.2.2.2.2.2.1 | exact ((by assumption : rIv _ _ _) _ _ rfl (by assumption)).2.2.2.2.2.2.2.2.1 _ | exact ((by assumption : rIv _ _ _) _ _ rfl (by assumption)).2.2.2.2.2.2.2.2.2 _ | with_reducible refine sat_ite (fun _ => ?_) (fun _ => ?_) | with_reducible refine opDv (by assumption) (fun _ _ => ?_) | with_reducible refine bDv ?_ (fun _ _ _ => ?_))
  all_goals first
    | exact iv_lpd (by assumption) _ (by assumption)
theorem iv_for2 (hI : ivc C.1 I) (hr : rIv C.1 I r) (i : gSt) (s : pS) (hs : I s) : sat (pFor2 z r C i s) (fun _ => I) := by
  unfold pFor2
  (repeat' first | exact sat_err | exact sat_flt | exact sat_prt (by assumption) | exact nxI (by assumption) (by assumption) | exact neI (by assumption) (by assumption) _ | exact nkI (by assumption) (by assumption) _ | exact tkI (by assumption) (by assumption) | exact nnI (by assumption) (by assumption) | exact smI (by assumption) (by assumption) | exact nmI (by assumption) (by assumption) _ | exact (by assumption : rIv _ _ _) _ _ rfl (by assumption) |>.1 | exact ((by assumption : rIv _ _ _) _ _ rfl (by assumption)).2.1 _ | exact ((by assumption : rIv _ _ _) _ _ rfl (by assumption)).2.2.1 | exact ((by assumption : rIv _ _ _) _ _ rfl (by assumption)).2.2.2.1 | exact ((by assumption : rIv _ _ _) _ _ rfl (by assumption)).2.2.2.2.1 | exact ((by assumption : rIv _ _ _) _ _ rfl (by assumption)).2.2.2.2.2.1 _ | exact ((by assumption : rIv _ _ _) _ _ rfl (by assumption)).2.2.2.2.2.2.1 _ | exact ((by assumption : rIv _ _ _) _ _ rfl (by assumption)).2.2.2.2.2.2.2.1 | exact ((by assumption : rIv _ _ _) _ _ rfl (by assumption)).2.2.2.2.2.2.2.2.1 _ | exact ((by assumption : rIv _ _ _) _ _ rfl (by assumption)).2.2.2.2.2.2.2.2.2 _ | with_reducible refine sat_ite (fun _ => ?_) (fun _ => ?_) | with_reducible refine opDv (by assumption) (fun _ _ => ?_) | with_reducible refine bDv ?_ (fun _ _ _ => ?_))
  all_goals first
    | exact iv_lpd (by assumption) _ (by assumption)
theorem iv_for (hI : ivc C.1 I) (hr : rIv C.1 I r) (s : pS) (hs : I s) : sat (pFor z K r C s) (fun _ => I) := by
  unfold pFor
  (repeat' first | exact sat_err | exact sat_flt | exact sat_prt (by assumption) | exact nxI (by assumption) (by assumption) | exact neI (by assumption) (by assumption) _ | exact nkI (by assumption) (by assumption) _ | exact tkI (by assumption) (by assumption) | exact nnI (by assumption) (by assumption) | exact smI (by assumption) (by assumption) | exact nmI (by assumption) (by assumption) _ | exact (by assumption : rIv _ _ _) _ _ rfl (by assumption) |>.1 | exact ((by assumption : rIv _ _ _) _ _ rfl (by assumption)).2.1 _ | exact ((by assumption : rIv _ _ _) _ _ rfl (by assumption)).2.2.1 | exact ((by assumption : rIv _ _ _) _ _ rfl (by assumption)).2.2.2.1 | exact ((by assumption : rIv _ _ _) _ _ rfl (by assumption)).2.2.2.2.1 | exact ((by assumption : rIv _ _ _) _ _ rfl (by assumption)).2.2.2.2.2.1 _ | exact ((by assumption : rIv _ _ _) _ _ rfl (by assumption)).2.2.2.2.2.2.1 _ | exact ((by assumption : rIv _ _ _) _ _ rfl (by assumption)).2.2.2.2.2.2.2.1 | exact ((by assumption : rIv _ _ _) _ _ rfl (by assumption)).2.2.2.2.2.2.2.2.1 _ | exact ((by assumption : rIv _ _ _) _ _ rfl (by assumption)).2.2.2.2.2.2.2.2.2 _ | with_reducible refine sat_ite (fun _ => ?_) (fun _ => ?_) | with_reducible refine opDv (by assumption) (fun _ _ => ?_) | with_reducible refine bDv ?_ (fun _ _ _ => ?_))
  all_goals first
    | exact iv_vars (by assumption) (by assumption) _ _ _ _ _ _ (by assumption)
    | exact iv_each (by assumption) (by assumption) _ _ (by assumption)
    | exact iv_for2 (by assumption) (by assumption) _ _ (by assumption)
theorem iv_try (hI : ivc C.1 I) (hr : rIv C.1 I r) (s : pS) (hs : I s) : sat (pTry z K r C s) (fun _ => I) := by
  rw [pTry_eq]
  refine bDv (iv_blk hI hr s hs) (fun y s1 h1 => ?_)
  refine bDv ?_ (fun q s2 h2 => ?_)
  · refine sat_ite (fun _ => ?_) (fun _ => sat_prt h1)
    refine bDv (nxI hI h1) (fun _ s3 h3 => bDv (neI hI h3 _) (fun _ s4 h4 => bDv (nnI hI h4) (fun x s5 h5 => ?_)))
    have h6 := hI.2.2 s5 x h5
    unfold pTb
    (repeat' first | exact sat_err | exact sat_flt | exact sat_prt (by assumption) | exact nxI (by assumption) (by assumption) | exact neI (by assumption) (by assumption) _ | exact nkI (by assumption) (by assumption) _ | exact tkI (by assumption) (by assumption) | exact nnI (by assumption) (by assumption) | exact smI (by assumption) (by assumption) | exact nmI (by assumption) (by assumption) _ | exact (by assumption : rIv _ _ _) _ _ rfl (by assumption) |>.1 | exact ((by assumption : rIv _ _ _) _ _ rfl (by assumption)).2.1 _ | exact ((by assumption : rIv _ _ _) _ _ rfl (by assumption)).2.2.1 | exact ((by assumption : rIv _ _ _) _ _ rfl (by assumption)).2.2.2.1 | exact ((by assumption : rIv _ _ _) _ _ rfl (by assumption)).2.2.2.2.1 | exact ((by assumption : rIv _ _ _) _ _ rfl (by assumption)).2.2.2.2.2.1 _ | exact ((by assumption : rIv _ _ _) _ _ rfl (by assumption)).2.2.2.2.2.2.1 _ | exact ((by assumption : rIv _ _ _) _ _ rfl (by assumption)).2.2.2.2.2.2.2.1 | exact ((by assumption : rIv _ _ _) _ _ rfl (by assumption)).2.2.2.2.2.2.2.2.1 _ | exact ((by assumption : rIv _ _ _) _ _ rfl (by assumption)).2.2.2.2.2.2.2.2.2 _ | with_reducible refine sat_ite (fun _ => ?_) (fun _ => ?_) | with_reducible refine opDv (by assumption) (fun _ _ => ?_) | with_reducible refine bDv ?_ (fun _ _ _ => ?_))
    all_goals exact iv_blk (by assumption) (by assumption) _ (by assumption)
  · unfold pTf
    (repeat' first | exact sat_err | exact sat_flt | exact sat_prt (by assumption) | exact nxI (by assumption) (by assumption) | exact neI (by assumption) (by assumption) _ | exact nkI (by assumption) (by assumption) _ | exact tkI (by assumption) (by assumption) | exact nnI (by assumption) (by assumption) | exact smI (by assumption) (by assumption) | exact nmI (by assumption) (by assumption) _ | exact (by assumption : rIv _ _ _) _ _ rfl (by assumption) |>.1 | exact ((by assumption : rIv _ _ _) _ _ rfl (by assumption)).2.1 _ | exact ((by assumption : rIv _ _ _) _ _ rfl (by assumption)).2.2.1 | exact ((by assumption : rIv _ _ _) _ _ rfl (by assumption)).2.2.2.1 | exact ((by assumption : rIv _ _ _) _ _ rfl (by assumption)).2.2.2.2.1 | exact ((by assumption : rIv _ _ _) _ _ rfl (by assumption)).2.2.2.2.2.1 _ | exact ((by assumption : rIv _ _ _) _ _ rfl (by assumption)).2.2.2.2.2.2.1 _ | exact ((by assumption : rIv _ _ _) _ _ rfl (by assumption)).2.2.2.2.2.2.2.1 | exact ((by assumption : rIv _ _ _) _ _ rfl (by assumption)).2.2.2.2.2.2.2.2.1 _ | exact ((by assumption : rIv _ _ _) _ _ rfl (by assumption)).2.2.2.2.2.2.2.2.2 _ | with_reducible refine sat_ite (fun _ => ?_) (fun _ => ?_) | with_reducible refine opDv (by assumption) (fun _ _ => ?_) | with_reducible refine bDv ?_ (fun _ _ _ => ?_))
    all_goals exact iv_blk (by assumption) (by assumption) _ (by assumption)
theorem iv_cas (hI : ivc C.1 I) (hr : rIv C.1 I r) : ∀ (f : Nat) (d : Bool) (acc : List (Option gEx × gSt)) (s : pS), I s → sat (pCas z K r C f d acc s) (fun _ => I) := by
  intro f
  induction f with
  | zero => intros; exact sat_err
  | succ f ih =>
    intro d acc s hs
    unfold pCas
    (repeat' first | exact sat_err | exact sat_flt | exact sat_prt (by assumption) | exact nxI (by assumption) (by assumption) | exact neI (by assumption) (by assumption) _ | exact nkI (by assumption) (by assumption) _ | exact tkI (by assumption) (by assumption) | exact nnI (by assumption) (by assumption) | exact smI (by assumption) (by assumption) | exact nmI (by assumption) (by assumption) _ | exact (by assumption : rIv _ _ _) _ _ rfl (by assumption) |>.1 | exact ((by assumption : rIv _ _ _) _ _ rfl (by assumption)).2.1 _ | exact ((by assumption : rIv _ _ _) _ _ rfl (by assumption)).2.2.1 | exact ((by assumption : rIv _ _ _) _ _ rfl (by assumption)).2.2.2.1 | exact ((by assumption : rIv _ _ _) _ _ rfl (by assumption)).2.2.2.2.1 | exact ((by assumption : rIv _ _ _) _ _ rfl (by assumption)).2.2.2.2.2.1 _ | exact ((by assumption : rIv _ _ _) _ _ rfl (by assumption)).2.2.2.2.2.2.1 _ | exact ((by assumption : rIv _ _ _) _ _ rfl (by assumption)).2.2.2.2.2.2.2.1 | exact ((by assumption : rIv _ _ _) _ _ rfl (by assumption)).2.2.2.2.2.2.2.2.1 _ | exact ((by assumption : rIv _ _ _) _ _ rfl (by assumption)).2.2.2.2.2.2.2.2.2 _ | with_reducible refine sat_ite (fun _ => ?_) (fun _ => ?_) | with_reducible refine opDv (by assumption) (fun _ _ => ?_) | with_reducible refine bDv ?_ (fun _ _ _ => ?_))
    all_goals first
      | exact iv_stms (by assumption) _ _ _ (by assumption)
      | exact ih _ _ _ (by assumption)
theorem iv_swi (hI : ivc C.1 I) (hr : rIv C.1 I r) (s : pS) (hs : I s) : sat (pSwi z K r C s) (fun _ => I) := by
  unfold pSwi
  refine bDv (iv_rnd hI hr s hs) (fun e s1 h1 => bDv (neI hI h1 _) (fun _ s2 h2 => bDv (iv_cas (C := (C.1, C.2.1, C.2.2 + 1)) hI hr _ _ _ _ h2) (fun l s3 h3 => bDv (nxI hI h3) (fun _ s4 h4 => sat_prt h4))))
theorem iv_inn (hI : ivc C.1 I) (hr : rIv C.1 I r) (w : Int32) (s : pS) (hs : I s) : sat (pInn z K w r C s) (fun _ => I) := by
  unfold pInn
  (repeat' first | exact sat_err | exact sat_flt | exact sat_prt (by assumption) | exact nxI (by assumption) (by assumption) | exact neI (by assumption) (by assumption) _ | exact nkI (by assumption) (by assumption) _ | exact tkI (by assumption) (by assumption) | exact nnI (by assumption) (by assumption) | exact smI (by assumption) (by assumption) | exact nmI (by assumption) (by assumption) _ | exact (by assumption : rIv _ _ _) _ _ rfl (by assumption) |>.1 | exact ((by assumption : rIv _ _ _) _ _ rfl (by assumption)).2.1 _ | exact ((by assumption : rIv _ _ _) _ _ rfl (by assumption)).2.2.1 | exact ((by assumption : rIv _ _ _) _ _ rfl (by assumption)).2.2.2.1 | exact ((by assumption : rIv _ _ _) _ _ rfl (by assumption)).2.2.2.2.1 | exact ((by assumption : rIv _ _ _) _ _ rfl (by assumption)).2.2.2.2.2.1 _ | exact ((by assumption : rIv _ _ _) _ _ rfl (by assumption)).2.2.2.2.2.2.1 _ | exact ((by assumption : rIv _ _ _) _ _ rfl (by assumption)).2.2.2.2.2.2.2.1 | exact ((by assumption : rIv _ _ _) _ _ rfl (by assumption)).2.2.2.2.2.2.2.2.1 _ | exact ((by assumption : rIv _ _ _) _ _ rfl (by assumption)).2.2.2.2.2.2.2.2.2 _ | with_reducible refine sat_ite (fun _ => ?_) (fun _ => ?_) | with_reducible refine opDv (by assumption) (fun _ _ => ?_) | with_reducible refine bDv ?_ (fun _ _ _ => ?_))
  all_goals first
    | exact iv_vars (by assumption) (by assumption) _ _ _ _ _ _ (by assumption)
    | exact iv_rnd (by assumption) (by assumption) _ (by assumption)
    | exact iv_lpd (by assumption) _ (by assumption)
    | exact iv_for (by assumption) (by assumption) _ (by assumption)
    | exact iv_try (by assumption) (by assumption) _ (by assumption)
    | exact iv_swi (by assumption) (by assumption) _ (by assumption)
theorem iv_stm (hI : ivc C.1 I) (hro : oIv C.1 I ro) (s : pS) (hs : I s) : sat (pStm z K ro C s) (fun _ => I) := by
  unfold pStm
  (repeat' first | exact sat_err | exact sat_flt | exact sat_prt (by assumption) | exact nxI (by assumption) (by assumption) | exact neI (by assumption) (by assumption) _ | exact nkI (by assumption) (by assumption) _ | exact tkI (by assumption) (by assumption) | exact nnI (by assumption) (by assumption) | exact smI (by assumption) (by assumption) | exact nmI (by assumption) (by assumption) _ | exact (by assumption : rIv _ _ _) _ _ rfl (by assumption) |>.1 | exact ((by assumption : rIv _ _ _) _ _ rfl (by assumption)).2.1 _ | exact ((by assumption : rIv _ _ _) _ _ rfl (by assumption)).2.2.1 | exact ((by assumption : rIv _ _ _) _ _ rfl (by assumption)).2.2.2.1 | exact ((by assumption : rIv _ _ _) _ _ rfl (by assumption)).2.2.2.2.1 | exact ((by assumption : rIv _ _ _) _ _ rfl (by assumption)).2.2.2.2.2.1 _ | exact ((by assumption : rIv _ _ _) _ _ rfl (by assumption)).2.2.2.2.2.2.1 _ | exact ((by assumption : rIv _ _ _) _ _ rfl (by assumption)).2.2.2.2.2.2.2.1 | exact ((by assumption : rIv _ _ _) _ _ rfl (by assumption)).2.2.2.2.2.2.2.2.1 _ | exact ((by assumption : rIv _ _ _) _ _ rfl (by assumption)).2.2.2.2.2.2.2.2.2 _ | with_reducible refine sat_ite (fun _ => ?_) (fun _ => ?_) | with_reducible refine opDv (by assumption) (fun _ _ => ?_) | with_reducible refine bDv ?_ (fun _ _ _ => ?_))
  all_goals first
    | exact iv_inn (by assumption) (by assumption) _ _ (by assumption)
    | exact iv_blk (by assumption) (by assumption) _ (by assumption)
theorem iv_pts {st : pC → pS → pR gSt} {fn : pC → pS → pR (Nat × Nat)} (hst : ∀ s, I s → sat (st C s) (fun _ => I)) (hfn : ∀ s, I s → sat (fn C s) (fun _ => I)) {stop : pS → Bool} : ∀ (u : Nat) (dc : List (Nat × Nat)) (acc : gSt) (s : pS), I s → sat (pPts z st fn C stop u dc acc s) (fun _ => I) := by
  intro u
  induction u with
  | zero => intros; exact sat_err
  | succ u ih =>
    intro dc acc s hs
    unfold pPts
    refine sat_ite (fun _ => sat_prt hs) (fun _ => sat_ite (fun _ => bDv (hfn s hs) fun f s1 h1 => ih _ _ _ h1) (fun _ => bDv (hst s hs) fun y s1 h1 => ih _ _ _ h1))
theorem iv_dcl (hI : ivc C.1 I) (hro : oIv C.1 I ro) (s : pS) (hs : I s) : sat (pDcl z ro C s) (fun _ => I) := by
  unfold pDcl
  (repeat' first | exact sat_err | exact sat_flt | exact sat_prt (by assumption) | exact nxI (by assumption) (by assumption) | exact neI (by assumption) (by assumption) _ | exact nkI (by assumption) (by assumption) _ | exact tkI (by assumption) (by assumption) | exact nnI (by assumption) (by assumption) | exact smI (by assumption) (by assumption) | exact nmI (by assumption) (by assumption) _ | exact (by assumption : rIv _ _ _) _ _ rfl (by assumption) |>.1 | exact ((by assumption : rIv _ _ _) _ _ rfl (by assumption)).2.1 _ | exact ((by assumption : rIv _ _ _) _ _ rfl (by assumption)).2.2.1 | exact ((by assumption : rIv _ _ _) _ _ rfl (by assumption)).2.2.2.1 | exact ((by assumption : rIv _ _ _) _ _ rfl (by assumption)).2.2.2.2.1 | exact ((by assumption : rIv _ _ _) _ _ rfl (by assumption)).2.2.2.2.2.1 _ | exact ((by assumption : rIv _ _ _) _ _ rfl (by assumption)).2.2.2.2.2.2.1 _ | exact ((by assumption : rIv _ _ _) _ _ rfl (by assumption)).2.2.2.2.2.2.2.1 | exact ((by assumption : rIv _ _ _) _ _ rfl (by assumption)).2.2.2.2.2.2.2.2.1 _ | exact ((by assumption : rIv _ _ _) _ _ rfl (by assumption)).2.2.2.2.2.2.2.2.2 _ | with_reducible refine sat_ite (fun _ => ?_) (fun _ => ?_) | with_reducible refine opDv (by assumption) (fun _ _ => ?_) | with_reducible refine bDv ?_ (fun _ _ _ => ?_))
end
/-- function k is at most h deep -/
def dpL (F : List gF) : Nat → Nat → Prop
  | 0, k => k = 0
  | h + 1, k => k = 0 ∨ ∃ q, F[k]? = some q ∧ dpL F h q.2.2.2.1
/-- where functions lie stays -/
def ouK (F F' : List gF) : Prop := ∀ (k : Nat) q, F[k]? = some q → ∃ q', F'[k]? = some q' ∧ q'.2.2.2.1 = q.2.2.2.1
theorem dpL.mv {F F' : List gF} (ho : ouK F F') : ∀ {h k : Nat}, dpL F h k → dpL F' h k
  | 0, _, h => h
  | h + 1, k, hk => hk.imp id fun ⟨q, h1, h2⟩ => by
    obtain ⟨q', e1, e2⟩ := ho k q h1
    exact ⟨q', e1, by rw [e2]; exact dpL.mv ho h2⟩
theorem dpL.up {F : List gF} : ∀ {h h' k : Nat}, dpL F h k → h ≤ h' → dpL F h' k
  | 0, 0, _, h, _ => h
  | 0, h' + 1, _, h, _ => .inl h
  | h + 1, 0, _, _, hh => by omega
  | h + 1, h' + 1, _, hk, hh => hk.imp id fun ⟨q, h1, h2⟩ => ⟨q, h1, h2.up (by omega)⟩
theorem ouK.rf {F : List gF} : ouK F F := fun _ q h => ⟨q, h, rfl⟩
theorem ouK_set {F : List gF} {N : Nat} {q q' : gF} (hq : F[N]? = some q) (ho : q'.2.2.2.1 = q.2.2.2.1) : ouK F (F.set N q') := fun k p hp => by
  by_cases e : k = N
  · subst e
    rw [hq] at hp
    cases hp
    exact ⟨q', List.getElem?_set_self (List.getElem?_eq_some_iff.mp hq).1, ho⟩
  · exact ⟨p, by rw [List.getElem?_set_ne (Ne.symm e)]; exact hp, rfl⟩
theorem ouK_hld (c x : Nat) (s : pS) : ouK s.2.2 (hld c x s).2.2 ∧ (hld c x s).2.2.length = s.2.2.length := by
  show ouK s.2.2 (adV c x s.2.2) ∧ (adV c x s.2.2).length = _
  unfold adV
  cases h : s.2.2[c]? with
  | none => exact ⟨ouK.rf, rfl⟩
  | some q => exact ⟨ouK_set h rfl, List.length_set⟩
theorem ouK_setF {g : gF → gF} (hg : ∀ q, (g q).2.2.2.1 = q.2.2.2.1) (N : Nat) (s : pS) : ouK s.2.2 (setF N g s).2.2 ∧ (setF N g s).2.2.length = s.2.2.length := by
  unfold setF
  dsimp only
  cases h : s.2.2[N]? with
  | none => exact ⟨ouK.rf, rfl⟩
  | some q => exact ⟨ouK_set h (hg q), List.length_set⟩
/-- all functions are at most 20 deep; c at most h; what s0 has is there -/
def dI (c h : Nat) (s0 s : pS) : Prop := (∀ k, k < s.2.2.length → dpL s.2.2 20 k) ∧ dpL s.2.2 h c ∧ ∀ h' k, dpL s0.2.2 h' k → dpL s.2.2 h' k
theorem dI.mv {c h : Nat} {s0 s s' : pS} (hs : dI c h s0 s) (ho : ouK s.2.2 s'.2.2) (hl : s'.2.2.length = s.2.2.length) : dI c h s0 s' := ⟨fun k hk => (hs.1 k (by omega)).mv ho, hs.2.1.mv ho, fun h' k hk => (hs.2.2 h' k hk).mv ho⟩
theorem dI.set {c h N : Nat} {s0 s : pS} {g : gF → gF} (hs : dI c h s0 s) (hg : ∀ q, (g q).2.2.2.1 = q.2.2.2.1) : dI c h s0 (setF N g s) := hs.mv (ouK_setF hg N s).1 (ouK_setF hg N s).2
theorem ivc_dI (c h c' : Nat) (s0 : pS) : ivc c' (dI c h s0) := ⟨fun _ hs => hs, fun _ _ hs => hs, fun s x hs => hs.mv (ouK_hld c' x s).1 (ouK_hld c' x s).2⟩
section
variable {z : pZ} {K : Nat}
theorem iv_pars {I : pS → Prop} {N : Nat} (hI : ivc N I) : ∀ (u m : Nat) (s : pS), I s → sat (pPars z N u m s) (fun _ => I) := by
  intro u
  induction u with
  | zero => intros; exact sat_err
  | succ u ih =>
    intro m s hs
    rw [pPars_eq]
    refine sat_ite (fun _ => sat_prt hs) (fun _ => sat_ite (fun _ => sat_flt) (fun _ => sat_ite (fun _ => sat_flt) (fun _ => bDv (tkI hI hs) fun x s1 h1 => ?_)))
    have h2 := hI.2.2 s1 x h1
    unfold pPb
    refine sat_ite (fun _ => ih _ _ h2) (fun _ => sat_ite (fun _ => sat_flt) (fun _ => bDv (neI hI h2 _) fun _ s3 h3 => sat_ite (fun _ => ih _ _ h3) (fun _ => sat_flt)))
theorem iv_fun {ro : Option pT} {j : Nat} (hro : ∀ r', ro = some r' → ∀ c h s0, h + j ≤ 20 → rIv c (dI c h s0) r') (d : Bool) {c h : Nat} {s0 : pS} (hh : h + j ≤ 19) (C : pC) (s : pS) (hC : C.1 = c) (hs : dI c h s0 s) : sat (pFun z K ro d C s) (fun _ => dI c h s0) := by
  subst hC
  rw [pFun_eq]
  have ho : ouK s.2.2 (s.2.2 ++ [([], 0, none, C.1, [], gNo)]) := fun k q hq => ⟨q, by rw [List.getElem?_append_left (List.getElem?_eq_some_iff.mp hq).1]; exact hq, rfl⟩
  have e0 : (s.2.2 ++ [(([], 0, none, C.1, [], gNo) : gF)])[s.2.2.length]? = some ([], 0, none, C.1, [], gNo) := by rw [List.getElem?_append_right (Nat.le_refl _), Nat.sub_self]; rfl
  have hN : dpL (s.2.2 ++ [([], 0, none, C.1, [], gNo)]) (h + 1) s.2.2.length := .inr ⟨_, e0, hs.2.1.mv ho⟩
  have key : ∀ s1 : pS, s1 = (s.1, s.2.1, s.2.2 ++ [([], 0, none, C.1, [], gNo)]) → sat (pFb z K ro d C s.2.2.length s1) (fun _ => dI s.2.2.length (h + 1) s1) := fun s1 e1 => by
    have hI := ivc_dI s.2.2.length (h + 1) s.2.2.length s1
    have h1 : dI s.2.2.length (h + 1) s1 s1 := by
      rw [e1]
      refine ⟨fun k hk => ?_, hN, fun _ _ y => y⟩
      have hk : k < (s.2.2 ++ [(([], 0, none, C.1, [], gNo) : gF)]).length := hk
      rw [List.length_append] at hk
      have hk : k < s.2.2.length + 1 := hk
      by_cases y : k = s.2.2.length
      · rw [y]; exact hN.up (by omega)
      · exact (hs.1 k (by omega)).mv ho
    have hr : oIv s.2.2.length (dI s.2.2.length (h + 1) s1) ro := fun r' e => hro r' e _ _ _ (by omega)
    unfold pFb
    refine bDv ?_ (fun x s2 h2 => ?_)
    · refine sat_ite (fun _ => bDv (nnI hI h1) fun x s2 h2 => sat_prt ?_) (fun _ => sat_ite (fun _ => bDv (tkI hI h1) fun x s2 h2 => sat_prt (h2.set fun _ => rfl)) (fun _ => sat_prt h1))
      split
      · exact h2
      · exact (ivc_dI _ _ C.1 s1).2.2 _ _ h2
    · unfold pFi pFe
      refine bDv (neI hI h2 _) (fun _ s3 h3 => bDv (iv_pars hI _ _ _ h3) (fun m s4 h4 => bDv (nxI hI h4) (fun _ s5 h5 => ?_)))
      have h6 : dI s.2.2.length (h + 1) s1 (setF s.2.2.length (ownF m) s5) := h5.set fun _ => rfl
      refine bDv (neI hI h6 _) (fun _ s7 h7 => bDv (iv_pts (C := (s.2.2.length, 0, 0)) (fun s' hs' => iv_stm (C := (s.2.2.length, 0, 0)) hI hr s' hs') (fun s' hs' => iv_dcl (C := (s.2.2.length, 0, 0)) hI hr s' hs') _ _ _ _ h7) (fun q s8 h8 => bDv (nxI hI h8) (fun _ s9 h9 => sat_prt (h9.set fun _ => rfl))))
  refine (key _ rfl).mono fun _ s' h' => ⟨h'.1, h'.2.2 _ _ (hs.2.1.mv ho), fun h'' k hk => h'.2.2 _ _ ((hs.2.2 h'' k hk).mv ho)⟩
theorem iv_mk {ro : Option pT} {j : Nat} (hro : ∀ r', ro = some r' → ∀ c h s0, h + j ≤ 20 → rIv c (dI c h s0) r') {c h : Nat} {s0 : pS} (hh : h + j ≤ 19) : rIv c (dI c h s0) (pMk z K ro) := fun C s hC hs => by
  subst hC
  have hI := ivc_dI C.1 h C.1 s0
  have hr : oIv C.1 (dI C.1 h s0) ro := fun r' e => hro r' e _ _ _ (by omega)
  exact ⟨iv_prim hI hr s hs, fun e => iv_mem hI hr e s hs, iv_args hI hr s hs, iv_made hI hr s hs, iv_unit hI hr s hs, fun i => iv_asg hI hr i s hs, fun i => iv_expr hI hr i s hs, iv_stm hI hr s hs, fun d => iv_fun hro d hh C s rfl hs, fun i => iv_wth hI hr i s hs⟩
theorem iv_lv : ∀ (j c h : Nat) (s0 : pS), h + j ≤ 19 → rIv c (dI c h s0) (pLv z K j)
  | 0, c, h, s0, hh => iv_mk (j := 0) (fun r' e => by cases e) hh
  | j + 1, c, h, s0, hh => iv_mk (j := j + 1) (fun r' e c h s0 hh => by cases e; exact iv_lv j c h s0 (by omega)) hh
/-- a whole script's functions are not deep -/
theorem dep_scr {L : List (List Int32)} {s' : pS} (e : pScr z K L = .ok ((), s')) : ∀ k, k < s'.2.2.length → dpL s'.2.2 20 k := by
  have key : sat (pScr z K L) (fun _ s' => ∀ k, k < s'.2.2.length → dpL s'.2.2 20 k) := by
    unfold pScr
    refine sat_ite (fun _ => sat_err) (fun _ => ?_)
    have hI := ivc_dI 0 0 0 ((0, L, [([], 0, none, 0, [], gNo)]) : pS)
    have hr : oIv 0 (dI 0 0 ((0, L, [([], 0, none, 0, [], gNo)]) : pS)) (some (pLv z K 19)) := fun r' e => by cases e; exact iv_lv 19 0 0 _ (by omega)
    have h0 : dI 0 0 ((0, L, [([], 0, none, 0, [], gNo)]) : pS) (0, L, [([], 0, none, 0, [], gNo)]) := ⟨fun k hk => by
      have hk : k < 1 := hk
      exact .inl (by omega), rfl, fun _ _ y => y⟩
    have h1 : sat (pPts z (pLv z K 20).stmt (pDcl z (some (pLv z K 19))) (0, 0, 0) (fun s => decide (tkd z s.1 = 0)) K [] gNo (0, L, [([], 0, none, 0, [], gNo)])) (fun _ => dI 0 0 ((0, L, [([], 0, none, 0, [], gNo)]) : pS)) := iv_pts (C := (0, 0, 0)) (fun s' hs' => iv_stm (C := (0, 0, 0)) (ro := some (pLv z K 19)) hI hr s' hs') (fun s' hs' => iv_dcl (C := (0, 0, 0)) hI hr s' hs') _ _ _ _ h0
    refine sat_bnd (h1.mono fun q s1 h2 => sat_prt ?_)
    exact (h2.set (N := 0) (g := fun p => (p.1, p.2.1, p.2.2.1, p.2.2.2.1, q.1, q.2)) fun _ => rfl).1
  exact key () s' e
end
