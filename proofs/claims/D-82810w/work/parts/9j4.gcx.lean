/-! AN EXPRESSION's CODE depends on what is around only by the open try, the values below and the tries -/
def smC (Γ Γ' : gK) : Prop := opn Γ = opn Γ' ∧ skk Γ = skk Γ' ∧ trs Γ = trs Γ'
theorem smC_lp {w : gW} {Γ : gK} (h1 : w.1 ≠ 2) (h2 : w.2.1 = []) : smC (w :: Γ) Γ := by
  refine ⟨?_, ?_, ?_⟩
  · unfold opn; rw [if_neg h1]; cases Γ <;> rfl
  · show w.2.1 ++ skk Γ = skk Γ; rw [h2]; rfl
  · show (if w.1 = 2 then _ else trs Γ) = trs Γ; rw [if_neg h1]
theorem em_cx {Γ Γ' : gK} (h : smC Γ Γ') (e : gN) (L : List Bool) (op a b : Int32) (m : Option Nat) : em e Γ L op a b m = em e Γ' L op a b m := by
  funext s; unfold em; rw [h.1, h.2.1, h.2.2]
def gcx (g : gEx) : Prop := ∀ e Γ Γ', smC Γ Γ' → g e Γ = g e Γ'
theorem gcx_Co (s v : Int32) : gcx (gCo s v) := fun e Γ Γ' h => by unfold gCo; simp only [em_cx h]
theorem gcx_Th : gcx gTh := fun e Γ Γ' h => by unfold gTh; simp only [em_cx h]
theorem gcx_Get (x : Nat) : gcx (gGet x) := fun e Γ Γ' h => by funext L s; unfold gGet; split <;> rw [em_cx h]
theorem gcx_Set (x : Nat) : gcx (gSet x) := fun e Γ Γ' h => by funext L s; unfold gSet; split <;> rw [em_cx h]
theorem gcx_Md (f : Nat) : gcx (gMd f) := fun e Γ Γ' h => by unfold gMd; simp only [em_cx h]
theorem gcx_Mem {o k : gEx} (ho : gcx o) (hk : gcx k) : gcx (gMem o k) := fun e Γ Γ' h => by unfold gMem; simp only [em_cx h, ho e Γ Γ' h, hk e Γ Γ' h]
theorem gcx_Arg : ∀ {as : List gEx}, (∀ a ∈ as, gcx a) → gcx (gArg as)
  | [], _ => fun _ _ _ _ => rfl
  | a :: as, h => fun e Γ Γ' hc => by
    have h1 := gcx_Arg (as := as) (fun a' h' => h a' (List.mem_cons_of_mem _ h')) e Γ Γ' hc
    have h2 := h a List.mem_cons_self e Γ Γ' hc
    funext L s
    show gArg as e Γ (psh 1 L) (a e Γ L s) = gArg as e Γ' (psh 1 L) (a e Γ' L s)
    rw [h1, h2]
theorem gcx_Call {f : gEx} {as : List gEx} (hf : gcx f) (ha : ∀ a ∈ as, gcx a) : gcx (gCall f as) := fun e Γ Γ' h => by unfold gCall; simp only [em_cx h, hf e Γ Γ' h, gcx_Arg ha e Γ Γ' h]
theorem gcx_CallM {o k : gEx} {as : List gEx} (ho : gcx o) (hk : gcx k) (ha : ∀ a ∈ as, gcx a) : gcx (gCallM o k as) := fun e Γ Γ' h => by unfold gCallM; simp only [em_cx h, ho e Γ Γ' h, hk e Γ Γ' h, gcx_Arg ha e Γ Γ' h]
theorem gcx_New {f : gEx} {as : List gEx} (hf : gcx f) (ha : ∀ a ∈ as, gcx a) : gcx (gNew f as) := fun e Γ Γ' h => by unfold gNew; simp only [em_cx h, hf e Γ Γ' h, gcx_Arg ha e Γ Γ' h]
theorem gcx_Its : ∀ {r : List (Int32 × Int32 × gEx)}, (∀ q ∈ r, gcx q.2.2) → gcx (gIts r)
  | [], _ => fun _ _ _ _ => rfl
  | (s, v, x) :: r, h => fun e Γ Γ' hc => by
    have h1 := gcx_Its (r := r) (fun a' h' => h a' (List.mem_cons_of_mem _ h')) e Γ Γ' hc
    have h2 := h (s, v, x) List.mem_cons_self e Γ Γ' hc
    have h2 : x e Γ = x e Γ' := h2
    unfold gIts
    simp only [em_cx hc, h1, h2]
theorem gcx_Itm {op : Int32} {r : List (Int32 × Int32 × gEx)} (hr : ∀ q ∈ r, gcx q.2.2) : gcx (gItm op r) := fun e Γ Γ' h => by unfold gItm; simp only [em_cx h, gcx_Its hr e Γ Γ' h]
theorem gcx_Un {s : Int32} {x : gEx} (hx : gcx x) : gcx (gUn s x) := fun e Γ Γ' h => by unfold gUn; simp only [em_cx h, hx e Γ Γ' h]
theorem gcx_Void {x : gEx} (hx : gcx x) : gcx (gVoid x) := fun e Γ Γ' h => by unfold gVoid; simp only [em_cx h, hx e Γ Γ' h]
theorem gcx_Del {o k : gEx} (ho : gcx o) (hk : gcx k) : gcx (gDel o k) := fun e Γ Γ' h => by unfold gDel; simp only [em_cx h, ho e Γ Γ' h, hk e Γ Γ' h]
theorem gcx_Typ (x : Nat) : gcx (gTyp x) := fun e Γ Γ' h => by funext L s; unfold gTyp; split <;> simp only [em_cx h]
theorem gcx_Bin {s : Int32} {x y : gEx} (hx : gcx x) (hy : gcx y) : gcx (gBin s x y) := fun e Γ Γ' h => by unfold gBin; simp only [em_cx h, hx e Γ Γ' h, hy e Γ Γ' h]
theorem gcx_And {op : Int32} {x y : gEx} (hx : gcx x) (hy : gcx y) : gcx (gAnd op x y) := fun e Γ Γ' h => by unfold gAnd; simp only [em_cx h, hx e Γ Γ' h, hy e Γ Γ' h]
theorem gcx_Choice {x y z : gEx} (hx : gcx x) (hy : gcx y) (hz : gcx z) : gcx (gChoice x y z) := fun e Γ Γ' h => by unfold gChoice; simp only [em_cx h, hx e Γ Γ' h, hy e Γ Γ' h, hz e Γ Γ' h]
theorem gcx_Com {x y : gEx} (hx : gcx x) (hy : gcx y) : gcx (gCom x y) := fun e Γ Γ' h => by unfold gCom; simp only [em_cx h, hx e Γ Γ' h, hy e Γ Γ' h]
theorem gcx_GvN {s : Option Int32} {x : Nat} {v : gEx} (hv : gcx v) : gcx (gGvN s x v) := fun e Γ Γ' h => by
  cases s with
  | none => unfold gGvN; simp only [gcx_Set x e Γ Γ' h, hv e Γ Γ' h]
  | some s => unfold gGvN; simp only [em_cx h, gcx_Set x e Γ Γ' h, gcx_Get x e Γ Γ' h, hv e Γ Γ' h]
theorem gcx_GvM {s : Option Int32} {o k v : gEx} (ho : gcx o) (hk : gcx k) (hv : gcx v) : gcx (gGvM s o k v) := fun e Γ Γ' h => by
  cases s with
  | none => unfold gGvM; simp only [em_cx h, ho e Γ Γ' h, hk e Γ Γ' h, hv e Γ Γ' h]
  | some s => unfold gGvM; simp only [em_cx h, ho e Γ Γ' h, hk e Γ Γ' h, hv e Γ Γ' h]
theorem gcx_BfN (s : Int32) (x : Nat) : gcx (gBfN s x) := fun e Γ Γ' h => by unfold gBfN; simp only [em_cx h, gcx_Set x e Γ Γ' h, gcx_Get x e Γ Γ' h]
theorem gcx_BhN (s : Int32) (x : Nat) : gcx (gBhN s x) := fun e Γ Γ' h => by unfold gBhN; simp only [em_cx h, gcx_Set x e Γ Γ' h, gcx_Get x e Γ Γ' h]
theorem gcx_BfM {s : Int32} {o k : gEx} (ho : gcx o) (hk : gcx k) : gcx (gBfM s o k) := fun e Γ Γ' h => by unfold gBfM; simp only [em_cx h, ho e Γ Γ' h, hk e Γ Γ' h]
theorem gcx_BhM {s : Int32} {o k : gEx} (ho : gcx o) (hk : gcx k) : gcx (gBhM s o k) := fun e Γ Γ' h => by unfold gBhM; simp only [em_cx h, ho e Γ Γ' h, hk e Γ Γ' h]
