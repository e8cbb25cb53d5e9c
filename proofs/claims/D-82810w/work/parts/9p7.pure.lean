/-! P's RESULTS, purely: what is coded is well formed, and how long -/
/-- an expression's code, at most n instructions -/
def gE (n : Nat) (g : gEx) : Prop := gok g ∧ gcx g ∧ gle n g
theorem gE.mono {n m : Nat} {g : gEx} (h : gE n g) (hm : n ≤ m) : gE m g := ⟨h.1, h.2.1, fun e Γ L st => by have := h.2.2 e Γ L st; omega⟩
theorem em_ln (e : gN) (Γ : gK) (L : List Bool) (op a b : Int32) (m : Option Nat) (s : gS) : (em e Γ L op a b m s).c.length = s.c.length + 1 := by
  show (s.1 ++ [_]).length = _
  rw [List.length_append]; rfl
theorem hre_ln (m : Nat) (s : gS) : (hre m s).c.length = s.c.length := rfl
theorem mkm_ln (s : gS) : (mkm s).c.length = s.c.length := rfl
theorem sit_ln (s : gS) : (sit s).c.length = s.c.length := rfl
theorem gGet_ln (x : Nat) (e : gN) (Γ : gK) (L : List Bool) (s : gS) : (gGet x e Γ L s).c.length = s.c.length + 1 := by unfold gGet; split <;> exact em_ln ..
theorem gSet_ln (x : Nat) (e : gN) (Γ : gK) (L : List Bool) (s : gS) : (gSet x e Γ L s).c.length = s.c.length + 1 := by unfold gSet; split <;> exact em_ln ..
/-- values one after the other: at most n in all -/
def gEs : Nat → List gEx → Prop
  | _, [] => True
  | n, g :: r => ∃ a b, a + b ≤ n ∧ gE a g ∧ gEs b r
theorem gEs.mono {r : List gEx} : ∀ {n m : Nat}, gEs n r → n ≤ m → gEs m r := by
  cases r with
  | nil => intro _ _ _ _; trivial
  | cons g r => intro n m h hm; obtain ⟨a, b, h1, h2⟩ := h; exact ⟨a, b, by omega, h2⟩
theorem gEs.app {r : List gEx} {g : gEx} {a : Nat} (hg : gE a g) : ∀ {n : Nat}, gEs n r → gEs (n + a) (r ++ [g]) := by
  induction r with
  | nil => intro n _; exact ⟨a, 0, by omega, hg, trivial⟩
  | cons x r ih =>
    intro n h
    obtain ⟨p, q, h1, h2, h3⟩ := h
    exact ⟨p, q + a, by omega, h2, ih h3⟩
theorem gEs.mem {r : List gEx} : ∀ {n : Nat}, gEs n r → ∀ g ∈ r, gE n g := by
  induction r with
  | nil => intro _ _ g hg; cases hg
  | cons x r ih =>
    intro n h g hg
    obtain ⟨p, q, h1, h2, h3⟩ := h
    rcases List.mem_cons.mp hg with z | z
    · rw [z]; exact h2.mono (by omega)
    · exact (ih h3 g z).mono (by omega)
theorem gEs.ok {r : List gEx} {n : Nat} (h : gEs n r) : ∀ g ∈ r, gok g := fun g hg => (h.mem g hg).1
theorem gEs.cx {r : List gEx} {n : Nat} (h : gEs n r) : ∀ g ∈ r, gcx g := fun g hg => (h.mem g hg).2.1
theorem gEs.ln {r : List gEx} : ∀ {n : Nat}, gEs n r → gle n (gArg r) := by
  induction r with
  | nil => intro n _ e Γ L st; show st.c.length ≤ _; omega
  | cons x r ih =>
    intro n h e Γ L st
    obtain ⟨p, q, h1, h2, h3⟩ := h
    have := h2.2.2 e Γ L st
    have := ih h3 e Γ (psh 1 L) (x e Γ L st)
    show (gArg r e Γ (psh 1 L) (x e Γ L st)).c.length ≤ _
    omega
theorem gE_Co (s v : Int32) : gE 1 (gCo s v) := ⟨gok_Co s v, gcx_Co s v, fun e Γ L st => Nat.le_of_eq (em_ln ..)⟩
theorem gE_Th : gE 1 gTh := ⟨gok_Th, gcx_Th, fun e Γ L st => Nat.le_of_eq (em_ln ..)⟩
theorem gE_Get (x : Nat) : gE 1 (gGet x) := ⟨gok_Get x, gcx_Get x, fun e Γ L st => Nat.le_of_eq (gGet_ln ..)⟩
theorem gE_Md (f : Nat) : gE 1 (gMd f) := ⟨gok_Md f, gcx_Md f, fun e Γ L st => Nat.le_of_eq (em_ln ..)⟩
theorem gE_Mem {a b : Nat} {o k : gEx} (ho : gE a o) (hk : gE b k) : gE (a + b + 1) (gMem o k) := ⟨gok_Mem ho.1 hk.1, gcx_Mem ho.2.1 hk.2.1, fun e Γ L st => by
  unfold gMem
  have h1 := ho.2.2 e Γ L st
  have h2 := hk.2.2 e Γ (psh 1 L) (o e Γ L st)
  rw [em_ln]; omega⟩
theorem gE_Call {a b : Nat} {f : gEx} {as : List gEx} (hf : gE a f) (ha : gEs b as) : gE (a + b + 2) (gCall f as) := ⟨gok_Call hf.1 ha.ok, gcx_Call hf.2.1 ha.cx, fun e Γ L st => by
  unfold gCall
  have h1 := hf.2.2 e Γ (psh 1 L) (em e Γ L 0 0 0 none st)
  have h2 := ha.ln e Γ (psh 2 L) (f e Γ (psh 1 L) (em e Γ L 0 0 0 none st))
  rw [em_ln] at h1
  rw [em_ln]; omega⟩
theorem gE_CallM {a b m : Nat} {o k : gEx} {as : List gEx} (ho : gE a o) (hk : gE b k) (ha : gEs m as) : gE (a + b + m + 3) (gCallM o k as) := ⟨gok_CallM ho.1 hk.1 ha.ok, gcx_CallM ho.2.1 hk.2.1 ha.cx, fun e Γ L st => by
  unfold gCallM
  have h1 := ho.2.2 e Γ L st
  have h2 := hk.2.2 e Γ (psh 2 L) (em e Γ (psh 1 L) 18 0 0 none (o e Γ L st))
  rw [em_ln] at h2
  have h3 := ha.ln e Γ (psh 2 L) (em e Γ (psh 3 L) 10 0 0 none (k e Γ (psh 2 L) (em e Γ (psh 1 L) 18 0 0 none (o e Γ L st))))
  rw [em_ln] at h3
  rw [em_ln]; omega⟩
theorem gE_New {a b : Nat} {f : gEx} {as : List gEx} (hf : gE a f) (ha : gEs b as) : gE (a + b + 1) (gNew f as) := ⟨gok_New hf.1 ha.ok, gcx_New hf.2.1 ha.cx, fun e Γ L st => by
  unfold gNew
  have h1 := hf.2.2 e Γ L st
  have h2 := ha.ln e Γ (psh 1 L) (f e Γ L st)
  show (em e Γ _ _ _ _ _ _).c.length ≤ _
  rw [em_ln]; omega⟩
theorem gIts_ln : ∀ {r : List (Int32 × Int32 × gEx)} {n : Nat}, gEs n (r.map (·.2.2)) → gle (n + 4 * r.length) (gIts r) := by
  intro r
  induction r with
  | nil => intro n _ e Γ L st; show st.c.length ≤ _; omega
  | cons x r ih =>
    intro n h e Γ L st
    obtain ⟨p, q, h1, h2, h3⟩ := h
    obtain ⟨x1, x2, x⟩ := x
    have l1 := h2.2.2 e Γ (psh 3 L) (em e Γ (psh 2 L) 0 x1 x2 none (em e Γ (psh 1 L) 18 0 0 none st))
    rw [em_ln, em_ln] at l1
    have l2 := ih h3 e Γ L (em e Γ (psh 2 L) 17 0 0 none (em e Γ (psh 4 L) 11 0 0 none (x e Γ (psh 3 L) (em e Γ (psh 2 L) 0 x1 x2 none (em e Γ (psh 1 L) 18 0 0 none st)))))
    rw [em_ln, em_ln] at l2
    show (gIts r e Γ L (em e Γ (psh 2 L) 17 0 0 none (em e Γ (psh 4 L) 11 0 0 none (x e Γ (psh 3 L) (em e Γ (psh 2 L) 0 x1 x2 none (em e Γ (psh 1 L) 18 0 0 none st)))))).c.length ≤ st.c.length + (n + 4 * (r.length + 1))
    have l1 : (x e Γ (psh 3 L) (em e Γ (psh 2 L) 0 x1 x2 none (em e Γ (psh 1 L) 18 0 0 none st))).c.length ≤ st.c.length + 1 + 1 + p := l1
    omega
theorem gE_Itm {n : Nat} {op : Int32} {r : List (Int32 × Int32 × gEx)} (h : gEs n (r.map (·.2.2))) : gE (n + 4 * r.length + 1) (gItm op r) := ⟨gok_Itm fun q hq => h.ok _ (List.mem_map_of_mem hq), gcx_Itm fun q hq => h.cx _ (List.mem_map_of_mem hq), fun e Γ L st => by
  unfold gItm
  have := gIts_ln h e Γ L (sit (em e Γ L op (Int32.ofNat st.si) 0 none st))
  rw [sit_ln, em_ln] at this
  omega⟩
theorem gE_Un {a : Nat} {h : Int32} {x : gEx} (hx : gE a x) : gE (a + 1) (gUn h x) := ⟨gok_Un hx.1, gcx_Un hx.2.1, fun e Γ L st => by
  unfold gUn; rw [em_ln]; have := hx.2.2 e Γ L st; omega⟩
theorem gE_Void {a : Nat} {x : gEx} (hx : gE a x) : gE (a + 2) (gVoid x) := ⟨gok_Void hx.1, gcx_Void hx.2.1, fun e Γ L st => by
  unfold gVoid; rw [em_ln, em_ln]; have := hx.2.2 e Γ L st; omega⟩
theorem gE_Del {a b : Nat} {o k : gEx} (ho : gE a o) (hk : gE b k) : gE (a + b + 1) (gDel o k) := ⟨gok_Del ho.1 hk.1, gcx_Del ho.2.1 hk.2.1, fun e Γ L st => by
  unfold gDel
  have h1 := ho.2.2 e Γ L st
  have h2 := hk.2.2 e Γ (psh 1 L) (o e Γ L st)
  rw [em_ln]; omega⟩
theorem gE_Typ (x : Nat) : gE 2 (gTyp x) := ⟨gok_Typ x, gcx_Typ x, fun e Γ L st => by
  unfold gTyp
  split
  · rw [em_ln, em_ln]; omega
  · rw [em_ln]; omega⟩
theorem gE_Bin {a b : Nat} {h : Int32} {x y : gEx} (hx : gE a x) (hy : gE b y) : gE (a + b + 1) (gBin h x y) := ⟨gok_Bin hx.1 hy.1, gcx_Bin hx.2.1 hy.2.1, fun e Γ L st => by
  unfold gBin
  have h1 := hx.2.2 e Γ L st
  have h2 := hy.2.2 e Γ (psh 1 L) (x e Γ L st)
  rw [em_ln]; omega⟩
theorem gE_And {a b : Nat} {op : Int32} {x y : gEx} (hx : gE a x) (hy : gE b y) : gE (a + b + 1) (gAnd op x y) := ⟨gok_And hx.1 hy.1, gcx_And hx.2.1 hy.2.1, fun e Γ L st => by
  unfold gAnd
  have h1 := hx.2.2 e Γ L st
  have h2 := hy.2.2 e Γ L (em e Γ (psh 1 L) op 0 0 (some (x e Γ L st).m) (mkm (x e Γ L st)))
  rw [em_ln, mkm_ln] at h2
  show (hre _ _).c.length ≤ _
  rw [hre_ln]; omega⟩
theorem gE_Choice {a b c : Nat} {x y z : gEx} (hx : gE a x) (hy : gE b y) (hz : gE c z) : gE (a + b + c + 2) (gChoice x y z) := ⟨gok_Choice hx.1 hy.1 hz.1, gcx_Choice hx.2.1 hy.2.1 hz.2.1, fun e Γ L st => by
  unfold gChoice
  have h1 := hx.2.2 e Γ L (mkm (mkm st))
  rw [mkm_ln, mkm_ln] at h1
  have h2 := hy.2.2 e Γ L (em e Γ (psh 1 L) 22 0 0 (some st.m) (x e Γ L (mkm (mkm st))))
  rw [em_ln] at h2
  have h3 := hz.2.2 e Γ L (hre st.m (em e Γ (psh 1 L) 21 0 0 (some (st.m + 1)) (y e Γ L (em e Γ (psh 1 L) 22 0 0 (some st.m) (x e Γ L (mkm (mkm st)))))))
  rw [hre_ln, em_ln] at h3
  rw [hre_ln]; omega⟩
theorem gE_Com {a b : Nat} {x y : gEx} (hx : gE a x) (hy : gE b y) : gE (a + b + 1) (gCom x y) := ⟨gok_Com hx.1 hy.1, gcx_Com hx.2.1 hy.2.1, fun e Γ L st => by
  unfold gCom
  have h1 := hx.2.2 e Γ L st
  have h2 := hy.2.2 e Γ L (em e Γ (psh 1 L) 17 0 0 none (x e Γ L st))
  rw [em_ln] at h2
  omega⟩
theorem gE_GvN {a x : Nat} {h : Option Int32} {v : gEx} (hv : gE a v) : gE (a + 3) (gGvN h x v) := ⟨gok_GvN hv.1, gcx_GvN hv.2.1, fun e Γ L st => by
  cases h with
  | none =>
    have h1 := hv.2.2 e Γ L st
    show (gSet x e Γ (psh 1 L) (v e Γ L st)).c.length ≤ _
    rw [gSet_ln]; omega
  | some h =>
    have h1 := hv.2.2 e Γ (psh 1 L) (gGet x e Γ L st)
    rw [gGet_ln] at h1
    show (gSet x e Γ (psh 1 L) (em e Γ (psh 2 L) 14 h 0 none (v e Γ (psh 1 L) (gGet x e Γ L st)))).c.length ≤ _
    rw [gSet_ln, em_ln]; omega⟩
theorem gE_GvM {a b c : Nat} {h : Option Int32} {o k v : gEx} (ho : gE a o) (hk : gE b k) (hv : gE c v) : gE (a + b + c + 4) (gGvM h o k v) := ⟨gok_GvM ho.1 hk.1 hv.1, gcx_GvM ho.2.1 hk.2.1 hv.2.1, fun e Γ L st => by
  have h1 := ho.2.2 e Γ L st
  have h2 := hk.2.2 e Γ (psh 1 L) (o e Γ L st)
  cases h with
  | none =>
    have h3 := hv.2.2 e Γ (psh 2 L) (k e Γ (psh 1 L) (o e Γ L st))
    show (em e Γ (psh 3 L) 11 0 0 none (v e Γ (psh 2 L) (k e Γ (psh 1 L) (o e Γ L st)))).c.length ≤ _
    rw [em_ln]; omega
  | some h =>
    have h3 := hv.2.2 e Γ (psh 3 L) (em e Γ (psh 4 L) 10 0 0 none (em e Γ (psh 2 L) 19 0 0 none (k e Γ (psh 1 L) (o e Γ L st))))
    rw [em_ln, em_ln] at h3
    show (em e Γ (psh 3 L) 11 0 0 none (em e Γ (psh 4 L) 14 h 0 none (v e Γ (psh 3 L) (em e Γ (psh 4 L) 10 0 0 none (em e Γ (psh 2 L) 19 0 0 none (k e Γ (psh 1 L) (o e Γ L st))))))).c.length ≤ _
    rw [em_ln, em_ln]; omega⟩
theorem gE_BfN (h : Int32) (x : Nat) : gE 8 (gBfN h x) := ⟨gok_BfN h x, gcx_BfN h x, fun e Γ L st => by
  unfold gBfN; rw [gSet_ln, em_ln, em_ln, em_ln, gGet_ln]; omega⟩
theorem gE_BhN (h : Int32) (x : Nat) : gE 8 (gBhN h x) := ⟨gok_BhN h x, gcx_BhN h x, fun e Γ L st => by
  unfold gBhN; rw [em_ln, gSet_ln, em_ln, em_ln, em_ln, em_ln, gGet_ln]; omega⟩
theorem gE_BfM {a b : Nat} {h : Int32} {o k : gEx} (ho : gE a o) (hk : gE b k) : gE (a + b + 8) (gBfM h o k) := ⟨gok_BfM ho.1 hk.1, gcx_BfM ho.2.1 hk.2.1, fun e Γ L st => by
  have h1 := ho.2.2 e Γ L st
  have h2 := hk.2.2 e Γ (psh 1 L) (o e Γ L st)
  unfold gBfM; rw [em_ln, em_ln, em_ln, em_ln, em_ln, em_ln]; omega⟩
theorem gE_BhM {a b : Nat} {h : Int32} {o k : gEx} (ho : gE a o) (hk : gE b k) : gE (a + b + 8) (gBhM h o k) := ⟨gok_BhM ho.1 hk.1, gcx_BhM ho.2.1 hk.2.1, fun e Γ L st => by
  have h1 := ho.2.2 e Γ L st
  have h2 := hk.2.2 e Γ (psh 1 L) (o e Γ L st)
  unfold gBhM; rw [em_ln, em_ln, em_ln, em_ln, em_ln, em_ln, em_ln, em_ln]; omega⟩
/-- a value: what it codes, at most n; a name; a member -/
def okV (n : Nat) (v : gV) : Prop := gE n v.1 ∧ (v.2.1 = 0 ∨ v.2.1 = 1 ∧ v.1 = gGet v.2.2.1 ∨ v.2.1 = 2 ∧ v.1 = gMem v.2.2.2.1 v.2.2.2.2 ∧ ∃ a b, gE a v.2.2.2.1 ∧ gE b v.2.2.2.2 ∧ a + b + 1 ≤ n)
theorem okV.mono {n m : Nat} {v : gV} (h : okV n v) (hm : n ≤ m) : okV m v := by
  refine ⟨h.1.mono hm, ?_⟩
  rcases h.2 with z | z | ⟨z1, z2, a, b, z3, z4, z5⟩
  · exact .inl z
  · exact .inr (.inl z)
  · exact .inr (.inr ⟨z1, z2, a, b, z3, z4, by omega⟩)
theorem okV_of {n : Nat} {g : gEx} (h : gE n g) : okV n (vOf g) := ⟨h, .inl rfl⟩
theorem okV_nm (x : Nat) : okV 1 (vNm x) := ⟨gE_Get x, .inr (.inl ⟨rfl, rfl⟩)⟩
theorem okV_mm {a b : Nat} {o k : gEx} (ho : gE a o) (hk : gE b k) : okV (a + b + 1) (vMm o k) := ⟨gE_Mem ho hk, .inr (.inr ⟨rfl, rfl, a, b, ho, hk, Nat.le_refl _⟩)⟩
theorem okV.mem {n : Nat} {v : gV} (h : okV n v) (h0 : v.2.1 ≠ 0) (h1 : v.2.1 ≠ 1) : ∃ a b, gE a v.2.2.2.1 ∧ gE b v.2.2.2.2 ∧ a + b + 1 ≤ n := by
  rcases h.2 with z | z | ⟨z1, z2, z3⟩
  · exact absurd z h0
  · exact absurd z.1 h1
  · exact z3
/-! the state goes on: names and functions are added; but for its variables a function that was there stays, and but for those of c all -/
def okF (q : gF) : Prop := gokT q.2.2.2.2.2
/-- functions: those below N stay but for their variables (all, but for those of c); the rest is well formed -/
def avF (N c : Nat) (F F' : List gF) : Prop := F.length ≤ F'.length ∧ (∀ (k : Nat) q, k < N → F[k]? = some q → ∃ q', F'[k]? = some q' ∧ q'.2 = q.2 ∧ q.1 <+: q'.1 ∧ (k ≠ c → q' = q)) ∧ ((∀ (k : Nat) q, N ≤ k → F[k]? = some q → okF q) → ∀ (k : Nat) q', N ≤ k → F'[k]? = some q' → okF q')
theorem avF.rf {N c : Nat} {F : List gF} : avF N c F F := ⟨Nat.le_refl _, fun k q _ h => ⟨q, h, rfl, List.prefix_refl _, fun _ => rfl⟩, fun h => h⟩
theorem avF.tr {N c : Nat} {F F' F'' : List gF} (h : avF N c F F') (h' : avF N c F' F'') : avF N c F F'' := by
  refine ⟨Nat.le_trans h.1 h'.1, fun k q hk hq => ?_, fun z => h'.2.2 (h.2.2 z)⟩
  obtain ⟨q1, c1, c2, c3, c4⟩ := h.2.1 k q hk hq
  obtain ⟨q2, d1, d2, d3, d4⟩ := h'.2.1 k q1 hk c1
  exact ⟨q2, d1, d2.trans c2, c3.trans d3, fun z => (d4 z).trans (c4 z)⟩
theorem avF.dn {N c f : Nat} {F F' : List gF} (h : avF F.length f F F') (hN : N ≤ F.length) (hf : f = c ∨ N ≤ f) : avF N c F F' := by
  refine ⟨h.1, fun k q hk hq => ?_, fun z k q hk hq => ?_⟩
  · obtain ⟨q1, c1, c2, c3, c4⟩ := h.2.1 k q (by omega) hq
    exact ⟨q1, c1, c2, c3, fun y => c4 (by omega)⟩
  · by_cases y : F.length ≤ k
    · exact h.2.2 (fun k q hk hq => by rw [List.getElem?_eq_none hk] at hq; cases hq) k q y hq
    · have e : F[k]? = some (F[k]'(by omega)) := List.getElem?_eq_getElem (by omega)
      obtain ⟨q1, c1, c2, -⟩ := h.2.1 k _ (by omega) e
      rw [c1] at hq
      cases hq
      have := z k _ hk e
      unfold okF at this ⊢
      rw [c2]; exact this
def adv (c : Nat) (s s' : pS) : Prop := s.1 ≤ s'.1 ∧ (s.2.1 <+: s'.2.1 ∧ s'.2.1.length ≤ s.2.1.length + (s'.1 - s.1)) ∧ s'.2.2.length ≤ s.2.2.length + (s'.1 - s.1) ∧ avF s.2.2.length c s.2.2 s'.2.2
theorem adv.rf {c : Nat} {s : pS} : adv c s s := ⟨Nat.le_refl _, ⟨List.prefix_refl _, by omega⟩, by omega, avF.rf⟩
theorem adv.tr {c : Nat} {s s' s'' : pS} (h : adv c s s') (h' : adv c s' s'') : adv c s s'' := by
  obtain ⟨a1, a2, a3, a4⟩ := h
  obtain ⟨b1, b2, b3, b4⟩ := h'
  exact ⟨by omega, ⟨a2.1.trans b2.1, by omega⟩, by omega, a4.tr (b4.dn a4.1 (.inl rfl))⟩
theorem adv_nx {c : Nat} (s : pS) : adv c s (s.1 + 1, s.2) := ⟨Nat.le_succ _, ⟨List.prefix_refl _, by dsimp only; omega⟩, by dsimp only; omega, avF.rf⟩
theorem nam_len (w : List Int32) (s : pS) : s.2.1 <+: (nam w s).2.2.1 ∧ (nam w s).2.2.1.length ≤ s.2.1.length + 1 := by
  show s.2.1 <+: (if w ∈ s.2.1 then s.2.1 else s.2.1 ++ [w]) ∧ (if w ∈ s.2.1 then s.2.1 else s.2.1 ++ [w]).length ≤ _
  split
  · exact ⟨List.prefix_refl _, Nat.le_succ _⟩
  · exact ⟨List.prefix_append _ _, by rw [List.length_append]; exact Nat.le_refl _⟩
theorem adv_nm {c : Nat} (w : List Int32) (s : pS) : adv c s (s.1 + 1, (nam w s).2.2) := by
  have := nam_len w s
  exact ⟨Nat.le_succ _, ⟨this.1, by dsimp only; omega⟩, by show s.2.2.length ≤ _; omega, avF.rf⟩
theorem adV_get (f x : Nat) (F : List gF) : (adV f x F).length = F.length ∧ ∀ N, avF N f F (adV f x F) := by
  unfold adV
  cases hf : F[f]? with
  | none => exact ⟨rfl, fun N => avF.rf⟩
  | some p =>
    have hl : f < F.length := (List.getElem?_eq_some_iff.mp hf).1
    have e0 : ∀ k : Nat, k ≠ f → (F.set f (if x ∈ p.1 then p.1 else p.1 ++ [x], p.2))[k]? = F[k]? := fun k e => List.getElem?_set_ne (fun z => e z.symm)
    have e1 : (F.set f (if x ∈ p.1 then p.1 else p.1 ++ [x], p.2))[f]? = some (if x ∈ p.1 then p.1 else p.1 ++ [x], p.2) := by simp [hl]
    refine ⟨by simp, fun N => ⟨by simp, fun k q _ h => ?_, fun z k q hk hq => ?_⟩⟩
    · by_cases e : k = f
      · rw [e, hf] at h
        cases h
        refine ⟨(if x ∈ p.1 then p.1 else p.1 ++ [x], p.2), by rw [e]; exact e1, rfl, ?_, fun z => absurd e z⟩
        dsimp only
        split
        · exact List.prefix_refl _
        · exact List.prefix_append _ _
      · exact ⟨q, by rw [e0 k e]; exact h, rfl, List.prefix_refl _, fun _ => rfl⟩
    · by_cases e : k = f
      · rw [e, e1] at hq
        cases hq
        exact z f p (by omega) hf
      · rw [e0 k e] at hq
        exact z k q hk hq
theorem adv_hld {c : Nat} (x : Nat) (s : pS) : adv c s (hld c x s) := by
  obtain ⟨h1, h2⟩ := adV_get c x s.2.2
  exact ⟨Nat.le_refl _, ⟨List.prefix_refl _, by show s.2.1.length ≤ _; omega⟩, by show (adV c x s.2.2).length ≤ _; omega, h2 _⟩
/-- what holds of a result, if there is one -/
def sat {α : Type} (x : pR α) (F : α → pS → Prop) : Prop := ∀ a s, x = .ok (a, s) → F a s
theorem sat.mono {α : Type} {x : pR α} {F F' : α → pS → Prop} (h : sat x F) (k : ∀ a s, F a s → F' a s) : sat x F' := fun a s e => k a s (h a s e)
theorem sat_bnd {α β : Type} {x : pR α} {k : α → pS → pR β} {F : β → pS → Prop} (h : sat x fun a s => sat (k a s) F) : sat (bnd x k) F := by
  intro b s e
  cases x with
  | error w => cases e
  | ok p => obtain ⟨a, s1⟩ := p; exact h a s1 rfl b s e
theorem sat_err {α : Type} {w : Nat × Nat} {F : α → pS → Prop} : sat (.error w) F := fun _ _ e => by cases e
theorem sat_prt {α : Type} {a : α} {s : pS} {F : α → pS → Prop} (h : F a s) : sat (prt a s) F := fun _ _ e => by cases e; exact h
theorem sat_ite {α : Type} {p : Prop} [Decidable p] {x y : pR α} {F : α → pS → Prop} (hx : p → sat x F) (hy : ¬ p → sat y F) : sat (if p then x else y) F := by
  by_cases h : p
  · rw [if_pos h]; exact hx h
  · rw [if_neg h]; exact hy h
section
variable {z : pZ} {K : Nat}
theorem sat_flt {α : Type} {k : Nat} {s : pS} {F : α → pS → Prop} : sat (flt z k s) F := sat_err
theorem sat_nx {s : pS} {F : Unit → pS → Prop} (h : F () (s.1 + 1, s.2)) : sat (nxt' z s) F := by
  unfold nxt'
  exact sat_ite (fun _ => sat_err) (fun _ => fun _ _ e => by cases e; exact h)
theorem sat_ned {j : Int32} {s : pS} {F : Unit → pS → Prop} (h : F () (s.1 + 1, s.2)) : sat (nedS z j s) F := by
  unfold nedS
  exact sat_ite (fun _ => sat_nx h) (fun _ => sat_flt)
theorem sat_nek {j : Int32} {s : pS} {F : Unit → pS → Prop} (h : F () (s.1 + 1, s.2)) : sat (nedK z j s) F := by
  unfold nedK
  exact sat_ite (fun _ => sat_nx h) (fun _ => sat_flt)
theorem sat_tak {s : pS} {F : Nat → pS → Prop} (h : ∀ w, F (nam w s).1 (s.1 + 1, (nam w s).2.2)) : sat (takN z s) F := by
  unfold takN
  exact sat_bnd (sat_nx (sat_prt (h _)))
theorem sat_nen {s : pS} {F : Nat → pS → Prop} (h : ∀ w, F (nam w s).1 (s.1 + 1, (nam w s).2.2)) : sat (nedN z s) F := by
  unfold nedN
  exact sat_ite (fun _ => sat_tak h) (fun _ => sat_flt)
theorem sat_opens {α : Type} {r : Option pT} {s : pS} {k : pT → pR α} {F : α → pS → Prop} (h : ∀ r', r = some r' → sat (k r') F) : sat (opens z r s k) F := by
  unfold opens
  cases r with
  | none => exact sat_flt
  | some r => exact h r rfl
end
