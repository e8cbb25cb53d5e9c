/-! WHAT P CODES, as a class of codes: n: lists (of arguments, items) within one another at most; N names; Φ: the functions made here -/
def coK (N : Nat) (s v : Int32) : Prop := ∃ k : Nat, k < 7 ∧ s = Int32.ofNat k ∧ (k = 6 → ∃ j : Nat, v = Int32.ofNat j ∧ j < N)
def cEx (N : Nat) (Φ : Nat → Prop) (i0 : Nat) (i1 : gEx) : Prop := ∀ X : Nat → gEx → Prop, (∀ {n m : Nat} {g : gEx}, (X n g) → (n ≤ m) → X m g) → (∀ {n : Nat} {s v : Int32}, (coK N s v) → X n (gCo s v)) → (∀ {n : Nat}, X n gTh) → (∀ {n x : Nat}, (x < N) → X n (gGet x)) → (∀ {n f : Nat}, (Φ f) → X n (gMd f)) → (∀ {n : Nat} {o k : gEx}, (X n o) → (X n k) → X n (gMem o k)) → (∀ {n : Nat} {f : gEx} {as : List gEx}, (X (n + 1) f) → (∀ g ∈ as, X n g) → (as.length ≤ 8) → X (n + 1) (gCall f as)) → (∀ {n : Nat} {o k : gEx} {as : List gEx}, (X (n + 1) o) → (X (n + 1) k) → (∀ g ∈ as, X n g) → (as.length ≤ 8) → X (n + 1) (gCallM o k as)) → (∀ {n : Nat} {f : gEx} {as : List gEx}, (X (n + 1) f) → (∀ g ∈ as, X n g) → (as.length ≤ 8) → X (n + 1) (gNew f as)) → (∀ {n : Nat} {op : Int32} {r : List (Int32 × Int32 × gEx)}, (op = 7 ∨ op = 8) → (∀ q ∈ r, coK N q.1 q.2.1) → (∀ q ∈ r, X n q.2.2) → X (n + 1) (gItm op r)) → (∀ {n k : Nat} {x : gEx}, (k < 5) → (X n x) → X n (gUn (Int32.ofNat k) x)) → (∀ {n : Nat} {x : gEx}, (X n x) → X n (gVoid x)) → (∀ {n : Nat} {o k : gEx}, (X n o) → (X n k) → X n (gDel o k)) → (∀ {n x : Nat}, (x < N) → X n (gTyp x)) → (∀ {n k : Nat} {x y : gEx}, (k < 21) → (X n x) → (X n y) → X n (gBin (Int32.ofNat k) x y)) → (∀ {n : Nat} {op : Int32} {x y : gEx}, (op = 23 ∨ op = 24) → (X n x) → (X n y) → X n (gAnd op x y)) → (∀ {n : Nat} {x y z : gEx}, (X n x) → (X n y) → (X n z) → X n (gChoice x y z)) → (∀ {n : Nat} {x y : gEx}, (X n x) → (X n y) → X n (gCom x y)) → (∀ {n x : Nat} {v : gEx}, (x < N) → (X n v) → X n (gGvN none x v)) → (∀ {n x k : Nat} {v : gEx}, (x < N) → (k < 21) → (X n v) → X n (gGvN (some (Int32.ofNat k)) x v)) → (∀ {n : Nat} {o k v : gEx}, (X (n + 1) o) → (X (n + 1) k) → (X n v) → X (n + 1) (gGvM none o k v)) → (∀ {n h : Nat} {o k v : gEx}, (h < 21) → (X n o) → (X n k) → (X n v) → X n (gGvM (some (Int32.ofNat h)) o k v)) → (∀ {n x k : Nat}, (x < N) → (k < 21) → X n (gBfN (Int32.ofNat k) x)) → (∀ {n x k : Nat}, (x < N) → (k < 21) → X n (gBhN (Int32.ofNat k) x)) → (∀ {n h : Nat} {o k : gEx}, (h < 21) → (X n o) → (X n k) → X n (gBfM (Int32.ofNat h) o k)) → (∀ {n h : Nat} {o k : gEx}, (h < 21) → (X n o) → (X n k) → X n (gBhM (Int32.ofNat h) o k)) → X i0 i1
theorem cEx.mono {N : Nat} {Φ : Nat → Prop} {n m : Nat} {g : gEx} (h0 : cEx N Φ n g) (h1 : n ≤ m) : cEx N Φ m g := fun X k0 k1 k2 k3 k4 k5 k6 k7 k8 k9 k10 k11 k12 k13 k14 k15 k16 k17 k18 k19 k20 k21 k22 k23 k24 k25 => k0 (h0 X k0 k1 k2 k3 k4 k5 k6 k7 k8 k9 k10 k11 k12 k13 k14 k15 k16 k17 k18 k19 k20 k21 k22 k23 k24 k25) h1
theorem cEx.co {N : Nat} {Φ : Nat → Prop} {n : Nat} {s v : Int32} (h0 : coK N s v) : cEx N Φ n (gCo s v) := fun X k0 k1 k2 k3 k4 k5 k6 k7 k8 k9 k10 k11 k12 k13 k14 k15 k16 k17 k18 k19 k20 k21 k22 k23 k24 k25 => k1 h0
theorem cEx.th {N : Nat} {Φ : Nat → Prop} {n : Nat}  : cEx N Φ n gTh := fun X k0 k1 k2 k3 k4 k5 k6 k7 k8 k9 k10 k11 k12 k13 k14 k15 k16 k17 k18 k19 k20 k21 k22 k23 k24 k25 => k2 
theorem cEx.get {N : Nat} {Φ : Nat → Prop} {n x : Nat} (h0 : x < N) : cEx N Φ n (gGet x) := fun X k0 k1 k2 k3 k4 k5 k6 k7 k8 k9 k10 k11 k12 k13 k14 k15 k16 k17 k18 k19 k20 k21 k22 k23 k24 k25 => k3 h0
theorem cEx.md {N : Nat} {Φ : Nat → Prop} {n f : Nat} (h0 : Φ f) : cEx N Φ n (gMd f) := fun X k0 k1 k2 k3 k4 k5 k6 k7 k8 k9 k10 k11 k12 k13 k14 k15 k16 k17 k18 k19 k20 k21 k22 k23 k24 k25 => k4 h0
theorem cEx.mem {N : Nat} {Φ : Nat → Prop} {n : Nat} {o k : gEx} (h0 : cEx N Φ n o) (h1 : cEx N Φ n k) : cEx N Φ n (gMem o k) := fun X k0 k1 k2 k3 k4 k5 k6 k7 k8 k9 k10 k11 k12 k13 k14 k15 k16 k17 k18 k19 k20 k21 k22 k23 k24 k25 => k5 (h0 X k0 k1 k2 k3 k4 k5 k6 k7 k8 k9 k10 k11 k12 k13 k14 k15 k16 k17 k18 k19 k20 k21 k22 k23 k24 k25) (h1 X k0 k1 k2 k3 k4 k5 k6 k7 k8 k9 k10 k11 k12 k13 k14 k15 k16 k17 k18 k19 k20 k21 k22 k23 k24 k25)
theorem cEx.call {N : Nat} {Φ : Nat → Prop} {n : Nat} {f : gEx} {as : List gEx} (h0 : cEx N Φ (n + 1) f) (h1 : ∀ g ∈ as, cEx N Φ n g) (h2 : as.length ≤ 8) : cEx N Φ (n + 1) (gCall f as) := fun X k0 k1 k2 k3 k4 k5 k6 k7 k8 k9 k10 k11 k12 k13 k14 k15 k16 k17 k18 k19 k20 k21 k22 k23 k24 k25 => k6 (h0 X k0 k1 k2 k3 k4 k5 k6 k7 k8 k9 k10 k11 k12 k13 k14 k15 k16 k17 k18 k19 k20 k21 k22 k23 k24 k25) (fun x hx => h1 x hx X k0 k1 k2 k3 k4 k5 k6 k7 k8 k9 k10 k11 k12 k13 k14 k15 k16 k17 k18 k19 k20 k21 k22 k23 k24 k25) h2
theorem cEx.callM {N : Nat} {Φ : Nat → Prop} {n : Nat} {o k : gEx} {as : List gEx} (h0 : cEx N Φ (n + 1) o) (h1 : cEx N Φ (n + 1) k) (h2 : ∀ g ∈ as, cEx N Φ n g) (h3 : as.length ≤ 8) : cEx N Φ (n + 1) (gCallM o k as) := fun X k0 k1 k2 k3 k4 k5 k6 k7 k8 k9 k10 k11 k12 k13 k14 k15 k16 k17 k18 k19 k20 k21 k22 k23 k24 k25 => k7 (h0 X k0 k1 k2 k3 k4 k5 k6 k7 k8 k9 k10 k11 k12 k13 k14 k15 k16 k17 k18 k19 k20 k21 k22 k23 k24 k25) (h1 X k0 k1 k2 k3 k4 k5 k6 k7 k8 k9 k10 k11 k12 k13 k14 k15 k16 k17 k18 k19 k20 k21 k22 k23 k24 k25) (fun x hx => h2 x hx X k0 k1 k2 k3 k4 k5 k6 k7 k8 k9 k10 k11 k12 k13 k14 k15 k16 k17 k18 k19 k20 k21 k22 k23 k24 k25) h3
theorem cEx.new {N : Nat} {Φ : Nat → Prop} {n : Nat} {f : gEx} {as : List gEx} (h0 : cEx N Φ (n + 1) f) (h1 : ∀ g ∈ as, cEx N Φ n g) (h2 : as.length ≤ 8) : cEx N Φ (n + 1) (gNew f as) := fun X k0 k1 k2 k3 k4 k5 k6 k7 k8 k9 k10 k11 k12 k13 k14 k15 k16 k17 k18 k19 k20 k21 k22 k23 k24 k25 => k8 (h0 X k0 k1 k2 k3 k4 k5 k6 k7 k8 k9 k10 k11 k12 k13 k14 k15 k16 k17 k18 k19 k20 k21 k22 k23 k24 k25) (fun x hx => h1 x hx X k0 k1 k2 k3 k4 k5 k6 k7 k8 k9 k10 k11 k12 k13 k14 k15 k16 k17 k18 k19 k20 k21 k22 k23 k24 k25) h2
theorem cEx.itm {N : Nat} {Φ : Nat → Prop} {n : Nat} {op : Int32} {r : List (Int32 × Int32 × gEx)} (h0 : op = 7 ∨ op = 8) (h1 : ∀ q ∈ r, coK N q.1 q.2.1) (h2 : ∀ q ∈ r, cEx N Φ n q.2.2) : cEx N Φ (n + 1) (gItm op r) := fun X k0 k1 k2 k3 k4 k5 k6 k7 k8 k9 k10 k11 k12 k13 k14 k15 k16 k17 k18 k19 k20 k21 k22 k23 k24 k25 => k9 h0 h1 (fun x hx => h2 x hx X k0 k1 k2 k3 k4 k5 k6 k7 k8 k9 k10 k11 k12 k13 k14 k15 k16 k17 k18 k19 k20 k21 k22 k23 k24 k25)
theorem cEx.un {N : Nat} {Φ : Nat → Prop} {n k : Nat} {x : gEx} (h0 : k < 5) (h1 : cEx N Φ n x) : cEx N Φ n (gUn (Int32.ofNat k) x) := fun X k0 k1 k2 k3 k4 k5 k6 k7 k8 k9 k10 k11 k12 k13 k14 k15 k16 k17 k18 k19 k20 k21 k22 k23 k24 k25 => k10 h0 (h1 X k0 k1 k2 k3 k4 k5 k6 k7 k8 k9 k10 k11 k12 k13 k14 k15 k16 k17 k18 k19 k20 k21 k22 k23 k24 k25)
theorem cEx.void {N : Nat} {Φ : Nat → Prop} {n : Nat} {x : gEx} (h0 : cEx N Φ n x) : cEx N Φ n (gVoid x) := fun X k0 k1 k2 k3 k4 k5 k6 k7 k8 k9 k10 k11 k12 k13 k14 k15 k16 k17 k18 k19 k20 k21 k22 k23 k24 k25 => k11 (h0 X k0 k1 k2 k3 k4 k5 k6 k7 k8 k9 k10 k11 k12 k13 k14 k15 k16 k17 k18 k19 k20 k21 k22 k23 k24 k25)
theorem cEx.del {N : Nat} {Φ : Nat → Prop} {n : Nat} {o k : gEx} (h0 : cEx N Φ n o) (h1 : cEx N Φ n k) : cEx N Φ n (gDel o k) := fun X k0 k1 k2 k3 k4 k5 k6 k7 k8 k9 k10 k11 k12 k13 k14 k15 k16 k17 k18 k19 k20 k21 k22 k23 k24 k25 => k12 (h0 X k0 k1 k2 k3 k4 k5 k6 k7 k8 k9 k10 k11 k12 k13 k14 k15 k16 k17 k18 k19 k20 k21 k22 k23 k24 k25) (h1 X k0 k1 k2 k3 k4 k5 k6 k7 k8 k9 k10 k11 k12 k13 k14 k15 k16 k17 k18 k19 k20 k21 k22 k23 k24 k25)
theorem cEx.typ {N : Nat} {Φ : Nat → Prop} {n x : Nat} (h0 : x < N) : cEx N Φ n (gTyp x) := fun X k0 k1 k2 k3 k4 k5 k6 k7 k8 k9 k10 k11 k12 k13 k14 k15 k16 k17 k18 k19 k20 k21 k22 k23 k24 k25 => k13 h0
theorem cEx.bin {N : Nat} {Φ : Nat → Prop} {n k : Nat} {x y : gEx} (h0 : k < 21) (h1 : cEx N Φ n x) (h2 : cEx N Φ n y) : cEx N Φ n (gBin (Int32.ofNat k) x y) := fun X k0 k1 k2 k3 k4 k5 k6 k7 k8 k9 k10 k11 k12 k13 k14 k15 k16 k17 k18 k19 k20 k21 k22 k23 k24 k25 => k14 h0 (h1 X k0 k1 k2 k3 k4 k5 k6 k7 k8 k9 k10 k11 k12 k13 k14 k15 k16 k17 k18 k19 k20 k21 k22 k23 k24 k25) (h2 X k0 k1 k2 k3 k4 k5 k6 k7 k8 k9 k10 k11 k12 k13 k14 k15 k16 k17 k18 k19 k20 k21 k22 k23 k24 k25)
theorem cEx.and {N : Nat} {Φ : Nat → Prop} {n : Nat} {op : Int32} {x y : gEx} (h0 : op = 23 ∨ op = 24) (h1 : cEx N Φ n x) (h2 : cEx N Φ n y) : cEx N Φ n (gAnd op x y) := fun X k0 k1 k2 k3 k4 k5 k6 k7 k8 k9 k10 k11 k12 k13 k14 k15 k16 k17 k18 k19 k20 k21 k22 k23 k24 k25 => k15 h0 (h1 X k0 k1 k2 k3 k4 k5 k6 k7 k8 k9 k10 k11 k12 k13 k14 k15 k16 k17 k18 k19 k20 k21 k22 k23 k24 k25) (h2 X k0 k1 k2 k3 k4 k5 k6 k7 k8 k9 k10 k11 k12 k13 k14 k15 k16 k17 k18 k19 k20 k21 k22 k23 k24 k25)
theorem cEx.choice {N : Nat} {Φ : Nat → Prop} {n : Nat} {x y z : gEx} (h0 : cEx N Φ n x) (h1 : cEx N Φ n y) (h2 : cEx N Φ n z) : cEx N Φ n (gChoice x y z) := fun X k0 k1 k2 k3 k4 k5 k6 k7 k8 k9 k10 k11 k12 k13 k14 k15 k16 k17 k18 k19 k20 k21 k22 k23 k24 k25 => k16 (h0 X k0 k1 k2 k3 k4 k5 k6 k7 k8 k9 k10 k11 k12 k13 k14 k15 k16 k17 k18 k19 k20 k21 k22 k23 k24 k25) (h1 X k0 k1 k2 k3 k4 k5 k6 k7 k8 k9 k10 k11 k12 k13 k14 k15 k16 k17 k18 k19 k20 k21 k22 k23 k24 k25) (h2 X k0 k1 k2 k3 k4 k5 k6 k7 k8 k9 k10 k11 k12 k13 k14 k15 k16 k17 k18 k19 k20 k21 k22 k23 k24 k25)
theorem cEx.com {N : Nat} {Φ : Nat → Prop} {n : Nat} {x y : gEx} (h0 : cEx N Φ n x) (h1 : cEx N Φ n y) : cEx N Φ n (gCom x y) := fun X k0 k1 k2 k3 k4 k5 k6 k7 k8 k9 k10 k11 k12 k13 k14 k15 k16 k17 k18 k19 k20 k21 k22 k23 k24 k25 => k17 (h0 X k0 k1 k2 k3 k4 k5 k6 k7 k8 k9 k10 k11 k12 k13 k14 k15 k16 k17 k18 k19 k20 k21 k22 k23 k24 k25) (h1 X k0 k1 k2 k3 k4 k5 k6 k7 k8 k9 k10 k11 k12 k13 k14 k15 k16 k17 k18 k19 k20 k21 k22 k23 k24 k25)
theorem cEx.gvn0 {N : Nat} {Φ : Nat → Prop} {n x : Nat} {v : gEx} (h0 : x < N) (h1 : cEx N Φ n v) : cEx N Φ n (gGvN none x v) := fun X k0 k1 k2 k3 k4 k5 k6 k7 k8 k9 k10 k11 k12 k13 k14 k15 k16 k17 k18 k19 k20 k21 k22 k23 k24 k25 => k18 h0 (h1 X k0 k1 k2 k3 k4 k5 k6 k7 k8 k9 k10 k11 k12 k13 k14 k15 k16 k17 k18 k19 k20 k21 k22 k23 k24 k25)
theorem cEx.gvn1 {N : Nat} {Φ : Nat → Prop} {n x k : Nat} {v : gEx} (h0 : x < N) (h1 : k < 21) (h2 : cEx N Φ n v) : cEx N Φ n (gGvN (some (Int32.ofNat k)) x v) := fun X k0 k1 k2 k3 k4 k5 k6 k7 k8 k9 k10 k11 k12 k13 k14 k15 k16 k17 k18 k19 k20 k21 k22 k23 k24 k25 => k19 h0 h1 (h2 X k0 k1 k2 k3 k4 k5 k6 k7 k8 k9 k10 k11 k12 k13 k14 k15 k16 k17 k18 k19 k20 k21 k22 k23 k24 k25)
theorem cEx.gvm0 {N : Nat} {Φ : Nat → Prop} {n : Nat} {o k v : gEx} (h0 : cEx N Φ (n + 1) o) (h1 : cEx N Φ (n + 1) k) (h2 : cEx N Φ n v) : cEx N Φ (n + 1) (gGvM none o k v) := fun X k0 k1 k2 k3 k4 k5 k6 k7 k8 k9 k10 k11 k12 k13 k14 k15 k16 k17 k18 k19 k20 k21 k22 k23 k24 k25 => k20 (h0 X k0 k1 k2 k3 k4 k5 k6 k7 k8 k9 k10 k11 k12 k13 k14 k15 k16 k17 k18 k19 k20 k21 k22 k23 k24 k25) (h1 X k0 k1 k2 k3 k4 k5 k6 k7 k8 k9 k10 k11 k12 k13 k14 k15 k16 k17 k18 k19 k20 k21 k22 k23 k24 k25) (h2 X k0 k1 k2 k3 k4 k5 k6 k7 k8 k9 k10 k11 k12 k13 k14 k15 k16 k17 k18 k19 k20 k21 k22 k23 k24 k25)
theorem cEx.gvm1 {N : Nat} {Φ : Nat → Prop} {n h : Nat} {o k v : gEx} (h0 : h < 21) (h1 : cEx N Φ n o) (h2 : cEx N Φ n k) (h3 : cEx N Φ n v) : cEx N Φ n (gGvM (some (Int32.ofNat h)) o k v) := fun X k0 k1 k2 k3 k4 k5 k6 k7 k8 k9 k10 k11 k12 k13 k14 k15 k16 k17 k18 k19 k20 k21 k22 k23 k24 k25 => k21 h0 (h1 X k0 k1 k2 k3 k4 k5 k6 k7 k8 k9 k10 k11 k12 k13 k14 k15 k16 k17 k18 k19 k20 k21 k22 k23 k24 k25) (h2 X k0 k1 k2 k3 k4 k5 k6 k7 k8 k9 k10 k11 k12 k13 k14 k15 k16 k17 k18 k19 k20 k21 k22 k23 k24 k25) (h3 X k0 k1 k2 k3 k4 k5 k6 k7 k8 k9 k10 k11 k12 k13 k14 k15 k16 k17 k18 k19 k20 k21 k22 k23 k24 k25)
theorem cEx.bfn {N : Nat} {Φ : Nat → Prop} {n x k : Nat} (h0 : x < N) (h1 : k < 21) : cEx N Φ n (gBfN (Int32.ofNat k) x) := fun X k0 k1 k2 k3 k4 k5 k6 k7 k8 k9 k10 k11 k12 k13 k14 k15 k16 k17 k18 k19 k20 k21 k22 k23 k24 k25 => k22 h0 h1
theorem cEx.bhn {N : Nat} {Φ : Nat → Prop} {n x k : Nat} (h0 : x < N) (h1 : k < 21) : cEx N Φ n (gBhN (Int32.ofNat k) x) := fun X k0 k1 k2 k3 k4 k5 k6 k7 k8 k9 k10 k11 k12 k13 k14 k15 k16 k17 k18 k19 k20 k21 k22 k23 k24 k25 => k23 h0 h1
theorem cEx.bfm {N : Nat} {Φ : Nat → Prop} {n h : Nat} {o k : gEx} (h0 : h < 21) (h1 : cEx N Φ n o) (h2 : cEx N Φ n k) : cEx N Φ n (gBfM (Int32.ofNat h) o k) := fun X k0 k1 k2 k3 k4 k5 k6 k7 k8 k9 k10 k11 k12 k13 k14 k15 k16 k17 k18 k19 k20 k21 k22 k23 k24 k25 => k24 h0 (h1 X k0 k1 k2 k3 k4 k5 k6 k7 k8 k9 k10 k11 k12 k13 k14 k15 k16 k17 k18 k19 k20 k21 k22 k23 k24 k25) (h2 X k0 k1 k2 k3 k4 k5 k6 k7 k8 k9 k10 k11 k12 k13 k14 k15 k16 k17 k18 k19 k20 k21 k22 k23 k24 k25)
theorem cEx.bhm {N : Nat} {Φ : Nat → Prop} {n h : Nat} {o k : gEx} (h0 : h < 21) (h1 : cEx N Φ n o) (h2 : cEx N Φ n k) : cEx N Φ n (gBhM (Int32.ofNat h) o k) := fun X k0 k1 k2 k3 k4 k5 k6 k7 k8 k9 k10 k11 k12 k13 k14 k15 k16 k17 k18 k19 k20 k21 k22 k23 k24 k25 => k25 h0 (h1 X k0 k1 k2 k3 k4 k5 k6 k7 k8 k9 k10 k11 k12 k13 k14 k15 k16 k17 k18 k19 k20 k21 k22 k23 k24 k25) (h2 X k0 k1 k2 k3 k4 k5 k6 k7 k8 k9 k10 k11 k12 k13 k14 k15 k16 k17 k18 k19 k20 k21 k22 k23 k24 k25)
theorem cEx.ind {N : Nat} {Φ : Nat → Prop} {motive : ∀ (i0 : Nat) (i1 : gEx), cEx N Φ i0 i1 → Prop}
    (mono : ∀ {n m : Nat} {g : gEx} (h0 : cEx N Φ n g) (h1 : n ≤ m), (motive n g h0) → motive m g (cEx.mono h0 h1))
    (co : ∀ {n : Nat} {s v : Int32} (h0 : coK N s v), motive n (gCo s v) (cEx.co h0))
    (th : ∀ {n : Nat}, motive n gTh (cEx.th ))
    (get : ∀ {n x : Nat} (h0 : x < N), motive n (gGet x) (cEx.get h0))
    (md : ∀ {n f : Nat} (h0 : Φ f), motive n (gMd f) (cEx.md h0))
    (mem : ∀ {n : Nat} {o k : gEx} (h0 : cEx N Φ n o) (h1 : cEx N Φ n k), (motive n o h0) → (motive n k h1) → motive n (gMem o k) (cEx.mem h0 h1))
    (call : ∀ {n : Nat} {f : gEx} {as : List gEx} (h0 : cEx N Φ (n + 1) f) (h1 : ∀ g ∈ as, cEx N Φ n g) (h2 : as.length ≤ 8), (motive (n + 1) f h0) → (∀ g (hx : g ∈ as), motive n g (h1 g hx)) → motive (n + 1) (gCall f as) (cEx.call h0 h1 h2))
    (callM : ∀ {n : Nat} {o k : gEx} {as : List gEx} (h0 : cEx N Φ (n + 1) o) (h1 : cEx N Φ (n + 1) k) (h2 : ∀ g ∈ as, cEx N Φ n g) (h3 : as.length ≤ 8), (motive (n + 1) o h0) → (motive (n + 1) k h1) → (∀ g (hx : g ∈ as), motive n g (h2 g hx)) → motive (n + 1) (gCallM o k as) (cEx.callM h0 h1 h2 h3))
    (new : ∀ {n : Nat} {f : gEx} {as : List gEx} (h0 : cEx N Φ (n + 1) f) (h1 : ∀ g ∈ as, cEx N Φ n g) (h2 : as.length ≤ 8), (motive (n + 1) f h0) → (∀ g (hx : g ∈ as), motive n g (h1 g hx)) → motive (n + 1) (gNew f as) (cEx.new h0 h1 h2))
    (itm : ∀ {n : Nat} {op : Int32} {r : List (Int32 × Int32 × gEx)} (h0 : op = 7 ∨ op = 8) (h1 : ∀ q ∈ r, coK N q.1 q.2.1) (h2 : ∀ q ∈ r, cEx N Φ n q.2.2), (∀ q (hx : q ∈ r), motive n q.2.2 (h2 q hx)) → motive (n + 1) (gItm op r) (cEx.itm h0 h1 h2))
    (un : ∀ {n k : Nat} {x : gEx} (h0 : k < 5) (h1 : cEx N Φ n x), (motive n x h1) → motive n (gUn (Int32.ofNat k) x) (cEx.un h0 h1))
    (void : ∀ {n : Nat} {x : gEx} (h0 : cEx N Φ n x), (motive n x h0) → motive n (gVoid x) (cEx.void h0))
    (del : ∀ {n : Nat} {o k : gEx} (h0 : cEx N Φ n o) (h1 : cEx N Φ n k), (motive n o h0) → (motive n k h1) → motive n (gDel o k) (cEx.del h0 h1))
    (typ : ∀ {n x : Nat} (h0 : x < N), motive n (gTyp x) (cEx.typ h0))
    (bin : ∀ {n k : Nat} {x y : gEx} (h0 : k < 21) (h1 : cEx N Φ n x) (h2 : cEx N Φ n y), (motive n x h1) → (motive n y h2) → motive n (gBin (Int32.ofNat k) x y) (cEx.bin h0 h1 h2))
    (and : ∀ {n : Nat} {op : Int32} {x y : gEx} (h0 : op = 23 ∨ op = 24) (h1 : cEx N Φ n x) (h2 : cEx N Φ n y), (motive n x h1) → (motive n y h2) → motive n (gAnd op x y) (cEx.and h0 h1 h2))
    (choice : ∀ {n : Nat} {x y z : gEx} (h0 : cEx N Φ n x) (h1 : cEx N Φ n y) (h2 : cEx N Φ n z), (motive n x h0) → (motive n y h1) → (motive n z h2) → motive n (gChoice x y z) (cEx.choice h0 h1 h2))
    (com : ∀ {n : Nat} {x y : gEx} (h0 : cEx N Φ n x) (h1 : cEx N Φ n y), (motive n x h0) → (motive n y h1) → motive n (gCom x y) (cEx.com h0 h1))
    (gvn0 : ∀ {n x : Nat} {v : gEx} (h0 : x < N) (h1 : cEx N Φ n v), (motive n v h1) → motive n (gGvN none x v) (cEx.gvn0 h0 h1))
    (gvn1 : ∀ {n x k : Nat} {v : gEx} (h0 : x < N) (h1 : k < 21) (h2 : cEx N Φ n v), (motive n v h2) → motive n (gGvN (some (Int32.ofNat k)) x v) (cEx.gvn1 h0 h1 h2))
    (gvm0 : ∀ {n : Nat} {o k v : gEx} (h0 : cEx N Φ (n + 1) o) (h1 : cEx N Φ (n + 1) k) (h2 : cEx N Φ n v), (motive (n + 1) o h0) → (motive (n + 1) k h1) → (motive n v h2) → motive (n + 1) (gGvM none o k v) (cEx.gvm0 h0 h1 h2))
    (gvm1 : ∀ {n h : Nat} {o k v : gEx} (h0 : h < 21) (h1 : cEx N Φ n o) (h2 : cEx N Φ n k) (h3 : cEx N Φ n v), (motive n o h1) → (motive n k h2) → (motive n v h3) → motive n (gGvM (some (Int32.ofNat h)) o k v) (cEx.gvm1 h0 h1 h2 h3))
    (bfn : ∀ {n x k : Nat} (h0 : x < N) (h1 : k < 21), motive n (gBfN (Int32.ofNat k) x) (cEx.bfn h0 h1))
    (bhn : ∀ {n x k : Nat} (h0 : x < N) (h1 : k < 21), motive n (gBhN (Int32.ofNat k) x) (cEx.bhn h0 h1))
    (bfm : ∀ {n h : Nat} {o k : gEx} (h0 : h < 21) (h1 : cEx N Φ n o) (h2 : cEx N Φ n k), (motive n o h1) → (motive n k h2) → motive n (gBfM (Int32.ofNat h) o k) (cEx.bfm h0 h1 h2))
    (bhm : ∀ {n h : Nat} {o k : gEx} (h0 : h < 21) (h1 : cEx N Φ n o) (h2 : cEx N Φ n k), (motive n o h1) → (motive n k h2) → motive n (gBhM (Int32.ofNat h) o k) (cEx.bhm h0 h1 h2))
    {i0 : Nat} {i1 : gEx} (h : cEx N Φ i0 i1) : motive i0 i1 h :=
  (h (fun i0 i1 => ∃ h : cEx N Φ i0 i1, motive i0 i1 h)
    (fun ⟨h0, y0⟩ h1 => ⟨cEx.mono h0 h1, mono h0 h1 y0⟩)
    (fun h0 => ⟨cEx.co h0, co h0⟩)
    (⟨cEx.th , th⟩)
    (fun h0 => ⟨cEx.get h0, get h0⟩)
    (fun h0 => ⟨cEx.md h0, md h0⟩)
    (fun ⟨h0, y0⟩ ⟨h1, y1⟩ => ⟨cEx.mem h0 h1, mem h0 h1 y0 y1⟩)
    (fun ⟨h0, y0⟩ h1 h2 => ⟨cEx.call h0 (fun x hx => (h1 x hx).elim fun y _ => y) h2, call h0 (fun x hx => (h1 x hx).elim fun y _ => y) h2 y0 (fun x hx => (h1 x hx).elim fun _ y => y)⟩)
    (fun ⟨h0, y0⟩ ⟨h1, y1⟩ h2 h3 => ⟨cEx.callM h0 h1 (fun x hx => (h2 x hx).elim fun y _ => y) h3, callM h0 h1 (fun x hx => (h2 x hx).elim fun y _ => y) h3 y0 y1 (fun x hx => (h2 x hx).elim fun _ y => y)⟩)
    (fun ⟨h0, y0⟩ h1 h2 => ⟨cEx.new h0 (fun x hx => (h1 x hx).elim fun y _ => y) h2, new h0 (fun x hx => (h1 x hx).elim fun y _ => y) h2 y0 (fun x hx => (h1 x hx).elim fun _ y => y)⟩)
    (fun h0 h1 h2 => ⟨cEx.itm h0 h1 (fun x hx => (h2 x hx).elim fun y _ => y), itm h0 h1 (fun x hx => (h2 x hx).elim fun y _ => y) (fun x hx => (h2 x hx).elim fun _ y => y)⟩)
    (fun h0 ⟨h1, y1⟩ => ⟨cEx.un h0 h1, un h0 h1 y1⟩)
    (fun ⟨h0, y0⟩ => ⟨cEx.void h0, void h0 y0⟩)
    (fun ⟨h0, y0⟩ ⟨h1, y1⟩ => ⟨cEx.del h0 h1, del h0 h1 y0 y1⟩)
    (fun h0 => ⟨cEx.typ h0, typ h0⟩)
    (fun h0 ⟨h1, y1⟩ ⟨h2, y2⟩ => ⟨cEx.bin h0 h1 h2, bin h0 h1 h2 y1 y2⟩)
    (fun h0 ⟨h1, y1⟩ ⟨h2, y2⟩ => ⟨cEx.and h0 h1 h2, and h0 h1 h2 y1 y2⟩)
    (fun ⟨h0, y0⟩ ⟨h1, y1⟩ ⟨h2, y2⟩ => ⟨cEx.choice h0 h1 h2, choice h0 h1 h2 y0 y1 y2⟩)
    (fun ⟨h0, y0⟩ ⟨h1, y1⟩ => ⟨cEx.com h0 h1, com h0 h1 y0 y1⟩)
    (fun h0 ⟨h1, y1⟩ => ⟨cEx.gvn0 h0 h1, gvn0 h0 h1 y1⟩)
    (fun h0 h1 ⟨h2, y2⟩ => ⟨cEx.gvn1 h0 h1 h2, gvn1 h0 h1 h2 y2⟩)
    (fun ⟨h0, y0⟩ ⟨h1, y1⟩ ⟨h2, y2⟩ => ⟨cEx.gvm0 h0 h1 h2, gvm0 h0 h1 h2 y0 y1 y2⟩)
    (fun h0 ⟨h1, y1⟩ ⟨h2, y2⟩ ⟨h3, y3⟩ => ⟨cEx.gvm1 h0 h1 h2 h3, gvm1 h0 h1 h2 h3 y1 y2 y3⟩)
    (fun h0 h1 => ⟨cEx.bfn h0 h1, bfn h0 h1⟩)
    (fun h0 h1 => ⟨cEx.bhn h0 h1, bhn h0 h1⟩)
    (fun h0 ⟨h1, y1⟩ ⟨h2, y2⟩ => ⟨cEx.bfm h0 h1 h2, bfm h0 h1 h2 y1 y2⟩)
    (fun h0 ⟨h1, y1⟩ ⟨h2, y2⟩ => ⟨cEx.bhm h0 h1 h2, bhm h0 h1 h2 y1 y2⟩)).elim fun _ y => y
/-- statements: expressions up to H; loops, switches around; tries within one another at most d -/
def cSt (N : Nat) (Φ : Nat → Prop) (H : Nat) (i0 : Nat) (i1 : Nat) (i2 : Nat) (i3 : gSt) : Prop := ∀ X : Nat → Nat → Nat → gSt → Prop, (∀ {l w d : Nat}, X l w d gNo) → (∀ {l w d : Nat} {x y : gSt}, (X l w d x) → (X l w d y) → X l w d (gSq x y)) → (∀ {l w d : Nat} {x : gEx}, (cEx N Φ H x) → X l w d (gPl x)) → (∀ {l w d : Nat} {x : gEx} {y : gSt}, (cEx N Φ H x) → (X l w d y) → X l w d (gIf x y)) → (∀ {l w d : Nat} {x : gEx} {y z : gSt}, (cEx N Φ H x) → (X l w d y) → (X l w d z) → X l w d (gIfE x y z)) → (∀ {l w d : Nat} {x : gEx} {y : gSt}, (cEx N Φ H x) → (X (l + 1) w d y) → X l w d (gWh x y)) → (∀ {l w d : Nat} {x : gEx} {y : gSt}, (cEx N Φ H x) → (X (l + 1) w d y) → X l w d (gDo y x)) → (∀ {l w d : Nat} {i z y : gSt}, (X l w d i) → (X l w d z) → (X (l + 1) w d y) → X l w d (gFor i none z y)) → (∀ {l w d : Nat} {x : gEx} {i z y : gSt}, (cEx N Φ H x) → (X l w d i) → (X l w d z) → (X (l + 1) w d y) → X l w d (gFor i (some x) z y)) → (∀ {l w d n : Nat} {x : gEx} {y : gSt}, (n < N) → (cEx N Φ H x) → (X (l + 1) w d y) → X l w d (gEa n x y)) → (∀ {l w d : Nat}, (1 ≤ l + w) → X l w d (fun e Γ st => gGo true e Γ st)) → (∀ {l w d : Nat}, (1 ≤ l) → X l w d (fun e Γ st => gGo false e Γ st)) → (∀ {l w d : Nat} {x : gEx}, (cEx N Φ H x) → X l w d (gBk x)) → (∀ {l w d : Nat} {x : gEx}, (cEx N Φ H x) → X l w d (gTo x)) → (∀ {l w d n : Nat} {y z : gSt}, (n < N) → (X l w d y) → (X l w d z) → X l w (d + 1) (gTrC y n z)) → (∀ {l w d : Nat} {y z : gSt}, (X l w d y) → (X l w d z) → X l w (d + 1) (gTrF y z)) → (∀ {l w d : Nat} {x : gEx} {cs : List (Option gEx × gSt)}, (cEx N Φ H x) → (∀ q ∈ cs, ∀ g, q.1 = some g → cEx N Φ H g) → (∀ q ∈ cs, X l (w + 1) d q.2) → X l w d (gSw x cs)) → X i0 i1 i2 i3
theorem cSt.no {N : Nat} {Φ : Nat → Prop} {H : Nat} {l w d : Nat}  : cSt N Φ H l w d gNo := fun X k0 k1 k2 k3 k4 k5 k6 k7 k8 k9 k10 k11 k12 k13 k14 k15 k16 => k0 
theorem cSt.sq {N : Nat} {Φ : Nat → Prop} {H : Nat} {l w d : Nat} {x y : gSt} (h0 : cSt N Φ H l w d x) (h1 : cSt N Φ H l w d y) : cSt N Φ H l w d (gSq x y) := fun X k0 k1 k2 k3 k4 k5 k6 k7 k8 k9 k10 k11 k12 k13 k14 k15 k16 => k1 (h0 X k0 k1 k2 k3 k4 k5 k6 k7 k8 k9 k10 k11 k12 k13 k14 k15 k16) (h1 X k0 k1 k2 k3 k4 k5 k6 k7 k8 k9 k10 k11 k12 k13 k14 k15 k16)
theorem cSt.pl {N : Nat} {Φ : Nat → Prop} {H : Nat} {l w d : Nat} {x : gEx} (h0 : cEx N Φ H x) : cSt N Φ H l w d (gPl x) := fun X k0 k1 k2 k3 k4 k5 k6 k7 k8 k9 k10 k11 k12 k13 k14 k15 k16 => k2 h0
theorem cSt.ift {N : Nat} {Φ : Nat → Prop} {H : Nat} {l w d : Nat} {x : gEx} {y : gSt} (h0 : cEx N Φ H x) (h1 : cSt N Φ H l w d y) : cSt N Φ H l w d (gIf x y) := fun X k0 k1 k2 k3 k4 k5 k6 k7 k8 k9 k10 k11 k12 k13 k14 k15 k16 => k3 h0 (h1 X k0 k1 k2 k3 k4 k5 k6 k7 k8 k9 k10 k11 k12 k13 k14 k15 k16)
theorem cSt.ife {N : Nat} {Φ : Nat → Prop} {H : Nat} {l w d : Nat} {x : gEx} {y z : gSt} (h0 : cEx N Φ H x) (h1 : cSt N Φ H l w d y) (h2 : cSt N Φ H l w d z) : cSt N Φ H l w d (gIfE x y z) := fun X k0 k1 k2 k3 k4 k5 k6 k7 k8 k9 k10 k11 k12 k13 k14 k15 k16 => k4 h0 (h1 X k0 k1 k2 k3 k4 k5 k6 k7 k8 k9 k10 k11 k12 k13 k14 k15 k16) (h2 X k0 k1 k2 k3 k4 k5 k6 k7 k8 k9 k10 k11 k12 k13 k14 k15 k16)
theorem cSt.wh {N : Nat} {Φ : Nat → Prop} {H : Nat} {l w d : Nat} {x : gEx} {y : gSt} (h0 : cEx N Φ H x) (h1 : cSt N Φ H (l + 1) w d y) : cSt N Φ H l w d (gWh x y) := fun X k0 k1 k2 k3 k4 k5 k6 k7 k8 k9 k10 k11 k12 k13 k14 k15 k16 => k5 h0 (h1 X k0 k1 k2 k3 k4 k5 k6 k7 k8 k9 k10 k11 k12 k13 k14 k15 k16)
theorem cSt.dow {N : Nat} {Φ : Nat → Prop} {H : Nat} {l w d : Nat} {x : gEx} {y : gSt} (h0 : cEx N Φ H x) (h1 : cSt N Φ H (l + 1) w d y) : cSt N Φ H l w d (gDo y x) := fun X k0 k1 k2 k3 k4 k5 k6 k7 k8 k9 k10 k11 k12 k13 k14 k15 k16 => k6 h0 (h1 X k0 k1 k2 k3 k4 k5 k6 k7 k8 k9 k10 k11 k12 k13 k14 k15 k16)
theorem cSt.for0 {N : Nat} {Φ : Nat → Prop} {H : Nat} {l w d : Nat} {i z y : gSt} (h0 : cSt N Φ H l w d i) (h1 : cSt N Φ H l w d z) (h2 : cSt N Φ H (l + 1) w d y) : cSt N Φ H l w d (gFor i none z y) := fun X k0 k1 k2 k3 k4 k5 k6 k7 k8 k9 k10 k11 k12 k13 k14 k15 k16 => k7 (h0 X k0 k1 k2 k3 k4 k5 k6 k7 k8 k9 k10 k11 k12 k13 k14 k15 k16) (h1 X k0 k1 k2 k3 k4 k5 k6 k7 k8 k9 k10 k11 k12 k13 k14 k15 k16) (h2 X k0 k1 k2 k3 k4 k5 k6 k7 k8 k9 k10 k11 k12 k13 k14 k15 k16)
theorem cSt.for1 {N : Nat} {Φ : Nat → Prop} {H : Nat} {l w d : Nat} {x : gEx} {i z y : gSt} (h0 : cEx N Φ H x) (h1 : cSt N Φ H l w d i) (h2 : cSt N Φ H l w d z) (h3 : cSt N Φ H (l + 1) w d y) : cSt N Φ H l w d (gFor i (some x) z y) := fun X k0 k1 k2 k3 k4 k5 k6 k7 k8 k9 k10 k11 k12 k13 k14 k15 k16 => k8 h0 (h1 X k0 k1 k2 k3 k4 k5 k6 k7 k8 k9 k10 k11 k12 k13 k14 k15 k16) (h2 X k0 k1 k2 k3 k4 k5 k6 k7 k8 k9 k10 k11 k12 k13 k14 k15 k16) (h3 X k0 k1 k2 k3 k4 k5 k6 k7 k8 k9 k10 k11 k12 k13 k14 k15 k16)
theorem cSt.ea {N : Nat} {Φ : Nat → Prop} {H : Nat} {l w d n : Nat} {x : gEx} {y : gSt} (h0 : n < N) (h1 : cEx N Φ H x) (h2 : cSt N Φ H (l + 1) w d y) : cSt N Φ H l w d (gEa n x y) := fun X k0 k1 k2 k3 k4 k5 k6 k7 k8 k9 k10 k11 k12 k13 k14 k15 k16 => k9 h0 h1 (h2 X k0 k1 k2 k3 k4 k5 k6 k7 k8 k9 k10 k11 k12 k13 k14 k15 k16)
theorem cSt.brk {N : Nat} {Φ : Nat → Prop} {H : Nat} {l w d : Nat} (h0 : 1 ≤ l + w) : cSt N Φ H l w d (fun e Γ st => gGo true e Γ st) := fun X k0 k1 k2 k3 k4 k5 k6 k7 k8 k9 k10 k11 k12 k13 k14 k15 k16 => k10 h0
theorem cSt.cnt {N : Nat} {Φ : Nat → Prop} {H : Nat} {l w d : Nat} (h0 : 1 ≤ l) : cSt N Φ H l w d (fun e Γ st => gGo false e Γ st) := fun X k0 k1 k2 k3 k4 k5 k6 k7 k8 k9 k10 k11 k12 k13 k14 k15 k16 => k11 h0
theorem cSt.bk {N : Nat} {Φ : Nat → Prop} {H : Nat} {l w d : Nat} {x : gEx} (h0 : cEx N Φ H x) : cSt N Φ H l w d (gBk x) := fun X k0 k1 k2 k3 k4 k5 k6 k7 k8 k9 k10 k11 k12 k13 k14 k15 k16 => k12 h0
theorem cSt.to {N : Nat} {Φ : Nat → Prop} {H : Nat} {l w d : Nat} {x : gEx} (h0 : cEx N Φ H x) : cSt N Φ H l w d (gTo x) := fun X k0 k1 k2 k3 k4 k5 k6 k7 k8 k9 k10 k11 k12 k13 k14 k15 k16 => k13 h0
theorem cSt.trc {N : Nat} {Φ : Nat → Prop} {H : Nat} {l w d n : Nat} {y z : gSt} (h0 : n < N) (h1 : cSt N Φ H l w d y) (h2 : cSt N Φ H l w d z) : cSt N Φ H l w (d + 1) (gTrC y n z) := fun X k0 k1 k2 k3 k4 k5 k6 k7 k8 k9 k10 k11 k12 k13 k14 k15 k16 => k14 h0 (h1 X k0 k1 k2 k3 k4 k5 k6 k7 k8 k9 k10 k11 k12 k13 k14 k15 k16) (h2 X k0 k1 k2 k3 k4 k5 k6 k7 k8 k9 k10 k11 k12 k13 k14 k15 k16)
theorem cSt.trf {N : Nat} {Φ : Nat → Prop} {H : Nat} {l w d : Nat} {y z : gSt} (h0 : cSt N Φ H l w d y) (h1 : cSt N Φ H l w d z) : cSt N Φ H l w (d + 1) (gTrF y z) := fun X k0 k1 k2 k3 k4 k5 k6 k7 k8 k9 k10 k11 k12 k13 k14 k15 k16 => k15 (h0 X k0 k1 k2 k3 k4 k5 k6 k7 k8 k9 k10 k11 k12 k13 k14 k15 k16) (h1 X k0 k1 k2 k3 k4 k5 k6 k7 k8 k9 k10 k11 k12 k13 k14 k15 k16)
theorem cSt.sw {N : Nat} {Φ : Nat → Prop} {H : Nat} {l w d : Nat} {x : gEx} {cs : List (Option gEx × gSt)} (h0 : cEx N Φ H x) (h1 : ∀ q ∈ cs, ∀ g, q.1 = some g → cEx N Φ H g) (h2 : ∀ q ∈ cs, cSt N Φ H l (w + 1) d q.2) : cSt N Φ H l w d (gSw x cs) := fun X k0 k1 k2 k3 k4 k5 k6 k7 k8 k9 k10 k11 k12 k13 k14 k15 k16 => k16 h0 h1 (fun x hx => h2 x hx X k0 k1 k2 k3 k4 k5 k6 k7 k8 k9 k10 k11 k12 k13 k14 k15 k16)
theorem cSt.ind {N : Nat} {Φ : Nat → Prop} {H : Nat} {motive : ∀ (i0 : Nat) (i1 : Nat) (i2 : Nat) (i3 : gSt), cSt N Φ H i0 i1 i2 i3 → Prop}
    (no : ∀ {l w d : Nat}, motive l w d gNo (cSt.no ))
    (sq : ∀ {l w d : Nat} {x y : gSt} (h0 : cSt N Φ H l w d x) (h1 : cSt N Φ H l w d y), (motive l w d x h0) → (motive l w d y h1) → motive l w d (gSq x y) (cSt.sq h0 h1))
    (pl : ∀ {l w d : Nat} {x : gEx} (h0 : cEx N Φ H x), motive l w d (gPl x) (cSt.pl h0))
    (ift : ∀ {l w d : Nat} {x : gEx} {y : gSt} (h0 : cEx N Φ H x) (h1 : cSt N Φ H l w d y), (motive l w d y h1) → motive l w d (gIf x y) (cSt.ift h0 h1))
    (ife : ∀ {l w d : Nat} {x : gEx} {y z : gSt} (h0 : cEx N Φ H x) (h1 : cSt N Φ H l w d y) (h2 : cSt N Φ H l w d z), (motive l w d y h1) → (motive l w d z h2) → motive l w d (gIfE x y z) (cSt.ife h0 h1 h2))
    (wh : ∀ {l w d : Nat} {x : gEx} {y : gSt} (h0 : cEx N Φ H x) (h1 : cSt N Φ H (l + 1) w d y), (motive (l + 1) w d y h1) → motive l w d (gWh x y) (cSt.wh h0 h1))
    (dow : ∀ {l w d : Nat} {x : gEx} {y : gSt} (h0 : cEx N Φ H x) (h1 : cSt N Φ H (l + 1) w d y), (motive (l + 1) w d y h1) → motive l w d (gDo y x) (cSt.dow h0 h1))
    (for0 : ∀ {l w d : Nat} {i z y : gSt} (h0 : cSt N Φ H l w d i) (h1 : cSt N Φ H l w d z) (h2 : cSt N Φ H (l + 1) w d y), (motive l w d i h0) → (motive l w d z h1) → (motive (l + 1) w d y h2) → motive l w d (gFor i none z y) (cSt.for0 h0 h1 h2))
    (for1 : ∀ {l w d : Nat} {x : gEx} {i z y : gSt} (h0 : cEx N Φ H x) (h1 : cSt N Φ H l w d i) (h2 : cSt N Φ H l w d z) (h3 : cSt N Φ H (l + 1) w d y), (motive l w d i h1) → (motive l w d z h2) → (motive (l + 1) w d y h3) → motive l w d (gFor i (some x) z y) (cSt.for1 h0 h1 h2 h3))
    (ea : ∀ {l w d n : Nat} {x : gEx} {y : gSt} (h0 : n < N) (h1 : cEx N Φ H x) (h2 : cSt N Φ H (l + 1) w d y), (motive (l + 1) w d y h2) → motive l w d (gEa n x y) (cSt.ea h0 h1 h2))
    (brk : ∀ {l w d : Nat} (h0 : 1 ≤ l + w), motive l w d (fun e Γ st => gGo true e Γ st) (cSt.brk h0))
    (cnt : ∀ {l w d : Nat} (h0 : 1 ≤ l), motive l w d (fun e Γ st => gGo false e Γ st) (cSt.cnt h0))
    (bk : ∀ {l w d : Nat} {x : gEx} (h0 : cEx N Φ H x), motive l w d (gBk x) (cSt.bk h0))
    (to : ∀ {l w d : Nat} {x : gEx} (h0 : cEx N Φ H x), motive l w d (gTo x) (cSt.to h0))
    (trc : ∀ {l w d n : Nat} {y z : gSt} (h0 : n < N) (h1 : cSt N Φ H l w d y) (h2 : cSt N Φ H l w d z), (motive l w d y h1) → (motive l w d z h2) → motive l w (d + 1) (gTrC y n z) (cSt.trc h0 h1 h2))
    (trf : ∀ {l w d : Nat} {y z : gSt} (h0 : cSt N Φ H l w d y) (h1 : cSt N Φ H l w d z), (motive l w d y h0) → (motive l w d z h1) → motive l w (d + 1) (gTrF y z) (cSt.trf h0 h1))
    (sw : ∀ {l w d : Nat} {x : gEx} {cs : List (Option gEx × gSt)} (h0 : cEx N Φ H x) (h1 : ∀ q ∈ cs, ∀ g, q.1 = some g → cEx N Φ H g) (h2 : ∀ q ∈ cs, cSt N Φ H l (w + 1) d q.2), (∀ q (hx : q ∈ cs), motive l (w + 1) d q.2 (h2 q hx)) → motive l w d (gSw x cs) (cSt.sw h0 h1 h2))
    {i0 : Nat} {i1 : Nat} {i2 : Nat} {i3 : gSt} (h : cSt N Φ H i0 i1 i2 i3) : motive i0 i1 i2 i3 h :=
  (h (fun i0 i1 i2 i3 => ∃ h : cSt N Φ H i0 i1 i2 i3, motive i0 i1 i2 i3 h)
    (⟨cSt.no , no⟩)
    (fun ⟨h0, y0⟩ ⟨h1, y1⟩ => ⟨cSt.sq h0 h1, sq h0 h1 y0 y1⟩)
    (fun h0 => ⟨cSt.pl h0, pl h0⟩)
    (fun h0 ⟨h1, y1⟩ => ⟨cSt.ift h0 h1, ift h0 h1 y1⟩)
    (fun h0 ⟨h1, y1⟩ ⟨h2, y2⟩ => ⟨cSt.ife h0 h1 h2, ife h0 h1 h2 y1 y2⟩)
    (fun h0 ⟨h1, y1⟩ => ⟨cSt.wh h0 h1, wh h0 h1 y1⟩)
    (fun h0 ⟨h1, y1⟩ => ⟨cSt.dow h0 h1, dow h0 h1 y1⟩)
    (fun ⟨h0, y0⟩ ⟨h1, y1⟩ ⟨h2, y2⟩ => ⟨cSt.for0 h0 h1 h2, for0 h0 h1 h2 y0 y1 y2⟩)
    (fun h0 ⟨h1, y1⟩ ⟨h2, y2⟩ ⟨h3, y3⟩ => ⟨cSt.for1 h0 h1 h2 h3, for1 h0 h1 h2 h3 y1 y2 y3⟩)
    (fun h0 h1 ⟨h2, y2⟩ => ⟨cSt.ea h0 h1 h2, ea h0 h1 h2 y2⟩)
    (fun h0 => ⟨cSt.brk h0, brk h0⟩)
    (fun h0 => ⟨cSt.cnt h0, cnt h0⟩)
    (fun h0 => ⟨cSt.bk h0, bk h0⟩)
    (fun h0 => ⟨cSt.to h0, to h0⟩)
    (fun h0 ⟨h1, y1⟩ ⟨h2, y2⟩ => ⟨cSt.trc h0 h1 h2, trc h0 h1 h2 y1 y2⟩)
    (fun ⟨h0, y0⟩ ⟨h1, y1⟩ => ⟨cSt.trf h0 h1, trf h0 h1 y0 y1⟩)
    (fun h0 h1 h2 => ⟨cSt.sw h0 h1 (fun x hx => (h2 x hx).elim fun y _ => y), sw h0 h1 (fun x hx => (h2 x hx).elim fun y _ => y) (fun x hx => (h2 x hx).elim fun _ y => y)⟩)).elim fun _ y => y
theorem coK.mono {N N' : Nat} {s v : Int32} (h : coK N s v) (hN : N ≤ N') : coK N' s v := by
  obtain ⟨k, h1, h2, h3⟩ := h
  exact ⟨k, h1, h2, fun e => by obtain ⟨j, h4, h5⟩ := h3 e; exact ⟨j, h4, by omega⟩⟩
theorem cEx.up {N N' : Nat} {Φ Φ' : Nat → Prop} (hN : N ≤ N') (hΦ : ∀ f, Φ f → Φ' f) {n : Nat} {g : gEx} (h : cEx N Φ n g) : cEx N' Φ' n g := by
  induction h using cEx.ind with
  | mono _ hm ih => exact .mono ih hm
  | co h => exact .co (h.mono hN)
  | th => exact .th
  | get h => exact .get (by omega)
  | md h => exact .md (hΦ _ h)
  | mem _ _ i1 i2 => exact .mem i1 i2
  | call _ _ h i1 i2 => exact .call i1 i2 h
  | callM _ _ _ h i1 i2 i3 => exact .callM i1 i2 i3 h
  | new _ _ h i1 i2 => exact .new i1 i2 h
  | itm h1 h2 _ i => exact .itm h1 (fun q hq => (h2 q hq).mono hN) i
  | un h _ i => exact .un h i
  | void _ i => exact .void i
  | del _ _ i1 i2 => exact .del i1 i2
  | typ h => exact .typ (by omega)
  | bin h _ _ i1 i2 => exact .bin h i1 i2
  | and h _ _ i1 i2 => exact .and h i1 i2
  | choice _ _ _ i1 i2 i3 => exact .choice i1 i2 i3
  | com _ _ i1 i2 => exact .com i1 i2
  | gvn0 h _ i => exact .gvn0 (by omega) i
  | gvn1 h h2 _ i => exact .gvn1 (by omega) h2 i
  | gvm0 _ _ _ i1 i2 i3 => exact .gvm0 i1 i2 i3
  | gvm1 h1 _ _ _ i1 i2 i3 => exact .gvm1 h1 i1 i2 i3
  | bfn h1 h2 => exact .bfn (by omega) h2
  | bhn h1 h2 => exact .bhn (by omega) h2
  | bfm h _ _ i1 i2 => exact .bfm h i1 i2
  | bhm h _ _ i1 i2 => exact .bhm h i1 i2
theorem cSt.up {N N' H : Nat} {Φ Φ' : Nat → Prop} (hN : N ≤ N') (hΦ : ∀ f, Φ f → Φ' f) {l w d : Nat} {g : gSt} (h : cSt N Φ H l w d g) : ∀ d', d ≤ d' → cSt N' Φ' H l w d' g := by
  induction h using cSt.ind with
  | no => exact fun d' hd => .no
  | sq _ _ i1 i2 => exact fun d' hd => .sq (i1 d' hd) (i2 d' hd)
  | pl h => exact fun d' hd => .pl (h.up hN hΦ)
  | ift h _ i => exact fun d' hd => .ift (h.up hN hΦ) (i d' hd)
  | ife h _ _ i1 i2 => exact fun d' hd => .ife (h.up hN hΦ) (i1 d' hd) (i2 d' hd)
  | wh h _ i => exact fun d' hd => .wh (h.up hN hΦ) (i d' hd)
  | dow h _ i => exact fun d' hd => .dow (h.up hN hΦ) (i d' hd)
  | for0 _ _ _ i1 i2 i3 => exact fun d' hd => .for0 (i1 d' hd) (i2 d' hd) (i3 d' hd)
  | for1 h _ _ _ i1 i2 i3 => exact fun d' hd => .for1 (h.up hN hΦ) (i1 d' hd) (i2 d' hd) (i3 d' hd)
  | ea h1 h _ i => exact fun d' hd => .ea (by omega) (h.up hN hΦ) (i d' hd)
  | brk h => exact fun d' hd => .brk h
  | cnt h => exact fun d' hd => .cnt h
  | bk h => exact fun d' hd => .bk (h.up hN hΦ)
  | to h => exact fun d' hd => .to (h.up hN hΦ)
  | trc h _ _ i1 i2 =>
    intro d' hd
    obtain ⟨k, rfl⟩ : ∃ k, d' = k + 1 := ⟨d' - 1, by omega⟩
    exact .trc (by omega) (i1 k (by omega)) (i2 k (by omega))
  | trf _ _ i1 i2 =>
    intro d' hd
    obtain ⟨k, rfl⟩ : ∃ k, d' = k + 1 := ⟨d' - 1, by omega⟩
    exact .trf (i1 k (by omega)) (i2 k (by omega))
  | sw h h1 _ i => exact fun d' hd => .sw (h.up hN hΦ) (fun q hq g hg => (h1 q hq g hg).up hN hΦ) (fun q hq => i q hq d' hd)
