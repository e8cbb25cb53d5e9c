/-! TYPES OF CODE: the static stack, the tries (by their handlers' marks), the function -/
abbrev tyP : Type := List Bool × List (Nat × Nat) × Nat
def tyOf (q : gI) : tyP := (q.2.2.2.2.2.1, q.2.2.2.2.2.2, q.2.2.1)
/-- names; variables (function, links, name); functions (by the function around) -/
abbrev tH : Type := Nat × (Nat → Nat → Nat → Prop) × (Nat → Nat → Prop)
/-- what an instruction needs, and leaves; nx: behind it, jp: at its mark; tk: the tries are in order; S sites -/
def opF (θ : tH) (S : Nat) (L : List Bool) (t : List (Nat × Nat)) (g : Nat) (nx : tyP → Prop) (jp : Nat → tyP → Prop) (tk : List Bool → Prop) (i0 : Int32) (i1 : Int32) (i2 : Int32) (i3 : Option Nat) : Prop := ∀ X : Int32 → Int32 → Int32 → Option Nat → Prop, (∀ {s v : Int32}, (coK θ.1 s v) → (nx (false :: L, t, g)) → X 0 s v none) → (∀ {h x : Nat}, (θ.2.1 g h x) → (nx (false :: L, t, g)) → X 1 (Int32.ofNat h) (Int32.ofNat x) none) → (∀ {h x : Nat} {L' : List Bool}, (θ.2.1 g h x) → (L = false :: L') → (nx (L, t, g)) → X 2 (Int32.ofNat h) (Int32.ofNat x) none) → (∀ {x : Nat}, (nx (false :: L, t, g)) → X 3 0 (Int32.ofNat x) none) → (∀ {x : Nat} {L' : List Bool}, (x < θ.1) → (L = false :: L') → (nx (L, t, g)) → X 4 0 (Int32.ofNat x) none) → (∀ {x : Nat}, (nx (false :: L, t, g)) → X 5 0 (Int32.ofNat x) none) → ((nx (false :: L, t, g)) → X 6 0 0 none) → (∀ {op : Int32} {k : Nat}, (op = 7 ∨ op = 8) → (k < S) → (nx (false :: L, t, g)) → X op (Int32.ofNat k) 0 none) → (∀ {f : Nat}, (θ.2.2 g f) → (nx (false :: L, t, g)) → X 9 (Int32.ofNat f) 0 none) → (∀ {op : Int32} {L' : List Bool}, (op = 10 ∨ op = 12) → (L = false :: false :: L') → (nx (false :: L', t, g)) → X op 0 0 none) → (∀ {L' : List Bool}, (L = false :: false :: false :: L') → (nx (false :: L', t, g)) → X 11 0 0 none) → (∀ {h : Nat} {L' : List Bool}, (h < 5) → (L = false :: L') → (nx (false :: L', t, g)) → X 13 (Int32.ofNat h) 0 none) → (∀ {h : Nat} {L' : List Bool}, (h < 21) → (L = false :: false :: L') → (nx (false :: L', t, g)) → X 14 (Int32.ofNat h) 0 none) → (∀ {n : Nat} {L' : List Bool}, (L = List.replicate n false ++ false :: false :: L') → (tk L') → (nx (false :: L', t, g)) → X 15 (Int32.ofNat n) 0 none) → (∀ {n s : Nat} {L' : List Bool}, (s < S) → (L = List.replicate n false ++ false :: L') → (tk L') → (nx (false :: L', t, g)) → X 16 (Int32.ofNat n) (Int32.ofNat s) none) → (∀ {c : Bool} {L' : List Bool}, (L = c :: L') → (nx (L', t, g)) → X 17 0 0 none) → (∀ {L' : List Bool}, (L = false :: L') → (nx (false :: L, t, g)) → X 18 0 0 none) → (∀ {L' : List Bool}, (L = false :: false :: L') → (nx (false :: false :: L, t, g)) → X 19 0 0 none) → (∀ {L' : List Bool}, (L = false :: false :: false :: L') → (nx (false :: L, t, g)) → X 20 0 0 none) → (∀ {m : Nat}, (jp m (L, t, g)) → X 21 0 0 (some m)) → (∀ {m : Nat} {L' : List Bool}, (L = false :: L') → (jp m (L', t, g)) → (nx (L', t, g)) → X 22 0 0 (some m)) → (∀ {op : Int32} {m : Nat} {L' : List Bool}, (op = 23 ∨ op = 24) → (L = false :: L') → (jp m (L, t, g)) → (nx (L', t, g)) → X op 0 0 (some m)) → (∀ {L' : List Bool}, (L = false :: L') → X 25 0 0 none) → (∀ {L' : List Bool}, (L = false :: L') → X 26 0 0 none) → (∀ {m : Nat}, (nx (L, (m, L.length) :: t, g)) → X 27 0 0 (some m)) → (∀ {q : Nat × Nat} {t' : List (Nat × Nat)}, (t = q :: t') → (nx (L, t', g)) → X 28 0 0 none) → (∀ {L' : List Bool}, (L = false :: L') → (nx (true :: L', t, g)) → X 29 0 0 none) → (∀ {m : Nat} {L' : List Bool}, (L = true :: L') → (jp m (L', t, g)) → (nx (false :: L, t, g)) → X 30 0 0 (some m)) → X i0 i1 i2 i3
theorem opF.co {θ : tH} {S : Nat} {L : List Bool} {t : List (Nat × Nat)} {g : Nat} {nx : tyP → Prop} {jp : Nat → tyP → Prop} {tk : List Bool → Prop} {s v : Int32} (h0 : coK θ.1 s v) (h1 : nx (false :: L, t, g)) : opF θ S L t g nx jp tk 0 s v none := fun X k0 k1 k2 k3 k4 k5 k6 k7 k8 k9 k10 k11 k12 k13 k14 k15 k16 k17 k18 k19 k20 k21 k22 k23 k24 k25 k26 k27 => k0 h0 h1
theorem opF.ld {θ : tH} {S : Nat} {L : List Bool} {t : List (Nat × Nat)} {g : Nat} {nx : tyP → Prop} {jp : Nat → tyP → Prop} {tk : List Bool → Prop} {h x : Nat} (h0 : θ.2.1 g h x) (h1 : nx (false :: L, t, g)) : opF θ S L t g nx jp tk 1 (Int32.ofNat h) (Int32.ofNat x) none := fun X k0 k1 k2 k3 k4 k5 k6 k7 k8 k9 k10 k11 k12 k13 k14 k15 k16 k17 k18 k19 k20 k21 k22 k23 k24 k25 k26 k27 => k1 h0 h1
theorem opF.st {θ : tH} {S : Nat} {L : List Bool} {t : List (Nat × Nat)} {g : Nat} {nx : tyP → Prop} {jp : Nat → tyP → Prop} {tk : List Bool → Prop} {h x : Nat} {L' : List Bool} (h0 : θ.2.1 g h x) (h1 : L = false :: L') (h2 : nx (L, t, g)) : opF θ S L t g nx jp tk 2 (Int32.ofNat h) (Int32.ofNat x) none := fun X k0 k1 k2 k3 k4 k5 k6 k7 k8 k9 k10 k11 k12 k13 k14 k15 k16 k17 k18 k19 k20 k21 k22 k23 k24 k25 k26 k27 => k2 h0 h1 h2
theorem opF.gl {θ : tH} {S : Nat} {L : List Bool} {t : List (Nat × Nat)} {g : Nat} {nx : tyP → Prop} {jp : Nat → tyP → Prop} {tk : List Bool → Prop} {x : Nat} (h0 : nx (false :: L, t, g)) : opF θ S L t g nx jp tk 3 0 (Int32.ofNat x) none := fun X k0 k1 k2 k3 k4 k5 k6 k7 k8 k9 k10 k11 k12 k13 k14 k15 k16 k17 k18 k19 k20 k21 k22 k23 k24 k25 k26 k27 => k3 h0
theorem opF.sg {θ : tH} {S : Nat} {L : List Bool} {t : List (Nat × Nat)} {g : Nat} {nx : tyP → Prop} {jp : Nat → tyP → Prop} {tk : List Bool → Prop} {x : Nat} {L' : List Bool} (h0 : x < θ.1) (h1 : L = false :: L') (h2 : nx (L, t, g)) : opF θ S L t g nx jp tk 4 0 (Int32.ofNat x) none := fun X k0 k1 k2 k3 k4 k5 k6 k7 k8 k9 k10 k11 k12 k13 k14 k15 k16 k17 k18 k19 k20 k21 k22 k23 k24 k25 k26 k27 => k4 h0 h1 h2
theorem opF.tg {θ : tH} {S : Nat} {L : List Bool} {t : List (Nat × Nat)} {g : Nat} {nx : tyP → Prop} {jp : Nat → tyP → Prop} {tk : List Bool → Prop} {x : Nat} (h0 : nx (false :: L, t, g)) : opF θ S L t g nx jp tk 5 0 (Int32.ofNat x) none := fun X k0 k1 k2 k3 k4 k5 k6 k7 k8 k9 k10 k11 k12 k13 k14 k15 k16 k17 k18 k19 k20 k21 k22 k23 k24 k25 k26 k27 => k5 h0
theorem opF.th {θ : tH} {S : Nat} {L : List Bool} {t : List (Nat × Nat)} {g : Nat} {nx : tyP → Prop} {jp : Nat → tyP → Prop} {tk : List Bool → Prop}  (h0 : nx (false :: L, t, g)) : opF θ S L t g nx jp tk 6 0 0 none := fun X k0 k1 k2 k3 k4 k5 k6 k7 k8 k9 k10 k11 k12 k13 k14 k15 k16 k17 k18 k19 k20 k21 k22 k23 k24 k25 k26 k27 => k6 h0
theorem opF.nw {θ : tH} {S : Nat} {L : List Bool} {t : List (Nat × Nat)} {g : Nat} {nx : tyP → Prop} {jp : Nat → tyP → Prop} {tk : List Bool → Prop} {op : Int32} {k : Nat} (h0 : op = 7 ∨ op = 8) (h1 : k < S) (h2 : nx (false :: L, t, g)) : opF θ S L t g nx jp tk op (Int32.ofNat k) 0 none := fun X k0 k1 k2 k3 k4 k5 k6 k7 k8 k9 k10 k11 k12 k13 k14 k15 k16 k17 k18 k19 k20 k21 k22 k23 k24 k25 k26 k27 => k7 h0 h1 h2
theorem opF.md {θ : tH} {S : Nat} {L : List Bool} {t : List (Nat × Nat)} {g : Nat} {nx : tyP → Prop} {jp : Nat → tyP → Prop} {tk : List Bool → Prop} {f : Nat} (h0 : θ.2.2 g f) (h1 : nx (false :: L, t, g)) : opF θ S L t g nx jp tk 9 (Int32.ofNat f) 0 none := fun X k0 k1 k2 k3 k4 k5 k6 k7 k8 k9 k10 k11 k12 k13 k14 k15 k16 k17 k18 k19 k20 k21 k22 k23 k24 k25 k26 k27 => k8 h0 h1
theorem opF.b2 {θ : tH} {S : Nat} {L : List Bool} {t : List (Nat × Nat)} {g : Nat} {nx : tyP → Prop} {jp : Nat → tyP → Prop} {tk : List Bool → Prop} {op : Int32} {L' : List Bool} (h0 : op = 10 ∨ op = 12) (h1 : L = false :: false :: L') (h2 : nx (false :: L', t, g)) : opF θ S L t g nx jp tk op 0 0 none := fun X k0 k1 k2 k3 k4 k5 k6 k7 k8 k9 k10 k11 k12 k13 k14 k15 k16 k17 k18 k19 k20 k21 k22 k23 k24 k25 k26 k27 => k9 h0 h1 h2
theorem opF.pt {θ : tH} {S : Nat} {L : List Bool} {t : List (Nat × Nat)} {g : Nat} {nx : tyP → Prop} {jp : Nat → tyP → Prop} {tk : List Bool → Prop} {L' : List Bool} (h0 : L = false :: false :: false :: L') (h1 : nx (false :: L', t, g)) : opF θ S L t g nx jp tk 11 0 0 none := fun X k0 k1 k2 k3 k4 k5 k6 k7 k8 k9 k10 k11 k12 k13 k14 k15 k16 k17 k18 k19 k20 k21 k22 k23 k24 k25 k26 k27 => k10 h0 h1
theorem opF.un {θ : tH} {S : Nat} {L : List Bool} {t : List (Nat × Nat)} {g : Nat} {nx : tyP → Prop} {jp : Nat → tyP → Prop} {tk : List Bool → Prop} {h : Nat} {L' : List Bool} (h0 : h < 5) (h1 : L = false :: L') (h2 : nx (false :: L', t, g)) : opF θ S L t g nx jp tk 13 (Int32.ofNat h) 0 none := fun X k0 k1 k2 k3 k4 k5 k6 k7 k8 k9 k10 k11 k12 k13 k14 k15 k16 k17 k18 k19 k20 k21 k22 k23 k24 k25 k26 k27 => k11 h0 h1 h2
theorem opF.bi {θ : tH} {S : Nat} {L : List Bool} {t : List (Nat × Nat)} {g : Nat} {nx : tyP → Prop} {jp : Nat → tyP → Prop} {tk : List Bool → Prop} {h : Nat} {L' : List Bool} (h0 : h < 21) (h1 : L = false :: false :: L') (h2 : nx (false :: L', t, g)) : opF θ S L t g nx jp tk 14 (Int32.ofNat h) 0 none := fun X k0 k1 k2 k3 k4 k5 k6 k7 k8 k9 k10 k11 k12 k13 k14 k15 k16 k17 k18 k19 k20 k21 k22 k23 k24 k25 k26 k27 => k12 h0 h1 h2
theorem opF.cl {θ : tH} {S : Nat} {L : List Bool} {t : List (Nat × Nat)} {g : Nat} {nx : tyP → Prop} {jp : Nat → tyP → Prop} {tk : List Bool → Prop} {n : Nat} {L' : List Bool} (h0 : L = List.replicate n false ++ false :: false :: L') (h1 : tk L') (h2 : nx (false :: L', t, g)) : opF θ S L t g nx jp tk 15 (Int32.ofNat n) 0 none := fun X k0 k1 k2 k3 k4 k5 k6 k7 k8 k9 k10 k11 k12 k13 k14 k15 k16 k17 k18 k19 k20 k21 k22 k23 k24 k25 k26 k27 => k13 h0 h1 h2
theorem opF.ne {θ : tH} {S : Nat} {L : List Bool} {t : List (Nat × Nat)} {g : Nat} {nx : tyP → Prop} {jp : Nat → tyP → Prop} {tk : List Bool → Prop} {n s : Nat} {L' : List Bool} (h0 : s < S) (h1 : L = List.replicate n false ++ false :: L') (h2 : tk L') (h3 : nx (false :: L', t, g)) : opF θ S L t g nx jp tk 16 (Int32.ofNat n) (Int32.ofNat s) none := fun X k0 k1 k2 k3 k4 k5 k6 k7 k8 k9 k10 k11 k12 k13 k14 k15 k16 k17 k18 k19 k20 k21 k22 k23 k24 k25 k26 k27 => k14 h0 h1 h2 h3
theorem opF.dr {θ : tH} {S : Nat} {L : List Bool} {t : List (Nat × Nat)} {g : Nat} {nx : tyP → Prop} {jp : Nat → tyP → Prop} {tk : List Bool → Prop} {c : Bool} {L' : List Bool} (h0 : L = c :: L') (h1 : nx (L', t, g)) : opF θ S L t g nx jp tk 17 0 0 none := fun X k0 k1 k2 k3 k4 k5 k6 k7 k8 k9 k10 k11 k12 k13 k14 k15 k16 k17 k18 k19 k20 k21 k22 k23 k24 k25 k26 k27 => k15 h0 h1
theorem opF.cp {θ : tH} {S : Nat} {L : List Bool} {t : List (Nat × Nat)} {g : Nat} {nx : tyP → Prop} {jp : Nat → tyP → Prop} {tk : List Bool → Prop} {L' : List Bool} (h0 : L = false :: L') (h1 : nx (false :: L, t, g)) : opF θ S L t g nx jp tk 18 0 0 none := fun X k0 k1 k2 k3 k4 k5 k6 k7 k8 k9 k10 k11 k12 k13 k14 k15 k16 k17 k18 k19 k20 k21 k22 k23 k24 k25 k26 k27 => k16 h0 h1
theorem opF.c2 {θ : tH} {S : Nat} {L : List Bool} {t : List (Nat × Nat)} {g : Nat} {nx : tyP → Prop} {jp : Nat → tyP → Prop} {tk : List Bool → Prop} {L' : List Bool} (h0 : L = false :: false :: L') (h1 : nx (false :: false :: L, t, g)) : opF θ S L t g nx jp tk 19 0 0 none := fun X k0 k1 k2 k3 k4 k5 k6 k7 k8 k9 k10 k11 k12 k13 k14 k15 k16 k17 k18 k19 k20 k21 k22 k23 k24 k25 k26 k27 => k17 h0 h1
theorem opF.c3 {θ : tH} {S : Nat} {L : List Bool} {t : List (Nat × Nat)} {g : Nat} {nx : tyP → Prop} {jp : Nat → tyP → Prop} {tk : List Bool → Prop} {L' : List Bool} (h0 : L = false :: false :: false :: L') (h1 : nx (false :: L, t, g)) : opF θ S L t g nx jp tk 20 0 0 none := fun X k0 k1 k2 k3 k4 k5 k6 k7 k8 k9 k10 k11 k12 k13 k14 k15 k16 k17 k18 k19 k20 k21 k22 k23 k24 k25 k26 k27 => k18 h0 h1
theorem opF.jm {θ : tH} {S : Nat} {L : List Bool} {t : List (Nat × Nat)} {g : Nat} {nx : tyP → Prop} {jp : Nat → tyP → Prop} {tk : List Bool → Prop} {m : Nat} (h0 : jp m (L, t, g)) : opF θ S L t g nx jp tk 21 0 0 (some m) := fun X k0 k1 k2 k3 k4 k5 k6 k7 k8 k9 k10 k11 k12 k13 k14 k15 k16 k17 k18 k19 k20 k21 k22 k23 k24 k25 k26 k27 => k19 h0
theorem opF.ul {θ : tH} {S : Nat} {L : List Bool} {t : List (Nat × Nat)} {g : Nat} {nx : tyP → Prop} {jp : Nat → tyP → Prop} {tk : List Bool → Prop} {m : Nat} {L' : List Bool} (h0 : L = false :: L') (h1 : jp m (L', t, g)) (h2 : nx (L', t, g)) : opF θ S L t g nx jp tk 22 0 0 (some m) := fun X k0 k1 k2 k3 k4 k5 k6 k7 k8 k9 k10 k11 k12 k13 k14 k15 k16 k17 k18 k19 k20 k21 k22 k23 k24 k25 k26 k27 => k20 h0 h1 h2
theorem opF.ao {θ : tH} {S : Nat} {L : List Bool} {t : List (Nat × Nat)} {g : Nat} {nx : tyP → Prop} {jp : Nat → tyP → Prop} {tk : List Bool → Prop} {op : Int32} {m : Nat} {L' : List Bool} (h0 : op = 23 ∨ op = 24) (h1 : L = false :: L') (h2 : jp m (L, t, g)) (h3 : nx (L', t, g)) : opF θ S L t g nx jp tk op 0 0 (some m) := fun X k0 k1 k2 k3 k4 k5 k6 k7 k8 k9 k10 k11 k12 k13 k14 k15 k16 k17 k18 k19 k20 k21 k22 k23 k24 k25 k26 k27 => k21 h0 h1 h2 h3
theorem opF.rt {θ : tH} {S : Nat} {L : List Bool} {t : List (Nat × Nat)} {g : Nat} {nx : tyP → Prop} {jp : Nat → tyP → Prop} {tk : List Bool → Prop} {L' : List Bool} (h0 : L = false :: L') : opF θ S L t g nx jp tk 25 0 0 none := fun X k0 k1 k2 k3 k4 k5 k6 k7 k8 k9 k10 k11 k12 k13 k14 k15 k16 k17 k18 k19 k20 k21 k22 k23 k24 k25 k26 k27 => k22 h0
theorem opF.tw {θ : tH} {S : Nat} {L : List Bool} {t : List (Nat × Nat)} {g : Nat} {nx : tyP → Prop} {jp : Nat → tyP → Prop} {tk : List Bool → Prop} {L' : List Bool} (h0 : L = false :: L') : opF θ S L t g nx jp tk 26 0 0 none := fun X k0 k1 k2 k3 k4 k5 k6 k7 k8 k9 k10 k11 k12 k13 k14 k15 k16 k17 k18 k19 k20 k21 k22 k23 k24 k25 k26 k27 => k23 h0
theorem opF.tr {θ : tH} {S : Nat} {L : List Bool} {t : List (Nat × Nat)} {g : Nat} {nx : tyP → Prop} {jp : Nat → tyP → Prop} {tk : List Bool → Prop} {m : Nat} (h0 : nx (L, (m, L.length) :: t, g)) : opF θ S L t g nx jp tk 27 0 0 (some m) := fun X k0 k1 k2 k3 k4 k5 k6 k7 k8 k9 k10 k11 k12 k13 k14 k15 k16 k17 k18 k19 k20 k21 k22 k23 k24 k25 k26 k27 => k24 h0
theorem opF.lv {θ : tH} {S : Nat} {L : List Bool} {t : List (Nat × Nat)} {g : Nat} {nx : tyP → Prop} {jp : Nat → tyP → Prop} {tk : List Bool → Prop} {q : Nat × Nat} {t' : List (Nat × Nat)} (h0 : t = q :: t') (h1 : nx (L, t', g)) : opF θ S L t g nx jp tk 28 0 0 none := fun X k0 k1 k2 k3 k4 k5 k6 k7 k8 k9 k10 k11 k12 k13 k14 k15 k16 k17 k18 k19 k20 k21 k22 k23 k24 k25 k26 k27 => k25 h0 h1
theorem opF.ls {θ : tH} {S : Nat} {L : List Bool} {t : List (Nat × Nat)} {g : Nat} {nx : tyP → Prop} {jp : Nat → tyP → Prop} {tk : List Bool → Prop} {L' : List Bool} (h0 : L = false :: L') (h1 : nx (true :: L', t, g)) : opF θ S L t g nx jp tk 29 0 0 none := fun X k0 k1 k2 k3 k4 k5 k6 k7 k8 k9 k10 k11 k12 k13 k14 k15 k16 k17 k18 k19 k20 k21 k22 k23 k24 k25 k26 k27 => k26 h0 h1
theorem opF.ni {θ : tH} {S : Nat} {L : List Bool} {t : List (Nat × Nat)} {g : Nat} {nx : tyP → Prop} {jp : Nat → tyP → Prop} {tk : List Bool → Prop} {m : Nat} {L' : List Bool} (h0 : L = true :: L') (h1 : jp m (L', t, g)) (h2 : nx (false :: L, t, g)) : opF θ S L t g nx jp tk 30 0 0 (some m) := fun X k0 k1 k2 k3 k4 k5 k6 k7 k8 k9 k10 k11 k12 k13 k14 k15 k16 k17 k18 k19 k20 k21 k22 k23 k24 k25 k26 k27 => k27 h0 h1 h2
theorem opF.ind {θ : tH} {S : Nat} {L : List Bool} {t : List (Nat × Nat)} {g : Nat} {nx : tyP → Prop} {jp : Nat → tyP → Prop} {tk : List Bool → Prop} {motive : ∀ (i0 : Int32) (i1 : Int32) (i2 : Int32) (i3 : Option Nat), opF θ S L t g nx jp tk i0 i1 i2 i3 → Prop}
    (co : ∀ {s v : Int32} (h0 : coK θ.1 s v) (h1 : nx (false :: L, t, g)), motive 0 s v none (opF.co h0 h1))
    (ld : ∀ {h x : Nat} (h0 : θ.2.1 g h x) (h1 : nx (false :: L, t, g)), motive 1 (Int32.ofNat h) (Int32.ofNat x) none (opF.ld h0 h1))
    (st : ∀ {h x : Nat} {L' : List Bool} (h0 : θ.2.1 g h x) (h1 : L = false :: L') (h2 : nx (L, t, g)), motive 2 (Int32.ofNat h) (Int32.ofNat x) none (opF.st h0 h1 h2))
    (gl : ∀ {x : Nat} (h0 : nx (false :: L, t, g)), motive 3 0 (Int32.ofNat x) none (opF.gl h0))
    (sg : ∀ {x : Nat} {L' : List Bool} (h0 : x < θ.1) (h1 : L = false :: L') (h2 : nx (L, t, g)), motive 4 0 (Int32.ofNat x) none (opF.sg h0 h1 h2))
    (tg : ∀ {x : Nat} (h0 : nx (false :: L, t, g)), motive 5 0 (Int32.ofNat x) none (opF.tg h0))
    (th : ∀ (h0 : nx (false :: L, t, g)), motive 6 0 0 none (opF.th h0))
    (nw : ∀ {op : Int32} {k : Nat} (h0 : op = 7 ∨ op = 8) (h1 : k < S) (h2 : nx (false :: L, t, g)), motive op (Int32.ofNat k) 0 none (opF.nw h0 h1 h2))
    (md : ∀ {f : Nat} (h0 : θ.2.2 g f) (h1 : nx (false :: L, t, g)), motive 9 (Int32.ofNat f) 0 none (opF.md h0 h1))
    (b2 : ∀ {op : Int32} {L' : List Bool} (h0 : op = 10 ∨ op = 12) (h1 : L = false :: false :: L') (h2 : nx (false :: L', t, g)), motive op 0 0 none (opF.b2 h0 h1 h2))
    (pt : ∀ {L' : List Bool} (h0 : L = false :: false :: false :: L') (h1 : nx (false :: L', t, g)), motive 11 0 0 none (opF.pt h0 h1))
    (un : ∀ {h : Nat} {L' : List Bool} (h0 : h < 5) (h1 : L = false :: L') (h2 : nx (false :: L', t, g)), motive 13 (Int32.ofNat h) 0 none (opF.un h0 h1 h2))
    (bi : ∀ {h : Nat} {L' : List Bool} (h0 : h < 21) (h1 : L = false :: false :: L') (h2 : nx (false :: L', t, g)), motive 14 (Int32.ofNat h) 0 none (opF.bi h0 h1 h2))
    (cl : ∀ {n : Nat} {L' : List Bool} (h0 : L = List.replicate n false ++ false :: false :: L') (h1 : tk L') (h2 : nx (false :: L', t, g)), motive 15 (Int32.ofNat n) 0 none (opF.cl h0 h1 h2))
    (ne : ∀ {n s : Nat} {L' : List Bool} (h0 : s < S) (h1 : L = List.replicate n false ++ false :: L') (h2 : tk L') (h3 : nx (false :: L', t, g)), motive 16 (Int32.ofNat n) (Int32.ofNat s) none (opF.ne h0 h1 h2 h3))
    (dr : ∀ {c : Bool} {L' : List Bool} (h0 : L = c :: L') (h1 : nx (L', t, g)), motive 17 0 0 none (opF.dr h0 h1))
    (cp : ∀ {L' : List Bool} (h0 : L = false :: L') (h1 : nx (false :: L, t, g)), motive 18 0 0 none (opF.cp h0 h1))
    (c2 : ∀ {L' : List Bool} (h0 : L = false :: false :: L') (h1 : nx (false :: false :: L, t, g)), motive 19 0 0 none (opF.c2 h0 h1))
    (c3 : ∀ {L' : List Bool} (h0 : L = false :: false :: false :: L') (h1 : nx (false :: L, t, g)), motive 20 0 0 none (opF.c3 h0 h1))
    (jm : ∀ {m : Nat} (h0 : jp m (L, t, g)), motive 21 0 0 (some m) (opF.jm h0))
    (ul : ∀ {m : Nat} {L' : List Bool} (h0 : L = false :: L') (h1 : jp m (L', t, g)) (h2 : nx (L', t, g)), motive 22 0 0 (some m) (opF.ul h0 h1 h2))
    (ao : ∀ {op : Int32} {m : Nat} {L' : List Bool} (h0 : op = 23 ∨ op = 24) (h1 : L = false :: L') (h2 : jp m (L, t, g)) (h3 : nx (L', t, g)), motive op 0 0 (some m) (opF.ao h0 h1 h2 h3))
    (rt : ∀ {L' : List Bool} (h0 : L = false :: L'), motive 25 0 0 none (opF.rt h0))
    (tw : ∀ {L' : List Bool} (h0 : L = false :: L'), motive 26 0 0 none (opF.tw h0))
    (tr : ∀ {m : Nat} (h0 : nx (L, (m, L.length) :: t, g)), motive 27 0 0 (some m) (opF.tr h0))
    (lv : ∀ {q : Nat × Nat} {t' : List (Nat × Nat)} (h0 : t = q :: t') (h1 : nx (L, t', g)), motive 28 0 0 none (opF.lv h0 h1))
    (ls : ∀ {L' : List Bool} (h0 : L = false :: L') (h1 : nx (true :: L', t, g)), motive 29 0 0 none (opF.ls h0 h1))
    (ni : ∀ {m : Nat} {L' : List Bool} (h0 : L = true :: L') (h1 : jp m (L', t, g)) (h2 : nx (false :: L, t, g)), motive 30 0 0 (some m) (opF.ni h0 h1 h2))
    {i0 : Int32} {i1 : Int32} {i2 : Int32} {i3 : Option Nat} (h : opF θ S L t g nx jp tk i0 i1 i2 i3) : motive i0 i1 i2 i3 h :=
  (h (fun i0 i1 i2 i3 => ∃ h : opF θ S L t g nx jp tk i0 i1 i2 i3, motive i0 i1 i2 i3 h)
    (fun h0 h1 => ⟨opF.co h0 h1, co h0 h1⟩)
    (fun h0 h1 => ⟨opF.ld h0 h1, ld h0 h1⟩)
    (fun h0 h1 h2 => ⟨opF.st h0 h1 h2, st h0 h1 h2⟩)
    (fun h0 => ⟨opF.gl h0, gl h0⟩)
    (fun h0 h1 h2 => ⟨opF.sg h0 h1 h2, sg h0 h1 h2⟩)
    (fun h0 => ⟨opF.tg h0, tg h0⟩)
    (fun h0 => ⟨opF.th h0, th h0⟩)
    (fun h0 h1 h2 => ⟨opF.nw h0 h1 h2, nw h0 h1 h2⟩)
    (fun h0 h1 => ⟨opF.md h0 h1, md h0 h1⟩)
    (fun h0 h1 h2 => ⟨opF.b2 h0 h1 h2, b2 h0 h1 h2⟩)
    (fun h0 h1 => ⟨opF.pt h0 h1, pt h0 h1⟩)
    (fun h0 h1 h2 => ⟨opF.un h0 h1 h2, un h0 h1 h2⟩)
    (fun h0 h1 h2 => ⟨opF.bi h0 h1 h2, bi h0 h1 h2⟩)
    (fun h0 h1 h2 => ⟨opF.cl h0 h1 h2, cl h0 h1 h2⟩)
    (fun h0 h1 h2 h3 => ⟨opF.ne h0 h1 h2 h3, ne h0 h1 h2 h3⟩)
    (fun h0 h1 => ⟨opF.dr h0 h1, dr h0 h1⟩)
    (fun h0 h1 => ⟨opF.cp h0 h1, cp h0 h1⟩)
    (fun h0 h1 => ⟨opF.c2 h0 h1, c2 h0 h1⟩)
    (fun h0 h1 => ⟨opF.c3 h0 h1, c3 h0 h1⟩)
    (fun h0 => ⟨opF.jm h0, jm h0⟩)
    (fun h0 h1 h2 => ⟨opF.ul h0 h1 h2, ul h0 h1 h2⟩)
    (fun h0 h1 h2 h3 => ⟨opF.ao h0 h1 h2 h3, ao h0 h1 h2 h3⟩)
    (fun h0 => ⟨opF.rt h0, rt h0⟩)
    (fun h0 => ⟨opF.tw h0, tw h0⟩)
    (fun h0 => ⟨opF.tr h0, tr h0⟩)
    (fun h0 h1 => ⟨opF.lv h0 h1, lv h0 h1⟩)
    (fun h0 h1 => ⟨opF.ls h0 h1, ls h0 h1⟩)
    (fun h0 h1 h2 => ⟨opF.ni h0 h1 h2, ni h0 h1 h2⟩)).elim fun _ y => y
theorem opF.imp {θ : tH} {S S' : Nat} {L : List Bool} {t : List (Nat × Nat)} {g : Nat} {nx nx' : tyP → Prop} {jp jp' : Nat → tyP → Prop} {tk tk' : List Bool → Prop} {op a b : Int32} {mk : Option Nat} (h : opF θ S L t g nx jp tk op a b mk) (hS : S ≤ S') (hn : ∀ x, nx x → nx' x) (hj : ∀ m x, mk = some m → jp m x → jp' m x) (ht : ∀ x, tk x → tk' x) : opF θ S' L t g nx' jp' tk' op a b mk := by
  cases h using opF.ind with
  | co h1 h2 => exact .co h1 (hn _ h2)
  | ld h1 h2 => exact .ld h1 (hn _ h2)
  | st h1 h2 h3 => exact .st h1 h2 (hn _ h3)
  | gl h => exact .gl (hn _ h)
  | sg h1 h2 h3 => exact .sg h1 h2 (hn _ h3)
  | tg h => exact .tg (hn _ h)
  | th h => exact .th (hn _ h)
  | nw h1 h2 h3 => exact .nw h1 (by omega) (hn _ h3)
  | md h1 h2 => exact .md h1 (hn _ h2)
  | b2 h1 h2 h3 => exact .b2 h1 h2 (hn _ h3)
  | pt h2 h3 => exact .pt h2 (hn _ h3)
  | un h1 h2 h3 => exact .un h1 h2 (hn _ h3)
  | bi h1 h2 h3 => exact .bi h1 h2 (hn _ h3)
  | cl h1 h2 h3 => exact .cl h1 (ht _ h2) (hn _ h3)
  | ne h0 h1 h2 h3 => exact .ne (by omega) h1 (ht _ h2) (hn _ h3)
  | dr h2 h3 => exact .dr h2 (hn _ h3)
  | cp h2 h3 => exact .cp h2 (hn _ h3)
  | c2 h2 h3 => exact .c2 h2 (hn _ h3)
  | c3 h2 h3 => exact .c3 h2 (hn _ h3)
  | jm h => exact .jm (hj _ _ rfl h)
  | ul h1 h2 h3 => exact .ul h1 (hj _ _ rfl h2) (hn _ h3)
  | ao h0 h1 h2 h3 => exact .ao h0 h1 (hj _ _ rfl h2) (hn _ h3)
  | rt h => exact .rt h
  | tw h => exact .tw h
  | tr h => exact .tr (hn _ h)
  | lv h1 h2 => exact .lv h1 (hn _ h2)
  | ls h1 h2 => exact .ls h1 (hn _ h2)
  | ni h1 h2 h3 => exact .ni h1 (hj _ _ rfl h2) (hn _ h3)
/-- tries of a stack: where they go on -/
def tkm (μ : Nat → tyP) (b g : Nat) : List Bool → List (Nat × Nat) → Prop
  | _, [] => True
  | L, (m, h) :: t => h ≤ L.length ∧ m < b ∧ μ m = (false :: L.drop (L.length - h), t, g) ∧ tkm μ b g (L.drop (L.length - h)) t
theorem tkm.mono {μ μ' : Nat → tyP} {b b' g : Nat} (hm : ∀ m, m < b → μ' m = μ m) (hb : b ≤ b') : ∀ {t : List (Nat × Nat)} {L : List Bool}, tkm μ b g L t → tkm μ' b' g L t
  | [], _, _ => trivial
  | (m, h) :: t, L, ⟨h1, h2, h3, h4⟩ => ⟨h1, by omega, (hm m h2).trans h3, tkm.mono hm hb h4⟩
/-- more values above -/
theorem tkm.app {μ : Nat → tyP} {b g : Nat} (X : List Bool) : ∀ {t : List (Nat × Nat)} {L : List Bool}, tkm μ b g L t → tkm μ b g (X ++ L) t
  | [], _, _ => trivial
  | (m, h) :: t, L, ⟨h1, h2, h3, h4⟩ => by
    have e : (X ++ L).drop ((X ++ L).length - h) = L.drop (L.length - h) := by
      rw [List.length_append, show X.length + L.length - h = X.length + (L.length - h) by omega, List.drop_append]
      simp
    exact ⟨by rw [List.length_append]; omega, h2, by rw [e]; exact h3, by rw [e]; exact h4⟩
/-- the type of a place -/
def typ (s : gS) (F : tyP) (p : Nat) : tyP := match s.c[p]? with | some q => tyOf q | none => F
theorem typ_end {s : gS} {F : tyP} {p : Nat} (h : s.c.length ≤ p) : typ s F p = F := by unfold typ; rw [List.getElem?_eq_none h]
theorem typ_in {s : gS} {F : tyP} {p : Nat} {q : gI} (h : s.c[p]? = some q) : typ s F p = tyOf q := by unfold typ; rw [h]
/-- marks that wait -/
def pnd (P : Nat → Prop) (s : gS) (m : Nat) : Prop := m < s.m ∧ (s.at m = none → P m)
/-- what is coded so far is typed; μ: the marks' types, P: marks that wait; F: the type here -/
def tyS (θ : tH) (μ : Nat → tyP) (P : Nat → Prop) (s : gS) (F : tyP) : Prop :=
  (∀ (k : Nat) q, s.c[k]? = some q → opF θ s.si q.2.2.2.2.2.1 q.2.2.2.2.2.2 q.2.2.1 (fun x => typ s F (k + 1) = x) (fun m x => μ m = x) (fun L => tkm μ s.m q.2.2.1 L q.2.2.2.2.2.2) q.1.1 q.1.2.1 q.1.2.2 q.2.1 ∧ tkm μ s.m q.2.2.1 q.2.2.2.2.2.1 q.2.2.2.2.2.2 ∧ (∀ m, q.2.1 = some m → pnd P s m) ∧ ∀ x ∈ q.2.2.2.2.2.2, pnd P s x.1) ∧
  (∀ m p, s.at m = some p → p ≤ s.c.length ∧ m < s.m ∧ typ s F p = μ m)
/-- from s to s' -/
def tyR (θ : tH) (P : Nat → Prop) (μ : Nat → tyP) (s : gS) (F : tyP) (μ' : Nat → tyP) (s' : gS) (F' : tyP) : Prop :=
  tyS θ μ' P s' F' ∧ s.m ≤ s'.m ∧ (∀ m, m < s.m → μ' m = μ m) ∧ s.c.length ≤ s'.c.length ∧ s.si ≤ s'.si ∧ (∀ p, p ≤ s.c.length → typ s' F' p = typ s F p) ∧ ∀ m, s.at m ≠ none → s'.at m ≠ none
section
variable {θ : tH} {P P' : Nat → Prop} {μ μ' μ'' : Nat → tyP} {s s' s'' : gS} {F F' F'' : tyP}
theorem tyR.rf (h : tyS θ μ P s F) : tyR θ P μ s F μ s F := ⟨h, Nat.le_refl _, fun _ _ => rfl, Nat.le_refl _, Nat.le_refl _, fun _ _ => rfl, fun _ z => z⟩
theorem tyR.tr (h : tyR θ P μ s F μ' s' F') (h' : tyR θ P' μ' s' F' μ'' s'' F'') : tyR θ P' μ s F μ'' s'' F'' :=
  ⟨h'.1, Nat.le_trans h.2.1 h'.2.1, fun m hm => (h'.2.2.1 m (Nat.lt_of_lt_of_le hm h.2.1)).trans (h.2.2.1 m hm), Nat.le_trans h.2.2.2.1 h'.2.2.2.1, Nat.le_trans h.2.2.2.2.1 h'.2.2.2.2.1, fun p hp => (h'.2.2.2.2.2.1 p (Nat.le_trans hp h.2.2.2.1)).trans (h.2.2.2.2.2.1 p hp), fun m z => h'.2.2.2.2.2.2 m (h.2.2.2.2.2.2 m z)⟩
theorem tyS.mono (h : tyS θ μ P s F) (hp : ∀ m, P m → P' m) : tyS θ μ P' s F := ⟨fun k q hq => by
  obtain ⟨h1, h2, h3, h4⟩ := h.1 k q hq
  exact ⟨h1, h2, fun m hm => ⟨(h3 m hm).1, fun z => hp m ((h3 m hm).2 z)⟩, fun x hx => ⟨(h4 x hx).1, fun z => hp _ ((h4 x hx).2 z)⟩⟩, h.2⟩
theorem tyR.mono (h : tyR θ P μ s F μ' s' F') (hp : ∀ m, P m → P' m) : tyR θ P' μ s F μ' s' F' := ⟨h.1.mono hp, h.2⟩
/-- a new mark -/
theorem ty_mkm (T : tyP) (h : tyS θ μ P s F) : tyR θ P μ s F (fun m => if m = s.m then T else μ m) (mkm s) F := by
  refine ⟨⟨fun k q hq => ?_, fun m p hm => ?_⟩, Nat.le_succ _, fun m hm => if_neg (by omega), Nat.le_refl _, Nat.le_refl _, fun _ _ => rfl, fun _ z => z⟩
  · obtain ⟨h1, h2, h3, h4⟩ := h.1 k q hq
    have up : ∀ m, m < s.m → (fun m => if m = s.m then T else μ m) m = μ m := fun m hm => if_neg (by omega)
    refine ⟨h1.imp (Nat.le_refl _) (fun _ z => z) (fun m x e z => (up m (h3 m e).1).trans z) (fun L z => z.mono up (Nat.le_succ _)), h2.mono up (Nat.le_succ _), fun m hm => ⟨Nat.lt_succ_of_lt (h3 m hm).1, (h3 m hm).2⟩, fun x hx => ⟨Nat.lt_succ_of_lt (h4 x hx).1, (h4 x hx).2⟩⟩
  · obtain ⟨h1, h2, h3⟩ := h.2 m p hm
    exact ⟨h1, Nat.lt_succ_of_lt h2, h3.trans (if_neg (show ¬ m = s.m by omega)).symm⟩
/-- a mark is here -/
theorem ty_hrp {m p : Nat} (h : tyS θ μ (fun k => P k ∨ k = m) s F) (hm : m < s.m) (hp : p ≤ s.c.length) (e : typ s F p = μ m) : tyR θ P μ s F μ (hrp m p s) F := by
  have pn : ∀ k, pnd (fun k => P k ∨ k = m) s k → pnd P (hrp m p s) k := fun k z => ⟨z.1, fun y => by
    have y : (if k = m then some p else s.at k) = none := y
    by_cases e : k = m
    · rw [if_pos e] at y; cases y
    · rw [if_neg e] at y; exact (z.2 y).elim id fun w => absurd w e⟩
  refine ⟨⟨fun k q hq => ?_, fun k p' hk => ?_⟩, Nat.le_refl _, fun _ _ => rfl, Nat.le_refl _, Nat.le_refl _, fun _ _ => rfl, fun k z => ?_⟩
  · obtain ⟨h1, h2, h3, h4⟩ := h.1 k q hq
    exact ⟨h1, h2, fun m hm => pn m (h3 m hm), fun x hx => pn _ (h4 x hx)⟩
  · have hk : (if k = m then some p else s.at k) = some p' := hk
    by_cases z : k = m
    · rw [if_pos z] at hk
      cases hk
      exact ⟨hp, by rw [z]; exact hm, by rw [z]; exact e⟩
    · rw [if_neg z] at hk
      exact h.2 k p' hk
  · show (if k = m then some p else s.at k) ≠ none
    by_cases y : k = m
    · rw [if_pos y]; exact fun w => by cases w
    · rw [if_neg y]; exact z
theorem ty_hre {m : Nat} (h : tyS θ μ (fun k => P k ∨ k = m) s F) (hm : m < s.m) (e : F = μ m) : tyR θ P μ s F μ (hre m s) F := ty_hrp (p := s.c.length) h hm (Nat.le_refl _) (by rw [typ_end (Nat.le_refl _)]; exact e)
/-- one instruction more -/
theorem ty_em {e : gN} {Γ : gK} {L : List Bool} {op a b : Int32} {mk : Option Nat} (h : tyS θ μ P s (L, trs Γ, e.1)) (ho : opF θ s.si L (trs Γ) e.1 (fun x => F' = x) (fun m x => μ m = x) (fun L => tkm μ s.m e.1 L (trs Γ)) op a b mk) (ht : tkm μ s.m e.1 L (trs Γ)) (hm : ∀ m, mk = some m → pnd P s m) (hx : ∀ x ∈ trs Γ, pnd P s x.1) : tyR θ P μ s (L, trs Γ, e.1) μ (em e Γ L op a b mk s) F' := by
  have el : (em e Γ L op a b mk s).c.length = s.c.length + 1 := by show (s.1 ++ [_]).length = _; rw [List.length_append]; rfl
  have eg : ∀ k, k < s.c.length → (em e Γ L op a b mk s).c[k]? = s.c[k]? := fun k hk => List.getElem?_append_left hk
  have eN : (em e Γ L op a b mk s).c[s.c.length]? = some ((op, a, b), mk, e.1, opn Γ, (skk Γ).length, L, trs Γ) := by
    show (s.1 ++ [_])[s.1.length]? = _
    rw [List.getElem?_append_right (Nat.le_refl _), Nat.sub_self]; rfl
  have et : ∀ p, p ≤ s.c.length → typ (em e Γ L op a b mk s) F' p = typ s (L, trs Γ, e.1) p := fun p hp => by
    by_cases z : p = s.c.length
    · rw [z, typ_in eN, typ_end (Nat.le_refl _)]; rfl
    · unfold typ; rw [eg p (by omega)]
      have : s.c[p]? = some (s.c[p]'(by omega)) := List.getElem?_eq_getElem (by omega)
      rw [this]
  refine ⟨⟨fun k q hq => ?_, fun m p hp => ?_⟩, Nat.le_refl _, fun _ _ => rfl, by omega, Nat.le_refl _, et, fun _ z => z⟩
  · by_cases z : k < s.c.length
    · rw [eg k z] at hq
      obtain ⟨h1, h2, h3, h4⟩ := h.1 k q hq
      exact ⟨h1.imp (Nat.le_refl _) (fun x y => (et (k + 1) (by omega)).trans y) (fun _ _ _ y => y) (fun _ y => y), h2, h3, h4⟩
    · have hk : k < s.c.length + 1 := by rw [← el]; exact (List.getElem?_eq_some_iff.mp hq).1
      have hk : k = s.c.length := by omega
      rw [hk, eN] at hq
      cases hq
      exact ⟨ho.imp (Nat.le_refl _) (fun x y => by rw [hk, typ_end (by omega)]; exact y) (fun _ _ _ y => y) (fun _ y => y), ht, hm, hx⟩
  · obtain ⟨h1, h2, h3⟩ := h.2 m p hp
    exact ⟨by omega, h2, (et p h1).trans h3⟩
/-- a mark that is placed does not wait -/
theorem ty_drop {m : Nat} (h : tyS θ μ (fun k => P k ∨ k = m) s F) (hm : s.at m ≠ none) : tyS θ μ P s F := ⟨fun k q hq => by
  obtain ⟨h1, h2, h3, h4⟩ := h.1 k q hq
  have pn : ∀ k, pnd (fun k => P k ∨ k = m) s k → pnd P s k := fun k z => ⟨z.1, fun y => (z.2 y).elim id fun w => absurd (by rw [← w]; exact y) hm⟩
  exact ⟨h1, h2, fun m hm => pn m (h3 m hm), fun x hx => pn _ (h4 x hx)⟩, h.2⟩
/-- only what the types look at -/
theorem ty_lev {l x : Nat} (h : tyS θ μ P s F) : tyS θ μ P (s.1, s.2.1, s.2.2.1, s.2.2.2.1, l, x) F := h
theorem ty_sit (h : tyS θ μ P s F) : tyR θ P μ s F μ (sit s) F := ⟨⟨fun k q hq => by
  obtain ⟨h1, h2⟩ := h.1 k q hq
  exact ⟨h1.imp (Nat.le_succ _) (fun _ z => z) (fun _ _ _ z => z) (fun _ z => z), h2⟩, h.2⟩, Nat.le_refl _, fun _ _ => rfl, Nat.le_refl _, Nat.le_succ _, fun _ _ => rfl, fun _ z => z⟩
end
