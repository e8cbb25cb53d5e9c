/-! THE CODE OF A TEXT, purely. An instruction: operation, a, b; the mark that stands in for a; its function; the try's instruction that is open there, how many values lie below; the static stack, the tries (handler's mark, height) -/
abbrev gI : Type := (Int32 × Int32 × Int32) × Option Nat × Nat × Int32 × Nat × List Bool × List (Nat × Nat)
/-- what is coded so far: instructions, how many marks, where they are, sites; how many ends of tries are within one another, and were at most -/
abbrev gS : Type := List gI × Nat × (Nat → Option Nat) × Nat × Nat × Nat
abbrev gS.c (s : gS) : List gI := s.1
abbrev gS.m (s : gS) : Nat := s.2.1
abbrev gS.at (s : gS) : Nat → Option Nat := s.2.2.1
abbrev gS.si (s : gS) : Nat := s.2.2.2.1
abbrev gS.lev (s : gS) : Nat := s.2.2.2.2.1
abbrev gS.mx (s : gS) : Nat := s.2.2.2.2.2
/-- what is around: 0 loop, 1 switch, 2 try, 3 values, 4 for in; the values; the try's instruction; marks out (a try's handler), on; what a finally codes, with values above -/
abbrev gW : Type := Nat × List Bool × Nat × Nat × Nat × Option (List Bool → gS → gS)
abbrev gK : Type := List gW
def skk : gK → List Bool
  | [] => []
  | w :: Γ => w.2.1 ++ skk Γ
def trs : gK → List (Nat × Nat)
  | [] => []
  | w :: Γ => if w.1 = 2 then (w.2.2.2.1, (skk Γ).length) :: trs Γ else trs Γ
def opn : gK → Int32
  | [] => -1
  | w :: Γ => if w.1 = 2 then Int32.ofNat w.2.2.1 else opn Γ
/-- the function that is coded, and how far out its names are -/
abbrev gN : Type := Nat × (Nat → Option Nat)
abbrev gEx : Type := gN → gK → List Bool → gS → gS
abbrev gSt : Type := gN → gK → gS → gS
/-- one instruction more -/
def em (e : gN) (Γ : gK) (L : List Bool) (op a b : Int32) (m : Option Nat) (s : gS) : gS := (s.1 ++ [((op, a, b), m, e.1, opn Γ, (skk Γ).length, L, trs Γ)], s.2)
def mkm (s : gS) : gS := (s.1, s.2.1 + 1, s.2.2)
def hre (m : Nat) (s : gS) : gS := (s.1, s.2.1, (fun k => if k = m then some s.1.length else s.2.2.1 k), s.2.2.2)
/-- a mark that was passed: it was at p -/
def hrp (m p : Nat) (s : gS) : gS := (s.1, s.2.1, (fun k => if k = m then some p else s.2.2.1 k), s.2.2.2)
def sit (s : gS) : gS := (s.1, s.2.1, s.2.2.1, s.2.2.2.1 + 1, s.2.2.2.2)
/-- a value on the stack -/
abbrev psh (n : Nat) (L : List Bool) : List Bool := List.replicate n false ++ L
def gCo (s v : Int32) : gEx := fun e Γ L st => em e Γ L 0 s v none st
def gTh : gEx := fun e Γ L st => em e Γ L 6 0 0 none st
def gGet (x : Nat) : gEx := fun e Γ L st => match e.2 x with
  | some h => em e Γ L 1 (Int32.ofNat h) (Int32.ofNat x) none st
  | none => em e Γ L 3 0 (Int32.ofNat x) none st
def gSet (x : Nat) : gEx := fun e Γ L st => match e.2 x with
  | some h => em e Γ L 2 (Int32.ofNat h) (Int32.ofNat x) none st
  | none => em e Γ L 4 0 (Int32.ofNat x) none st
def gMd (f : Nat) : gEx := fun e Γ L st => em e Γ L 9 (Int32.ofNat f) 0 none st
def gMem (o k : gEx) : gEx := fun e Γ L st => em e Γ (psh 2 L) 10 0 0 none (k e Γ (psh 1 L) (o e Γ L st))
def gArg : List gEx → gEx
  | [] => fun _ _ _ st => st
  | a :: as => fun e Γ L st => gArg as e Γ (psh 1 L) (a e Γ L st)
def gCall (f : gEx) (as : List gEx) : gEx := fun e Γ L st => em e Γ (psh (as.length + 2) L) 15 (Int32.ofNat as.length) 0 none (gArg as e Γ (psh 2 L) (f e Γ (psh 1 L) (em e Γ L 0 0 0 none st)))
def gCallM (o k : gEx) (as : List gEx) : gEx := fun e Γ L st => em e Γ (psh (as.length + 2) L) 15 (Int32.ofNat as.length) 0 none (gArg as e Γ (psh 2 L) (em e Γ (psh 3 L) 10 0 0 none (k e Γ (psh 2 L) (em e Γ (psh 1 L) 18 0 0 none (o e Γ L st)))))
def gNew (f : gEx) (as : List gEx) : gEx := fun e Γ L st => (fun s => sit (em e Γ (psh (as.length + 1) L) 16 (Int32.ofNat as.length) (Int32.ofNat s.si) none s)) (gArg as e Γ (psh 1 L) (f e Γ L st))
/-- items: each a constant's sort and number, and a value -/
def gIts : List (Int32 × Int32 × gEx) → gEx
  | [] => fun _ _ _ st => st
  | (s, v, x) :: r => fun e Γ L st => gIts r e Γ L (em e Γ (psh 2 L) 17 0 0 none (em e Γ (psh 4 L) 11 0 0 none (x e Γ (psh 3 L) (em e Γ (psh 2 L) 0 s v none (em e Γ (psh 1 L) 18 0 0 none st)))))
def gItm (op : Int32) (r : List (Int32 × Int32 × gEx)) : gEx := fun e Γ L st => gIts r e Γ L (sit (em e Γ L op (Int32.ofNat st.si) 0 none st))
def gUn (h : Int32) (x : gEx) : gEx := fun e Γ L st => em e Γ (psh 1 L) 13 h 0 none (x e Γ L st)
def gVoid (x : gEx) : gEx := fun e Γ L st => em e Γ L 0 0 0 none (em e Γ (psh 1 L) 17 0 0 none (x e Γ L st))
def gDel (o k : gEx) : gEx := fun e Γ L st => em e Γ (psh 2 L) 12 0 0 none (k e Γ (psh 1 L) (o e Γ L st))
def gTyp (x : Nat) : gEx := fun e Γ L st => match e.2 x with
  | some h => em e Γ (psh 1 L) 13 4 0 none (em e Γ L 1 (Int32.ofNat h) (Int32.ofNat x) none st)
  | none => em e Γ L 5 0 (Int32.ofNat x) none st
def gBin (h : Int32) (x y : gEx) : gEx := fun e Γ L st => em e Γ (psh 2 L) 14 h 0 none (y e Γ (psh 1 L) (x e Γ L st))
/-- && and ||: the mark is made behind the left part -/
def gAnd (op : Int32) (x y : gEx) : gEx := fun e Γ L st => (fun s => hre s.m (y e Γ L (em e Γ (psh 1 L) op 0 0 (some s.m) (mkm s)))) (x e Γ L st)
def gChoice (x y z : gEx) : gEx := fun e Γ L st => hre (st.m + 1) (z e Γ L (hre st.m (em e Γ (psh 1 L) 21 0 0 (some (st.m + 1)) (y e Γ L (em e Γ (psh 1 L) 22 0 0 (some st.m) (x e Γ L (mkm (mkm st))))))))
def gCom (x y : gEx) : gEx := fun e Γ L st => y e Γ L (em e Γ (psh 1 L) 17 0 0 none (x e Γ L st))
/-- a name gets a value -/
def gGvN (h : Option Int32) (x : Nat) (v : gEx) : gEx := match h with
  | none => fun e Γ L st => gSet x e Γ (psh 1 L) (v e Γ L st)
  | some h => fun e Γ L st => gSet x e Γ (psh 1 L) (em e Γ (psh 2 L) 14 h 0 none (v e Γ (psh 1 L) (gGet x e Γ L st)))
def gGvM (h : Option Int32) (o k v : gEx) : gEx := match h with
  | none => fun e Γ L st => em e Γ (psh 3 L) 11 0 0 none (v e Γ (psh 2 L) (k e Γ (psh 1 L) (o e Γ L st)))
  | some h => fun e Γ L st => em e Γ (psh 3 L) 11 0 0 none (em e Γ (psh 4 L) 14 h 0 none (v e Γ (psh 3 L) (em e Γ (psh 4 L) 10 0 0 none (em e Γ (psh 2 L) 19 0 0 none (k e Γ (psh 1 L) (o e Γ L st))))))
/-- ++ and -- ahead, behind -/
def gBfN (h : Int32) (x : Nat) : gEx := fun e Γ L st => gSet x e Γ (psh 1 L) (em e Γ (psh 2 L) 14 h 0 none (em e Γ (psh 1 L) 0 5 1 none (em e Γ (psh 1 L) 13 0 0 none (gGet x e Γ L st))))
def gBfM (h : Int32) (o k : gEx) : gEx := fun e Γ L st => em e Γ (psh 3 L) 11 0 0 none (em e Γ (psh 4 L) 14 h 0 none (em e Γ (psh 3 L) 0 5 1 none (em e Γ (psh 3 L) 13 0 0 none (em e Γ (psh 4 L) 10 0 0 none (em e Γ (psh 2 L) 19 0 0 none (k e Γ (psh 1 L) (o e Γ L st)))))))
def gBhN (h : Int32) (x : Nat) : gEx := fun e Γ L st => em e Γ (psh 2 L) 17 0 0 none (gSet x e Γ (psh 2 L) (em e Γ (psh 3 L) 14 h 0 none (em e Γ (psh 2 L) 0 5 1 none (em e Γ (psh 1 L) 18 0 0 none (em e Γ (psh 1 L) 13 0 0 none (gGet x e Γ L st))))))
def gBhM (h : Int32) (o k : gEx) : gEx := fun e Γ L st => em e Γ (psh 2 L) 17 0 0 none (em e Γ (psh 4 L) 11 0 0 none (em e Γ (psh 5 L) 14 h 0 none (em e Γ (psh 4 L) 0 5 1 none (em e Γ (psh 3 L) 20 0 0 none (em e Γ (psh 3 L) 13 0 0 none (em e Γ (psh 4 L) 10 0 0 none (em e Γ (psh 2 L) 19 0 0 none (k e Γ (psh 1 L) (o e Γ L st)))))))))
/-! statements -/
def gNo : gSt := fun _ _ st => st
def gSq (x y : gSt) : gSt := fun e Γ st => y e Γ (x e Γ st)
def gPl (x : gEx) : gSt := fun e Γ st => em e Γ (psh 1 (skk Γ)) 17 0 0 none (x e Γ (skk Γ) st)
def gIf (x : gEx) (y : gSt) : gSt := fun e Γ st => hre (st.m + 1) (hre st.m (y e Γ (em e Γ (psh 1 (skk Γ)) 22 0 0 (some st.m) (x e Γ (skk Γ) (mkm (mkm st))))))
def gIfE (x : gEx) (y z : gSt) : gSt := fun e Γ st => hre (st.m + 1) (z e Γ (hre st.m (em e Γ (skk Γ) 21 0 0 (some (st.m + 1)) (y e Γ (em e Γ (psh 1 (skk Γ)) 22 0 0 (some st.m) (x e Γ (skk Γ) (mkm (mkm st))))))))
def lpW (out on : Nat) : gW := (0, [], 0, out, on, none)
def eaW (out on : Nat) : gW := (4, [true], 0, out, on, none)
def swW (out : Nat) : gW := (1, [], 0, out, 0, none)
def vaW (X : List Bool) : gW := (3, X, 0, 0, 0, none)
def trW (k h : Nat) (f : Option (List Bool → gS → gS)) : gW := (2, [], k, h, 0, f)
def gWh (x : gEx) (y : gSt) : gSt := fun e Γ st => (fun t n => hre n (em e Γ (skk Γ) 21 0 0 (some t) (hrp t st.c.length (y e (lpW n t :: Γ) (em e Γ (psh 1 (skk Γ)) 22 0 0 (some n) (x e Γ (skk Γ) (mkm (mkm st)))))))) st.m (st.m + 1)
def gDo (y : gSt) (x : gEx) : gSt := fun e Γ st => (fun t c n => hre n (em e Γ (skk Γ) 21 0 0 (some t) (em e Γ (psh 1 (skk Γ)) 22 0 0 (some n) (x e Γ (skk Γ) (hre c (y e (lpW n c :: Γ) (hre t (mkm (mkm (mkm st)))))))))) st.m (st.m + 1) (st.m + 2)
/-- a loop's test, if there is one -/
def gTst (e : gN) (Γ : gK) (n : Nat) : Option gEx → gS → gS
  | none, s => s
  | some x, s => em e Γ (psh 1 (skk Γ)) 22 0 0 (some n) (x e Γ (skk Γ) s)
def gFor (i : gSt) (x : Option gEx) (z y : gSt) : gSt := fun e Γ st => (fun t c n => hre n (em e Γ (skk Γ) 21 0 0 (some t) (z e Γ (hre c (y e (lpW n c :: Γ) (gTst e Γ n x (hre t (i e Γ (mkm (mkm (mkm st)))))))))) ) st.m (st.m + 1) (st.m + 2)
def gEa (n : Nat) (x : gEx) (y : gSt) : gSt := fun e Γ st => (fun t o => (fun s1 => hre o (em e (eaW o t :: Γ) (true :: skk Γ) 21 0 0 (some t) (hrp t s1.c.length (y e (eaW o t :: Γ) (em e (eaW o t :: Γ) (false :: true :: skk Γ) 17 0 0 none (gSet n e (eaW o t :: Γ) (false :: true :: skk Γ) (em e (eaW o t :: Γ) (true :: skk Γ) 30 0 0 (some o) s1))))))) (em e Γ (psh 1 (skk Γ)) 29 0 0 none (x e Γ (skk Γ) (mkm (mkm st))))) st.m (st.m + 1)
/-- a finally's code, within one more -/
def gLv (φ : List Bool → gS → gS) (X : List Bool) (st : gS) : gS := (fun s => (s.1, s.2.1, s.2.2.1, s.2.2.2.1, st.lev, s.mx)) (φ X (st.1, st.2.1, st.2.2.1, st.2.2.2.1, st.lev + 1, max st.mx (st.lev + 1)))
def gFi : Option (List Bool → gS → gS) → List Bool → gS → gS
  | none, _, s => s
  | some φ, X, s => gLv φ X s
def gDrops (e : gN) (Γ : gK) : List Bool → List Bool → gS → gS
  | [], _, st => st
  | b :: X, L, st => gDrops e Γ X L (em e Γ (b :: X ++ L) 17 0 0 none st)
/-- break (out), continue -/
def gGo (out : Bool) (e : gN) : gK → gS → gS
  | [], st => st
  | w :: Γ, st =>
    if w.1 = 0 then em e (w :: Γ) (skk Γ) 21 0 0 (some (if out then w.2.2.2.1 else w.2.2.2.2.1)) st
    else if w.1 = 4 then (if out then em e Γ (skk Γ) 21 0 0 (some w.2.2.2.1) (em e (w :: Γ) (w.2.1 ++ skk Γ) 17 0 0 none st) else em e (w :: Γ) (w.2.1 ++ skk Γ) 21 0 0 (some w.2.2.2.2.1) st)
    else if w.1 = 1 ∧ out = true then em e (w :: Γ) (skk Γ) 21 0 0 (some w.2.2.2.1) st
    else if w.1 = 3 then gGo out e Γ (gDrops e (w :: Γ) w.2.1 (skk Γ) st)
    else if w.1 = 2 then gGo out e Γ (gFi w.2.2.2.2.2 [] (em e (w :: Γ) (skk Γ) 28 0 0 none st))
    else gGo out e Γ st
/-- a value goes back; X: what lies above -/
def gRet (e : gN) : gK → List Bool → gS → gS
  | [], X, st => em e [] X 25 0 0 none st
  | w :: Γ, X, st =>
    if w.1 = 2 then gRet e Γ X (gFi w.2.2.2.2.2 X (em e (w :: Γ) (X ++ skk Γ) 28 0 0 none st))
    else gRet e Γ (X ++ w.2.1) st
def gBk (x : gEx) : gSt := fun e Γ st => gRet e Γ [false] (x e Γ (skk Γ) st)
def gTo (x : gEx) : gSt := fun e Γ st => em e Γ (psh 1 (skk Γ)) 26 0 0 none (x e Γ (skk Γ) st)
def vaK (X : List Bool) (Γ : gK) : gK := if X = [] then Γ else vaW X :: Γ
/-- try with catch; with finally -/
def gTrC (y : gSt) (n : Nat) (z : gSt) : gSt := fun e Γ st => (fun h o => hre o (z e Γ (em e Γ (psh 1 (skk Γ)) 17 0 0 none (gSet n e Γ (psh 1 (skk Γ)) (hre h (em e Γ (skk Γ) 21 0 0 (some o) ((fun k => em e (k :: Γ) (skk Γ) 28 0 0 none (y e (k :: Γ) (em e Γ (skk Γ) 27 0 0 (some h) (mkm (mkm st))))) (trW st.c.length h none)))))))) st.m (st.m + 1)
def gTrF (y z : gSt) : gSt := fun e Γ st => (fun h o => hre o (em e Γ (psh 1 (skk Γ)) 26 0 0 none (z e (vaW [false] :: Γ) (hre h (em e Γ (skk Γ) 21 0 0 (some o) (z e Γ ((fun k => em e (k :: Γ) (skk Γ) 28 0 0 none (y e (k :: Γ) (em e Γ (skk Γ) 27 0 0 (some h) (mkm (mkm st))))) (trW st.c.length h (some (fun X s => z e (vaK X Γ) s))))))))) ) st.m (st.m + 1)
/-- a switch's cases: tests (none: default) and bodies -/
def gCsT (e : gN) (Γ : gK) : List (Option gEx × gSt) → Nat → gS → gS
  | [], _, st => st
  | (none, _) :: r, m, st => gCsT e Γ r (m + 1) st
  | (some x, _) :: r, m, st => gCsT e Γ r (m + 1) (hre st.m (em e Γ (skk Γ) 21 0 0 (some m) (em e Γ (psh 1 (skk Γ)) 17 0 0 none (em e Γ (psh 2 (skk Γ)) 22 0 0 (some st.m) (em e Γ (psh 3 (skk Γ)) 14 13 0 none (x e Γ (psh 2 (skk Γ)) (em e Γ (psh 1 (skk Γ)) 18 0 0 none (mkm st))))))))
def gCsB (e : gN) (Γ : gK) : List (Option gEx × gSt) → Nat → gS → gS
  | [], _, st => st
  | (_, y) :: r, m, st => gCsB e Γ r (m + 1) (y e Γ (hre m st))
def gMks : Nat → gS → gS
  | 0, st => st
  | n + 1, st => gMks n (mkm st)
/-- the default's mark, else the end's -/
def gDef : List (Option gEx × gSt) → Nat → Nat → Nat
  | [], _, d => d
  | (none, _) :: r, m, _ => gDef r (m + 1) m
  | (some _, _) :: r, m, d => gDef r (m + 1) d
def gSw (x : gEx) (cs : List (Option gEx × gSt)) : gSt := fun e Γ st => (fun s => (fun n => hre n (gCsB e (swW n :: Γ) cs (n + 1) (em e Γ (skk Γ) 21 0 0 (some (gDef cs (n + 1) n)) (em e Γ (psh 1 (skk Γ)) 17 0 0 none (gCsT e Γ cs (n + 1) (gMks cs.length (mkm s))))))) s.m) (x e Γ (skk Γ) st)
/-- a function: globals, declared functions, parts -/
def gGl (e : gN) : List Nat → gS → gS
  | [], st => st
  | x :: r, st => gGl e r (em e [] [false] 17 0 0 none (em e [] [false] 4 0 (Int32.ofNat x) none (em e [] [] 0 0 0 none st)))
def gDc (e : gN) : List (Nat × Nat) → gS → gS
  | [], st => st
  | (f, x) :: r, st => gDc e r (em e [] [false] 17 0 0 none (gSet x e [] [false] (em e [] [] 9 (Int32.ofNat f) 0 none st)))
def gFn (e : gN) (gl : List Nat) (dc : List (Nat × Nat)) (b : gSt) (st : gS) : gS := em e [] [false] 25 0 0 none (em e [] [] 0 0 0 none (b e [] (gDc e dc (gGl e gl st))))
