/-! READING, purely: out of tokens what codes. A function: its variables, how many are parameters, its own name (an expression's), the function around; declared ones (number, name), parts -/
abbrev gF : Type := List Nat × Nat × Option Nat × Nat × List (Nat × Nat) × gSt
/-- the state: the token at hand, the names, the functions -/
abbrev pS : Type := Nat × List (List Int32) × List gF
abbrev pR (α : Type) : Type := Except (Nat × Nat) (α × pS)
def bnd {α β : Type} (x : pR α) (k : α → pS → pR β) : pR β := match x with
  | .error e => .error e
  | .ok (a, s) => k a s
def prt {α : Type} (a : α) (s : pS) : pR α := .ok (a, s)
/-- the tokens: kinds and so on, texts; digits of a number -/
abbrev pZ : Type := (Nat → Int32 × Int32 × Nat × Nat × Nat) × (Nat → List Int32) × (Int32 → List Int32)
/-- a text's place among names -/
def nIx : List (List Int32) → List Int32 → Nat
  | [], _ => 0
  | x :: r, w => if x = w then 0 else nIx r w + 1
/-- what is around: the function, how many loops, switches -/
abbrev pC : Type := Nat × Nat × Nat
/-- a value: its code; 1: a name, 2: a member; the name; the object and the key -/
abbrev gV : Type := gEx × Nat × Nat × gEx × gEx
def vOf (g : gEx) : gV := (g, 0, 0, gTh, gTh)
def vNm (x : Nat) : gV := (gGet x, 1, x, gTh, gTh)
def vMm (o k : gEx) : gV := (gMem o k, 2, 0, o, k)
section
variable (z : pZ)
abbrev tkd (t : Nat) : Int32 := (z.1 t).1
abbrev twh (t : Nat) : Int32 := (z.1 t).2.1
abbrev tln (t : Nat) : Nat := (z.1 t).2.2.2.2
def flt {α : Type} (k : Nat) (s : pS) : pR α := .error (k, tln z s.1)
def nxt' (s : pS) : pR Unit := if tkd z (s.1 + 1) = 6 then .error (1, tln z (s.1 + 1)) else .ok ((), (s.1 + 1, s.2))
def isS (j : Int32) (s : pS) : Bool := decide (tkd z s.1 = 5) && decide (twh z s.1 = j)
def isK (j : Int32) (s : pS) : Bool := decide (tkd z s.1 = 2) && decide (twh z s.1 = j)
def nedS (j : Int32) (s : pS) : pR Unit := if isS z j s then nxt' z s else flt z 2 s
def nedK (j : Int32) (s : pS) : pR Unit := if isK z j s then nxt' z s else flt z 2 s
/-- the name of a text: its number -/
def nam (w : List Int32) (s : pS) : Nat × pS := (nIx (if w ∈ s.2.1 then s.2.1 else s.2.1 ++ [w]) w, (s.1, (if w ∈ s.2.1 then s.2.1 else s.2.1 ++ [w]), s.2.2))
/-- the token's name, and on -/
def takN (s : pS) : pR Nat := bnd (nxt' z (nam (z.2.1 s.1) s).2) fun _ s' => prt (nam (z.2.1 s.1) s).1 s'
def nedN (s : pS) : pR Nat := if tkd z s.1 = 1 then takN z s else flt z 2 s
def adV (f x : Nat) (F : List gF) : List gF := match F[f]? with
  | some q => F.set f (if x ∈ q.1 then q.1 else q.1 ++ [x], q.2)
  | none => F
def hld (f x : Nat) (s : pS) : pS := (s.1, s.2.1, adV f x s.2.2)
/-- the functions of one depth: primary, member, arguments, new, unit, assignment, expression, statement, function, an assignment behind a sign -/
abbrev pT : Type := (pC → pS → pR gV) × (gV → pC → pS → pR gV) × (pC → pS → pR (List gEx)) × (pC → pS → pR gV) × (pC → pS → pR gV) × (Bool → pC → pS → pR gV) × (Bool → pC → pS → pR gV) × (pC → pS → pR gSt) × (Bool → pC → pS → pR (Nat × Nat)) × (Bool → pC → pS → pR gV)
abbrev pT.prim (r : pT) := r.1
abbrev pT.mem (r : pT) := r.2.1
abbrev pT.args (r : pT) := r.2.2.1
abbrev pT.made (r : pT) := r.2.2.2.1
abbrev pT.unit (r : pT) := r.2.2.2.2.1
abbrev pT.asg (r : pT) := r.2.2.2.2.2.1
abbrev pT.expr (r : pT) := r.2.2.2.2.2.2.1
abbrev pT.stmt (r : pT) := r.2.2.2.2.2.2.2.1
abbrev pT.func (r : pT) := r.2.2.2.2.2.2.2.2.1
abbrev pT.wth (r : pT) := r.2.2.2.2.2.2.2.2.2
/-- something opens -/
def opens {α : Type} (r : Option pT) (s : pS) (k : pT → pR α) : pR α := match r with
  | none => flt z 5 s
  | some r => k r
def isPre (s : pS) : Bool := isS z 35 s || isS z 36 s || isS z 44 s || isS z 43 s || isS z 10 s || isS z 11 s || isK z 5 s || isK z 27 s || isK z 24 s
def isLit (s : pS) : Bool := isK z 22 s || isK z 8 s || isK z 17 s || isK z 25 s || isK z 15 s
/-- an expression begins; without function -/
def begW (s : pS) : Bool := isPre z s || isK z 20 s || isK z 16 s || isLit z s
def begX (s : pS) : Bool := decide (tkd z s.1 = 1) || decide (tkd z s.1 = 3) || decide (tkd z s.1 = 4) || isS z 26 s || isS z 28 s || isS z 24 s || begW z s || isK z 11 s
/-- items of an array, of an object -/
def pArr (r : pT) (c : pC) : Nat → List gEx → pS → pR (List gEx)
  | 0, _, _ => .error (99, 0)
  | f + 1, acc, s => if isS z 29 s then bnd (nxt' z s) fun _ s => prt acc s
    else bnd (if acc = [] then prt () s else if !isS z 32 s || acc.length == 16 then flt z 2 s else nxt' z s) fun _ s => bnd (r.asg true c s) fun v s => pArr r c f (acc ++ [v.1]) s
def pKey (s : pS) : pR Nat :=
  if tkd z s.1 = 1 ∨ tkd z s.1 = 2 ∨ tkd z s.1 = 4 then takN z s
  else if tkd z s.1 = 3 then bnd (nxt' z (nam (z.2.2 (twh z s.1)) s).2) fun _ s' => prt (nam (z.2.2 (twh z s.1)) s).1 s'
  else flt z 2 s
def pObj (r : pT) (c : pC) : Nat → List (Nat × gEx) → pS → pR (List (Nat × gEx))
  | 0, _, _ => .error (99, 0)
  | f + 1, acc, s => if isS z 25 s then bnd (nxt' z s) fun _ s => prt acc s
    else bnd (if acc = [] then prt () s else if !isS z 32 s || acc.length == 16 then flt z 2 s else nxt' z s) fun _ s => bnd (pKey z s) fun x s => bnd (nedS z 46 s) fun _ s => bnd (r.asg true c s) fun v s => pObj r c f (acc ++ [(x, v.1)]) s
def numb : Nat → List gEx → List (Int32 × Int32 × gEx)
  | _, [] => []
  | k, x :: r => (5, Int32.ofNat k, x) :: numb (k + 1) r
variable (K : Nat)
def pPrim (r : Option pT) (c : pC) (s : pS) : pR gV :=
  if tkd z s.1 = 1 then bnd (takN z s) fun x s => prt (vNm x) s
  else if tkd z s.1 = 3 then bnd (nxt' z s) fun _ s' => prt (vOf (gCo 5 (twh z s.1))) s'
  else if tkd z s.1 = 4 then bnd (takN z s) fun x s => prt (vOf (gCo 6 (Int32.ofNat x))) s
  else if isK z 20 s then bnd (nxt' z s) fun _ s => prt (vOf gTh) s
  else if isK z 25 s then bnd (nxt' z s) fun _ s => prt (vOf (gCo 0 0)) s
  else if isK z 17 s then bnd (nxt' z s) fun _ s => prt (vOf (gCo 1 0)) s
  else if isK z 22 s then bnd (nxt' z s) fun _ s => prt (vOf (gCo 2 0)) s
  else if isK z 8 s then bnd (nxt' z s) fun _ s => prt (vOf (gCo 3 0)) s
  else if isK z 15 s then bnd (nxt' z s) fun _ s => prt (vOf (gCo 4 0)) s
  else if isK z 11 s then opens z r s fun r => bnd (nxt' z s) fun _ s => bnd (r.func false c s) fun f s => prt (vOf (gMd f.1)) s
  else if isS z 26 s then opens z r s fun r => bnd (nxt' z s) fun _ s => bnd (r.expr true c s) fun v s => bnd (nedS z 27 s) fun _ s => prt (vOf v.1) s
  else if isS z 28 s then opens z r s fun r => bnd (nxt' z s) fun _ s => bnd (pArr z r c K [] s) fun l s => prt (vOf (gItm 8 (numb 0 l))) s
  else if isS z 24 s then opens z r s fun r => bnd (nxt' z s) fun _ s => bnd (pObj z r c K [] s) fun l s => prt (vOf (gItm 7 (l.map fun q => ((6 : Int32), Int32.ofNat q.1, q.2)))) s
  else flt z 2 s
def pMem (r : Option pT) (e : gV) (c : pC) (s : pS) : pR gV :=
  if isS z 30 s then bnd (nxt' z s) fun _ s => if tkd z s.1 = 1 ∨ tkd z s.1 = 2 then bnd (takN z s) fun x s => prt (vMm e.1 (gCo 6 (Int32.ofNat x))) s else flt z 2 s
  else opens z r s fun r => bnd (nxt' z s) fun _ s => bnd (r.expr true c s) fun v s => bnd (nedS z 29 s) fun _ s => prt (vMm e.1 v.1) s
def pArg1 (r : pT) (c : pC) : Nat → List gEx → pS → pR (List gEx)
  | 0, _, _ => .error (99, 0)
  | f + 1, acc, s => if isS z 32 s then (if acc.length == 8 then flt z 2 s else bnd (nxt' z s) fun _ s => bnd (r.asg true c s) fun v s => pArg1 r c f (acc ++ [v.1]) s) else prt acc s
def pArgs (r : Option pT) (c : pC) (s : pS) : pR (List gEx) :=
  opens z r s fun r => bnd (nxt' z s) fun _ s => bnd (if isS z 27 s then prt [] s else bnd (r.asg true c s) fun v s => pArg1 z r c K [v.1] s) fun l s => bnd (nedS z 27 s) fun _ s => prt l s
def pMems (r : pT) (c : pC) : Nat → gV → pS → pR gV
  | 0, _, _ => .error (99, 0)
  | f + 1, e, s => if isS z 30 s || isS z 28 s then bnd (r.mem e c s) fun v s => pMems r c f v s else prt e s
def pMade (r : Option pT) (c : pC) (s : pS) : pR gV :=
  opens z r s fun r => bnd (nxt' z s) fun _ s => bnd (if isK z 16 s then r.made c s else r.prim c s) fun e s => bnd (pMems z r c K e s) fun e s => bnd (if isS z 26 s then r.args c s else prt [] s) fun l s => prt (vOf (gNew e.1 l)) s
def vCl (e : gV) (l : List gEx) : gV := vOf (if e.2.1 = 2 then gCallM e.2.2.2.1 e.2.2.2.2 l else gCall e.1 l)
def pSufs (r : Option pT) (c : pC) : Nat → gV → pS → pR gV
  | 0, _, _ => .error (99, 0)
  | f + 1, e, s => if isS z 26 s then bnd (pArgs z K r c s) fun l s => pSufs r c f (vCl e l) s else if isS z 30 s || isS z 28 s then bnd (pMem z r e c s) fun v s => pSufs r c f v s else prt e s
def pLeft (r : Option pT) (c : pC) (s : pS) : pR gV := bnd (if isK z 16 s then pMade z K r c s else pPrim z K r c s) fun e s => pSufs z K r c K e s
def pPost (r : Option pT) (c : pC) (s : pS) : pR gV := bnd (pLeft z K r c s) fun e s =>
  if (isS z 10 s || isS z 11 s) && tln z s.1 == tln z (s.1 - 1) then (if e.2.1 = 0 then flt z 3 s else bnd (nxt' z s) fun _ s' => prt (vOf (if e.2.1 = 1 then gBhN (if isS z 10 s then 0 else 1) e.2.2.1 else gBhM (if isS z 10 s then 0 else 1) e.2.2.2.1 e.2.2.2.2)) s') else prt e s
/-- what a sign ahead makes -/
def pAhd (s : pS) (e : gV) (s' : pS) : pR gV :=
  if isS z 10 s || isS z 11 s then (if e.2.1 = 0 then flt z 3 s' else prt (vOf (if e.2.1 = 1 then gBfN (if isS z 10 s then 0 else 1) e.2.2.1 else gBfM (if isS z 10 s then 0 else 1) e.2.2.2.1 e.2.2.2.2)) s')
  else if isK z 5 s then (if e.2.1 = 2 then prt (vOf (gDel e.2.2.2.1 e.2.2.2.2)) s' else flt z 3 s')
  else if isK z 27 s then prt (vOf (gVoid e.1)) s'
  else if isK z 24 s then prt (vOf (if e.2.1 = 1 then gTyp e.2.2.1 else gUn 4 e.1)) s'
  else prt (vOf (gUn (if isS z 35 s then 0 else if isS z 36 s then 1 else if isS z 44 s then 2 else 3) e.1)) s'
def pUnit (r : Option pT) (c : pC) (s : pS) : pR gV := if isPre z s then opens z r s fun r => bnd (nxt' z s) fun _ s1 => bnd (r.unit c s1) fun e s' => pAhd z s e s' else pPost z K r c s
/-- how tightly a sign binds, and which it is -/
def pStr (i : Bool) (s : pS) : Option (Nat × Int32) :=
  if isK z 14 s then some (6, 20) else if isK z 13 s then (if i then some (6, 19) else none)
  else if isS z 15 s then some (0, 0) else if isS z 14 s then some (1, 0) else if isS z 41 s then some (2, 9) else if isS z 42 s then some (3, 10) else if isS z 40 s then some (4, 8)
  else if isS z 8 s then some (5, 11) else if isS z 9 s then some (5, 12) else if isS z 4 s then some (5, 13) else if isS z 5 s then some (5, 14)
  else if isS z 33 s then some (6, 15) else if isS z 34 s then some (6, 16) else if isS z 6 s then some (6, 17) else if isS z 7 s then some (6, 18)
  else if isS z 12 s then some (7, 5) else if isS z 13 s then some (7, 6) else if isS z 3 s then some (7, 7)
  else if isS z 35 s then some (8, 0) else if isS z 36 s then some (8, 1) else if isS z 37 s then some (9, 2) else if isS z 38 s then some (9, 3) else if isS z 39 s then some (9, 4) else none
def gOp (l : Nat) (h : Int32) (x y : gEx) : gEx := if l = 0 then gAnd 24 x y else if l = 1 then gAnd 23 x y else gBin h x y
/-- the signs of one strength, one after the other -/
def pBlp (i : Bool) (l : Nat) (un : pS → pR gV) : Nat → gV → pS → pR gV
  | 0, _, _ => .error (99, 0)
  | f + 1, e, s => match pStr z i s with
    | none => prt e s
    | some (l', h) => if l' = l then bnd (nxt' z s) fun _ s => bnd (un s) fun y s => pBlp i l un f (vOf (gOp l h e.1 y.1)) s else prt e s
def pBin (r : Option pT) (i : Bool) (c : pC) : Nat → pS → pR gV
  | 0, s => pUnit z K r c s
  | n + 1, s => bnd (pBin r i c n s) fun e s => pBlp z i (9 - n) (pBin r i c n) K e s
/-- an assignment behind a sign -/
def pWth (r : Option pT) (i : Bool) (c : pC) (s : pS) : pR gV := if begX z s then opens z r s fun r => r.asg i c s else flt z 2 s
/-- the sign of an assignment: none; = alone; with a binary sign -/
def pSet (s : pS) : Option (Option Int32) :=
  if isS z 47 s then some none else if isS z 16 s then some (some 0) else if isS z 17 s then some (some 1) else if isS z 18 s then some (some 2) else if isS z 19 s then some (some 3) else if isS z 20 s then some (some 4) else if isS z 1 s then some (some 5) else if isS z 2 s then some (some 6) else if isS z 0 s then some (some 7) else if isS z 21 s then some (some 8) else if isS z 22 s then some (some 9) else if isS z 23 s then some (some 10) else none
def pAsg (r : Option pT) (i : Bool) (c : pC) (s : pS) : pR gV := bnd (pBin z K r i c 10 s) fun e s =>
  if isS z 45 s then bnd (nxt' z s) fun _ s => bnd (pWth z r i c s) fun a s => bnd (nedS z 46 s) fun _ s => bnd (pWth z r i c s) fun b s => prt (vOf (gChoice e.1 a.1 b.1)) s
  else match pSet z s with
    | none => prt e s
    | some h => if e.2.1 = 0 then flt z 3 s else bnd (nxt' z s) fun _ s => bnd (pWth z r i c s) fun v s => prt (vOf (if e.2.1 = 1 then gGvN h e.2.2.1 v.1 else gGvM h e.2.2.2.1 e.2.2.2.2 v.1)) s
def pComs (r : Option pT) (i : Bool) (c : pC) : Nat → gV → pS → pR gV
  | 0, _, _ => .error (99, 0)
  | f + 1, e, s => if isS z 32 s then bnd (nxt' z s) fun _ s => bnd (pAsg z K r i c s) fun v s => pComs r i c f (vOf (gCom e.1 v.1)) s else prt e s
def pExpr (r : Option pT) (i : Bool) (c : pC) (s : pS) : pR gV := bnd (pAsg z K r i c s) fun e s => pComs z K r i c K e s
/-! statements; r: one deeper -/
def pSem (s : pS) : pR Unit := if isS z 31 s then nxt' z s else if isS z 25 s || decide (tkd z s.1 = 0) || !(tln z s.1 == tln z (s.1 - 1)) then prt () s else flt z 2 s
def pStms (r : pT) (c : pC) (stop : pS → Bool) : Nat → gSt → pS → pR gSt
  | 0, _, _ => .error (99, 0)
  | f + 1, acc, s => if stop s then prt acc s else bnd (r.stmt c s) fun y s => pStms r c stop f (gSq acc y) s
def pBlk (r : pT) (c : pC) (s : pS) : pR gSt := bnd (nedS z 24 s) fun _ s => bnd (pStms r c (isS z 25) K gNo s) fun y s => bnd (nxt' z s) fun _ s => prt y s
def pRnd (r : pT) (c : pC) (s : pS) : pR gV := bnd (nedS z 26 s) fun _ s => bnd (r.expr true c s) fun e s => bnd (nedS z 27 s) fun _ s => prt e s
def pLpd (r : pT) (c : pC) (s : pS) : pR gSt := r.stmt (c.1, c.2.1 + 1, c.2.2) s
/-- var's names: their code, whether there is one value, whether one name -/
def pVars (r : pT) (i : Bool) (c : pC) : Nat → Nat → Bool → gSt → pS → pR (gSt × Bool × Bool)
  | 0, _, _, _, _ => .error (99, 0)
  | f + 1, n, b, acc, s => bnd (nedN z s) fun x s => (fun s => bnd (if isS z 47 s then bnd (nxt' z s) fun _ s => bnd (r.wth i c s) fun v s => prt (gSq acc (gPl (gGvN none x v.1)), true) s else prt (acc, b) s) fun q s =>
      if isS z 32 s then bnd (nxt' z s) fun _ s => pVars r i c f (n + 1) q.2 q.1 s else prt (q.1, q.2, n == 0) s) (hld c.1 x s)
def pEach (r : pT) (c : pC) (x : Nat) (s : pS) : pR gSt := bnd (nxt' z s) fun _ s => bnd (r.expr true c s) fun e s => bnd (nedS z 27 s) fun _ s => bnd (pLpd r c s) fun y s => prt (gEa x e.1 y) s
def pFor2 (r : pT) (c : pC) (i : gSt) (s : pS) : pR gSt := bnd (nedS z 31 s) fun _ s => bnd (if isS z 31 s then prt none s else bnd (r.expr true c s) fun e s => prt (some e.1) s) fun x s => bnd (nedS z 31 s) fun _ s =>
    bnd (if isS z 27 s then prt gNo s else bnd (r.expr true c s) fun e s => prt (gPl e.1) s) fun st s => bnd (nedS z 27 s) fun _ s => bnd (pLpd r c s) fun y s => prt (gFor i x st y) s
def pFor (r : pT) (c : pC) (s : pS) : pR gSt := bnd (nedS z 26 s) fun _ s =>
  if isK z 26 s then bnd (nxt' z s) fun _ s0 => bnd (pVars z r false c K 0 false gNo s0) fun q s => if isK z 13 s && !q.2.1 && q.2.2 then pEach z r c (nam (z.2.1 s0.1) s0).1 s else pFor2 z r c q.1 s
  else if isS z 31 s then pFor2 z r c gNo s
  else bnd (r.expr false c s) fun e s => if isK z 13 s && e.2.1 == 1 then pEach z r c e.2.2.1 s else pFor2 z r c (gPl e.1) s
def pTry (r : pT) (c : pC) (s : pS) : pR gSt := bnd (pBlk z K r c s) fun y s =>
  bnd (if isK z 2 s then bnd (nxt' z s) fun _ s => bnd (nedS z 26 s) fun _ s => bnd (nedN z s) fun x s => (fun s => bnd (nedS z 27 s) fun _ s => bnd (pBlk z K r c s) fun w s => prt (gTrC y x w, true) s) (hld c.1 x s) else prt (y, false) s) fun q s =>
  if isK z 9 s then bnd (nxt' z s) fun _ s => bnd (pBlk z K r c s) fun w s => prt (gTrF q.1 w) s else if q.2 then prt q.1 s else flt z 2 s
def pCas (r : pT) (c : pC) : Nat → Bool → List (Option gEx × gSt) → pS → pR (List (Option gEx × gSt))
  | 0, _, _, _ => .error (99, 0)
  | f + 1, d, acc, s => if isS z 25 s then prt acc s
    else if isK z 4 s && d then flt z 3 s
    else bnd (if isK z 4 s then bnd (nxt' z s) fun _ s => prt none s else bnd (nedK z 1 s) fun _ s => bnd (r.expr true c s) fun e s => prt (some e.1) s) fun x s => bnd (nedS z 46 s) fun _ s =>
      bnd (pStms r c (fun s => isS z 25 s || isK z 1 s || isK z 4 s) K gNo s) fun y s => pCas r c f (d || x.isNone) (acc ++ [(x, y)]) s
def pSwi (r : pT) (c : pC) (s : pS) : pR gSt := bnd (pRnd z r c s) fun e s => bnd (nedS z 24 s) fun _ s => bnd (pCas z K r (c.1, c.2.1, c.2.2 + 1) K false [] s) fun l s => bnd (nxt' z s) fun _ s => prt (gSw e.1 l) s
/-- a statement's inside, behind its word -/
def pInn (w : Int32) (r : pT) (c : pC) (s : pS) : pR gSt :=
  if w = 26 then bnd (pVars z r true c K 0 false gNo s) fun q s => bnd (pSem z s) fun _ s => prt q.1 s
  else if w = 12 then bnd (pRnd z r c s) fun e s => bnd (r.stmt c s) fun y s => if isK z 7 s then bnd (nxt' z s) fun _ s => bnd (r.stmt c s) fun w s => prt (gIfE e.1 y w) s else prt (gIf e.1 y) s
  else if w = 28 then bnd (pRnd z r c s) fun e s => bnd (pLpd r c s) fun y s => prt (gWh e.1 y) s
  else if w = 6 then bnd (pLpd r c s) fun y s => bnd (nedK z 28 s) fun _ s => bnd (pRnd z r c s) fun e s => if isS z 31 s then bnd (nxt' z s) fun _ s => prt (gDo y e.1) s else prt (gDo y e.1) s
  else if w = 10 then pFor z K r c s
  else if w = 0 then bnd (pSem z s) fun _ s => prt (fun e Γ st => gGo true e Γ st) s
  else if w = 3 then bnd (pSem z s) fun _ s => prt (fun e Γ st => gGo false e Γ st) s
  else if w = 18 then bnd (if isS z 31 s || isS z 25 s || decide (tkd z s.1 = 0) || !(tln z s.1 == tln z (s.1 - 1)) then prt (gBk (gCo 0 0)) s else bnd (r.expr true c s) fun e s => prt (gBk e.1) s) fun y s => bnd (pSem z s) fun _ s => prt y s
  else if w = 21 then if !(tln z s.1 == tln z (s.1 - 1)) then flt z 2 s else bnd (r.expr true c s) fun e s => bnd (pSem z s) fun _ s => prt (gTo e.1) s
  else if w = 23 then pTry z K r c s
  else pSwi z K r c s
def isOwn (s : pS) : Bool := isK z 0 s || isK z 3 s || isK z 18 s || isK z 26 s || isK z 12 s || isK z 28 s || isK z 6 s || isK z 10 s || isK z 21 s || isK z 23 s || isK z 19 s
def pStm (r : Option pT) (c : pC) (s : pS) : pR gSt :=
  if isOwn z s then (if isK z 0 s && c.2.1 + c.2.2 == 0 || isK z 3 s && c.2.1 == 0 || isK z 18 s && c.1 == 0 then flt z 3 s else opens z r s fun r => bnd (nxt' z s) fun _ s' => pInn z K (twh z s.1) r c s')
  else if isS z 24 s then opens z r s fun r => pBlk z K r c s
  else if isS z 31 s then opens z r s fun _ => bnd (nxt' z s) fun _ s => prt gNo s
  else if begX z s && !isK z 11 s then opens z r s fun r => bnd (r.expr true c s) fun e s => bnd (pSem z s) fun _ s => prt (gPl e.1) s
  else flt z 2 s
/-! functions: from behind the word function on -/
def pPars (f : Nat) : Nat → Nat → pS → pR Nat
  | 0, _, _ => .error (99, 0)
  | u + 1, n, s => if isS z 27 s then prt n s
    else if ¬ tkd z s.1 = 1 then flt z 2 s
    else if (match s.2.2[f]? with | some q => decide ((nam (z.2.1 s.1) s).1 ∈ q.1) | none => false) then flt z 3 s
    else bnd (takN z s) fun x s => (fun s => if isS z 27 s then pPars f u (n + 1) s else if n + 1 = 8 then flt z 2 s else bnd (nedS z 32 s) fun _ s => if tkd z s.1 = 1 then pPars f u (n + 1) s else flt z 2 s) (hld f x s)
/-- parts: declared functions, and the rest's code; st, fn: a statement, a declaration here -/
def pPts (st : pC → pS → pR gSt) (fn : pC → pS → pR (Nat × Nat)) (c : pC) (stop : pS → Bool) : Nat → List (Nat × Nat) → gSt → pS → pR (List (Nat × Nat) × gSt)
  | 0, _, _, _ => .error (99, 0)
  | u + 1, dc, acc, s => if stop s then prt (dc, acc) s
    else if isK z 11 s then bnd (fn c s) fun f s => pPts st fn c stop u (dc ++ [f]) acc s
    else bnd (st c s) fun y s => pPts st fn c stop u dc (gSq acc y) s
def setF (f : Nat) (g : gF → gF) (s : pS) : pS := (s.1, s.2.1, match s.2.2[f]? with | some q => s.2.2.set f (g q) | none => s.2.2)
def pDcl (r : Option pT) (c : pC) (s : pS) : pR (Nat × Nat) := opens z r s fun r => bnd (nxt' z s) fun _ s => r.func true c s
def pFun (r : Option pT) (d : Bool) (c : pC) (s : pS) : pR (Nat × Nat) :=
  (fun f s => bnd (if d then bnd (nedN z s) fun x s => prt x (if c.1 = 0 then s else hld c.1 x s) else if tkd z s.1 = 1 then bnd (takN z s) fun x s => prt x (setF f (fun q => (q.1, q.2.1, some x, q.2.2.2)) s) else prt 0 s) fun x s =>
    bnd (nedS z 26 s) fun _ s => bnd (pPars z f K 0 s) fun n s => bnd (nxt' z s) fun _ s =>
    (fun s => bnd (nedS z 24 s) fun _ s => bnd (pPts z (pStm z K r) (pDcl z r) (f, 0, 0) (isS z 25) K [] gNo s) fun q s => bnd (nxt' z s) fun _ s => prt (f, x) (setF f (fun p => (p.1, p.2.1, p.2.2.1, p.2.2.2.1, q.1, q.2)) s))
      (setF f (fun q => ((match q.2.2.1 with | some x => if x ∈ q.1 then q.1 else q.1 ++ [x] | none => q.1), n, q.2.2)) s)) s.2.2.length (s.1, s.2.1, s.2.2 ++ [([], 0, none, c.1, [], gNo)])
def pMk (r : Option pT) : pT := (pPrim z K r, pMem z r, pArgs z K r, pMade z K r, pUnit z K r, pAsg z K r, pExpr z K r, pStm z K r, pFun z K r, pWth z r)
def pLv : Nat → pT
  | 0 => pMk z K none
  | k + 1 => pMk z K (some (pLv k))
/-- a whole script: its functions -/
def pScr (L : List (List Int32)) : pR Unit := if tkd z 0 = 6 then .error (1, tln z 0) else bnd (pPts z (pLv z K 20).stmt (pDcl z (some (pLv z K 19))) (0, 0, 0) (fun s => decide (tkd z s.1 = 0)) K [] gNo (0, L, [([], 0, none, 0, [], gNo)])) fun q s => prt () (setF 0 (fun p => (p.1, p.2.1, p.2.2.1, p.2.2.2.1, q.1, q.2)) s)
end
