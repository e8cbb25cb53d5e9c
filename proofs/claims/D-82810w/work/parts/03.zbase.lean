/-! PURE MEMORY: pointers carry a serial, a tag (class number, or 100 + kind of array) and a length; a memory: next serial, slots used, ints, longs, references -/
abbrev zP : Type := Nat × Nat × Nat
abbrev zV : Type := Int32 ⊕ Int64 ⊕ Option zP
abbrev vi (x : Int32) : zV := Sum.inl x
abbrev vl (x : Int64) : zV := Sum.inr (Sum.inl x)
abbrev vr (r : Option zP) : zV := Sum.inr (Sum.inr r)
abbrev zO : Type := Option zV ⊕ zP
abbrev zM : Type := (Nat × Nat) × (Nat → Nat → Int32) × (Nat → Nat → Int64) × (Nat → Nat → Option zP)
def zsz (M : zM) : Nat := M.1.1
def zsu (M : zM) : Nat := M.1.2
def gi (M : zM) (a k : Nat) : Int32 := M.2.1 a k
def gl (M : zM) (a k : Nat) : Int64 := M.2.2.1 a k
def gr (M : zM) (a k : Nat) : Option zP := M.2.2.2 a k
def up2 {α : Type} (f : Nat → Nat → α) (a k : Nat) (v : α) : Nat → Nat → α := fun b j => if b = a then (if j = k then v else f b j) else f b j
def si (M : zM) (a k : Nat) (v : Int32) : zM := (M.1, up2 M.2.1 a k v, M.2.2.1, M.2.2.2)
def sl (M : zM) (a k : Nat) (v : Int64) : zM := (M.1, M.2.1, up2 M.2.2.1 a k v, M.2.2.2)
def sr (M : zM) (a k : Nat) (v : Option zP) : zM := (M.1, M.2.1, M.2.2.1, up2 M.2.2.2 a k v)
/-- a new cell of n slots, at serial zsz M -/
def zn (M : zM) (n : Nat) : zM := ((zsz M + 1, zsu M + n), (fun b j => if b = zsz M then 0 else gi M b j), (fun b j => if b = zsz M then 0 else gl M b j), (fun b j => if b = zsz M then none else gr M b j))
theorem gi_si (M : zM) (a k : Nat) (v : Int32) (b j : Nat) : gi (si M a k v) b j = if b = a then (if j = k then v else gi M b j) else gi M b j := rfl
theorem gl_si (M : zM) (a k : Nat) (v : Int32) (b j : Nat) : gl (si M a k v) b j = gl M b j := rfl
theorem gr_si (M : zM) (a k : Nat) (v : Int32) (b j : Nat) : gr (si M a k v) b j = gr M b j := rfl
theorem gi_sl (M : zM) (a k : Nat) (v : Int64) (b j : Nat) : gi (sl M a k v) b j = gi M b j := rfl
theorem gl_sl (M : zM) (a k : Nat) (v : Int64) (b j : Nat) : gl (sl M a k v) b j = if b = a then (if j = k then v else gl M b j) else gl M b j := rfl
theorem gr_sl (M : zM) (a k : Nat) (v : Int64) (b j : Nat) : gr (sl M a k v) b j = gr M b j := rfl
theorem gi_sr (M : zM) (a k : Nat) (v : Option zP) (b j : Nat) : gi (sr M a k v) b j = gi M b j := rfl
theorem gl_sr (M : zM) (a k : Nat) (v : Option zP) (b j : Nat) : gl (sr M a k v) b j = gl M b j := rfl
theorem gr_sr (M : zM) (a k : Nat) (v : Option zP) (b j : Nat) : gr (sr M a k v) b j = if b = a then (if j = k then v else gr M b j) else gr M b j := rfl
theorem gi_zn (M : zM) (n b j : Nat) : gi (zn M n) b j = if b = zsz M then 0 else gi M b j := rfl
theorem gl_zn (M : zM) (n b j : Nat) : gl (zn M n) b j = if b = zsz M then 0 else gl M b j := rfl
theorem gr_zn (M : zM) (n b j : Nat) : gr (zn M n) b j = if b = zsz M then none else gr M b j := rfl
theorem zsz_si (M : zM) (a k : Nat) (v : Int32) : zsz (si M a k v) = zsz M := rfl
theorem zsz_sl (M : zM) (a k : Nat) (v : Int64) : zsz (sl M a k v) = zsz M := rfl
theorem zsz_sr (M : zM) (a k : Nat) (v : Option zP) : zsz (sr M a k v) = zsz M := rfl
theorem zsz_zn (M : zM) (n : Nat) : zsz (zn M n) = zsz M + 1 := rfl
theorem zsu_si (M : zM) (a k : Nat) (v : Int32) : zsu (si M a k v) = zsu M := rfl
theorem zsu_sl (M : zM) (a k : Nat) (v : Int64) : zsu (sl M a k v) = zsu M := rfl
theorem zsu_sr (M : zM) (a k : Nat) (v : Option zP) : zsu (sr M a k v) = zsu M := rfl
theorem zsu_zn (M : zM) (n : Nat) : zsu (zn M n) = zsu M + n := rfl
/-! the run's constants: state at the law's entry, class numbers, slots of fields, array classes, first new address, addresses of what was there before, the script's address -/
abbrev zE : Type := State × (Nat → ClassId) × (Nat → Nat → Nat) × (Nat → ClassId) × Nat × (Nat → Nat) × Nat × (Nat → Option (Nat × Nat)) × Nat × (Nat → Int32)
abbrev zs0 (E : zE) : State := E.1
abbrev zdC (E : zE) : Nat → ClassId := E.2.1
abbrev zdI (E : zE) : Nat → Nat → Nat := E.2.2.1
abbrev zdA (E : zE) : Nat → ClassId := E.2.2.2.1
abbrev zba (E : zE) : Nat := E.2.2.2.2.1
abbrev zex (E : zE) : Nat → Nat := E.2.2.2.2.2.1
abbrev zsb (E : zE) : Nat := E.2.2.2.2.2.2.1
/-- kinds of what was there before (tags 108: nothing is known, 109: the script, 110: ArrayList's empty array, 111: a String constant, 112: its bytes), the script's length and cells -/
abbrev zxr (E : zE) : Nat → Option (Nat × Nat) := E.2.2.2.2.2.2.2.1
def zfix (i : Nat) : Option (Nat × Nat) := if i = 0 then some (109, 0) else if i = 1 then some (110, 0) else if 4 ≤ i ∧ i < 9 then some (111, i - 4) else if 9 ≤ i ∧ i < 14 then some (112, i - 9) else if i = 15 then some (108, 0) else none
def zxt (E : zE) (i : Nat) : Option (Nat × Nat) := match zfix i with
  | some v => some v
  | none => zxr E i
theorem zxt_s (E : zE) {j : Nat} (h : j < 5) : zxt E (j + 4) = some (111, j) := by
  have e : zfix (j + 4) = some (111, j) := by
    unfold zfix
    rw [if_neg (by omega), if_neg (by omega), if_pos (by omega)]
    rfl
  unfold zxt
  rw [e]
theorem zxt_b (E : zE) {j : Nat} (h : j < 5) : zxt E (j + 9) = some (112, j) := by
  have e : zfix (j + 9) = some (112, j) := by
    unfold zfix
    rw [if_neg (by omega), if_neg (by omega), if_neg (by omega), if_pos (by omega)]
    rfl
  unfold zxt
  rw [e]
abbrev zxl (E : zE) : Nat := E.2.2.2.2.2.2.2.2.1
abbrev zxs (E : zE) : Nat → Int32 := E.2.2.2.2.2.2.2.2.2
/-- a serial's address: the first 16 were there before -/
def zrho (E : zE) (a : Nat) : Nat := if a < 16 then zex E a else zba E + (a - 16)
def zcv (E : zE) : zV → Value
  | .inl x => .int x
  | .inr (.inl x) => .long x
  | .inr (.inr none) => .null
  | .inr (.inr (some p)) => .ref (zrho E p.1)
def zco (E : zE) : zO → Outcome
  | .inl v => .returned (v.map (zcv E))
  | .inr p => .threw (zrho E p.1)
theorem zcv_i (E : zE) (x : Int32) : zcv E (vi x) = .int x := rfl
theorem zcv_l (E : zE) (x : Int64) : zcv E (vl x) = .long x := rfl
theorem zcv_n (E : zE) : zcv E (vr none) = .null := rfl
theorem zcv_r (E : zE) (p : zP) : zcv E (vr (some p)) = .ref (zrho E p.1) := rfl
def zkt : FieldType → Nat
  | .long => 1
  | .object _ => 2
  | .array _ => 2
  | _ => 0
def zkd (d : String) : Nat := match parseFieldDescriptor d with
  | some ty => zkt ty
  | none => 0
def zfv (E : zE) (M : zM) (a k : Nat) : Nat → Value
  | 0 => .int (gi M a k)
  | 1 => .long (gl M a k)
  | _ => zcv E (vr (gr M a k))
/-- kinds of arrays: int byte short char boolean long Object Bag -/
def zqt : Nat → FieldType
  | 0 => .int
  | 1 => .byte
  | 2 => .short
  | 3 => .char
  | 4 => .boolean
  | 5 => .long
  | 6 => .object "java/lang/Object"
  | _ => .object "ScriptTypes$Bag"
def zqk (q : Nat) : Nat := zkt (zqt q)
def ztys (E : zE) : List (ClassId × FieldType) := [(zdA E 0, .int), (zdA E 1, .byte), (zdA E 2, .short), (zdA E 3, .char), (zdA E 4, .boolean), (zdA E 5, .long), (zdA E 6, .object "java/lang/Object"), (zdA E 7, .object "ScriptTypes$Bag")]
def zcell (E : zE) (M : zM) (a t n : Nat) (H : Heap) : Prop :=
  if t < 100 then ∃ q, zcl[t]? = some q ∧ t_OB (zrho E a) (zdC E t) q.2.2 (zdI E t) H (fun k => zfv E M a k (zkd (q.2.1 k).2.2.1))
  else (t < 108 ∧ H[zrho E a]? = some (arrV (zdA E (t - 100)) n (fun j => zfv E M a j (zqk (t - 100))))) ∨ (108 ≤ t ∧ a < 16)
abbrev zT : Type := Nat → Option (Nat × Nat)
def zle (τ τ' : zT) : Prop := ∀ (a : Nat) (v : Nat × Nat), τ a = some v → τ' a = some v
theorem zle.rf {τ : zT} : zle τ τ := fun _ _ h => h
theorem zle.tr {τ τ' τ'' : zT} (h : zle τ τ') (h' : zle τ' τ'') : zle τ τ'' := fun a v q => h' a v (h a v q)
def zvv (τ : zT) : zV → Prop
  | .inr (.inr (some p)) => τ p.1 = some p.2
  | _ => True
def zvo (τ : zT) : zO → Prop
  | .inl (some v) => zvv τ v
  | .inl none => True
  | .inr p => τ p.1 = some p.2
theorem zvv.le {τ τ' : zT} (h : zle τ τ') : ∀ {v : zV}, zvv τ v → zvv τ' v
  | .inl _, _ => trivial
  | .inr (.inl _), _ => trivial
  | .inr (.inr none), _ => trivial
  | .inr (.inr (some _)), q => h _ _ q
/-- what was there before is as it was, and of its kinds -/
def zold (E : zE) (τ : zT) (H : Heap) : Prop := (∀ q, q < zba E → H[q]? = (zs0 E).heap[q]?) ∧ ∀ (i : Nat) (v : Nat × Nat), zxt E i = some v → τ i = some v
/-- the heap holds the memory -/
def zrel (E : zE) (τ : zT) (M : zM) (H : Heap) : Prop :=
  (H.size + 16 = zba E + zsz M ∧ zold E τ H) ∧ 16 ≤ zsz M ∧ (∀ (a t n : Nat), τ a = some (t, n) → (a < zsz M ∧ (a < 16 → 108 ≤ t)) ∧ zcell E M a t n H) ∧ ∀ (a : Nat) (b : Nat × Nat) (k : Nat) (p : zP), τ a = some b → gr M a k = some p → τ p.1 = some p.2
/-- the statics that are references, with their serials -/
def zsta : List (String × String × String × Nat) := [("java/util/ArrayList", "DEFAULTCAPACITY_EMPTY_ELEMENTDATA", "[Ljava/lang/Object;", 1), ("java/lang/Throwable", "UNASSIGNED_STACK", "[Ljava/lang/StackTraceElement;", 2), ("java/lang/Throwable", "SUPPRESSED_SENTINEL", "Ljava/util/List;", 3), ("jdk/internal/util/Preconditions", "SIOOBE_FORMATTER", "Ljava/util/function/BiFunction;", 14)]
/-- the String constants: the class, its entry, the text, the number j: the String is serial j + 4 (tag 111), its bytes are serial j + 9 (tag 112) -/
def zstr : List (String × Nat × String × Nat) := [("ScriptTypes", 44, "length prototype constructor message name print Object Array String isNaN Error TypeError ReferenceError RangeError push pop call hasOwnProperty charAt undefined object boolean number string function null true false NaN [object] ", 0), ("ScriptTypes", 247, "break case catch continue default delete do else false finally for function if in instanceof NaN new null return switch this throw true try typeof undefined var void while ", 1), ("ScriptTypesModel", 379, "break case catch continue default delete do else false finally for function if in instanceof NaN new null return switch this throw true try typeof undefined var void while ", 1), ("ScriptTypes", 253, "{ } ( ) [ ] . ; , < > <= >= == != === !== + - * % / ++ -- << >> >>> & | ^ ! ~ && || ? : = += -= *= /= %= <<= >>= >>>= &= |= ^= ", 2), ("ScriptTypesModel", 313, "length prototype constructor message name print Object Array String isNaN Error TypeError ReferenceError RangeError push pop call hasOwnProperty charAt undefined object boolean number string function null true false NaN [object]  ", 3), ("ScriptTypesModel", 387, ">>>= <<= >>= >>> === !== <= >= == != ++ -- << >> && || += -= *= /= %= &= |= ^= { } ( ) [ ] . ; , < > + - * / % & | ^ ! ~ ? : = ", 4)]
def zslen : List Nat := [229, 172, 127, 230, 127]
def zsbyt : List (List Int32) := [[108, 101, 110, 103, 116, 104, 32, 112, 114, 111, 116, 111, 116, 121, 112, 101, 32, 99, 111, 110, 115, 116, 114, 117, 99, 116, 111, 114, 32, 109, 101, 115, 115, 97, 103, 101, 32, 110, 97, 109, 101, 32, 112, 114, 105, 110, 116, 32, 79, 98, 106, 101, 99, 116, 32, 65, 114, 114, 97, 121, 32, 83, 116, 114, 105, 110, 103, 32, 105, 115, 78, 97, 78, 32, 69, 114, 114, 111, 114, 32, 84, 121, 112, 101, 69, 114, 114, 111, 114, 32, 82, 101, 102, 101, 114, 101, 110, 99, 101, 69, 114, 114, 111, 114, 32, 82, 97, 110, 103, 101, 69, 114, 114, 111, 114, 32, 112, 117, 115, 104, 32, 112, 111, 112, 32, 99, 97, 108, 108, 32, 104, 97, 115, 79, 119, 110, 80, 114, 111, 112, 101, 114, 116, 121, 32, 99, 104, 97, 114, 65, 116, 32, 117, 110, 100, 101, 102, 105, 110, 101, 100, 32, 111, 98, 106, 101, 99, 116, 32, 98, 111, 111, 108, 101, 97, 110, 32, 110, 117, 109, 98, 101, 114, 32, 115, 116, 114, 105, 110, 103, 32, 102, 117, 110, 99, 116, 105, 111, 110, 32, 110, 117, 108, 108, 32, 116, 114, 117, 101, 32, 102, 97, 108, 115, 101, 32, 78, 97, 78, 32, 91, 111, 98, 106, 101, 99, 116, 93, 32], [98, 114, 101, 97, 107, 32, 99, 97, 115, 101, 32, 99, 97, 116, 99, 104, 32, 99, 111, 110, 116, 105, 110, 117, 101, 32, 100, 101, 102, 97, 117, 108, 116, 32, 100, 101, 108, 101, 116, 101, 32, 100, 111, 32, 101, 108, 115, 101, 32, 102, 97, 108, 115, 101, 32, 102, 105, 110, 97, 108, 108, 121, 32, 102, 111, 114, 32, 102, 117, 110, 99, 116, 105, 111, 110, 32, 105, 102, 32, 105, 110, 32, 105, 110, 115, 116, 97, 110, 99, 101, 111, 102, 32, 78, 97, 78, 32, 110, 101, 119, 32, 110, 117, 108, 108, 32, 114, 101, 116, 117, 114, 110, 32, 115, 119, 105, 116, 99, 104, 32, 116, 104, 105, 115, 32, 116, 104, 114, 111, 119, 32, 116, 114, 117, 101, 32, 116, 114, 121, 32, 116, 121, 112, 101, 111, 102, 32, 117, 110, 100, 101, 102, 105, 110, 101, 100, 32, 118, 97, 114, 32, 118, 111, 105, 100, 32, 119, 104, 105, 108, 101, 32], [123, 32, 125, 32, 40, 32, 41, 32, 91, 32, 93, 32, 46, 32, 59, 32, 44, 32, 60, 32, 62, 32, 60, 61, 32, 62, 61, 32, 61, 61, 32, 33, 61, 32, 61, 61, 61, 32, 33, 61, 61, 32, 43, 32, 45, 32, 42, 32, 37, 32, 47, 32, 43, 43, 32, 45, 45, 32, 60, 60, 32, 62, 62, 32, 62, 62, 62, 32, 38, 32, 124, 32, 94, 32, 33, 32, 126, 32, 38, 38, 32, 124, 124, 32, 63, 32, 58, 32, 61, 32, 43, 61, 32, 45, 61, 32, 42, 61, 32, 47, 61, 32, 37, 61, 32, 60, 60, 61, 32, 62, 62, 61, 32, 62, 62, 62, 61, 32, 38, 61, 32, 124, 61, 32, 94, 61, 32], [108, 101, 110, 103, 116, 104, 32, 112, 114, 111, 116, 111, 116, 121, 112, 101, 32, 99, 111, 110, 115, 116, 114, 117, 99, 116, 111, 114, 32, 109, 101, 115, 115, 97, 103, 101, 32, 110, 97, 109, 101, 32, 112, 114, 105, 110, 116, 32, 79, 98, 106, 101, 99, 116, 32, 65, 114, 114, 97, 121, 32, 83, 116, 114, 105, 110, 103, 32, 105, 115, 78, 97, 78, 32, 69, 114, 114, 111, 114, 32, 84, 121, 112, 101, 69, 114, 114, 111, 114, 32, 82, 101, 102, 101, 114, 101, 110, 99, 101, 69, 114, 114, 111, 114, 32, 82, 97, 110, 103, 101, 69, 114, 114, 111, 114, 32, 112, 117, 115, 104, 32, 112, 111, 112, 32, 99, 97, 108, 108, 32, 104, 97, 115, 79, 119, 110, 80, 114, 111, 112, 101, 114, 116, 121, 32, 99, 104, 97, 114, 65, 116, 32, 117, 110, 100, 101, 102, 105, 110, 101, 100, 32, 111, 98, 106, 101, 99, 116, 32, 98, 111, 111, 108, 101, 97, 110, 32, 110, 117, 109, 98, 101, 114, 32, 115, 116, 114, 105, 110, 103, 32, 102, 117, 110, 99, 116, 105, 111, 110, 32, 110, 117, 108, 108, 32, 116, 114, 117, 101, 32, 102, 97, 108, 115, 101, 32, 78, 97, 78, 32, 91, 111, 98, 106, 101, 99, 116, 93, 32, 32], [62, 62, 62, 61, 32, 60, 60, 61, 32, 62, 62, 61, 32, 62, 62, 62, 32, 61, 61, 61, 32, 33, 61, 61, 32, 60, 61, 32, 62, 61, 32, 61, 61, 32, 33, 61, 32, 43, 43, 32, 45, 45, 32, 60, 60, 32, 62, 62, 32, 38, 38, 32, 124, 124, 32, 43, 61, 32, 45, 61, 32, 42, 61, 32, 47, 61, 32, 37, 61, 32, 38, 61, 32, 124, 61, 32, 94, 61, 32, 123, 32, 125, 32, 40, 32, 41, 32, 91, 32, 93, 32, 46, 32, 59, 32, 44, 32, 60, 32, 62, 32, 43, 32, 45, 32, 42, 32, 47, 32, 37, 32, 38, 32, 124, 32, 94, 32, 33, 32, 126, 32, 63, 32, 58, 32, 61, 32]]
def zsv (E : zE) (i : Nat) : Option zP := (zxt E i).map (fun v => (i, v))
/-- what holds of the constants -/
def zEok (E : zE) : Prop :=
  (∀ w ∈ lw_tbl, w.before #[Value.ref (zsb E)] (zs0 E) = true) ∧ va_K (zdC E, zdI E) zcl (ztys E) (zs0 E) ∧ (zs0 E).heap.size = zba E ∧ (∀ i, i < 2 → zex E i < zba E) ∧
    (Jvm.Cond.and given_1 narrow_1).before #[Value.ref (zsb E)] (zs0 E) = true ∧ va_X (zsb E) (zxl E) (zxs E) (zs0 E) (zs0 E).heap ∧ zex E 0 = zsb E ∧ va_T (.object "java/lang/Object") (zex E 1) 0 (fun _ => .null) (fun a => zba E ≤ a) (zs0 E) (zs0 E).heap ∧
    (∀ (i : Nat) (q : String × String × String × Nat), zsta[i]? = some q → va_Z q.1 q.2.1 q.2.2.1 (zcv E (vr (zsv E q.2.2.2))) (fun a => zba E ≤ a) (zs0 E) (zs0 E).heap) ∧
    vk_S 5 zslen zsbyt (fun i => zex E (i + 4)) (fun i => zex E (i + 9)) (fun a => zba E ≤ a) (zs0 E) (zs0 E).heap ∧
    (∀ (i : Nat) (q : String × Nat × String × Nat), zstr[i]? = some q → q.2.2.2 < 5 ∧ vk_R q.1 q.2.1 q.2.2.1 (zex E (q.2.2.2 + 4)) (zs0 E)) ∧
    va_Z "java/lang/String" "COMPACT_STRINGS" "Z" (.int 1) (fun a => zba E ≤ a) (zs0 E) (zs0 E).heap ∧
    (Term.mirror "[Ljava/lang/Object;").eval #[Value.ref (zsb E)] (zs0 E) none [] (zs0 E) = some (.ref (zex E 15))
/-- a method: its name, code, locals, answer, handlers -/
abbrev zY : Type := MethodName × ByteArray × Nat × Option FieldType × List (Nat × Nat × Nat × Nat)
abbrev zYy (Y : zY) : MethodName := Y.1
abbrev zYc (Y : zY) : ByteArray := Y.2.1
abbrev zYl (Y : zY) : Nat := Y.2.2.1
abbrev zYr (Y : zY) : Option FieldType := Y.2.2.2.1
abbrev zYh (Y : zY) : List (Nat × Nat × Nat × Nat) := Y.2.2.2.2
/-- what holds at every point of a method's run: d frames are left -/
def zG (E : zE) (Y : zY) (d : Nat) (p : Program) (l : Launch) (R : Room) (s : State) (m : MethodId) (meth : Method) (c : Code) : Prop :=
  p.tables.exec = Jvm.exec ∧ c.code = zYc Y ∧ c.maxLocals = zYl Y ∧ s.vm.findClass (zYy Y).cls = some m.cls ∧ (zs0 E).WarmedH s.vm ∧ meth.locks = false ∧ meth.sig.returnType = zYr Y ∧ meth.name = (zYy Y).name ∧
    c.exceptionTable.toList.map (fun h => (h.startPc, h.endPc, h.handlerPc, h.catchType)) = zYh Y ∧ d ≤ R.frames ∧ 41 * d ≤ R.locals ∧ zEok E ∧ l.flags = flags0
/-- the end: its outcome and memory; nothing that was there before the law is changed -/
def zend (E : zE) (τ : zT) (M' : zM) (o : zO) (s : State) (below : List Frame) (k n : Nat) (t : State) : Prop :=
  t.status = .running ∧ Ended t below (zco E o) ∧ s.WarmedH t.vm ∧ ∃ L, s.sameButNew ({ t with vm := s.vm } : State) L k n ∧ (∀ q ∈ L, zba E ≤ q.base) ∧ ∃ τ', zle τ τ' ∧ zrel E τ' M' t.heap ∧ zvo τ' o
abbrev zlv (E : zE) (lv : List (Nat × zV)) : List (Nat × Value) := lv.map (fun q => (q.1, zcv E q.2))
def zrun (E : zE) (Y : zY) (d : Nat) (M : zM) (lv : List (Nat × zV)) (pc : Nat) (st : List zV) (o : zO) (M' : zM) : Prop :=
  ∀ (τ : zT) (p : Program) (l : Launch) (e : Env) (R : Room) (s : State) (m : MethodId) (args : Array Value) (below : List Frame) (meth : Method) (c : Code), zG E Y d p l R s m meth c →
    ∀ (H : Heap) (locs : List Loc) (cells slots : Nat) (ls : Array Slot), zrel E τ M H → (∀ q ∈ lv, zvv τ q.2) → (∀ v ∈ st, zvv τ v) → (∀ q ∈ locs, zba E ≤ q.base) →
      cells + (zsz M' - zsz M) ≤ R.cells → slots + (zsu M' - zsu M) ≤ R.slots → lv_has ls (zYl Y) (zlv E lv) →
      W p l e R s m args below meth c H locs cells slots (zend E τ M' o s below (cells + (zsz M' - zsz M)) (slots + (zsu M' - zsu M))) (F0 m pc ls (st.map (zcv E)))
/-- THE JUDGEMENT: from this point of the method Y, d frames left, the run ends with an outcome and a memory of which Q holds -/
def Z (E : zE) (Y : zY) (d : Nat) (M : zM) (lv : List (Nat × zV)) (pc : Nat) (st : List zV) (Q : zO → zM → Prop) : Prop :=
  ∃ (o : zO) (M' : zM), zsz M ≤ zsz M' ∧ zsu M ≤ zsu M' ∧ Q o M' ∧ zrun E Y d M lv pc st o M'
theorem Z.mono {E : zE} {Y : zY} {d : Nat} {M : zM} {lv : List (Nat × zV)} {pc : Nat} {st : List zV} {Q Q' : zO → zM → Prop} (k : Z E Y d M lv pc st Q) (h : ∀ o M', Q o M' → Q' o M') : Z E Y d M lv pc st Q' := by
  obtain ⟨o, M', h1, h2, h3, h4⟩ := k
  exact ⟨o, M', h1, h2, h _ _ h3, h4⟩
theorem zword {E : zE} {s : State} (hE : zEok E) (hW : (zs0 E).WarmedH s.vm) {w : Cond} (hw : w ∈ lw_all) (args : Array Value) : w.before args s = true :=
  word_at hW (good_of_word (List.mem_filter.mp hw).2) (hE.1 w (lw_all_tbl hw))
theorem zKn {E : zE} {s : State} (hE : zEok E) (hW : (zs0 E).WarmedH s.vm) : va_K (zdC E, zdI E) zcl (ztys E) s := va_K.moved hW.alike hE.2.1
section
variable {E : zE} {Y : zY} {d : Nat} {M : zM} {lv lv' : List (Nat × zV)} {pc pc' : Nat} {st st' : List zV} {Q : zO → zM → Prop}
/-- a step that neither reads nor writes the memory, and leaves the locals -/
theorem Z.step (h : ∀ (p : Program) (l : Launch) (e : Env) (R : Room) (s : State) (m : MethodId) (args : Array Value) (below : List Frame) (meth : Method) (c : Code), zG E Y d p l R s m meth c → ∀ (H : Heap) (locs : List Loc) (cells slots : Nat) (ls : Array Slot) (Qs : State → Prop), lv_has ls (zYl Y) (zlv E lv) →
      W p l e R s m args below meth c H locs cells slots Qs (F0 m pc' ls (st'.map (zcv E))) → W p l e R s m args below meth c H locs cells slots Qs (F0 m pc ls (st.map (zcv E))))
    (hv : ∀ τ : zT, (∀ q ∈ lv, zvv τ q.2) → (∀ v ∈ st, zvv τ v) → ∀ v ∈ st', zvv τ v) (k : Z E Y d M lv pc' st' Q) : Z E Y d M lv pc st Q := by
  obtain ⟨o, M', h1, h2, h3, hr⟩ := k
  exact ⟨o, M', h1, h2, h3, fun τ p l e R s m args below meth c hG H locs cells slots ls hR hl hs hL hc hn hh =>
    h p l e R s m args below meth c hG H locs cells slots ls _ hh (hr τ p l e R s m args below meth c hG H locs cells slots ls hR hl (hv τ hl hs) hL hc hn hh)⟩
/-- a step that makes new locals -/
theorem Z.steps (h : ∀ (p : Program) (l : Launch) (e : Env) (R : Room) (s : State) (m : MethodId) (args : Array Value) (below : List Frame) (meth : Method) (c : Code), zG E Y d p l R s m meth c → ∀ (H : Heap) (locs : List Loc) (cells slots : Nat) (ls : Array Slot) (Qs : State → Prop), lv_has ls (zYl Y) (zlv E lv) →
      (∀ ls', lv_has ls' (zYl Y) (zlv E lv') → W p l e R s m args below meth c H locs cells slots Qs (F0 m pc' ls' (st'.map (zcv E)))) → W p l e R s m args below meth c H locs cells slots Qs (F0 m pc ls (st.map (zcv E))))
    (hv : ∀ τ : zT, (∀ q ∈ lv, zvv τ q.2) → (∀ v ∈ st, zvv τ v) → (∀ q ∈ lv', zvv τ q.2) ∧ ∀ v ∈ st', zvv τ v) (k : Z E Y d M lv' pc' st' Q) : Z E Y d M lv pc st Q := by
  obtain ⟨o, M', h1, h2, h3, hr⟩ := k
  exact ⟨o, M', h1, h2, h3, fun τ p l e R s m args below meth c hG H locs cells slots ls hR hl hs hL hc hn hh =>
    h p l e R s m args below meth c hG H locs cells slots ls _ hh (fun ls' hh' => hr τ p l e R s m args below meth c hG H locs cells slots ls' hR (hv τ hl hs).1 (hv τ hl hs).2 hL hc hn hh')⟩
/-- a branch -/
theorem Z.br {c : Prop} {pc1 pc2 : Nat} {st1 st2 : List zV} (h : ∀ (p : Program) (l : Launch) (e : Env) (R : Room) (s : State) (m : MethodId) (args : Array Value) (below : List Frame) (meth : Method) (co : Code), zG E Y d p l R s m meth co → ∀ (H : Heap) (locs : List Loc) (cells slots : Nat) (ls : Array Slot) (Qs : State → Prop), lv_has ls (zYl Y) (zlv E lv) →
      (c → W p l e R s m args below meth co H locs cells slots Qs (F0 m pc1 ls (st1.map (zcv E)))) → (¬ c → W p l e R s m args below meth co H locs cells slots Qs (F0 m pc2 ls (st2.map (zcv E)))) → W p l e R s m args below meth co H locs cells slots Qs (F0 m pc ls (st.map (zcv E))))
    (hv1 : ∀ τ : zT, (∀ q ∈ lv, zvv τ q.2) → (∀ v ∈ st, zvv τ v) → ∀ v ∈ st1, zvv τ v) (hv2 : ∀ τ : zT, (∀ q ∈ lv, zvv τ q.2) → (∀ v ∈ st, zvv τ v) → ∀ v ∈ st2, zvv τ v)
    (k1 : c → Z E Y d M lv pc1 st1 Q) (k2 : ¬ c → Z E Y d M lv pc2 st2 Q) : Z E Y d M lv pc st Q := by
  by_cases hc : c
  · exact Z.step (pc' := pc1) (st' := st1) (fun p l e R s m args below meth co hG H locs cells slots ls Qs hh kk => h p l e R s m args below meth co hG H locs cells slots ls Qs hh (fun _ => kk) (fun q => absurd hc q)) hv1 (k1 hc)
  · exact Z.step (pc' := pc2) (st' := st2) (fun p l e R s m args below meth co hG H locs cells slots ls Qs hh kk => h p l e R s m args below meth co hG H locs cells slots ls Qs hh (fun q => absurd q hc) (fun _ => kk)) hv2 (k2 hc)
theorem zv_tl {τ : zT} {v : zV} {l : List zV} (h : ∀ x ∈ v :: l, zvv τ x) : ∀ x ∈ l, zvv τ x := fun x hx => h x (List.mem_cons_of_mem _ hx)
theorem zv_hd {τ : zT} {v : zV} {l : List zV} (h : ∀ x ∈ v :: l, zvv τ x) : zvv τ v := h v List.mem_cons_self
theorem zv_cons {τ : zT} {v : zV} {l : List zV} (h : zvv τ v) (h' : ∀ x ∈ l, zvv τ x) : ∀ x ∈ v :: l, zvv τ x := fun x hx => by
  rcases List.mem_cons.mp hx with q | q
  · rw [q]; exact h
  · exact h' x q
end
