/-! rows of Z: constants, locals, stack, arithmetic, branches -/
def zcat : zV → Nat
  | .inr (.inl _) => 2
  | _ => 1
theorem zcat_cv (E : zE) : ∀ v : zV, (zcv E v).category = zcat v
  | .inl _ => rfl
  | .inr (.inl _) => rfl
  | .inr (.inr none) => rfl
  | .inr (.inr (some _)) => rfl
def zst1 (lv : List (Nat × zV)) (i : Nat) (v : zV) : List (Nat × zV) := (i, v) :: lv.filter (fun q => !(q.1 == i) && !(q.1 + 1 == i && zcat q.2 == 2))
def zst2 (lv : List (Nat × zV)) (i : Nat) (v : zV) : List (Nat × zV) := (i, v) :: lv.filter (fun q => !(q.1 == i) && (!(q.1 == i + 1) && !(q.1 + 1 == i && zcat q.2 == 2)))
theorem zst1_cv (E : zE) (lv : List (Nat × zV)) (i : Nat) (v : zV) : (i, zcv E v) :: (zlv E lv).filter (fun q => !(q.1 == i) && !(q.1 + 1 == i && q.2.category == 2)) = zlv E (zst1 lv i v) := by
  show _ = (i, zcv E v) :: (lv.filter _).map _
  congr 1
  induction lv with
  | nil => rfl
  | cons q l ih =>
    simp only [zlv, List.map_cons, List.filter_cons, zcat_cv] at ih ⊢
    split
    · simp only [List.map_cons, ih]
    · exact ih
theorem zst2_cv (E : zE) (lv : List (Nat × zV)) (i : Nat) (v : zV) : (i, zcv E v) :: (zlv E lv).filter (fun q => !(q.1 == i) && (!(q.1 == i + 1) && !(q.1 + 1 == i && q.2.category == 2))) = zlv E (zst2 lv i v) := by
  show _ = (i, zcv E v) :: (lv.filter _).map _
  congr 1
  induction lv with
  | nil => rfl
  | cons q l ih =>
    simp only [zlv, List.map_cons, List.filter_cons, zcat_cv] at ih ⊢
    split
    · simp only [List.map_cons, ih]
    · exact ih
theorem zlk_mem {lv : List (Nat × zV)} {i : Nat} {v : zV} (h : lv.lookup i = some v) : (i, v) ∈ lv := by
  induction lv with
  | nil => cases h
  | cons q l ih =>
    obtain ⟨j, w⟩ := q
    rw [List.lookup_cons] at h
    split at h
    · rename_i hj
      have e : i = j := by simpa using hj
      cases h
      rw [e]; exact List.mem_cons_self
    · exact List.mem_cons_of_mem _ (ih h)
theorem zlk_at {E : zE} {lv : List (Nat × zV)} {nL i : Nat} {v : zV} {ls : Array Slot} (hh : lv_has ls nL (zlv E lv)) (h : lv.lookup i = some v) : ls[i]? = some (.val (zcv E v)) :=
  hh.2.2 (i, zcv E v) (List.mem_map.mpr ⟨(i, v), zlk_mem h, rfl⟩)
theorem zst1_vv {τ : zT} {lv : List (Nat × zV)} {i : Nat} {v : zV} (h : ∀ q ∈ lv, zvv τ q.2) (hv : zvv τ v) : ∀ q ∈ zst1 lv i v, zvv τ q.2 := by
  intro q hq
  rcases List.mem_cons.mp hq with e | e
  · rw [e]; exact hv
  · exact h q (List.mem_filter.mp e).1
theorem zst2_vv {τ : zT} {lv : List (Nat × zV)} {i : Nat} {v : zV} (h : ∀ q ∈ lv, zvv τ q.2) (hv : zvv τ v) : ∀ q ∈ zst2 lv i v, zvv τ q.2 := by
  intro q hq
  rcases List.mem_cons.mp hq with e | e
  · rw [e]; exact hv
  · exact h q (List.mem_filter.mp e).1
section
variable {E : zE} {Y : zY} {d : Nat} {M : zM} {lv lv' : List (Nat × zV)} {pc : Nat} {st : List zV} {Q : zO → zM → Prop}
theorem z_iconst {n : Int} {v : Int32} (hd : decode (zYc Y) pc = .ok (.iconst n, 1)) (hv : Int32.ofInt n = v) (k : Z E Y d M lv (pc + 1) (vi v :: st) Q) : Z E Y d M lv pc st Q :=
  Z.step (fun p l e R s m args below meth c hG H locs cells slots ls Qs hh kk => lv_iconst hG.1 hG.2.1 hd hv kk) (fun τ hl hs => by exact zv_cons trivial hs) k
theorem z_bipush {n : Int} {v : Int32} (hd : decode (zYc Y) pc = .ok (.bipush n, 2)) (hv : (Int8.ofInt n).toInt32 = v) (k : Z E Y d M lv (pc + 2) (vi v :: st) Q) : Z E Y d M lv pc st Q :=
  Z.step (fun p l e R s m args below meth c hG H locs cells slots ls Qs hh kk => lv_bipush hG.1 hG.2.1 hd hv kk) (fun τ hl hs => by exact zv_cons trivial hs) k
theorem z_sipush {n : Int} {v : Int32} (hd : decode (zYc Y) pc = .ok (.sipush n, 3)) (hv : (Int16.ofInt n).toInt32 = v) (k : Z E Y d M lv (pc + 3) (vi v :: st) Q) : Z E Y d M lv pc st Q :=
  Z.step (fun p l e R s m args below meth c hG H locs cells slots ls Qs hh kk => lv_sipush hG.1 hG.2.1 hd hv kk) (fun τ hl hs => by exact zv_cons trivial hs) k
theorem z_lconst {n : Fin 2} {v : Int64} (hd : decode (zYc Y) pc = .ok (.lconst n, 1)) (hv : Int64.ofNat (n : Nat) = v) (k : Z E Y d M lv (pc + 1) (vl v :: st) Q) : Z E Y d M lv pc st Q :=
  Z.step (fun p l e R s m args below meth c hG H locs cells slots ls Qs hh kk => lv_lconst hG.1 hG.2.1 hd hv kk) (fun τ hl hs => by exact zv_cons trivial hs) k
theorem z_null  (hd : decode (zYc Y) pc = .ok (.aconst_null, 1))  (k : Z E Y d M lv (pc + 1) (vr none :: st) Q) : Z E Y d M lv pc st Q :=
  Z.step (fun p l e R s m args below meth c hG H locs cells slots ls Qs hh kk => lv_null hG.1 hG.2.1 hd kk) (fun τ hl hs => by exact zv_cons trivial hs) k
theorem z_ldc {x : Nat} {v : Int32} (hd : decode (zYc Y) pc = .ok (.ldc x, 2)) (hw : Cond.constant (zYy Y).cls x v ∈ lw_all) (k : Z E Y d M lv (pc + 2) (vi v :: st) Q) : Z E Y d M lv pc st Q :=
  Z.step (fun p l e R s m args below meth c hG H locs cells slots ls Qs hh kk => lv_ldc hG.1 hG.2.1 hG.2.2.2.1 (zword hG.2.2.2.2.2.2.2.2.2.2.2.1 hG.2.2.2.2.1 hw _) hd kk) (fun τ hl hs => by exact zv_cons trivial hs) k
theorem z_ldcw {x : Nat} {v : Int32} (hd : decode (zYc Y) pc = .ok (.ldc_w x, 3)) (hw : Cond.constant (zYy Y).cls x v ∈ lw_all) (k : Z E Y d M lv (pc + 3) (vi v :: st) Q) : Z E Y d M lv pc st Q :=
  Z.step (fun p l e R s m args below meth c hG H locs cells slots ls Qs hh kk => lv_ldcw hG.1 hG.2.1 hG.2.2.2.1 (zword hG.2.2.2.2.2.2.2.2.2.2.2.1 hG.2.2.2.2.1 hw _) hd kk) (fun τ hl hs => by exact zv_cons trivial hs) k
theorem z_ldc2 {x : Nat} {v : Int64} (hd : decode (zYc Y) pc = .ok (.ldc2_w x, 3)) (hw : Cond.constantLong (zYy Y).cls x v ∈ lw_all) (k : Z E Y d M lv (pc + 3) (vl v :: st) Q) : Z E Y d M lv pc st Q :=
  Z.step (fun p l e R s m args below meth c hG H locs cells slots ls Qs hh kk => lv_ldc2 hG.1 hG.2.1 hG.2.2.2.1 (zword hG.2.2.2.2.2.2.2.2.2.2.2.1 hG.2.2.2.2.1 hw _) hd kk) (fun τ hl hs => by exact zv_cons trivial hs) k
theorem z_iload_n {k : Fin 4} {i : Nat} {x : Int32} (hd : decode (zYc Y) pc = .ok (.iload_n k, 1)) (hi : (k : Nat) = i) (h : lv.lookup i = some (vi x)) (kz : Z E Y d M lv (pc + 1) (vi x :: st) Q) : Z E Y d M lv pc st Q :=
  Z.step (fun p l e R s m args below meth c hG H locs cells slots ls Qs hh kk => lv_iload_n hG.1 hG.2.1 hd hi (zlk_at hh h) kk) (fun τ hl hs => by exact zv_cons trivial hs) kz
theorem z_iload {i : Nat} {x : Int32} (hd : decode (zYc Y) pc = .ok (.iload i, 2)) (h : lv.lookup i = some (vi x)) (kz : Z E Y d M lv (pc + 2) (vi x :: st) Q) : Z E Y d M lv pc st Q :=
  Z.step (fun p l e R s m args below meth c hG H locs cells slots ls Qs hh kk => lv_iload hG.1 hG.2.1 hd (zlk_at hh h) kk) (fun τ hl hs => by exact zv_cons trivial hs) kz
theorem z_lload_n {k : Fin 4} {i : Nat} {x : Int64} (hd : decode (zYc Y) pc = .ok (.lload_n k, 1)) (hi : (k : Nat) = i) (h : lv.lookup i = some (vl x)) (kz : Z E Y d M lv (pc + 1) (vl x :: st) Q) : Z E Y d M lv pc st Q :=
  Z.step (fun p l e R s m args below meth c hG H locs cells slots ls Qs hh kk => lv_lload_n hG.1 hG.2.1 hd hi (zlk_at hh h) kk) (fun τ hl hs => by exact zv_cons trivial hs) kz
theorem z_lload {i : Nat} {x : Int64} (hd : decode (zYc Y) pc = .ok (.lload i, 2)) (h : lv.lookup i = some (vl x)) (kz : Z E Y d M lv (pc + 2) (vl x :: st) Q) : Z E Y d M lv pc st Q :=
  Z.step (fun p l e R s m args below meth c hG H locs cells slots ls Qs hh kk => lv_lload hG.1 hG.2.1 hd (zlk_at hh h) kk) (fun τ hl hs => by exact zv_cons trivial hs) kz
theorem z_aload_n {k : Fin 4} {i : Nat} {r : Option zP} (hd : decode (zYc Y) pc = .ok (.aload_n k, 1)) (hi : (k : Nat) = i) (h : lv.lookup i = some (vr r)) (kz : Z E Y d M lv (pc + 1) (vr r :: st) Q) : Z E Y d M lv pc st Q := by
  refine Z.step (fun p l e R s m args below meth c hG H locs cells slots ls Qs hh kk => ?_) (fun τ hl hs => zv_cons (hl _ (zlk_mem h)) hs) kz
  cases r with
  | none => exact lv_aload_nN hG.1 hG.2.1 hd hi (zlk_at hh h) kk
  | some x => exact lv_aload_n hG.1 hG.2.1 hd hi (zlk_at hh h) kk
theorem z_aload {i : Nat} {r : Option zP} (hd : decode (zYc Y) pc = .ok (.aload i, 2)) (h : lv.lookup i = some (vr r)) (kz : Z E Y d M lv (pc + 2) (vr r :: st) Q) : Z E Y d M lv pc st Q := by
  refine Z.step (fun p l e R s m args below meth c hG H locs cells slots ls Qs hh kk => ?_) (fun τ hl hs => zv_cons (hl _ (zlk_mem h)) hs) kz
  cases r with
  | none => exact lv_aloadN hG.1 hG.2.1 hd (zlk_at hh h) kk
  | some x => exact lv_aload hG.1 hG.2.1 hd (zlk_at hh h) kk
theorem z_istore_n {k : Fin 4} {i : Nat} {x : Int32} (hd : decode (zYc Y) pc = .ok (.istore_n k, 1)) (hi : (k : Nat) = i) (hn : i < zYl Y) (he : zst1 lv i (vi x) = lv') (kz : Z E Y d M lv' (pc + 1) st Q) : Z E Y d M lv pc (vi x :: st) Q :=
  Z.steps (fun p l e R s m args below meth c hG H locs cells slots ls Qs hh kk => lv_istore_n hG.1 hG.2.1 hd hi hh hn (by rw [← he]; exact zst1_cv E lv i (vi x)) kk) (fun τ hl hs => ⟨by rw [← he]; exact zst1_vv hl trivial, zv_tl hs⟩) kz
theorem z_istore {i : Nat} {x : Int32} (hd : decode (zYc Y) pc = .ok (.istore i, 2)) (hn : i < zYl Y) (he : zst1 lv i (vi x) = lv') (kz : Z E Y d M lv' (pc + 2) st Q) : Z E Y d M lv pc (vi x :: st) Q :=
  Z.steps (fun p l e R s m args below meth c hG H locs cells slots ls Qs hh kk => lv_istore hG.1 hG.2.1 hd hh hn (by rw [← he]; exact zst1_cv E lv i (vi x)) kk) (fun τ hl hs => ⟨by rw [← he]; exact zst1_vv hl trivial, zv_tl hs⟩) kz
theorem z_lstore_n {k : Fin 4} {i : Nat} {x : Int64} (hd : decode (zYc Y) pc = .ok (.lstore_n k, 1)) (hi : (k : Nat) = i) (hn : i + 1 < zYl Y) (he : zst2 lv i (vl x) = lv') (kz : Z E Y d M lv' (pc + 1) st Q) : Z E Y d M lv pc (vl x :: st) Q :=
  Z.steps (fun p l e R s m args below meth c hG H locs cells slots ls Qs hh kk => lv_lstore_n hG.1 hG.2.1 hd hi hh hn (by rw [← he]; exact zst2_cv E lv i (vl x)) kk) (fun τ hl hs => ⟨by rw [← he]; exact zst2_vv hl trivial, zv_tl hs⟩) kz
theorem z_lstore {i : Nat} {x : Int64} (hd : decode (zYc Y) pc = .ok (.lstore i, 2)) (hn : i + 1 < zYl Y) (he : zst2 lv i (vl x) = lv') (kz : Z E Y d M lv' (pc + 2) st Q) : Z E Y d M lv pc (vl x :: st) Q :=
  Z.steps (fun p l e R s m args below meth c hG H locs cells slots ls Qs hh kk => lv_lstore hG.1 hG.2.1 hd hh hn (by rw [← he]; exact zst2_cv E lv i (vl x)) kk) (fun τ hl hs => ⟨by rw [← he]; exact zst2_vv hl trivial, zv_tl hs⟩) kz
theorem z_astore_n {k : Fin 4} {i : Nat} {r : Option zP} (hd : decode (zYc Y) pc = .ok (.astore_n k, 1)) (hi : (k : Nat) = i) (hn : i < zYl Y) (he : zst1 lv i (vr r) = lv') (kz : Z E Y d M lv' (pc + 1) st Q) : Z E Y d M lv pc (vr r :: st) Q := by
  refine Z.steps (fun p l e R s m args below meth c hG H locs cells slots ls Qs hh kk => ?_) (fun τ hl hs => ⟨by rw [← he]; exact zst1_vv hl (zv_hd hs), zv_tl hs⟩) kz
  cases r with
  | none => exact lv_astore_nN hG.1 hG.2.1 hd hi hh hn (by rw [← he]; exact zst1_cv E lv i (vr none)) kk
  | some x => exact lv_astore_n hG.1 hG.2.1 hd hi hh hn (by rw [← he]; exact zst1_cv E lv i (vr (some x))) kk
theorem z_astore {i : Nat} {r : Option zP} (hd : decode (zYc Y) pc = .ok (.astore i, 2)) (hn : i < zYl Y) (he : zst1 lv i (vr r) = lv') (kz : Z E Y d M lv' (pc + 2) st Q) : Z E Y d M lv pc (vr r :: st) Q := by
  refine Z.steps (fun p l e R s m args below meth c hG H locs cells slots ls Qs hh kk => ?_) (fun τ hl hs => ⟨by rw [← he]; exact zst1_vv hl (zv_hd hs), zv_tl hs⟩) kz
  cases r with
  | none => exact lv_astoreN hG.1 hG.2.1 hd hh hn (by rw [← he]; exact zst1_cv E lv i (vr none)) kk
  | some x => exact lv_astore hG.1 hG.2.1 hd hh hn (by rw [← he]; exact zst1_cv E lv i (vr (some x))) kk
theorem z_iinc {i : Nat} {n : Int} {x v : Int32} (hd : decode (zYc Y) pc = .ok (.iinc i n, 3)) (h : lv.lookup i = some (vi x)) (hv : x + Int32.ofInt n = v) (hn : i < zYl Y) (he : zst1 lv i (vi v) = lv') (kz : Z E Y d M lv' (pc + 3) st Q) : Z E Y d M lv pc st Q := by
  refine Z.steps (fun p l e R s m args below meth c hG H locs cells slots ls Qs hh kk => ?_) (fun τ hl hs => ⟨by rw [← he]; exact zst1_vv hl trivial, hs⟩) kz
  obtain ⟨j, hj⟩ := List.getElem?_of_mem (zlk_mem h)
  exact lv_iinc (k := j) hG.1 hG.2.1 hd hh (by rw [List.getElem?_map, hj]; rfl) hv hn (by rw [← he]; exact zst1_cv E lv i (vi v)) kk
theorem z_iadd {x y : Int32} (hd : decode (zYc Y) pc = .ok (.iadd, 1)) (k : Z E Y d M lv (pc + 1) (vi (x + y) :: st) Q) : Z E Y d M lv pc (vi y :: vi x :: st) Q :=
  Z.step (fun p l e R s m args below meth c hG H locs cells slots ls Qs hh kk => lv_iadd hG.1 hG.2.1 hd kk) (fun τ hl hs => by exact zv_cons trivial (zv_tl (zv_tl hs))) k
theorem z_isub {x y : Int32} (hd : decode (zYc Y) pc = .ok (.isub, 1)) (k : Z E Y d M lv (pc + 1) (vi (x - y) :: st) Q) : Z E Y d M lv pc (vi y :: vi x :: st) Q :=
  Z.step (fun p l e R s m args below meth c hG H locs cells slots ls Qs hh kk => lv_isub hG.1 hG.2.1 hd kk) (fun τ hl hs => by exact zv_cons trivial (zv_tl (zv_tl hs))) k
theorem z_imul {x y : Int32} (hd : decode (zYc Y) pc = .ok (.imul, 1)) (k : Z E Y d M lv (pc + 1) (vi (x * y) :: st) Q) : Z E Y d M lv pc (vi y :: vi x :: st) Q :=
  Z.step (fun p l e R s m args below meth c hG H locs cells slots ls Qs hh kk => lv_imul hG.1 hG.2.1 hd kk) (fun τ hl hs => by exact zv_cons trivial (zv_tl (zv_tl hs))) k
theorem z_iand {x y : Int32} (hd : decode (zYc Y) pc = .ok (.iand, 1)) (k : Z E Y d M lv (pc + 1) (vi (x &&& y) :: st) Q) : Z E Y d M lv pc (vi y :: vi x :: st) Q :=
  Z.step (fun p l e R s m args below meth c hG H locs cells slots ls Qs hh kk => lv_iand hG.1 hG.2.1 hd kk) (fun τ hl hs => by exact zv_cons trivial (zv_tl (zv_tl hs))) k
theorem z_ior {x y : Int32} (hd : decode (zYc Y) pc = .ok (.ior, 1)) (k : Z E Y d M lv (pc + 1) (vi (x ||| y) :: st) Q) : Z E Y d M lv pc (vi y :: vi x :: st) Q :=
  Z.step (fun p l e R s m args below meth c hG H locs cells slots ls Qs hh kk => lv_ior hG.1 hG.2.1 hd kk) (fun τ hl hs => by exact zv_cons trivial (zv_tl (zv_tl hs))) k
theorem z_ixor {x y : Int32} (hd : decode (zYc Y) pc = .ok (.ixor, 1)) (k : Z E Y d M lv (pc + 1) (vi (x ^^^ y) :: st) Q) : Z E Y d M lv pc (vi y :: vi x :: st) Q :=
  Z.step (fun p l e R s m args below meth c hG H locs cells slots ls Qs hh kk => lv_ixor hG.1 hG.2.1 hd kk) (fun τ hl hs => by exact zv_cons trivial (zv_tl (zv_tl hs))) k
theorem z_ishl {x y : Int32} (hd : decode (zYc Y) pc = .ok (.ishl, 1)) (k : Z E Y d M lv (pc + 1) (vi (x <<< (y &&& 31)) :: st) Q) : Z E Y d M lv pc (vi y :: vi x :: st) Q :=
  Z.step (fun p l e R s m args below meth c hG H locs cells slots ls Qs hh kk => lv_ishl hG.1 hG.2.1 hd kk) (fun τ hl hs => by exact zv_cons trivial (zv_tl (zv_tl hs))) k
theorem z_ishr {x y : Int32} (hd : decode (zYc Y) pc = .ok (.ishr, 1)) (k : Z E Y d M lv (pc + 1) (vi (x >>> (y &&& 31)) :: st) Q) : Z E Y d M lv pc (vi y :: vi x :: st) Q :=
  Z.step (fun p l e R s m args below meth c hG H locs cells slots ls Qs hh kk => lv_ishr hG.1 hG.2.1 hd kk) (fun τ hl hs => by exact zv_cons trivial (zv_tl (zv_tl hs))) k
theorem z_idiv {x y : Int32} (hd : decode (zYc Y) pc = .ok (.idiv, 1)) (hne : ¬ y = 0) (k : Z E Y d M lv (pc + 1) (vi (x / y) :: st) Q) : Z E Y d M lv pc (vi y :: vi x :: st) Q :=
  Z.step (fun p l e R s m args below meth c hG H locs cells slots ls Qs hh kk => lv_idiv hG.1 hG.2.1 hd hne kk) (fun τ hl hs => by exact zv_cons trivial (zv_tl (zv_tl hs))) k
theorem z_ladd {x y : Int64} (hd : decode (zYc Y) pc = .ok (.ladd, 1)) (k : Z E Y d M lv (pc + 1) (vl (x + y) :: st) Q) : Z E Y d M lv pc (vl y :: vl x :: st) Q :=
  Z.step (fun p l e R s m args below meth c hG H locs cells slots ls Qs hh kk => lv_ladd hG.1 hG.2.1 hd kk) (fun τ hl hs => by exact zv_cons trivial (zv_tl (zv_tl hs))) k
theorem z_lsub {x y : Int64} (hd : decode (zYc Y) pc = .ok (.lsub, 1)) (k : Z E Y d M lv (pc + 1) (vl (x - y) :: st) Q) : Z E Y d M lv pc (vl y :: vl x :: st) Q :=
  Z.step (fun p l e R s m args below meth c hG H locs cells slots ls Qs hh kk => lv_lsub hG.1 hG.2.1 hd kk) (fun τ hl hs => by exact zv_cons trivial (zv_tl (zv_tl hs))) k
theorem z_lmul {x y : Int64} (hd : decode (zYc Y) pc = .ok (.lmul, 1)) (k : Z E Y d M lv (pc + 1) (vl (x * y) :: st) Q) : Z E Y d M lv pc (vl y :: vl x :: st) Q :=
  Z.step (fun p l e R s m args below meth c hG H locs cells slots ls Qs hh kk => lv_lmul hG.1 hG.2.1 hd kk) (fun τ hl hs => by exact zv_cons trivial (zv_tl (zv_tl hs))) k
theorem z_land {x y : Int64} (hd : decode (zYc Y) pc = .ok (.land, 1)) (k : Z E Y d M lv (pc + 1) (vl (x &&& y) :: st) Q) : Z E Y d M lv pc (vl y :: vl x :: st) Q :=
  Z.step (fun p l e R s m args below meth c hG H locs cells slots ls Qs hh kk => lv_land hG.1 hG.2.1 hd kk) (fun τ hl hs => by exact zv_cons trivial (zv_tl (zv_tl hs))) k
theorem z_lor {x y : Int64} (hd : decode (zYc Y) pc = .ok (.lor, 1)) (k : Z E Y d M lv (pc + 1) (vl (x ||| y) :: st) Q) : Z E Y d M lv pc (vl y :: vl x :: st) Q :=
  Z.step (fun p l e R s m args below meth c hG H locs cells slots ls Qs hh kk => lv_lor hG.1 hG.2.1 hd kk) (fun τ hl hs => by exact zv_cons trivial (zv_tl (zv_tl hs))) k
theorem z_lxor {x y : Int64} (hd : decode (zYc Y) pc = .ok (.lxor, 1)) (k : Z E Y d M lv (pc + 1) (vl (x ^^^ y) :: st) Q) : Z E Y d M lv pc (vl y :: vl x :: st) Q :=
  Z.step (fun p l e R s m args below meth c hG H locs cells slots ls Qs hh kk => lv_lxor hG.1 hG.2.1 hd kk) (fun τ hl hs => by exact zv_cons trivial (zv_tl (zv_tl hs))) k
theorem z_ldiv {x y : Int64} (hd : decode (zYc Y) pc = .ok (.ldiv, 1)) (hne : ¬ y = 0) (k : Z E Y d M lv (pc + 1) (vl (x / y) :: st) Q) : Z E Y d M lv pc (vl y :: vl x :: st) Q :=
  Z.step (fun p l e R s m args below meth c hG H locs cells slots ls Qs hh kk => lv_ldiv hG.1 hG.2.1 hd hne kk) (fun τ hl hs => by exact zv_cons trivial (zv_tl (zv_tl hs))) k
theorem z_ineg {x : Int32} (hd : decode (zYc Y) pc = .ok (.ineg, 1)) (k : Z E Y d M lv (pc + 1) (vi (-x) :: st) Q) : Z E Y d M lv pc (vi x :: st) Q :=
  Z.step (fun p l e R s m args below meth c hG H locs cells slots ls Qs hh kk => lv_ineg hG.1 hG.2.1 hd kk) (fun τ hl hs => by exact zv_cons trivial (zv_tl hs)) k
theorem z_lneg {x : Int64} (hd : decode (zYc Y) pc = .ok (.lneg, 1)) (k : Z E Y d M lv (pc + 1) (vl (-x) :: st) Q) : Z E Y d M lv pc (vl x :: st) Q :=
  Z.step (fun p l e R s m args below meth c hG H locs cells slots ls Qs hh kk => lv_lneg hG.1 hG.2.1 hd kk) (fun τ hl hs => by exact zv_cons trivial (zv_tl hs)) k
theorem z_i2l {x : Int32} (hd : decode (zYc Y) pc = .ok (.i2l, 1)) (k : Z E Y d M lv (pc + 1) (vl (x.toInt64) :: st) Q) : Z E Y d M lv pc (vi x :: st) Q :=
  Z.step (fun p l e R s m args below meth c hG H locs cells slots ls Qs hh kk => lv_i2l hG.1 hG.2.1 hd rfl kk) (fun τ hl hs => by exact zv_cons trivial (zv_tl hs)) k
theorem z_l2i {x : Int64} (hd : decode (zYc Y) pc = .ok (.l2i, 1)) (k : Z E Y d M lv (pc + 1) (vi (x.toInt32) :: st) Q) : Z E Y d M lv pc (vl x :: st) Q :=
  Z.step (fun p l e R s m args below meth c hG H locs cells slots ls Qs hh kk => lv_l2i hG.1 hG.2.1 hd rfl kk) (fun τ hl hs => by exact zv_cons trivial (zv_tl hs)) k
theorem z_i2b {x : Int32} (hd : decode (zYc Y) pc = .ok (.i2b, 1)) (k : Z E Y d M lv (pc + 1) (vi (x.toInt8.toInt32) :: st) Q) : Z E Y d M lv pc (vi x :: st) Q :=
  Z.step (fun p l e R s m args below meth c hG H locs cells slots ls Qs hh kk => lv_i2b hG.1 hG.2.1 hd rfl kk) (fun τ hl hs => by exact zv_cons trivial (zv_tl hs)) k
theorem z_i2s {x : Int32} (hd : decode (zYc Y) pc = .ok (.i2s, 1)) (k : Z E Y d M lv (pc + 1) (vi (x.toInt16.toInt32) :: st) Q) : Z E Y d M lv pc (vi x :: st) Q :=
  Z.step (fun p l e R s m args below meth c hG H locs cells slots ls Qs hh kk => lv_i2s hG.1 hG.2.1 hd rfl kk) (fun τ hl hs => by exact zv_cons trivial (zv_tl hs)) k
theorem z_i2c {x : Int32} (hd : decode (zYc Y) pc = .ok (.i2c, 1)) (k : Z E Y d M lv (pc + 1) (vi ((x.toUInt32 % 65536).toInt32) :: st) Q) : Z E Y d M lv pc (vi x :: st) Q :=
  Z.step (fun p l e R s m args below meth c hG H locs cells slots ls Qs hh kk => lv_i2c hG.1 hG.2.1 hd rfl kk) (fun τ hl hs => by exact zv_cons trivial (zv_tl hs)) k
def zus (x y : Int32) : Int32 := (x.toUInt32 >>> (y.toUInt32 &&& Int32.toUInt32 31)).toInt32
def zls (x : Int64) (y : Int32) : Int64 := x <<< (y.toInt64 &&& 63)
def zlr (x : Int64) (y : Int32) : Int64 := x >>> (y.toInt64 &&& 63)
def zlu (x : Int64) (y : Int32) : Int64 := (x.toUInt64 >>> (y.toInt64.toUInt64 &&& Int64.toUInt64 63)).toInt64
theorem z_iushr {x y : Int32} (hd : decode (zYc Y) pc = .ok (.iushr, 1)) (k : Z E Y d M lv (pc + 1) (vi (zus x y) :: st) Q) : Z E Y d M lv pc (vi y :: vi x :: st) Q :=
  Z.step (fun p l e R s m args below meth c hG H locs cells slots ls Qs hh kk => lv_iushr hG.1 hG.2.1 hd rfl kk) (fun τ hl hs => by exact zv_cons trivial (zv_tl (zv_tl hs))) k
theorem z_lshl {x : Int64} {y : Int32} (hd : decode (zYc Y) pc = .ok (.lshl, 1)) (k : Z E Y d M lv (pc + 1) (vl (zls x y) :: st) Q) : Z E Y d M lv pc (vi y :: vl x :: st) Q :=
  Z.step (fun p l e R s m args below meth c hG H locs cells slots ls Qs hh kk => lv_lshl hG.1 hG.2.1 hd rfl kk) (fun τ hl hs => by exact zv_cons trivial (zv_tl (zv_tl hs))) k
theorem z_lshr {x : Int64} {y : Int32} (hd : decode (zYc Y) pc = .ok (.lshr, 1)) (k : Z E Y d M lv (pc + 1) (vl (zlr x y) :: st) Q) : Z E Y d M lv pc (vi y :: vl x :: st) Q :=
  Z.step (fun p l e R s m args below meth c hG H locs cells slots ls Qs hh kk => lv_lshr hG.1 hG.2.1 hd rfl kk) (fun τ hl hs => by exact zv_cons trivial (zv_tl (zv_tl hs))) k
theorem z_lushr {x : Int64} {y : Int32} (hd : decode (zYc Y) pc = .ok (.lushr, 1)) (k : Z E Y d M lv (pc + 1) (vl (zlu x y) :: st) Q) : Z E Y d M lv pc (vi y :: vl x :: st) Q :=
  Z.step (fun p l e R s m args below meth c hG H locs cells slots ls Qs hh kk => lv_lushr hG.1 hG.2.1 hd rfl kk) (fun τ hl hs => by exact zv_cons trivial (zv_tl (zv_tl hs))) k
theorem z_lcmp {x y : Int64} (hd : decode (zYc Y) pc = .ok (.lcmp, 1)) (k : Z E Y d M lv (pc + 1) (vi (lg_cmp x y) :: st) Q) : Z E Y d M lv pc (vl y :: vl x :: st) Q :=
  Z.step (fun p l e R s m args below meth c hG H locs cells slots ls Qs hh kk => W.lcmp hG.1 hG.2.1 hd kk) (fun τ hl hs => by exact zv_cons trivial (zv_tl (zv_tl hs))) k
theorem z_irem {x y : Int32} (hd : decode (zYc Y) pc = .ok (.irem, 1)) (hne : ¬ y = 0) (k : Z E Y d M lv (pc + 1) (vi (x - x / y * y) :: st) Q) : Z E Y d M lv pc (vi y :: vi x :: st) Q :=
  Z.step (fun p l e R s m args below meth c hG H locs cells slots ls Qs hh kk => lv_irem hG.1 hG.2.1 hd hne kk) (fun τ hl hs => by exact zv_cons trivial (zv_tl (zv_tl hs))) k
theorem z_lrem {x y : Int64} (hd : decode (zYc Y) pc = .ok (.lrem, 1)) (hne : ¬ y = 0) (k : Z E Y d M lv (pc + 1) (vl (x - x / y * y) :: st) Q) : Z E Y d M lv pc (vl y :: vl x :: st) Q :=
  Z.step (fun p l e R s m args below meth c hG H locs cells slots ls Qs hh kk => lv_lrem hG.1 hG.2.1 hd hne kk) (fun τ hl hs => by exact zv_cons trivial (zv_tl (zv_tl hs))) k
theorem z_dup {v : zV} (hd : decode (zYc Y) pc = .ok (.dup, 1)) (hc : zcat v = 1) (k : Z E Y d M lv (pc + 1) (v :: v :: st) Q) : Z E Y d M lv pc (v :: st) Q :=
  Z.step (fun p l e R s m args below meth c hG H locs cells slots ls Qs hh kk => lv_dup hG.1 hG.2.1 hd ((zcat_cv E v).trans hc) kk) (fun τ hl hs => zv_cons (zv_hd hs) hs) k
theorem z_pop {v : zV} (hd : decode (zYc Y) pc = .ok (.pop, 1)) (hc : zcat v = 1) (k : Z E Y d M lv (pc + 1) st Q) : Z E Y d M lv pc (v :: st) Q :=
  Z.step (fun p l e R s m args below meth c hG H locs cells slots ls Qs hh kk => lv_pop hG.1 hG.2.1 hd ((zcat_cv E v).trans hc) kk) (fun τ hl hs => zv_tl hs) k
theorem z_pop2 {v : zV} (hd : decode (zYc Y) pc = .ok (.pop2, 1)) (hc : zcat v = 2) (k : Z E Y d M lv (pc + 1) st Q) : Z E Y d M lv pc (v :: st) Q :=
  Z.step (fun p l e R s m args below meth c hG H locs cells slots ls Qs hh kk => lv_pop2_2 hG.1 hG.2.1 hd ((zcat_cv E v).trans hc) kk) (fun τ hl hs => zv_tl hs) k
theorem z_dup_x1 {v u : zV} (hd : decode (zYc Y) pc = .ok (.dup_x1, 1)) (hc : zcat v = 1) (hc' : zcat u = 1) (k : Z E Y d M lv (pc + 1) (v :: u :: v :: st) Q) : Z E Y d M lv pc (v :: u :: st) Q :=
  Z.step (fun p l e R s m args below meth c hG H locs cells slots ls Qs hh kk => lv_dup_x1 hG.1 hG.2.1 hd ((zcat_cv E v).trans hc) ((zcat_cv E u).trans hc') kk) (fun τ hl hs => zv_cons (zv_hd hs) (zv_cons (zv_hd (zv_tl hs)) (zv_cons (zv_hd hs) (zv_tl (zv_tl hs))))) k
theorem z_dup_x2 {v u w : zV} (hd : decode (zYc Y) pc = .ok (.dup_x2, 1)) (hc : zcat v = 1) (hc' : zcat u = 1) (hc2 : zcat w = 1) (k : Z E Y d M lv (pc + 1) (v :: u :: w :: v :: st) Q) : Z E Y d M lv pc (v :: u :: w :: st) Q :=
  Z.step (fun p l e R s m args below meth c hG H locs cells slots ls Qs hh kk => lv_dup_x2 hG.1 hG.2.1 hd ((zcat_cv E v).trans hc) ((zcat_cv E u).trans hc') ((zcat_cv E w).trans hc2) kk) (fun τ hl hs => zv_cons (zv_hd hs) (zv_cons (zv_hd (zv_tl hs)) (zv_cons (zv_hd (zv_tl (zv_tl hs))) (zv_cons (zv_hd hs) (zv_tl (zv_tl (zv_tl hs))))))) k
theorem z_dup2 {v u : zV} (hd : decode (zYc Y) pc = .ok (.dup2, 1)) (hc : zcat v = 1) (hc' : zcat u = 1) (k : Z E Y d M lv (pc + 1) (v :: u :: v :: u :: st) Q) : Z E Y d M lv pc (v :: u :: st) Q :=
  Z.step (fun p l e R s m args below meth c hG H locs cells slots ls Qs hh kk => lv_dup2_11 hG.1 hG.2.1 hd ((zcat_cv E v).trans hc) ((zcat_cv E u).trans hc') kk) (fun τ hl hs => zv_cons (zv_hd hs) (zv_cons (zv_hd (zv_tl hs)) hs)) k
theorem z_dup2_l {v : zV} (hd : decode (zYc Y) pc = .ok (.dup2, 1)) (hc : zcat v = 2) (k : Z E Y d M lv (pc + 1) (v :: v :: st) Q) : Z E Y d M lv pc (v :: st) Q :=
  Z.step (fun p l e R s m args below meth c hG H locs cells slots ls Qs hh kk => lv_dup2_2 hG.1 hG.2.1 hd ((zcat_cv E v).trans hc) kk) (fun τ hl hs => zv_cons (zv_hd hs) hs) k
theorem z_dup2_x1 {v u : zV} (hd : decode (zYc Y) pc = .ok (.dup2_x1, 1)) (hc : zcat v = 2) (hc' : zcat u = 1) (k : Z E Y d M lv (pc + 1) (v :: u :: v :: st) Q) : Z E Y d M lv pc (v :: u :: st) Q :=
  Z.step (fun p l e R s m args below meth c hG H locs cells slots ls Qs hh kk => lv_dup2_x1_2 hG.1 hG.2.1 hd ((zcat_cv E v).trans hc) ((zcat_cv E u).trans hc') kk) (fun τ hl hs => zv_cons (zv_hd hs) (zv_cons (zv_hd (zv_tl hs)) (zv_cons (zv_hd hs) (zv_tl (zv_tl hs))))) k
theorem z_if_eq {x : Int32} {off : Int} {tgt : Nat} (hd : decode (zYc Y) pc = .ok (.ifCond .eq off, 3)) (ht : (pc : Int) + off = (tgt : Int)) (k1 : x = 0 → Z E Y d M lv tgt st Q) (k2 : ¬ x = 0 → Z E Y d M lv (pc + 3) st Q) : Z E Y d M lv pc (vi x :: st) Q :=
  Z.br (fun p l e R s m args below meth c hG H locs cells slots ls Qs hh kt kf => lv_if_eq hG.1 hG.2.1 hd ht kt kf) (fun τ hl hs => zv_tl hs) (fun τ hl hs => zv_tl hs) k1 k2
theorem z_icmp_eq {x y : Int32} {off : Int} {tgt : Nat} (hd : decode (zYc Y) pc = .ok (.if_icmp .eq off, 3)) (ht : (pc : Int) + off = (tgt : Int)) (k1 : x = y → Z E Y d M lv tgt st Q) (k2 : ¬ x = y → Z E Y d M lv (pc + 3) st Q) : Z E Y d M lv pc (vi y :: vi x :: st) Q :=
  Z.br (fun p l e R s m args below meth c hG H locs cells slots ls Qs hh kt kf => lv_icmp_eq hG.1 hG.2.1 hd ht kt kf) (fun τ hl hs => zv_tl (zv_tl hs)) (fun τ hl hs => zv_tl (zv_tl hs)) k1 k2
theorem z_if_ne {x : Int32} {off : Int} {tgt : Nat} (hd : decode (zYc Y) pc = .ok (.ifCond .ne off, 3)) (ht : (pc : Int) + off = (tgt : Int)) (k1 : ¬ x = 0 → Z E Y d M lv tgt st Q) (k2 : x = 0 → Z E Y d M lv (pc + 3) st Q) : Z E Y d M lv pc (vi x :: st) Q :=
  Z.br (c := ¬ x = 0) (fun p l e R s m args below meth c hG H locs cells slots ls Qs hh kt kf => lv_if_ne hG.1 hG.2.1 hd ht (fun h => kt h) (fun h => kf (fun q => q h))) (fun τ hl hs => zv_tl hs) (fun τ hl hs => zv_tl hs) k1 (fun h => k2 (Classical.byContradiction fun q => h q))
theorem z_icmp_ne {x y : Int32} {off : Int} {tgt : Nat} (hd : decode (zYc Y) pc = .ok (.if_icmp .ne off, 3)) (ht : (pc : Int) + off = (tgt : Int)) (k1 : ¬ x = y → Z E Y d M lv tgt st Q) (k2 : x = y → Z E Y d M lv (pc + 3) st Q) : Z E Y d M lv pc (vi y :: vi x :: st) Q :=
  Z.br (c := ¬ x = y) (fun p l e R s m args below meth c hG H locs cells slots ls Qs hh kt kf => lv_icmp_ne hG.1 hG.2.1 hd ht (fun h => kt h) (fun h => kf (fun q => q h))) (fun τ hl hs => zv_tl (zv_tl hs)) (fun τ hl hs => zv_tl (zv_tl hs)) k1 (fun h => k2 (Classical.byContradiction fun q => h q))
theorem z_if_lt {x : Int32} {off : Int} {tgt : Nat} (hd : decode (zYc Y) pc = .ok (.ifCond .lt off, 3)) (ht : (pc : Int) + off = (tgt : Int)) (k1 : x < 0 → Z E Y d M lv tgt st Q) (k2 : ¬ x < 0 → Z E Y d M lv (pc + 3) st Q) : Z E Y d M lv pc (vi x :: st) Q :=
  Z.br (fun p l e R s m args below meth c hG H locs cells slots ls Qs hh kt kf => lv_if_lt hG.1 hG.2.1 hd ht kt kf) (fun τ hl hs => zv_tl hs) (fun τ hl hs => zv_tl hs) k1 k2
theorem z_icmp_lt {x y : Int32} {off : Int} {tgt : Nat} (hd : decode (zYc Y) pc = .ok (.if_icmp .lt off, 3)) (ht : (pc : Int) + off = (tgt : Int)) (k1 : x < y → Z E Y d M lv tgt st Q) (k2 : ¬ x < y → Z E Y d M lv (pc + 3) st Q) : Z E Y d M lv pc (vi y :: vi x :: st) Q :=
  Z.br (fun p l e R s m args below meth c hG H locs cells slots ls Qs hh kt kf => lv_icmp_lt hG.1 hG.2.1 hd ht kt kf) (fun τ hl hs => zv_tl (zv_tl hs)) (fun τ hl hs => zv_tl (zv_tl hs)) k1 k2
theorem z_if_ge {x : Int32} {off : Int} {tgt : Nat} (hd : decode (zYc Y) pc = .ok (.ifCond .ge off, 3)) (ht : (pc : Int) + off = (tgt : Int)) (k1 : 0 ≤ x → Z E Y d M lv tgt st Q) (k2 : ¬ 0 ≤ x → Z E Y d M lv (pc + 3) st Q) : Z E Y d M lv pc (vi x :: st) Q :=
  Z.br (fun p l e R s m args below meth c hG H locs cells slots ls Qs hh kt kf => lv_if_ge hG.1 hG.2.1 hd ht kt kf) (fun τ hl hs => zv_tl hs) (fun τ hl hs => zv_tl hs) k1 k2
theorem z_icmp_ge {x y : Int32} {off : Int} {tgt : Nat} (hd : decode (zYc Y) pc = .ok (.if_icmp .ge off, 3)) (ht : (pc : Int) + off = (tgt : Int)) (k1 : y ≤ x → Z E Y d M lv tgt st Q) (k2 : ¬ y ≤ x → Z E Y d M lv (pc + 3) st Q) : Z E Y d M lv pc (vi y :: vi x :: st) Q :=
  Z.br (fun p l e R s m args below meth c hG H locs cells slots ls Qs hh kt kf => lv_icmp_ge hG.1 hG.2.1 hd ht kt kf) (fun τ hl hs => zv_tl (zv_tl hs)) (fun τ hl hs => zv_tl (zv_tl hs)) k1 k2
theorem z_if_gt {x : Int32} {off : Int} {tgt : Nat} (hd : decode (zYc Y) pc = .ok (.ifCond .gt off, 3)) (ht : (pc : Int) + off = (tgt : Int)) (k1 : 0 < x → Z E Y d M lv tgt st Q) (k2 : ¬ 0 < x → Z E Y d M lv (pc + 3) st Q) : Z E Y d M lv pc (vi x :: st) Q :=
  Z.br (fun p l e R s m args below meth c hG H locs cells slots ls Qs hh kt kf => lv_if_gt hG.1 hG.2.1 hd ht kt kf) (fun τ hl hs => zv_tl hs) (fun τ hl hs => zv_tl hs) k1 k2
theorem z_icmp_gt {x y : Int32} {off : Int} {tgt : Nat} (hd : decode (zYc Y) pc = .ok (.if_icmp .gt off, 3)) (ht : (pc : Int) + off = (tgt : Int)) (k1 : y < x → Z E Y d M lv tgt st Q) (k2 : ¬ y < x → Z E Y d M lv (pc + 3) st Q) : Z E Y d M lv pc (vi y :: vi x :: st) Q :=
  Z.br (fun p l e R s m args below meth c hG H locs cells slots ls Qs hh kt kf => lv_icmp_gt hG.1 hG.2.1 hd ht kt kf) (fun τ hl hs => zv_tl (zv_tl hs)) (fun τ hl hs => zv_tl (zv_tl hs)) k1 k2
theorem z_if_le {x : Int32} {off : Int} {tgt : Nat} (hd : decode (zYc Y) pc = .ok (.ifCond .le off, 3)) (ht : (pc : Int) + off = (tgt : Int)) (k1 : x ≤ 0 → Z E Y d M lv tgt st Q) (k2 : ¬ x ≤ 0 → Z E Y d M lv (pc + 3) st Q) : Z E Y d M lv pc (vi x :: st) Q :=
  Z.br (fun p l e R s m args below meth c hG H locs cells slots ls Qs hh kt kf => lv_if_le hG.1 hG.2.1 hd ht kt kf) (fun τ hl hs => zv_tl hs) (fun τ hl hs => zv_tl hs) k1 k2
theorem z_icmp_le {x y : Int32} {off : Int} {tgt : Nat} (hd : decode (zYc Y) pc = .ok (.if_icmp .le off, 3)) (ht : (pc : Int) + off = (tgt : Int)) (k1 : x ≤ y → Z E Y d M lv tgt st Q) (k2 : ¬ x ≤ y → Z E Y d M lv (pc + 3) st Q) : Z E Y d M lv pc (vi y :: vi x :: st) Q :=
  Z.br (fun p l e R s m args below meth c hG H locs cells slots ls Qs hh kt kf => lv_icmp_le hG.1 hG.2.1 hd ht kt kf) (fun τ hl hs => zv_tl (zv_tl hs)) (fun τ hl hs => zv_tl (zv_tl hs)) k1 k2
theorem z_goto {off : Int} {tgt : Nat} (hd : decode (zYc Y) pc = .ok (.goto off, 3)) (ht : (pc : Int) + off = (tgt : Int)) (k : Z E Y d M lv tgt st Q) : Z E Y d M lv pc st Q :=
  Z.step (fun p l e R s m args below meth c hG H locs cells slots ls Qs hh kk => lv_goto hG.1 hG.2.1 hd ht kk) (fun τ hl hs => hs) k
theorem z_ifnull {r : Option zP} {off : Int} {tgt : Nat} (hd : decode (zYc Y) pc = .ok (.ifnull off, 3)) (ht : (pc : Int) + off = (tgt : Int)) (k1 : r = none → Z E Y d M lv tgt st Q) (k2 : ¬ r = none → Z E Y d M lv (pc + 3) st Q) : Z E Y d M lv pc (vr r :: st) Q := by
  cases r with
  | none => exact Z.step (fun p l e R s m args below meth c hG H locs cells slots ls Qs hh kk => lv_ifnullN hG.1 hG.2.1 hd ht kk) (fun τ hl hs => zv_tl hs) (k1 rfl)
  | some x => exact Z.step (fun p l e R s m args below meth c hG H locs cells slots ls Qs hh kk => lv_ifnull hG.1 hG.2.1 hd kk) (fun τ hl hs => zv_tl hs) (k2 (fun h => by cases h))
theorem z_ifnonnull {r : Option zP} {off : Int} {tgt : Nat} (hd : decode (zYc Y) pc = .ok (.ifnonnull off, 3)) (ht : (pc : Int) + off = (tgt : Int)) (k1 : ¬ r = none → Z E Y d M lv tgt st Q) (k2 : r = none → Z E Y d M lv (pc + 3) st Q) : Z E Y d M lv pc (vr r :: st) Q := by
  cases r with
  | none => exact Z.step (fun p l e R s m args below meth c hG H locs cells slots ls Qs hh kk => lv_ifnonnullN hG.1 hG.2.1 hd kk) (fun τ hl hs => zv_tl hs) (k2 rfl)
  | some x => exact Z.step (fun p l e R s m args below meth c hG H locs cells slots ls Qs hh kk => lv_ifnonnull hG.1 hG.2.1 hd ht kk) (fun τ hl hs => zv_tl hs) (k1 (fun h => by cases h))
theorem z_tableIn {dflt lo hi : Int} {offs : Array Int} {len : Nat} {x : Int32} {off : Int} {tgt : Nat} (hd : decode (zYc Y) pc = .ok (.tableswitch dflt lo hi offs, len)) (h1 : ¬ x.toInt < lo) (h2 : ¬ hi < x.toInt) (ho : offs[(x.toInt - lo).toNat]? = some off) (ht : (pc : Int) + off = (tgt : Int)) (k : Z E Y d M lv tgt st Q) : Z E Y d M lv pc (vi x :: st) Q :=
  Z.step (fun p l e R s m args below meth c hG H locs cells slots ls Qs hh kk => lv_tableIn hG.1 hG.2.1 hd h1 h2 ho ht kk) (fun τ hl hs => zv_tl hs) k
theorem z_tableOut {dflt lo hi : Int} {offs : Array Int} {len : Nat} {x : Int32} {tgt : Nat} (hd : decode (zYc Y) pc = .ok (.tableswitch dflt lo hi offs, len)) (h : x.toInt < lo ∨ hi < x.toInt) (ht : (pc : Int) + dflt = (tgt : Int)) (k : Z E Y d M lv tgt st Q) : Z E Y d M lv pc (vi x :: st) Q :=
  Z.step (fun p l e R s m args below meth c hG H locs cells slots ls Qs hh kk => lv_tableOut hG.1 hG.2.1 hd h ht kk) (fun τ hl hs => zv_tl hs) k
end
