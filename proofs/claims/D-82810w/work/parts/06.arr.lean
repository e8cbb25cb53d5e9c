/-! rows of Z: arrays, new cells, ends -/
section
variable {p : Program} {l : Launch} {e : Env} {R : Room} {s : State} {m : MethodId} {args : Array Value} {below : List Frame} {meth : Method} {c : Code}
variable {E : zE} {Y : zY} {d : Nat}
theorem zG.arr (hG : zG E Y d p l R s m meth c) (q : Nat) {ty : FieldType} (h : (ztys E)[q]? = some (zdA E q, ty)) : ArrOfT s (zdA E q) ty ∧ va_RA s (zdA E q) ty := hG.kn.2 q _ h
theorem zrel.arr {τ : zT} {M : zM} {H : Heap} (hR : zrel E τ M H) {a q n : Nat} (hq : q < 8 ∨ 16 ≤ a) (hv : τ a = some (100 + q, n)) : H[zrho E a]? = some (arrV (zdA E q) n (fun j => zfv E M a j (zqk q))) := ((hR.2.2.1 a _ n hv).2.arr hq).2
theorem zin {n : Nat} {i : Int32} {cA : ClassId} {f : Nat → Value} (h : vp_in i n) : ¬ (i < 0 ∨ (arrV cA n f).slots.size ≤ i.toNatClampNeg) := by rw [arrV_size]; exact h
theorem zin_lt {n : Nat} {i : Int32} (h : vp_in i n) : i.toNatClampNeg < n := Nat.not_le.mp fun q => h (Or.inr q)
theorem zrel.arrput (hE : zEok E) {τ : zT} {M M1 : zM} {H H1 : Heap} (hR : zrel E τ M H) {a q n i : Nat} (hv : τ a = some (100 + q, n)) (ha : 16 ≤ a) (hsz : zsz M1 = zsz M) (hoff : ∀ b k kd, b ≠ a → zfv E M1 b k kd = zfv E M b k kd)
    (hz : H1.size = H.size) (ho : ∀ x, x ≠ zrho E a → H1[x]? = H[x]?) {v : Value} (hc : H1[zrho E a]? = some ((arrV (zdA E q) n (fun j => zfv E M a j (zqk q))).setSlot i v)) (he : ∀ j, zfv E M1 a j (zqk q) = updV (fun j => zfv E M a j (zqk q)) i v j)
    (hp : ∀ (b : Nat) (w : Nat × Nat) (k : Nat) (p : zP), τ b = some w → gr M1 b k = some p → τ p.1 = some p.2) : zrel E τ M1 H1 := by
  refine hR.put hE hv ha hsz hoff hz ho ?_ hp
  have h8 := ((hR.2.2.1 a _ n hv).2.arr (Or.inr ha)).1
  unfold zcell
  rw [if_neg (by omega), show 100 + q - 100 = q by omega]
  refine Or.inl ⟨by omega, ?_⟩
  rw [hc, arrV_store]
  congr 2
  funext j
  exact (he j).symm
end
section
variable {E : zE} {Y : zY} {d : Nat} {M : zM} {lv : List (Nat × zV)} {a t n k idx pc : Nat} {st : List zV} {Q : zO → zM → Prop}
theorem z_iald {i : Int32} (hd : decode (zYc Y) pc = .ok (.iaload, 1)) (hi : vp_in i n) (kz : Z E Y d M lv (pc + 1) (vi (gi M a i.toNatClampNeg) :: st) Q) : Z E Y d M lv pc (vi i :: vr (some (a, 100, n)) :: st) Q :=
  Z.read (fun τ p l e R s m args below meth c hG H locs cells slots ls Qs hR hs kk => W.iald hG.1 hG.2.1 (hR.arr (q := 0) (Or.inl (by decide)) (zv_hd (zv_tl hs))) ((hG.arr 0 rfl).1 _ _) (fun h => by cases h) (zin hi) (arrV_read _ _ (zin_lt hi)) rfl rfl hd kk) (fun τ H hR hs => by exact zv_cons trivial (zv_tl (zv_tl hs))) kz
theorem z_bald {i : Int32} (hd : decode (zYc Y) pc = .ok (.baload, 1)) (hi : vp_in i n) (kz : Z E Y d M lv (pc + 1) (vi (gi M a i.toNatClampNeg) :: st) Q) : Z E Y d M lv pc (vi i :: vr (some (a, 101, n)) :: st) Q :=
  Z.read (fun τ p l e R s m args below meth c hG H locs cells slots ls Qs hR hs kk => W.bald hG.1 hG.2.1 (hR.arr (q := 1) (Or.inl (by decide)) (zv_hd (zv_tl hs))) ((hG.arr 1 rfl).1 _ _) (fun h => by cases h) (zin hi) (arrV_read _ _ (zin_lt hi)) rfl rfl hd kk) (fun τ H hR hs => by exact zv_cons trivial (zv_tl (zv_tl hs))) kz
theorem z_sald {i : Int32} (hd : decode (zYc Y) pc = .ok (.saload, 1)) (hi : vp_in i n) (kz : Z E Y d M lv (pc + 1) (vi (gi M a i.toNatClampNeg) :: st) Q) : Z E Y d M lv pc (vi i :: vr (some (a, 102, n)) :: st) Q :=
  Z.read (fun τ p l e R s m args below meth c hG H locs cells slots ls Qs hR hs kk => W.sald hG.1 hG.2.1 (hR.arr (q := 2) (Or.inl (by decide)) (zv_hd (zv_tl hs))) ((hG.arr 2 rfl).1 _ _) (fun h => by cases h) (zin hi) (arrV_read _ _ (zin_lt hi)) rfl rfl hd kk) (fun τ H hR hs => by exact zv_cons trivial (zv_tl (zv_tl hs))) kz
theorem z_cald {i : Int32} (hd : decode (zYc Y) pc = .ok (.caload, 1)) (hi : vp_in i n) (kz : Z E Y d M lv (pc + 1) (vi (gi M a i.toNatClampNeg) :: st) Q) : Z E Y d M lv pc (vi i :: vr (some (a, 103, n)) :: st) Q :=
  Z.read (fun τ p l e R s m args below meth c hG H locs cells slots ls Qs hR hs kk => W.cald hG.1 hG.2.1 (hR.arr (q := 3) (Or.inl (by decide)) (zv_hd (zv_tl hs))) ((hG.arr 3 rfl).1 _ _) (fun h => by cases h) (zin hi) (arrV_read _ _ (zin_lt hi)) rfl rfl hd kk) (fun τ H hR hs => by exact zv_cons trivial (zv_tl (zv_tl hs))) kz
theorem z_zald {i : Int32} (hd : decode (zYc Y) pc = .ok (.baload, 1)) (hi : vp_in i n) (kz : Z E Y d M lv (pc + 1) (vi (gi M a i.toNatClampNeg) :: st) Q) : Z E Y d M lv pc (vi i :: vr (some (a, 104, n)) :: st) Q :=
  Z.read (fun τ p l e R s m args below meth c hG H locs cells slots ls Qs hR hs kk => W.zald hG.1 hG.2.1 (hR.arr (q := 4) (Or.inl (by decide)) (zv_hd (zv_tl hs))) ((hG.arr 4 rfl).1 _ _) (fun h => by cases h) (zin hi) (arrV_read _ _ (zin_lt hi)) rfl rfl hd kk) (fun τ H hR hs => by exact zv_cons trivial (zv_tl (zv_tl hs))) kz
theorem z_lald {i : Int32} (hd : decode (zYc Y) pc = .ok (.laload, 1)) (hi : vp_in i n) (kz : Z E Y d M lv (pc + 1) (vl (gl M a i.toNatClampNeg) :: st) Q) : Z E Y d M lv pc (vi i :: vr (some (a, 105, n)) :: st) Q :=
  Z.read (fun τ p l e R s m args below meth c hG H locs cells slots ls Qs hR hs kk => W.lald hG.1 hG.2.1 (hR.arr (q := 5) (Or.inl (by decide)) (zv_hd (zv_tl hs))) ((hG.arr 5 rfl).1 _ _) (fun h => by cases h) (zin hi) (arrV_read _ _ (zin_lt hi)) rfl rfl hd kk) (fun τ H hR hs => by exact zv_cons trivial (zv_tl (zv_tl hs))) kz
theorem z_aald {r : Option zP} {q : Nat} {i : Int32} (hq : q = 6 ∨ q = 7) (hd : decode (zYc Y) pc = .ok (.aaload, 1)) (hi : vp_in i n) (hr : gr M a i.toNatClampNeg = r) (kz : Z E Y d M lv (pc + 1) (vr r :: st) Q) : Z E Y d M lv pc (vi i :: vr (some (a, 100 + q, n)) :: st) Q := by
  subst hr
  refine Z.read (fun τ p l e R s m args below meth c hG H locs cells slots ls Qs hR hs kk => ?_) (fun τ H hR hs => zv_cons ?_ (zv_tl (zv_tl hs))) kz
  · rcases hq with rfl | rfl
    · exact W.aald hG.1 hG.2.1 (hR.arr (q := 6) (Or.inl (by decide)) (zv_hd (zv_tl hs))) ((hG.arr 6 rfl).1 _ _) rfl (fun h => by cases h) (zin hi) (arrV_read _ _ (zin_lt hi)) rfl rfl hd kk
    · exact W.aald hG.1 hG.2.1 (hR.arr (q := 7) (Or.inl (by decide)) (zv_hd (zv_tl hs))) ((hG.arr 7 rfl).1 _ _) rfl (fun h => by cases h) (zin hi) (arrV_read _ _ (zin_lt hi)) rfl rfl hd kk
  · cases h : gr M a i.toNatClampNeg with
    | none => trivial
    | some p => exact hR.2.2.2 a _ _ p (zv_hd (zv_tl hs)) h
theorem z_alen {q : Nat} {v : Int32} (hd : decode (zYc Y) pc = .ok (.arraylength, 1)) (hv : Int32.ofNat n = v) (kz : Z E Y d M lv (pc + 1) (vi v :: st) Q) (h8 : q < 8 := by decide) : Z E Y d M lv pc (vr (some (a, 100 + q, n)) :: st) Q := by
  subst hv
  refine Z.read (fun τ p l e R s m args below meth c hG H locs cells slots ls Qs hR hs kk => ?_) (fun τ H hR hs => by exact zv_cons trivial (zv_tl hs)) kz
  have key : ∃ ty, ArrOfT s (zdA E q) ty := by
    match q, h8 with
    | 0, _ => exact ⟨_, (hG.arr 0 rfl).1⟩
    | 1, _ => exact ⟨_, (hG.arr 1 rfl).1⟩
    | 2, _ => exact ⟨_, (hG.arr 2 rfl).1⟩
    | 3, _ => exact ⟨_, (hG.arr 3 rfl).1⟩
    | 4, _ => exact ⟨_, (hG.arr 4 rfl).1⟩
    | 5, _ => exact ⟨_, (hG.arr 5 rfl).1⟩
    | 6, _ => exact ⟨_, (hG.arr 6 rfl).1⟩
    | 7, _ => exact ⟨_, (hG.arr 7 rfl).1⟩
    | q + 8, h => exact absurd h (by omega)
  obtain ⟨ty, hty⟩ := key
  exact W.alen (n := Int32.ofNat n) hG.1 hG.2.1 (hR.arr (Or.inl h8) (zv_hd hs)) (hty _ _) (by rw [arrV_size] <;> rfl) rfl rfl hd kk
theorem z_iast {x i : Int32} (ha : 16 ≤ a) (hd : decode (zYc Y) pc = .ok (.iastore, 1)) (hi : vp_in i n) (kz : Z E Y d (si M a i.toNatClampNeg x) lv (pc + 1) st Q) : Z E Y d M lv pc (vi x :: vi i :: vr (some (a, 100, n)) :: st) Q := by
  refine Z.write (M1 := si M a i.toNatClampNeg x) rfl rfl (fun τ p l e R s m args below meth c hG H locs cells slots ls Qs hR hs hL kk => ?_) (fun τ hs => zv_tl (zv_tl (zv_tl hs))) kz
  have hv : τ a = some (100 + 0, n) := zv_hd (zv_tl (zv_tl hs))
  refine W.iast hG.1 hG.2.1 (hR.arr (Or.inr ha) hv) ((hG.arr 0 rfl).1 _ _) (fun h => by cases h) (zin hi) rfl rfl hd fun H1 e1 e2 e3 => kk H1 _ (hR.arrput hG.ok hv ha rfl (fun b j kd hb => ?_) e2 e3 e1 (fun j => ?_) hR.2.2.2) (zlocs hL ha)
  · match kd with
    | 0 => show Value.int (gi (si M a i.toNatClampNeg x) b j) = .int (gi M b j); rw [gi_si, if_neg hb]
    | 1 => rfl
    | kd + 2 => rfl
  · show Value.int (gi (si M a i.toNatClampNeg x) a j) = _
    rw [gi_si, if_pos rfl]
    unfold updV
    split <;> rfl
theorem z_bast {x i : Int32} (ha : 16 ≤ a) (hd : decode (zYc Y) pc = .ok (.bastore, 1)) (hi : vp_in i n) (kz : Z E Y d (si M a i.toNatClampNeg (vp_nar .byte x)) lv (pc + 1) st Q) : Z E Y d M lv pc (vi x :: vi i :: vr (some (a, 101, n)) :: st) Q := by
  refine Z.write (M1 := si M a i.toNatClampNeg (vp_nar .byte x)) rfl rfl (fun τ p l e R s m args below meth c hG H locs cells slots ls Qs hR hs hL kk => ?_) (fun τ hs => zv_tl (zv_tl (zv_tl hs))) kz
  have hv : τ a = some (100 + 1, n) := zv_hd (zv_tl (zv_tl hs))
  refine W.bast hG.1 hG.2.1 (hR.arr (Or.inr ha) hv) ((hG.arr 1 rfl).1 _ _) (fun h => by cases h) (zin hi) rfl rfl hd fun H1 e1 e2 e3 => kk H1 _ (hR.arrput hG.ok hv ha rfl (fun b j kd hb => ?_) e2 e3 e1 (fun j => ?_) hR.2.2.2) (zlocs hL ha)
  · match kd with
    | 0 => show Value.int (gi (si M a i.toNatClampNeg (vp_nar .byte x)) b j) = .int (gi M b j); rw [gi_si, if_neg hb]
    | 1 => rfl
    | kd + 2 => rfl
  · show Value.int (gi (si M a i.toNatClampNeg (vp_nar .byte x)) a j) = _
    rw [gi_si, if_pos rfl]
    unfold updV
    split <;> rfl
theorem z_sast {x i : Int32} (ha : 16 ≤ a) (hd : decode (zYc Y) pc = .ok (.sastore, 1)) (hi : vp_in i n) (kz : Z E Y d (si M a i.toNatClampNeg (vp_nar .short x)) lv (pc + 1) st Q) : Z E Y d M lv pc (vi x :: vi i :: vr (some (a, 102, n)) :: st) Q := by
  refine Z.write (M1 := si M a i.toNatClampNeg (vp_nar .short x)) rfl rfl (fun τ p l e R s m args below meth c hG H locs cells slots ls Qs hR hs hL kk => ?_) (fun τ hs => zv_tl (zv_tl (zv_tl hs))) kz
  have hv : τ a = some (100 + 2, n) := zv_hd (zv_tl (zv_tl hs))
  refine W.sast hG.1 hG.2.1 (hR.arr (Or.inr ha) hv) ((hG.arr 2 rfl).1 _ _) (fun h => by cases h) (zin hi) rfl rfl hd fun H1 e1 e2 e3 => kk H1 _ (hR.arrput hG.ok hv ha rfl (fun b j kd hb => ?_) e2 e3 e1 (fun j => ?_) hR.2.2.2) (zlocs hL ha)
  · match kd with
    | 0 => show Value.int (gi (si M a i.toNatClampNeg (vp_nar .short x)) b j) = .int (gi M b j); rw [gi_si, if_neg hb]
    | 1 => rfl
    | kd + 2 => rfl
  · show Value.int (gi (si M a i.toNatClampNeg (vp_nar .short x)) a j) = _
    rw [gi_si, if_pos rfl]
    unfold updV
    split <;> rfl
theorem z_cast {x i : Int32} (ha : 16 ≤ a) (hd : decode (zYc Y) pc = .ok (.castore, 1)) (hi : vp_in i n) (kz : Z E Y d (si M a i.toNatClampNeg (vp_nar .char x)) lv (pc + 1) st Q) : Z E Y d M lv pc (vi x :: vi i :: vr (some (a, 103, n)) :: st) Q := by
  refine Z.write (M1 := si M a i.toNatClampNeg (vp_nar .char x)) rfl rfl (fun τ p l e R s m args below meth c hG H locs cells slots ls Qs hR hs hL kk => ?_) (fun τ hs => zv_tl (zv_tl (zv_tl hs))) kz
  have hv : τ a = some (100 + 3, n) := zv_hd (zv_tl (zv_tl hs))
  refine W.cast hG.1 hG.2.1 (hR.arr (Or.inr ha) hv) ((hG.arr 3 rfl).1 _ _) (fun h => by cases h) (zin hi) rfl rfl hd fun H1 e1 e2 e3 => kk H1 _ (hR.arrput hG.ok hv ha rfl (fun b j kd hb => ?_) e2 e3 e1 (fun j => ?_) hR.2.2.2) (zlocs hL ha)
  · match kd with
    | 0 => show Value.int (gi (si M a i.toNatClampNeg (vp_nar .char x)) b j) = .int (gi M b j); rw [gi_si, if_neg hb]
    | 1 => rfl
    | kd + 2 => rfl
  · show Value.int (gi (si M a i.toNatClampNeg (vp_nar .char x)) a j) = _
    rw [gi_si, if_pos rfl]
    unfold updV
    split <;> rfl
theorem z_zast {x i : Int32} (ha : 16 ≤ a) (hd : decode (zYc Y) pc = .ok (.bastore, 1)) (hi : vp_in i n) (kz : Z E Y d (si M a i.toNatClampNeg (vp_nar .boolean x)) lv (pc + 1) st Q) : Z E Y d M lv pc (vi x :: vi i :: vr (some (a, 104, n)) :: st) Q := by
  refine Z.write (M1 := si M a i.toNatClampNeg (vp_nar .boolean x)) rfl rfl (fun τ p l e R s m args below meth c hG H locs cells slots ls Qs hR hs hL kk => ?_) (fun τ hs => zv_tl (zv_tl (zv_tl hs))) kz
  have hv : τ a = some (100 + 4, n) := zv_hd (zv_tl (zv_tl hs))
  refine W.zast hG.1 hG.2.1 (hR.arr (Or.inr ha) hv) ((hG.arr 4 rfl).1 _ _) (fun h => by cases h) (zin hi) rfl rfl hd fun H1 e1 e2 e3 => kk H1 _ (hR.arrput hG.ok hv ha rfl (fun b j kd hb => ?_) e2 e3 e1 (fun j => ?_) hR.2.2.2) (zlocs hL ha)
  · match kd with
    | 0 => show Value.int (gi (si M a i.toNatClampNeg (vp_nar .boolean x)) b j) = .int (gi M b j); rw [gi_si, if_neg hb]
    | 1 => rfl
    | kd + 2 => rfl
  · show Value.int (gi (si M a i.toNatClampNeg (vp_nar .boolean x)) a j) = _
    rw [gi_si, if_pos rfl]
    unfold updV
    split <;> rfl
theorem z_last {x : Int64} {i : Int32} (ha : 16 ≤ a) (hd : decode (zYc Y) pc = .ok (.lastore, 1)) (hi : vp_in i n) (kz : Z E Y d (sl M a i.toNatClampNeg x) lv (pc + 1) st Q) : Z E Y d M lv pc (vl x :: vi i :: vr (some (a, 105, n)) :: st) Q := by
  refine Z.write (M1 := sl M a i.toNatClampNeg x) rfl rfl (fun τ p l e R s m args below meth c hG H locs cells slots ls Qs hR hs hL kk => ?_) (fun τ hs => zv_tl (zv_tl (zv_tl hs))) kz
  have hv : τ a = some (100 + 5, n) := zv_hd (zv_tl (zv_tl hs))
  refine W.last hG.1 hG.2.1 (hR.arr (Or.inr ha) hv) ((hG.arr 5 rfl).1 _ _) (fun h => by cases h) (zin hi) rfl rfl hd fun H1 e1 e2 e3 => kk H1 _ (hR.arrput hG.ok hv ha rfl (fun b j kd hb => ?_) e2 e3 e1 (fun j => ?_) hR.2.2.2) (zlocs hL ha)
  · match kd with
    | 0 => rfl
    | 1 => show Value.long (gl (sl M a i.toNatClampNeg x) b j) = .long (gl M b j); rw [gl_sl, if_neg hb]
    | kd + 2 => rfl
  · show Value.long (gl (sl M a i.toNatClampNeg x) a j) = _
    rw [gl_sl, if_pos rfl]
    unfold updV
    split <;> rfl
end
