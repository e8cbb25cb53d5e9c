/-! INTS: conditions on Int32 become conditions on Ints; frames of memories -/
theorem tI_lt (a b : Int32) : (a < b) = (a.toInt < b.toInt) := propext Int32.lt_iff_toInt_lt
theorem tI_le (a b : Int32) : (a ≤ b) = (a.toInt ≤ b.toInt) := propext Int32.le_iff_toInt_le
theorem tI_eq (a b : Int32) : (a = b) = (a.toInt = b.toInt) := propext Int32.toInt_inj.symm
theorem tI_clamp (a : Int32) : a.toNatClampNeg = a.toInt.toNat := rfl
theorem tI_in (a : Int32) (n : Nat) : vp_in a n = (0 ≤ a.toInt ∧ a.toInt.toNat < n) := by
  apply propext
  unfold vp_in
  rw [tI_lt, tI_clamp, show (0 : Int32).toInt = 0 from rfl]
  omega
theorem tI_lo (a : Int32) : -2147483648 ≤ a.toInt := a.le_toInt
theorem tI_hi (a : Int32) : a.toInt < 2147483648 := a.toInt_lt
theorem tI_bm {z : Int} (h1 : -2147483648 ≤ z) (h2 : z < 2147483648) : z.bmod 4294967296 = z := Int.bmod_eq_of_le (by omega) (by omega)
theorem tI_add {a b : Int32} (h1 : -2147483648 ≤ a.toInt + b.toInt) (h2 : a.toInt + b.toInt < 2147483648) : (a + b).toInt = a.toInt + b.toInt := by
  rw [Int32.toInt_add]; exact tI_bm h1 h2
theorem tI_sub {a b : Int32} (h1 : -2147483648 ≤ a.toInt - b.toInt) (h2 : a.toInt - b.toInt < 2147483648) : (a - b).toInt = a.toInt - b.toInt := by
  rw [Int32.toInt_sub]; exact tI_bm h1 h2
theorem tI_mul {a b : Int32} (h1 : -2147483648 ≤ a.toInt * b.toInt) (h2 : a.toInt * b.toInt < 2147483648) : (a * b).toInt = a.toInt * b.toInt := by
  rw [Int32.toInt_mul]; exact tI_bm h1 h2
theorem tI_neg {a : Int32} (h : -2147483648 < a.toInt) : (-a).toInt = -a.toInt := by
  rw [Int32.toInt_neg]; exact tI_bm (by have := tI_hi a; omega) (by omega)
theorem tI_lit {n : Nat} (h : n < 2147483648) : (no_index (OfNat.ofNat n) : Int32).toInt = (n : Int) := by
  rw [Int32.toInt_ofNat]; exact tI_bm (by omega) (by omega)
theorem tI_nI {n : Nat} (h : n < 2147483648) : (Int32.ofNat n).toInt = (n : Int) := Int32.toInt_ofNat_of_lt h
theorem tI_b {a : Int32} (h1 : -128 ≤ a.toInt) (h2 : a.toInt < 128) : a.toInt8.toInt32 = a := by
  apply Int32.toInt.inj
  rw [Int8.toInt_toInt32, Int32.toInt_toInt8]
  exact Int.bmod_eq_of_le (by omega) (by omega)
theorem tI_s {a : Int32} (h1 : -32768 ≤ a.toInt) (h2 : a.toInt < 32768) : a.toInt16.toInt32 = a := by
  apply Int32.toInt.inj
  rw [Int16.toInt_toInt32, Int32.toInt_toInt16]
  exact Int.bmod_eq_of_le (by omega) (by omega)
/-- nothing but what P names is changed; no cell is made -/
def fr (P : Nat → Nat → Prop) (M M' : zM) : Prop := (zsz M' = zsz M ∧ zsu M' = zsu M) ∧ ∀ a k, ¬ P a k → gi M' a k = gi M a k ∧ gl M' a k = gl M a k ∧ gr M' a k = gr M a k
theorem fr.rf {P : Nat → Nat → Prop} {M : zM} : fr P M M := ⟨⟨rfl, rfl⟩, fun _ _ _ => ⟨rfl, rfl, rfl⟩⟩
theorem fr.tr {P : Nat → Nat → Prop} {M M' M'' : zM} (h : fr P M M') (h' : fr P M' M'') : fr P M M'' :=
  ⟨⟨h'.1.1.trans h.1.1, h'.1.2.trans h.1.2⟩, fun a k q => ⟨(h'.2 a k q).1.trans (h.2 a k q).1, (h'.2 a k q).2.1.trans (h.2 a k q).2.1, (h'.2 a k q).2.2.trans (h.2 a k q).2.2⟩⟩
theorem fr.mono {P P' : Nat → Nat → Prop} {M M' : zM} (h : fr P M M') (hp : ∀ a k, P a k → P' a k) : fr P' M M' := ⟨h.1, fun a k q => h.2 a k fun z => q (hp a k z)⟩
theorem up2_off {α : Type} {f : Nat → Nat → α} {a k : Nat} {v : α} {b j : Nat} (h : ¬ (b = a ∧ j = k)) : up2 f a k v b j = f b j := by
  unfold up2
  split
  · rename_i e1; split
    · rename_i e2; exact absurd ⟨e1, e2⟩ h
    · rfl
  · rfl
theorem fr.si {P : Nat → Nat → Prop} {M : zM} {a k : Nat} {v : Int32} (h : P a k) : fr P M (si M a k v) :=
  ⟨⟨rfl, rfl⟩, fun b j q => ⟨up2_off (fun e => q (by rw [e.1, e.2]; exact h)), rfl, rfl⟩⟩
theorem fr.sl {P : Nat → Nat → Prop} {M : zM} {a k : Nat} {v : Int64} (h : P a k) : fr P M (sl M a k v) :=
  ⟨⟨rfl, rfl⟩, fun b j q => ⟨rfl, up2_off (fun e => q (by rw [e.1, e.2]; exact h)), rfl⟩⟩
theorem fr.sr {P : Nat → Nat → Prop} {M : zM} {a k : Nat} {v : Option zP} (h : P a k) : fr P M (sr M a k v) :=
  ⟨⟨rfl, rfl⟩, fun b j q => ⟨rfl, rfl, up2_off (fun e => q (by rw [e.1, e.2]; exact h))⟩⟩
theorem fr.tw {P : Nat → Nat → Prop} {M M' : zM} (h : fr P M M') (hp : ∀ q ∈ twl, ¬ P 97 q.1) (hw : tw M) : tw M' := fun q hq => ((h.2 97 q.1 (hp q hq)).2.2).trans (hw q hq)
theorem fr.cw {P : Nat → Nat → Prop} {M M' : zM} (h : fr P M M') (hp : ∀ q ∈ cwl, ¬ P q.1 q.2.1) (hw : cw M) : cw M' := fun q hq => ((h.2 q.1 q.2.1 (hp q hq)).2.2).trans (hw q hq)
theorem tw.si {M : zM} {a k : Nat} {v : Int32} (h : tw M) : tw (si M a k v) := h
theorem tw.sl {M : zM} {a k : Nat} {v : Int64} (h : tw M) : tw (sl M a k v) := h
theorem cw.si {M : zM} {a k : Nat} {v : Int32} (h : cw M) : cw (si M a k v) := h
theorem cw.sl {M : zM} {a k : Nat} {v : Int64} (h : cw M) : cw (sl M a k v) := h
theorem gi_self (M : zM) (a k : Nat) (v : Int32) : gi (si M a k v) a k = v := by rw [gi_si, if_pos rfl, if_pos rfl]
theorem gi_oth {M : zM} {a k : Nat} {v : Int32} {b j : Nat} (h : b ≠ a) : gi (si M a k v) b j = gi M b j := by rw [gi_si, if_neg h]
theorem gi_idx {M : zM} {a k : Nat} {v : Int32} {j : Nat} (h : j ≠ k) : gi (si M a k v) a j = gi M a j := by rw [gi_si, if_pos rfl, if_neg h]
theorem vp_nar_b (x : Int32) : vp_nar .byte x.toInt8.toInt32 = x.toInt8.toInt32 := by
  show (x.toInt8.toInt32).toInt8.toInt32 = _
  rw [Int8.toInt8_toInt32]
