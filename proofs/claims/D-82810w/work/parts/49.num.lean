/-! NUMBERS: every Int32 that counts is nI of a Nat; rows for simp (disch := omega) -/
theorem nn_add (a b : Nat) : nI a + nI b = nI (a + b) := (Int32.ofNat_add a b).symm
theorem nn_addl (a n : Nat) : nI a + (no_index (OfNat.ofNat n) : Int32) = nI (a + OfNat.ofNat n) := (Int32.ofNat_add a n).symm
theorem nn_ladd (a n : Nat) : (no_index (OfNat.ofNat n) : Int32) + nI a = nI (OfNat.ofNat n + a) := (Int32.ofNat_add n a).symm
theorem nn_mul (a b : Nat) : nI a * nI b = nI (a * b) := (Int32.ofNat_mul a b).symm
theorem nn_lmul (a n : Nat) : (no_index (OfNat.ofNat n) : Int32) * nI a = nI (OfNat.ofNat n * a) := (Int32.ofNat_mul n a).symm
theorem nn_mull (a n : Nat) : nI a * (no_index (OfNat.ofNat n) : Int32) = nI (a * OfNat.ofNat n) := (Int32.ofNat_mul a n).symm
theorem nn_sub {a b : Nat} (h : b ≤ a) : nI a - nI b = nI (a - b) := by
  have : nI (a - b) + nI b = nI a := by rw [nn_add]; congr 1; omega
  rw [← this, Int32.add_sub_cancel]
theorem nn_subl {a n : Nat} (h : OfNat.ofNat n ≤ a) : nI a - (no_index (OfNat.ofNat n) : Int32) = nI (a - OfNat.ofNat n) := nn_sub h
theorem nn_lsub {a n : Nat} (h : a ≤ OfNat.ofNat n) : (no_index (OfNat.ofNat n) : Int32) - nI a = nI (OfNat.ofNat n - a) := nn_sub h
theorem nn_toInt {n : Nat} (h : n < 2147483648) : (nI n).toInt = (n : Int) := Int32.toInt_ofNat_of_lt h
theorem nn_lt {a b : Nat} (ha : a < 2147483648) (hb : b < 2147483648) : (nI a < nI b) = (a < b) := by
  rw [Int32.lt_iff_toInt_lt, nn_toInt ha, nn_toInt hb]; exact propext (by omega)
theorem nn_le {a b : Nat} (ha : a < 2147483648) (hb : b < 2147483648) : (nI a ≤ nI b) = (a ≤ b) := by
  rw [Int32.le_iff_toInt_le, nn_toInt ha, nn_toInt hb]; exact propext (by omega)
theorem nn_eq {a b : Nat} (ha : a < 2147483648) (hb : b < 2147483648) : (nI a = nI b) = (a = b) := by
  apply propext
  constructor
  · intro h
    have := congrArg Int32.toInt h
    rw [nn_toInt ha, nn_toInt hb] at this
    omega
  · intro h; rw [h]
theorem nn_ltl {a n : Nat} (ha : a < 2147483648) (hb : OfNat.ofNat n < 2147483648) : (nI a < (no_index (OfNat.ofNat n) : Int32)) = (a < OfNat.ofNat n) := nn_lt ha hb
theorem nn_llt {a n : Nat} (ha : a < 2147483648) (hb : OfNat.ofNat n < 2147483648) : ((no_index (OfNat.ofNat n) : Int32) < nI a) = (OfNat.ofNat n < a) := nn_lt hb ha
theorem nn_lel {a n : Nat} (ha : a < 2147483648) (hb : OfNat.ofNat n < 2147483648) : (nI a ≤ (no_index (OfNat.ofNat n) : Int32)) = (a ≤ OfNat.ofNat n) := nn_le ha hb
theorem nn_lle {a n : Nat} (ha : a < 2147483648) (hb : OfNat.ofNat n < 2147483648) : ((no_index (OfNat.ofNat n) : Int32) ≤ nI a) = (OfNat.ofNat n ≤ a) := nn_le hb ha
theorem nn_eql {a n : Nat} (ha : a < 2147483648) (hb : OfNat.ofNat n < 2147483648) : (nI a = (no_index (OfNat.ofNat n) : Int32)) = (a = OfNat.ofNat n) := nn_eq ha hb
theorem nn_leq {a n : Nat} (ha : a < 2147483648) (hb : OfNat.ofNat n < 2147483648) : ((no_index (OfNat.ofNat n) : Int32) = nI a) = (OfNat.ofNat n = a) := nn_eq hb ha
theorem nn_m1 {a : Nat} (h : a < 2147483648) : (nI a = -1) = False := by
  apply eq_false
  intro e
  have := congrArg Int32.toInt e
  rw [nn_toInt h, show (-1 : Int32).toInt = -1 from rfl] at this
  omega
theorem nn_1m {a : Nat} (h : a < 2147483648) : (-1 = nI a) = False := by
  rw [show ((-1 : Int32) = nI a) = (nI a = -1) from propext eq_comm]; exact nn_m1 h
theorem nn_ltm {a : Nat} (h : a < 2147483648) : (nI a < -1) = False := by
  rw [Int32.lt_iff_toInt_lt, nn_toInt h, show (-1 : Int32).toInt = -1 from rfl]; exact eq_false (by omega)
theorem nn_mlt {a : Nat} (h : a < 2147483648) : (-1 < nI a) = True := by
  rw [Int32.lt_iff_toInt_lt, nn_toInt h, show (-1 : Int32).toInt = -1 from rfl]; exact eq_true (by omega)
theorem nn_mle {a : Nat} (h : a < 2147483648) : (-1 ≤ nI a) = True := by
  rw [Int32.le_iff_toInt_le, nn_toInt h, show (-1 : Int32).toInt = -1 from rfl]; exact eq_true (by omega)
theorem nn_lem {a : Nat} (h : a < 2147483648) : (nI a ≤ -1) = False := by
  rw [Int32.le_iff_toInt_le, nn_toInt h, show (-1 : Int32).toInt = -1 from rfl]; exact eq_false (by omega)
theorem nn_cl {n : Nat} (h : n < 2147483648) : (nI n).toNatClampNeg = n := by
  show (nI n).toInt.toNat = n
  rw [nn_toInt h]; rfl
theorem nn_in {k n : Nat} (h : k < 2147483648) : vp_in (nI k) n = (k < n) := by
  unfold vp_in
  rw [nn_cl h, show (0 : Int32) = nI 0 from rfl, nn_lt h (by decide)]
  exact propext (by omega)
/-- an int is below 0, or counts -/
theorem nn_or (x : Int32) : x < 0 ∨ ∃ k : Nat, k < 2147483648 ∧ x = nI k := by
  by_cases h : x < 0
  · exact .inl h
  · right
    have h0 : (0 : Int32).toInt ≤ x.toInt := by
      rw [Int32.lt_iff_toInt_lt] at h
      omega
    have e0 : (0 : Int32).toInt = 0 := rfl
    have hx := Int32.toInt_lt x
    refine ⟨x.toInt.toNat, by omega, Int32.toInt.inj ?_⟩
    rw [nn_toInt (by omega)]
    omega
theorem nn_nm {x : Int32} (h : x < 0) (n : Nat) (hn : n < 2147483648) : x < nI n := by
  rw [Int32.lt_iff_toInt_lt] at h ⊢
  rw [nn_toInt hn]
  have e0 : (0 : Int32).toInt = 0 := rfl
  omega
theorem nn_ns {n : Nat} (h : n < 32768) : vp_nar .short (nI n) = nI n := tI_s (by rw [nn_toInt (by omega)]; omega) (by rw [nn_toInt (by omega)]; omega)
theorem nn_ns2 {n : Nat} (h : n < 32768) : (nI n).toInt16.toInt32 = nI n := tI_s (by rw [nn_toInt (by omega)]; omega) (by rw [nn_toInt (by omega)]; omega)
theorem nn_nb {n : Nat} (h : n < 128) : vp_nar .byte (nI n) = nI n := tI_b (by rw [nn_toInt (by omega)]; omega) (by rw [nn_toInt (by omega)]; omega)
theorem nn_nb2 {n : Nat} (h : n < 128) : (nI n).toInt8.toInt32 = nI n := tI_b (by rw [nn_toInt (by omega)]; omega) (by rw [nn_toInt (by omega)]; omega)
theorem nn_s1 : vp_nar .short (-1 : Int32) = -1 := rfl
theorem nn_s2 : (-1 : Int32).toInt16.toInt32 = -1 := rfl
theorem nn_b1 : vp_nar .byte (-1 : Int32) = -1 := rfl
theorem nn_b2 : (-1 : Int32).toInt8.toInt32 = -1 := rfl
theorem nn_0 : (0 : Int32) = nI 0 := rfl
theorem nn_1 : (1 : Int32) = nI 1 := rfl
