/-! CONTRACTS: the component's rows of signs and its texts -/
theorem nI_l1 (n : Nat) : nI n + (1 : Int32) = nI (n + 1) := (Int32.ofNat_add n 1).symm
theorem nI_sub {a b : Nat} (h : b ≤ a) : nI a - nI b = nI (a - b) := by
  have : nI (a - b) + nI b = nI a := by rw [nI_add]; congr 1; omega
  rw [← this, Int32.add_sub_cancel]
theorem nI_inj {a b : Nat} (ha : a < 2 ^ 31) (hb : b < 2 ^ 31) (h : nI a = nI b) : a = b := (nI_eq ha hb).mp h
/-- the row of signs at hand is w -/
def xR (M : zM) (w : List Int32) : Prop := gi M 16 3 = nI w.length ∧ w.length ≤ 256 ∧ ∀ k, k < w.length → gi M 20 k = w.getD k 0
/-- the texts of the object a, with its arrays f (where each begins) and s (signs), are L -/
def xS (M : zM) (a f s : Nat) (L : List (List Int32)) : Prop := gi M a 2 = nI L.length ∧ (∀ k, k ≤ L.length → gi M f k = nI (L.take k).flatten.length) ∧ ∀ j, j < L.flatten.length → gi M s j = L.flatten.getD j 0
/-- a sign fits a byte -/
def xb (x : Int32) : Prop := vp_nar .byte x.toInt8.toInt32 = x
theorem xb_n {x : Int32} (h : xb x) : vp_nar .byte x = x := by
  have e : x.toInt8.toInt32 = x := by
    have := h
    unfold xb at this
    rw [vp_nar_b] at this
    exact this
  show x.toInt8.toInt32 = x
  exact e
/-- the first of the texts from the s-th on that is w -/
def tfd : Nat → List (List Int32) → List Int32 → Int32
  | _, [], _ => -1
  | s, x :: r, w => if x = w then nI s else tfd (s + 1) r w
theorem getD_lt {l : List Int32} {k : Nat} (h : k < l.length) : l.getD k 0 = l[k] := by
  rw [List.getD_eq_getElem?_getD, List.getElem?_eq_getElem h]; rfl
theorem getD_app (l r : List Int32) (k : Nat) : (l ++ r).getD k 0 = if k < l.length then l.getD k 0 else r.getD (k - l.length) 0 := by
  rw [List.getD_eq_getElem?_getD, List.getD_eq_getElem?_getD, List.getD_eq_getElem?_getD]
  split
  · rename_i h; rw [List.getElem?_append_left h]
  · rename_i h; rw [List.getElem?_append_right (by omega)]
theorem flat_le (L : List (List Int32)) (k : Nat) : (L.take k).flatten.length ≤ L.flatten.length := by
  have h : L.flatten = (L.take k).flatten ++ (L.drop k).flatten := by rw [← List.flatten_append, List.take_append_drop]
  rw [h, List.length_append]
  omega
theorem flat_suc {L : List (List Int32)} {k : Nat} {x : List Int32} (h : L[k]? = some x) : (L.take (k + 1)).flatten.length = (L.take k).flatten.length + x.length := by
  rw [List.take_add_one, h]
  simp
theorem flat_get {L : List (List Int32)} {k j : Nat} {x : List Int32} (h : L[k]? = some x) (hj : j < x.length) : L.flatten.getD ((L.take k).flatten.length + j) 0 = x.getD j 0 ∧ (L.take k).flatten.length + j < L.flatten.length := by
  have hk : k < L.length := (List.getElem?_eq_some_iff.mp h).1
  have hx : L[k] = x := (List.getElem?_eq_some_iff.mp h).2
  have e : L.flatten = (L.take k).flatten ++ (x ++ (L.drop (k + 1)).flatten) := by
    rw [← hx, ← List.flatten_cons, ← List.drop_eq_getElem_cons hk, ← List.flatten_append, List.take_append_drop]
  constructor
  · rw [e, getD_app, if_neg (by omega), Nat.add_sub_cancel_left, getD_app, if_pos hj]
  · rw [e, List.length_append, List.length_append]
    omega
section
variable {E : zE} {d : Nat} {M : zM} {Q : zO → zM → Prop}
/-- write: one sign more -/
theorem x_write {w : List Int32} {x : Int32} (hw : cw M) (hR : xR M w) (hl : w.length < 256) (hx : xb x) (hQ : ∀ M', xR M' (w ++ [x]) → fr (fun a k => a = 20 ∨ a = 16 ∧ k = 3) M M' → Q (.inl none) M') : Z E YX1_write d M [(0, zX16), (1, vi x)] 0 [] Q := by
  obtain ⟨t1, t2, t3⟩ := hR
  refine sX1_write_0 M x hw ?_
  rw [t1, if_neg (show ¬ (256 : Int32) ≤ nI w.length from nI_ge hl (by decide)), nI_clamp (by omega), hx, nI_l1]
  refine ⟨nI_in hl (by decide), hQ _ ⟨?_, by rw [List.length_append]; exact hl, fun k hk => ?_⟩ ((fr.si (Or.inr ⟨rfl, rfl⟩)).tr (fr.si (Or.inl rfl)))⟩
  · rw [gi_oth (by decide), gi_self, List.length_append]; rfl
  · rw [getD_app]
    rw [List.length_append] at hk
    by_cases h : k = w.length
    · rw [if_neg (by omega), h, gi_self, Nat.sub_self]; rfl
    · have hlt : k < w.length := by simp at hk; omega
      rw [if_pos hlt, gi_idx h, gi_oth (by decide), t3 k hlt]
/-- Texts.add: a row's first signs become a text -/
theorem x_add1 {a f s nf ns b mb off : Nat} {w : List Int32} (hf : gr M a 1 = some (f, 100, nf)) (hs : gr M a 0 = some (s, 101, ns)) (hm : (gi M a 2).toNatClampNeg < nf ∧ vp_in (gi M a 2) nf) (hoff : gi M f (gi M a 2).toNatClampNeg = nI off) (hcap : off + w.length ≤ ns) (hns : ns < 2 ^ 31) (hw : ∀ k, k < w.length → gi M b k = w.getD k 0 ∧ xb (w.getD k 0)) (hmb : w.length ≤ mb) (hmb2 : mb < 2 ^ 31) (hd : s ≠ a ∧ s ≠ f ∧ s ≠ b) (h16 : 16 ≤ s)
    (hQ : ∀ M', fr (fun x k => x = s ∧ off ≤ k) M M' → (∀ j, j < w.length → gi M' s (off + j) = w.getD j 0) → Z E YX2_add d M' [(0, vr (some (a, 2, 0))), (1, vr (some (b, 101, mb))), (2, vi (nI w.length)), (3, vi (nI w.length))] 2 [] Q) :
    ∀ (n i : Nat) (M1 : zM), w.length - i = n → i ≤ w.length → fr (fun x k => x = s ∧ off ≤ k) M M1 → (∀ j, j < i → gi M1 s (off + j) = w.getD j 0) → Z E YX2_add d M1 [(0, vr (some (a, 2, 0))), (1, vr (some (b, 101, mb))), (2, vi (nI w.length)), (3, vi (nI i))] 2 [] Q := by
  intro n
  induction n with
  | zero =>
    intro i M1 hn hi hfr hin
    have : i = w.length := by omega
    subst this
    exact hQ M1 hfr hin
  | succ n ih =>
    intro i M1 hn hi hfr hin
    have hil : i < w.length := by omega
    have ea : gi M1 a 2 = gi M a 2 := (hfr.2 a 2 (fun h => hd.1 h.1.symm)).1
    have ef : ∀ k, gi M1 f k = gi M f k := fun k => (hfr.2 f k (fun h => hd.2.1 h.1.symm)).1
    have eb : ∀ k, gi M1 b k = gi M b k := fun k => (hfr.2 b k (fun h => hd.2.2 h.1.symm)).1
    have e0 : gr M1 a 0 = some (s, 101, ns) := ((hfr.2 a 0 (fun h => hd.1 h.1.symm)).2.2).trans hs
    have e1 : gr M1 a 1 = some (f, 100, nf) := ((hfr.2 a 1 (fun h => hd.1 h.1.symm)).2.2).trans hf
    refine sX2_add_2 M1 a (some (b, 101, mb)) (nI w.length) (nI i) ?_
    have hb16 := hw i hil
    rw [if_neg (nI_ge hil (by omega))]
    refine ⟨f, nf, e1, ?_⟩
    rw [ea, ef, hoff, nI_add]
    refine ⟨hm.2, b, mb, rfl, nI_in (by omega) hmb2, s, ns, e0, h16, nI_in (by omega) hns, ?_⟩
    rw [nI_clamp (by omega), nI_clamp (by omega), nI_l1, eb, hb16.1, xb_n hb16.2]
    refine ih (i + 1) _ (by omega) (by omega) (hfr.tr (fr.si ⟨rfl, by omega⟩)) (fun j hj => ?_)
    by_cases hji : j = i
    · rw [hji, gi_self]
    · rw [gi_idx (by omega)]; exact hin j (by omega)
theorem x_add {a f s nf ns b mb : Nat} {w : List Int32} {L : List (List Int32)} (hf : gr M a 1 = some (f, 100, nf)) (hs : gr M a 0 = some (s, 101, ns)) (hS : xS M a f s L) (hnf : L.length + 1 < nf) (hnf2 : nf < 2 ^ 31) (hcap : L.flatten.length + w.length ≤ ns) (hns : ns < 2 ^ 31) (hw : ∀ k, k < w.length → gi M b k = w.getD k 0 ∧ xb (w.getD k 0)) (hmb : w.length ≤ mb) (hmb2 : mb < 2 ^ 31) (hd : s ≠ a ∧ s ≠ f ∧ s ≠ b ∧ a ≠ f) (h16 : 16 ≤ s ∧ 16 ≤ f ∧ 16 ≤ a)
    (hQ : ∀ M', fr (fun x k => x = s ∨ x = f ∨ x = a ∧ k = 2) M M' → xS M' a f s (L ++ [w]) → Q (.inl (some (vi (nI L.length)))) M') :
    Z E YX2_add d M [(0, vr (some (a, 2, 0))), (1, vr (some (b, 101, mb))), (2, vi (nI w.length))] 0 [] Q := by
  obtain ⟨s1, s2, s3⟩ := hS
  have hm : (gi M a 2).toNatClampNeg = L.length := by rw [s1]; exact nI_clamp (by omega)
  have hfl : (L.take L.length).flatten.length = L.flatten.length := by rw [List.take_length]
  refine sX2_add_0 M a _ _ ?_
  refine x_add1 (off := L.flatten.length) hf hs ⟨by rw [hm]; omega, by rw [s1]; exact nI_in (by omega) hnf2⟩ (by rw [hm, s2 _ (Nat.le_refl _), hfl]) hcap hns hw hmb hmb2 ⟨hd.1, hd.2.1, hd.2.2.1⟩ h16.1 (fun M1 hfr hin => ?_) w.length 0 M rfl (Nat.zero_le _) fr.rf (fun j hj => absurd hj (Nat.not_lt_zero j))
  have ea : gi M1 a 2 = nI L.length := ((hfr.2 a 2 (fun h => hd.1 h.1.symm)).1).trans s1
  have ef : ∀ k, gi M1 f k = gi M f k := fun k => (hfr.2 f k (fun h => hd.2.1 h.1.symm)).1
  have e1 : gr M1 a 1 = some (f, 100, nf) := ((hfr.2 a 1 (fun h => hd.1 h.1.symm)).2.2).trans hf
  refine sX2_add_2 M1 a (some (b, 101, mb)) (nI w.length) (nI w.length) ?_
  rw [if_pos (nI_le (Nat.le_refl _) (by omega))]
  refine ⟨f, nf, e1, ?_⟩
  rw [ea, nI_clamp (by omega), nI_l1, nI_clamp (by omega), ef, s2 _ (Nat.le_refl _), hfl, nI_add, gi_oth hd.2.2.2, ea, nI_l1]
  refine ⟨nI_in (by omega) hnf2, h16.2.1, nI_in (by omega) hnf2, h16.2.2, hQ _ ?_ ⟨?_, fun k hk => ?_, fun j hj => ?_⟩⟩
  · exact fr.tr (P := fun x k => x = s ∨ x = f ∨ x = a ∧ k = 2) (fr.tr (hfr.mono (fun x k h => Or.inl h.1)) (fr.si (Or.inr (Or.inl rfl)))) (fr.si (Or.inr (Or.inr ⟨rfl, rfl⟩)))
  · rw [gi_self, List.length_append]; rfl
  · rw [gi_oth (Ne.symm hd.2.2.2)]
    rw [List.length_append] at hk
    by_cases hkl : k = L.length + 1
    · rw [hkl, gi_self, List.take_of_length_le (by rw [List.length_append]; simp), List.flatten_append]
      simp
    · have hk' : k ≤ L.length := by simp at hk; omega
      rw [gi_idx hkl, ef, s2 k hk', List.take_append_of_le_length hk']
  · rw [List.flatten_append, List.flatten_singleton] at hj ⊢
    rw [gi_oth hd.1, gi_oth hd.2.1, getD_app]
    rw [List.length_append] at hj
    split
    · rename_i h
      rw [(hfr.2 s j (fun q => by omega)).1]
      exact s3 j h
    · rename_i h
      have := hin (j - L.flatten.length) (by omega)
      rwa [show L.flatten.length + (j - L.flatten.length) = j by omega] at this
/-- Texts.find: the number of the text that a row's first signs are, or -1 -/
theorem x_find1 {a f s nf ns b mb k : Nat} {w x : List Int32} {L : List (List Int32)} (hf : gr M a 1 = some (f, 100, nf)) (hs : gr M a 0 = some (s, 101, ns)) (hS : xS M a f s L) (hnf : L.length < nf) (hnf2 : nf < 2 ^ 31) (hcap : L.flatten.length ≤ ns) (hns : ns < 2 ^ 31) (hw : ∀ k, k < w.length → gi M b k = w.getD k 0) (hmb : w.length ≤ mb) (hmb2 : mb < 2 ^ 31) (hx : L[k]? = some x) (hlen : x.length = w.length)
    (hyes : x = w → Q (.inl (some (vi (nI k)))) M) (hno : ¬ x = w → Z E YX2_find (d + 1) M [(0, vr (some (a, 2, 0))), (1, vr (some (b, 101, mb))), (2, vi (nI w.length)), (3, vi (nI (k + 1)))] 2 [] Q) :
    ∀ (n i : Nat), w.length - i = n → i ≤ w.length → (∀ j, j < i → x.getD j 0 = w.getD j 0) → Z E YX2_find (d + 1) M [(0, vr (some (a, 2, 0))), (1, vr (some (b, 101, mb))), (2, vi (nI w.length)), (3, vi (nI k)), (4, vi 1), (5, vi (nI i))] 29 [] Q := by
  obtain ⟨s1, s2, s3⟩ := hS
  have hkl : k < L.length := (List.getElem?_eq_some_iff.mp hx).1
  intro n
  induction n with
  | zero =>
    intro i hn hi hpre
    have : i = w.length := by omega
    subst this
    refine sX2_find_29 M a _ _ (nI k) 1 (nI w.length) ?_
    rw [if_neg (by decide), if_pos (nI_le (Nat.le_refl _) (by omega)), if_neg (by decide)]
    refine hyes (List.ext_getElem hlen fun j h1 h2 => ?_)
    have := hpre j (by omega)
    rwa [getD_lt h1, getD_lt h2] at this
  | succ n ih =>
    intro i hn hi hpre
    have hil : i < w.length := by omega
    obtain ⟨g1, g2⟩ := flat_get hx (show i < x.length by omega)
    refine sX2_find_29 M a _ _ (nI k) 1 (nI i) ?_
    rw [if_neg (by decide), if_neg (nI_ge hil (by omega))]
    refine ⟨f, nf, hf, nI_in (by omega) hnf2, s, ns, hs, ?_⟩
    rw [nI_clamp (by omega), s2 k (by omega), nI_add]
    refine ⟨nI_in (by omega) hns, b, mb, rfl, nI_in (by omega) hmb2, ?_⟩
    rw [nI_clamp (by omega), nI_clamp (by omega), hw i hil, s3 _ g2, g1, nI_l1]
    by_cases he : x.getD i 0 = w.getD i 0
    · rw [if_pos he]
      refine ih (i + 1) (by omega) (by omega) fun j hj => ?_
      by_cases hji : j = i
      · rw [hji]; exact he
      · exact hpre j (by omega)
    · rw [if_neg he]
      have hne : ¬ x = w := fun h => he (by rw [h])
      refine sX2_find_29 M a _ _ (nI k) 0 (nI (i + 1)) ?_
      rw [if_pos rfl, if_pos rfl, nI_l1]
      exact hno hne
theorem x_find2 {a f s nf ns b mb : Nat} {w : List Int32} {L : List (List Int32)} (hf : gr M a 1 = some (f, 100, nf)) (hs : gr M a 0 = some (s, 101, ns)) (hS : xS M a f s L) (hnf : L.length < nf) (hnf2 : nf < 2 ^ 31) (hcap : L.flatten.length ≤ ns) (hns : ns < 2 ^ 31) (hw : ∀ k, k < w.length → gi M b k = w.getD k 0) (hmb : w.length ≤ mb) (hmb2 : mb < 2 ^ 31) :
    ∀ (r : List (List Int32)) (k : Nat), L.drop k = r → k ≤ L.length → Q (.inl (some (vi (tfd k r w)))) M → Z E YX2_find (d + 1) M [(0, vr (some (a, 2, 0))), (1, vr (some (b, 101, mb))), (2, vi (nI w.length)), (3, vi (nI k))] 2 [] Q
  | [], k, hr, hk, hQ => by
    have hl : L.length ≤ k := List.drop_eq_nil_iff.mp hr
    refine sX2_find_2 M a _ _ (nI k) ?_
    rw [hS.1, if_pos (nI_le hl (by omega))]
    exact hQ
  | x :: r, k, hr, hk, hQ => by
    have hkl : k < L.length := by
      by_cases h : k < L.length
      · exact h
      · rw [List.drop_eq_nil_of_le (by omega)] at hr; cases hr
    have hx : L[k]? = some x := by
      rw [List.drop_eq_getElem_cons hkl] at hr
      rw [List.getElem?_eq_getElem hkl, (List.cons.inj hr).1]
    have hr' : L.drop (k + 1) = r := by
      rw [List.drop_eq_getElem_cons hkl] at hr
      exact (List.cons.inj hr).2
    have next : ¬ x = w → Z E YX2_find (d + 1) M [(0, vr (some (a, 2, 0))), (1, vr (some (b, 101, mb))), (2, vi (nI w.length)), (3, vi (nI (k + 1)))] 2 [] Q := fun hne =>
      x_find2 hf hs hS hnf hnf2 hcap hns hw hmb hmb2 r (k + 1) hr' (by omega) (by unfold tfd at hQ; rwa [if_neg hne] at hQ)
    have hle := flat_le L (k + 1)
    have hsu := flat_suc hx
    refine sX2_find_2 M a _ _ (nI k) ?_
    rw [hS.1, if_neg (nI_ge hkl (by omega))]
    refine sX2_length_0 M a (nI k) ?_
    refine ⟨f, nf, hf, ?_⟩
    rw [nI_l1]
    refine ⟨nI_in (by omega) hnf2, f, nf, hf, nI_in (by omega) hnf2, ?_⟩
    rw [nI_clamp (by omega), nI_clamp (by omega), hS.2.1 _ (by omega), hS.2.1 _ (by omega), nI_sub (by omega), hsu, Nat.add_sub_cancel_left]
    show Z E YX2_find (d + 1) M [(0, vr (some (a, 2, 0))), (1, vr (some (b, 101, mb))), (2, vi (nI w.length)), (3, vi (nI k))] 15 [vi (nI x.length)] Q
    refine sX2_find_15 M a _ _ (nI k) (nI x.length) ?_
    by_cases hl : x.length = w.length
    · rw [if_pos (by rw [hl])]
      exact x_find1 hf hs hS hnf hnf2 hcap hns hw hmb hmb2 hx hl (fun h => by unfold tfd at hQ; rwa [if_pos h] at hQ) next _ 0 rfl (by omega) (fun j hj => by omega)
    · rw [if_neg (fun h => hl (nI_inj (by omega) (by omega) h))]
      have hne : ¬ x = w := fun h => hl (by rw [h])
      refine sX2_find_29 M a _ _ (nI k) 0 0 ?_
      rw [if_pos rfl, if_pos rfl, nI_l1]
      exact next hne
theorem x_find {a f s nf ns b mb : Nat} {w : List Int32} {L : List (List Int32)} (hf : gr M a 1 = some (f, 100, nf)) (hs : gr M a 0 = some (s, 101, ns)) (hS : xS M a f s L) (hnf : L.length < nf) (hnf2 : nf < 2 ^ 31) (hcap : L.flatten.length ≤ ns) (hns : ns < 2 ^ 31) (hw : ∀ k, k < w.length → gi M b k = w.getD k 0) (hmb : w.length ≤ mb) (hmb2 : mb < 2 ^ 31) (hQ : Q (.inl (some (vi (tfd 0 L w)))) M) :
    Z E YX2_find (d + 1) M [(0, vr (some (a, 2, 0))), (1, vr (some (b, 101, mb))), (2, vi (nI w.length))] 0 [] Q :=
  sX2_find_0 M a _ _ (x_find2 hf hs hS hnf hnf2 hcap hns hw hmb hmb2 L 0 rfl (Nat.zero_le _) hQ)
end
/-- the words of a text, each ended by a blank: those that are whole, and the rest -/
def xwords : List Int32 → List Int32 → List (List Int32) → List (List Int32) × List Int32
  | [], r, L => (L, r)
  | c :: cs, r, L => if c = 32 then xwords cs [] (L ++ [r]) else xwords cs (r ++ [c]) L
theorem xwords_len : ∀ (cs r : List Int32) (L : List (List Int32)), L.length ≤ (xwords cs r L).1.length ∧ L.flatten.length + r.length ≤ (xwords cs r L).1.flatten.length + (xwords cs r L).2.length
  | [], r, L => ⟨Nat.le_refl _, Nat.le_refl _⟩
  | c :: cs, r, L => by
    unfold xwords
    split
    · obtain ⟨h1, h2⟩ := xwords_len cs [] (L ++ [r])
      simp only [List.flatten_append, List.flatten_cons, List.flatten_nil, List.append_nil, List.length_append, List.length_cons, List.length_nil, Nat.add_zero] at h1 h2
      exact ⟨by omega, by omega⟩
    · obtain ⟨h1, h2⟩ := xwords_len cs (r ++ [c]) L
      simp only [List.length_append, List.length_cons, List.length_nil] at h2
      exact ⟨h1, by omega⟩
theorem xb_str : ∀ j, j < 5 → ∀ c ∈ zsbyt.getD j [], vp_nar .byte c.toInt8.toInt32 = c := by decide +kernel
theorem cwl_16 : ∀ q ∈ cwl, (q.1 = 16 ∧ q.2.1 ≠ 3 ∧ q.2.1 ≠ 1) ∨ q.1 = 29 := by decide +kernel
/-- what writing of texts changes -/
def xP (a f s : Nat) (x k : Nat) : Prop := x = s ∨ x = f ∨ x = a ∧ k = 2 ∨ x = 20 ∨ x = 16 ∧ (k = 3 ∨ k = 1)
theorem xP_cw {a f s : Nat} (h : a ≠ 16 ∧ a ≠ 29 ∧ f ≠ 16 ∧ f ≠ 29 ∧ s ≠ 16 ∧ s ≠ 29) : ∀ q ∈ cwl, ¬ xP a f s q.1 q.2.1 := fun q hq => by
  unfold xP
  rcases cwl_16 q hq with g | g <;> omega
section
variable {E : zE} {d : Nat} {Q : zO → zM → Prop}
/-- where the three tables of texts lie: far from what else is written -/
def xg (a f s : Nat) : Prop := (16 ≤ a ∧ 16 ≤ f ∧ 16 ≤ s) ∧ (s ≠ a ∧ s ≠ f ∧ s ≠ 20 ∧ a ≠ f) ∧ (a ≠ 16 ∧ a ≠ 29 ∧ f ≠ 16 ∧ f ≠ 29 ∧ s ≠ 16 ∧ s ≠ 29) ∧ a ≠ 20 ∧ f ≠ 20
theorem x_fill1 {a f s nf ns j : Nat} (hj : j < 5) (hg : xg a f s) (hnf2 : nf < 2 ^ 31) (hns : ns < 2 ^ 31) :
    ∀ (cs : List Int32) (i : Nat) (M : zM) (L : List (List Int32)) (r : List Int32), (zsbyt.getD j []).drop i = cs → i ≤ (zsbyt.getD j []).length → cw M → gr M a 1 = some (f, 100, nf) → gr M a 0 = some (s, 101, ns) → xR M r → (∀ c ∈ r, xb c) → xS M a f s L → (xwords cs r L).1.length < nf → (xwords cs r L).1.flatten.length + (xwords cs r L).2.length ≤ ns → (xwords cs r L).1.flatten.length + (xwords cs r L).2.length ≤ L.flatten.length + 200 →
      (∀ M', xR M' (xwords cs r L).2 → xS M' a f s (xwords cs r L).1 → fr (xP a f s) M M' → Q (.inl none) M') →
      Z E YX1_fill (d + 4) M [(0, zX16), (1, vr (some (a, 2, 0))), (2, vr (some (j + 4, 111, j))), (3, vi (nI i))] 6 [] Q
  | [], i, M, L, r, hd, hi, hw, hf, hs, hR, hrb, hS, h1, h2, h3, hQ => by
    obtain ⟨z1, z2, z3⟩ := zslen_ok j hj
    have hl : (zsbyt.getD j []).length ≤ i := List.drop_eq_nil_iff.mp hd
    refine sX1_fill_6 M j _ (nI i) hw ⟨hj, by omega, ?_⟩
    rw [if_pos (show Int32.ofNat (zslen.getD j 0) ≤ nI i from nI_le (by omega) (by omega))]
    exact hQ M hR hS fr.rf
  | c :: cs, i, M, L, r, hd, hi, hw, hf, hs, hR, hrb, hS, h1, h2, h3, hQ => by
    obtain ⟨z1, z2, z3⟩ := zslen_ok j hj
    have hil : i < (zsbyt.getD j []).length := by
      by_cases h : i < (zsbyt.getD j []).length
      · exact h
      · rw [List.drop_eq_nil_of_le (by omega)] at hd; cases hd
    have hc : (zsbyt.getD j [])[i] = c := by
      rw [List.drop_eq_getElem_cons hil] at hd
      exact (List.cons.inj hd).1
    have hd' : (zsbyt.getD j []).drop (i + 1) = cs := by
      rw [List.drop_eq_getElem_cons hil] at hd
      exact (List.cons.inj hd).2
    have hch : zsch j i = c := by unfold zsch; rw [getD_lt hil, hc]
    have hcb : xb c := xb_str j hj c (by rw [← hc]; exact List.getElem_mem hil)
    refine sX1_fill_6 M j _ (nI i) hw ⟨hj, by omega, ?_⟩
    rw [if_neg (show ¬ Int32.ofNat (zslen.getD j 0) ≤ nI i from nI_ge (by omega) (by omega)), nI_clamp (by omega), hch]
    refine ⟨hj, by omega, nI_in (by omega) (by omega), ?_⟩
    obtain ⟨l1, l2⟩ := xwords_len (c :: cs) r L
    by_cases h32 : c = 32
    · rw [if_pos h32]
      have ew : xwords (c :: cs) r L = xwords cs [] (L ++ [r]) := by unfold xwords; rw [if_pos h32]; cases cs <;> rfl
      rw [ew] at h1 h2 h3 hQ l1 l2
      obtain ⟨m1, m2⟩ := xwords_len cs [] (L ++ [r])
      simp only [List.flatten_append, List.flatten_cons, List.flatten_nil, List.append_nil, List.length_append, List.length_cons, List.length_nil, Nat.add_zero] at m1 m2
      refine ⟨a, rfl, ?_⟩
      rw [hR.1]
      refine x_add hf hs hS (by omega) hnf2 (by omega) hns (fun k hk => ⟨hR.2.2 k hk, hrb _ (by rw [getD_lt hk]; exact List.getElem_mem hk)⟩) hR.2.1 (by decide) ⟨hg.2.1.1, hg.2.1.2.1, hg.2.1.2.2.1, hg.2.1.2.2.2⟩ ⟨hg.1.2.2, hg.1.2.1, hg.1.1⟩ (fun M1 f1 hS1 => ?_)
      have f1' : fr (xP a f s) M M1 := f1.mono (fun x k h => by unfold xP; omega)
      have hw1 : cw M1 := f1'.cw (xP_cw hg.2.2.1) hw
      show Z E YX1_fill (d + 4) M1 [(0, zX16), (1, vr (some (a, 2, 0))), (2, vr (some (j + 4, 111, j))), (3, vi (nI i))] 36 [vi (nI L.length)] Q
      refine sX1_fill_36 M1 j a (nI i) (nI L.length) hw1 (sX1_clearRow_0 M1 hw1 ?_)
      show Z E YX1_fill (d + 4) (si M1 16 3 0) [(0, zX16), (1, vr (some (a, 2, 0))), (2, vr (some (j + 4, 111, j))), (3, vi (nI i))] 41 [] Q
      have hw2 : cw (si M1 16 3 0) := cw.si hw1
      refine sX1_fill_41 _ j a (nI i) hw2 (sX1_fill_53 _ j _ (nI i) hw2 ?_)
      rw [nI_l1]
      have f2 : fr (xP a f s) M (si M1 16 3 0) := f1'.tr (fr.si (by unfold xP; omega))
      refine x_fill1 hj hg hnf2 hns cs (i + 1) _ (L ++ [r]) [] hd' (by omega) hw2 ?_ ?_ ⟨gi_self _ _ _ _, by decide, fun k hk => absurd hk (Nat.not_lt_zero k)⟩ (fun c hc => by cases hc) ⟨?_, fun k hk => ?_, fun k hk => ?_⟩ h1 h2 ?_ (fun M' g1 g2 g3 => hQ M' g1 g2 (f2.tr g3))
      · exact ((f2.2 a 1 (by unfold xP; have := hg; unfold xg at this; omega)).2.2).trans hf
      · exact ((f2.2 a 0 (by unfold xP; have := hg; unfold xg at this; omega)).2.2).trans hs
      · rw [gi_oth hg.2.2.1.1]; exact hS1.1
      · rw [gi_oth hg.2.2.1.2.2.1]; exact hS1.2.1 k hk
      · rw [gi_oth hg.2.2.1.2.2.2.2.1]; exact hS1.2.2 k hk
      · simp only [List.flatten_append, List.flatten_cons, List.flatten_nil, List.append_nil, List.length_append]
        omega
    · rw [if_neg h32]
      have ew : xwords (c :: cs) r L = xwords cs (r ++ [c]) L := by unfold xwords; rw [if_neg h32]; cases cs <;> rfl
      rw [ew] at h1 h2 h3 hQ l1 l2
      obtain ⟨m1, m2⟩ := xwords_len cs (r ++ [c]) L
      simp only [List.length_append, List.length_cons, List.length_nil] at m2
      refine ⟨hj, by omega, nI_in (by omega) (by omega), ?_⟩
      refine x_write hw hR (by omega) hcb (fun M1 hR1 f1 => ?_)
      have f1' : fr (xP a f s) M M1 := f1.mono (fun x k h => by unfold xP; omega)
      have hw1 : cw M1 := f1'.cw (xP_cw hg.2.2.1) hw
      show Z E YX1_fill (d + 4) M1 [(0, zX16), (1, vr (some (a, 2, 0))), (2, vr (some (j + 4, 111, j))), (3, vi (nI i))] 53 [] Q
      refine sX1_fill_53 _ j _ (nI i) hw1 ?_
      rw [nI_l1]
      have e : ∀ x k, x = a ∨ x = f ∨ x = s → gi M1 x k = gi M x k ∧ gl M1 x k = gl M x k ∧ gr M1 x k = gr M x k := fun x k h => f1.2 x k (by have := hg; unfold xg at this; omega)
      refine x_fill1 hj hg hnf2 hns cs (i + 1) M1 L (r ++ [c]) hd' (by omega) hw1 ((e a 1 (Or.inl rfl)).2.2.trans hf) ((e a 0 (Or.inl rfl)).2.2.trans hs) hR1 (fun x hx => ?_) ⟨(e a 2 (Or.inl rfl)).1.trans hS.1, fun k hk => (e f k (Or.inr (Or.inl rfl))).1.trans (hS.2.1 k hk), fun k hk => (e s k (Or.inr (Or.inr rfl))).1.trans (hS.2.2 k hk)⟩ h1 h2 h3 (fun M' g1 g2 g3 => hQ M' g1 g2 (f1'.tr g3))
      rcases List.mem_append.mp hx with h | h
      · exact hrb x h
      · rw [List.mem_singleton.mp h]; exact hcb
/-- fill: the words of a String constant -/
theorem x_fill {a f s nf ns j : Nat} {M : zM} {L : List (List Int32)} (hj : j < 5) (hg : xg a f s) (hnf2 : nf < 2 ^ 31) (hns : ns < 2 ^ 31) (hw : cw M) (hf : gr M a 1 = some (f, 100, nf)) (hs : gr M a 0 = some (s, 101, ns)) (hS : xS M a f s L) (h1 : (xwords (zsbyt.getD j []) [] L).1.length < nf) (h2 : (xwords (zsbyt.getD j []) [] L).1.flatten.length + (xwords (zsbyt.getD j []) [] L).2.length ≤ ns) (h3 : (xwords (zsbyt.getD j []) [] L).1.flatten.length + (xwords (zsbyt.getD j []) [] L).2.length ≤ L.flatten.length + 200)
    (hQ : ∀ M', xR M' (xwords (zsbyt.getD j []) [] L).2 → xS M' a f s (xwords (zsbyt.getD j []) [] L).1 → fr (xP a f s) M M' → Q (.inl none) M') :
    Z E YX1_fill (d + 4) M [(0, zX16), (1, vr (some (a, 2, 0))), (2, vr (some (j + 4, 111, j)))] 0 [] Q := by
  refine sX1_fill_0 M j _ hw (sX1_clearRow_0 M hw ?_)
  show Z E YX1_fill (d + 4) (si M 16 3 0) [(0, zX16), (1, vr (some (a, 2, 0))), (2, vr (some (j + 4, 111, j)))] 4 [] Q
  have hw2 : cw (si M 16 3 0) := cw.si hw
  refine sX1_fill_4 _ j _ hw2 ?_
  refine x_fill1 hj hg hnf2 hns (zsbyt.getD j []) 0 _ L [] rfl (Nat.zero_le _) hw2 hf hs ⟨gi_self _ _ _ _, by decide, fun k hk => absurd hk (Nat.not_lt_zero k)⟩ (fun c hc => by cases hc) ⟨?_, fun k hk => ?_, fun k hk => ?_⟩ h1 h2 h3 (fun M' g1 g2 g3 => hQ M' g1 g2 (fr.tr (fr.si (by unfold xP; omega)) g3))
  · rw [gi_oth hg.2.2.1.1]; exact hS.1
  · rw [gi_oth hg.2.2.1.2.2.1]; exact hS.2.1 k hk
  · rw [gi_oth hg.2.2.1.2.2.2.2.1]; exact hS.2.2 k hk
end
