/-! THE COMPONENT's PARSER: more of tokens -/
theorem tfd_ix {w : List Int32} : ∀ (L : List (List Int32)) (s : Nat), w ∈ L → tfd s L w = nI (s + nIx L w)
  | [], _, h => by cases h
  | x :: r, s, h => by
    unfold tfd nIx
    by_cases hx : x = w
    · rw [if_pos hx, if_pos hx, Nat.add_zero]
    · rw [if_neg hx, if_neg hx, tfd_ix r (s + 1) (by rcases List.mem_cons.mp h with z | z; exact absurd z.symm hx; exact z)]
      rw [show s + 1 + nIx r w = s + (nIx r w + 1) by omega]
section
variable {E : zE} {d : Nat} {Q : zO → zM → Prop} {n : Nat} {c : Nat → Int32} {a : Nat} {M : zM} {s : pS} {dg : Int32 → List Int32}
/-- takes: whether it is, and on -/
theorem y_takes {j : Nat} (hj : j < 48) (h : xTz M a n c s) (hf : isS (zOf n c dg) (nI j) s = false → Q (.inl (some (vi 0))) M) (hy : isS (zOf n c dg) (nI j) s = true → ∀ s', nxt' (zOf n c dg) s = .ok ((), s') → ∀ M', fr (tkP a) M M' → xTz M' a n c s' → Q (.inl (some (vi 1))) M') (hn : isS (zOf n c dg) (nI j) s = true → ∀ w, nxt' (zOf n c dg) s = .error w → ∀ o M', ftO a M w o M' → Q o M') : Z E YX10_takes (d + 10) M [(0, vr (some (a, 9, 0))), (1, vi (sgX (nI j)))] 0 [] Q := by
  have hb := y_isS hj dg h
  refine iX10_takes_0 M a _ ?_
  cases hs : isS (zOf n c dg) (nI j) s with
  | true =>
    obtain ⟨z1, z2⟩ := hb.mpr hs
    rw [if_pos z1, if_pos z2]
    have k5 : (tkn n c s.1).1 = 5 := by obtain ⟨⟨lp, hk, -⟩, -⟩ := h; rw [← hk.2.1]; exact z1
    refine y_nxt (dg := dg) h ⟨by rw [k5]; decide, by rw [k5]; decide⟩ (by rw [k5]; decide) (fun s' e M' f x => ?_) (fun w e o M' f => ?_)
    · show Z E YX10_takes (d + 9 + 1) M' [] 14 [] _
      exact sX10_takes_14 M' (hy hs s' e M' f x)
    · obtain ⟨q, rfl, -⟩ := id f.1
      show ZT E YX10_takes (d + 9 + 1) M' [] 11 (q, 12, 0) _
      exact ZT.out (nohand rfl) (hn hs w e _ M' f)
  | false =>
    have z0 : ¬ (gi M a 3 = 5 ∧ gi M a 6 = sgX (nI j)) := fun z => by rw [hb.mp z] at hs; cases hs
    by_cases z1 : gi M a 3 = 5
    · rw [if_pos z1, if_neg (fun z2 => z0 ⟨z1, z2⟩)]; exact hf hs
    · rw [if_neg z1]; exact hf hs
theorem y_takesW {j : Int32} (h : xTz M a n c s) (hf : isK (zOf n c dg) j s = false → Q (.inl (some (vi 0))) M) (hy : isK (zOf n c dg) j s = true → ∀ s', nxt' (zOf n c dg) s = .ok ((), s') → ∀ M', fr (tkP a) M M' → xTz M' a n c s' → Q (.inl (some (vi 1))) M') (hn : isK (zOf n c dg) j s = true → ∀ w, nxt' (zOf n c dg) s = .error w → ∀ o M', ftO a M w o M' → Q o M') : Z E YX10_takesWord (d + 10) M [(0, vr (some (a, 9, 0))), (1, vi j)] 0 [] Q := by
  have hb := y_isK j dg h
  refine iX10_takesWord_0 M a _ ?_
  cases hs : isK (zOf n c dg) j s with
  | true =>
    obtain ⟨z1, z2⟩ := hb.mpr hs
    rw [if_pos z1, if_pos z2]
    have k5 : (tkn n c s.1).1 = 2 := by obtain ⟨⟨lp, hk, -⟩, -⟩ := h; rw [← hk.2.1]; exact z1
    refine y_nxt (dg := dg) h ⟨by rw [k5]; decide, by rw [k5]; decide⟩ (by rw [k5]; decide) (fun s' e M' f x => ?_) (fun w e o M' f => ?_)
    · show Z E YX10_takesWord (d + 9 + 1) M' [] 14 [] _
      exact sX10_takesWord_14 M' (hy hs s' e M' f x)
    · obtain ⟨q, rfl, -⟩ := id f.1
      show ZT E YX10_takesWord (d + 9 + 1) M' [] 11 (q, 12, 0) _
      exact ZT.out (nohand rfl) (hn hs w e _ M' f)
  | false =>
    have z0 : ¬ (gi M a 3 = 2 ∧ gi M a 6 = j) := fun z => by rw [hb.mp z] at hs; cases hs
    by_cases z1 : gi M a 3 = 2
    · rw [if_pos z1, if_neg (fun z2 => z0 ⟨z1, z2⟩)]; exact hf hs
    · rw [if_neg z1]; exact hf hs
/-- needWord -/
theorem y_needW {j : Int32} (h : xTz M a n c s) (hy : ∀ s', nedK (zOf n c dg) j s = .ok ((), s') → ∀ M', fr (tkP a) M M' → xTz M' a n c s' → Q (.inl none) M') (hn : ∀ w, nedK (zOf n c dg) j s = .error w → ∀ o M', ftO a M w o M' → Q o M') : Z E YX10_needWord (d + 11) M [(0, vr (some (a, 9, 0))), (1, vi j)] 0 [] Q := by
  unfold nedK at hy hn
  refine sX10_needWord_0 M a _ ?_
  refine y_takesW (dg := dg) h (fun hs => ?_) (fun hs s' e M' f x => ?_) (fun hs w e o M' f => ?_)
  · rw [if_neg (by rw [hs]; decide)] at hy hn
    show Z E YX10_needWord (d + 10 + 1) M [(0, vr (some (a, 9, 0)))] 5 [vi 0] Q
    refine sX10_needWord_5 M a _ ?_
    rw [if_pos rfl]
    obtain ⟨⟨lp, hk, -⟩, -, -, -, -, -, -, hz⟩ := id h
    refine x_fault (d := d + 4) (k := 2) (by omega) hk.1.2.2.1.2.1 hk.2.2.1 (fun M' f g1 g2 g3 => ?_)
    show Z E YX10_needWord (d + 10 + 1) M' [] 13 [vr (some (zsz M, 12, 0))] Q
    refine sX10_needWord_13 M' _ ⟨zsz M, rfl, ?_⟩
    exact hn (2, (tkn n c s.1).2.2.2.2) rfl _ M' ⟨⟨zsz M, rfl, g1, ⟨Nat.le_refl _, by omega⟩, f.mono fun _ _ _ z => z.elim⟩, g2, g3⟩
  · rw [if_pos hs] at hy
    show Z E YX10_needWord (d + 10 + 1) M' [(0, vr (some (a, 9, 0)))] 5 [vi 1] Q
    refine sX10_needWord_5 M' a _ ?_
    rw [if_neg (by decide)]
    exact hy s' e M' f x
  · rw [if_pos hs] at hn
    obtain ⟨q, rfl, -⟩ := id f.1
    show ZT E YX10_needWord (d + 10 + 1) M' [(0, vr (some (a, 9, 0)))] 2 (q, 12, 0) Q
    exact ZT.out (nohand rfl) (hn w e _ M' f)
/-- a name is taken: its number -/
theorem y_tak (h : xTz M a n c s) (h1 : (tkn n c s.1).1 = 1 ∨ (tkn n c s.1).1 = 4) : gi M a 6 = nI (nam (tkX n c (tkn n c s.1)) s).1 ∧ (∀ s', nxt' (zOf n c dg) (nam (tkX n c (tkn n c s.1)) s).2 = .ok ((), s') → takN (zOf n c dg) s = .ok ((nam (tkX n c (tkn n c s.1)) s).1, s')) ∧ (∀ w, nxt' (zOf n c dg) (nam (tkX n c (tkn n c s.1)) s).2 = .error w → takN (zOf n c dg) s = .error w) ∧ (if (tkn n c (s.1 + 1)).1 = 6 then (.error (1, (tkn n c (s.1 + 1)).2.2.2.2) : pR Unit) else .ok ((), (s.1 + 1, tkL n c s.2.1 (tkn n c s.1), s.2.2))) = nxt' (zOf n c dg) (nam (tkX n c (tkn n c s.1)) s).2 := by
  obtain ⟨⟨lp, hk, -⟩, -⟩ := h
  obtain ⟨e1, e2⟩ := hk.2.2.2.2.2.2.2 h1
  have eL : tkL n c s.2.1 (tkn n c s.1) = nmA s.2.1 (tkX n c (tkn n c s.1)) := if_pos h1
  refine ⟨?_, fun s' z => ?_, fun w z => ?_, ?_⟩
  · rw [e1, tfd_ix _ 0 e2, Nat.zero_add, eL]; rfl
  · show bnd (nxt' (zOf n c dg) (nam (tkX n c (tkn n c s.1)) s).2) _ = _
    rw [z]; rfl
  · show bnd (nxt' (zOf n c dg) (nam (tkX n c (tkn n c s.1)) s).2) _ = _
    rw [z]; rfl
  · rw [eL]; rfl
theorem y_nxN (h : xTz M a n c s) (h1 : (tkn n c s.1).1 = 1 ∨ (tkn n c s.1).1 = 4) (hy : ∀ s', takN (zOf n c dg) s = .ok ((nam (tkX n c (tkn n c s.1)) s).1, s') → ∀ M', fr (tkP a) M M' → xTz M' a n c s' → Q (.inl none) M') (hn : ∀ w, takN (zOf n c dg) s = .error w → ∀ o M', ftO a M w o M' → Q o M') : Z E YX10_next (d + 9) M [(0, vr (some (a, 9, 0)))] 0 [] Q := by
  obtain ⟨-, t2, t3, t4⟩ := y_tak (dg := dg) h h1
  refine y_nx h ⟨fun z => by rw [z] at h1; revert h1; decide, h.2.2.2.1⟩ (fun z M' f x => hy _ (t2 _ ?_) M' f x) (fun z o M' f g => hn (1, (tkn n c (s.1 + 1)).2.2.2.2) (t3 _ ?_) o M' ⟨f, g⟩)
  · rw [← t4, if_neg z]
  · rw [← t4, if_pos z]
/-- needName -/
theorem y_needN (h : xTz M a n c s) (hy : ∀ x s', nedN (zOf n c dg) s = .ok (x, s') → x = (nam (tkX n c (tkn n c s.1)) s).1 → ∀ M', fr (tkP a) M M' → xTz M' a n c s' → Q (.inl (some (vi (nI x)))) M') (hn : ∀ w, nedN (zOf n c dg) s = .error w → ∀ o M', ftO a M w o M' → Q o M') : Z E YX10_needName (d + 10) M [(0, vr (some (a, 9, 0)))] 0 [] Q := by
  unfold nedN at hy hn
  refine sX10_needName_0 M a ?_
  obtain ⟨⟨lp, hk, -⟩, -, -, -, -, -, -, hz⟩ := id h
  by_cases h1 : (tkn n c s.1).1 = 1
  · rw [if_pos (show tkd (zOf n c dg) s.1 = 1 from h1)] at hy hn
    rw [if_pos (hk.2.1.trans h1), (y_tak (dg := dg) h (.inl h1)).1]
    refine y_nxN (dg := dg) h (.inl h1) (fun s' e M' f x => ?_) (fun w e o M' f => ?_)
    · show Z E YX10_needName (d + 9 + 1) M' [(1, vi (nI (nam (tkX n c (tkn n c s.1)) s).1))] 23 [] Q
      exact sX10_needName_23 M' _ (hy _ s' e rfl M' f x)
    · obtain ⟨q, rfl, -⟩ := id f.1
      show ZT E YX10_needName (d + 9 + 1) M' _ 20 (q, 12, 0) Q
      exact ZT.out (nohand rfl) (hn w e _ M' f)
  · rw [if_neg (show ¬ tkd (zOf n c dg) s.1 = 1 from h1)] at hy hn
    rw [if_neg (fun z => h1 (hk.2.1.symm.trans z))]
    refine x_fault (d := d + 3) (k := 2) (by omega) hk.1.2.2.1.2.1 hk.2.2.1 (fun M' f g1 g2 g3 => ?_)
    show Z E YX10_needName (d + 9 + 1) M' [] 13 [vr (some (zsz M, 12, 0))] Q
    refine sX10_needName_13 M' _ ⟨zsz M, rfl, ?_⟩
    exact hn (2, (tkn n c s.1).2.2.2.2) rfl _ M' ⟨⟨zsz M, rfl, g1, ⟨Nat.le_refl _, by omega⟩, f.mono fun _ _ _ z => z.elim⟩, g2, g3⟩
/-- onLaterLine -/
theorem y_later (h : xTz M a n c s) (h1 : 1 ≤ s.1) (hl : (tkn n c s.1).2.2.2.2 < 100000) (hQ : Q (.inl (some (vi (if tln (zOf n c dg) s.1 == tln (zOf n c dg) (s.1 - 1) then 0 else 1)))) M) (hmono : (tkn n c (s.1 - 1)).2.2.2.2 ≤ (tkn n c s.1).2.2.2.2) : Z E YX10_onLaterLine d M [(0, vr (some (a, 9, 0)))] 0 [] Q := by
  obtain ⟨⟨lp, hk, hlp⟩, -⟩ := h
  refine sX10_onLaterLine_0 M a ?_
  rw [hk.2.2.1, hk.2.2.2.1, hlp h1]
  by_cases z : (tkn n c s.1).2.2.2.2 = (tkn n c (s.1 - 1)).2.2.2.2
  · rw [if_pos (show nI (tkn n c s.1).2.2.2.2 ≤ nI (tkn n c (s.1 - 1)).2.2.2.2 from nI_le (by omega) (by omega))]
    rw [if_pos (show (tln (zOf n c dg) s.1 == tln (zOf n c dg) (s.1 - 1)) = true from beq_iff_eq.mpr z)] at hQ
    exact hQ
  · rw [if_neg (show ¬ nI (tkn n c s.1).2.2.2.2 ≤ nI (tkn n c (s.1 - 1)).2.2.2.2 from nI_ge (by omega) (by omega))]
    rw [if_neg (show ¬ (tln (zOf n c dg) s.1 == tln (zOf n c dg) (s.1 - 1)) = true from fun y => z (beq_iff_eq.mp y))] at hQ
    exact hQ
end
