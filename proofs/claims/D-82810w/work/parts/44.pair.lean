/-! PAIRS: the component's run, and inside what it owes the twin's run -/
abbrev T97 : zV := vr (some (97, 1, 0))
section
variable {E : zE} {Yx Ym Y : zY} {dx dm d : Nat} {M T : zM} {lvx lvm lv avx avm : List (Nat × zV)} {pcx pcm pc len lem : Nat} {stx stm st : List zV}
theorem ZT.mono {q : zP} {Q Q' : zO → zM → Prop} (k : ZT E Y d M lv pc q Q) (h : ∀ o M', Q o M' → Q' o M') : ZT E Y d M lv pc q Q' := by
  obtain ⟨o, M', h1, h2, h3, h4⟩ := k
  exact ⟨o, M', h1, h2, h _ _ h3, h4⟩
theorem zafter.mono {Q Q' : zO → zM → Prop} {o : zO} {B : zM} (k : zafter E Y d lv pc len st Q o B) (h : ∀ o M', Q o M' → Q' o M') : zafter E Y d lv pc len st Q' o B := by
  cases o with
  | inl v => exact Z.mono k h
  | inr q => exact ZT.mono k h
/-- a call of both: a contract of the pair, then what stands behind on both sides -/
theorem zz_call {Yx' Ym' : zY} {dx' dm' : Nat} {R : zO → zM → zO → zM → Prop} {Q : zO → zM → zO → zM → Prop}
    (c : Z E Yx' dx' M avx 0 [] (fun ox B => Zm E Ym' dm' T avm 0 [] (fun om T' => R ox B om T')))
    (k : ∀ ox B om T', R ox B om T' → zafter E Yx dx lvx pcx len stx (fun ox2 B2 => zma E Ym dm lvm pcm lem stm (Q ox2 B2) om T') ox B) :
    Z E Yx' dx' M avx 0 [] (zafter E Yx dx lvx pcx len stx (fun ox2 B2 => Zm E Ym' dm' T avm 0 [] (zma E Ym dm lvm pcm lem stm (Q ox2 B2)))) := by
  obtain ⟨ox, B, h1, h2, ⟨om, T', g1, g2, g3, g4⟩, h4⟩ := c
  exact ⟨ox, B, h1, h2, (k ox B om T' g3).mono fun o2 B2 z => ⟨om, T', g1, g2, z, g4⟩, h4⟩
/-- a step of the twin inside -/
theorem Z.tw {Qm Qm' : zO → zM → zO → zM → Prop} {Ym' : zY} {dm' : Nat} {T1 : zM} {lv1 : List (Nat × zV)} {pc1 : Nat} {st1 : List zV} (h : ∀ Q' : zO → zM → Prop, Zm E Ym' dm' T1 lv1 pc1 st1 Q' → Zm E Ym dm T lvm pcm stm Q')
    (k : Z E Yx dx M lvx pcx stx (fun ox B => Zm E Ym' dm' T1 lv1 pc1 st1 (Qm ox B))) : Z E Yx dx M lvx pcx stx (fun ox B => Zm E Ym dm T lvm pcm stm (Qm ox B)) :=
  k.mono fun _ _ z => h _ z
end
/-! signs of seven bits -/
def c7 (x : Int32) : Prop := ∃ n, n < 128 ∧ x = nI n
theorem c7_b {x : Int32} (h : c7 x) : xb x := by
  obtain ⟨n, hn, rfl⟩ := h
  have : ∀ n, n < 128 → vp_nar .byte (nI n).toInt8.toInt32 = nI n := by decide +kernel
  exact this n hn
theorem c7_c {x : Int32} (h : c7 x) : vp_nar .char x = x := by
  obtain ⟨n, hn, rfl⟩ := h
  have : ∀ n, n < 128 → vp_nar .char (nI n) = nI n := by decide +kernel
  exact this n hn
theorem c7_p {x : Int32} (h : c7 x) : vp_nar .char ((x).toUInt32 % 65536).toInt32 = x := by
  obtain ⟨n, hn, rfl⟩ := h
  have : ∀ n, n < 128 → vp_nar .char ((nI n).toUInt32 % 65536).toInt32 = nI n := by decide +kernel
  exact this n hn
theorem c7_u {x : Int32} (h : c7 x) : ((x).toUInt32 % 65536).toInt32 = x := by
  obtain ⟨n, hn, rfl⟩ := h
  have : ∀ n, n < 128 → ((nI n).toUInt32 % 65536).toInt32 = nI n := by decide +kernel
  exact this n hn
theorem nI_60 (s k : Nat) : (60 : Int32) * nI s + nI k = nI (60 * s + k) := by
  rw [show (60 : Int32) = nI 60 from rfl, show nI 60 * nI s = nI (60 * s) from (Int32.ofNat_mul 60 s).symm, nI_add]
/-! CONTRACTS of the twin: texts -/
/-- the twin's strings are L -/
def tS (M : zM) (L : List (List Int32)) : Prop := gi M 97 7 = nI L.length ∧ L.length ≤ 400 ∧ ∀ (s : Nat) (x : List Int32), L[s]? = some x → gi M 101 s = nI x.length ∧ x.length ≤ 60 ∧ ∀ k, k < x.length → gi M 100 (60 * s + k) = x.getD k 0
/-- the text at hand is w -/
def tT (M : zM) (w : List Int32) : Prop := gi M 97 11 = nI w.length ∧ w.length ≤ 200 ∧ ∀ k, k < w.length → gi M 102 k = w.getD k 0
section
variable {E : zE} {d : Nat} {M : zM} {Q : zO → zM → Prop}
theorem t_find1 {L : List (List Int32)} {w x : List Int32} {s : Nat} (hS : tS M L) (hT : tT M w) (hx : L[s]? = some x) (hlen : x.length = w.length)
    (hyes : x = w → Q (.inl (some (vi (nI s)))) M) (hno : ¬ x = w → Zm E YX8_findText d M [(0, T97), (1, vi (nI (s + 1)))] 2 [] Q) :
    ∀ (n k : Nat), w.length - k = n → k ≤ w.length → (∀ j, j < k → x.getD j 0 = w.getD j 0) → Zm E YX8_findText d M [(0, T97), (1, vi (nI s)), (2, vi 1), (3, vi (nI k))] 31 [] Q := by
  obtain ⟨t1, t2, t3⟩ := hT
  obtain ⟨s1, s2, s3⟩ := hS
  obtain ⟨x1, x2, x3⟩ := s3 s x hx
  have hsl : s < L.length := (List.getElem?_eq_some_iff.mp hx).1
  intro n
  induction n with
  | zero =>
    intro k hn hk hpre
    have hkw : k = w.length := by omega
    refine sX8_findText_31 M (nI s) 1 (nI k) ?_
    rw [t1, if_pos (nI_le (by omega) (by omega)), if_neg (by decide)]
    refine hyes (List.ext_getElem hlen fun j h1 h2 => ?_)
    have := hpre j (by omega)
    rwa [getD_lt h1, getD_lt h2] at this
  | succ n ih =>
    intro k hn hk hpre
    have hkl : k < w.length := by omega
    refine sX8_findText_31 M (nI s) 1 (nI k) ?_
    rw [t1, if_neg (nI_ge hkl (by omega)), if_neg (by decide), nI_60, nI_clamp (by omega), nI_clamp (by omega), x3 k (by omega), t3 k hkl]
    refine ⟨nI_in (by omega) (by omega), nI_in (by omega) (by omega), ?_⟩
    rw [nI_l1]
    by_cases he : x.getD k 0 = w.getD k 0
    · rw [if_pos he]
      refine ih (k + 1) (by omega) (by omega) fun j hj => ?_
      by_cases hjk : j = k
      · rw [hjk]; exact he
      · exact hpre j (by omega)
    · rw [if_neg he]
      have hne : ¬ x = w := fun h => he (by rw [h])
      refine sX8_findText_31 M (nI s) 0 (nI (k + 1)) ?_
      rw [nI_l1]
      by_cases hk1 : gi M 97 11 ≤ nI (k + 1)
      · rw [if_pos hk1, if_pos rfl]; exact hno hne
      · rw [if_neg hk1, if_pos rfl, if_pos rfl]; exact hno hne
theorem t_find2 {L : List (List Int32)} {w : List Int32} (hS : tS M L) (hT : tT M w) :
    ∀ (r : List (List Int32)) (s : Nat), L.drop s = r → s ≤ L.length → Q (.inl (some (vi (tfd s r w)))) M → Zm E YX8_findText d M [(0, T97), (1, vi (nI s))] 2 [] Q
  | [], s, hr, hs, hQ => by
    have hl : L.length ≤ s := List.drop_eq_nil_iff.mp hr
    have := hS.2.1
    refine sX8_findText_2 M (nI s) ?_
    rw [hS.1, if_pos (nI_le hl (by omega))]
    exact hQ
  | x :: r, s, hr, hs, hQ => by
    have hsl : s < L.length := by
      by_cases h : s < L.length
      · exact h
      · rw [List.drop_eq_nil_of_le (by omega)] at hr; cases hr
    have hx : L[s]? = some x := by
      rw [List.drop_eq_getElem_cons hsl] at hr
      rw [List.getElem?_eq_getElem hsl, (List.cons.inj hr).1]
    have hr' : L.drop (s + 1) = r := by
      rw [List.drop_eq_getElem_cons hsl] at hr
      exact (List.cons.inj hr).2
    have h400 := hS.2.1
    obtain ⟨x1, x2, x3⟩ := hS.2.2 s x hx
    have hw200 := hT.2.1
    have next : ¬ x = w → Zm E YX8_findText d M [(0, T97), (1, vi (nI (s + 1)))] 2 [] Q := fun hne =>
      t_find2 hS hT r (s + 1) hr' (by omega) (by unfold tfd at hQ; rwa [if_neg hne] at hQ)
    refine sX8_findText_2 M (nI s) ?_
    rw [hS.1, if_neg (nI_ge hsl (by omega)), nI_clamp (by omega), x1, hT.1]
    refine ⟨nI_in (by omega) (by omega), ?_⟩
    by_cases hl : x.length = w.length
    · rw [if_pos (by rw [hl])]
      exact t_find1 hS hT hx hl (fun h => by unfold tfd at hQ; rwa [if_pos h] at hQ) next _ 0 rfl (by omega) (fun j hj => by omega)
    · rw [if_neg (fun h => hl (nI_inj (by omega) (by omega) h))]
      have hne : ¬ x = w := fun h => hl (by rw [h])
      refine sX8_findText_31 M (nI s) 0 0 ?_
      rw [nI_l1]
      by_cases hk1 : gi M 97 11 ≤ 0
      · rw [if_pos hk1, if_pos rfl]; exact next hne
      · rw [if_neg hk1, if_pos rfl, if_pos rfl]; exact next hne
/-- findText: the number of the text at hand, or -1 -/
theorem t_findText {L : List (List Int32)} {w : List Int32} (hS : tS M L) (hT : tT M w) (hQ : Q (.inl (some (vi (tfd 0 L w)))) M) : Zm E YX8_findText d M [(0, T97)] 0 [] Q :=
  sX8_findText_0 M (t_find2 hS hT L 0 rfl (by omega) hQ)
/-- put: one sign more -/
theorem t_put {w : List Int32} {x : Int32} (hT : tT M w) (hl : w.length < 200) (hx : c7 x) (hQ : ∀ M', tT M' (w ++ [x]) → fr (fun a k => a = 102 ∨ a = 97 ∧ k = 11) M M' → Q (.inl none) M') : Zm E YX8_put d M [(0, T97), (1, vi x)] 0 [] Q := by
  obtain ⟨t1, t2, t3⟩ := hT
  refine sX8_put_0 M x ?_
  rw [t1, nI_clamp (by omega), c7_p hx, nI_l1]
  refine ⟨nI_in hl (by decide), hQ _ ⟨?_, by rw [List.length_append]; exact hl, fun k hk => ?_⟩ ((fr.si (Or.inl rfl)).tr (fr.si (Or.inr ⟨rfl, rfl⟩)))⟩
  · rw [gi_self, List.length_append]; rfl
  · rw [gi_oth (by decide), getD_app]
    rw [List.length_append] at hk
    by_cases h : k = w.length
    · rw [if_neg (by omega), h, gi_self, Nat.sub_self]; rfl
    · have hlt : k < w.length := by simp at hk; omega
      rw [if_pos hlt, gi_idx h, t3 k hlt]
theorem t_add1 {L : List (List Int32)} {w : List Int32} (hT : tT M w) (hw : ∀ c ∈ w, c7 c) (h7 : gi M 97 7 = nI L.length) (hL : L.length < 400) (h60 : w.length ≤ 60)
    (hQ : ∀ M', fr (fun a k => a = 100 ∧ 60 * L.length ≤ k) M M' → (∀ k, k < w.length → gi M' 100 (60 * L.length + k) = w.getD k 0) → Zm E YX8_addText d M' [(0, T97), (1, vi (nI w.length))] 2 [] Q) :
    ∀ (n i : Nat) (M1 : zM), w.length - i = n → i ≤ w.length → fr (fun a k => a = 100 ∧ 60 * L.length ≤ k) M M1 → (∀ k, k < i → gi M1 100 (60 * L.length + k) = w.getD k 0) → Zm E YX8_addText d M1 [(0, T97), (1, vi (nI i))] 2 [] Q := by
  intro n
  induction n with
  | zero =>
    intro i M1 hn hi hf hin
    have : i = w.length := by omega
    subst this
    exact hQ M1 hf hin
  | succ n ih =>
    intro i M1 hn hi hf hin
    have hil : i < w.length := by omega
    have e11 : gi M1 97 11 = nI w.length := ((hf.2 97 11 (by omega)).1).trans hT.1
    have e7 : gi M1 97 7 = nI L.length := ((hf.2 97 7 (by omega)).1).trans h7
    have e2 : gi M1 102 i = w.getD i 0 := ((hf.2 102 i (by omega)).1).trans (hT.2.2 i hil)
    refine sX8_addText_2 M1 (nI i) ?_
    rw [e11, if_neg (nI_ge hil (by omega)), e7, nI_60, nI_clamp (by omega), nI_clamp (by omega), e2, c7_c (hw _ (by rw [getD_lt hil]; exact List.getElem_mem hil)), nI_l1]
    refine ⟨nI_in (by omega) (by omega), nI_in (by omega) (by omega), ih (i + 1) _ (by omega) (by omega) (hf.tr (fr.si ⟨rfl, by omega⟩)) (fun k hk => ?_)⟩
    by_cases hki : k = i
    · rw [hki, gi_self]
    · rw [gi_idx (by omega)]; exact hin k (by omega)
/-- addText: the text at hand is one text more -/
theorem t_addText {L : List (List Int32)} {w : List Int32} (hS : tS M L) (hT : tT M w) (hw : ∀ c ∈ w, c7 c) (hL : L.length < 400) (h60 : w.length ≤ 60)
    (hQ : ∀ M', tS M' (L ++ [w]) → fr (fun a k => a = 100 ∨ a = 101 ∨ a = 97 ∧ k = 7) M M' → Q (.inl (some (vi (nI L.length)))) M') : Zm E YX8_addText d M [(0, T97)] 0 [] Q := by
  refine sX8_addText_0 M ?_
  refine t_add1 hT hw hS.1 hL h60 (fun M1 hf hin => ?_) w.length 0 M rfl (by omega) fr.rf (fun k hk => by omega)
  have e11 : gi M1 97 11 = nI w.length := ((hf.2 97 11 (by omega)).1).trans hT.1
  have e7 : gi M1 97 7 = nI L.length := ((hf.2 97 7 (by omega)).1).trans hS.1
  have es : nI (L.length + 1) - (1 : Int32) = nI L.length := by rw [← nI_l1, Int32.add_sub_cancel]
  refine sX8_addText_2 M1 (nI w.length) ?_
  rw [e11, if_pos (nI_le (Nat.le_refl _) (by omega)), e7, nI_clamp (by omega), nI_l1, es]
  refine ⟨nI_in hL (by omega), hQ _ ⟨?_, by rw [List.length_append]; exact hL, fun s x hx => ?_⟩ (fr.tr (P := fun a k => a = 100 ∨ a = 101 ∨ a = 97 ∧ k = 7) (fr.tr (hf.mono fun a k h => Or.inl h.1) (fr.si (Or.inr (Or.inl rfl)))) (fr.si (Or.inr (Or.inr ⟨rfl, rfl⟩))))⟩
  · rw [gi_self, List.length_append]; rfl
  · rw [gi_oth (by decide)]
    by_cases h : s < L.length
    · rw [List.getElem?_append_left h] at hx
      obtain ⟨x1, x2, x3⟩ := hS.2.2 s x hx
      refine ⟨?_, x2, fun k hk => ?_⟩
      · rw [gi_idx (by omega), (hf.2 101 s (by omega)).1]; exact x1
      · rw [gi_oth (by decide), gi_oth (by decide), (hf.2 100 (60 * s + k) (by omega)).1]; exact x3 k hk
    · rw [List.getElem?_append_right (by omega)] at hx
      have hs : s = L.length := by
        have := (List.getElem?_eq_some_iff.mp hx).1
        simp at this
        omega
      subst hs
      rw [Nat.sub_self] at hx
      cases hx
      refine ⟨gi_self .., h60, fun k hk => ?_⟩
      rw [gi_oth (by decide), gi_oth (by decide)]
      exact hin k hk
end
