/-! THE COMPONENT's LEXER: strings, the next token -/
section
variable {E : zE} {d : Nat} {Q : zO → zM → Prop} {n : Nat} {c : Nat → Int32} {a : Nat}
theorem c7_in {x : Int32} (h1 : 32 ≤ x) (h2 : x ≤ 126) : c7 x := by
  have k1 : (32 : Int32).toInt = 32 := rfl
  have k2 : (126 : Int32).toInt = 126 := rfl
  rw [Int32.le_iff_toInt_le] at h1 h2
  refine ⟨x.toInt.toNat, by omega, Int32.toInt.inj ?_⟩
  rw [nn_toInt (by omega)]
  omega
theorem lxE_c7 {x : Int32} (h : lxE x = true) : c7 x := by
  rcases (lxE_or x).mp h with rfl | rfl | rfl | rfl | rfl
  · exact ⟨110, by decide, rfl⟩
  · exact ⟨116, by decide, rfl⟩
  · exact ⟨92, by decide, rfl⟩
  · exact ⟨39, by decide, rfl⟩
  · exact ⟨34, by decide, rfl⟩
theorem x_sign {M : zM} {p l k : Nat} (h : xLx M a n c p l) (hk : k < n) (hQ : Q (.inl (some (vi (c k)))) M) : Z E YX10_sign d M [(0, vr (some (a, 9, 0))), (1, vi (nI k))] 0 [] Q := by
  obtain ⟨w1, w2, w3, w4, w5⟩ := h
  have := w2.2.1
  refine jX10_sign M a _ ⟨16, w3.2.2, ?_⟩
  rw [w2.1, if_neg (nI_ge hk (by omega))]
  refine ⟨21, 4000, cw_t w1, nI_in (by omega) (by omega), ?_⟩
  rw [xl_at w2 hk]
  exact hQ
theorem x_string {p l : Nat} {M : zM} {L : List (List Int32)} (h : xLx M a n c p l) (hg : xgp M) (hS : xS M 17 18 19 L) (c1 : L.length < 2199) (c2 : L.flatten.length + 60 ≤ 40000) (hp : p < n) (h0 : lxL (c p) = false) (h1 : lxD (c p) = false) (h2 : c p = 34 ∨ c p = 39) (hQ : xPost Q n c a M p (lxO n c p) L) : Z E YX10_string (d + 4) M [(0, vr (some (a, 9, 0))), (1, vi (c p))] 0 [] Q := by
  have hn := h.2.1.2.1
  have ha := h.2.2.1
  have hO : lxO n c p = (if (lxQ n c (c p) n (p + 1) 0).2.2 = true ∧ (lxQ n c (c p) n (p + 1) 0).1 < n ∧ (lxQ n c (c p) n (p + 1) 0).2.1 ≤ 40 then 4 else 6, 0, (lxQ n c (c p) n (p + 1) 0).1 + 1) := by
    unfold lxO; rw [if_neg (by omega), h0, if_neg (by decide), h1, if_neg (by decide), if_pos h2]
  have hT : lxTx n c p 4 ((lxQ n c (c p) n (p + 1) 0).1 + 1) = lxU n c (c p) n (p + 1) := if_pos rfl
  rw [hO] at hQ
  have hq92 : ¬ c p = 92 := by rcases h2 with h | h <;> (rw [h]; decide)
  generalize hR : lxQ n c (c p) n (p + 1) 0 = R at hQ hT
  generalize hU : lxU n c (c p) n (p + 1) = U at hT
  generalize hq : c p = q at hR hq92 hU
  have P1 : ∀ {M1 M2 : zM}, fr (tkQ a) M1 M2 → fg (tkP a) M1 M2 := fun f => (f.mono tkQ_P).fg
  have lx : ∀ {M1 : zM} {k : Nat}, fr (tkQ a) M M1 → gi M1 a 1 = nI k → xLx M1 a n c k l := fun f e1 => xLx_fg h (P1 f) e1 (((f.2 a 2 (by unfold tkQ; omega)).1).trans h.2.2.2.2)
  have bad : ∀ M1, fr (tkQ a) M M1 → gi M1 a 3 = 6 → ¬ (R.2.2 = true ∧ R.1 < n ∧ R.2.1 ≤ 40) → Q (.inl none) M1 := fun M1 f e3 hb => by
    rw [if_neg hb] at hQ
    unfold xPost at hQ; dsimp only at hQ
    exact hQ _ L f e3 (fun z => absurd rfl z) (fun z => absurd z (by decide)) (fun z => absurd z (by decide)) (fun z => absurd z (by decide)) (fun z => z.elim (fun z => absurd z (by decide)) (fun z => absurd z (by decide))) (fun _ z => absurd rfl z) (fun z => absurd rfl z)
  have fin : ∀ (M1 : zM) (k m : Nat), fr (tkQ a) M M1 → gi M1 a 1 = nI k → gi M1 a 3 = 4 → xS M1 17 18 19 L → k ≤ n → R = (k, m, true) → m ≤ n → (k < n → m ≤ 41 → ∃ r, xR M1 r ∧ r.length = m ∧ (∀ x ∈ r, c7 x) ∧ U = r) → Z E YX10_string (d + 3 + 1) M1 [(0, vr (some (a, 9, 0))), (2, vi (nI m))] 216 [] Q := fun M1 k m f e1 e3 hS1 hk hr hm hrow => by
    obtain ⟨w1, w2, w3, w4, w5⟩ := lx f e1
    refine iX10_string_216 M1 a _ ⟨16, w3.2.2, ?_⟩
    rw [w2.1]
    have f6 : fr (tkQ a) M (si (si M1 a 3 6) a 1 (gi (si M1 a 3 6) a 1 + 1)) := f.tr ((fr.si (.inl ⟨rfl, by omega⟩)).tr (fr.si (.inl ⟨rfl, by omega⟩)))
    have g6 : gi (si (si M1 a 3 6) a 1 (gi (si M1 a 3 6) a 1 + 1)) a 3 = 6 := by rw [gi_idx (by decide), gi_self]
    by_cases hkn : n ≤ k
    · rw [if_pos (by rw [e1]; exact nI_le hkn (by omega)), g6, if_neg (by decide)]
      exact ⟨by omega, bad _ f6 g6 (fun z => by rw [hr] at z; have := z.2.1; dsimp only at this; omega)⟩
    · rw [if_neg (by rw [e1]; exact nI_ge (by omega) (by omega))]
      by_cases h40 : m ≤ 40
      · rw [if_pos (show nI m ≤ (40 : Int32) from nI_le (b := 40) h40 (by decide)), gi_idx (by decide), e3, if_pos rfl]
        obtain ⟨r, hR1, hl, hc7, hUr⟩ := hrow (by omega) (by omega)
        rw [e1, nI_l1]
        have f1 : fr (tkA a) M1 (si M1 a 1 (nI (k + 1))) := fr.si ⟨rfl, by omega⟩
        have s1 : zsz M1 = zsz M := f.1.1
        have hg1 : xgp M1 := xgp_fg hg f.fg (by omega) (by unfold tkQ; omega) (by unfold tkQ; omega)
        have hR2 : xR (si M1 a 1 (nI (k + 1))) r := ⟨by rw [gi_oth (by omega)]; exact hR1.1, hR1.2.1, fun j hj => by rw [gi_oth (by omega)]; exact hR1.2.2 j hj⟩
        refine ⟨by omega, x_name (cw.si w1) w3.2.2 hg1 hR2 (fun x hx => c7_b (hc7 x hx)) (xS_fg hS1 f1.fg (by omega) (by unfold tkA; omega) (fun k => by unfold tkA; omega) (fun k => by unfold tkA; omega)) c1 (by omega) (fun M' f' hS' => ?_)⟩
        show Z E YX10_string (d + 3 + 1) M' [] 265 [vi (tfd 0 (nmA L r) r), vr (some (a, 9, 0))] Q
        rw [if_pos (show R.2.2 = true ∧ R.1 < n ∧ R.2.1 ≤ 40 by rw [hr]; exact ⟨rfl, by show k < n; omega, h40⟩)] at hQ
        unfold xPost at hQ; dsimp only at hQ
        have s2 : zsz M' = zsz M1 := f'.1.1
        refine sX10_string_265 M' _ a ⟨by omega, hQ _ (nmA L r) ((f.tr (f1.mono fun x k q => .inl q)).tr ((f'.mono fun x k q => by unfold tkQ; omega).tr (fr.si (.inl ⟨rfl, by omega⟩)))) ?_ (fun _ => ?_) (fun z => absurd z (by decide)) (fun z => absurd z (by decide)) (fun z => absurd z (by decide)) (fun _ => ⟨?_, ?_⟩) (fun z => absurd (.inr rfl) z) (fun _ => ?_)⟩
        · rw [gi_idx (by decide), (f'.2 a 3 (by omega)).1, gi_idx (by decide)]; exact e3
        · rw [gi_idx (by decide), (f'.2 a 1 (by omega)).1, gi_self, hr]
        · rw [gi_self, hT, hUr]
        · rw [hT, hUr]
        · exact xS_fg hS' (fr.si ⟨rfl, by omega⟩ : fr (tkA a) M' _).fg (by omega) (by unfold tkA; omega) (fun k => by unfold tkA; omega) (fun k => by unfold tkA; omega)
      · rw [if_neg (show ¬ nI m ≤ (40 : Int32) from nI_ge (a := 40) (by omega) (by omega)), g6, if_neg (by decide)]
        exact ⟨by omega, bad _ f6 g6 (fun z => by rw [hr] at z; exact h40 z.2.2)⟩
  have loop : ∀ (f k m : Nat) (M1 : zM), n - k ≤ f → k ≤ n → m ≤ k → lxQ n c q f k m = R → fr (tkQ a) M M1 → gi M1 a 1 = nI k → gi M1 a 3 = 4 → xS M1 17 18 19 L → (∃ j, j ≤ 256 ∧ gi M1 16 3 = nI j) → (m ≤ 41 → ∃ r, xR M1 r ∧ r.length = m ∧ (∀ x ∈ r, c7 x) ∧ U = r ++ lxU n c q f k) → Z E YX10_string (d + 3 + 1) M1 [(0, vr (some (a, 9, 0))), (1, vi q), (2, vi (nI m))] 24 [] Q := by
    intro f
    induction f with
    | zero =>
      intro k m M1 hf hkn hm hr hfr e1 e3 hS1 h256 hrow
      obtain ⟨w1, w2, w3, w4, w5⟩ := lx hfr e1
      refine sX10_string_24 M1 a _ _ ⟨16, w3.2.2, ?_⟩
      rw [w2.1, e1, if_pos (nI_le (by omega) (by omega))]
      exact fin M1 k m hfr e1 e3 hS1 hkn hr.symm (by omega) (fun z => by omega)
    | succ f ih =>
      intro k m M1 hf hkn hm hr hfr e1 e3 hS1 h256 hrow
      have hk2 : ∀ k', k < k' → n - k' ≤ f := fun k' h => by omega
      have hm2 : ∀ k', k < k' → m + 1 ≤ k' := fun k' h => by omega
      obtain ⟨w1, w2, w3, w4, w5⟩ := lx hfr e1
      have s1 : zsz M1 = zsz M := hfr.1.1
      unfold lxQ at hr
      unfold lxU at hrow
      refine sX10_string_24 M1 a _ _ ⟨16, w3.2.2, ?_⟩
      rw [w2.1, e1]
      by_cases hend : n ≤ k
      · rw [if_pos hend] at hr
        rw [if_pos (nI_le (by omega) (by omega))]
        exact fin M1 k m hfr e1 e3 hS1 hkn hr.symm (by omega) (fun z => by omega)
      rw [if_neg hend] at hr hrow
      have hk : k < n := by omega
      rw [if_neg (nI_ge hk (by omega))]
      refine x_sign (lx hfr e1) hk ?_
      show Z E YX10_string (d + 3 + 1) M1 [(0, vr (some (a, 9, 0))), (1, vi q), (2, vi (nI m))] 46 [vi (c k)] Q
      refine iX10_string_46 M1 a _ _ _ ?_
      by_cases cq : c k = q
      · rw [if_pos cq] at hr hrow ⊢
        exact fin M1 k m hfr e1 e3 hS1 hkn hr.symm (by omega) (fun _ z => by
          obtain ⟨r, r1, r2, r3, r4⟩ := hrow z
          exact ⟨r, r1, r2, r3, by rw [r4, List.append_nil]⟩)
      rw [if_neg cq] at hr hrow ⊢
      -- a good sign; a bad one
      have good : ∀ (k' : Nat) (x : Int32) (M2 : zM), c7 x → fr (tkA a) M1 M2 → gi M2 a 1 = nI k' → gi M2 a 3 = 4 → k < k' → k' ≤ n → lxQ n c q f k' (m + 1) = R → (m + 1 ≤ 41 → ∃ r, xR M1 r ∧ r.length = m ∧ (∀ y ∈ r, c7 y) ∧ U = r ++ x :: lxU n c q f k') → Z E YX1_write (d + 3) M2 [(0, zX16), (1, vi x)] 0 [] (zafter E YX10_string (d + 3 + 1) [(0, vr (some (a, 9, 0))), (1, vi q), (2, vi (nI (m + 1)))] 200 3 [] Q) := fun k' x M2 hx f2 g1 g3 hkk hkn' hr' hrow' => by
        have hS2 : xS M2 17 18 19 L := xS_fg hS1 f2.fg (by omega) (by unfold tkA; omega) (fun k => by unfold tkA; omega) (fun k => by unfold tkA; omega)
        have cw2 : cw M2 := cw_fg w1 f2.fg (by omega) (fun q hq => by unfold tkA; rcases cwl_16 q hq with g | g <;> omega)
        have s2 : zsz M2 = zsz M1 := f2.1.1
        have go : ∀ M3, fr (fun x k => x = 20 ∨ x = 16 ∧ k = 3) M2 M3 → (∃ j, j ≤ 256 ∧ gi M3 16 3 = nI j) → (m + 1 ≤ 41 → ∃ r, xR M3 r ∧ r.length = m + 1 ∧ (∀ y ∈ r, c7 y) ∧ U = r ++ lxU n c q f k') → Z E YX10_string (d + 3 + 1) M3 [(0, vr (some (a, 9, 0))), (1, vi q), (2, vi (nI (m + 1)))] 203 [] Q := fun M3 f3 j3 r3 => by
          refine sX10_string_203 M3 a _ _ ?_
          have g3' : gi M3 a 3 = 4 := ((f3.2 a 3 (by omega)).1).trans g3
          rw [g3', if_neg (by decide)]
          exact ih k' (m + 1) M3 (hk2 k' hkk) hkn' (hm2 k' hkk) hr' (hfr.tr ((f2.mono fun x k q => .inl q).tr (f3.mono fun x k q => by unfold tkQ; omega))) (((f3.2 a 1 (by omega)).1).trans g1) g3' (xS_fg hS2 f3.fg (by omega) (by omega) (fun k => by omega) (fun k => by omega)) j3 r3
        by_cases hm41 : m + 1 ≤ 41
        · obtain ⟨r, r1, r2, r3, r4⟩ := hrow' hm41
          have r1' : xR M2 r := ⟨((f2.2 16 3 (by unfold tkA; omega)).1).trans r1.1, r1.2.1, fun j hj => ((f2.2 20 j (by unfold tkA; omega)).1).trans (r1.2.2 j hj)⟩
          refine x_write cw2 r1' (by omega) (c7_b hx) (fun M3 hR3 f3 => ?_)
          exact go M3 f3 ⟨(r ++ [x]).length, by rw [List.length_append]; show r.length + 1 ≤ 256; omega, hR3.1⟩ (fun _ => ⟨r ++ [x], hR3, by rw [List.length_append, r2]; rfl, fun y hy => (List.mem_append.mp hy).elim (r3 y) (fun z => by rw [List.mem_singleton.mp z]; exact hx), by rw [r4, List.append_assoc]; rfl⟩)
        · obtain ⟨j, j1, j2⟩ := h256
          exact x_write0 cw2 ⟨j, j1, ((f2.2 16 3 (by unfold tkA; omega)).1).trans j2⟩ (fun M3 f3 j3 => go M3 f3 j3 (fun z => absurd z hm41))
      have wrong : ∀ (x : Int32) (M2 : zM), fr (tkA a) M1 M2 → gi M2 a 3 = 6 → R.2.2 = false → Z E YX1_write (d + 3) M2 [(0, zX16), (1, vi x)] 0 [] (zafter E YX10_string (d + 3 + 1) [(0, vr (some (a, 9, 0))), (1, vi q), (2, vi (nI (m + 1)))] 200 3 [] Q) := fun x M2 f2 g3 hr' => by
        have cw2 : cw M2 := cw_fg w1 f2.fg (by omega) (fun q hq => by unfold tkA; rcases cwl_16 q hq with g | g <;> omega)
        obtain ⟨j, j1, j2⟩ := h256
        refine x_write0 cw2 ⟨j, j1, ((f2.2 16 3 (by unfold tkA; omega)).1).trans j2⟩ (fun M3 f3 j3 => ?_)
        show Z E YX10_string (d + 3 + 1) M3 [(0, vr (some (a, 9, 0))), (1, vi q), (2, vi (nI (m + 1)))] 203 [] Q
        have g3' : gi M3 a 3 = 6 := ((f3.2 a 3 (by omega)).1).trans g3
        refine sX10_string_203 M3 a _ _ ?_
        rw [g3', if_pos rfl]
        exact bad M3 (hfr.tr ((f2.mono fun x k q => .inl q).tr (f3.mono fun x k q => by unfold tkQ; omega))) g3' (fun z => by rw [hr'] at z; exact Bool.false_ne_true z.1)
      have fa1 : ∀ v, fr (tkA a) M1 (si M1 a 1 v) := fun v => fr.si ⟨rfl, by omega⟩
      refine ⟨by omega, 16, w3.2.2, ?_⟩
      rw [gi_oth (by omega), w2.1, e1, nI_l1, if_neg (nI_ge hk (by omega))]
      refine ⟨21, 4000, cw_t w1, nI_in (by omega) (by omega), ?_⟩
      rw [gi_oth (by omega), xl_at w2 hk]
      by_cases c92 : c k = 92
      · rw [if_pos c92] at hr hrow ⊢
        rw [gi_self, nI_l1, gi_oth (by omega), gi_oth (by omega), w2.1]
        have f2 : fr (tkA a) M1 (si (si M1 a 1 (nI (k + 1))) a 1 (nI (k + 1 + 1))) := (fa1 _).tr (fr.si ⟨rfl, by omega⟩)
        have g1 : gi (si (si M1 a 1 (nI (k + 1))) a 1 (nI (k + 1 + 1))) a 1 = nI (k + 2) := gi_self ..
        have g3 : gi (si (si M1 a 1 (nI (k + 1))) a 1 (nI (k + 1 + 1))) a 3 = 4 := by rw [gi_idx (by decide), gi_idx (by decide)]; exact e3
        have g5 : gi (si (si M1 a 1 (nI (k + 1))) a 1 (nI (k + 1 + 1))) 16 5 = nI n := by rw [gi_oth (by omega), gi_oth (by omega)]; exact w2.1
        have g0 : gr (si (si M1 a 1 (nI (k + 1))) a 1 (nI (k + 1 + 1))) a 0 = some (16, 0, 0) := w3.2.2
        by_cases hk1 : k + 1 < n
        · rw [if_neg (nI_ge hk1 (by omega))]
          refine ⟨nI_in (by omega) (by omega), ?_⟩
          rw [gi_oth (by omega), gi_oth (by omega), xl_at w2 hk1]
          generalize si (si M1 a 1 (nI (k + 1))) a 1 (nI (k + 1 + 1)) = M2 at *
          -- what stands behind the backslash
          have esc : ∀ s0 : Int32, s0 = (if c (k + 1) = 110 then 10 else if c (k + 1) = 116 then 9 else c (k + 1)) → Z E YX10_string (d + 3 + 1) M2 [(0, vr (some (a, 9, 0))), (1, vi q), (2, vi (nI m)), (4, vi (c (k + 1)))] 115 [vi s0] Q := fun s0 hs0 => by
            refine iX10_string_115 M2 a _ _ _ _ ⟨16, g0, ?_⟩
            rw [g5, g1, if_neg (nI_nlt (by omega) (by omega)), nI_l1]
            by_cases he : lxE (c (k + 1)) = true
            · rw [if_pos ⟨hk1, he⟩] at hr
              rw [← hs0] at hrow
              have c7s : c7 s0 := by
                rw [hs0]
                split
                · exact ⟨10, by decide, rfl⟩
                · split
                  · exact ⟨9, by decide, rfl⟩
                  · exact lxE_c7 he
              have go := good (k + 2) s0 M2 c7s f2 g1 g3 (by omega) (by omega) hr (fun z => hrow (by omega))
              have := (lxE_or _).mp he
              by_cases z1 : c (k + 1) = 110
              · rw [if_pos z1]; exact go
              rw [if_neg z1]
              by_cases z2 : c (k + 1) = 116
              · rw [if_pos z2]; exact go
              rw [if_neg z2]
              by_cases z3 : c (k + 1) = 92
              · rw [if_pos z3]; exact go
              rw [if_neg z3]
              by_cases z4 : c (k + 1) = 39
              · rw [if_pos z4]; exact go
              rw [if_neg z4, if_pos (((this.resolve_left z1).resolve_left z2).resolve_left z3 |>.resolve_left z4)]; exact go
            · rw [if_neg (fun z => he z.2)] at hr
              have := mt (lxE_or _).mpr he
              rw [if_neg (fun z => this (.inl z)), if_neg (fun z => this (.inr (.inl z))), if_neg (fun z => this (.inr (.inr (.inl z)))), if_neg (fun z => this (.inr (.inr (.inr (.inl z))))), if_neg (fun z => this (.inr (.inr (.inr (.inr z)))))]
              exact ⟨by omega, wrong s0 _ (f2.tr (fr.si ⟨rfl, by omega⟩)) (gi_self ..) (by rw [← hr])⟩
          by_cases z1 : c (k + 1) = 110
          · rw [if_pos z1]; exact esc 10 (by rw [if_pos z1])
          rw [if_neg z1]
          by_cases z2 : c (k + 1) = 116
          · rw [if_pos z2]; exact esc 9 (by rw [if_neg z1, if_pos z2])
          rw [if_neg z2]
          exact esc _ (by rw [if_neg z1, if_neg z2])
        · rw [if_pos (nI_le (by omega) (by omega))]
          rw [if_neg (fun z => hk1 z.1)] at hr
          generalize si (si M1 a 1 (nI (k + 1))) a 1 (nI (k + 1 + 1)) = M2 at *
          refine iX10_string_115 M2 a _ _ _ _ ⟨16, g0, ?_⟩
          rw [g5, g1, if_pos (nI_lt (by omega) (by omega)), nI_l1]
          exact ⟨by omega, wrong 0 _ (f2.tr (fr.si ⟨rfl, by omega⟩)) (gi_self ..) (by rw [← hr])⟩
      rw [if_neg c92] at hr hrow ⊢
      rw [nI_l1]
      by_cases c32 : c k < 32
      · rw [if_pos c32]
        rw [if_neg (fun z => absurd z.1 (by rw [i_le]; exact c32))] at hr
        exact wrong _ _ ((fa1 _).tr (fr.si ⟨rfl, by omega⟩)) (gi_self ..) (by rw [← hr])
      rw [if_neg c32]
      by_cases c126 : c k ≤ 126
      · rw [if_pos c126]
        have c32' : (32 : Int32) ≤ c k := by rw [← i_lt]; exact c32
        rw [if_pos ⟨c32', c126⟩] at hr
        exact good (k + 1) _ _ (c7_in c32' c126) (fa1 _) (gi_self ..) ((gi_idx (by decide)).trans e3) (by omega) (by omega) hr (fun z => hrow (by omega))
      · rw [if_neg c126]
        rw [if_neg (fun z => c126 z.2)] at hr
        exact wrong _ _ ((fa1 _).tr (fr.si ⟨rfl, by omega⟩)) (gi_self ..) (by rw [← hr])
  refine sX10_string_0 M a _ ⟨16, ha.2.2, sX1_clearRow_0 M h.1 ?_⟩
  show Z E YX10_string (d + 3 + 1) (si M 16 3 0) [(0, vr (some (a, 9, 0))), (1, vi q)] 7 [] Q
  refine iX10_string_7 _ a _ ⟨by omega, ?_⟩
  rw [gi_oth (by omega), h.2.2.2.1, nI_l1]
  have f0 : fr (tkQ a) M (si (si (si M 16 3 0) a 1 (nI (p + 1))) a 3 4) := ((fr.si (.inr (.inl ⟨rfl, rfl⟩))).tr (fr.si (.inl ⟨rfl, by omega⟩))).tr (fr.si (.inl ⟨rfl, by omega⟩))
  have r0 : gi (si (si (si M 16 3 0) a 1 (nI (p + 1))) a 3 4) 16 3 = nI 0 := by rw [gi_oth (by omega), gi_oth (by omega), gi_self]; rfl
  refine loop n (p + 1) 0 _ (by omega) (by omega) (by omega) hR f0 (by rw [gi_idx (by decide), gi_self]) (gi_self ..) ?_ ⟨0, by decide, r0⟩ (fun _ => ⟨[], ⟨r0, by decide, fun k hk => absurd hk (Nat.not_lt_zero k)⟩, rfl, fun x hx => (by cases hx), by rw [List.nil_append]; exact hU.symm⟩)
  have e : ∀ x k, x = 17 ∨ x = 18 ∨ x = 19 → gi (si (si (si M 16 3 0) a 1 (nI (p + 1))) a 3 4) x k = gi M x k := fun x k hx => by rw [gi_oth (by omega), gi_oth (by omega), gi_oth (by omega)]
  exact ⟨(e _ _ (by omega)).trans hS.1, fun k hk => (e _ _ (by omega)).trans (hS.2.1 k hk), fun k hk => (e _ _ (by omega)).trans (hS.2.2 k hk)⟩
end
