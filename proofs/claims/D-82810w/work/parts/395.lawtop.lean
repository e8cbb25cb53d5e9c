/-! THE LAW's LOOP: out of contracts of its calls -/
theorem lg_cmp_self (x : Int64) : lg_cmp x x = 0 := by
  unfold lg_cmp
  simp
abbrev zX16 : zV := vr (some (16, 0, 0))
abbrev zX97 : zV := vr (some (97, 1, 0))
abbrev zX189 : zV := vr (some (189, 105, 1))
abbrev zlw (l4 : Int32) : List (Nat × zV) := [(0, vr (some (0, 109, 0))), (1, vr (some (16, 0, 0))), (2, vr (some (97, 1, 0))), (3, vr (some (189, 105, 1))), (4, vi l4)]
/-- both answer alike, and the relation holds behind them -/
def zppI (E : zE) (Rl : Nat → zM → Prop) (Yx Ym : zY) (as : List zV) (i : Nat) (M : zM) : Prop := ∃ v : Int32, Z E Yx 2047 M (zargs 0 (zX16 :: as)) 0 [] (fun o M1 => o = .inl (some (vi v)) ∧ Z E Ym 2047 M1 (zargs 0 (zX97 :: as)) 0 [] (fun o' M2 => o' = .inl (some (vi v)) ∧ Rl (i + 1) M2))
def zppJ (E : zE) (Rl : Nat → zM → Prop) (Yx Ym : zY) (as : List zV) (i : Nat) (M : zM) : Prop := ∃ v : Int64, Z E Yx 2047 M (zargs 0 (zX16 :: as)) 0 [] (fun o M1 => o = .inl (some (vl v)) ∧ Z E Ym 2047 M1 (zargs 0 (zX97 :: as)) 0 [] (fun o' M2 => o' = .inl (some (vl v)) ∧ Rl (i + 1) M2))
theorem zX8_thrown {E : zE} {d : Nat} {Q : zO → zM → Prop} (M : zM) (k : Q (.inl (some (vi (gi M 97 0)))) M) : Z E YX8_thrown d M [(0, vr (some (97, 1, 0)))] 0 [] Q := by
  refine z_aload_n dX8_thrown_0 rfl rfl ?_
  refine z_geti dX8_thrown_1 fsX8_289_1 ?_
  exact z_iret dX8_thrown_4 rfl rfl k
def zppB (E : zE) (Rl : Nat → zM → Prop) (i : Nat) (M : zM) : Prop := ∃ k : Int32, Z E YX0_begin 2047 M (zargs 0 [zX16]) 0 [] (fun o M1 => o = .inl (some (vi k)) ∧ Z E YX8_begin 2047 M1 (zargs 0 [zX97]) 0 [] (fun o' M2 => o' = .inl none ∧ gi M2 97 0 = k ∧ tw M2 ∧ Rl (i + 1) M2))
def zppR (E : zE) (Rl : Nat → zM → Prop) (p : Int32) (i : Nat) (M : zM) : Prop := ∃ k w : Int32, Z E YX0_run 2047 M (zargs 0 [zX16, vi p, zX189]) 0 [] (fun o M1 => o = .inl (some (vi k)) ∧ Z E YX8_run 2047 M1 (zargs 0 [zX97, vi p]) 0 [] (fun o' M2 => o' = .inl (some (vi w)) ∧ gi M2 97 0 = k ∧ tw M2 ∧ (k = 0 → gl M2 189 0 = w.toInt64) ∧ Rl (i + 1) M2))
def zppS (E : zE) (Rl : Nat → zM → Prop) (i : Nat) (M : zM) : Prop := ∃ k w : Int32, Z E YX0_solve 2047 M (zargs 0 [zX16, zX189]) 0 [] (fun o M1 => o = .inl (some (vi k)) ∧ Z E YX8_solve 2047 M1 (zargs 0 [zX97]) 0 [] (fun o' M2 => o' = .inl (some (vi w)) ∧ gi M2 97 0 = k ∧ tw M2 ∧ (k = 0 → gl M2 189 0 = w.toInt64) ∧ Rl (i + 1) M2))
/-- the contracts of all calls -/
def zall (E : zE) (Rl : Nat → zM → Prop) : Prop := ∀ (i : Nat) (M : zM), i < 64 → Rl i M → Rl (i + 1) M ∧ (∀ a1 a2 a3 a4 a5 : Int32, zppI E Rl YX1_feed YX8_feed [vi a1, vi a2, vi a3, vi a4, vi a5] i M) ∧
    (∀ a1 : Int32, zppI E Rl YX1_back YX8_back [vi a1] i M) ∧
    (zppI E Rl YX1_read YX8_read [] i M) ∧
    (∀ a1 : Int32, zppI E Rl YX1_count YX8_count [vi a1] i M) ∧
    (∀ a1 a2 : Int32, zppI E Rl YX1_letter YX8_letter [vi a1, vi a2] i M) ∧
    (∀ a1 a2 : Int32, zppI E Rl YX1_instruction YX8_instruction [vi a1, vi a2] i M) ∧
    zppB E Rl i M ∧
    (∀ a1 : Int32, zppR E Rl a1 i M) ∧
    (∀ a1 a2 : Int32, zppI E Rl YX1_frame YX8_frame [vi a1, vi a2] i M) ∧
    (∀ a1 a2 a3 : Int32, zppI E Rl YX1_value YX8_value_2 [vi a1, vi a2, vi a3] i M) ∧
    (∀ a1 a2 : Int32, zppI E Rl YX1_object YX8_object_2 [vi a1, vi a2] i M) ∧
    (∀ a1 a2 a3 : Int32, zppI E Rl YX1_property YX8_property [vi a1, vi a2, vi a3] i M) ∧
    (∀ a1 a2 : Int32, zppI E Rl YX1_printed YX8_printed [vi a1, vi a2] i M) ∧
    (∀ a1 : Int32, zppI E Rl YX1_uncaught YX8_uncaught [vi a1] i M) ∧
    zppS E Rl i M ∧
    (∀ a1 : Int32, zppI E Rl YX1_height YX8_height [vi a1] i M) ∧
    (∀ a1 a2 a3 : Int32, zppJ E Rl YX1_slot YX8_slot [vi a1, vi a2, vi a3] i M) ∧
    (∀ a1 a2 a3 a4 : Int32, zppJ E Rl YX1_field YX8_field_2 [vi a1, vi a2, vi a3, vi a4] i M) ∧
    (∀ a1 a2 a3 : Int32, zppJ E Rl YX1_link YX8_link [vi a1, vi a2, vi a3] i M) ∧
    (∀ a1 a2 a3 : Int32, zppJ E Rl YX1_result YX8_result [vi a1, vi a2, vi a3] i M) ∧
    (∀ a1 : Int32, zppI E Rl YX1_warns YX8_warns [vi a1] i M)
theorem zlaw_loop {E : zE} {Rl : Nat → zM → Prop} (hL : zxl E ≤ 384) (hend : ∀ (i : Nat) (M : zM), i ≤ 64 → Rl i M → zsz M ≤ 558422 ∧ zsu M ≤ 7426261) (H : zall E Rl) :
    ∀ (n i : Nat) (M : zM), 64 - i = n → i ≤ 64 → Rl i M → Z E YX0_law 2048 M (zlw (nI (6 * i))) 23 [] zQ1 := by
  intro n
  induction n with
  | zero =>
    intro i M hn hi hR
    have h64 : i = 64 := by omega
    refine sX0_law_23 M (nI (6 * i)) ?_
    have hc : (Int32.ofNat (zxl E)) - (6 : Int32) < nI (6 * i) := by
      rcases Nat.lt_or_ge (zxl E) 6 with h6 | h6
      · rw [Int32.lt_iff_toInt_lt, nI_toInt (by omega)]
        have e : ∀ x : Nat, x < 6 → ((Int32.ofNat x) - (6 : Int32)).toInt < 0 := by decide
        have := e _ h6
        omega
      · rw [show (Int32.ofNat (zxl E)) - (6 : Int32) = nI (zxl E - 6) from by
          have : nI (zxl E - 6) + nI 6 = nI (zxl E) := by rw [nI_add]; congr 1; omega
          show nI (zxl E) - nI 6 = _
          rw [← this, Int32.add_sub_cancel]]
        exact nI_lt (by omega) (by omega)
    rw [if_pos hc]
    exact ⟨rfl, hend i M hi hR⟩
  | succ n ih =>
    intro i M hn hi hR
    refine sX0_law_23 M (nI (6 * i)) ?_
    by_cases hd : zxl E < 6 * i + 6
    · have hc : (Int32.ofNat (zxl E)) - (6 : Int32) < nI (6 * i) := by
        rcases Nat.lt_or_ge (zxl E) 6 with h6 | h6
        · rw [Int32.lt_iff_toInt_lt, nI_toInt (by omega)]
          have e : ∀ x : Nat, x < 6 → ((Int32.ofNat x) - (6 : Int32)).toInt < 0 := by decide
          have := e _ h6
          omega
        · rw [show (Int32.ofNat (zxl E)) - (6 : Int32) = nI (zxl E - 6) from by
            have : nI (zxl E - 6) + nI 6 = nI (zxl E) := by rw [nI_add]; congr 1; omega
            show nI (zxl E) - nI 6 = _
            rw [← this, Int32.add_sub_cancel]]
          exact nI_lt (by omega) (by omega)
      rw [if_pos hc]
      exact ⟨rfl, hend i M hi hR⟩
    have h6 : 6 * i + 6 ≤ zxl E := by omega
    have hc : ¬ (Int32.ofNat (zxl E)) - (6 : Int32) < nI (6 * i) := by
      rw [show (Int32.ofNat (zxl E)) - (6 : Int32) = nI (zxl E - 6) from by
        have : nI (zxl E - 6) + nI 6 = nI (zxl E) := by rw [nI_add]; congr 1; omega
        show nI (zxl E) - nI 6 = _
        rw [← this, Int32.add_sub_cancel]]
      exact nI_nlt (by omega) (by omega)
    have v0 : vp_in (nI (6 * i)) (zxl E) := nI_in (by omega) (by omega)
    have v1 : vp_in (nI (6 * i) + (1 : Int32)) (zxl E) := by rw [show (1 : Int32) = nI 1 from rfl, nI_add]; exact nI_in (by omega) (by omega)
    have v2 : vp_in (nI (6 * i) + (2 : Int32)) (zxl E) := by rw [show (2 : Int32) = nI 2 from rfl, nI_add]; exact nI_in (by omega) (by omega)
    have v3 : vp_in (nI (6 * i) + (3 : Int32)) (zxl E) := by rw [show (3 : Int32) = nI 3 from rfl, nI_add]; exact nI_in (by omega) (by omega)
    have v4 : vp_in (nI (6 * i) + (4 : Int32)) (zxl E) := by rw [show (4 : Int32) = nI 4 from rfl, nI_add]; exact nI_in (by omega) (by omega)
    have v5 : vp_in (nI (6 * i) + (5 : Int32)) (zxl E) := by rw [show (5 : Int32) = nI 5 from rfl, nI_add]; exact nI_in (by omega) (by omega)
    have next : ∀ M2, Rl (i + 1) M2 → Z E YX0_law 2048 M2 (zlw (nI (6 * i) + (6 : Int32))) 23 [] zQ1 := fun M2 h2 => by
      have := ih (i + 1) M2 (by omega) (by omega) h2
      rwa [show nI (6 * (i + 1)) = nI (6 * i) + (6 : Int32) from by rw [show (6 : Int32) = nI 6 from rfl, nI_add]; congr 1] at this
    obtain ⟨Hs, H0, H1, H2, H3, H4, H5, H6, H7, H8, H9, H10, H11, H12, H13, H14, H15, H16, H17, H18, H19, H20⟩ := H i M (by omega) hR
    rw [if_neg hc]
    refine ⟨v0, ?_⟩
    by_cases h0 : (zxs E (nI (6 * i)).toNatClampNeg &&& (31 : Int32)) = 0
    · rw [if_pos h0]
      obtain ⟨w, hz⟩ := H0 (zxs E (nI (6 * i) + (1 : Int32)).toNatClampNeg) (zxs E (nI (6 * i) + (2 : Int32)).toNatClampNeg) (zxs E (nI (6 * i) + (3 : Int32)).toNatClampNeg) (zxs E (nI (6 * i) + (4 : Int32)).toNatClampNeg) (zxs E (nI (6 * i) + (5 : Int32)).toNatClampNeg)
      refine ⟨v1, v2, v3, v4, v5, hz.mono (fun o M1 h => ?_)⟩
      obtain ⟨rfl, hz⟩ := h
      show Z E YX0_law 2048 M1 (zlw (nI (6 * i))) 174 [vi w] zQ1
      refine sX0_law_174 M1 (nI (6 * i)) w ⟨v1, v2, v3, v4, v5, hz.mono (fun o M2 h => ?_)⟩
      obtain ⟨rfl, hR'⟩ := h
      show Z E YX0_law 2048 M2 (zlw (nI (6 * i))) 208 [vi w, vi w] zQ1
      refine sX0_law_208 M2 (nI (6 * i)) w w ?_
      rw [if_pos rfl]
      exact next M2 hR'
    rw [if_neg h0]
    by_cases h1 : (zxs E (nI (6 * i)).toNatClampNeg &&& (31 : Int32)) = 1
    · rw [if_pos h1]
      obtain ⟨w, hz⟩ := H1 (zxs E (nI (6 * i) + (1 : Int32)).toNatClampNeg)
      refine ⟨v1, hz.mono (fun o M1 h => ?_)⟩
      obtain ⟨rfl, hz⟩ := h
      show Z E YX0_law 2048 M1 (zlw (nI (6 * i))) 223 [vi w] zQ1
      refine sX0_law_223 M1 (nI (6 * i)) w ⟨v1, hz.mono (fun o M2 h => ?_)⟩
      obtain ⟨rfl, hR'⟩ := h
      show Z E YX0_law 2048 M2 (zlw (nI (6 * i))) 233 [vi w, vi w] zQ1
      refine sX0_law_233 M2 (nI (6 * i)) w w ?_
      rw [if_pos rfl]
      exact next M2 hR'
    rw [if_neg h1]
    by_cases h2 : (zxs E (nI (6 * i)).toNatClampNeg &&& (31 : Int32)) = 2
    · rw [if_pos h2]
      obtain ⟨w, hz⟩ := H2 
      refine hz.mono (fun o M1 h => ?_)
      obtain ⟨rfl, hz⟩ := h
      show Z E YX0_law 2048 M1 (zlw (nI (6 * i))) 242 [vi w] zQ1
      refine sX0_law_242 M1 (nI (6 * i)) w (hz.mono (fun o M2 h => ?_))
      obtain ⟨rfl, hR'⟩ := h
      show Z E YX0_law 2048 M2 (zlw (nI (6 * i))) 246 [vi w, vi w] zQ1
      refine sX0_law_246 M2 (nI (6 * i)) w w ?_
      rw [if_pos rfl]
      exact next M2 hR'
    rw [if_neg h2]
    by_cases h3 : (zxs E (nI (6 * i)).toNatClampNeg &&& (31 : Int32)) = 3
    · rw [if_pos h3]
      obtain ⟨w, hz⟩ := H3 (zxs E (nI (6 * i) + (1 : Int32)).toNatClampNeg)
      refine ⟨v1, hz.mono (fun o M1 h => ?_)⟩
      obtain ⟨rfl, hz⟩ := h
      show Z E YX0_law 2048 M1 (zlw (nI (6 * i))) 261 [vi w] zQ1
      refine sX0_law_261 M1 (nI (6 * i)) w ⟨v1, hz.mono (fun o M2 h => ?_)⟩
      obtain ⟨rfl, hR'⟩ := h
      show Z E YX0_law 2048 M2 (zlw (nI (6 * i))) 271 [vi w, vi w] zQ1
      refine sX0_law_271 M2 (nI (6 * i)) w w ?_
      rw [if_pos rfl]
      exact next M2 hR'
    rw [if_neg h3]
    by_cases h4 : (zxs E (nI (6 * i)).toNatClampNeg &&& (31 : Int32)) = 4
    · rw [if_pos h4]
      obtain ⟨w, hz⟩ := H4 (zxs E (nI (6 * i) + (1 : Int32)).toNatClampNeg) (zxs E (nI (6 * i) + (2 : Int32)).toNatClampNeg)
      refine ⟨v1, v2, hz.mono (fun o M1 h => ?_)⟩
      obtain ⟨rfl, hz⟩ := h
      show Z E YX0_law 2048 M1 (zlw (nI (6 * i))) 292 [vi w] zQ1
      refine sX0_law_292 M1 (nI (6 * i)) w ⟨v1, v2, hz.mono (fun o M2 h => ?_)⟩
      obtain ⟨rfl, hR'⟩ := h
      show Z E YX0_law 2048 M2 (zlw (nI (6 * i))) 308 [vi w, vi w] zQ1
      refine sX0_law_308 M2 (nI (6 * i)) w w ?_
      rw [if_pos rfl]
      exact next M2 hR'
    rw [if_neg h4]
    by_cases h5 : (zxs E (nI (6 * i)).toNatClampNeg &&& (31 : Int32)) = 5
    · rw [if_pos h5]
      obtain ⟨w, hz⟩ := H5 (zxs E (nI (6 * i) + (1 : Int32)).toNatClampNeg) (zxs E (nI (6 * i) + (2 : Int32)).toNatClampNeg)
      refine ⟨v1, v2, hz.mono (fun o M1 h => ?_)⟩
      obtain ⟨rfl, hz⟩ := h
      show Z E YX0_law 2048 M1 (zlw (nI (6 * i))) 329 [vi w] zQ1
      refine sX0_law_329 M1 (nI (6 * i)) w ⟨v1, v2, hz.mono (fun o M2 h => ?_)⟩
      obtain ⟨rfl, hR'⟩ := h
      show Z E YX0_law 2048 M2 (zlw (nI (6 * i))) 345 [vi w, vi w] zQ1
      refine sX0_law_345 M2 (nI (6 * i)) w w ?_
      rw [if_pos rfl]
      exact next M2 hR'
    rw [if_neg h5]
    by_cases h6 : (zxs E (nI (6 * i)).toNatClampNeg &&& (31 : Int32)) = 6
    · rw [if_pos h6]
      obtain ⟨w, hz⟩ := H6
      refine hz.mono (fun o M1 h => ?_)
      obtain ⟨rfl, hz⟩ := h
      show Z E YX0_law 2048 M1 (zlw (nI (6 * i))) 354 [vi w] zQ1
      refine sX0_law_354 M1 (nI (6 * i)) w (hz.mono (fun o M2 h => ?_))
      obtain ⟨rfl, hk, htw, hR'⟩ := h
      show Z E YX0_law 2048 M2 (zlw (nI (6 * i)) ++ [(5, vi w)]) 360 [] zQ1
      refine sX0_law_360 M2 (nI (6 * i)) w (zX8_thrown M2 ?_)
      show Z E YX0_law 2048 M2 (zlw (nI (6 * i)) ++ [(5, vi w)]) 364 [vi (gi M2 97 0)] zQ1
      refine sX0_law_364 M2 (nI (6 * i)) w (gi M2 97 0) ?_
      rw [if_pos hk]
      exact next M2 hR'
    rw [if_neg h6]
    by_cases h7 : (zxs E (nI (6 * i)).toNatClampNeg &&& (31 : Int32)) = 7
    · rw [if_pos h7]
      obtain ⟨w, b, hz⟩ := H7 (zxs E (nI (6 * i) + (1 : Int32)).toNatClampNeg)
      refine ⟨v1, hz.mono (fun o M1 h => ?_)⟩
      obtain ⟨rfl, hz⟩ := h
      show Z E YX0_law 2048 M1 (zlw (nI (6 * i))) 385 [vi w] zQ1
      refine sX0_law_385 M1 (nI (6 * i)) w ⟨v1, hz.mono (fun o M2 h => ?_)⟩
      obtain ⟨rfl, hk, htw, ho, hR'⟩ := h
      show Z E YX0_law 2048 M2 (zlw (nI (6 * i)) ++ [(5, vi w)]) 397 [vi b] zQ1
      refine sX0_law_397 M2 (nI (6 * i)) w b (zX8_thrown M2 ?_)
      show Z E YX0_law 2048 M2 (zlw (nI (6 * i)) ++ [(5, vi w), (6, vi b)]) 403 [vi (gi M2 97 0)] zQ1
      refine sX0_law_403 M2 (nI (6 * i)) w b (gi M2 97 0) ?_
      rw [if_pos hk]
      by_cases hw0 : w = 0
      · rw [if_pos hw0]
        refine ⟨(show vp_in (nI 0) 1 from nI_in (by decide) (by decide)), ?_⟩
        rw [if_pos (by show lg_cmp (gl M2 189 0) _ = 0; rw [ho hw0]; exact lg_cmp_self _)]
        exact next M2 hR'
      · rw [if_neg hw0]
        exact next M2 hR'
    rw [if_neg h7]
    by_cases h8 : (zxs E (nI (6 * i)).toNatClampNeg &&& (31 : Int32)) = 8
    · rw [if_pos h8]
      obtain ⟨w, hz⟩ := H8 (zxs E (nI (6 * i) + (1 : Int32)).toNatClampNeg) (zxs E (nI (6 * i) + (2 : Int32)).toNatClampNeg)
      refine ⟨v1, v2, hz.mono (fun o M1 h => ?_)⟩
      obtain ⟨rfl, hz⟩ := h
      show Z E YX0_law 2048 M1 (zlw (nI (6 * i))) 446 [vi w] zQ1
      refine sX0_law_446 M1 (nI (6 * i)) w ⟨v1, v2, hz.mono (fun o M2 h => ?_)⟩
      obtain ⟨rfl, hR'⟩ := h
      show Z E YX0_law 2048 M2 (zlw (nI (6 * i))) 462 [vi w, vi w] zQ1
      refine sX0_law_462 M2 (nI (6 * i)) w w ?_
      rw [if_pos rfl]
      exact next M2 hR'
    rw [if_neg h8]
    by_cases h9 : (zxs E (nI (6 * i)).toNatClampNeg &&& (31 : Int32)) = 9
    · rw [if_pos h9]
      obtain ⟨w, hz⟩ := H9 (zxs E (nI (6 * i) + (1 : Int32)).toNatClampNeg) (zxs E (nI (6 * i) + (2 : Int32)).toNatClampNeg) (zxs E (nI (6 * i) + (3 : Int32)).toNatClampNeg)
      refine ⟨v1, v2, v3, hz.mono (fun o M1 h => ?_)⟩
      obtain ⟨rfl, hz⟩ := h
      show Z E YX0_law 2048 M1 (zlw (nI (6 * i))) 489 [vi w] zQ1
      refine sX0_law_489 M1 (nI (6 * i)) w ⟨v1, v2, v3, hz.mono (fun o M2 h => ?_)⟩
      obtain ⟨rfl, hR'⟩ := h
      show Z E YX0_law 2048 M2 (zlw (nI (6 * i))) 511 [vi w, vi w] zQ1
      refine sX0_law_511 M2 (nI (6 * i)) w w ?_
      rw [if_pos rfl]
      exact next M2 hR'
    rw [if_neg h9]
    by_cases h10 : (zxs E (nI (6 * i)).toNatClampNeg &&& (31 : Int32)) = 10
    · rw [if_pos h10]
      obtain ⟨w, hz⟩ := H10 (zxs E (nI (6 * i) + (1 : Int32)).toNatClampNeg) (zxs E (nI (6 * i) + (2 : Int32)).toNatClampNeg)
      refine ⟨v1, v2, hz.mono (fun o M1 h => ?_)⟩
      obtain ⟨rfl, hz⟩ := h
      show Z E YX0_law 2048 M1 (zlw (nI (6 * i))) 532 [vi w] zQ1
      refine sX0_law_532 M1 (nI (6 * i)) w ⟨v1, v2, hz.mono (fun o M2 h => ?_)⟩
      obtain ⟨rfl, hR'⟩ := h
      show Z E YX0_law 2048 M2 (zlw (nI (6 * i))) 548 [vi w, vi w] zQ1
      refine sX0_law_548 M2 (nI (6 * i)) w w ?_
      rw [if_pos rfl]
      exact next M2 hR'
    rw [if_neg h10]
    by_cases h11 : (zxs E (nI (6 * i)).toNatClampNeg &&& (31 : Int32)) = 11
    · rw [if_pos h11]
      obtain ⟨w, hz⟩ := H11 (zxs E (nI (6 * i) + (1 : Int32)).toNatClampNeg) (zxs E (nI (6 * i) + (2 : Int32)).toNatClampNeg) (zxs E (nI (6 * i) + (3 : Int32)).toNatClampNeg)
      refine ⟨v1, v2, v3, hz.mono (fun o M1 h => ?_)⟩
      obtain ⟨rfl, hz⟩ := h
      show Z E YX0_law 2048 M1 (zlw (nI (6 * i))) 575 [vi w] zQ1
      refine sX0_law_575 M1 (nI (6 * i)) w ⟨v1, v2, v3, hz.mono (fun o M2 h => ?_)⟩
      obtain ⟨rfl, hR'⟩ := h
      show Z E YX0_law 2048 M2 (zlw (nI (6 * i))) 597 [vi w, vi w] zQ1
      refine sX0_law_597 M2 (nI (6 * i)) w w ?_
      rw [if_pos rfl]
      exact next M2 hR'
    rw [if_neg h11]
    by_cases h12 : (zxs E (nI (6 * i)).toNatClampNeg &&& (31 : Int32)) = 12
    · rw [if_pos h12]
      obtain ⟨w, hz⟩ := H12 (zxs E (nI (6 * i) + (1 : Int32)).toNatClampNeg) (zxs E (nI (6 * i) + (2 : Int32)).toNatClampNeg)
      refine ⟨v1, v2, hz.mono (fun o M1 h => ?_)⟩
      obtain ⟨rfl, hz⟩ := h
      show Z E YX0_law 2048 M1 (zlw (nI (6 * i))) 618 [vi w] zQ1
      refine sX0_law_618 M1 (nI (6 * i)) w ⟨v1, v2, hz.mono (fun o M2 h => ?_)⟩
      obtain ⟨rfl, hR'⟩ := h
      show Z E YX0_law 2048 M2 (zlw (nI (6 * i))) 634 [vi w, vi w] zQ1
      refine sX0_law_634 M2 (nI (6 * i)) w w ?_
      rw [if_pos rfl]
      exact next M2 hR'
    rw [if_neg h12]
    by_cases h13 : (zxs E (nI (6 * i)).toNatClampNeg &&& (31 : Int32)) = 13
    · rw [if_pos h13]
      obtain ⟨w, hz⟩ := H13 (zxs E (nI (6 * i) + (1 : Int32)).toNatClampNeg)
      refine ⟨v1, hz.mono (fun o M1 h => ?_)⟩
      obtain ⟨rfl, hz⟩ := h
      show Z E YX0_law 2048 M1 (zlw (nI (6 * i))) 649 [vi w] zQ1
      refine sX0_law_649 M1 (nI (6 * i)) w ⟨v1, hz.mono (fun o M2 h => ?_)⟩
      obtain ⟨rfl, hR'⟩ := h
      show Z E YX0_law 2048 M2 (zlw (nI (6 * i))) 659 [vi w, vi w] zQ1
      refine sX0_law_659 M2 (nI (6 * i)) w w ?_
      rw [if_pos rfl]
      exact next M2 hR'
    rw [if_neg h13]
    by_cases h14 : (zxs E (nI (6 * i)).toNatClampNeg &&& (31 : Int32)) = 14
    · rw [if_pos h14]
      obtain ⟨w, b, hz⟩ := H14 
      refine hz.mono (fun o M1 h => ?_)
      obtain ⟨rfl, hz⟩ := h
      show Z E YX0_law 2048 M1 (zlw (nI (6 * i))) 669 [vi w] zQ1
      refine sX0_law_669 M1 (nI (6 * i)) w (hz.mono (fun o M2 h => ?_))
      obtain ⟨rfl, hk, htw, ho, hR'⟩ := h
      show Z E YX0_law 2048 M2 (zlw (nI (6 * i)) ++ [(5, vi w)]) 675 [vi b] zQ1
      refine sX0_law_675 M2 (nI (6 * i)) w b (zX8_thrown M2 ?_)
      show Z E YX0_law 2048 M2 (zlw (nI (6 * i)) ++ [(5, vi w), (6, vi b)]) 681 [vi (gi M2 97 0)] zQ1
      refine sX0_law_681 M2 (nI (6 * i)) w b (gi M2 97 0) ?_
      rw [if_pos hk]
      by_cases hw0 : w = 0
      · rw [if_pos hw0]
        refine ⟨(show vp_in (nI 0) 1 from nI_in (by decide) (by decide)), ?_⟩
        rw [if_pos (by show lg_cmp (gl M2 189 0) _ = 0; rw [ho hw0]; exact lg_cmp_self _)]
        exact next M2 hR'
      · rw [if_neg hw0]
        exact next M2 hR'
    rw [if_neg h14]
    by_cases h15 : (zxs E (nI (6 * i)).toNatClampNeg &&& (31 : Int32)) = 15
    · rw [if_pos h15]
      obtain ⟨w, hz⟩ := H15 (zxs E (nI (6 * i) + (1 : Int32)).toNatClampNeg)
      refine ⟨v1, hz.mono (fun o M1 h => ?_)⟩
      obtain ⟨rfl, hz⟩ := h
      show Z E YX0_law 2048 M1 (zlw (nI (6 * i))) 718 [vi w] zQ1
      refine sX0_law_718 M1 (nI (6 * i)) w ⟨v1, hz.mono (fun o M2 h => ?_)⟩
      obtain ⟨rfl, hR'⟩ := h
      show Z E YX0_law 2048 M2 (zlw (nI (6 * i))) 728 [vi w, vi w] zQ1
      refine sX0_law_728 M2 (nI (6 * i)) w w ?_
      rw [if_pos rfl]
      exact next M2 hR'
    rw [if_neg h15]
    by_cases h16 : (zxs E (nI (6 * i)).toNatClampNeg &&& (31 : Int32)) = 16
    · rw [if_pos h16]
      obtain ⟨w, hz⟩ := H16 (zxs E (nI (6 * i) + (1 : Int32)).toNatClampNeg) (zxs E (nI (6 * i) + (2 : Int32)).toNatClampNeg) (zxs E (nI (6 * i) + (3 : Int32)).toNatClampNeg)
      refine ⟨v1, v2, v3, hz.mono (fun o M1 h => ?_)⟩
      obtain ⟨rfl, hz⟩ := h
      show Z E YX0_law 2048 M1 (zlw (nI (6 * i))) 755 [vl w] zQ1
      refine sX0_law_755 M1 (nI (6 * i)) w ⟨v1, v2, v3, hz.mono (fun o M2 h => ?_)⟩
      obtain ⟨rfl, hR'⟩ := h
      show Z E YX0_law 2048 M2 (zlw (nI (6 * i))) 777 [vl w, vl w] zQ1
      refine sX0_law_777 M2 (nI (6 * i)) w w ?_
      rw [if_pos (lg_cmp_self w)]
      exact next M2 hR'
    rw [if_neg h16]
    by_cases h17 : (zxs E (nI (6 * i)).toNatClampNeg &&& (31 : Int32)) = 17
    · rw [if_pos h17]
      obtain ⟨w, hz⟩ := H17 (zxs E (nI (6 * i) + (1 : Int32)).toNatClampNeg) (zxs E (nI (6 * i) + (2 : Int32)).toNatClampNeg) (zxs E (nI (6 * i) + (3 : Int32)).toNatClampNeg) (zxs E (nI (6 * i) + (4 : Int32)).toNatClampNeg)
      refine ⟨v1, v2, v3, v4, hz.mono (fun o M1 h => ?_)⟩
      obtain ⟨rfl, hz⟩ := h
      show Z E YX0_law 2048 M1 (zlw (nI (6 * i))) 811 [vl w] zQ1
      refine sX0_law_811 M1 (nI (6 * i)) w ⟨v1, v2, v3, v4, hz.mono (fun o M2 h => ?_)⟩
      obtain ⟨rfl, hR'⟩ := h
      show Z E YX0_law 2048 M2 (zlw (nI (6 * i))) 839 [vl w, vl w] zQ1
      refine sX0_law_839 M2 (nI (6 * i)) w w ?_
      rw [if_pos (lg_cmp_self w)]
      exact next M2 hR'
    rw [if_neg h17]
    by_cases h18 : (zxs E (nI (6 * i)).toNatClampNeg &&& (31 : Int32)) = 18
    · rw [if_pos h18]
      obtain ⟨w, hz⟩ := H18 (zxs E (nI (6 * i) + (1 : Int32)).toNatClampNeg) (zxs E (nI (6 * i) + (2 : Int32)).toNatClampNeg) (zxs E (nI (6 * i) + (3 : Int32)).toNatClampNeg)
      refine ⟨v1, v2, v3, hz.mono (fun o M1 h => ?_)⟩
      obtain ⟨rfl, hz⟩ := h
      show Z E YX0_law 2048 M1 (zlw (nI (6 * i))) 867 [vl w] zQ1
      refine sX0_law_867 M1 (nI (6 * i)) w ⟨v1, v2, v3, hz.mono (fun o M2 h => ?_)⟩
      obtain ⟨rfl, hR'⟩ := h
      show Z E YX0_law 2048 M2 (zlw (nI (6 * i))) 889 [vl w, vl w] zQ1
      refine sX0_law_889 M2 (nI (6 * i)) w w ?_
      rw [if_pos (lg_cmp_self w)]
      exact next M2 hR'
    rw [if_neg h18]
    by_cases h19 : (zxs E (nI (6 * i)).toNatClampNeg &&& (31 : Int32)) = 19
    · rw [if_pos h19]
      obtain ⟨w, hz⟩ := H19 (zxs E (nI (6 * i) + (1 : Int32)).toNatClampNeg) (zxs E (nI (6 * i) + (2 : Int32)).toNatClampNeg) (zxs E (nI (6 * i) + (3 : Int32)).toNatClampNeg)
      refine ⟨v1, v2, v3, hz.mono (fun o M1 h => ?_)⟩
      obtain ⟨rfl, hz⟩ := h
      show Z E YX0_law 2048 M1 (zlw (nI (6 * i))) 917 [vl w] zQ1
      refine sX0_law_917 M1 (nI (6 * i)) w ⟨v1, v2, v3, hz.mono (fun o M2 h => ?_)⟩
      obtain ⟨rfl, hR'⟩ := h
      show Z E YX0_law 2048 M2 (zlw (nI (6 * i))) 939 [vl w, vl w] zQ1
      refine sX0_law_939 M2 (nI (6 * i)) w w ?_
      rw [if_pos (lg_cmp_self w)]
      exact next M2 hR'
    rw [if_neg h19]
    by_cases h20 : (zxs E (nI (6 * i)).toNatClampNeg &&& (31 : Int32)) = 20
    · rw [if_pos h20]
      obtain ⟨w, hz⟩ := H20 (zxs E (nI (6 * i) + (1 : Int32)).toNatClampNeg)
      refine ⟨v1, hz.mono (fun o M1 h => ?_)⟩
      obtain ⟨rfl, hz⟩ := h
      show Z E YX0_law 2048 M1 (zlw (nI (6 * i))) 955 [vi w] zQ1
      refine sX0_law_955 M1 (nI (6 * i)) w ⟨v1, hz.mono (fun o M2 h => ?_)⟩
      obtain ⟨rfl, hR'⟩ := h
      show Z E YX0_law 2048 M2 (zlw (nI (6 * i))) 965 [vi w, vi w] zQ1
      refine sX0_law_965 M2 (nI (6 * i)) w w ?_
      rw [if_pos rfl]
      exact next M2 hR'
    rw [if_neg h20]
    exact next M Hs
/-- both constructors, and the answers' cell -/
def zmade (E : zE) (Rl : Nat → zM → Prop) : Prop := Z E YX1_init 2047 (zn zM0 97) [(0, zX16)] 0 [] (fun o M1 => o = .inl none ∧ zsz M1 = 97 ∧ Z E YX8_init 2047 (zn M1 151) [(0, zX97)] 0 [] (fun o M2 => o = .inl none ∧ zsz M2 = 189 ∧ Rl 0 (zn M2 1)))
theorem zlaw_start {E : zE} {Rl : Nat → zM → Prop} (hL : zxl E ≤ 384) (hend : ∀ (i : Nat) (M : zM), i ≤ 64 → Rl i M → zsz M ≤ 558422 ∧ zsu M ≤ 7426261) (H : zall E Rl) (K : zmade E Rl) : Z E zlaw 2048 zM0 [(0, vr (some (0, 109, 0)))] 0 [] zQ1 := by
  refine z_new (Y := YX0_law) dX0_law_0 csX0_8 zff_0 ?_
  refine z_dup dX0_law_3 rfl ?_
  refine z_callI (Y := YX0_law) (d' := 2047) (as := []) (st := [zX16]) dX0_law_4 isX0_24 (Nat.le_refl _) (Nat.le_of_ble_eq_true rfl) (Nat.le_of_ble_eq_true rfl) rfl ?_
  refine K.mono (fun o M1 h => ?_)
  obtain ⟨rfl, h97, K2⟩ := h
  show Z E YX0_law 2048 M1 [(0, vr (some (0, 109, 0)))] 7 [zX16] zQ1
  refine z_ast_n dX0_law_7 rfl (by decide) (lv' := [(0, vr (some (0, 109, 0))), (1, zX16)]) rfl ?_
  refine z_new (Y := YX0_law) dX0_law_8 csX0_25 zff_1 ?_
  rw [h97]
  refine z_dup dX0_law_11 rfl ?_
  refine z_callI (Y := YX0_law) (d' := 2047) (as := []) (st := [zX97]) dX0_law_12 isX0_27 (Nat.le_refl _) (Nat.le_of_ble_eq_true rfl) (Nat.le_of_ble_eq_true rfl) rfl ?_
  refine K2.mono (fun o M2 h => ?_)
  obtain ⟨rfl, h189, hR⟩ := h
  show Z E YX0_law 2048 M2 [(0, vr (some (0, 109, 0))), (1, zX16)] 15 [zX97] zQ1
  refine z_ast_n dX0_law_15 rfl (by decide) (lv' := [(0, vr (some (0, 109, 0))), (1, zX16), (2, zX97)]) rfl ?_
  refine z_iconst (v := 1) dX0_law_16 rfl ?_
  refine z_newa (q := 5) (N := 1) dX0_law_17 rfl (by decide) q755 (by decide) (by decide) (by decide) ?_
  rw [h189]
  refine z_ast_n dX0_law_19 rfl (by decide) (lv' := [(0, vr (some (0, 109, 0))), (1, zX16), (2, zX97), (3, zX189)]) rfl ?_
  refine z_iconst (v := 0) dX0_law_20 rfl ?_
  refine z_ist dX0_law_21 (by decide) (lv' := zlw 0) rfl ?_
  exact zlaw_loop hL hend H 64 0 _ rfl (by decide) hR
