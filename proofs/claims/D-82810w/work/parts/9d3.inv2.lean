/-! THE HEAP's INVARIANT: each operation's end -/
theorem mval_lt {A : mA} {k : Nat} {v : Int32} (hk : k < 6) : mval A (nI k) v := ⟨⟨k, rfl, by omega, by omega, by omega⟩, fun h => absurd h (by rw [nn_eql (by omega) (by omega)]; omega)⟩
theorem mval_6 {A : mA} {j : Nat} (hj : j < (aL A).length) : mval A 6 (nI j) := ⟨⟨6, rfl, by omega, fun _ => ⟨j, rfl, hj⟩, by omega⟩, fun h => absurd h (by decide)⟩
theorem mtv_lt (b : Bool) : ∃ k : Nat, (mtv b).1 = nI k ∧ k < 6 := by
  cases b with
  | false => exact ⟨3, rfl, by omega⟩
  | true => exact ⟨2, rfl, by omega⟩
theorem mbi_lt (L : List (List Int32)) (how s v t w : Int32) : ∃ k : Nat, (mbi L how s v t w).1 = nI k ∧ k < 6 := by
  unfold mbi
  split
  · split
    · cases mnV L s v with
      | none => exact ⟨4, rfl, by omega⟩
      | some a =>
        cases mnV L t w with
        | none => exact ⟨4, rfl, by omega⟩
        | some b =>
          unfold mo3
          dsimp only
          split
          · exact ⟨4, rfl, by omega⟩
          · exact ⟨5, rfl, by omega⟩
    · exact ⟨5, rfl, by omega⟩
  · split
    · exact mtv_lt _
    · split
      · exact mtv_lt _
      · exact mtv_lt _
theorem mun_lt (L : List (List Int32)) (how s v : Int32) : ∃ k : Nat, (mun L how s v).1 = nI k ∧ k < 6 := by
  unfold mun
  split
  · exact mtv_lt _
  · split
    · exact ⟨5, rfl, by omega⟩
    · cases mnV L s v with
      | none => exact ⟨4, rfl, by omega⟩
      | some n =>
        unfold mo1
        dsimp only
        split <;> exact ⟨5, rfl, by omega⟩
theorem mty_lt (s c : Int32) : ∃ k : Nat, mty s c = nI k ∧ k < 31 := by
  unfold mty
  repeat' split
  all_goals first | exact ⟨19, rfl, by omega⟩ | exact ⟨20, rfl, by omega⟩ | exact ⟨21, rfl, by omega⟩ | exact ⟨22, rfl, by omega⟩ | exact ⟨23, rfl, by omega⟩ | exact ⟨24, rfl, by omega⟩
section
variable {A A' B : mA} {G : mG} {par : Nat → Nat}
theorem mval_j {s v : Int32} (h : mval A s v) (h7 : s = 7) : ∃ j : Nat, v = nI j ∧ j < aO A ∧ ¬ gi (aT A) 141 j = 3 := h.2 h7
theorem jv_get {s v ks kv : Int32} (j : J G par A) (h1 : mval A s v) (h2 : mval A ks kv) : jv G par A (m_get A s v ks kv) := by
  have h23 := j.2.2.2.1.1
  have hob := j.1.1.1.2
  unfold m_get
  cases e : a_text A ks kv with
  | none => exact jv_2 gro.rf j.1
  | some y =>
    obtain ⟨k, A1⟩ := y
    dsimp only
    obtain ⟨j1, g1, hk⟩ := J_text j h2.1 e
    have h23' := j1.2.2.2.1.1
    have hob' := j1.1.1.1.2
    refine jv_tr g1 ?_
    have h1' := g1.val h1
    split
    · exact jv_err j1 (by omega)
    · split
      · rename_i c7
        obtain ⟨o, eo, ho, -⟩ := mval_j h1' c7
        rw [eo, nn_cl (by omega)]
        exact jv_get1 j1 ho
      · split
        · split
          · exact jv_id j1 (mval_lt (k := 5) (by omega))
          · exact jv_get1 j1 (by omega)
        · exact jv_id j1 mval_0
theorem jv_put {s v ks kv ws wv : Int32} (j : J G par A) (h1 : mval A s v) (h2 : mval A ks kv) (h3 : mval A ws wv) : jv G par A (m_put3 A s v ks kv ws wv) := by
  unfold m_put3
  cases e : a_text A ks kv with
  | none => exact jv_2 gro.rf j.1
  | some y =>
    obtain ⟨k, A1⟩ := y
    dsimp only
    obtain ⟨j1, g1, hk⟩ := J_text j h2.1 e
    have hob' := j1.1.1.1.2
    refine jv_tr g1 ?_
    have h1' := g1.val h1
    have h3' := g1.val h3
    by_cases c1 : s ≤ 1
    · rw [if_pos c1]; exact jv_err j1 (by omega)
    rw [if_neg c1]
    by_cases c7 : s = 7
    · rw [if_pos c7]
      obtain ⟨o, eo, ho, hn3⟩ := mval_j h1' c7
      rw [eo, nn_cl (by omega)]
      by_cases c2 : gi (aT A1) 141 o = 2 ∧ k = 0
      · rw [if_pos c2]; exact jv_id j1 h3'
      rw [if_neg c2]
      cases ea : a_set A1 o (nI k) ws wv with
      | mk b A2 =>
        cases b with
        | false =>
          dsimp only
          rw [gro_setF ea]; exact jv_2 gro.rf j1.1
        | true =>
          dsimp only
          obtain ⟨j2, g2, eO⟩ := J_set j1 ho hk h3' (by
            by_cases k0 : k = 0
            · exact .inr (fun z => c2 ⟨z, k0⟩)
            · exact .inl k0) ea
          have h3'' := g2.val h3'
          refine jv_tr g2 ?_
          split
          · rename_i c3
            have e141 : gi (aT A2) 141 o = 2 := ((g2.2.2 o ho).1 141 (by omega)).trans c3.1
            rcases mix_or (mtx (aL A1) (nI k)) with x | ⟨n, en, hn⟩
            · exact absurd x c3.2.1
            · rw [en, show nI n + 1 = nI (n + 1) from nn_add n 1]
              obtain ⟨j3, g3⟩ := J_len (n := n + 1) j2 (show o < aO A2 by omega) e141 (by omega)
              exact jv_to g3 j3 (g3.val h3'')
          · exact jv_id j2 h3''
    · rw [if_neg c7]; exact jv_id j1 h3'
theorem jv_del {s v ks kv : Int32} (j : J G par A) (h1 : mval A s v) (h2 : mval A ks kv) : jv G par A (m_del A s v ks kv) := by
  unfold m_del
  cases e : a_text A ks kv with
  | none => exact jv_2 gro.rf j.1
  | some y =>
    obtain ⟨k, A1⟩ := y
    dsimp only
    obtain ⟨j1, g1, hk⟩ := J_text j h2.1 e
    have hob' := j1.1.1.1.2
    refine jv_tr g1 ?_
    have h1' := g1.val h1
    by_cases c1 : s ≤ 1
    · rw [if_pos c1]; exact jv_err j1 (by omega)
    rw [if_neg c1]
    by_cases c7 : s = 7
    · rw [if_pos c7]
      obtain ⟨o, eo, ho, hn3⟩ := mval_j h1' c7
      rw [eo, nn_cl (by omega)]
      by_cases c2 : gi (aT A1) 141 o = 2 ∧ k = 0
      · rw [if_pos c2]; exact jv_id j1 (mval_lt (k := 3) (by omega))
      rw [if_neg c2]
      obtain ⟨j2, g2⟩ := J_rem j1 ho hn3 hk (by
        by_cases k0 : k = 0
        · exact .inr (fun z => c2 ⟨z, k0⟩)
        · exact .inl k0)
      exact jv_to g2 j2 (mval_lt (k := 2) (by omega))
    · rw [if_neg c7]; exact jv_id j1 (mval_lt (k := 2) (by omega))
theorem jv_in {s v ks kv : Int32} (j : J G par A) (h1 : mval A s v) (h2 : mval A ks kv) : jv G par A (m_in A ks kv s v) := by
  unfold m_in
  cases e : a_text A ks kv with
  | none => exact jv_2 gro.rf j.1
  | some y =>
    obtain ⟨k, A1⟩ := y
    dsimp only
    obtain ⟨j1, g1, hk⟩ := J_text j h2.1 e
    refine jv_tr g1 ?_
    split
    · split
      · exact jv_id j1 (mval_lt (k := 3) (by omega))
      · exact jv_id j1 (mval_lt (k := 2) (by omega))
    · exact jv_err j1 (by omega)
theorem jv_inst {s v fs fv : Int32} (j : J G par A) : jv G par A (m_inst A s v fs fv) := by
  unfold m_inst
  split
  · split
    · exact jv_err j (by omega)
    · split
      · split
        · exact jv_id j (mval_lt (k := 2) (by omega))
        · exact jv_id j (mval_lt (k := 3) (by omega))
      · exact jv_err j (by omega)
  · exact jv_err j (by omega)
theorem jv_mk {w : List Int32} {k : Nat} {L' : List (List Int32)} (j : J G par A) (hw : ∀ c ∈ w, c7 c) (e : mmk (aL A) w = some (k, L')) : jv G par A (0, (aT A, L', aO A, aP A, aF A), 6, nI k) := by
  obtain ⟨m1, m2, m3, r, m4⟩ := mmk_ok j.1.2.1 hw e
  have hl : (aL A).length ≤ L'.length := by rw [m4, List.length_append]; omega
  have i' : iA (aT A, L', aO A, aP A, aF A) := iA_L j.1 m1 hl
  have g : gro A (aT A, L', aO A, aP A, aF A) := ⟨Nat.le_refl _, ⟨r, m4⟩, fun o ho => ⟨fun _ _ => rfl, .inl rfl, fun _ x hx => hx⟩⟩
  exact jv_to g (J_gro0 j g i' (iL_cg j.2.1 rfl rfl rfl) (fun o h1 h2 => by have : o < aO A := h2; omega)) (mval_6 m2)
theorem jv_cat {s v t w : Int32} (j : J G par A) (h1 : mval A s v) (h2 : mval A t w) : jv G par A (m_cat A s v t w) := by
  unfold m_cat
  cases e : mmk (aL A) (mText (aL A) s v ++ mText (aL A) t w) with
  | none => exact jv_2 gro.rf j.1
  | some y =>
    obtain ⟨k, L'⟩ := y
    dsimp only
    exact jv_mk j (fun c hc => (List.mem_append.mp hc).elim ((mText_at j.1.2.1 h1.1).2 c) ((mText_at j.1.2.1 h2.1).2 c)) e
theorem jv_bin {how s v t w : Int32} (j : J G par A) (h1 : mval A s v) (h2 : mval A t w) : jv G par A (m_bin A how s v t w) := by
  unfold m_bin
  split
  · exact jv_in j h2 h1
  · split
    · exact jv_inst j
    · split
      · exact jv_cat j h1 h2
      · obtain ⟨k, e, hk⟩ := mbi_lt (aL A) how s v t w
        refine ⟨gro.rf, j.1, fun _ => ⟨j, ?_⟩⟩
        show mval A (mbi (aL A) how s v t w).1 (mbi (aL A) how s v t w).2
        rw [e]; exact mval_lt hk
theorem jv_un {how s v : Int32} (j : J G par A) : jv G par A (m_un A how s v) := by
  have h31 := j.1.2.1.1
  unfold m_un
  split
  · obtain ⟨k, e, hk⟩ := mty_lt s (gi (aT A) 141 v.toNatClampNeg)
    rw [e]; exact jv_id j (mval_6 (by omega))
  · obtain ⟨k, e, hk⟩ := mun_lt (aL A) how s v
    refine ⟨gro.rf, j.1, fun _ => ⟨j, ?_⟩⟩
    show mval A (mun (aL A) how s v).1 (mun (aL A) how s v).2
    rw [e]; exact mval_lt hk
theorem jv_own {o : Nat} {x : Int32} (j : J G par A) (ho : o < aO A) (h : ¬ m_own A o x = -1) : jv G par A (m_val A (m_own A o x)) := by
  rcases m_own_or j.1 ho x with e | ⟨q, hq, q3, e⟩
  · exact absurd e h
  · rw [e]; exact jv_prop j ho hq
theorem jv_glob {x : Int32} (j : J G par A) : jv G par A (m_glob A x) := by
  have h23 := j.2.2.2.1.1
  unfold m_glob
  split
  · exact jv_err j (by omega)
  · rename_i h; exact jv_own j (by omega) h
theorem jv_tglob {x : Int32} (j : J G par A) : jv G par A (m_tglob A x) := by
  have h31 := j.1.2.1.1
  unfold m_tglob
  split
  · exact jv_id j (mval_6 (j := 19) (by omega))
  · obtain ⟨k, e, hk⟩ := mty_lt (gi (aT A) 146 (m_own A 0 x).toNatClampNeg) (gi (aT A) 141 (gi (aT A) 147 (m_own A 0 x).toNatClampNeg).toNatClampNeg)
    rw [e]; exact jv_id j (mval_6 (by omega))
/-- a value is set in an object that is no array -/
theorem jv_set1 {o jx : Nat} {s v : Int32} (j : J G par A) (ho : o < aO A) (h2 : ¬ gi (aT A) 141 o = 2) (hx : jx < (aL A).length) (hv : mval A s v) : jv G par A (match a_set A o (nI jx) s v with | (false, A') => (2, A', 0, 0) | (true, A') => (0, A', s, v)) := by
  cases ea : a_set A o (nI jx) s v with
  | mk b A2 =>
    cases b with
    | false => dsimp only; rw [gro_setF ea]; exact jv_2 gro.rf j.1
    | true =>
      dsimp only
      obtain ⟨j2, g2, eO⟩ := J_set j ho hx hv (.inr h2) ea
      exact jv_to g2 j2 (g2.val hv)
theorem jv_obj {pp : Nat} (j : J G par A) (hpp : pp < 160) (hpar : 29 ≤ pp → (pp - 29) % 2 = 0) : jv G par A (m_obj A pp) := by
  have h23 := j.2.2.2.1.1
  have hob := j.1.1.1.2
  unfold m_obj
  split
  · exact jv_2 gro.rf j.1
  · rename_i h
    obtain ⟨j', g⟩ := J_new (pr := 1) (st := 0) (lk := -1) (lb := pp) j (by omega) (.inr ⟨1, rfl, by omega⟩) hpp hpar ⟨by decide, by decide, by decide⟩
    refine jv_to g j' (mval_7 (Nat.lt_succ_self _) ?_)
    rw [a_new_srt _ _ _ _ _ _ _ (by omega), if_pos rfl]; decide
end
