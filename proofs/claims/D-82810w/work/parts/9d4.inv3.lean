/-! THE HEAP's INVARIANT: arrays, functions, scopes, natives -/
theorem m_app_cell (T : zM) (o p : Nat) (x s v : Int32) (q : Nat) : gi (m_app T o p x s v) 145 q = (if q = p then x else gi T 145 q) ∧ gi (m_app T o p x s v) 146 q = (if q = p then s else gi T 146 q) ∧ gi (m_app T o p x s v) 147 q = (if q = p then v else gi T 147 q) := by
  unfold m_app
  dsimp only
  by_cases h1 : gi T 144 o = -1
  · rw [if_pos h1]
    refine ⟨?_, ?_, ?_⟩ <;> simp [gi_si]
  · rw [if_neg h1]
    refine ⟨?_, ?_, ?_⟩ <;> simp [gi_si]
section
variable {A A' B : mA} {G : mG} {par : Nat → Nat}
/-- a new array gets its length -/
theorem iL_arr {o : Nat} (i : iA A) (ho : o < aO A) (hP : aP A o = []) (hl : ∀ z, z < aO A → ¬ z = o → gi (aT A) 141 z = 2 → ∃ q ∈ aP A z, fnd (gi (aT A) 145) 0 (aP A z) = nI q ∧ gi (aT A) 146 q = 5 ∧ ∃ n : Nat, gi (aT A) 147 q = nI n ∧ n ≤ 100) (ea : a_set A o 0 5 0 = (true, A')) : iL A' := by
  obtain ⟨eL, eO, eT⟩ := a_set_cells i ho ea
  rcases a_set_eq i ho ea with ⟨p, p1, p2, p3, rfl⟩ | ⟨p, fl, p1, rfl⟩
  · rw [hP] at p1; cases p1
  · intro z hz h2
    have hz' : z < aO A := hz
    have h2' : gi (aT A) 141 z = 2 := (eT 141 z (by omega)).symm.trans h2
    show ∃ q ∈ (if z = o then aP A o ++ [p] else aP A z), fnd (gi (m_app (aT A) o p 0 5 0) 145) 0 (if z = o then aP A o ++ [p] else aP A z) = nI q ∧ gi (m_app (aT A) o p 0 5 0) 146 q = 5 ∧ ∃ n : Nat, gi (m_app (aT A) o p 0 5 0) 147 q = nI n ∧ n ≤ 100
    obtain ⟨c1, c2, c3⟩ := m_app_cell (aT A) o p 0 5 0 p
    rw [if_pos rfl] at c1 c2 c3
    by_cases e : z = o
    · rw [if_pos e, hP]
      refine ⟨p, by simp, ?_, c2, 0, c3, by omega⟩
      show fnd (gi (m_app (aT A) o p 0 5 0) 145) 0 [p] = nI p
      unfold fnd
      rw [if_pos c1]
    · rw [if_neg e]
      obtain ⟨q, q1, q2, q3, q4⟩ := hl z hz' e h2'
      have hne : ∀ w ∈ aP A z, ¬ w = p := fun w hw e => by
        have := ((i.1.2.2 z hz').2.2.2.1 w hw).2
        rw [p1, e] at this
        exact this List.mem_cons_self
      obtain ⟨d1, d2, d3⟩ := m_app_cell (aT A) o p 0 5 0 q
      rw [if_neg (hne q q1)] at d1 d2 d3
      refine ⟨q, q1, ?_, d2.trans q3, by rw [d3]; exact q4⟩
      rw [fnd_cg (nm := gi (aT A) 145) (fun w hw => by rw [(m_app_cell (aT A) o p 0 5 0 w).1, if_neg (hne w hw)])]
      exact q2
theorem jv_arr {pp : Nat} (j : J G par A) (hpp : pp < 160) (hpar : 29 ≤ pp → (pp - 29) % 2 = 0) : jv G par A (m_arr A pp) := by
  have h23 := j.2.2.2.1.1
  have hob := j.1.1.1.2
  unfold m_arr
  by_cases h : aO A = 300
  · rw [if_pos h]; exact jv_2 gro.rf j.1
  rw [if_neg h]
  have g1 : gro A (a_new A 3 pp 2 (-1)) := gro_new hpp hpar
  have i1 : iA (a_new A 3 pp 2 (-1)) := iA_new j.1 (by omega) (.inr ⟨3, rfl, by omega⟩) (by omega)
  cases ea : a_set (a_new A 3 pp 2 (-1)) (aO A) 0 5 0 with
  | mk b A2 =>
    cases b with
    | false => dsimp only; rw [gro_setF ea]; exact jv_2 g1 i1
    | true =>
      dsimp only
      have ho : aO A < aO (a_new A 3 pp 2 (-1)) := Nat.lt_succ_self _
      have g2 := gro_set i1 ho ea
      have ea' : a_set (a_new A 3 pp 2 (-1)) (aO A) (nI 0) 5 0 = (true, A2) := ea
      obtain ⟨i2, eL, eO, eT⟩ := iA_set i1 ho (by show 0 < (aL A).length; have := j.1.2.1.1; omega) (mval_lt (k := 5) (by omega)) ea'
      have l2 : iL A2 := by
        refine iL_arr i1 ho ?_ (fun z hz hne h2 => ?_) ea
        · show (if aO A = aO A then [] else _) = _
          rw [if_pos rfl]
        · have hz' : z < aO A := by have : z < aO A + 1 := hz; omega
          rw [a_new_srt _ _ _ _ _ _ _ (by omega), if_neg hne] at h2
          obtain ⟨q, q1, q2, q3, q4⟩ := j.2.1 z hz' h2
          have e : ∀ a k, a = 145 ∨ a = 146 ∨ a = 147 → gi (m_new (aT A) (aO A) 3 pp 2 (-1)) a k = gi (aT A) a k := fun a k h => by
            rw [m_new_at]
            rcases h with h | h | h <;> subst h <;> simp
          have e145 : gi (m_new (aT A) (aO A) 3 pp 2 (-1)) 145 = gi (aT A) 145 := funext fun k => e 145 k (by omega)
          show ∃ q ∈ (if z = aO A then [] else aP A z), fnd (gi (m_new (aT A) (aO A) 3 pp 2 (-1)) 145) 0 (if z = aO A then [] else aP A z) = nI q ∧ gi (m_new (aT A) (aO A) 3 pp 2 (-1)) 146 q = 5 ∧ ∃ n : Nat, gi (m_new (aT A) (aO A) 3 pp 2 (-1)) 147 q = nI n ∧ n ≤ 100
          rw [if_neg hne, e145]
          exact ⟨q, q1, q2, (e 146 q (by omega)).trans q3, by rw [e 147 q (by omega)]; exact q4⟩
      have g := g1.tr g2
      have eO' : aO A2 = aO A + 1 := eO
      have es : gi (aT A2) 141 (aO A) = 2 := by rw [eT 141 _ (by omega), a_new_srt _ _ _ _ _ _ _ (by omega), if_pos rfl]; rfl
      refine jv_to g (J_gro0 j g i2 l2 (fun o h1 h2 => ?_)) (mval_7 (by omega) (by rw [es]; decide))
      have : o = aO A := by omega
      rw [this, es]; exact ⟨by decide, by decide⟩
theorem iL_code {o : Nat} {g : Int32} (l : iL A) : iL (a_code A o g) := by
  intro z hz h2
  have e : ∀ a k, a ≠ 142 → gi (aT (a_code A o g)) a k = gi (aT A) a k := fun a k q => gi_oth q
  have e145 : gi (aT (a_code A o g)) 145 = gi (aT A) 145 := funext fun k => e 145 k (by decide)
  rw [e 141 _ (by decide)] at h2
  obtain ⟨q, q1, q2, q3, q4⟩ := l z hz h2
  exact ⟨q, q1, by rw [e145]; exact q2, by rw [e 146 _ (by decide)]; exact q3, by rw [e 147 _ (by decide)]; exact q4⟩
theorem jv_fun {g : Nat} {q : Nat × Nat × List Nat × Int32} {lk : Int32} (j : J G par A) (hg1 : 1 ≤ g) (hg : G[g]? = some q) (hpp : 29 + 6 * (g - 1) + 4 < 160) (hlk : lkOK A G lk (par g)) : jv G par A (m_fun A g lk) := by
  have h23 := j.2.2.2.1.1
  have hob := j.1.1.1.2
  have h31 := j.1.2.1.1
  unfold m_fun
  by_cases h : aO A = 300
  · rw [if_pos h]; exact jv_2 gro.rf j.1
  rw [if_neg h]
  obtain ⟨i1, i2'⟩ := a_fun_iA (g := g) (lk := lk) j.1 (by omega) (by omega) hpp
  have g1 : gro A (a_fun1 A g lk) := gro_code (Nat.le_refl _) (gro_new (by omega) (fun _ => by omega))
  by_cases h9 : aO A = 299
  · rw [if_pos h9]; exact jv_2 g1 i1
  rw [if_neg h9]
  obtain ⟨i2, v2, v1⟩ := i2' (by omega)
  have g12 : gro (a_fun1 A g lk) (a_fun2 A g lk) := gro_new (by omega) (fun _ => by omega)
  have g2 := g1.tr g12
  have e1 : ∀ a, a = 140 ∨ a = 141 ∨ a = 142 → gi (aT (a_fun1 A g lk)) a (aO A) = if a = 140 then lk else if a = 141 then 1 else nI g := fun a ha => by
    show gi (si (aT (a_new A 2 (29 + 6 * (g - 1) + 2) 1 lk)) 142 (aO A) (nI g)) a (aO A) = _
    rcases ha with e | e | e <;> subst e
    · rw [gi_oth (by decide), a_new_srt _ _ _ _ _ _ _ (by omega), if_pos rfl]; rfl
    · rw [gi_oth (by decide), a_new_srt _ _ _ _ _ _ _ (by omega), if_pos rfl]; rfl
    · rw [gi_self]; rfl
  have l138 : gi (aT (a_fun1 A g lk)) 138 (aO A) = nI (29 + 6 * (g - 1) + 2) := by
    show gi (si (aT (a_new A 2 (29 + 6 * (g - 1) + 2) 1 lk)) 142 (aO A) (nI g)) 138 (aO A) = _
    rw [gi_oth (by decide)]
    show gi (m_new (aT A) (aO A) 2 (29 + 6 * (g - 1) + 2) 1 lk) 138 (aO A) = _
    rw [m_new_at]
    simp
  have e2 : gi (aT (a_fun2 A g lk)) 141 (aO A) = 1 := ((g12.2.2 (aO A) (Nat.lt_succ_self _)).1 141 (by omega)).trans (e1 141 (by omega))
  have e3 : gi (aT (a_fun2 A g lk)) 141 (aO A + 1) = 0 := by
    show gi (aT (a_new (a_fun1 A g lk) 1 (29 + 6 * (g - 1) + 4) 0 (-1))) 141 (aO A + 1) = 0
    rw [a_new_srt _ _ _ _ _ _ _ (by omega), if_pos (show aO A + 1 = aO (a_fun1 A g lk) from rfl)]; rfl
  have l2 : iL (a_fun2 A g lk) := iL_new (iL_code (iL_new j.2.1 (by decide))) (by decide)
  have hL2 : (aL (a_fun2 A g lk)).length = (aL A).length := rfl
  cases ea : a_set (a_fun2 A g lk) (aO A) 1 7 (nI (aO A + 1)) with
  | mk b A3 =>
    cases b with
    | false => dsimp only; rw [gro_setF ea]; exact jv_2 g2 i2
    | true =>
      dsimp only
      have ho : aO A < aO (a_fun2 A g lk) := by show aO A < aO A + 1 + 1; omega
      have ea' : a_set (a_fun2 A g lk) (aO A) (nI 1) 7 (nI (aO A + 1)) = (true, A3) := ea
      obtain ⟨i3, eL3, eO3, eT3⟩ := iA_set i2 ho (by omega) v2 ea'
      have g3 := gro_set i2 ho ea
      have l3 : iL A3 := iL_set i2 l2 ho (by omega) (.inl (by omega)) ea'
      have eO3' : aO A3 = aO A + 1 + 1 := eO3
      cases eb : a_set A3 (aO A + 1) 2 7 (nI (aO A)) with
      | mk b A4 =>
        cases b with
        | false => dsimp only; rw [gro_setF eb]; exact jv_2 (g2.tr g3) i3
        | true =>
          dsimp only
          have ho4 : aO A + 1 < aO A3 := by omega
          have eb' : a_set A3 (aO A + 1) (nI 2) 7 (nI (aO A)) = (true, A4) := eb
          have v3 := g3.val v1
          obtain ⟨i4, eL4, eO4, eT4⟩ := iA_set i3 ho4 (by rw [eL3]; omega) v3 eb'
          have g4 := gro_set i3 ho4 eb
          have l4 : iL A4 := iL_set i3 l3 ho4 (by rw [eL3]; omega) (.inl (by omega)) eb'
          have g14 := (g12.tr g3).tr g4
          have gA := (g2.tr g3).tr g4
          obtain ⟨k1, k2, -⟩ := g14.2.2 (aO A) (Nat.lt_succ_self _)
          have s0 : gi (aT A4) 141 (aO A) = 1 := (k1 141 (by omega)).trans (e1 141 (by omega))
          have s1 : gi (aT A4) 141 (aO A + 1) = 0 := (eT4 141 _ (by omega)).trans ((eT3 141 _ (by omega)).trans e3)
          have eO4' : aO A4 = aO A + 1 + 1 := eO4.trans eO3'
          refine jv_to gA (J_gro j gA i4 l4 (fun f h1 h2 h3 => ?_) (fun o g' h1 h2 => ?_)) (g4.val v3)
          · have hf : f = aO A ∨ f = aO A + 1 := by omega
            rcases hf with e | e
            · subst e
              refine ⟨h23, by omega, ⟨g, q, hg, hg1, (k1 142 (by omega)).trans (e1 142 (by omega)), ?_⟩, ?_⟩
              · rw [(k1 140 (by omega)).trans (e1 140 (by omega))]
                exact lkOK_gro gA hlk
              · rw [l138] at k2
                rcases k2 with e | ⟨lb, l1, l2, l3, l4, l5⟩
                · exact ⟨_, e, by omega, by omega⟩
                · exact ⟨lb + 1, l5, by omega, by omega⟩
            · rw [e, s1] at h3; exact absurd h3 (by decide)
          · have hf : o = aO A ∨ o = aO A + 1 := by have := h2.1; omega
            rcases hf with e | e
            · rw [e] at h2; have := h2.2.1; rw [s0] at this; exact absurd this (by decide)
            · rw [e] at h2; have := h2.2.1; rw [s1] at this; exact absurd this (by decide)
theorem jv_vars {q : Nat × Nat × List Nat × Int32} {f sc : Nat} {as : List mC} : ∀ (vs : List Nat) (k : Nat) (B : mA), iA B → iL B → sc < aO B → gi (aT B) 141 sc = 3 → (∀ x ∈ vs, x < (aL B).length) → (∀ c ∈ as, mval B c.1 c.2.1) → mval B 7 (nI f) → ∀ b B', m_vars q f sc as vs k B = (b, B') → gro B B' ∧ iA B' ∧ iL B' ∧ aO B' = aO B ∧ (∀ o y, o < aO B → has B o y → has B' o y) ∧ (b = true → ∀ x ∈ vs, has B' sc (nI x))
  | [], _, B, i, l, _, _, _, _, _, b, B', e => by
    unfold m_vars at e
    obtain ⟨rfl, rfl⟩ := Prod.mk.inj e
    exact ⟨gro.rf, i, l, rfl, fun _ _ _ h => h, fun _ x hx => by cases hx⟩
  | x :: vs, k, B, i, l, hsc, h3, hx, hv, hf, b, B', e => by
    unfold m_vars at e
    have hval : mval B (m_sv q f as k x).1 (m_sv q f as k x).2 := m_sv_ok hv hf
    cases ea : a_set B sc (nI x) (m_sv q f as k x).1 (m_sv q f as k x).2 with
    | mk b1 B1 =>
      rw [ea] at e
      cases b1 with
      | false =>
        dsimp only at e
        obtain ⟨rfl, rfl⟩ := Prod.mk.inj e
        rw [gro_setF ea]
        exact ⟨gro.rf, i, l, rfl, fun _ _ _ h => h, fun z => absurd z (by decide)⟩
      | true =>
        dsimp only at e
        obtain ⟨i1, eL, eO, eT⟩ := iA_set i hsc (hx x List.mem_cons_self) hval ea
        have g1 := gro_set i hsc ea
        have l1 : iL B1 := iL_set i l hsc (hx x List.mem_cons_self) (.inr (by rw [h3]; decide)) ea
        obtain ⟨r1, r2, r3, r4, r5, r6⟩ := jv_vars vs (k + 1) B1 i1 l1 (by omega) ((eT 141 sc (by omega)).trans h3) (fun y hy => by rw [eL]; exact hx y (List.mem_cons_of_mem _ hy)) (fun c hc => g1.val (hv c hc)) (g1.val hf) b B' e
        refine ⟨g1.tr r1, r2, r3, r4.trans eO, fun o y ho h => r5 o y (by omega) (has_set i hsc ea ho h), fun hb y hy => ?_⟩
        rcases List.mem_cons.mp hy with e' | e'
        · rw [e']; exact r5 sc _ (by omega) (has_put i hsc ea)
        · exact r6 hb y e'
/-- a function is entered: the heap then, its scope -/
theorem jv_ent {f g : Nat} {q : Nat × Nat × List Nat × Int32} {as : List mC} (j : J G par A) (hg1 : 1 ≤ g) (hg : G[g]? = some q) (hf : f < aO A) (hf1 : gi (aT A) 141 f = 1) (hlk : lkOK A G (gi (aT A) 140 f) (par g)) (hv : ∀ c ∈ as, mval A c.1 c.2.1) {b : Bool} {B' : mA} (e : m_ent A f g q as = (b, B')) : gro A B' ∧ iA B' ∧ (b = true → J G par B' ∧ isSc B' G (aO A) g) := by
  have h23 := j.2.2.2.1.1
  have hob := j.1.1.1.2
  obtain ⟨w1, w2, w3⟩ := j.2.2.1.2
  have hgl : g < G.length := (List.getElem?_eq_some_iff.mp hg).1
  unfold m_ent at e
  by_cases h : aO A = 300
  · rw [if_pos h] at e
    obtain ⟨rfl, rfl⟩ := Prod.mk.inj e
    exact ⟨gro.rf, j.1, fun z => absurd z (by decide)⟩
  rw [if_neg h] at e
  have g1 : gro A (a_new A (-1) (29 + 6 * (g - 1)) 3 (gi (aT A) 140 f)) := gro_new (by omega) (fun _ => by omega)
  have i1 : iA (a_new A (-1) (29 + 6 * (g - 1)) 3 (gi (aT A) 140 f)) := iA_new j.1 (by omega) (.inl rfl) (by omega)
  have l1 : iL (a_new A (-1) (29 + 6 * (g - 1)) 3 (gi (aT A) 140 f)) := iL_new j.2.1 (by decide)
  have c1 : ∀ a, a = 140 ∨ a = 141 ∨ a = 142 → gi (aT (a_new A (-1) (29 + 6 * (g - 1)) 3 (gi (aT A) 140 f))) a (aO A) = if a = 140 then gi (aT A) 140 f else if a = 141 then 3 else 0 := fun a ha => by
    rw [a_new_srt _ _ _ _ _ _ _ ha, if_pos rfl]
  have l138 : gi (aT (a_new A (-1) (29 + 6 * (g - 1)) 3 (gi (aT A) 140 f))) 138 (aO A) = nI (29 + 6 * (g - 1)) := by
    show gi (m_new (aT A) (aO A) (-1) (29 + 6 * (g - 1)) 3 (gi (aT A) 140 f)) 138 (aO A) = _
    rw [m_new_at]
    simp
  have hsc : aO A < aO (a_new A (-1) (29 + 6 * (g - 1)) 3 (gi (aT A) 140 f)) := Nat.lt_succ_self _
  have hq := w3 q (List.mem_of_getElem? hg)
  obtain ⟨r1, r2, r3, r4, r5, r6⟩ := jv_vars q.2.2.1 0 _ i1 l1 hsc (c1 141 (by omega)) hq.2.2.2 (fun c hc => g1.val (hv c hc)) (g1.val (mval_7 hf (by rw [hf1]; decide))) b B' e
  have gA := g1.tr r1
  have eO : aO B' = aO A + 1 := r4
  refine ⟨gA, r2, fun hb => ?_⟩
  obtain ⟨k1, k2, -⟩ := r1.2.2 (aO A) hsc
  have s3 : gi (aT B') 141 (aO A) = 3 := (k1 141 (by omega)).trans (c1 141 (by omega))
  have slab : gi (aT B') 138 (aO A) = nI (29 + 6 * (g - 1)) ∨ gi (aT B') 138 (aO A) = nI (29 + 6 * (g - 1) + 1) := by
    rw [l138] at k2
    rcases k2 with e | ⟨lb, m1, m2, m3, m4, m5⟩
    · exact .inl e
    · rw [nn_eq (by omega) (by omega)] at m4
      right; rw [m5, ← m4]
  refine ⟨J_gro j gA r2 r3 (fun f' h1 h2 h3 => ?_) (fun o g' h1 h2 => ?_), by omega, s3, hg1, ⟨hgl, by omega⟩, slab⟩
  · have : f' = aO A := by omega
    rw [this, s3] at h3; exact absurd h3 (by decide)
  · have eo : o = aO A := by have := h2.1; omega
    subst eo
    obtain ⟨-, -, t1, t2, t3⟩ := h2
    have egg : g' = g := by
      rcases slab with a | a <;> rcases t3 with b | b <;> rw [a, nn_eq (by omega) (by omega)] at b <;> omega
    subst egg
    refine ⟨fun q' hq' x hx => ?_, ?_⟩
    · rw [hg] at hq'; cases hq'
      exact r6 hb x hx
    · rw [(k1 140 (by omega)).trans (c1 140 (by omega))]
      exact lkOK_gro gA hlk
end
