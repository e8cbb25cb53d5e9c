/-! NEW OBJECTS -/
/-- labels of both: by its pair, an object's label is that of the latest, or the older one -/
def hL (M T : zM) (ob : Nat) : Prop := ∀ o, o < ob → ∃ pr : Nat, gi M 40 o = nI pr ∧ pr < 160 ∧ (29 ≤ pr → (pr - 29) % 2 = 0) ∧ (gi T 138 o = if pr < 29 then nI pr else if gi M 45 pr = nI o then nI pr else nI (pr + 1)) ∧ (o < 299 → gi M 39 o = if pr < 29 ∧ gi T 141 o = 1 then - nI o else gi T 142 o)
theorem hL_cg {M M' T T' : zM} {ob : Nat} (h : hL M T ob) (e : ∀ a k, a = 39 ∨ a = 40 ∨ a = 45 → gi M' a k = gi M a k) (e' : ∀ a k, a = 138 ∨ a = 141 ∨ a = 142 → gi T' a k = gi T a k) : hL M' T' ob := fun o ho => by
  obtain ⟨pr, r1, r2, r3, r4, r5⟩ := h o ho
  exact ⟨pr, (e 40 _ (by omega)).trans r1, r2, r3, by rw [e 45 _ (by omega), e' 138 _ (by omega)]; exact r4, by rw [e 39 _ (by omega), e' 141 _ (by omega), e' 142 _ (by omega)]; exact r5⟩
/-- a new object of the twin's: its proto, label, sort -/
def newT (T T' : zM) (ob : Nat) (pr : Int32) (lb : Nat) (st : Int32) : Prop :=
  gi T' 97 76 = nI (ob + 1) ∧ (∀ k, gi T' 138 k = if k = ob then nI lb else if k < ob ∧ 29 ≤ lb ∧ gi T 138 k = nI lb then nI (lb + 1) else gi T 138 k) ∧ (∀ k, gi T' 139 k = if k = ob then pr else gi T 139 k) ∧ (∀ k, gi T' 140 k = if k = ob then -1 else gi T 140 k) ∧
  (∀ k, gi T' 141 k = if k = ob then st else gi T 141 k) ∧ (∀ k, gi T' 142 k = if k = ob then 0 else gi T 142 k) ∧ (∀ k, gi T' 143 k = if k = ob then -1 else gi T 143 k) ∧ (∀ k, gi T' 144 k = if k = ob then -1 else gi T 144 k) ∧ fr (fun a k => 138 ≤ a ∧ a ≤ 144 ∨ a = 97 ∧ k = 76) T T'
def x_new (M : zM) (ob : Nat) (st : Int32) (pp : Nat) (pr lk : Int32) : zM :=
  si (si (si (si (si (si (si (si (si M 16 26 (nI (ob + 1))) 38 ob st) 39 ob 0) 40 ob (nI pp)) 41 ob pr) 42 ob lk) 43 ob (-1)) 44 ob (-1)) 45 pp (nI ob)
theorem x_new_fr (M : zM) (ob : Nat) (st : Int32) (pp : Nat) (pr lk : Int32) : fr (fun a k => 38 ≤ a ∧ a ≤ 45 ∨ a = 16 ∧ k = 26) M (x_new M ob st pp pr lk) := by
  unfold x_new
  refine fr.tr (fr.tr (fr.tr (fr.tr (fr.tr (fr.tr (fr.tr (fr.tr (fr.si ?_) (fr.si ?_)) (fr.si ?_)) (fr.si ?_)) (fr.si ?_)) (fr.si ?_)) (fr.si ?_)) (fr.si ?_)) (fr.si ?_) <;> omega
theorem x_new_at (M : zM) (ob : Nat) (st : Int32) (pp : Nat) (pr lk : Int32) (k : Nat) : gi (x_new M ob st pp pr lk) 38 k = (if k = ob then st else gi M 38 k) ∧ gi (x_new M ob st pp pr lk) 39 k = (if k = ob then 0 else gi M 39 k) ∧ gi (x_new M ob st pp pr lk) 40 k = (if k = ob then nI pp else gi M 40 k) ∧ gi (x_new M ob st pp pr lk) 41 k = (if k = ob then pr else gi M 41 k) ∧ gi (x_new M ob st pp pr lk) 42 k = (if k = ob then lk else gi M 42 k) ∧
    gi (x_new M ob st pp pr lk) 43 k = (if k = ob then -1 else gi M 43 k) ∧ gi (x_new M ob st pp pr lk) 44 k = (if k = ob then -1 else gi M 44 k) ∧ gi (x_new M ob st pp pr lk) 45 k = (if k = pp then nI ob else gi M 45 k) ∧ gi (x_new M ob st pp pr lk) 16 26 = nI (ob + 1) := by
  unfold x_new
  simp [gi_si]
section
variable {T T' M : zM} {ob : Nat} {ps : Nat → List Nat} {fl : List Nat} {pr st lk : Int32} {lb : Nat}
theorem hT_new (h : hT T ob ps fl) (hob : ob < 300) (n : newT T T' ob pr lb st) : hT T' (ob + 1) (fun i => if i = ob then [] else ps i) fl := by
  obtain ⟨⟨h1, h2⟩, ⟨g1, g2, g3, g4, g5⟩, H⟩ := h
  obtain ⟨n0, n1, n2, n3, n4, n5, n6, n7, n8⟩ := n
  have e149 : gi T' 149 = gi T 149 := funext fun k => (n8.2 149 k (by omega)).1
  refine ⟨⟨n0, by omega⟩, ⟨(n8.2 97 84 (by omega)).1.trans g1, g2, ?_, g4, g5⟩, fun o ho => ?_⟩
  · rw [e149, (n8.2 97 85 (by omega)).1]; exact g3
  · dsimp only
    by_cases e : o = ob
    · rw [if_pos e, n6, n7, if_pos e, if_pos e]
      exact ⟨rfl, rfl, by simp, ⟨fun q hq => absurd hq (by simp), fun _ _ _ q hq => absurd hq (by simp)⟩⟩
    · rw [if_neg e, n6, n7, if_neg e, if_neg e, e149]
      obtain ⟨d1, d2, d3, d4, d5⟩ := H o (by omega)
      refine ⟨d1, d2, d3, d4, fun o' ho' hne q hq => ?_⟩
      by_cases e' : o' = ob
      · rw [if_pos e']; simp
      · rw [if_neg e']; exact d5 o' (by omega) hne q hq
theorem hT_140 (h : hT T ob ps fl) (k : Nat) (v : Int32) : hT (si T 140 k v) ob ps fl := by
  have e : ∀ a j, a ≠ 140 → gi (si T 140 k v) a j = gi T a j := fun a j ha => gi_oth ha
  have e149 : gi (si T 140 k v) 149 = gi T 149 := funext fun j => e 149 j (by decide)
  obtain ⟨⟨h1, h2⟩, ⟨g1, g2, g3, g4, g5⟩, H⟩ := h
  refine ⟨⟨(e _ _ (by decide)).trans h1, h2⟩, ⟨(e _ _ (by decide)).trans g1, g2, by rw [e149, e _ _ (by decide)]; exact g3, g4, g5⟩, fun o ho => ?_⟩
  obtain ⟨d1, d2, d3⟩ := H o ho
  exact ⟨by rw [e149, e _ _ (by decide)]; exact d1, (e _ _ (by decide)).trans d2, d3⟩
theorem hX_new {pp : Nat} (h : hT T ob ps fl) (g : hX M T ob ps fl) (n : newT T T' ob pr lb st) : hX (x_new M ob st pp pr lk) (si T' 140 ob lk) (ob + 1) (fun i => if i = ob then [] else ps i) fl := by
  obtain ⟨⟨b1, b2⟩, ⟨sp, m, s1, s2, s3, s4⟩, b3, b4⟩ := g
  obtain ⟨n0, n1, n2, n3, n4, n5, n6, n7, n8⟩ := n
  have f := x_new_fr M ob st pp pr lk
  have e47 : gi (x_new M ob st pp pr lk) 47 = gi M 47 := funext fun k => (f.2 47 k (by omega)).1
  refine ⟨⟨(x_new_at M ob st pp pr lk 0).2.2.2.2.2.2.2.2, ?_⟩, ⟨sp, m, s1, s2, ?_, (f.2 16 27 (by omega)).1.trans s4⟩, fun o ho => ?_, fun o ho q hq => ?_⟩
  · rw [(f.2 16 29 (by omega)).1, gi_oth (by decide), (n8.2 97 86 (by omega)).1]; exact b2
  · rw [e47, (f.2 16 28 (by omega)).1]; exact s3
  · obtain ⟨x1, x2, x3, x4, x5, x6, x7, x8, x9⟩ := x_new_at M ob st pp pr lk o
    have q1 : ∀ a, a ≠ 140 → gi (si T' 140 ob lk) a o = gi T' a o := fun a ha => gi_oth ha
    rw [x1, x4, x5, x6, x7, q1 141 (by decide), q1 139 (by decide), q1 143 (by decide), q1 144 (by decide), n4, n2, n6, n7]
    by_cases e : o = ob
    · subst e
      simp [gi_si]
    · rw [gi_idx e, n3]
      simp only [if_neg e]
      exact b3 o (by omega)
  · dsimp only at hq
    by_cases e : o = ob
    · rw [if_pos e] at hq; cases hq
    · rw [if_neg e] at hq
      rw [(f.2 46 q (by omega)).1, (f.2 47 q (by omega)).1, (f.2 48 q (by omega)).1, (f.2 49 q (by omega)).1, (f.2 50 q (by omega)).1, gi_oth (by decide), gi_oth (by decide), gi_oth (by decide), gi_oth (by decide), gi_oth (by decide), (n8.2 145 q (by omega)).1, (n8.2 149 q (by omega)).1, (n8.2 146 q (by omega)).1, (n8.2 147 q (by omega)).1, (n8.2 148 q (by omega)).1]
      exact b4 o (by omega) q hq
theorem hL_new {pp : Nat} (l : hL M T ob) (hob : ob < 300) (hpp : pp < 160) (hpar : 29 ≤ pp → (pp - 29) % 2 = 0) (hc : st = 1 → 29 ≤ pp) (n : newT T T' ob pr pp st) : hL (x_new M ob st pp pr lk) (si T' 140 ob lk) (ob + 1) := by
  obtain ⟨n0, n1, -, -, n4, n5, -⟩ := n
  intro o ho
  obtain ⟨x1, x2, x3, x4, x5, x6, x7, x8, x9⟩ := x_new_at M ob st pp pr lk o
  by_cases e : o = ob
  · refine ⟨pp, by rw [x3, if_pos e], hpp, hpar, ?_, fun _ => ?_⟩
    · rw [gi_oth (by decide), n1, if_pos e, (x_new_at M ob st pp pr lk pp).2.2.2.2.2.2.2.1, if_pos rfl, e, if_pos rfl]
      simp
    · rw [x2, if_pos e, gi_oth (by decide), gi_oth (by decide), n4, n5, if_pos e, if_pos e, if_neg (fun z => by have := hc z.2; omega)]
  · obtain ⟨r, r1, r2, r3, r4, r5⟩ := l o (by omega)
    refine ⟨r, by rw [x3, if_neg e]; exact r1, r2, r3, ?_, by rw [x2, if_neg e, gi_oth (by decide), gi_oth (by decide), n4, n5, if_neg e, if_neg e]; exact r5⟩
    rw [gi_oth (by decide), n1, if_neg e, (x_new_at M ob st pp pr lk r).2.2.2.2.2.2.2.1, r4]
    by_cases hr : r < 29
    · simp only [if_pos hr]
      rw [if_neg (fun w => by have := w.2.2; rw [nn_eq (by omega) (by omega)] at this; omega)]
    · simp only [if_neg hr]
      by_cases hrp : r = pp
      · subst hrp
        rw [if_pos rfl, if_neg (show ¬ nI ob = nI o by rw [nn_eq (by omega) (by omega)]; omega)]
        by_cases hl : gi M 45 r = nI o
        · rw [if_pos hl, if_pos ⟨by omega, by omega, rfl⟩]
        · rw [if_neg hl, if_neg (fun w => by have := w.2.2; rw [nn_eq (by omega) (by omega)] at this; omega)]
      · rw [if_neg hrp]
        have := r3 (by omega)
        by_cases hl : gi M 45 r = nI o
        · rw [if_pos hl, if_neg (fun w => by have := w.2.2; rw [nn_eq (by omega) (by omega)] at this; omega)]
        · rw [if_neg hl, if_neg (fun w => by have h3 := w.2.2; have h4 := hpar w.2.1; rw [nn_eq (by omega) (by omega)] at h3; omega)]
end
section
variable {E : zE} {d : Nat} {T M : zM} {Q : zO → zM → Prop} {ob : Nat}
/-- newObject of the twin -/
theorem tm_new {pr st : Int32} {lb : Nat} (h1 : gi T 97 76 = nI ob) (h2 : ob ≤ 300) (hlb : lb < 200) (hQ1 : ob = 300 → Q (.inl (some (vi 0))) (si T 97 75 1)) (hQ2 : ∀ T', ob < 300 → newT T T' ob pr lb st → Q (.inl (some (vi (nI ob)))) T') :
    Zm E YX8_newObject d T [(0, T97), (1, vi pr), (2, vi (nI lb)), (3, vi st)] 0 [] Q := by
  refine sX8_newObject_0 T _ _ _ ?_
  rw [h1]
  by_cases h300 : ob = 300
  · rw [if_pos (by rw [h300]; rfl)]; exact hQ1 h300
  rw [if_neg (by simp (disch := omega) only [nn_add, nn_addl, nn_ladd, nn_mul, nn_lmul, nn_mull, nn_sub, nn_subl, nn_lsub, nn_lt, nn_le, nn_eq, nn_ltl, nn_llt, nn_lel, nn_lle, nn_eql, nn_leq, nn_m1, nn_1m, nn_ltm, nn_mlt, nn_mle, nn_lem, nn_cl, nn_in, nn_ns, nn_ns2, nn_nb, nn_nb2, nn_s1, nn_s2, nn_b1, nn_b2]; exact h300)]
  -- after j objects
  have fin : ∀ T1 : zM, fr (fun a k => a = 138 ∧ k < ob) T T1 → (∀ k, gi T1 138 k = if k < ob ∧ 29 ≤ lb ∧ gi T 138 k = nI lb then nI (lb + 1) else gi T 138 k) → Q (.inl (some (vi (nI ob)))) (si (si (si (si (si (si (si (si T1 97 76 (nI (ob + 1))) 138 ob (nI lb)) 139 ob pr) 140 ob (-1)) 141 ob st) 142 ob 0) 143 ob (-1)) 144 ob (-1)) := fun T1 f hk => by
    refine hQ2 _ (by omega) ⟨?_, fun k => ?_, fun k => ?_, fun k => ?_, fun k => ?_, fun k => ?_, fun k => ?_, fun k => ?_, ?_⟩
    · simp [gi_si]
    · by_cases e : k = ob <;> simp [gi_si, e, hk]
    · have := (f.2 139 k (by omega)).1
      by_cases e : k = ob <;> simp [gi_si, e, this]
    · have := (f.2 140 k (by omega)).1
      by_cases e : k = ob <;> simp [gi_si, e, this]
    · have := (f.2 141 k (by omega)).1
      by_cases e : k = ob <;> simp [gi_si, e, this]
    · have := (f.2 142 k (by omega)).1
      by_cases e : k = ob <;> simp [gi_si, e, this]
    · have := (f.2 143 k (by omega)).1
      by_cases e : k = ob <;> simp [gi_si, e, this]
    · have := (f.2 144 k (by omega)).1
      by_cases e : k = ob <;> simp [gi_si, e, this]
    · refine (f.mono (P' := fun a k => 138 ≤ a ∧ a ≤ 144 ∨ a = 97 ∧ k = 76) (fun a k q => by omega)).tr ?_
      refine fr.tr (fr.tr (fr.tr (fr.tr (fr.tr (fr.tr (fr.tr (fr.si ?_) (fr.si ?_)) (fr.si ?_)) (fr.si ?_)) (fr.si ?_)) (fr.si ?_)) (fr.si ?_)) (fr.si ?_) <;> omega
  have loop : ∀ (n j : Nat) (T1 : zM), ob - j = n → j ≤ ob → fr (fun a k => a = 138 ∧ k < ob) T T1 → (∀ k, gi T1 138 k = if k < j ∧ 29 ≤ lb ∧ gi T 138 k = nI lb then nI (lb + 1) else gi T 138 k) → Zm E YX8_newObject d T1 [(0, T97), (1, vi pr), (2, vi (nI lb)), (3, vi st), (4, vi (nI j))] 20 [] Q := by
    intro n
    induction n with
    | zero =>
      intro j T1 hn hj f hk
      have hj : j = ob := by omega
      subst hj
      have e76 : gi T1 97 76 = nI j := (f.2 97 76 (by omega)).1.trans h1
      refine iX8_newObject_20 T1 _ _ _ _ ?_
      rw [e76]
      simp (disch := omega) only [nn_add, nn_addl, nn_ladd, nn_mul, nn_lmul, nn_mull, nn_sub, nn_subl, nn_lsub, nn_lt, nn_le, nn_eq, nn_ltl, nn_llt, nn_lel, nn_lle, nn_eql, nn_leq, nn_m1, nn_1m, nn_ltm, nn_mlt, nn_mle, nn_lem, nn_cl, nn_in, nn_ns, nn_ns2, nn_nb, nn_nb2, nn_s1, nn_s2, nn_b1, nn_b2]
      by_cases h29 : lb < 29
      · rw [if_pos h29]; exact ⟨by omega, fin T1 f hk⟩
      · rw [if_neg h29, if_pos (Nat.le_refl _)]; exact ⟨by omega, fin T1 f hk⟩
    | succ n ih =>
      intro j T1 hn hj f hk
      have e76 : gi T1 97 76 = nI ob := (f.2 97 76 (by omega)).1.trans h1
      refine iX8_newObject_20 T1 _ _ _ _ ?_
      rw [e76]
      simp (disch := omega) only [nn_add, nn_addl, nn_ladd, nn_mul, nn_lmul, nn_mull, nn_sub, nn_subl, nn_lsub, nn_lt, nn_le, nn_eq, nn_ltl, nn_llt, nn_lel, nn_lle, nn_eql, nn_leq, nn_m1, nn_1m, nn_ltm, nn_mlt, nn_mle, nn_lem, nn_cl, nn_in, nn_ns, nn_ns2, nn_nb, nn_nb2, nn_s1, nn_s2, nn_b1, nn_b2]
      by_cases h29 : lb < 29
      · rw [if_pos h29]
        exact ⟨by omega, fin T1 f (fun k => by rw [hk k, if_neg (by omega), if_neg (by omega)])⟩
      · rw [if_neg h29, if_neg (by omega)]
        refine ⟨by omega, ?_⟩
        have ej : gi T1 138 j = gi T 138 j := by rw [hk j, if_neg (by omega)]
        by_cases hl : gi T1 138 j = nI lb
        · rw [if_pos hl]
          refine ih (j + 1) _ (by omega) (by omega) (f.tr (fr.si ⟨rfl, by omega⟩)) (fun k => ?_)
          rw [gi_si, if_pos rfl]
          by_cases e : k = j
          · rw [if_pos e, e, if_pos ⟨by omega, by omega, by rw [← ej]; exact hl⟩]
          · rw [if_neg e, hk k]
            by_cases c : k < j ∧ 29 ≤ lb ∧ gi T 138 k = nI lb
            · rw [if_pos c, if_pos ⟨by omega, c.2⟩]
            · rw [if_neg c, if_neg (fun w => c ⟨by omega, w.2⟩)]
        · rw [if_neg hl, si_id]
          refine ih (j + 1) _ (by omega) (by omega) f (fun k => ?_)
          rw [hk k]
          by_cases c : k < j ∧ 29 ≤ lb ∧ gi T 138 k = nI lb
          · rw [if_pos c, if_pos ⟨by omega, c.2⟩]
          · rw [if_neg c, if_neg (fun w => ?_)]
            by_cases e : k = j
            · rw [e] at w; exact hl (ej.trans w.2.2)
            · exact c ⟨by omega, w.2⟩
  exact loop ob 0 T rfl (by omega) fr.rf (fun k => by rw [if_neg (by omega)])
/-- born of the component -/
theorem xm_born {ks pp : Nat} {pr lk : Int32} (hw : cw M) (h1 : gi M 16 26 = nI ob) (h2 : ob ≤ 300) (hks : ks < 4) (hpp : pp < 160) (hpr : vp_nar .short pr.toInt16.toInt32 = pr) (hlk : vp_nar .short lk.toInt16.toInt32 = lk) (hQ1 : ob = 300 → Q (.inr (51, 13, 0)) M) (hQ2 : ob < 300 → Q (.inl (some (vi (nI ob)))) (x_new M ob (nI ks) pp pr lk)) :
    Z E YX1_born d M [(0, zX16), (1, vi (nI ks)), (2, vi (nI pp)), (3, vi pr), (4, vi lk)] 0 [] Q := by
  refine iX1_born_0 M _ _ _ _ hw ?_
  rw [h1]
  by_cases h300 : ob = 300
  · rw [if_pos (by rw [h300]; rfl)]; exact hQ1 h300
  rw [if_neg (by simp (disch := omega) only [nn_add, nn_addl, nn_ladd, nn_mul, nn_lmul, nn_mull, nn_sub, nn_subl, nn_lsub, nn_lt, nn_le, nn_eq, nn_ltl, nn_llt, nn_lel, nn_lle, nn_eql, nn_leq, nn_m1, nn_1m, nn_ltm, nn_mlt, nn_mle, nn_lem, nn_cl, nn_in, nn_ns, nn_ns2, nn_nb, nn_nb2, nn_s1, nn_s2, nn_b1, nn_b2]; exact h300), hpr, hlk]
  simp (disch := omega) only [nn_add, nn_addl, nn_ladd, nn_mul, nn_lmul, nn_mull, nn_sub, nn_subl, nn_lsub, nn_lt, nn_le, nn_eq, nn_ltl, nn_llt, nn_lel, nn_lle, nn_eql, nn_leq, nn_m1, nn_1m, nn_ltm, nn_mlt, nn_mle, nn_lem, nn_cl, nn_in, nn_ns, nn_ns2, nn_nb, nn_nb2, nn_s1, nn_s2, nn_b1, nn_b2]
  exact ⟨by omega, hpp, hQ2 (by omega)⟩
end
