/-! THE MACHINE: BINARY, UNARY -/
def m_cat (A : mA) (s v t w : Int32) : mE := match mmk (aL A) (mText (aL A) s v ++ mText (aL A) t w) with
  | none => (2, A, 0, 0)
  | some (k, L') => (0, (aT A, L', aO A, aP A, aF A), 6, nI k)
noncomputable def m_bin (A : mA) (how s v t w : Int32) : mE :=
  if how = 19 then m_in A s v t w else if how = 20 then m_inst A s v t w
  else if mjt how s t = true then m_cat A s v t w else (0, A, mbi (aL A) how s v t w)
theorem mo3_ok (how : Int32) (a b : Option Int32) : ∃ k : Nat, (mo3 how a b).1 = nI k ∧ k < 8 := by
  cases a with
  | none => exact ⟨4, rfl, by omega⟩
  | some a =>
    cases b with
    | none => exact ⟨4, rfl, by omega⟩
    | some b =>
      unfold mo3
      dsimp only
      split
      · exact ⟨4, rfl, by omega⟩
      · exact ⟨5, rfl, by omega⟩
theorem mtv_ok (b : Bool) : ∃ k : Nat, (mtv b).1 = nI k ∧ k < 8 := by
  cases b with
  | false => exact ⟨3, rfl, by omega⟩
  | true => exact ⟨2, rfl, by omega⟩
theorem mbi_ok (L : List (List Int32)) (how s v t w : Int32) : ∃ k : Nat, (mbi L how s v t w).1 = nI k ∧ k < 8 := by
  unfold mbi
  split
  · split
    · exact mo3_ok ..
    · exact ⟨5, rfl, by omega⟩
  · split
    · exact mtv_ok _
    · split
      · exact mtv_ok _
      · exact mtv_ok _
theorem mun_ok (L : List (List Int32)) (how s v : Int32) : ∃ k : Nat, (mun L how s v).1 = nI k ∧ k < 8 := by
  unfold mun
  split
  · exact mtv_ok _
  · split
    · exact ⟨5, rfl, by omega⟩
    · cases mnV L s v with
      | none => exact ⟨4, rfl, by omega⟩
      | some n =>
        unfold mo1
        dsimp only
        split <;> exact ⟨5, rfl, by omega⟩
section
variable {E : zE} {d : Nat} {T M : zM} {Q : zO → zM → Prop} {A : mA} {r : mF} {F : List mF}
theorem gT_scr {T' : zM} (h : gT T A (r :: F)) (ok : mFok (r :: F)) (f : fr scr T T') : gT T' A (r :: F) :=
  ⟨sT_cg h.1 f (fun a k q => .inl q), tFs_cg h.2.1 ok f (fun a k q => .inl q), (f.2 97 75 (by unfold scr; omega)).1.trans h.2.2.1, (f.2 97 73 (by unfold scr; omega)).1.trans h.2.2.2⟩
/-- gives when the value lies there already -/
theorem vT_0' {p : mE} {n : Nat} {s v : Int32} (hQ : vT Q T p n r F) (e : p = (0, A, s, v)) (h : gT T A (r :: F)) (ok : mFok (r :: F)) (hn : n ≤ r.st.length) (hs : ¬ s = 8) (e1 : gi T 97 111 = s) (e2 : gi T 97 112 = v) :
    Zm E YX8_gives (d + 2) T [(0, T97), (1, vi (nI n))] 0 [] Q := by
  have := vT_0 (E := E) (d := d) hQ e h ok hn hs
  have eT : si (si T 97 111 s) 97 112 v = T := by rw [← e1, si_id, ← e2, si_id]
  rw [eT] at this
  exact this
/-- gives when there was no room -/
theorem tm_givesN {n : Int32} (h75 : gi T 97 75 = 1) (hQ : Q (.inl none) T) : Zm E YX8_gives (d + 1) T [(0, T97), (1, vi n)] 0 [] Q := by
  refine iX8_gives_0 T _ ?_
  rw [h75, if_neg (by decide)]
  exact hQ
theorem tm_binary {h : Nat} {c1 c2 : mC} {st : List mC} (g : gT T A (r :: F)) (i : iA A) (ok : mFok (r :: F)) (hh : mTh (r :: F)) (hr : r.st = c1 :: c2 :: st) (v1 : mval A c1.1 c1.2.1) (v2 : mval A c2.1 c2.2.1) (hhow : h < 21) (hQ : vT Q T (m_bin A (nI h) c2.1 c2.2.1 c1.1 c1.2.1) 2 r F) : Zm E YX8_binary_2 (d + 6) T [(0, T97), (1, vi (nI h))] 0 [] Q := by
  obtain ⟨hs, hf, h75, h73⟩ := id g
  obtain ⟨n1, n2, n3, n4⟩ := tFs_nums hf
  obtain ⟨g0, g1, g2, g3, g4⟩ := mFok_hd ok
  have hl : 2 ≤ r.st.length := by rw [hr]; simp
  obtain ⟨a1, a2⟩ := t_cell hf (i := 0) (c := c1) (by rw [hr]; rfl)
  obtain ⟨b1, b2⟩ := t_cell hf (i := 1) (c := c2) (by rw [hr]; rfl)
  refine iX8_binary_2_0 T _ ?_
  rw [n1]
  simp (disch := omega) only [n3, a1, a2, b1, b2, nn_add, nn_addl, nn_ladd, nn_mul, nn_lmul, nn_mull, nn_sub, nn_subl, nn_lsub, nn_lt, nn_le, nn_eq, nn_ltl, nn_llt, nn_lel, nn_lle, nn_eql, nn_leq, nn_m1, nn_1m, nn_ltm, nn_mlt, nn_mle, nn_lem, nn_cl, nn_in, nn_ns, nn_ns2, nn_nb, nn_nb2, nn_s1, nn_s2, nn_b1, nn_b2]
  refine ⟨by omega, by omega, by omega, ?_⟩
  unfold m_bin at hQ
  by_cases h19 : h = 19
  · rw [if_pos (by rw [h19]; rfl)] at hQ
    rw [if_pos h19]
    exact tm_within (d := d + 1) g i ok hh hl v1 v2 (vT_out hQ (fun T' q => sX8_binary_2_42 T' q))
  rw [if_neg (by simp (disch := omega) only [nn_add, nn_addl, nn_ladd, nn_mul, nn_lmul, nn_mull, nn_sub, nn_subl, nn_lsub, nn_lt, nn_le, nn_eq, nn_ltl, nn_llt, nn_lel, nn_lle, nn_eql, nn_leq, nn_m1, nn_1m, nn_ltm, nn_mlt, nn_mle, nn_lem, nn_cl, nn_in, nn_ns, nn_ns2, nn_nb, nn_nb2, nn_s1, nn_s2, nn_b1, nn_b2]; exact h19)] at hQ
  rw [if_neg h19]
  by_cases h20 : h = 20
  · rw [if_pos (by rw [h20]; rfl)] at hQ
    rw [if_pos h20]
    exact tm_isMadeBy (d := d + 1) g i ok hh hl v1 v2 (vT_out hQ (fun T' q => sX8_binary_2_59 T' q))
  rw [if_neg (by simp (disch := omega) only [nn_add, nn_addl, nn_ladd, nn_mul, nn_lmul, nn_mull, nn_sub, nn_subl, nn_lsub, nn_lt, nn_le, nn_eq, nn_ltl, nn_llt, nn_lel, nn_lle, nn_eql, nn_leq, nn_m1, nn_1m, nn_ltm, nn_mlt, nn_mle, nn_lem, nn_cl, nn_in, nn_ns, nn_ns2, nn_nb, nn_nb2, nn_s1, nn_s2, nn_b1, nn_b2]; exact h20)] at hQ
  rw [if_neg h20]
  have go : ∀ (T1 : zM) p, vT Q T1 p 2 r F → vT (zma E YX8_binary_2 (d + 6) [] 94 3 [] Q) T1 p 2 r F := fun T1 p h => vT_out h (fun T' q => sX8_binary_2_97 T' q)
  by_cases hj : mjt (nI h) c2.1 c1.1 = true
  · rw [if_pos hj] at hQ
    unfold m_cat at hQ
    refine tm_cat (d := d + 1) hs.2 i.2.1 v2.1 v1.1 hj (fun T1 t1 f1 => ?_)
    show Zm E YX8_binary_2 (d + 6) T1 [(0, T97), (1, vi (nI h)), (2, vi c2.1), (4, vi c1.1)] 71 [] Q
    have g1 := gT_scr g ok f1
    have m1 := (mText_at i.2.1 v2.1).2
    have m2 := (mText_at i.2.1 v1.1).2
    have mk : Zm E YX8_made (d + 5) T1 (zargs 0 [T97]) 0 [] (zma E YX8_binary_2 (d + 6) [(0, T97)] 86 3 [vi 6, T97] Q) := by
      refine tm_made g1.1.2 i.2.1 t1 (fun c hc => (List.mem_append.mp hc).elim (m1 c) (m2 c)) (fun k L' T2 e s2 f2 _ => ?_) (fun T2 e f2 => ?_)
      · rw [e] at hQ
        have f2 := f2.sc2
        dsimp only at hQ
        show Zm E YX8_binary_2 (d + 6) T2 [(0, T97)] 89 [vi (nI k), vi 6, T97] Q
        refine iX8_binary_2_89 T2 _ _ ?_
        have g2 : gT T2 (aT A, L', aO A, aP A, aF A) (r :: F) := ⟨⟨fun a k q => (f2.2 a k (by unfold orP scr stT; unfold hpT at q; omega)).1.trans (g1.1.1 a k q), s2⟩, tFs_cg g1.2.1 ok f2 (fun a k q => q.elim .inl (fun q => .inr (.inl q))), (f2.2 97 75 (by unfold orP scr stT; omega)).1.trans g1.2.2.1, (f2.2 97 73 (by unfold orP scr stT; omega)).1.trans g1.2.2.2⟩
        exact vT_0 (n := 2) (go T2 _ (vT_mono hQ (f1.cT1.tr f2.cT2))) rfl g2 ok hl (by decide)
      · rw [e] at hQ
        have f2 := f2.sc
        show Zm E YX8_binary_2 (d + 6) (si T2 97 75 1) [(0, T97)] 89 [vi 0, vi 6, T97] Q
        refine iX8_binary_2_89 _ _ _ ?_
        have f3 : fr (fun a k => scr a k ∨ a = 97 ∧ k = 75) T (si (si (si T2 97 75 1) 97 111 6) 97 112 0) := (((f1.tr f2).mono fun a k q => .inl q).tr (fr.si (.inr ⟨rfl, rfl⟩))).tr (fr_got.mono fun a k q => .inl q)
        have x75 : gi (si (si (si T2 97 75 1) 97 111 6) 97 112 0) 97 75 = 1 := by rw [gi_idx (by decide), gi_idx (by decide), gi_self]
        refine tm_givesN x75 (sX8_binary_2_97 _ ?_)
        exact hQ.2.2 rfl _ (sT_cg hs f3 (fun a k q => q.elim .inl (fun q => .inr (.inr q)))) (tFs_cg hf ok f3 (fun a k q => q.elim .inl (fun q => .inr (.inr (.inr q))))) x75 ((f3.2 97 73 (by unfold scr; omega)).1.trans h73) (f3.mono fun a k q => by unfold cT; exact q.elim (fun q => .inr (.inr (.inl q))) (fun q => .inr (.inr (.inr (.inr q)))))
    refine iX8_binary_2_71 T1 _ _ _ ?_
    unfold mjt at hj
    rw [Bool.and_eq_true, Bool.or_eq_true] at hj
    rw [if_pos (of_decide_eq_true hj.1)]
    by_cases q6 : 6 ≤ c2.1
    · rw [if_pos q6]; exact mk
    · rw [if_neg q6]
      have q7 : 6 ≤ c1.1 := hj.2.elim (fun z => absurd (of_decide_eq_true z) q6) of_decide_eq_true
      rw [if_neg (by rw [i_lt]; exact q7)]
      exact mk
  · rw [if_neg hj] at hQ
    have hjf : mjt (nI h) c2.1 c1.1 = false := by cases hb : mjt (nI h) c2.1 c1.1 with | false => rfl | true => exact absurd hb hj
    refine tm_bin (d := d + 1) hs.2 (fun z hz => (i.2.1.2.2 z hz).2) v2.1 v1.1 ⟨h, rfl, by omega⟩ hjf (fun T1 f1 e1 e2 => ?_)
    show Zm E YX8_binary_2 (d + 6) T1 [(0, T97), (1, vi (nI h)), (2, vi c2.1), (4, vi c1.1)] 71 [] Q
    have g1 := gT_scr g ok f1
    obtain ⟨k, ek, hk⟩ := mbi_ok (aL A) (nI h) c2.1 c2.2.1 c1.1 c1.2.1
    have fin : Zm E YX8_gives (d + 5) T1 (zargs 0 [T97, vi 2]) 0 [] (zma E YX8_binary_2 (d + 6) [] 94 3 [] Q) :=
      vT_0' (n := 2) (s := (mbi (aL A) (nI h) c2.1 c2.2.1 c1.1 c1.2.1).1) (v := (mbi (aL A) (nI h) c2.1 c2.2.1 c1.1 c1.2.1).2) (go T1 _ (vT_mono hQ f1.cT1)) rfl g1 ok hl (by rw [ek, nn_eql (by omega) (by omega)]; omega) e1 e2
    refine iX8_binary_2_71 T1 _ _ _ ?_
    unfold mjt at hjf
    by_cases h0 : nI h = 0
    · rw [if_pos h0]
      rw [decide_eq_true h0, Bool.true_and, Bool.or_eq_false_iff] at hjf
      rw [if_neg (of_decide_eq_false hjf.1), if_pos (by rw [← i_le]; exact of_decide_eq_false hjf.2)]
      exact fin
    · rw [if_neg h0]; exact fin
end
