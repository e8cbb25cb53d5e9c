/-! STRINGS of the machine: made, textOf; string, textOf -/
theorem nohand {Y : zY} {pc : Nat} (e : zYh Y = []) : ∀ h ∈ zYh Y, ¬ (h.1 ≤ pc ∧ pc < h.2.1) := fun h hh => by rw [e] at hh; cases hh
def orP (P P' : Nat → Nat → Prop) (a k : Nat) : Prop := P a k ∨ P' a k
theorem fr.l {P P' : Nat → Nat → Prop} {M M' : zM} (h : fr P M M') : fr (orP P P') M M' := h.mono fun _ _ q => .inl q
theorem fr.r {P P' : Nat → Nat → Prop} {M M' : zM} (h : fr P' M M') : fr (orP P P') M M' := h.mono fun _ _ q => .inr q
/-- a text is kept as a string, cut: its number, and the texts then; none: no room -/
def mmk (L : List (List Int32)) (w : List Int32) : Option (Nat × List (List Int32)) :=
  if w.take 60 ∈ L then some ((tfd 0 L (w.take 60)).toNatClampNeg, L) else if L.length = 400 then none else some (L.length, L ++ [w.take 60])
theorem mmk_ok {L L' : List (List Int32)} {w : List Int32} {k : Nat} (hL : mLok L) (hw : ∀ c ∈ w, c7 c) (h : mmk L w = some (k, L')) : mLok L' ∧ k < L'.length ∧ L'[k]? = some (w.take 60) ∧ ∃ r, L' = L ++ r := by
  unfold mmk at h
  have h60 : (w.take 60).length ≤ 60 := by rw [List.length_take]; omega
  have hc : ∀ c ∈ w.take 60, c7 c := fun c q => hw c (List.mem_of_mem_take q)
  by_cases hm : w.take 60 ∈ L
  · rw [if_pos hm] at h
    obtain ⟨rfl, rfl⟩ := Prod.mk.inj (Option.some.inj h)
    rcases tfd_or L 0 (w.take 60) with ⟨-, q⟩ | ⟨j, q1, q2⟩
    · exact absurd hm q
    · have hj : j < L.length := (List.getElem?_eq_some_iff.mp q1).1
      have := hL.2.1
      rw [q2, Nat.zero_add, nn_cl (by omega)]
      exact ⟨hL, hj, q1, [], by simp⟩
  · rw [if_neg hm] at h
    by_cases h4 : L.length = 400
    · rw [if_pos h4] at h; cases h
    · rw [if_neg h4] at h
      obtain ⟨rfl, rfl⟩ := Prod.mk.inj (Option.some.inj h)
      have := hL.2.1
      refine ⟨⟨?_, ?_, fun x hx => ?_⟩, ?_, ?_, _, rfl⟩
      · have := hL.1; rw [List.length_append]; omega
      · rw [List.length_append]; show L.length + 1 ≤ 400; omega
      · rcases List.mem_append.mp hx with q | q
        · exact hL.2.2 x q
        · rw [show x = w.take 60 from by simpa using q]; exact ⟨h60, hc⟩
      · rw [List.length_append]; show L.length < L.length + 1; omega
      · rw [List.getElem?_append_right (Nat.le_refl _), Nat.sub_self]; rfl
theorem fr.sc2 {T T' : zM} (h : fr (orP sct stT) T T') : fr (orP scr stT) T T' := h.mono fun a k q => q.imp (fun q => by unfold sct at q; unfold scr; omega) id
section
variable {E : zE} {d : Nat} {T M : zM} {Q : zO → zM → Prop} {L : List (List Int32)} {ob : Nat}
theorem tT_take {w : List Int32} (h : tT T w) (hl : 60 ≤ w.length) : tT (si T 97 11 60) (w.take 60) := by
  obtain ⟨h1, h2, h3⟩ := h
  have e : (w.take 60).length = 60 := by rw [List.length_take]; omega
  refine ⟨by rw [gi_self, e]; rfl, by rw [e]; omega, fun k hk => ?_⟩
  rw [e] at hk
  rw [gi_oth (by decide), h3 k (by omega), List.getD_eq_getElem?_getD, List.getD_eq_getElem?_getD, List.getElem?_take, if_pos hk]
theorem stT_fr {M' : zM} (h : fr (fun a k => a = 100 ∨ a = 101 ∨ a = 97 ∧ k = 7) M M') : fr stT M M' := h.mono fun _ _ q => q
/-- made of the twin -/
theorem tm_made {w : List Int32} (hS : tS T L) (hL : mLok L) (hT : tT T w) (hw : ∀ c ∈ w, c7 c)
    (h1 : ∀ k L' T', mmk L w = some (k, L') → tS T' L' → fr (orP sct stT) T T' → (L' = L → fr sct T T') → Q (.inl (some (vi (nI k)))) T')
    (h2 : ∀ T', mmk L w = none → fr sct T T' → Q (.inl (some (vi 0))) (si T' 97 75 1)) : Zm E YX8_made (d + 1) T [(0, T97)] 0 [] Q := by
  have h400 := hL.2.1
  have h60 : (w.take 60).length ≤ 60 := by rw [List.length_take]; omega
  have hc : ∀ c ∈ w.take 60, c7 c := fun c q => hw c (List.mem_of_mem_take q)
  have main : ∀ T1 : zM, tT T1 (w.take 60) → fr sct T T1 → Zm E YX8_findText d T1 (zargs 0 [T97]) 0 [] (zma E YX8_made (d + 1) [(0, T97)] 23 3 [] Q) := fun T1 t1 f => by
    have hS1 := tS_sct hS f
    refine t_findText hS1 t1 ?_
    show Zm E YX8_made (d + 1) T1 [(0, T97)] 26 [vi (tfd 0 L (w.take 60))] Q
    refine sX8_made_26 T1 _ ?_
    rcases tfd_or L 0 (w.take 60) with ⟨q, q'⟩ | ⟨j, q1, q2⟩
    · rw [q, if_pos rfl, hS1.1]
      by_cases h4 : L.length = 400
      · rw [if_pos (by rw [h4]; rfl)]
        exact h2 T1 (by unfold mmk; rw [if_neg q', if_pos h4]) f
      · rw [if_neg (by simp (disch := omega) only [nn_add, nn_addl, nn_ladd, nn_mul, nn_lmul, nn_mull, nn_sub, nn_subl, nn_lsub, nn_lt, nn_le, nn_eq, nn_ltl, nn_llt, nn_lel, nn_lle, nn_eql, nn_leq, nn_m1, nn_1m, nn_ltm, nn_mlt, nn_mle, nn_lem, nn_cl, nn_in, nn_ns, nn_ns2, nn_nb, nn_nb2, nn_s1, nn_s2, nn_b1, nn_b2]; exact h4)]
        refine t_addText hS1 t1 hc (by omega) h60 (fun T2 s2 f2 => ?_)
        show Zm E YX8_made (d + 1) T2 [] 55 [vi (nI L.length)] Q
        refine sX8_made_55 T2 _ ?_
        exact h1 _ _ _ (by unfold mmk; rw [if_neg q', if_neg h4]) s2 (f.l.tr (fr.r (stT_fr f2))) (fun e => by
          have := congrArg List.length e
          rw [List.length_append] at this
          simp at this)
    · have hj : j < L.length := (List.getElem?_eq_some_iff.mp q1).1
      have hm : w.take 60 ∈ L := List.mem_of_getElem? q1
      rw [q2, Nat.zero_add, if_neg (by simp (disch := omega) only [nn_add, nn_addl, nn_ladd, nn_mul, nn_lmul, nn_mull, nn_sub, nn_subl, nn_lsub, nn_lt, nn_le, nn_eq, nn_ltl, nn_llt, nn_lel, nn_lle, nn_eql, nn_leq, nn_m1, nn_1m, nn_ltm, nn_mlt, nn_mle, nn_lem, nn_cl, nn_in, nn_ns, nn_ns2, nn_nb, nn_nb2, nn_s1, nn_s2, nn_b1, nn_b2]; exact fun z => z)]
      exact h1 j L T1 (by unfold mmk; rw [if_pos hm, q2, Nat.zero_add, nn_cl (by omega)]) hS1 f.l (fun _ => f)
  refine sX8_made_0 T ?_
  rw [hT.1]
  have h200 := hT.2.1
  simp (disch := omega) only [nn_add, nn_addl, nn_ladd, nn_mul, nn_lmul, nn_mull, nn_sub, nn_subl, nn_lsub, nn_lt, nn_le, nn_eq, nn_ltl, nn_llt, nn_lel, nn_lle, nn_eql, nn_leq, nn_m1, nn_1m, nn_ltm, nn_mlt, nn_mle, nn_lem, nn_cl, nn_in, nn_ns, nn_ns2, nn_nb, nn_nb2, nn_s1, nn_s2, nn_b1, nn_b2]
  by_cases hl : w.length ≤ 60
  · rw [if_pos hl]
    have e : w.take 60 = w := List.take_of_length_le hl
    have es : si T 97 11 (nI w.length) = T := by rw [← hT.1]; exact si_id T 97 11
    rw [es]
    exact main T (by rw [e]; exact hT) fr.rf
  · rw [if_neg hl]
    exact main _ (tT_take hT (by omega)) (fr.si (Or.inr ⟨rfl, rfl⟩))
/-- textOf of the twin -/
theorem tm_textOf {s v : Int32} (hS : tS T L) (hL : mLok L) (hv : mok L ob s v)
    (h0 : ∀ k : Nat, s = 6 → v = nI k → k < L.length → Q (.inl (some (vi v))) T)
    (h1 : ∀ k L' T', ¬ s = 6 → mmk L (mText L s v) = some (k, L') → tS T' L' → fr (orP sct stT) T T' → (L' = L → fr sct T T') → Q (.inl (some (vi (nI k)))) T')
    (h2 : ∀ T', ¬ s = 6 → mmk L (mText L s v) = none → fr sct T T' → Q (.inl (some (vi 0))) (si T' 97 75 1)) : Zm E YX8_textOf (d + 3) T [(0, T97), (1, vi s), (2, vi v)] 0 [] Q := by
  refine sX8_textOf_0 T _ _ ?_
  by_cases h6 : s = 6
  · rw [if_pos h6]
    obtain ⟨k, rfl, hk, q6, -⟩ := hv
    obtain ⟨j, hj, hl⟩ := q6 (by rw [nn_eql (by omega) (by omega)] at h6; exact h6)
    exact h0 j h6 hj hl
  · rw [if_neg h6]
    have f0 : fr sct T (si T 97 11 0) := fr.si (Or.inr ⟨rfl, rfl⟩)
    obtain ⟨m1, m2⟩ := mText_at hL hv
    refine tm_putV (w := []) (tS_sct hS f0) hL hv ⟨gi_self .., by simp, fun k hk => absurd hk (by simp)⟩ (by simp) (fun T1 t1 f1 => ?_)
    rw [List.nil_append] at t1
    show Zm E YX8_textOf (d + 3) T1 [(0, T97)] 19 [] Q
    refine sX8_textOf_19 T1 ?_
    have f01 := f0.tr f1
    refine tm_made (tS_sct hS f01) hL t1 m2 (fun k L' T' e s' f' g' => ?_) (fun T' e f' => ?_)
    · exact sX8_textOf_23 T' _ (h1 k L' T' h6 e s' (f01.l.tr f') (fun q => f01.tr (g' q)))
    · exact sX8_textOf_23 _ _ (h2 T' h6 e (f01.tr f'))
/-- string of the component -/
theorem xm_string {w : List Int32} (hw : cw M) (hX : xtx M L) (hL : mLok L) (hR : xR M w) (hw7 : ∀ c ∈ w, c7 c)
    (h1 : ∀ k L' M', mmk L w = some (k, L') → xtx M' L' → fr (orP scx stX) M M' → (L' = L → M' = M) → Q (.inl (some (vi (nI k)))) M')
    (h2 : mmk L w = none → Q (.inr (51, 13, 0)) M) : Z E YX1_string (d + 2) M [(0, zX16)] 0 [] Q := by
  have h400 := hL.2.1
  obtain ⟨t1, t2, t3, t4, t5, t6⟩ := id hX
  have e60 : (w.take 60).length = if 60 < w.length then 60 else w.length := by rw [List.length_take]; split <;> omega
  have hrow : ∀ k, k < (w.take 60).length → gi M 20 k = (w.take 60).getD k 0 := fun k hk => by
    rw [List.length_take] at hk
    rw [hR.2.2 k (by omega), List.getD_eq_getElem?_getD, List.getD_eq_getElem?_getD, List.getElem?_take, if_pos (by omega)]
  have hc : ∀ c ∈ w.take 60, c7 c := fun c q => hw7 c (List.mem_of_mem_take q)
  have hrow2 : ∀ k, k < (w.take 60).length → gi M 20 k = (w.take 60).getD k 0 ∧ xb ((w.take 60).getD k 0) := fun k hk => ⟨hrow k hk, c7_b (hc _ (by rw [getD_lt hk]; exact List.getElem_mem hk))⟩
  have h256 := hR.2.1
  have hflat : ∀ L : List (List Int32), (∀ w ∈ L, w.length ≤ 60) → L.flatten.length ≤ 60 * L.length := by
    intro L
    induction L with
    | nil => intro _; simp
    | cons x L ih =>
      intro h
      have h1 := h x List.mem_cons_self
      have h2 := ih (fun w hw => h w (List.mem_cons_of_mem _ hw))
      rw [List.flatten_cons, List.length_append, List.length_cons]
      omega
  have hfl := hflat L t6
  have main : Z E YX2_find (d + 1) M (zargs 0 [vr (some (17, 2, 0)), vr (some (20, 101, 256)), vi (nI (w.take 60).length)]) 0 [] (zafter E YX1_string (d + 2) [(0, zX16), (1, vi (nI (w.take 60).length))] 19 3 [] Q) := by
    have hlt : (w.take 60).length ≤ 60 := by rw [List.length_take]; omega
    refine x_find t1 t2 t3 (by omega) (by decide) t5 (by decide) hrow (by omega) (by decide) ?_
    show Z E YX1_string (d + 2) M [(0, zX16), (1, vi (nI (w.take 60).length))] 22 [vi (tfd 0 L (w.take 60))] Q
    refine sX1_string_22 M _ _ hw ?_
    rcases tfd_or L 0 (w.take 60) with ⟨q, q'⟩ | ⟨j, q1, q2⟩
    · rw [q, if_pos rfl, t3.1]
      by_cases h4 : L.length = 400
      · rw [if_pos (by rw [h4]; rfl)]
        exact h2 (by unfold mmk; rw [if_neg q', if_pos h4])
      · rw [if_neg (by simp (disch := omega) only [nn_add, nn_addl, nn_ladd, nn_mul, nn_lmul, nn_mull, nn_sub, nn_subl, nn_lsub, nn_lt, nn_le, nn_eq, nn_ltl, nn_llt, nn_lel, nn_lle, nn_eql, nn_leq, nn_m1, nn_1m, nn_ltm, nn_mlt, nn_mle, nn_lem, nn_cl, nn_in, nn_ns, nn_ns2, nn_nb, nn_nb2, nn_s1, nn_s2, nn_b1, nn_b2]; exact h4)]
        refine x_add t1 t2 t3 (by omega) (by decide) (by omega) (by decide) hrow2 (by omega) (by decide) ⟨by decide, by decide, by decide, by decide⟩ ⟨by decide, by decide, by decide⟩ (fun M2 f2 s2 => ?_)
        have f2' : fr stX M M2 := f2.mono fun a k q => by unfold stX; omega
        show Z E YX1_string (d + 2) M2 [] 60 [vi (nI L.length)] Q
        refine sX1_string_60 M2 _ (cw_fr hw f2' (fun q hq => by have := cwl_ok q hq; unfold stX; omega)) ?_
        refine h1 _ _ M2 (by unfold mmk; rw [if_neg q', if_neg h4]) ⟨(f2'.2 17 1 (by unfold stX; omega)).2.2.trans t1, (f2'.2 17 0 (by unfold stX; omega)).2.2.trans t2, s2, ?_, ?_, fun x hx => ?_⟩ f2'.r (fun e => ?_)
        · rw [List.length_append]; show L.length + 1 ≤ 400; omega
        · rw [List.flatten_append, List.length_append]
          simp only [List.flatten_cons, List.flatten_nil, List.append_nil]
          omega
        · rcases List.mem_append.mp hx with r | r
          · exact t6 x r
          · rw [show x = w.take 60 from by simpa using r]; exact hlt
        · have := congrArg List.length e
          rw [List.length_append] at this
          simp at this
    · have hj : j < L.length := (List.getElem?_eq_some_iff.mp q1).1
      have hm : w.take 60 ∈ L := List.mem_of_getElem? q1
      rw [q2, Nat.zero_add, if_neg (by simp (disch := omega) only [nn_add, nn_addl, nn_ladd, nn_mul, nn_lmul, nn_mull, nn_sub, nn_subl, nn_lsub, nn_lt, nn_le, nn_eq, nn_ltl, nn_llt, nn_lel, nn_lle, nn_eql, nn_leq, nn_m1, nn_1m, nn_ltm, nn_mlt, nn_mle, nn_lem, nn_cl, nn_in, nn_ns, nn_ns2, nn_nb, nn_nb2, nn_s1, nn_s2, nn_b1, nn_b2]; exact fun z => z)]
      exact h1 j L M (by unfold mmk; rw [if_pos hm, q2, Nat.zero_add, nn_cl (by omega)]) hX fr.rf (fun _ => rfl)
  refine iX1_string_0 M hw ?_
  rw [hR.1]
  rw [e60] at main
  simp (disch := omega) only [nn_add, nn_addl, nn_ladd, nn_mul, nn_lmul, nn_mull, nn_sub, nn_subl, nn_lsub, nn_lt, nn_le, nn_eq, nn_ltl, nn_llt, nn_lel, nn_lle, nn_eql, nn_leq, nn_m1, nn_1m, nn_ltm, nn_mlt, nn_mle, nn_lem, nn_cl, nn_in, nn_ns, nn_ns2, nn_nb, nn_nb2, nn_s1, nn_s2, nn_b1, nn_b2]
  by_cases hl : 60 < w.length
  · rw [if_pos hl]
    simp only [if_pos hl] at main
    exact main
  · rw [if_neg hl]
    simp only [if_neg hl] at main
    exact main
/-- textOf of the component -/
theorem xm_textOf {s v : Int32} (hw : cw M) (hX : xtx M L) (hL : mLok L) (hv : mok L ob s v)
    (h0 : ∀ k : Nat, s = 6 → v = nI k → k < L.length → Q (.inl (some (vi v))) M)
    (h1 : ∀ k L' M', ¬ s = 6 → mmk L (mText L s v) = some (k, L') → xtx M' L' → fr (orP scx stX) M M' → (L' = L → fr scx M M') → Q (.inl (some (vi (nI k)))) M')
    (h2 : ∀ M', ¬ s = 6 → mmk L (mText L s v) = none → fr scx M M' → Q (.inr (51, 13, 0)) M') : Z E YX1_textOf (d + 3) M [(0, zX16), (1, vi s), (2, vi v)] 0 [] Q := by
  refine iX1_textOf_0 M _ _ hw ?_
  by_cases h6 : s = 6
  · rw [if_pos h6]
    obtain ⟨k, rfl, hk, q6, -⟩ := hv
    obtain ⟨j, hj, hl⟩ := q6 (by rw [nn_eql (by omega) (by omega)] at h6; exact h6)
    exact h0 j h6 hj hl
  · rw [if_neg h6]
    have f0 : fr scx M (si M 16 3 0) := fr.si (by unfold scx; omega)
    obtain ⟨m1, m2⟩ := mText_at hL hv
    refine xm_putV (w := []) (cw_scx hw f0) (xtx_scx hX f0) hL hv ⟨gi_self .., by simp, fun k hk => absurd hk (by simp)⟩ (by simp) (fun M1 r1 f1 => ?_)
    rw [List.nil_append] at r1
    have f01 := f0.tr f1
    show Z E YX1_textOf (d + 3) M1 [(0, zX16)] 18 [] Q
    refine sX1_textOf_18 M1 (cw_scx hw f01) ?_
    refine xm_string (cw_scx hw f01) (xtx_scx hX f01) hL r1 m2 (fun k L' M' e s' f' g' => ?_) (fun e => ?_)
    · show Z E YX1_textOf (d + 3) M' [] 22 [vi (nI k)] Q
      have cw' : cw M' := cw_fr (cw_scx hw f01) f' (fun q hq => by have := cwl_ok q hq; unfold orP scx stX; omega)
      exact sX1_textOf_22 M' _ cw' (h1 k L' M' h6 e s' (f01.l.tr f') (fun q => by rw [g' q]; exact f01))
    · show ZT E YX1_textOf (d + 3) M1 [] 19 (51, 13, 0) Q
      exact ZT.out (nohand rfl) (h2 M1 h6 e f01)
end
