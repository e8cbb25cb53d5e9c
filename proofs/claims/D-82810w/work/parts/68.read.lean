/-! READING along protos; new arrays, functions -/
/-- the property that a name reads along a chain of objects -/
def mgt (nm : Nat → Int32) (ps : Nat → List Nat) (x : Int32) : List Nat → Int32
  | [] => -1
  | o :: l => if fnd nm x (ps o) = -1 then mgt nm ps x l else fnd nm x (ps o)
theorem mgt_cg {nm nm' : Nat → Int32} {ps : Nat → List Nat} {x : Int32} : ∀ {l : List Nat}, (∀ o ∈ l, ∀ q ∈ ps o, nm' q = nm q) → mgt nm' ps x l = mgt nm ps x l
  | [], _ => rfl
  | o :: l, h => by
    unfold mgt
    rw [fnd_cg (h o List.mem_cons_self), mgt_cg (fun z hz => h z (List.mem_cons_of_mem _ hz))]
theorem mgt_or (nm : Nat → Int32) (ps : Nat → List Nat) (x : Int32) : ∀ l : List Nat, mgt nm ps x l = -1 ∨ ∃ o ∈ l, ∃ q ∈ ps o, nm q = x ∧ mgt nm ps x l = nI q
  | [] => .inl rfl
  | o :: l => by
    rcases fnd_or nm x (ps o) with ⟨h1, h2⟩ | ⟨l1, q, l2, h1, h2, h3, h4⟩
    · rcases mgt_or nm ps x l with h | ⟨o', ho', q, hq, e1, e2⟩
      · exact .inl (by unfold mgt; rw [if_pos h1]; exact h)
      · exact .inr ⟨o', List.mem_cons_of_mem _ ho', q, hq, e1, by unfold mgt; rw [if_pos h1]; exact e2⟩
    · by_cases hm : fnd nm x (ps o) = -1
      · rcases mgt_or nm ps x l with h | ⟨o', ho', q, hq, e1, e2⟩
        · exact .inl (by unfold mgt; rw [if_pos hm]; exact h)
        · exact .inr ⟨o', List.mem_cons_of_mem _ ho', q, hq, e1, by unfold mgt; rw [if_pos hm]; exact e2⟩
      · exact .inr ⟨o, List.mem_cons_self, q, by rw [h1]; simp, h2, by unfold mgt; rw [if_neg hm]; exact h4⟩
section
variable {E : zE} {d : Nat} {T M : zM} {Q : zO → zM → Prop} {ob : Nat} {ps : Nat → List Nat} {fl : List Nat}
theorem fnd_m1 (h : hT T ob ps fl) {o : Nat} (ho : o < ob) (x : Int32) : fnd (gi T 145) x (ps o) = -1 ∨ ∃ q, q ∈ ps o ∧ q < 3000 ∧ fnd (gi T 145) x (ps o) = nI q ∧ ¬ fnd (gi T 145) x (ps o) = -1 := by
  rcases fnd_or (gi T 145) x (ps o) with ⟨h1, -⟩ | ⟨l1, q, l2, h1, -, -, h4⟩
  · exact .inl h1
  · have hq : q ∈ ps o := by rw [h1]; simp
    have := ((h.2.2 o ho).2.2.2.1 q hq).1
    exact .inr ⟨q, hq, this, h4, by rw [h4, nn_m1 (by omega)]; exact fun f => f⟩
/-- read of the twin -/
theorem tm_read {o : Nat} {x : Int32} {l : List Nat} (h : hT T ob ps fl) (hc : chn (gi T 139) (-1) (nI o) l) (hl : ∀ q ∈ l, q < ob)
    (h0 : mgt (gi T 145) ps x l = -1 → Q (.inl (some (vi 0))) (si (si T 97 111 0) 97 112 0)) (h1 : ∀ q, mgt (gi T 145) ps x l = nI q → q < 3000 → Q (.inl (some (vi 1))) (si (si T 97 111 (gi T 146 q)) 97 112 (gi T 147 q))) : Zm E YX8_read_2 (d + 1) T [(0, T97), (1, vi (nI o)), (2, vi x)] 0 [] Q := by
  have h300 := h.1.2
  refine sX8_read_2_0 T _ _ ?_
  generalize nI o = e at hc
  induction l generalizing e with
  | nil =>
    have he : e = -1 := hc
    subst he
    refine iX8_read_2_2 T _ _ ?_
    rw [if_pos rfl]
    exact h0 rfl
  | cons z l ih =>
    obtain ⟨rfl, hc⟩ := hc
    have hz : z < ob := hl z List.mem_cons_self
    obtain ⟨c1, c2, c3, c4, c5⟩ := h.2.2 z hz
    refine iX8_read_2_2 T _ _ ?_
    rw [if_neg (by rw [nn_m1 (by omega)]; exact fun f => f)]
    refine tm_find (l := ps z) (by simp (disch := omega) only [nn_add, nn_addl, nn_ladd, nn_mul, nn_lmul, nn_mull, nn_sub, nn_subl, nn_lsub, nn_lt, nn_le, nn_eq, nn_ltl, nn_llt, nn_lel, nn_lle, nn_eql, nn_leq, nn_m1, nn_1m, nn_ltm, nn_mlt, nn_mle, nn_lem, nn_cl, nn_in, nn_ns, nn_ns2, nn_nb, nn_nb2, nn_s1, nn_s2, nn_b1, nn_b2]; omega) (by rw [nn_cl (by omega)]; exact c1) (fun q hq => (c4 q hq).1) (fun p hp => ?_)
    show Zm E YX8_read_2 (d + 1) T [(0, T97), (2, vi x), (3, vi (nI z))] 13 [vi p] Q
    refine iX8_read_2_13 T _ _ _ ?_
    rcases fnd_m1 h hz x with hm | ⟨q, q1, q2, q3, q4⟩
    · rw [hp, hm, if_pos rfl]
      simp (disch := omega) only [nn_add, nn_addl, nn_ladd, nn_mul, nn_lmul, nn_mull, nn_sub, nn_subl, nn_lsub, nn_lt, nn_le, nn_eq, nn_ltl, nn_llt, nn_lel, nn_lle, nn_eql, nn_leq, nn_m1, nn_1m, nn_ltm, nn_mlt, nn_mle, nn_lem, nn_cl, nn_in, nn_ns, nn_ns2, nn_nb, nn_nb2, nn_s1, nn_s2, nn_b1, nn_b2]
      refine ⟨by omega, ih (fun w hw => hl w (List.mem_cons_of_mem _ hw)) (fun e => h0 ?_) (fun q e hq => h1 q ?_ hq) _ hc⟩
      · unfold mgt; rw [if_pos hm]; exact e
      · unfold mgt; rw [if_pos hm]; exact e
    · rw [hp, if_neg q4, q3]
      simp (disch := omega) only [nn_add, nn_addl, nn_ladd, nn_mul, nn_lmul, nn_mull, nn_sub, nn_subl, nn_lsub, nn_lt, nn_le, nn_eq, nn_ltl, nn_llt, nn_lel, nn_lle, nn_eql, nn_leq, nn_m1, nn_1m, nn_ltm, nn_mlt, nn_mle, nn_lem, nn_cl, nn_in, nn_ns, nn_ns2, nn_nb, nn_nb2, nn_s1, nn_s2, nn_b1, nn_b2]
      exact ⟨q2, h1 q (by unfold mgt; rw [if_neg q4]; exact q3) q2⟩
/-- find of the component -/
theorem xm_find {o : Nat} {x : Int32} {l : List Nat} (hw : cw M) (h : hT T ob ps fl) (g : hX M T ob ps fl) (hc : chn (gi T 139) (-1) (nI o) l) (hl : ∀ q ∈ l, q < ob) (hQ : ∀ p, p = mgt (gi T 145) ps x l → Q (.inl (some (vi p))) M) : Z E YX1_find (d + 1) M [(0, zX16), (1, vi (nI o)), (2, vi x)] 0 [] Q := by
  have h300 := h.1.2
  refine sX1_find_0 M _ _ hw ?_
  generalize nI o = e at hc
  induction l generalizing e with
  | nil =>
    have he : e = -1 := hc
    subst he
    refine sX1_find_5 M _ _ _ hw ?_
    rw [if_pos rfl]
    exact hQ _ rfl
  | cons z l ih =>
    obtain ⟨rfl, hc⟩ := hc
    have hz : z < ob := hl z List.mem_cons_self
    obtain ⟨c1, c2, c3, c4, c5⟩ := h.2.2 z hz
    refine sX1_find_5 M _ _ _ hw ?_
    rw [if_neg (by rw [nn_m1 (by omega)]; exact fun f => f), if_pos rfl]
    refine xm_own (l := ps z) hw (by simp (disch := omega) only [nn_add, nn_addl, nn_ladd, nn_mul, nn_lmul, nn_mull, nn_sub, nn_subl, nn_lsub, nn_lt, nn_le, nn_eq, nn_ltl, nn_llt, nn_lel, nn_lle, nn_eql, nn_leq, nn_m1, nn_1m, nn_ltm, nn_mlt, nn_mle, nn_lem, nn_cl, nn_in, nn_ns, nn_ns2, nn_nb, nn_nb2, nn_s1, nn_s2, nn_b1, nn_b2]; omega) (by rw [nn_cl (by omega)]; exact hX_chn h g hz) (fun q hq => (c4 q hq).1) (fun p hp => ?_)
    rw [hX_fnd g hz] at hp
    show Z E YX1_find (d + 1) M [(0, zX16), (2, vi x), (3, vi (nI z))] 22 [vi p] Q
    refine sX1_find_22 M _ _ _ hw ?_
    simp (disch := omega) only [(g.2.2.1 z hz).2.1, nn_add, nn_addl, nn_ladd, nn_mul, nn_lmul, nn_mull, nn_sub, nn_subl, nn_lsub, nn_lt, nn_le, nn_eq, nn_ltl, nn_llt, nn_lel, nn_lle, nn_eql, nn_leq, nn_m1, nn_1m, nn_ltm, nn_mlt, nn_mle, nn_lem, nn_cl, nn_in, nn_ns, nn_ns2, nn_nb, nn_nb2, nn_s1, nn_s2, nn_b1, nn_b2]
    refine ⟨by omega, ?_⟩
    rcases fnd_m1 h hz x with hm | ⟨q, q1, q2, q3, q4⟩
    · rw [hp, hm]
      refine ih (fun w hw => hl w (List.mem_cons_of_mem _ hw)) (fun p hp => hQ p ?_) _ hc
      unfold mgt; rw [if_pos hm]; exact hp
    · refine sX1_find_5 M _ _ _ hw ?_
      have fin : Q (.inl (some (vi p))) M := hQ p (by unfold mgt; rw [if_neg q4]; exact hp)
      by_cases hn : gi T 139 z = -1
      · rw [if_pos hn]; exact fin
      · rw [if_neg hn, if_neg (by rw [hp]; exact q4)]; exact fin
end
