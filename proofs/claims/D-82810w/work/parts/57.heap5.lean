/-! OBJECTS AND PROPERTIES: remove of both, new objects -/
theorem nodup_len : ∀ (n : Nat) (l : List Nat), l.Nodup → (∀ q ∈ l, q < n) → l.length ≤ n
  | 0, l, _, h => by
    cases l with
    | nil => simp
    | cons q l => exact absurd (h q List.mem_cons_self) (by omega)
  | n + 1, l, hn, h => by
    by_cases hm : n ∈ l
    · have h1 := nodup_len n (l.erase n) (hn.erase n) (fun q hq => by
        have := (hn.mem_erase_iff.mp hq)
        have := h q this.2
        omega)
      rw [List.length_erase_of_mem hm] at h1
      omega
    · have := nodup_len n l hn (fun q hq => by
        have h1 := h q hq
        have h2 : q ≠ n := fun e => hm (e ▸ hq)
        omega)
      omega
theorem hT_len {T : zM} {ob : Nat} {ps : Nat → List Nat} {fl : List Nat} (h : hT T ob ps fl) {o p : Nat} (ho : o < ob) (hp : p ∈ ps o) : fl.length < 3000 := by
  obtain ⟨-, ⟨-, -, -, g4, g5⟩, H⟩ := h
  have := (H o ho).2.2.2.1 p hp
  have := nodup_len 3000 (p :: fl) (List.nodup_cons.mpr ⟨this.2, g5⟩) (fun q hq => by
    rcases List.mem_cons.mp hq with e | e
    · rw [e]; exact this.1
    · exact g4 q e)
  have h2 : fl.length + 1 ≤ 3000 := by simpa using this
  omega
theorem hX_rem {M T : zM} {ob : Nat} {ps : Nat → List Nat} {fl : List Nat} (h : hT T ob ps fl) (g : hX M T ob ps fl) {o : Nat} (ho : o < ob) {l1 l2 : List Nat} {p : Nat} (hp : ps o = l1 ++ p :: l2) : hX (x_rem M o p l1) (m_rem T o p l1) ob (fun i => if i = o then l1 ++ l2 else ps i) (p :: fl) := by
  obtain ⟨-, ⟨-, -, -, g4, g5⟩, H⟩ := h
  obtain ⟨⟨b1, b2⟩, ⟨sp, m, s1, s2, s3, s4⟩, b3, b4⟩ := g
  obtain ⟨c1, c2, c3, c4, c5⟩ := H o ho
  have hpo : p ∈ ps o := by rw [hp]; simp
  have hp3 := (c4 p hpo).1
  have hpf := (c4 p hpo).2
  have hb1 : ∀ q ∈ l1, q < 3000 := fun q hq => (c4 q (by rw [hp]; simp [hq])).1
  have nd := c3
  rw [hp, List.nodup_append] at nd
  obtain ⟨nd1, nd2, nd3⟩ := nd
  have hp1 : p ∉ l1 := fun q => nd3 p q p List.mem_cons_self rfl
  have hp2 : p ∉ l2 := (List.nodup_cons.mp nd2).1
  obtain ⟨t1, t2, t3, t4, t5⟩ := b3 o ho
  obtain ⟨m1, m2, m3, m4⟩ := m_rem_97 T o p l1
  have p47 : gi M 47 p = gi T 149 p := (b4 o ho p hpo).2.1
  refine ⟨⟨(x_rem_new M o p l1 16 26 (by decide) (by decide) (by decide) (by decide)).trans b1, ?_⟩, ⟨p :: sp, m, by rw [s1]; rfl, s2, ⟨x_rem_28 M o p l1, ?_⟩, (x_rem_new M o p l1 16 27 (by decide) (by decide) (by decide) (by decide)).trans s4⟩, fun i hi => ?_, fun i hi q hq => ?_⟩
  · rw [x_rem_new M o p l1 16 29 (by decide) (by decide) (by decide) (by decide), m4]; exact b2
  · rw [x_rem_47, if_pos rfl]
    refine chn_cg (fun q hq => ?_) s3
    have hqf : q ∈ fl := by rw [s1]; simp [hq]
    rw [x_rem_47, if_neg (show ¬ q = p from fun e => hpf (e ▸ hqf)), if_neg (fun w => ?_)]
    have := (lst_cl hb1 w.1).1
    rw [← w.2] at this
    exact (c4 q (by rw [hp]; simp [this])).2 hqf
  · obtain ⟨i1, i2, i3, i4, i5⟩ := b3 i hi
    refine ⟨?_, ?_, ?_, ?_, ?_⟩
    · rw [x_rem_new M o p l1 38 i (by decide) (by decide) (by decide) (by intro h; omega), m_rem_oth _ _ _ _ (by unfold fT; omega)]; exact i1
    · rw [x_rem_new M o p l1 41 i (by decide) (by decide) (by decide) (by intro h; omega), m_rem_oth _ _ _ _ (by unfold fT; omega)]; exact i2
    · rw [x_rem_new M o p l1 42 i (by decide) (by decide) (by decide) (by intro h; omega), m_rem_oth _ _ _ _ (by unfold fT; omega)]; exact i3
    · rw [x_rem_43, m_rem_143, p47, i4]
    · rw [x_rem_44, m_rem_144, t5, i5]
  · dsimp only at hq
    have two : q ≠ p ∧ ∃ j, j < ob ∧ q ∈ ps j := by
      by_cases hio : i = o
      · rw [if_pos hio] at hq
        refine ⟨fun e => ?_, o, ho, by rw [hp]; rcases List.mem_append.mp hq with r | r <;> simp [r]⟩
        rcases List.mem_append.mp hq with r | r
        · exact hp1 (e ▸ r)
        · exact hp2 (e ▸ r)
      · rw [if_neg hio] at hq
        exact ⟨fun e => (H i hi).2.2.2.2 o ho (fun w => hio w.symm) q hq (by rw [e]; exact hpo), i, hi, hq⟩
    obtain ⟨hqp, j, hj, hqj⟩ := two
    obtain ⟨w1, w2, w3, w4, w5⟩ := b4 j hj q hqj
    obtain ⟨n1, n2, n3, n4⟩ := m_rem_new T o p l1 q
    rw [n1, n2, n3, n4, x_rem_new M o p l1 46 q (by decide) (by decide) (by decide) (by intro h; omega), x_rem_new M o p l1 48 q (by decide) (by decide) (by decide) (by intro h; omega), x_rem_new M o p l1 49 q (by decide) (by decide) (by decide) (by intro h; omega), x_rem_new M o p l1 50 q (by decide) (by decide) (by decide) (by intro h; omega)]
    refine ⟨w1, ?_, w3, w4, w5⟩
    rw [x_rem_47, m_rem_149, if_neg hqp, if_neg hqp, p47, w2]
section
variable {E : zE} {d : Nat} {T M : zM} {Q : zO → zM → Prop} {ob : Nat} {ps : Nat → List Nat} {fl : List Nat}
theorem m1_or (l : List Nat) : (l = [] ∧ lst l = -1) ∨ (l ≠ [] ∧ ∃ l1 z, l = l1 ++ [z] ∧ lst l = nI z) := by
  rcases lst_or l with h | ⟨l1, z, h, h2⟩
  · exact .inl h
  · exact .inr ⟨by rw [h]; simp, l1, z, h, h2⟩
/-- remove of the twin -/
theorem tm_remove {o : Nat} {x : Int32} (h : hT T ob ps fl) (ho : o < ob) (h1 : (∀ q ∈ ps o, gi T 145 q ≠ x) → Q (.inl none) T)
    (h2 : ∀ l1 p l2, ps o = l1 ++ p :: l2 → gi T 145 p = x → (∀ z ∈ l1, gi T 145 z ≠ x) → Q (.inl none) (m_rem T o p l1)) : Zm E YX8_remove (d + 1) T [(0, T97), (1, vi (nI o)), (2, vi x)] 0 [] Q := by
  obtain ⟨⟨a1, a2⟩, ⟨g1, g2, g3, g4, g5⟩, H⟩ := h
  obtain ⟨c1, c2, c3, c4, c5⟩ := H o ho
  refine sX8_remove_0 T _ _ ?_
  refine tm_find (l := ps o) (by simp (disch := omega) only [nn_add, nn_addl, nn_ladd, nn_mul, nn_lmul, nn_mull, nn_sub, nn_subl, nn_lsub, nn_lt, nn_le, nn_eq, nn_ltl, nn_llt, nn_lel, nn_lle, nn_eql, nn_leq, nn_m1, nn_1m, nn_ltm, nn_mlt, nn_mle, nn_lem, nn_cl, nn_in, nn_ns, nn_ns2, nn_nb, nn_nb2, nn_s1, nn_s2, nn_b1, nn_b2]; omega) (by rw [nn_cl (by omega)]; exact c1) (fun q hq => (c4 q hq).1) (fun p hp => ?_)
  show Zm E YX8_remove (d + 1) T [(0, T97), (1, vi (nI o))] 6 [vi p] Q
  refine sX8_remove_6 T _ _ ?_
  rcases fnd_or (gi T 145) x (ps o) with ⟨f1, f2⟩ | ⟨l1, q, l2, f1, f2, f3, f4⟩
  · rw [hp, f1, if_pos rfl]; exact h1 f2
  · have hq3 := (c4 q (by rw [f1]; simp)).1
    have k := h2 l1 q l2 f1 f2 f3
    have hb1 : ∀ z ∈ l1, z < 3000 := fun z hz => (c4 z (by rw [f1]; simp [hz])).1
    have hq1 : q ∉ l1 := by
      have := c3
      rw [f1, List.nodup_append] at this
      exact fun w => this.2.2 q w q List.mem_cons_self rfl
    rw [hp, f4]
    simp (disch := omega) only [nn_add, nn_addl, nn_ladd, nn_mul, nn_lmul, nn_mull, nn_sub, nn_subl, nn_lsub, nn_lt, nn_le, nn_eq, nn_ltl, nn_llt, nn_lel, nn_lle, nn_eql, nn_leq, nn_m1, nn_1m, nn_ltm, nn_mlt, nn_mle, nn_lem, nn_cl, nn_in, nn_ns, nn_ns2, nn_nb, nn_nb2, nn_s1, nn_s2, nn_b1, nn_b2]
    rw [if_neg (fun f => f)]
    refine ⟨by omega, ?_⟩
    rw [f1] at c1
    -- the loop: the part of l1 that is passed is la
    have loop : ∀ (lb la : List Nat) (e : Int32), l1 = la ++ lb → chn (gi T 149) (-1) e (lb ++ q :: l2) → Zm E YX8_remove (d + 1) T [(0, T97), (1, vi (nI o)), (3, vi (nI q)), (4, vi (lst la)), (5, vi e)] 24 [] Q := by
      intro lb
      induction lb with
      | nil =>
        intro la e hl hc
        rw [List.append_nil] at hl
        subst hl
        obtain ⟨rfl, hc⟩ := hc
        refine iX8_remove_24 T _ _ _ _ ?_
        rw [if_pos rfl]
        unfold m_rem at k
        dsimp only at k
        rcases m1_or l1 with ⟨e1, e2⟩ | ⟨e0, l0, z, e1, e2⟩
        · rw [e2, if_pos rfl]
          rw [if_pos e1, e2] at k
          simp (disch := omega) only [nn_add, nn_addl, nn_ladd, nn_mul, nn_lmul, nn_mull, nn_sub, nn_subl, nn_lsub, nn_lt, nn_le, nn_eq, nn_ltl, nn_llt, nn_lel, nn_lle, nn_eql, nn_leq, nn_m1, nn_1m, nn_ltm, nn_mlt, nn_mle, nn_lem, nn_cl, nn_in, nn_ns, nn_ns2, nn_nb, nn_nb2, nn_s1, nn_s2, nn_b1, nn_b2]
          refine ⟨hq3, by omega, ?_⟩
          by_cases hl : gi T 144 o = nI q
          · rw [if_pos hl] at k ⊢; exact k
          · rw [if_neg hl] at k ⊢; exact k
        · have hz3 := hb1 z (by rw [e1]; simp)
          rw [if_neg e0, e2] at k
          rw [e2]
          simp (disch := omega) only [nn_add, nn_addl, nn_ladd, nn_mul, nn_lmul, nn_mull, nn_sub, nn_subl, nn_lsub, nn_lt, nn_le, nn_eq, nn_ltl, nn_llt, nn_lel, nn_lle, nn_eql, nn_leq, nn_m1, nn_1m, nn_ltm, nn_mlt, nn_mle, nn_lem, nn_cl, nn_in, nn_ns, nn_ns2, nn_nb, nn_nb2, nn_s1, nn_s2, nn_b1, nn_b2] at k ⊢
          rw [if_neg (fun f => f)]
          refine ⟨hq3, hz3, by omega, ?_⟩
          by_cases hl : gi T 144 o = nI q
          · rw [if_pos hl] at k ⊢; exact k
          · rw [if_neg hl] at k ⊢; exact k
      | cons y lb ih =>
        intro la e hl hc
        obtain ⟨rfl, hc⟩ := hc
        have hy3 : y < 3000 := hb1 y (by rw [hl]; simp)
        have hyq : ¬ y = q := fun w => hq1 (by rw [hl, ← w]; simp)
        refine iX8_remove_24 T _ _ _ _ ?_
        simp (disch := omega) only [nn_add, nn_addl, nn_ladd, nn_mul, nn_lmul, nn_mull, nn_sub, nn_subl, nn_lsub, nn_lt, nn_le, nn_eq, nn_ltl, nn_llt, nn_lel, nn_lle, nn_eql, nn_leq, nn_m1, nn_1m, nn_ltm, nn_mlt, nn_mle, nn_lem, nn_cl, nn_in, nn_ns, nn_ns2, nn_nb, nn_nb2, nn_s1, nn_s2, nn_b1, nn_b2]
        rw [if_neg hyq]
        refine ⟨hy3, ?_⟩
        have := ih (la ++ [y]) (gi T 149 y) (by rw [hl]; simp) hc
        rwa [lst_app] at this
    exact loop l1 [] _ rfl c1
/-- remove of the component -/
theorem xm_remove {o : Nat} {x : Int32} (hw : cw M) (h : hT T ob ps fl) (g : hX M T ob ps fl) (ho : o < ob) (h1 : (∀ q ∈ ps o, gi T 145 q ≠ x) → Q (.inl none) M)
    (h2 : ∀ l1 p l2, ps o = l1 ++ p :: l2 → gi T 145 p = x → (∀ z ∈ l1, gi T 145 z ≠ x) → Q (.inl none) (x_rem M o p l1)) : Z E YX1_remove d M [(0, zX16), (1, vi (nI o)), (2, vi x)] 0 [] Q := by
  have a2 := h.1.2
  obtain ⟨c1, c2, c3, c4, c5⟩ := h.2.2 o ho
  have hch := hX_chn h g ho
  have hnm : ∀ q ∈ ps o, gi M 46 q = gi T 145 q := fun q hq => (g.2.2.2 o ho q hq).1
  obtain ⟨sp, m, s1, s2, s3, s4⟩ := g.2.1
  -- the spare one fits a short
  have hsp : vp_nar .short (gi M 16 28).toInt16.toInt32 = gi M 16 28 := by
    cases sp with
    | nil => rw [show gi M 16 28 = -1 from s3]; rfl
    | cons y sp =>
      have : y < 3000 := h.2.1.2.2.2.1 y (by rw [s1]; simp)
      rw [s3.1]
      simp (disch := omega) only [nn_add, nn_addl, nn_ladd, nn_mul, nn_lmul, nn_mull, nn_sub, nn_subl, nn_lsub, nn_lt, nn_le, nn_eq, nn_ltl, nn_llt, nn_lel, nn_lle, nn_eql, nn_leq, nn_m1, nn_1m, nn_ltm, nn_mlt, nn_mle, nn_lem, nn_cl, nn_in, nn_ns, nn_ns2, nn_nb, nn_nb2, nn_s1, nn_s2, nn_b1, nn_b2]
  have hnx : ∀ q ∈ ps o, vp_nar .short (gi M 47 q) = gi M 47 q := fun q hq => by
    obtain ⟨la, lb, e⟩ := List.append_of_mem hq
    rw [e] at hch
    obtain ⟨mm, r1, r2⟩ := chn_app.mp hch
    cases lb with
    | nil => rw [show gi M 47 q = -1 from r2.2]; rfl
    | cons y lb =>
      have : y < 3000 := (c4 y (by rw [e]; simp)).1
      rw [show gi M 47 q = nI y from r2.2.1]
      simp (disch := omega) only [nn_add, nn_addl, nn_ladd, nn_mul, nn_lmul, nn_mull, nn_sub, nn_subl, nn_lsub, nn_lt, nn_le, nn_eq, nn_ltl, nn_llt, nn_lel, nn_lle, nn_eql, nn_leq, nn_m1, nn_1m, nn_ltm, nn_mlt, nn_mle, nn_lem, nn_cl, nn_in, nn_ns, nn_ns2, nn_nb, nn_nb2, nn_s1, nn_s2, nn_b1, nn_b2]
  refine sX1_remove_0 M _ _ hw ?_
  simp (disch := omega) only [nn_add, nn_addl, nn_ladd, nn_mul, nn_lmul, nn_mull, nn_sub, nn_subl, nn_lsub, nn_lt, nn_le, nn_eq, nn_ltl, nn_llt, nn_lel, nn_lle, nn_eql, nn_leq, nn_m1, nn_1m, nn_ltm, nn_mlt, nn_mle, nn_lem, nn_cl, nn_in, nn_ns, nn_ns2, nn_nb, nn_nb2, nn_s1, nn_s2, nn_b1, nn_b2]
  refine ⟨by omega, ?_⟩
  have at38n : ∀ b : Int32, (∀ q ∈ ps o, gi T 145 q ≠ x) → Z E YX1_remove d M [(0, zX16), (1, vi (nI o)), (3, vi (-1)), (4, vi b)] 38 [] Q := fun b hn => by
    refine iX1_remove_38 M _ _ _ hw ?_
    rw [if_pos rfl]; exact h1 hn
  have loop : ∀ (lb la : List Nat) (e : Int32), ps o = la ++ lb → (∀ z ∈ la, gi T 145 z ≠ x) → chn (gi M 47) (-1) e lb → Z E YX1_remove d M [(0, zX16), (1, vi (nI o)), (2, vi x), (3, vi e), (4, vi (lst la))] 10 [] Q := by
    intro lb
    induction lb with
    | nil =>
      intro la e hl hla hc
      have he : e = -1 := hc
      subst he
      refine iX1_remove_10 M _ _ _ _ hw ?_
      rw [if_pos rfl]
      exact at38n _ (by rw [hl, List.append_nil]; exact hla)
    | cons y lb ih =>
      intro la e hl hla hc
      obtain ⟨rfl, hc⟩ := hc
      have hyo : y ∈ ps o := by rw [hl]; simp
      have hy3 := (c4 y hyo).1
      refine iX1_remove_10 M _ _ _ _ hw ?_
      simp (disch := omega) only [hnm y hyo, nn_add, nn_addl, nn_ladd, nn_mul, nn_lmul, nn_mull, nn_sub, nn_subl, nn_lsub, nn_lt, nn_le, nn_eq, nn_ltl, nn_llt, nn_lel, nn_lle, nn_eql, nn_leq, nn_m1, nn_1m, nn_ltm, nn_mlt, nn_mle, nn_lem, nn_cl, nn_in, nn_ns, nn_ns2, nn_nb, nn_nb2, nn_s1, nn_s2, nn_b1, nn_b2]
      rw [if_neg (fun f => f)]
      refine ⟨hy3, ?_⟩
      by_cases hx : gi T 145 y = x
      · rw [if_pos hx]
        have k := h2 la y lb hl hx hla
        have hb1 : ∀ z ∈ la, z < 3000 := fun z hz => (c4 z (by rw [hl]; simp [hz])).1
        unfold x_rem at k
        dsimp only at k
        refine iX1_remove_38 M _ _ _ hw ?_
        rcases m1_or la with ⟨e1, e2⟩ | ⟨e0, l0, z, e1, e2⟩
        · rw [e2]
          rw [if_pos e1, e2] at k
          simp (disch := omega) only [hsp, hnx y hyo, nn_add, nn_addl, nn_ladd, nn_mul, nn_lmul, nn_mull, nn_sub, nn_subl, nn_lsub, nn_lt, nn_le, nn_eq, nn_ltl, nn_llt, nn_lel, nn_lle, nn_eql, nn_leq, nn_m1, nn_1m, nn_ltm, nn_mlt, nn_mle, nn_lem, nn_cl, nn_in, nn_ns, nn_ns2, nn_nb, nn_nb2, nn_s1, nn_s2, nn_b1, nn_b2]
          rw [if_neg (fun f => f), if_pos trivial]
          refine ⟨hy3, by omega, ?_⟩
          by_cases hl4 : gi M 44 o = nI y
          · rw [if_pos hl4] at k ⊢; exact k
          · rw [if_neg hl4] at k ⊢; exact k
        · have hz3 := hb1 z (by rw [e1]; simp)
          rw [if_neg e0, e2] at k
          rw [e2]
          simp (disch := omega) only [hsp, hnx y hyo, nn_add, nn_addl, nn_ladd, nn_mul, nn_lmul, nn_mull, nn_sub, nn_subl, nn_lsub, nn_lt, nn_le, nn_eq, nn_ltl, nn_llt, nn_lel, nn_lle, nn_eql, nn_leq, nn_m1, nn_1m, nn_ltm, nn_mlt, nn_mle, nn_lem, nn_cl, nn_in, nn_ns, nn_ns2, nn_nb, nn_nb2, nn_s1, nn_s2, nn_b1, nn_b2] at k ⊢
          rw [if_neg (fun f => f), if_neg (fun f => f)]
          refine ⟨hy3, hz3, by omega, ?_⟩
          by_cases hl4 : gi M 44 o = nI y
          · rw [if_pos hl4] at k ⊢; exact k
          · rw [if_neg hl4] at k ⊢; exact k
      · rw [if_neg hx]
        have := ih (la ++ [y]) (gi M 47 y) (by rw [hl]; simp) (fun z hz => by
          rcases List.mem_append.mp hz with r | r
          · exact hla z r
          · rw [show z = y from by simpa using r]; exact hx) hc
        rwa [lst_app] at this
  exact loop (ps o) [] _ rfl (fun z hz => by cases hz) hch
end
