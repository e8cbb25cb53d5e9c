/-! THE MACHINE: `instanceof` -/
section
variable {E : zE} {d : Nat} {T M : zM} {Q : zO → zM → Prop} {A : mA} {r : mF} {F : List mF}
/-- the component's way along the protos -/
theorem xm_inst111 {p : Nat} {t : Int32} (hs : sX M A) (hp : p < 3000) (ht : gi M 49 p = t) : ∀ (l : List Nat) (x : Int32), chn (gi (aT A) 139) (-1) x l → (∀ q ∈ l, q < aO A) → aO A ≤ 300 → (∀ s : Int32, s = (if t ∈ l.map nI then 2 else 3) → Q (.inl none) (si (si M 16 33 s) 16 32 0)) → Z E YX1_instance (d + 2) M [(0, zX16), (1, vi (nI p)), (2, vi x)] 111 [] Q
  | [], x, hc, hl, hob, hQ => by
    have hx : x = -1 := hc
    refine iX1_instance_111 M _ _ hs.1 ?_
    rw [if_pos hx]
    exact hQ _ (by rw [if_neg (by simp)])
  | q :: l, x, hc, hl, hob, hQ => by
    obtain ⟨hx, hc'⟩ := hc
    subst hx
    have hq := hl q List.mem_cons_self
    have e41 : gi M 41 q = gi (aT A) 139 q := (hs.2.1.2.2.1 q hq).2.1
    refine iX1_instance_111 M _ _ hs.1 ?_
    rw [if_neg (by rw [nn_m1 (by omega)]; exact fun z => z)]
    simp (disch := omega) only [ht, e41, nn_add, nn_addl, nn_ladd, nn_mul, nn_lmul, nn_mull, nn_sub, nn_subl, nn_lsub, nn_lt, nn_le, nn_eq, nn_ltl, nn_llt, nn_lel, nn_lle, nn_eql, nn_leq, nn_m1, nn_1m, nn_ltm, nn_mlt, nn_mle, nn_lem, nn_cl, nn_in, nn_ns, nn_ns2, nn_nb, nn_nb2, nn_s1, nn_s2, nn_b1, nn_b2]
    refine ⟨by omega, ?_⟩
    by_cases c : nI q = t
    · rw [if_pos c]
      exact hQ _ (by rw [if_pos (by rw [← c]; simp)])
    · rw [if_neg c]
      refine ⟨by omega, xm_inst111 hs hp ht l _ hc' (fun z hz => hl z (List.mem_cons_of_mem _ hz)) hob (fun s hs' => hQ s ?_)⟩
      rw [hs', List.map_cons]
      have : ¬ t = nI q := fun z => c z.symm
      simp [this]
/-- the twin's way along the protos -/
theorem tm_inst78 {t : Int32} (hs : sT T A) : ∀ (l : List Nat) (x : Int32) (b : Bool), chn (gi (aT A) 139) (-1) x l → (∀ q ∈ l, q < aO A) → aO A ≤ 300 → (∀ s : Int32, s = (if b = true ∨ t ∈ l.map nI then 2 else 3) → Zm E YX8_gives (d + 1) (si (si T 97 111 s) 97 112 0) (zargs 0 [T97, vi 2]) 0 [] (zma E YX8_isMadeBy (d + 2) [] 123 3 [] Q)) → Zm E YX8_isMadeBy (d + 2) T [(0, T97), (6, vi t), (7, vi (bI b)), (8, vi x)] 78 [] Q
  | [], x, b, hc, hl, hob, hQ => by
    have hx : x = -1 := hc
    refine iX8_isMadeBy_78 T _ _ _ ?_
    rw [if_pos hx]
    cases b with
    | false => rw [bI_f, if_pos rfl]; exact hQ _ (by simp)
    | true => rw [bI_t, if_neg (by decide)]; exact hQ _ (by simp)
  | q :: l, x, b, hc, hl, hob, hQ => by
    obtain ⟨hx, hc'⟩ := hc
    subst hx
    have hq := hl q List.mem_cons_self
    have e139 : gi T 139 q = gi (aT A) 139 q := hs.1 139 q (by unfold hpT; omega)
    refine iX8_isMadeBy_78 T _ _ _ ?_
    rw [if_neg (by rw [nn_m1 (by omega)]; exact fun z => z)]
    simp (disch := omega) only [e139, nn_add, nn_addl, nn_ladd, nn_mul, nn_lmul, nn_mull, nn_sub, nn_subl, nn_lsub, nn_lt, nn_le, nn_eq, nn_ltl, nn_llt, nn_lel, nn_lle, nn_eql, nn_leq, nn_m1, nn_1m, nn_ltm, nn_mlt, nn_mle, nn_lem, nn_cl, nn_in, nn_ns, nn_ns2, nn_nb, nn_nb2, nn_s1, nn_s2, nn_b1, nn_b2]
    have next : ∀ b' : Bool, (b' = true ↔ (b = true ∨ t = nI q)) → Zm E YX8_isMadeBy (d + 2) T [(0, T97), (6, vi t), (7, vi (bI b')), (8, vi (gi (aT A) 139 q))] 78 [] Q := fun b' hb => by
      refine tm_inst78 hs l _ b' hc' (fun z hz => hl z (List.mem_cons_of_mem _ hz)) hob (fun s hs' => hQ s ?_)
      have hm : t ∈ (q :: l).map nI ↔ t = nI q ∨ t ∈ l.map nI := by rw [List.map_cons, List.mem_cons]
      rw [hs']
      by_cases h1 : b = true ∨ t = nI q
      · have hb' : b' = true := hb.mpr h1
        have : b = true ∨ t ∈ (q :: l).map nI := h1.elim .inl (fun z => .inr (hm.mpr (.inl z)))
        rw [if_pos (.inl hb'), if_pos this]
      · have hb' : ¬ b' = true := fun z => h1 (hb.mp z)
        by_cases h2 : t ∈ l.map nI
        · rw [if_pos (.inr h2), if_pos (.inr (hm.mpr (.inr h2)))]
        · rw [if_neg (fun z => z.elim hb' h2), if_neg (fun z => z.elim (fun z => h1 (.inl z)) (fun z => (hm.mp z).elim (fun z => h1 (.inr z)) h2))]
    cases b with
    | false =>
      rw [bI_f, if_pos rfl]
      by_cases c : nI q = t
      · rw [if_pos c]; exact ⟨by omega, next true ⟨fun _ => .inr c.symm, fun _ => rfl⟩⟩
      · rw [if_neg c]; exact ⟨by omega, next false ⟨fun z => (by cases z), fun z => z.elim (fun z => (by cases z)) (fun z => absurd z.symm c)⟩⟩
    | true => rw [bI_t, if_neg (by decide)]; exact ⟨by omega, next true ⟨fun _ => .inl rfl, fun _ => rfl⟩⟩
theorem xm_instance {c1 c2 : mC} {st : List mC} (h : gX M A (r :: F)) (i : iA A) (ok : mFok (r :: F)) (hr : r.st = c1 :: c2 :: st) (v1 : mval A c1.1 c1.2.1) (v2 : mval A c2.1 c2.2.1) (hQ : rX Q M (m_inst A c2.1 c2.2.1 c1.1 c1.2.1) r F) : Z E YX1_instance (d + 4) M [(0, zX16)] 0 [] Q := by
  obtain ⟨n1, n2, n3, n4⟩ := xFs_nums h.2
  obtain ⟨g0, g1, g2, g3, g4⟩ := mFok_hd ok
  have ht := (mtot_le (mFok_tl ok)).1
  have hl : 2 ≤ r.st.length := by rw [hr]; simp
  obtain ⟨a1, a2⟩ := x_cell h.2 (i := 0) (m := 1) (c := c1) (by rw [hr]; rfl) rfl
  obtain ⟨b1, b2⟩ := x_cell h.2 (i := 1) (m := 2) (c := c2) (by rw [hr]; rfl) rfl
  have hob := i.1.1.2
  unfold m_inst at hQ
  have err1 : rX Q M (m_err A 0) r F → Z E YX1_error (d + 3) M (zargs 0 [zX16, vi 0]) 0 [] (zafter E YX1_instance (d + 4) [] 31 3 [] Q) := fun hq => by
    refine rX_err (m := 0) hq rfl h i ok (by omega) (fun M' q s' => ?_) (fun M' q => ?_)
    · show Z E YX1_instance (d + 4) M' [] 34 [vr (some (52, 14, 0))] Q
      exact sX1_instance_34 M' _ s'.1 ⟨52, rfl, q⟩
    · show ZT E YX1_instance (d + 4) M' [] 31 (51, 13, 0) Q
      exact ZT.out (nohand rfl) q
  have err2 : rX Q M (m_err A 0) r F → Z E YX1_error (d + 3) M (zargs 0 [zX16, vi 0]) 0 [] (zafter E YX1_instance (d + 4) [] 70 3 [] Q) := fun hq => by
    refine rX_err (m := 0) hq rfl h i ok (by omega) (fun M' q s' => ?_) (fun M' q => ?_)
    · show Z E YX1_instance (d + 4) M' [] 73 [vr (some (52, 14, 0))] Q
      exact sX1_instance_73 M' _ s'.1 ⟨52, rfl, q⟩
    · show ZT E YX1_instance (d + 4) M' [] 70 (51, 13, 0) Q
      exact ZT.out (nohand rfl) q
  refine iX1_instance_0 M h.1.1 ?_
  simp (disch := omega) only [n3, a1, a2, nn_add, nn_addl, nn_ladd, nn_mul, nn_lmul, nn_mull, nn_sub, nn_subl, nn_lsub, nn_lt, nn_le, nn_eq, nn_ltl, nn_llt, nn_lel, nn_lle, nn_eql, nn_leq, nn_m1, nn_1m, nn_ltm, nn_mlt, nn_mle, nn_lem, nn_cl, nn_in, nn_ns, nn_ns2, nn_nb, nn_nb2, nn_s1, nn_s2, nn_b1, nn_b2]
  refine ⟨by omega, ?_⟩
  obtain ⟨⟨kk, ek, hkk, k6, k7⟩, -⟩ := v1
  by_cases c7 : c1.1 = 7
  · rw [if_pos c7]
    obtain ⟨j, ej, hj⟩ := k7 (by rw [ek] at c7; simp (disch := omega) only [nn_add, nn_addl, nn_ladd, nn_mul, nn_lmul, nn_mull, nn_sub, nn_subl, nn_lsub, nn_lt, nn_le, nn_eq, nn_ltl, nn_llt, nn_lel, nn_lle, nn_eql, nn_leq, nn_m1, nn_1m, nn_ltm, nn_mlt, nn_mle, nn_lem, nn_cl, nn_in, nn_ns, nn_ns2, nn_nb, nn_nb2, nn_s1, nn_s2, nn_b1, nn_b2] at c7; exact c7)
    rw [ej, nn_cl (by omega)] at hQ
    rw [ej]
    have e38 : gi M 38 j = gi (aT A) 141 j := (h.1.2.1.2.2.1 j hj).1
    simp (disch := omega) only [e38, nn_add, nn_addl, nn_ladd, nn_mul, nn_lmul, nn_mull, nn_sub, nn_subl, nn_lsub, nn_lt, nn_le, nn_eq, nn_ltl, nn_llt, nn_lel, nn_lle, nn_eql, nn_leq, nn_m1, nn_1m, nn_ltm, nn_mlt, nn_mle, nn_lem, nn_cl, nn_in, nn_ns, nn_ns2, nn_nb, nn_nb2, nn_s1, nn_s2, nn_b1, nn_b2]
    refine ⟨by omega, ?_⟩
    by_cases q1 : gi (aT A) 141 j = 1
    · rw [if_pos ⟨c7, q1⟩] at hQ
      rw [if_pos q1]
      refine xA_find h.1 i hj ?_
      show Z E YX1_instance (d + 4) M [(0, zX16)] 51 [vi (a_get A j 1)] Q
      refine iX1_instance_51 M _ h.1.1 ?_
      rcases a_get_or i hj 1 with e | ⟨q, z, hz, hqz, q3, -, e⟩
      · rw [if_pos e] at hQ ⊢; exact err2 hQ
      · have en : ¬ a_get A j 1 = -1 := by rw [e, nn_m1 (by omega)]; exact fun z => z
        rw [if_neg en] at hQ ⊢
        rw [e] at hQ ⊢
        obtain ⟨-, -, e48, e49, -⟩ := h.1.2.1.2.2.2 z hz q hqz
        rw [nn_cl (by omega)] at hQ
        rw [n3]
        simp (disch := omega) only [e48, b1, b2, nn_add, nn_addl, nn_ladd, nn_mul, nn_lmul, nn_mull, nn_sub, nn_subl, nn_lsub, nn_lt, nn_le, nn_eq, nn_ltl, nn_llt, nn_lel, nn_lle, nn_eql, nn_leq, nn_m1, nn_1m, nn_ltm, nn_mlt, nn_mle, nn_lem, nn_cl, nn_in, nn_ns, nn_ns2, nn_nb, nn_nb2, nn_s1, nn_s2, nn_b1, nn_b2]
        refine ⟨by omega, ?_⟩
        by_cases q7 : gi (aT A) 146 q = 7
        · rw [if_pos q7] at hQ ⊢
          refine ⟨by omega, ?_⟩
          obtain ⟨⟨kk2, ek2, hkk2, -, k7'⟩, -⟩ := v2
          by_cases d7 : c2.1 = 7
          · rw [if_pos d7]
            obtain ⟨j2, ej2, hj2⟩ := k7' (by rw [ek2] at d7; simp (disch := omega) only [nn_add, nn_addl, nn_ladd, nn_mul, nn_lmul, nn_mull, nn_sub, nn_subl, nn_lsub, nn_lt, nn_le, nn_eq, nn_ltl, nn_llt, nn_lel, nn_lle, nn_eql, nn_leq, nn_m1, nn_1m, nn_ltm, nn_mlt, nn_mle, nn_lem, nn_cl, nn_in, nn_ns, nn_ns2, nn_nb, nn_nb2, nn_s1, nn_s2, nn_b1, nn_b2] at d7; exact d7)
            rw [ej2, nn_cl (by omega)] at hQ
            rw [ej2]
            obtain ⟨l, l1, l2, l3⟩ := a_chn_ok i hj2
            rw [l1, show (j2 :: l).drop 1 = l from rfl] at hQ
            have e41 : gi M 41 j2 = gi (aT A) 139 j2 := (h.1.2.1.2.2.1 j2 hj2).2.1
            simp (disch := omega) only [e41, nn_add, nn_addl, nn_ladd, nn_mul, nn_lmul, nn_mull, nn_sub, nn_subl, nn_lsub, nn_lt, nn_le, nn_eq, nn_ltl, nn_llt, nn_lel, nn_lle, nn_eql, nn_leq, nn_m1, nn_1m, nn_ltm, nn_mlt, nn_mle, nn_lem, nn_cl, nn_in, nn_ns, nn_ns2, nn_nb, nn_nb2, nn_s1, nn_s2, nn_b1, nn_b2]
            refine ⟨by omega, ?_⟩
            refine xm_inst111 (d := d + 2) h.1 q3 e49 l _ l2 l3 hob (fun s hs => ?_)
            refine rX_0 hQ ?_ h ok
            rw [hs]
            by_cases w : gi (aT A) 147 q ∈ l.map nI
            · rw [if_pos w, if_pos ⟨d7, w⟩]
            · rw [if_neg w, if_neg (fun z => w z.2)]
          · rw [if_neg d7]
            rw [if_neg (fun z => d7 z.1)] at hQ
            refine xm_inst111 (d := d + 2) h.1 q3 e49 [] _ rfl (fun _ z => by cases z) hob (fun s hs => ?_)
            refine rX_0 hQ ?_ h ok
            rw [hs, if_neg (by simp)]
        · rw [if_neg q7] at hQ ⊢; exact err2 hQ
    · rw [if_neg (fun z => q1 z.2)] at hQ
      rw [if_neg q1]
      exact err1 hQ
  · rw [if_neg (fun z => c7 z.1)] at hQ
    rw [if_neg c7]
    exact err1 hQ
theorem tm_isMadeBy {s v fs fv : Int32} (h : gT T A (r :: F)) (i : iA A) (ok : mFok (r :: F)) (hh : mTh (r :: F)) (hl : 2 ≤ r.st.length) (v1 : mval A fs fv) (v2 : mval A s v) (hQ : vT Q T (m_inst A s v fs fv) 2 r F) : Zm E YX8_isMadeBy (d + 4) T [(0, T97), (1, vi s), (2, vi v), (3, vi fs), (4, vi fv)] 0 [] Q := by
  have hob := i.1.1.2
  unfold m_inst at hQ
  have keep : ∀ T2 : zM, fr scr T T2 → gT T2 A (r :: F) := fun T2 f => ⟨sT_cg h.1 f (fun a k q => .inl q), tFs_cg h.2.1 ok f (fun a k q => .inl q), (f.2 97 75 (by unfold scr; omega)).1.trans h.2.2.1, (f.2 97 73 (by unfold scr; omega)).1.trans h.2.2.2⟩
  have err : ∀ T2 : zM, fr scr T T2 → vT Q T (m_err A 0) 2 r F → Zm E YX8_isMadeBy (d + 4) T2 [(0, T97), (1, vi s), (2, vi v), (5, vi 0)] 39 [] Q := fun T2 f hq => by
    refine sX8_isMadeBy_39 T2 _ _ _ ?_
    rw [if_pos rfl]
    exact vT_err (m := 0) (vT_out (vT_mono hq f.cT1) (fun T' q => sX8_isMadeBy_50 T' q)) rfl (keep T2 f) i ok hh (by omega)
  refine iX8_isMadeBy_0 T _ _ _ _ ?_
  obtain ⟨⟨kk, ek, hkk, k6, k7⟩, -⟩ := v1
  by_cases c7 : fs = 7
  · rw [if_pos c7]
    obtain ⟨j, ej, hj⟩ := k7 (by rw [ek] at c7; simp (disch := omega) only [nn_add, nn_addl, nn_ladd, nn_mul, nn_lmul, nn_mull, nn_sub, nn_subl, nn_lsub, nn_lt, nn_le, nn_eq, nn_ltl, nn_llt, nn_lel, nn_lle, nn_eql, nn_leq, nn_m1, nn_1m, nn_ltm, nn_mlt, nn_mle, nn_lem, nn_cl, nn_in, nn_ns, nn_ns2, nn_nb, nn_nb2, nn_s1, nn_s2, nn_b1, nn_b2] at c7; exact c7)
    rw [ej, nn_cl (by omega)] at hQ
    rw [ej]
    have e141 : gi T 141 j = gi (aT A) 141 j := h.1.1 141 j (by unfold hpT; omega)
    simp (disch := omega) only [e141, nn_add, nn_addl, nn_ladd, nn_mul, nn_lmul, nn_mull, nn_sub, nn_subl, nn_lsub, nn_lt, nn_le, nn_eq, nn_ltl, nn_llt, nn_lel, nn_lle, nn_eql, nn_leq, nn_m1, nn_1m, nn_ltm, nn_mlt, nn_mle, nn_lem, nn_cl, nn_in, nn_ns, nn_ns2, nn_nb, nn_nb2, nn_s1, nn_s2, nn_b1, nn_b2]
    refine ⟨by omega, ?_⟩
    by_cases q1 : gi (aT A) 141 j = 1
    · rw [if_pos ⟨c7, q1⟩] at hQ
      rw [if_pos q1]
      refine tA_read h.1 i hj (fun e => ?_) (fun q z hz hqz e => ?_)
      · rw [if_pos e] at hQ
        show Zm E YX8_isMadeBy (d + 4) (si (si T 97 111 0) 97 112 0) [(0, T97), (1, vi s), (2, vi v)] 21 [vi 0] Q
        refine sX8_isMadeBy_21 _ _ _ _ ?_
        rw [gi_idx (by decide), gi_self, if_neg (by decide)]
        exact err _ fr_got hQ
      · have q3 := ((i.1.2.2 z hz).2.2.2.1 q hqz).1
        rw [if_neg (by rw [e, nn_m1 (by omega)]; exact fun z => z), e, nn_cl (by omega)] at hQ
        show Zm E YX8_isMadeBy (d + 4) (si (si T 97 111 (gi (aT A) 146 q)) 97 112 (gi (aT A) 147 q)) [(0, T97), (1, vi s), (2, vi v)] 21 [vi 1] Q
        have f2 : fr scr T (si (si T 97 111 (gi (aT A) 146 q)) 97 112 (gi (aT A) 147 q)) := fr_got
        refine sX8_isMadeBy_21 _ _ _ _ ?_
        rw [gi_idx (by decide), gi_self]
        by_cases q7 : gi (aT A) 146 q = 7
        · rw [if_pos q7] at hQ
          rw [if_pos q7]
          refine sX8_isMadeBy_39 _ _ _ _ ?_
          rw [if_neg (by decide), gi_self]
          have g2 := keep _ f2
          generalize si (si T 97 111 (gi (aT A) 146 q)) 97 112 (gi (aT A) 147 q) = T2 at *
          have fin : ∀ x : Int32, ¬ x = 8 → ∀ p, p = (0, A, x, 0) → vT Q T p 2 r F → Zm E YX8_gives (d + 3) (si (si T2 97 111 x) 97 112 0) (zargs 0 [T97, vi 2]) 0 [] (zma E YX8_isMadeBy (d + 4) [] 123 3 [] Q) := fun x hx p ep hq => vT_0 (n := 2) (vT_out (vT_mono hq f2.cT1) (fun T' q => sX8_isMadeBy_126 T' q)) ep g2 ok hl hx
          obtain ⟨⟨kk2, ek2, hkk2, -, k7'⟩, -⟩ := v2
          by_cases d7 : s = 7
          · rw [if_pos d7]
            obtain ⟨j2, ej2, hj2⟩ := k7' (by rw [ek2] at d7; simp (disch := omega) only [nn_add, nn_addl, nn_ladd, nn_mul, nn_lmul, nn_mull, nn_sub, nn_subl, nn_lsub, nn_lt, nn_le, nn_eq, nn_ltl, nn_llt, nn_lel, nn_lle, nn_eql, nn_leq, nn_m1, nn_1m, nn_ltm, nn_mlt, nn_mle, nn_lem, nn_cl, nn_in, nn_ns, nn_ns2, nn_nb, nn_nb2, nn_s1, nn_s2, nn_b1, nn_b2] at d7; exact d7)
            rw [ej2, nn_cl (by omega)] at hQ
            rw [ej2]
            obtain ⟨l, l1, l2, l3⟩ := a_chn_ok i hj2
            rw [l1, show (j2 :: l).drop 1 = l from rfl] at hQ
            have e139 : gi T2 139 j2 = gi (aT A) 139 j2 := g2.1.1 139 j2 (by unfold hpT; omega)
            simp (disch := omega) only [e139, nn_add, nn_addl, nn_ladd, nn_mul, nn_lmul, nn_mull, nn_sub, nn_subl, nn_lsub, nn_lt, nn_le, nn_eq, nn_ltl, nn_llt, nn_lel, nn_lle, nn_eql, nn_leq, nn_m1, nn_1m, nn_ltm, nn_mlt, nn_mle, nn_lem, nn_cl, nn_in, nn_ns, nn_ns2, nn_nb, nn_nb2, nn_s1, nn_s2, nn_b1, nn_b2]
            refine ⟨by omega, ?_⟩
            refine tm_inst78 (d := d + 2) g2.1 l _ false l2 l3 hob (fun x hx => ?_)
            refine fin x ?_ _ ?_ hQ
            · rw [hx]; split <;> decide
            · rw [hx]
              by_cases w : gi (aT A) 147 q ∈ l.map nI
              · rw [if_pos ⟨d7, w⟩, if_pos (.inr w)]
              · rw [if_neg (fun z => w z.2), if_neg (fun z => z.elim (fun z => by cases z) w)]
          · rw [if_neg d7]
            rw [if_neg (fun z => d7 z.1)] at hQ
            refine tm_inst78 (d := d + 2) g2.1 [] _ false rfl (fun _ z => by cases z) hob (fun x hx => ?_)
            rw [if_neg (by simp)] at hx
            subst hx
            exact fin 3 (by decide) _ rfl hQ
        · rw [if_neg q7] at hQ
          rw [if_neg q7]
          exact err _ f2 hQ
    · rw [if_neg (fun z => q1 z.2)] at hQ
      rw [if_neg q1]
      exact err T fr.rf hQ
  · rw [if_neg (fun z => c7 z.1)] at hQ
    rw [if_neg c7]
    exact err T fr.rf hQ
end
