/-! THE MACHINE's STEP: FUNCTION -/
def a_code (A : mA) (o : Nat) (g : Int32) : mA := (si (aT A) 142 o g, aL A, aO A, aP A, aF A)
/-- a new function object: with its code; then with its prototype -/
def a_fun1 (A : mA) (g : Nat) (lk : Int32) : mA := a_code (a_new A 2 (29 + 6 * (g - 1) + 2) 1 lk) (aO A) (nI g)
def a_fun2 (A : mA) (g : Nat) (lk : Int32) : mA := a_new (a_fun1 A g lk) 1 (29 + 6 * (g - 1) + 4) 0 (-1)
def m_fun (A : mA) (g : Nat) (lk : Int32) : mE :=
  if aO A = 300 then (2, A, 0, 0) else if aO A = 299 then (2, a_fun1 A g lk, 0, 0) else
    match a_set (a_fun2 A g lk) (aO A) 1 7 (nI (aO A + 1)) with
    | (false, A') => (2, A', 0, 0)
    | (true, A2) => match a_set A2 (aO A + 1) 2 7 (nI (aO A)) with
      | (false, A') => (2, A', 0, 0)
      | (true, A') => (0, A', 7, nI (aO A))
section
variable {E : zE} {d : Nat} {T M : zM} {Q : zO → zM → Prop} {A : mA} {r : mF} {F : List mF}
theorem a_new_code {o lb : Nat} {g pr st lk : Int32} (ho : ¬ o = aO A) : a_new (a_code A o g) pr lb st lk = a_code (a_new A pr lb st lk) o g := by
  have e : m_new (si (aT A) 142 o g) (aO A) pr lb st lk = si (m_new (aT A) (aO A) pr lb st lk) 142 o g := by
    refine Prod.ext rfl (Prod.ext (funext fun a => funext fun k => ?_) rfl)
    show gi (m_new (si (aT A) 142 o g) (aO A) pr lb st lk) a k = gi (si (m_new (aT A) (aO A) pr lb st lk) 142 o g) a k
    rw [m_new_at]
    show _ = (if a = 142 then (if k = o then g else gi (m_new (aT A) (aO A) pr lb st lk) a k) else gi (m_new (aT A) (aO A) pr lb st lk) a k)
    rw [m_new_at]
    simp only [gi_si]
    by_cases h1 : a = 142
    · subst h1
      by_cases h2 : k = o
      · subst h2; simp [ho]
      · simp [h2]
    · simp [h1]
  show (m_new (si (aT A) 142 o g) (aO A) pr lb st lk, aL A, aO A + 1, (fun i => if i = aO A then [] else aP A i), aF A) = (si (m_new (aT A) (aO A) pr lb st lk) 142 o g, aL A, aO A + 1, (fun i => if i = aO A then [] else aP A i), aF A)
  rw [e]
theorem iA_code {o : Nat} {g : Int32} (i : iA A) : iA (a_code A o g) := by
  obtain ⟨⟨⟨h1, h2⟩, ⟨g1, g2, g3, g4, g5⟩, H⟩, i2, i3, i4⟩ := i
  have e : ∀ a k, a ≠ 142 → gi (aT (a_code A o g)) a k = gi (aT A) a k := fun a k q => gi_oth q
  have e9 : gi (aT (a_code A o g)) 149 = gi (aT A) 149 := funext fun k => e 149 k (by decide)
  have e39 : gi (aT (a_code A o g)) 139 = gi (aT A) 139 := funext fun k => e 139 k (by decide)
  refine ⟨⟨⟨(e _ _ (by decide)).trans h1, h2⟩, ⟨(e _ _ (by decide)).trans g1, g2, by rw [e9, e 97 85 (by decide)]; exact g3, g4, g5⟩, fun z hz => ?_⟩, i2, fun z hz q hq => ?_, fun z hz => ?_⟩
  · obtain ⟨d1, d2, d3⟩ := H z hz
    exact ⟨by rw [e9, e 143 _ (by decide)]; exact d1, (e _ _ (by decide)).trans d2, d3⟩
  · have := i3 z hz q hq
    rw [e 146 _ (by decide), e 147 _ (by decide), e 145 _ (by decide)]
    exact ⟨this.1, fun h7 => by obtain ⟨j, j1, j2, j3⟩ := this.2.1 h7; exact ⟨j, j1, j2, by rw [e 141 _ (by decide)]; exact j3⟩, this.2.2⟩
  · rw [e39]; exact i4 z hz
theorem hX_code {o : Nat} {g : Int32} (h : hX M (aT A) (aO A) (aP A) (aF A)) : hX M (aT (a_code A o g)) (aO A) (aP A) (aF A) := by
  obtain ⟨⟨b1, b2⟩, b5, b3, b4⟩ := h
  have e : ∀ a k, a ≠ 142 → gi (aT (a_code A o g)) a k = gi (aT A) a k := fun a k q => gi_oth q
  refine ⟨⟨b1, by rw [e 97 86 (by decide)]; exact b2⟩, b5, fun z hz => ?_, fun z hz q hq => ?_⟩
  · rw [e 141 _ (by decide), e 139 _ (by decide), e 140 _ (by decide), e 143 _ (by decide), e 144 _ (by decide)]; exact b3 z hz
  · rw [e 145 _ (by decide), e 149 _ (by decide), e 146 _ (by decide), e 147 _ (by decide), e 148 _ (by decide)]; exact b4 z hz q hq
theorem sX_code9 {o : Nat} {g : Int32} (h : sX M A) (ho : 299 ≤ o) : sX M (a_code A o g) := by
  obtain ⟨hw, hx, hl, hxt⟩ := h
  refine ⟨hw, hX_code hx, fun z hz => ?_, hxt⟩
  obtain ⟨pr, r1, r2, r3, r4, r5⟩ := hl z hz
  have e : ∀ a k, a ≠ 142 → gi (aT (a_code A o g)) a k = gi (aT A) a k := fun a k q => gi_oth q
  refine ⟨pr, r1, r2, r3, by rw [e 138 _ (by decide)]; exact r4, fun q => ?_⟩
  rw [e 141 _ (by decide), show gi (aT (a_code A o g)) 142 z = gi (aT A) 142 z from gi_idx (by omega)]
  exact r5 q
theorem sX_code {o : Nat} {g : Int32} (h : sX M A) (hn : ∀ pr, gi M 40 o = nI pr → pr < 160 → 29 ≤ pr) : sX (si M 39 o g) (a_code A o g) := by
  obtain ⟨hw, ⟨⟨b1, b2⟩, ⟨sp, m, s1, s2, s3, s4⟩, b3, b4⟩, hl, hxt⟩ := h
  have f : fr (fun a _ => a = 39) M (si M 39 o g) := fr.si rfl
  have e : ∀ a k, a ≠ 39 → gi (si M 39 o g) a k = gi M a k := fun a k q => gi_oth q
  have e47 : gi (si M 39 o g) 47 = gi M 47 := funext fun k => e 47 k (by decide)
  have e' : ∀ a k, a ≠ 142 → gi (aT (a_code A o g)) a k = gi (aT A) a k := fun a k q => gi_oth q
  have hx : hX (si M 39 o g) (aT A) (aO A) (aP A) (aF A) := by
    refine ⟨⟨(e _ _ (by decide)).trans b1, (e _ _ (by decide)).trans b2⟩, ⟨sp, m, s1, s2, by rw [e47, e 16 28 (by decide)]; exact s3, (e _ _ (by decide)).trans s4⟩, fun z hz => ?_, fun z hz q hq => ?_⟩
    · rw [e 38 _ (by decide), e 41 _ (by decide), e 42 _ (by decide), e 43 _ (by decide), e 44 _ (by decide)]; exact b3 z hz
    · rw [e 46 _ (by decide), e 47 _ (by decide), e 48 _ (by decide), e 49 _ (by decide), e 50 _ (by decide)]; exact b4 z hz q hq
  refine ⟨cw_fr hw f (fun q hq => by have := cwl_ok q hq; omega), hX_code hx, fun z hz => ?_, ?_⟩
  · obtain ⟨pr, r1, r2, r3, r4, r5⟩ := hl z hz
    refine ⟨pr, (e _ _ (by decide)).trans r1, r2, r3, by rw [e 45 _ (by decide), e' 138 _ (by decide)]; exact r4, fun q => ?_⟩
    by_cases hz' : z = o
    · subst hz'
      rw [gi_self, if_neg (fun w => by have := hn pr r1 r2; omega)]
      exact (gi_self ..).symm
    · rw [gi_idx hz', e' 141 _ (by decide), show gi (aT (a_code A o g)) 142 z = gi (aT A) 142 z from gi_idx hz']; exact r5 q
  · obtain ⟨x1, x2, ⟨y1, y2, y3⟩, x4⟩ := hxt
    exact ⟨(f.2 17 1 (by omega)).2.2.trans x1, (f.2 17 0 (by omega)).2.2.trans x2, ⟨(f.2 17 2 (by omega)).1.trans y1, fun k hk => (f.2 18 k (by omega)).1.trans (y2 k hk), fun j hj => (f.2 19 j (by omega)).1.trans (y3 j hj)⟩, x4⟩
/-- the twin's new object gets its link and its code -/
theorem sT_code {pr st lk g : Int32} {lb : Nat} (h : sT T (a_new A pr lb st (-1))) : sT (si (si T 140 (aO A) lk) 142 (aO A) g) (a_code (a_new A pr lb st lk) (aO A) g) := by
  have f : fr (fun a _ => a = 140 ∨ a = 142) T (si (si T 140 (aO A) lk) 142 (aO A) g) := (fr.si (.inl rfl)).tr (fr.si (.inr rfl))
  refine ⟨fun a k q => ?_, (f.2 97 7 (by omega)).1.trans h.2.1, h.2.2.1, fun s' w hs => ?_⟩
  · have e1 : gi (si T 140 (aO A) lk) a k = gi (m_new (aT A) (aO A) pr lb st lk) a k := by
      rw [← m_new_lk, gi_si, gi_si, show gi T a k = gi (m_new (aT A) (aO A) pr lb st (-1)) a k from h.1 a k q]
    show gi (si (si T 140 (aO A) lk) 142 (aO A) g) a k = gi (si (m_new (aT A) (aO A) pr lb st lk) 142 (aO A) g) a k
    by_cases h1 : a = 142
    · subst h1
      by_cases h2 : k = aO A
      · rw [h2, gi_self, gi_self]
      · rw [gi_idx h2, gi_idx h2]; exact e1
    · rw [gi_oth h1, gi_oth h1]; exact e1
  · obtain ⟨q1, q2, q3⟩ := h.2.2.2 s' w hs
    exact ⟨(f.2 101 s' (by omega)).1.trans q1, q2, fun k hk => (f.2 100 _ (by omega)).1.trans (q3 k hk)⟩
theorem a_fun_iA {g : Nat} {lk : Int32} (i : iA A) (hlt : aO A < 300) (h9 : 9 ≤ aO A) (hpp : 29 + 6 * (g - 1) + 4 < 160) : iA (a_fun1 A g lk) ∧ (aO A < 299 → iA (a_fun2 A g lk) ∧ mval (a_fun2 A g lk) 7 (nI (aO A + 1)) ∧ mval (a_fun2 A g lk) 7 (nI (aO A))) := by
  have i1 : iA (a_fun1 A g lk) := iA_code (iA_new i hlt (.inr ⟨2, rfl, by omega⟩) (by omega))
  have e1 : gi (aT (a_fun1 A g lk)) 141 (aO A) = 1 := by
    show gi (si (aT (a_new A 2 (29 + 6 * (g - 1) + 2) 1 lk)) 142 (aO A) (nI g)) 141 (aO A) = 1
    rw [gi_oth (by decide), a_new_srt _ _ _ _ _ _ _ (by omega), if_pos rfl]; rfl
  refine ⟨i1, fun h2 => ⟨iA_new i1 (by show aO A + 1 < 300; omega) (.inr ⟨1, rfl, by show 1 < aO A + 1; omega⟩) (by omega), mval_7 (by show aO A + 1 < aO A + 1 + 1; omega) ?_, mval_7 (by show aO A < aO A + 1 + 1; omega) ?_⟩⟩
  · show ¬ gi (aT (a_new (a_fun1 A g lk) 1 (29 + 6 * (g - 1) + 4) 0 (-1))) 141 (aO A + 1) = 3
    rw [a_new_srt _ _ _ _ _ _ _ (by omega), if_pos (show aO A + 1 = aO (a_fun1 A g lk) from rfl)]
    decide
  · show ¬ gi (aT (a_new (a_fun1 A g lk) 1 (29 + 6 * (g - 1) + 4) 0 (-1))) 141 (aO A) = 3
    rw [a_new_srt _ _ _ _ _ _ _ (by omega), if_neg (show ¬ aO A = aO (a_fun1 A g lk) by show ¬ aO A = aO A + 1; omega), e1]
    decide
/-- closure of the component -/
theorem xm_fun {g : Nat} {lk : Int32} (s : sX M A) (i : iA A) (h9 : 9 ≤ aO A) (hg : 1 ≤ g) (hpp : 29 + 6 * (g - 1) + 4 < 160) (hlk : vp_nar .short lk.toInt16.toInt32 = lk)
    (h2 : ∀ A' M', m_fun A g lk = (2, A', 0, 0) → sX M' A' → fr hpX M M' → Q (.inr (51, 13, 0)) M')
    (h1 : ∀ A' M', m_fun A g lk = (0, A', 7, nI (aO A)) → sX M' A' → fr hpX M M' → Q (.inl (some (vi (nI (aO A))))) M') : Z E YX1_closure (d + 2) M [(0, zX16), (1, vi (nI g)), (2, vi lk)] 0 [] Q := by
  refine iX1_closure_0 M _ _ s.1 ?_
  simp (disch := omega) only [nn_add, nn_addl, nn_ladd, nn_mul, nn_lmul, nn_mull, nn_sub, nn_subl, nn_lsub, nn_lt, nn_le, nn_eq, nn_ltl, nn_llt, nn_lel, nn_lle, nn_eql, nn_leq, nn_m1, nn_1m, nn_ltm, nn_mlt, nn_mle, nn_lem, nn_cl, nn_in, nn_ns, nn_ns2, nn_nb, nn_nb2, nn_s1, nn_s2, nn_b1, nn_b2]
  refine xA_new (ks := 1) (pr := 2) (lk := lk) s i (by omega) (by omega) (by omega) (fun _ => by omega) rfl hlk (fun h3 => ?_) (fun hlt s1 => ?_)
  · show ZT E YX1_closure (d + 2) M [(0, zX16), (1, vi (nI g))] 11 (51, 13, 0) Q
    exact ZT.out (nohand rfl) (h2 A M (by unfold m_fun; rw [if_pos h3]) s fr.rf)
  · obtain ⟨i1, i2⟩ := a_fun_iA (g := g) (lk := lk) i hlt h9 hpp
    have i0 : iA (a_new A 2 (29 + 6 * (g - 1) + 2) 1 lk) := iA_new i hlt (.inr ⟨2, rfl, by omega⟩) (by omega)
    have f1 : fr hpX M (x_new M (aO A) (nI 1) (29 + 6 * (g - 1) + 2) 2 lk) := (x_new_fr M (aO A) (nI 1) (29 + 6 * (g - 1) + 2) 2 lk).mono fun a k q => by unfold hpX; omega
    have c1 : gi (x_new M (aO A) (nI 1) (29 + 6 * (g - 1) + 2) 2 lk) 40 (aO A) = nI (29 + 6 * (g - 1) + 2) := by rw [(x_new_at M (aO A) (nI 1) (29 + 6 * (g - 1) + 2) 2 lk (aO A)).2.2.1, if_pos rfl]
    show Z E YX1_closure (d + 2) (x_new M (aO A) (nI 1) (29 + 6 * (g - 1) + 2) 2 lk) [(0, zX16), (1, vi (nI g))] 14 [vi (nI (aO A))] Q
    generalize x_new M (aO A) (nI 1) (29 + 6 * (g - 1) + 2) 2 lk = M1 at *
    refine iX1_closure_14 M1 _ _ s1.1 ?_
    simp (disch := omega) only [nn_add, nn_addl, nn_ladd, nn_mul, nn_lmul, nn_mull, nn_sub, nn_subl, nn_lsub, nn_lt, nn_le, nn_eq, nn_ltl, nn_llt, nn_lel, nn_lle, nn_eql, nn_leq, nn_m1, nn_1m, nn_ltm, nn_mlt, nn_mle, nn_lem, nn_cl, nn_in, nn_ns, nn_ns2, nn_nb, nn_nb2, nn_s1, nn_s2, nn_b1, nn_b2]
    refine xA_new (ks := 0) (pr := 1) (lk := -1) s1 i0 (by omega) (by omega) (by omega) (fun _ => by omega) rfl rfl (fun h3 => ?_) (fun hlt2 s2 => ?_)
    · have h299 : aO A = 299 := by have : aO A + 1 = 300 := h3; omega
      show ZT E YX1_closure (d + 2) M1 [(0, zX16), (1, vi (nI g)), (3, vi (nI (aO A)))] 26 (51, 13, 0) Q
      exact ZT.out (nohand rfl) (h2 (a_fun1 A g lk) M1 (by unfold m_fun; rw [if_neg (by omega), if_pos h299]) (sX_code9 s1 (by omega)) f1)
    · have hlt2 : aO A + 1 < 300 := hlt2
      obtain ⟨i2, v2, v1⟩ := i2 (by omega)
      have f2 : fr hpX M1 (x_new M1 (aO A + 1) (nI 0) (29 + 6 * (g - 1) + 4) 1 (-1)) := (x_new_fr M1 (aO A + 1) (nI 0) (29 + 6 * (g - 1) + 4) 1 (-1)).mono fun a k q => by unfold hpX; omega
      have c2 : gi (x_new M1 (aO A + 1) (nI 0) (29 + 6 * (g - 1) + 4) 1 (-1)) 40 (aO A) = nI (29 + 6 * (g - 1) + 2) := by rw [(x_new_at M1 (aO A + 1) (nI 0) (29 + 6 * (g - 1) + 4) 1 (-1) (aO A)).2.2.1, if_neg (by omega)]; exact c1
      show Z E YX1_closure (d + 2) (x_new M1 (aO A + 1) (nI 0) (29 + 6 * (g - 1) + 4) 1 (-1)) [(0, zX16), (1, vi (nI g)), (3, vi (nI (aO A)))] 29 [vi (nI (aO A + 1))] Q
      have s2' : sX (x_new M1 (aO A + 1) (nI 0) (29 + 6 * (g - 1) + 4) 1 (-1)) (a_new (a_new A 2 (29 + 6 * (g - 1) + 2) 1 lk) 1 (29 + 6 * (g - 1) + 4) 0 (-1)) := s2
      clear s2
      generalize x_new M1 (aO A + 1) (nI 0) (29 + 6 * (g - 1) + 4) 1 (-1) = M2 at *
      refine sX1_closure_29 M2 _ _ _ s2'.1 ?_
      simp (disch := omega) only [nn_add, nn_addl, nn_ladd, nn_mul, nn_lmul, nn_mull, nn_sub, nn_subl, nn_lsub, nn_lt, nn_le, nn_eq, nn_ltl, nn_llt, nn_lel, nn_lle, nn_eql, nn_leq, nn_m1, nn_1m, nn_ltm, nn_mlt, nn_mle, nn_lem, nn_cl, nn_in, nn_ns, nn_ns2, nn_nb, nn_nb2, nn_s1, nn_s2, nn_b1, nn_b2]
      refine ⟨by omega, ?_⟩
      have s3 : sX (si M2 39 (aO A) (nI g)) (a_fun2 A g lk) := by
        have := sX_code (o := aO A) (g := nI g) s2' (fun pr q1 q2 => by rw [c2, nn_eq (by omega) (by omega)] at q1; omega)
        rw [← a_new_code (show ¬ aO A = aO A + 1 by omega)] at this
        exact this
      have f3 : fr hpX M2 (si M2 39 (aO A) (nI g)) := fr.si (by unfold hpX; omega)
      generalize si M2 39 (aO A) (nI g) = M3 at *
      refine xA_set (o := aO A) (jx := 1) (ks := 7) (v := nI (aO A + 1)) s3 i2 (by show aO A < aO A + 1 + 1; omega) (by omega) (by omega) (fun M4 A4 ea s4 f4 => ?_) (fun A4 ea eA => ?_)
      · have ea' : a_set (a_fun2 A g lk) (aO A) 1 7 (nI (aO A + 1)) = (true, A4) := ea
        obtain ⟨i4, eL, eO, eT⟩ := iA_set (jx := 1) i2 (by show aO A < aO A + 1 + 1; omega) (by have := i2.2.1.1; omega) v2 ea
        have eO : aO A4 = aO A + 1 + 1 := eO
        show Z E YX1_closure (d + 2) M4 [(0, zX16), (3, vi (nI (aO A))), (4, vi (nI (aO A + 1)))] 49 [] Q
        refine sX1_closure_49 M4 _ _ s4.1 ?_
        refine xA_set (o := aO A + 1) (jx := 2) (ks := 7) (v := nI (aO A)) s4 i4 (by omega) (by omega) (by omega) (fun M5 A5 eb s5 f5 => ?_) (fun A5 eb eB => ?_)
        · have eb' : a_set A4 (aO A + 1) 2 7 (nI (aO A)) = (true, A5) := eb
          show Z E YX1_closure (d + 2) M5 [(3, vi (nI (aO A)))] 59 [] Q
          exact sX1_closure_59 M5 _ s5.1 (h1 A5 M5 (by unfold m_fun; rw [if_neg (by omega), if_neg (by omega), ea']; dsimp only; rw [eb']) s5 ((((f1.tr f2).tr f3).tr (fX_hp f4)).tr (fX_hp f5)))
        · have eb' : a_set A4 (aO A + 1) 2 7 (nI (aO A)) = (false, A5) := eb
          show ZT E YX1_closure (d + 2) M4 [(3, vi (nI (aO A)))] 56 (51, 13, 0) Q
          exact ZT.out (nohand rfl) (h2 A5 M4 (by unfold m_fun; rw [if_neg (by omega), if_neg (by omega), ea']; dsimp only; rw [eb']) (by rw [eB]; exact s4) (((f1.tr f2).tr f3).tr (fX_hp f4)))
      · have ea' : a_set (a_fun2 A g lk) (aO A) 1 7 (nI (aO A + 1)) = (false, A4) := ea
        show ZT E YX1_closure (d + 2) M3 [(0, zX16), (3, vi (nI (aO A))), (4, vi (nI (aO A + 1)))] 46 (51, 13, 0) Q
        exact ZT.out (nohand rfl) (h2 A4 M3 (by unfold m_fun; rw [if_neg (by omega), if_neg (by omega), ea']) (by rw [eA]; exact s3) ((f1.tr f2).tr f3))
theorem xs_fun {g : Nat} (h : gX M A (r :: F)) (i : iA A) (h9 : 9 ≤ aO A) (ok : mFok (r :: F)) (hpl : r.pl + 1 < 600) (hc : gi M 30 r.pl = 9) (ha : gi M 31 r.pl = nI g) (hg : 1 ≤ g) (hpp : 29 + 6 * (g - 1) + 4 < 160) (hlk : vp_nar .short r.1.2.1.toInt16.toInt32 = r.1.2.1) (hQ : vX Q M (m_fun A g r.1.2.1) 0 (mFpl r (r.pl + 1)) F) : Z E YX1_step (d + 3) M [(0, zX16), (1, vi (nI r.pl))] 0 [] Q := by
  obtain ⟨n1, n2, n3, n4⟩ := xFs_nums h.2
  obtain ⟨g0, -⟩ := mFok_hd ok
  obtain ⟨g', f⟩ := gX_pl h ok (r.pl + 1)
  have ok' : mFok (mFpl r (r.pl + 1) :: F) := mFok_pl ok hpl
  have hQ1 := vX_mono hQ f.cX3
  have hs : gi M 58 F.length = r.1.2.1 := h.2.2.1.1.2.1
  refine sX1_step_0 M _ h.1.1 ?_
  rw [n1, nn_cl (n := r.pl) (by omega), hc, ha]
  refine ⟨by rw [nn_in (by omega)]; omega, by rw [nn_in (by omega)]; omega, by rw [nn_in (by omega)]; omega, by rw [nn_in (by omega)]; omega, ?_⟩
  repeat rw [if_neg (by decide)]
  rw [if_pos rfl]
  simp (disch := omega) only [hs, nn_add, nn_addl, nn_ladd, nn_mul, nn_lmul, nn_mull, nn_sub, nn_subl, nn_lsub, nn_lt, nn_le, nn_eq, nn_ltl, nn_llt, nn_lel, nn_lle, nn_eql, nn_leq, nn_m1, nn_1m, nn_ltm, nn_mlt, nn_mle, nn_lem, nn_cl, nn_in, nn_ns, nn_ns2, nn_nb, nn_nb2, nn_s1, nn_s2, nn_b1, nn_b2]
  generalize si M 59 F.length (nI (r.pl + 1)) = M1 at *
  refine ⟨by omega, xm_fun g'.1 i h9 hg hpp hlk (fun A' M' e s' f' => ?_) (fun A' M' e s' f' => ?_)⟩
  · obtain ⟨g2, f2⟩ := gX_hp g' ok' s' f'
    show ZT E YX1_step (d + 3) M' [] 415 (51, 13, 0) Q
    rw [e] at hQ1
    exact ZT.out (nohand rfl) (hQ1.2.2 rfl _ g2 f2)
  · obtain ⟨g2, f2⟩ := gX_hp g' ok' s' f'
    show Z E YX1_step (d + 3) M' [] 418 [vi (nI (aO A)), vi 7, zX16] Q
    exact iX1_step_418 _ _ _ s'.1 (vX_pm (ks := 7) (vX_mono hQ1 f2) e g2 ok' (by omega))
/-- makeFunction of the twin -/
theorem tm_fun {g : Nat} (h : gT T A (r :: F)) (i : iA A) (h9 : 9 ≤ aO A) (ok : mFok (r :: F)) (hg : 1 ≤ g) (hpp : 29 + 6 * (g - 1) + 4 < 160) (hQ : vT Q T (m_fun A g r.1.2.1) 0 r F) : Zm E YX8_makeFunction (d + 3) T [(0, T97), (1, vi (nI g))] 0 [] Q := by
  obtain ⟨n1, n2, n3, n4⟩ := tFs_nums h.2.1
  obtain ⟨g0, g1, -⟩ := mFok_hd ok
  have hs : gi T 151 F.length = r.1.2.1 := h.2.1.2.1.1.2.1
  have nr : ∀ (A' : mA) (T' : zM), m_fun A g r.1.2.1 = (2, A', 0, 0) → sT T' A' → gi T' 97 75 = 1 → fr hnT T T' → Q (.inl none) T' := fun A' T' e s' x75 f' => by
    rw [e] at hQ
    exact hQ.2.2 rfl T' s' (tFs_cg h.2.1 ok f' (fun a k q => q.elim (fun q => .inr (.inr (.inl q))) (fun q => .inr (.inr (.inr q))))) x75 ((f'.2 97 73 (by unfold hnT hpT; omega)).1.trans h.2.2.2) (fr_hnT f')
  have n75 : ∀ T' : zM, fr (fun a k => a = 97 ∧ k = 75) T' (si T' 97 75 1) := fun T' => fr.si ⟨rfl, rfl⟩
  refine sX8_makeFunction_0 T _ ?_
  simp (disch := omega) only [nn_add, nn_addl, nn_ladd, nn_mul, nn_lmul, nn_mull, nn_sub, nn_subl, nn_lsub, nn_lt, nn_le, nn_eq, nn_ltl, nn_llt, nn_lel, nn_lle, nn_eql, nn_leq, nn_m1, nn_1m, nn_ltm, nn_mlt, nn_mle, nn_lem, nn_cl, nn_in, nn_ns, nn_ns2, nn_nb, nn_nb2, nn_s1, nn_s2, nn_b1, nn_b2]
  refine tA_new (pr := 2) (st := 1) h.1 i (by omega) (fun h3 => ?_) (fun T1 hlt s1 f1 => ?_)
  · show Zm E YX8_makeFunction (d + 3) (si T 97 75 1) [(0, T97), (1, vi (nI g)), (2, vi (nI (29 + 6 * (g - 1))))] 19 [vi 0] Q
    refine iX8_makeFunction_19 _ _ _ _ ?_
    rw [gi_self, if_neg (by decide)]
    exact nr A _ (by unfold m_fun; rw [if_pos h3]) (sT_cg h.1 (n75 T) (fun a k q => .inr (.inr q))) (gi_self ..) ((n75 T).mono fun a k q => .inr q)
  · obtain ⟨i1, i2⟩ := a_fun_iA (g := g) (lk := r.1.2.1) i hlt h9 hpp
    show Zm E YX8_makeFunction (d + 3) T1 [(0, T97), (1, vi (nI g)), (2, vi (nI (29 + 6 * (g - 1))))] 19 [vi (nI (aO A))] Q
    have hs1 : gi T1 151 F.length = r.1.2.1 := (f1.2 151 _ (by omega)).1.trans hs
    refine iX8_makeFunction_19 _ _ _ _ ?_
    rw [(f1.2 97 75 (by omega)).1, h.2.2.1, if_pos rfl, (f1.2 97 92 (by omega)).1, n1]
    simp (disch := omega) only [hs1, nn_add, nn_addl, nn_ladd, nn_mul, nn_lmul, nn_mull, nn_sub, nn_subl, nn_lsub, nn_lt, nn_le, nn_eq, nn_ltl, nn_llt, nn_lel, nn_lle, nn_eql, nn_leq, nn_m1, nn_1m, nn_ltm, nn_mlt, nn_mle, nn_lem, nn_cl, nn_in, nn_ns, nn_ns2, nn_nb, nn_nb2, nn_s1, nn_s2, nn_b1, nn_b2]
    refine ⟨by omega, by omega, ?_⟩
    have s2 : sT (si (si T1 140 (aO A) r.1.2.1) 142 (aO A) (nI g)) (a_fun1 A g r.1.2.1) := sT_code s1
    have f2 : fr hpT T (si (si T1 140 (aO A) r.1.2.1) 142 (aO A) (nI g)) := ((f1.mono fun a k q => by unfold hpT; omega).tr (fr.si (by unfold hpT; omega))).tr (fr.si (by unfold hpT; omega))
    generalize si (si T1 140 (aO A) r.1.2.1) 142 (aO A) (nI g) = T2 at *
    refine tA_new (pr := 1) (st := 0) s2 i1 (by omega) (fun h3 => ?_) (fun T3 hlt3 s3 f3 => ?_)
    · have h299 : aO A = 299 := by have : aO A + 1 = 300 := h3; omega
      show Zm E YX8_makeFunction (d + 3) (si T2 97 75 1) [(0, T97), (3, vi (nI (aO A)))] 61 [vi 0] Q
      refine sX8_makeFunction_61 _ _ _ ?_
      rw [gi_self, if_neg (by decide)]
      exact nr (a_fun1 A g r.1.2.1) _ (by unfold m_fun; rw [if_neg (by omega), if_pos h299]) (sT_cg s2 (n75 T2) (fun a k q => .inr (.inr q))) (gi_self ..) ((f2.mono fun a k q => .inl q).tr ((n75 T2).mono fun a k q => .inr q))
    · have hlt3 : aO A + 1 < 300 := hlt3
      obtain ⟨i2, v2, v1⟩ := i2 (by omega)
      have f03 : fr hpT T T3 := f2.tr (f3.mono fun a k q => by unfold hpT; omega)
      show Zm E YX8_makeFunction (d + 3) T3 [(0, T97), (3, vi (nI (aO A)))] 61 [vi (nI (aO A + 1))] Q
      refine sX8_makeFunction_61 _ _ _ ?_
      rw [(f03.2 97 75 (by unfold hpT; omega)).1, h.2.2.1, if_pos rfl]
      refine tA_set (A := a_fun2 A g r.1.2.1) (o := aO A) s3 i2 (by show aO A < aO A + 1 + 1; omega) (fun T4 A4 ea s4 f4 => ?_) (fun A4 ea eA => ?_)
      · obtain ⟨i4, eL, eO, eT⟩ := iA_set (jx := 1) i2 (by show aO A < aO A + 1 + 1; omega) (by have := i2.2.1.1; omega) v2 ea
        have eO : aO A4 = aO A + 1 + 1 := eO
        have f04 : fr hpT T T4 := f03.tr (fT_hp f4)
        show Zm E YX8_makeFunction (d + 3) T4 [(0, T97), (3, vi (nI (aO A))), (4, vi (nI (aO A + 1)))] 81 [] Q
        refine sX8_makeFunction_81 _ _ _ ?_
        rw [(f04.2 97 75 (by unfold hpT; omega)).1, h.2.2.1, if_pos rfl]
        refine tA_set (o := aO A + 1) s4 i4 (by omega) (fun T5 A5 eb s5 f5 => ?_) (fun A5 eb eB => ?_)
        · obtain ⟨g2, fc⟩ := gT_hp h ok s5 (f04.tr (fT_hp f5))
          show Zm E YX8_makeFunction (d + 3) T5 [(0, T97), (3, vi (nI (aO A)))] 99 [] Q
          refine iX8_makeFunction_99 _ _ ?_
          exact vT_0 (n := 0) (vT_out (vT_mono hQ fc) (fun T' q => sX8_makeFunction_111 T' q)) (by unfold m_fun; rw [if_neg (by omega), if_neg (by omega), ea]; dsimp only; rw [eb]) g2 ok (Nat.zero_le _) (by decide)
        · have f5 : fr hnT T (si T4 97 75 1) := (f04.mono fun a k q => .inl q).tr ((n75 T4).mono fun a k q => .inr q)
          show Zm E YX8_makeFunction (d + 3) (si T4 97 75 1) [(0, T97), (3, vi (nI (aO A)))] 99 [] Q
          refine iX8_makeFunction_99 _ _ ?_
          exact vT_2 (n := 0) (A' := A5) (vT_out hQ (fun T' q => sX8_makeFunction_111 T' q)) (by unfold m_fun; rw [if_neg (by omega), if_neg (by omega), ea]; dsimp only; rw [eb]) (by rw [eB]; exact sT_cg s4 (n75 T4) (fun a k q => .inr (.inr q))) ok (tFs_cg h.2.1 ok f5 (fun a k q => q.elim (fun q => .inr (.inr (.inl q))) (fun q => .inr (.inr (.inr q))))) (gi_self ..) ((f5.2 97 73 (by unfold hnT hpT; omega)).1.trans h.2.2.2) (fr_hnT f5)
      · show Zm E YX8_makeFunction (d + 3) (si T3 97 75 1) [(0, T97), (3, vi (nI (aO A))), (4, vi (nI (aO A + 1)))] 81 [] Q
        refine sX8_makeFunction_81 _ _ _ ?_
        rw [gi_self, if_neg (by decide)]
        exact nr A4 _ (by unfold m_fun; rw [if_neg (by omega), if_neg (by omega), ea]) (by rw [eA]; exact sT_cg s3 (n75 T3) (fun a k q => .inr (.inr q))) (gi_self ..) ((f03.mono fun a k q => .inl q).tr ((n75 T3).mono fun a k q => .inr q))
theorem ts_fun {g : Nat} (h : gT T A (r :: F)) (i : iA A) (h9 : 9 ≤ aO A) (ok : mFok (r :: F)) (hc : gi T 123 r.pl = 9) (ha : gi T 124 r.pl = nI g) (hg : 1 ≤ g) (hpp : 29 + 6 * (g - 1) + 4 < 160) (hQ : vT Q T (m_fun A g r.1.2.1) 0 r F) : Zm E YX8_step_2 (d + 4) T [(0, T97)] 0 [] Q := by
  obtain ⟨n1, n2, n3, n4⟩ := tFs_nums h.2.1
  obtain ⟨g0, g1, -⟩ := mFok_hd ok
  refine sX8_step_2_0 T ?_
  rw [n1, nn_cl (n := F.length) (by omega), n2, nn_cl (n := r.pl) (by omega), hc, ha]
  refine ⟨by rw [nn_in (by omega)]; omega, by rw [nn_in (by omega)]; omega, by rw [nn_in (by omega)]; omega, by rw [nn_in (by omega)]; omega, ?_⟩
  repeat rw [if_neg (by decide)]
  rw [if_pos rfl]
  exact tm_fun h i h9 ok hg hpp (vT_out hQ (fun T' q => iX8_step_2_335 T' q))
end
