/-! THE COMPONENT's PARSER: statement -/
section
variable {E : zE} {pp a lf n : Nat} {c : Nat → Int32} {dg : Int32 → List Int32} {K o dS dE DE dm : Nat} {r : pT}
/-- a word whose statement is another method's -/
theorem in_cl {Q : zO → zM → Prop} {M M1 : zM} {τ τ1 : Nat → Nat} {fs fs1 : List Nat} {s s1 : pS} {C : pC} {b1 t1 f : Nat} {v1 : gSt} {w : Int32} {pF : pR gSt} (z190 : 190 ≤ zsz M) (R1 : rk pp a lf n c M τ fs s (geN s.2.2.length) C o M1 τ1 fs1 s1 109 2199) (n1 : sNg (szG n c 0 f 0 0 s s1) (zsz M) M1 τ1 C.2 (b1, t1, 0) v1) (hf : f ≤ 8) (e1 : pF = .ok (v1, s1)) (hy : ∀ v s', pF = .ok (v, s') → ∀ M' τ' fs' p, pEnx pp a lf n c M τ fs s C o M' τ' fs' s' → sNg (szG n c 0 8 (pwI w) 3 s s') (zsz M) M' τ' C.2 p v → Q (.inl (some (vr (some p)))) M') : Q (.inl (some (vr (some (b1, t1, 0))))) M1 := by
  obtain ⟨n0, D1, o1, m1, h1, y1, ⟨q1, q2, q3, q4, q5⟩, q6⟩ := n1
  exact hy v1 s1 e1 M1 _ fs1 _ (R1.ndx (by omega) (by omega)) ⟨n0, _, _, _, _, _, ⟨by omega, by omega, by omega, q4, q5⟩, q6.mv (fin_mvr (lo := zsz M)) z190 (Nat.le_refl _)⟩
/-- for -/
theorem in_fo (hN : cNx E pp a lf n c dS dE DE o r) (hK : 1300 ≤ K) (h4 : 4 ≤ DE) (hdm : dS + 4 ≤ dm ∧ dE + 4 ≤ dm ∧ 36 ≤ dm) : cIn E pp a lf n c dm o 10 (pInn (zOf n c dg) K 10 r) := by
  obtain ⟨hr, hS, hE, hW, hDE⟩ := id hN
  intro d Q M τ fs s C hd hH h hy hn
  obtain ⟨d, rfl⟩ : ∃ d', d = d' + 15 := ⟨d - 15, by omega⟩
  have R := rk_st h C.1
  have z190 := h.z190
  have pe0 : pInn (zOf n c dg) K 10 r C s = pFor (zOf n c dg) K r C s := by
    unfold pInn
    repeat rw [if_neg (by decide)]
    rw [if_pos rfl]
  refine iX9_inner_0 M pp _ ?_
  repeat rw [if_neg (by decide)]
  rw [if_pos rfl]
  refine R.stm (y_for (dg := dg) (dm := dm - 1) hN hK h4 (by omega)) (by omega) hH.1 (by omega) (by omega) rfl (ok_for hr s) (fun v s' z => z.1) (fun v1 s1 e1 u1 M1 τ1 fs1 b1 t1 R1 k1 n1 => ?_) (fun w e q M' er => ZT.out (nohand rfl) (hn w (pe0.trans e) _ M' er))
  show Z E YX9_inner (d + 14 + 1) M1 [] 251 [vr (some (b1, t1, 0))] Q
  exact sX9_inner_251 M1 _ (in_cl (w := 10) (f := 3) z190 R1 n1 (by omega) (pe0.trans e1) hy)
/-- try -/
theorem in_tr (hN : cNx E pp a lf n c dS dE DE o r) (hK : 1300 ≤ K) (hdm : dS + 4 ≤ dm ∧ dE + 4 ≤ dm ∧ 36 ≤ dm) : cIn E pp a lf n c dm o 23 (pInn (zOf n c dg) K 23 r) := by
  obtain ⟨hr, hS, hE, hW, hDE⟩ := id hN
  intro d Q M τ fs s C hd hH h hy hn
  obtain ⟨d, rfl⟩ : ∃ d', d = d' + 15 := ⟨d - 15, by omega⟩
  have R := rk_st h C.1
  have z190 := h.z190
  have pe0 : pInn (zOf n c dg) K 23 r C s = pTry (zOf n c dg) K r C s := by
    unfold pInn
    repeat rw [if_neg (by decide)]
    rw [if_pos rfl]
  refine iX9_inner_0 M pp _ ?_
  repeat rw [if_neg (by decide)]
  rw [if_pos rfl]
  refine R.stm (y_try (dg := dg) (dm := dm - 1) hN hK (by omega)) (by omega) trivial (by omega) (by omega) rfl (ok_try hr s) (fun v s' z => z.1) (fun v1 s1 e1 u1 M1 τ1 fs1 b1 t1 R1 k1 n1 => ?_) (fun w e q M' er => ZT.out (nohand rfl) (hn w (pe0.trans e) _ M' er))
  show Z E YX9_inner (d + 14 + 1) M1 [] 392 [vr (some (b1, t1, 0))] Q
  exact sX9_inner_392 M1 _ (in_cl (w := 23) (f := 5) z190 R1 n1 (by omega) (pe0.trans e1) hy)
/-- switch -/
theorem in_sw (hN : cNx E pp a lf n c dS dE DE o r) (hK : 1300 ≤ K) (hdm : dS + 4 ≤ dm ∧ dE + 4 ≤ dm ∧ 36 ≤ dm) : cIn E pp a lf n c dm o 19 (pInn (zOf n c dg) K 19 r) := by
  obtain ⟨hr, hS, hE, hW, hDE⟩ := id hN
  intro d Q M τ fs s C hd hH h hy hn
  obtain ⟨d, rfl⟩ : ∃ d', d = d' + 15 := ⟨d - 15, by omega⟩
  have R := rk_st h C.1
  have z190 := h.z190
  have pe0 : pInn (zOf n c dg) K 19 r C s = pSwi (zOf n c dg) K r C s := by
    unfold pInn
    repeat rw [if_neg (by decide)]
  refine iX9_inner_0 M pp _ ?_
  repeat rw [if_neg (by decide)]
  rw [if_pos rfl]
  refine R.stm (y_swi (dg := dg) (dm := dm - 1) hN hK (by omega)) (by omega) hH.1 (by omega) (by omega) rfl (ok_swi hr s) (fun v s' z => z.1) (fun v1 s1 e1 u1 M1 τ1 fs1 b1 t1 R1 k1 n1 => ?_) (fun w e q M' er => ZT.out (nohand rfl) (hn w (pe0.trans e) _ M' er))
  show Z E YX9_inner (d + 14 + 1) M1 [] 397 [vr (some (b1, t1, 0))] Q
  exact sX9_inner_397 M1 _ (in_cl (w := 19) (f := 3) z190 R1 n1 (by omega) (pe0.trans e1) hy)
/-- var -/
theorem in_va (hN : cNx E pp a lf n c dS dE DE o r) (hK : 1300 ≤ K) (h4 : 4 ≤ DE) (hdm : dS + 2 ≤ dm ∧ dE + 2 ≤ dm ∧ 32 ≤ dm) : cIn E pp a lf n c dm o 26 (pInn (zOf n c dg) K 26 r) := by
  obtain ⟨hr, hS, hE, hW, hDE⟩ := id hN
  intro d Q M τ fs s C hd hH h hy hn
  obtain ⟨d, rfl⟩ : ∃ d', d = d' + 15 := ⟨d - 15, by omega⟩
  have R := rk_st h C.1
  have z190 := h.z190
  have pe0 : pInn (zOf n c dg) K 26 r C s = bnd (pVars (zOf n c dg) r true C K 0 false gNo s) fun q s => bnd (pSem (zOf n c dg) s) fun _ s => prt q.1 s := by
    unfold pInn
    rw [if_pos rfl]
  refine iX9_inner_0 M pp _ ?_
  repeat rw [if_neg (by decide)]
  rw [if_pos rfl]
  refine y_vars (dg := dg) (i := true) (dm := dm - 1) hN hK h4 (by omega) (d + 14) _ M τ fs _ C (by omega) h (fun q s1 e1 M1 τ1 fs1 b1 pd n1 g7 _ => ?_) (fun w e ou M' pe => ?_)
  · have o1 := ok_vars hr true K 0 false gNo _ gokT_No q s1 e1
    have R1 := R.cl pd o1.1
    have pe1 := pe0.trans (bnd_ok e1)
    have l1 := o1.2.1
    show Z E YX9_inner (d + 14 + 1) M1 [(0, vr (some (pp, 8, 0)))] 137 [vr (some (b1, 20, 0))] Q
    refine sX9_inner_137 M1 pp _ ?_
    refine R1.semi (dg := dg) (by omega) (by omega) (fun s2 e2 es l2 M2 R2 k2 => ?_) (fun w e q M' er => ZT.out (nohand rfl) (hn w (pe1.trans (bnd_er e)) _ M' er))
    show Z E YX9_inner (d + 14 + 1) M2 [(2, vr (some (b1, 20, 0)))] 142 [] Q
    refine sX9_inner_142 M2 _ ?_
    obtain ⟨n0, D1, o1, m1, h1, y1, ⟨q1, q2, q3, q4, q5⟩, q6⟩ := n1
    have z2 := k2.z
    have p1 := pos_le R2.ps.tz (t := s1.1) (t' := s2.1) l2 (Nat.le_refl _)
    have p0 := pos_le R2.ps.tz (t := s.1) (t' := s1.1) (by omega) l2
    refine hy q.1 s2 (pe1.trans ((bnd_ok e2).trans rfl)) M2 _ fs1 _ (R2.ndx (by omega) (by omega)) ⟨n0, _, _, _, _, _, ⟨?_, ?_, ?_, q4, q5⟩, (q6.mv (k2.mvr.tr (fin_mvr (lo := zsz M))) z190 (Nat.le_refl _)).up (fun b y => ⟨y.1, by omega⟩) (Nat.le_refl _) (Nat.le_refl _) (Nat.le_refl _) (Nat.le_refl _) (Nat.le_refl _)⟩
    · omega
    · omega
    · omega
  · obtain ⟨q, rfl⟩ := fO_inr pe.1
    exact ZT.out (nohand rfl) (hn w (pe0.trans (bnd_er e)) _ M' (R.er pe (by omega) (by omega)))
/-- the words -/
def ownW (x : Int32) : Bool := decide (x = 0) || decide (x = 3) || decide (x = 18) || decide (x = 26) || decide (x = 12) || decide (x = 28) || decide (x = 6) || decide (x = 10) || decide (x = 21) || decide (x = 23) || decide (x = 19)
theorem y_inn {w : Int32} (hN : cNx E pp a lf n c dS dE DE o r) (hK : 1300 ≤ K) (h4 : 4 ≤ DE) (hdm : dS + 4 ≤ dm ∧ dE + 4 ≤ dm ∧ 36 ≤ dm) (hw : ownW w = true) : cIn E pp a lf n c dm o w (pInn (zOf n c dg) K w r) := by
  unfold ownW at hw
  simp only [Bool.or_eq_true, decide_eq_true_eq] at hw
  rcases hw with (((((((((h | h) | h) | h) | h) | h) | h) | h) | h) | h) | h <;> subst h
  · exact in_br hN (by omega)
  · exact in_co hN (by omega)
  · exact in_re hN (by omega)
  · exact in_va hN hK h4 (by omega)
  · exact in_if hN (by omega)
  · exact in_wh hN (by omega)
  · exact in_do hN (by omega)
  · exact in_fo hN hK h4 hdm
  · exact in_th hN (by omega)
  · exact in_tr hN hK hdm
  · exact in_sw hN hK hdm
theorem own_ite {x : Int32} {A B : Prop} (h : ownW x = true) (hA : A) : (if x = 0 then A else (if x = 3 then A else (if x = 18 then A else (if x = 26 then A else (if x = 12 then A else (if x = 28 then A else (if x = 6 then A else (if x = 10 then A else (if x = 21 then A else (if x = 23 then A else (if x = 19 then A else B))))))))))) := by
  unfold ownW at h
  repeat' split
  all_goals first
    | exact hA
    | (exfalso; simp_all)
theorem own_no {x : Int32} {A B : Prop} (h : ownW x = false) (hB : B) : (if x = 0 then A else (if x = 3 then A else (if x = 18 then A else (if x = 26 then A else (if x = 12 then A else (if x = 28 then A else (if x = 6 then A else (if x = 10 then A else (if x = 21 then A else (if x = 23 then A else (if x = 19 then A else B))))))))))) := by
  unfold ownW at h
  repeat' split
  all_goals first
    | exact hB
    | (exfalso; simp_all)
theorem isOwn_k {s : pS} (k2 : tkd (zOf n c dg) s.1 = 2) : isOwn (zOf n c dg) s = ownW (twh (zOf n c dg) s.1) := by
  unfold isOwn ownW
  simp only [isK_2 k2]
theorem isOwn_n {s : pS} (k2 : ¬ tkd (zOf n c dg) s.1 = 2) : isOwn (zOf n c dg) s = false := by
  unfold isOwn
  simp only [isK_n k2]
  rfl
def begB (x : Int32) : Bool := decide (x = 5) || decide (x = 8) || decide (x = 15) || decide (x = 16) || decide (x = 17) || decide (x = 20) || decide (x = 22) || decide (x = 24) || decide (x = 25) || decide (x = 27)
theorem beg_ite {x : Int32} {A B : Prop} (h1 : begB x = true → A) (h0 : begB x = false → B) : (if x = 5 then A else (if x = 8 then A else (if x = 15 then A else (if x = 16 then A else (if x = 17 then A else (if x = 20 then A else (if x = 22 then A else (if x = 24 then A else (if x = 25 then A else (if x = 27 then A else B)))))))))) := by
  unfold begB at h1 h0
  repeat' split
  all_goals first
    | (refine h1 ?_; simp_all; done)
    | (refine h0 ?_; simp_all; done)
theorem begX_k {s : pS} (k2 : tkd (zOf n c dg) s.1 = 2) (k11 : ¬ twh (zOf n c dg) s.1 = 11) : begX (zOf n c dg) s = begB (twh (zOf n c dg) s.1) := by
  have k5 : ¬ tkd (zOf n c dg) s.1 = 5 := by rw [k2]; decide
  unfold begX begW isPre isLit begB
  simp only [isS_n k5, isK_2 k2, k2, decide_eq_false k11]
  generalize decide (twh (zOf n c dg) s.1 = 5) = b5
  generalize decide (twh (zOf n c dg) s.1 = 8) = b8
  generalize decide (twh (zOf n c dg) s.1 = 15) = b15
  generalize decide (twh (zOf n c dg) s.1 = 16) = b16
  generalize decide (twh (zOf n c dg) s.1 = 17) = b17
  generalize decide (twh (zOf n c dg) s.1 = 20) = b20
  generalize decide (twh (zOf n c dg) s.1 = 22) = b22
  generalize decide (twh (zOf n c dg) s.1 = 24) = b24
  generalize decide (twh (zOf n c dg) s.1 = 25) = b25
  generalize decide (twh (zOf n c dg) s.1 = 27) = b27
  revert b5 b8 b15 b16 b17 b20 b22 b24 b25 b27
  decide
/-- a statement by its word -/
def cBw (E : zE) (pp a lf n : Nat) (c : Nat → Int32) (dg : Int32 → List Int32) (dm o : Nat) (f : pC → pS → pR gSt) : Prop :=
  ∀ (d : Nat) (Q : zO → zM → Prop) (M : zM) (τ : Nat → Nat) (fs : List Nat) (s : pS) (C : pC), dm ≤ d → tkd (zOf n c dg) s.1 = 2 → ¬ twh (zOf n c dg) s.1 = 11 → xPs M τ pp a lf n c fs s C o →
    (isOwn (zOf n c dg) s = false → begX (zOf n c dg) s = true → Q (.inl (some (vr none))) M) →
    (∀ v s', f C s = .ok (v, s') → ∀ M' τ' fs' p, pEnd pp a lf n c 9 199 M τ fs s C o M' τ' fs' s' → sNg (szT n c s s') (zsz M) M' τ' C.2 p v → Q (.inl (some (vr (some p)))) M') →
    (∀ w, f C s = .error w → ∀ ou M', pEr lf 9 199 τ fs M s w ou M' → Q ou M') → Z E YX9_byWord d M [(0, vr (some (pp, 8, 0)))] 0 [] Q
theorem y_bw {ro : Option pT} (hro : lvO o ro fun o r => cNx E pp a lf n c dS dE DE o r) (hK : 1300 ≤ K) (h4 : 4 ≤ DE) (hdm : dS + 5 ≤ dm ∧ dE + 5 ≤ dm ∧ 37 ≤ dm) : cBw E pp a lf n c dg dm o (pStm (zOf n c dg) K ro) := by
  intro d Q M τ fs s C hd k2 k11 h h0 hy hn
  obtain ⟨d, rfl⟩ : ∃ d', d = d' + 15 := ⟨d - 15, by omega⟩
  have R := rk_st h C.1
  have z190 := h.z190
  have hp := h.pz
  have ls := h.ls
  have kd := tk_kd (dg := dg) h.tz
  have g2 : gi M a 3 = 2 := kd.trans k2
  have w2 := tk_w2 (dg := dg) h.tz g2
  have k5 : ¬ tkd (zOf n c dg) s.1 = 5 := by rw [k2]; decide
  have io := isOwn_k k2
  refine sX9_byWord_0 M pp ⟨a, h.pt, ?_⟩
  rw [w2]
  cases own : ownW (twh (zOf n c dg) s.1) with
  | false =>
    refine own_no own ?_
    rw [own] at io
    refine sX9_beginsByWord_0 M _ ?_
    have g1 : begX (zOf n c dg) s = true → zafter E YX9_byWord (d + 14 + 1) [(0, vr (some (pp, 8, 0))), (1, vi (twh (zOf n c dg) s.1)), (2, vi 0)] 82 3 [] Q (.inl (some (vi 1))) M := fun hb => by
      show Z E YX9_byWord (d + 14 + 1) M [(0, vr (some (pp, 8, 0))), (1, vi (twh (zOf n c dg) s.1)), (2, vi 0)] 85 [vi 1] Q
      refine sX9_byWord_85 M pp _ _ _ ?_
      rw [if_neg (by decide)]
      refine sX9_byWord_97 M pp _ _ ?_
      rw [if_pos rfl]
      exact h0 io hb
    have g0 : begX (zOf n c dg) s = false → zafter E YX9_byWord (d + 14 + 1) [(0, vr (some (pp, 8, 0))), (1, vi (twh (zOf n c dg) s.1)), (2, vi 0)] 82 3 [] Q (.inl (some (vi 0))) M := fun hb => by
      show Z E YX9_byWord (d + 14 + 1) M [(0, vr (some (pp, 8, 0))), (1, vi (twh (zOf n c dg) s.1)), (2, vi 0)] 85 [vi 0] Q
      refine sX9_byWord_85 M pp _ _ _ ?_
      rw [if_pos rfl]
      refine ⟨a, h.pt, ?_⟩
      refine R.flt (dg := dg) (k := 2) rfl (by omega) (fun q M' er => ?_)
      show Z E YX9_byWord (d + 14 + 1) M' [] 96 [vr (some (q, 12, 0))] Q
      refine sX9_byWord_96 M' _ ⟨q, rfl, hn _ ?_ _ M' er⟩
      unfold pStm
      rw [if_neg (by rw [io]; decide), if_neg (by rw [isS_n k5]; decide), if_neg (by rw [isS_n k5]; decide), if_neg (by rw [hb]; simp)]
      rfl
    rw [begX_k k2 k11] at g1 g0
    exact beg_ite g1 g0
  | true =>
    refine own_ite own ?_
    rw [own] at io
    refine sX9_byWord_97 M pp _ _ ?_
    rw [if_neg (by decide)]
    obtain ⟨⟨fc, hf, g3⟩, ⟨g4, g4'⟩, g5, g6, g7⟩ := id h.2.2.1
    rw [g5, g6, nn_add]
    have pe0 : pStm (zOf n c dg) K ro C s = if isK (zOf n c dg) 0 s && C.2.1 + C.2.2 == 0 || isK (zOf n c dg) 3 s && C.2.1 == 0 || isK (zOf n c dg) 18 s && C.1 == 0 then flt (zOf n c dg) 3 s else opens (zOf n c dg) ro s fun r => bnd (nxt' (zOf n c dg) s) fun _ s' => pInn (zOf n c dg) K (twh (zOf n c dg) s.1) r C s' := by
      unfold pStm
      rw [if_pos io]
    have ft : (isK (zOf n c dg) 0 s && C.2.1 + C.2.2 == 0 || isK (zOf n c dg) 3 s && C.2.1 == 0 || isK (zOf n c dg) 18 s && C.1 == 0) = true → ∃ b1 : Nat, (gr M pp 1) = some (b1, 9, 0) ∧ (Z E YX10_fault (d + 14) M (zargs 0 [vr (some (b1, 9, 0)), vi 3]) 0 [] (zafter E YX9_byWord (d + 14 + 1) [] 152 3 [] Q)) := fun hc => by
      refine ⟨a, h.pt, ?_⟩
      refine R.flt (dg := dg) (k := 3) rfl (by omega) (fun q M' er => ?_)
      show Z E YX9_byWord (d + 14 + 1) M' [] 155 [vr (some (q, 12, 0))] Q
      exact sX9_byWord_155 M' _ ⟨q, rfl, hn _ (pe0.trans ((if_pos hc).trans rfl)) _ M' er⟩
    have op : (twh (zOf n c dg) s.1 = 0 → 0 < C.2.1 + C.2.2) → (twh (zOf n c dg) s.1 = 3 → 0 < C.2.1) → ¬ (isK (zOf n c dg) 0 s && C.2.1 + C.2.2 == 0 || isK (zOf n c dg) 3 s && C.2.1 == 0 || isK (zOf n c dg) 18 s && C.1 == 0) = true → Z E YX9_opens (d + 14) M (zargs 0 [vr (some (pp, 8, 0))]) 0 [] (zafter E YX9_byWord (d + 14 + 1) [(0, vr (some (pp, 8, 0))), (1, vi (twh (zOf n c dg) s.1))] 157 3 [] Q) := fun hw0 hw3 hc => by
      have pe1 := pe0.trans (if_neg hc)
      refine R.opn (dg := dg) (by omega) (fun ho M1 R1 k1 _ _ => ?_) (fun ho q M' er => ?_)
      · rcases hro with ⟨-, z⟩ | ⟨r, rfl, -, okr, hN⟩
        · omega
        have pe1 : pStm (zOf n c dg) K (some r) C s = bnd (nxt' (zOf n c dg) s) fun _ s' => pInn (zOf n c dg) K (twh (zOf n c dg) s.1) r C s' := pe1
        show Z E YX9_byWord (d + 14 + 1) M1 [(0, vr (some (pp, 8, 0))), (1, vi (twh (zOf n c dg) s.1))] 160 [] Q
        refine sX9_byWord_160 M1 pp _ ⟨a, R1.ps.pt, ?_⟩
        refine R1.nxt (dg := dg) (.inr k2) (by omega) (fun e2 M2 R2 k2' => ?_) (fun w e q M' er => ZT.out (nohand rfl) (hn w (pe1.trans (bnd_er e)) _ M' er))
        show Z E YX9_byWord (d + 14 + 1) M2 [(0, vr (some (pp, 8, 0))), (1, vi (twh (zOf n c dg) s.1))] 167 [] Q
        refine sX9_byWord_167 M2 pp _ ?_
        have pe2 := pe1.trans (bnd_ok e2)
        have z2 := R2.z0
        refine y_inn (dg := dg) (dm := dm - 1) hN hK h4 (by omega) own (d + 14) _ M2 τ fs _ C (by omega) ⟨by omega, by dsimp only; omega, hw0, hw3⟩ R2.ps (fun v3 s3 e3 M3 τ3 fs3 p3 pd n3 => ?_) (fun w e ou M' pe => ?_)
        · have o3 := ok_inn okr _ _ v3 s3 e3
          have R3 := rk.clx (cz := 110) (cu := 2200) R2 pd o3.1
          obtain ⟨b3, t3, q3⟩ := p3
          have q0 : q3 = 0 := n3.1.1
          subst q0
          show Z E YX9_byWord (d + 14 + 1) M3 [(0, vr (some (pp, 8, 0)))] 172 [vr (some (b3, t3, 0))] Q
          refine sX9_byWord_172 M3 pp _ ⟨by omega, ?_⟩
          obtain ⟨R4, k4⟩ := R3.cls ls
          have z4 : zsz (si M3 pp 4 (gi M3 pp 4 - 1)) = zsz M3 := rfl
          generalize si M3 pp 4 (gi M3 pp 4 - 1) = M4 at *
          obtain ⟨n0, D1, o1, m1, h1, y1, ⟨q1, q2, q3, q4, q5⟩, q6⟩ := n3
          dsimp only at q1 q2 q3
          have l3 := o3.1.1
          dsimp only at l3
          have p3 := pos_le R4.ps.tz (t := s.1 + 1) (t' := s3.1) l3 (Nat.le_refl _)
          have pw : 2500 * (tkn n c s.1).2.2.1 + pwI (twh (zOf n c dg) s.1) ≤ 2500 * (tkn n c (s.1 + 1)).2.2.1 := by
            have p0 := pos_le R4.ps.tz (t := s.1) (t' := s.1 + 1) (by omega) (by omega)
            unfold pwI
            split
            · rename_i hw
              have kw : ∀ j m, j < 29 → ((lxK.getD j []).length) = m → twh (zOf n c dg) s.1 = nI j → (tkn n c s.1).2.2.1 + m ≤ (tkn n c (s.1 + 1)).2.2.1 := fun j m h1 h2 h3 => pos_kw R4.ps.tz (t := s.1) (by omega) k2 h3 h1 h2
              have : (tkn n c s.1).2.2.1 + 5 ≤ (tkn n c (s.1 + 1)).2.2.1 := by
                rcases hw with hw | hw | hw
                · exact kw 0 5 (by decide) (by decide +kernel) hw
                · exact Nat.le_trans (by omega) (kw 3 8 (by decide) (by decide +kernel) hw)
                · exact Nat.le_trans (by omega) (kw 18 6 (by decide) (by decide +kernel) hw)
              omega
            · omega
          refine hy v3 s3 (pe2.trans e3) M4 _ fs3 _ (R4.nd (by omega) (by omega)) ⟨n0, _, _, _, _, _, ⟨?_, ?_, ?_, q4, q5⟩, (q6.mv (k4.mvr.tr (fin_mvr (lo := zsz M))) (by omega) z2.2).up (fun b y => ⟨by omega, by omega⟩) (Nat.le_refl _) (Nat.le_refl _) (Nat.le_refl _) (Nat.le_refl _) (Nat.le_refl _)⟩
          · omega
          · omega
          · omega
        · obtain ⟨q, rfl⟩ := fO_inr pe.1
          exact ZT.out (nohand rfl) (hn w (pe2.trans e) _ M' (R2.er pe (by omega) (by omega)))
      · rcases hro with ⟨rfl, -⟩ | ⟨r, rfl, z, -⟩
        · exact ZT.out (nohand rfl) (hn _ pe1 _ M' er)
        · omega
    have c18 : (isK (zOf n c dg) 0 s && C.2.1 + C.2.2 == 0) = false → (isK (zOf n c dg) 3 s && C.2.1 == 0) = false → Z E YX9_byWord (d + 14 + 1) M [(0, vr (some (pp, 8, 0))), (1, vi (twh (zOf n c dg) s.1))] 131 [] Q := fun c0 c3 => by
      have hw0 : twh (zOf n c dg) s.1 = 0 → 0 < C.2.1 + C.2.2 := fun z => by
        rw [isK_2 k2, z] at c0
        simp at c0
        omega
      have hw3 : twh (zOf n c dg) s.1 = 3 → 0 < C.2.1 := fun z => by
        rw [isK_2 k2, z] at c3
        simp at c3
        omega
      refine sX9_byWord_131 M pp _ ?_
      by_cases z : twh (zOf n c dg) s.1 = 18
      · rw [if_pos z]
        refine ⟨fc, g3, ?_⟩
        have fl := (List.getElem?_eq_some_iff.mp hf).1
        have e8 := h.2.2.2.2.1
        obtain ⟨⟨-, -, x3, x4⟩, -⟩ := h.2.2.2.2.2 C.1 fc _ hf (List.getElem?_eq_getElem (by omega))
        have kk : isK (zOf n c dg) 18 s = true := by rw [isK_2 k2, z]; rfl
        by_cases c1 : C.1 = 0
        · rw [if_pos (x3 c1)]
          exact ft (by rw [c0, c3, kk, c1]; rfl)
        · obtain ⟨g', -, x5⟩ := x4 (by omega)
          rw [if_neg (by rw [x5]; exact fun z => by cases z)]
          exact op hw0 hw3 (by rw [c0, c3, kk, show (C.1 == 0) = false from by simpa using c1]; decide)
      · rw [if_neg z]
        exact op hw0 hw3 (by rw [c0, c3, show isK (zOf n c dg) 18 s = false from by rw [isK_2 k2]; exact decide_eq_false z]; simp)
    have c3 : (isK (zOf n c dg) 0 s && C.2.1 + C.2.2 == 0) = false → Z E YX9_byWord (d + 14 + 1) M [(0, vr (some (pp, 8, 0))), (1, vi (twh (zOf n c dg) s.1))] 119 [] Q := fun c0 => by
      refine sX9_byWord_119 M pp _ ?_
      by_cases z : twh (zOf n c dg) s.1 = 3
      · rw [if_pos z]
        have kk : isK (zOf n c dg) 3 s = true := by rw [isK_2 k2, z]; rfl
        rw [g5]
        by_cases c1 : C.2.1 = 0
        · rw [if_pos (show nI C.2.1 = 0 by rw [c1]; rfl)]
          exact ft (by rw [c0, kk, c1]; rfl)
        · rw [if_neg (show ¬ nI C.2.1 = 0 from fun z => c1 (nI_inj (a := C.2.1) (b := 0) (by omega) (by omega) z))]
          exact c18 c0 (by rw [show (C.2.1 == 0) = false from by simpa using c1]; simp)
      · rw [if_neg z]
        exact c18 c0 (by rw [show isK (zOf n c dg) 3 s = false from by rw [isK_2 k2]; exact decide_eq_false z]; rfl)
    by_cases z : twh (zOf n c dg) s.1 = 0
    · rw [if_pos z]
      have kk : isK (zOf n c dg) 0 s = true := by rw [isK_2 k2, z]; rfl
      by_cases c1 : C.2.1 + C.2.2 = 0
      · rw [if_pos (show nI (C.2.1 + C.2.2) = 0 by rw [c1]; rfl)]
        exact ft (by rw [kk, c1]; rfl)
      · rw [if_neg (show ¬ nI (C.2.1 + C.2.2) = 0 from fun z => c1 (nI_inj (a := C.2.1 + C.2.2) (b := 0) (by omega) (by omega) z))]
        exact c3 (by rw [show (C.2.1 + C.2.2 == 0) = false from by simpa using c1]; simp)
    · rw [if_neg z]
      exact c3 (by rw [show isK (zOf n c dg) 0 s = false from by rw [isK_2 k2]; exact decide_eq_false z]; rfl)
end
