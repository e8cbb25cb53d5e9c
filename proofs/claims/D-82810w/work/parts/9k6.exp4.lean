/-! THE COMPONENT's CODER: Items, Ahead -/
section
variable {S : Nat → Prop} {M : zM} {D : Nat}
theorem gIts_len (e : gN) (Γ : gK) (L : List Bool) (r : List (Int32 × Int32 × gEx)) (s : gS) (h : ∀ q ∈ r, gok q.2.2) : s.c.length ≤ (gIts r e Γ L s).c.length := (gok_Its h e Γ L s).len
/-- keys or numbers of the items -/
def itK (S : Nat → Prop) (M : zM) (b : Nat) (op : Int32) (r : List (Int32 × Int32 × gEx)) : Prop :=
  (gi M b 0 = 0 ∧ op = 7 ∧ ∃ kb km, gr M b 2 = some (kb, 100, km) ∧ S kb ∧ (r.length ≤ km ∧ km < 1000000) ∧ ∀ i q, r[i]? = some q → q.1 = 6 ∧ gi M kb i = q.2.1) ∨
  (gi M b 0 = 1 ∧ op = 8 ∧ ∀ i q, r[i]? = some q → q.1 = 5 ∧ q.2.1 = nI i)
theorem xe_Items {b lst : Nat} {op : Int32} {r : List (Int32 × Int32 × gEx)} (hS : ∀ a, S a → 190 ≤ a) (hb : S b) (e1 : gr M b 1 = some (lst, 11, 0)) (hi : itK S M b op r) (hl : xEl S M D lst (r.map (·.2.2))) (hD : 3 ≤ D) : xE S M (D + 1) (b, 29, 0) (gItm op r) := by
  refine ⟨hS, rfl, (show 20 ≤ 29 ∧ 29 < 45 by decide), _, rfl, fun E d Q M' e Γ l δ L st ha h hl' hd hQ => ?_⟩
  obtain ⟨d, rfl⟩ : ∃ d', d = d' + 4 := ⟨d - 4, by omega⟩
  have hlt := hl.lt
  rw [List.length_map] at hlt
  have gk : ∀ q ∈ r, gok q.2.2 := fun q hq => hl.gok q.2.2 (List.mem_map.mpr ⟨q, hq, rfl⟩)
  have loop : ∀ (r' pre : List (Int32 × Int32 × gEx)) (M1 : zM) (s : gS), r = pre ++ r' → agS S M M1 → xCz M1 e Γ l δ s → ((gIts r' e Γ L s).c.length : Int) + δ < 100000000 → (∀ M2, xCz M2 e Γ l δ (gIts r' e Γ L s) → fr cdP M1 M2 → Q (.inl none) M2) → Z E YX23_code (d + 3 + 1) M1 [(0, vr (some (b, 29, 0))), (1, C29), (2, vi (nI pre.length))] 21 [] Q := by
    intro r'
    induction r' with
    | nil =>
      intro pre M1 s hr a1 c1 b1 q1
      refine iX23_code_21 M1 b 29 _ ⟨lst, (a1 b 1 hb).2.trans e1, ?_⟩
      rw [y_num hl a1, if_pos (nI_le (by rw [List.length_map, hr, List.append_nil]; exact Nat.le_refl _) (by rw [hr, List.append_nil] at hlt; omega))]
      exact q1 M1 c1 fr.rf
    | cons q r' ih =>
      intro pre M1 s hr a1 c1 b1 q1
      have hat := at_app hr
      have hpl := (List.getElem?_eq_some_iff.mp hat).1
      have hu : (r.map (·.2.2))[pre.length]? = some q.2.2 := by rw [List.getElem?_map, hat]; rfl
      have gq := gk q (List.mem_of_getElem? hat)
      obtain ⟨qs, qv, y⟩ := q
      have hs : gIts ((qs, qv, y) :: r') e Γ L s = gIts r' e Γ L (em e Γ (psh 2 L) 17 0 0 none (em e Γ (psh 4 L) 11 0 0 none (y e Γ (psh 3 L) (em e Γ (psh 2 L) 0 qs qv none (em e Γ (psh 1 L) 18 0 0 none s))))) := rfl
      rw [hs] at b1 q1
      have l1 := gIts_len e Γ L r' (em e Γ (psh 2 L) 17 0 0 none (em e Γ (psh 4 L) 11 0 0 none (y e Γ (psh 3 L) (em e Γ (psh 2 L) 0 qs qv none (em e Γ (psh 1 L) 18 0 0 none s))))) (fun q' h' => gk q' (by rw [hr]; exact List.mem_append_right _ (List.mem_cons_of_mem _ h')))
      have l2 := em_len e Γ (psh 2 L) 17 0 0 none (em e Γ (psh 4 L) 11 0 0 none (y e Γ (psh 3 L) (em e Γ (psh 2 L) 0 qs qv none (em e Γ (psh 1 L) 18 0 0 none s))))
      have l3 := em_len e Γ (psh 4 L) 11 0 0 none (y e Γ (psh 3 L) (em e Γ (psh 2 L) 0 qs qv none (em e Γ (psh 1 L) 18 0 0 none s)))
      have l4 := (gq e Γ (psh 3 L) (em e Γ (psh 2 L) 0 qs qv none (em e Γ (psh 1 L) 18 0 0 none s))).len
      have l5 := em_len e Γ (psh 2 L) 0 qs qv none (em e Γ (psh 1 L) 18 0 0 none s)
      refine iX23_code_21 M1 b 29 _ ⟨lst, (a1 b 1 hb).2.trans e1, ?_⟩
      rw [y_num hl a1, if_neg (nI_ge (by rw [List.length_map]; omega) (by rw [List.length_map]; omega))]
      refine y_putn (L := psh 1 L) c1 (by dsimp only at l4; omega) rfl rfl (fun M2 v c2 f2 => ?_)
      have a2 := a1.tr (f2.agS hS)
      show Z E YX23_code (d + 3 + 1) M2 [(0, vr (some (b, 29, 0))), (1, C29), (2, vi (nI pre.length))] 40 [vi v] Q
      -- behind the key
      have key : ∀ M3, xCz M3 e Γ l δ (em e Γ (psh 2 L) 0 qs qv none (em e Γ (psh 1 L) 18 0 0 none s)) → fr cdP M2 M3 → Z E YJ2_get (d + 3) M3 (zargs 0 [vr (some (lst, 11, 0)), vi (nI pre.length)]) 0 [] (zafter E YX23_code (d + 3 + 1) [(0, vr (some (b, 29, 0))), (1, C29), (2, vi (nI pre.length))] 78 3 [] Q) := fun M3 c3 f3 => by
        have a3 := a2.tr (f3.agS hS)
        refine y_elem (d := d) hl a3 hu (fun p hp => ?_)
        show Z E YX23_code (d + 3 + 1) M3 [(0, vr (some (b, 29, 0))), (1, C29), (2, vi (nI pre.length))] 81 [vr (some p)] Q
        refine sX23_code_81 M3 b 29 _ _ ?_
        refine y_subL (L := psh 3 L) hp a3 c3 (by dsimp only; omega) (by omega) (fun M4 c4 f4 => ?_)
        show Z E YX23_code (d + 3 + 1) M4 [(0, vr (some (b, 29, 0))), (1, C29), (2, vi (nI pre.length))] 88 [] Q
        refine sX23_code_88 M4 b 29 _ ?_
        refine y_putn (L := psh 4 L) c4 (by dsimp only; omega) rfl rfl (fun M5 v5 c5 f5 => ?_)
        show Z E YX23_code (d + 3 + 1) M5 [(0, vr (some (b, 29, 0))), (1, C29), (2, vi (nI pre.length))] 96 [vi v5] Q
        refine sX23_code_96 M5 b 29 _ _ ?_
        refine y_putn (L := psh 2 L) c5 (by dsimp only; omega) rfl rfl (fun M6 v6 c6 f6 => ?_)
        show Z E YX23_code (d + 3 + 1) M6 [(0, vr (some (b, 29, 0))), (1, C29), (2, vi (nI pre.length))] 105 [vi v6] Q
        refine sX23_code_105 M6 b 29 _ _ ?_
        have := ih (pre ++ [(qs, qv, y)]) M6 _ (by rw [hr]; simp) (((a3.tr (f4.agS hS)).tr (f5.agS hS)).tr (f6.agS hS)) c6 b1 (fun M7 c7 f7 => q1 M7 c7 (((((f2.tr f3).tr f4).tr f5).tr f6).tr f7))
        rw [List.length_append] at this
        rw [nI_l1]
        exact this
      refine sX23_code_40 M2 b 29 _ _ ?_
      rw [(a2 b 0 hb).1]
      rcases hi with ⟨i1, -, kb, km, i2, i3, i4, i5⟩ | ⟨i1, -, i2⟩
      · obtain ⟨i6, i7⟩ := i5 _ _ hat
        have i6 : qs = 6 := i6
        have i7 : gi M kb pre.length = qv := i7
        rw [i1, if_pos rfl]
        refine ⟨kb, km, (a2 b 2 hb).2.trans i2, nI_in (by omega) (by omega), ?_⟩
        rw [nI_clamp (by omega), (a2 kb _ i3).1, i7]
        subst i6
        refine y_putn (L := psh 2 L) c2 (by dsimp only at l4; omega) rfl rfl (fun M3 v3 c3 f3 => ?_)
        show Z E YX23_code (d + 3 + 1) M3 [(0, vr (some (b, 29, 0))), (1, C29), (2, vi (nI pre.length))] 72 [vi v3] Q
        exact sX23_code_72 M3 b 29 _ _ ⟨lst, ((a2.tr (f3.agS hS)) b 1 hb).2.trans e1, key M3 c3 f3⟩
      · obtain ⟨i6, i7⟩ := i2 _ _ hat
        have i6 : qs = 5 := i6
        have i7 : qv = nI pre.length := i7
        rw [i1, if_neg (by decide)]
        subst i6
        subst i7
        refine y_putn (L := psh 2 L) c2 (by dsimp only at l4; omega) rfl rfl (fun M3 v3 c3 f3 => ?_)
        show Z E YX23_code (d + 3 + 1) M3 [(0, vr (some (b, 29, 0))), (1, C29), (2, vi (nI pre.length))] 55 [vi v3] Q
        exact sX23_code_55 M3 b 29 _ _ ⟨lst, ((a2.tr (f3.agS hS)) b 1 hb).2.trans e1, key M3 c3 f3⟩
  have hs : gItm op r e Γ L st = gIts r e Γ L (sit (em e Γ L op (nI st.si) 0 none st)) := rfl
  rw [hs] at hl' hQ
  have l1 := gIts_len e Γ L r (sit (em e Γ L op (nI st.si) 0 none st)) gk
  have l2 : (sit (em e Γ L op (nI st.si) 0 none st)).c.length = st.c.length + 1 := em_len ..
  have go : ∀ M1, xCz M1 e Γ l δ (sit (em e Γ L op (nI st.si) 0 none st)) → fr cdP M' M1 → Z E YX23_code (d + 3 + 1) M1 [(0, vr (some (b, 29, 0))), (1, C29)] 19 [] Q := fun M1 c1 f1 => by
    refine sX23_code_19 M1 b 29 ?_
    exact loop r [] M1 _ rfl (ha.tr (f1.agS hS)) c1 hl' (fun M2 c2 f2 => hQ M2 c2 (f1.tr f2))
  refine sX23_code_0 M' b _ ?_
  rw [(ha b 0 hb).1]
  rcases hi with ⟨i1, rfl, -⟩ | ⟨i1, rfl, -⟩
  · rw [i1, if_pos rfl]
    exact ⟨29, rfl, y_site (d := d + 1) (L := L) (n := 0) h (.inl rfl) rfl (by omega) (fun M1 c1 f1 => go M1 c1 f1)⟩
  · rw [i1, if_neg (by decide)]
    exact ⟨29, rfl, y_site (d := d + 1) (L := L) (n := 0) h (.inr (.inl rfl)) rfl (by omega) (fun M1 c1 f1 => go M1 c1 f1)⟩
theorem vt_isName_no {t : Nat} (h : 20 ≤ t ∧ t < 45) (h3 : t ≠ 23) : vt_isName t = some YX13_isName := by
  have : t = 20 ∨ t = 21 ∨ t = 22 ∨ t = 24 ∨ t = 25 ∨ t = 26 ∨ t = 27 ∨ t = 28 ∨ t = 29 ∨ t = 30 ∨ t = 31 ∨ t = 32 ∨ t = 33 ∨ t = 34 ∨ t = 35 ∨ t = 36 ∨ t = 37 ∨ t = 38 ∨ t = 39 ∨ t = 40 ∨ t = 41 ∨ t = 42 ∨ t = 43 ∨ t = 44 := by omega
  rcases this with rfl | rfl | rfl | rfl | rfl | rfl | rfl | rfl | rfl | rfl | rfl | rfl | rfl | rfl | rfl | rfl | rfl | rfl | rfl | rfl | rfl | rfl | rfl | rfl <;> rfl
/-- behind the unit of a sign: UNARY -/
theorem y_un {E : zE} {d b : Nat} {h : Int32} {Q : zO → zM → Prop} {e : gN} {Γ : gK} {l : List Nat} {δ : Int} {L : List Bool} {s : gS} {M1 : zM} (e0 : gi M1 b 0 = h) (hh : ¬ (5 : Int32) ≤ h) (hs : h.toInt16.toInt32 = h) (c1 : xCz M1 e Γ l δ s) (hb : (s.c.length : Int) + 1 + δ < 100000000)
    (hQ : ∀ M', xCz M' e Γ l δ (em e Γ (psh 1 L) 13 h 0 none s) → fr cdP M1 M' → Q (.inl none) M') : Z E YX28_code (d + 1 + 1) M1 [(0, vr (some (b, 33, 0))), (1, C29)] 95 [] Q := by
  refine sX28_code_95 M1 b _ ?_
  rw [e0, if_neg hh]
  refine ⟨29, rfl, ?_⟩
  refine y_putn (L := psh 1 L) c1 (by rw [em_len]; omega) rfl hs (fun M2 v c2 f2 => ?_)
  show Z E YX28_code (d + 1 + 1) M2 [] 114 [vi v] Q
  exact sX28_code_114 M2 _ (hQ M2 c2 f2)
theorem xe_Un {b : Nat} {p1 : zP} {x : gEx} {h : Int32} (hb : S b) (e0 : gi M b 0 = h) (e1 : gr M b 1 = some p1) (h1 : xE S M D p1 x) (hx : gok x) (hh : h = 0 ∨ h = 1 ∨ h = 2 ∨ h = 3 ∨ h = 4 ∧ p1.2.1 ≠ 23) (hD : 3 ≤ D) : xE S M (D + 1) (b, 33, 0) (gUn h x) := by
  refine ⟨h1.1, rfl, (show 20 ≤ 33 ∧ 33 < 45 by decide), _, rfl, fun E d Q M' e Γ l δ L st ha c hl hd hQ => ?_⟩
  obtain ⟨d, rfl⟩ : ∃ d', d = d' + 2 := ⟨d - 2, by omega⟩
  have hS := h1.1
  have hs : gUn h x e Γ L st = em e Γ (psh 1 L) 13 h 0 none (x e Γ L st) := rfl
  have l1 := em_len e Γ (psh 1 L) 13 h 0 none (x e Γ L st)
  have k6 : ¬ h = 6 := by rcases hh with z | z | z | z | ⟨z, -⟩ <;> rw [z] <;> decide
  have k5 : ¬ (5 : Int32) ≤ h := by rcases hh with z | z | z | z | ⟨z, -⟩ <;> rw [z] <;> decide
  have ks : h.toInt16.toInt32 = h := by rcases hh with z | z | z | z | ⟨z, -⟩ <;> rw [z] <;> rfl
  have go : ∃ b1 t1, some p1 = some (b1, t1, 0) ∧ ∃ Y_, vt_code t1 = some Y_ ∧ Z E Y_ (d + 1) M' (zargs 0 [vr (some (b1, t1, 0)), C29]) 0 [] (zafter E YX28_code (d + 1 + 1) [(0, vr (some (b, 33, 0))), (1, C29)] 92 3 [] Q) := by
    refine y_sub (L := L) h1 ha c (by rw [hs] at hl; omega) (by omega) (fun M1 c1 f1 => ?_)
    show Z E YX28_code (d + 1 + 1) M1 [(0, vr (some (b, 33, 0))), (1, C29)] 95 [] Q
    exact y_un (L := L) (((ha.tr (f1.agS hS)) b 0 hb).1.trans e0) k5 ks c1 (by rw [hs] at hl; omega) (fun M2 c2 f2 => hQ M2 c2 (f1.tr f2))
  refine sX28_code_0 M' b _ ?_
  rw [(ha b 0 hb).1, e0, (ha b 1 hb).2, e1, if_neg k6]
  by_cases h4 : h = 4
  · rw [if_pos h4]
    have h23 : p1.2.1 ≠ 23 := by rcases hh with z | z | z | z | ⟨-, z⟩ <;> first | exact z | (rw [h4] at z; exact absurd z (by decide))
    refine ⟨p1.1, p1.2.1, by rw [← h1.2.1], _, vt_isName_no h1.2.2.1 h23, ?_⟩
    refine sX13_isName_0 M' _ _ ?_
    show Z E YX28_code (d + 1 + 1) M' [(0, vr (some (b, 33, 0))), (1, C29)] 47 [vi 0] Q
    refine sX28_code_47 M' b _ _ ?_
    rw [if_pos rfl, (ha b 1 hb).2, e1]
    exact go
  · rw [if_neg h4]
    exact go
theorem xe_Void {b : Nat} {p1 : zP} {x : gEx} (hb : S b) (e0 : gi M b 0 = 5) (e1 : gr M b 1 = some p1) (h1 : xE S M D p1 x) (hx : gok x) (hD : 3 ≤ D) : xE S M (D + 1) (b, 33, 0) (gVoid x) := by
  refine ⟨h1.1, rfl, (show 20 ≤ 33 ∧ 33 < 45 by decide), _, rfl, fun E d Q M' e Γ l δ L st ha c hl hd hQ => ?_⟩
  obtain ⟨d, rfl⟩ : ∃ d', d = d' + 2 := ⟨d - 2, by omega⟩
  have hS := h1.1
  have hs : gVoid x e Γ L st = em e Γ L 0 0 0 none (em e Γ (psh 1 L) 17 0 0 none (x e Γ L st)) := rfl
  rw [hs] at hl hQ
  have l1 := em_len e Γ L 0 0 0 none (em e Γ (psh 1 L) 17 0 0 none (x e Γ L st))
  have l2 := em_len e Γ (psh 1 L) 17 0 0 none (x e Γ L st)
  refine sX28_code_0 M' b _ ?_
  rw [(ha b 0 hb).1, e0, (ha b 1 hb).2, e1, if_neg (by decide), if_neg (by decide)]
  refine y_sub (L := L) h1 ha c (by omega) (by omega) (fun M1 c1 f1 => ?_)
  show Z E YX28_code (d + 1 + 1) M1 [(0, vr (some (b, 33, 0))), (1, C29)] 95 [] Q
  refine sX28_code_95 M1 b _ ?_
  rw [((ha.tr (f1.agS hS)) b 0 hb).1, e0, if_pos (by decide)]
  refine ⟨29, rfl, ?_⟩
  refine y_putn (L := psh 1 L) c1 (by omega) rfl rfl (fun M2 v c2 f2 => ?_)
  show Z E YX28_code (d + 1 + 1) M2 [(1, C29)] 126 [vi v] Q
  refine sX28_code_126 M2 29 _ ?_
  refine y_putn (L := L) c2 (by omega) rfl rfl (fun M3 v3 c3 f3 => ?_)
  show Z E YX28_code (d + 1 + 1) M3 [] 134 [vi v3] Q
  exact sX28_code_134 M3 _ (hQ M3 c3 ((f1.tr f2).tr f3))
theorem xe_Typ {b n x : Nat} (hS : ∀ a, S a → 190 ≤ a) (hb : S b) (hn : S n) (e0 : gi M b 0 = 4) (e1 : gr M b 1 = some (n, 23, 0)) (e2 : gi M n 0 = nI x) (hx : x < 100000) (hD : 4 ≤ D) : xE S M (D + 1) (b, 33, 0) (gTyp x) := by
  refine ⟨hS, rfl, (show 20 ≤ 33 ∧ 33 < 45 by decide), _, rfl, fun E d Q M' e Γ l δ L st ha c hl hd hQ => ?_⟩
  obtain ⟨d, rfl⟩ : ∃ d', d = d' + 5 := ⟨d - 5, by omega⟩
  refine sX28_code_0 M' b _ ?_
  rw [(ha b 0 hb).1, e0, (ha b 1 hb).2, e1, if_neg (by decide), if_pos rfl]
  refine ⟨n, 23, rfl, _, rfl, ?_⟩
  refine sX17_isName_0 M' n ?_
  show Z E YX28_code (d + 4 + 1) M' [(0, vr (some (b, 33, 0))), (1, C29)] 47 [vi 1] Q
  refine sX28_code_47 M' b _ _ ?_
  rw [if_neg (by decide), (ha b 1 hb).2, e1]
  refine ⟨n, rfl, 29, rfl, ?_⟩
  rw [(ha n 0 hn).1, e2]
  obtain ⟨m, hm, cc⟩ := id c
  refine sX3_isGlobal_0 M' _ cc.1 (y_hops (d := d + 2) cc hx fun hh => ?_)
  show Z E YX3_isGlobal (d + 3 + 1) M' [] 5 [vi (opI (e.2 x) 0)] _
  refine sX3_isGlobal_5 M' _ cc.1 ?_
  unfold gTyp at hl hQ
  cases ho : e.2 x with
  | none =>
    rw [ho] at hl hQ
    rw [show opI none 0 = -1 from rfl, if_pos rfl]
    show Z E YX28_code (d + 4 + 1) M' [(0, vr (some (b, 33, 0))), (1, C29)] 64 [vi 1] Q
    refine sX28_code_64 M' b 29 _ ?_
    rw [if_neg (by decide), (ha b 1 hb).2, e1]
    refine ⟨n, rfl, ?_⟩
    rw [(ha n 0 hn).1, e2]
    refine y_putn (L := L) c hl rfl rfl (fun M1 v c1 f1 => ?_)
    show Z E YX28_code (d + 4 + 1) M1 [] 83 [vi v] Q
    exact sX28_code_83 M1 _ (hQ M1 c1 f1)
  | some j =>
    have hj := hh j ho
    rw [ho] at hl hQ
    rw [show opI (some j) 0 = nI j from rfl, if_neg (by rw [nn_m1 (by omega)]; exact fun z => z)]
    show Z E YX28_code (d + 4 + 1) M' [(0, vr (some (b, 33, 0))), (1, C29)] 64 [vi 0] Q
    refine sX28_code_64 M' b 29 _ ?_
    rw [if_pos rfl, (ha b 1 hb).2, e1]
    have eg : gGet x e Γ L st = em e Γ L 1 (nI j) (nI x) none st := by unfold gGet; rw [ho]; rfl
    have hl2 : ((em e Γ (psh 1 L) 13 4 0 none (gGet x e Γ L st)).c.length : Int) + δ < 100000000 := by rw [eg]; exact hl
    rw [em_len] at hl2
    refine y_sub (D := 4) (L := L) (xe_Name hS hn e2 hx (by omega)) ha c (by omega) (by omega) (fun M1 c1 f1 => ?_)
    show Z E YX28_code (d + 4 + 1) M1 [(0, vr (some (b, 33, 0))), (1, C29)] 95 [] Q
    refine y_un (L := L) (((ha.tr (f1.agS hS)) b 0 hb).1.trans e0) (by decide) rfl c1 (by omega) (fun M2 c2 f2 => hQ M2 ?_ (f1.tr f2))
    rw [eg] at c2
    exact c2
end
