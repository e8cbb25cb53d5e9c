/-! THE COMPONENT's CODER: more nodes -/
section
variable {S : Nat → Prop} {M : zM} {D : Nat}
/-- && and || in a row -/
def gBot (op : Int32) (r : List gEx) (x : gEx) : gEx := r.foldl (fun a y => gAnd op a y) x
def botS (e : gN) (Γ : gK) (L : List Bool) (op : Int32) (r : List gEx) (s : gS) : gS := r.foldl (fun s y => hre s.m (y e Γ L (em e Γ (psh 1 L) op 0 0 (some s.m) (mkm s)))) s
theorem gBot_eq (e : gN) (Γ : gK) (L : List Bool) (op : Int32) : ∀ (r : List gEx) (x : gEx) (st : gS), gBot op r x e Γ L st = botS e Γ L op r (x e Γ L st)
  | [], _, _ => rfl
  | y :: r, x, st => gBot_eq e Γ L op r (gAnd op x y) st
theorem botS_len (e : gN) (Γ : gK) (L : List Bool) (op : Int32) : ∀ (r : List gEx) (s : gS), (∀ y ∈ r, gok y) → s.c.length ≤ (botS e Γ L op r s).c.length
  | [], _, _ => Nat.le_refl _
  | y :: r, s, h => by
    have h1 := (h y List.mem_cons_self e Γ L (em e Γ (psh 1 L) op 0 0 (some s.m) (mkm s))).len
    have h2 := botS_len e Γ L op r (hre s.m (y e Γ L (em e Γ (psh 1 L) op 0 0 (some s.m) (mkm s)))) (fun q' h' => h q' (List.mem_cons_of_mem _ h'))
    rw [em_len] at h1
    have h1 : s.c.length + 1 ≤ (y e Γ L (em e Γ (psh 1 L) op 0 0 (some s.m) (mkm s))).c.length := h1
    have h2 : (y e Γ L (em e Γ (psh 1 L) op 0 0 (some s.m) (mkm s))).c.length ≤ _ := h2
    show _ ≤ (botS e Γ L op r (hre s.m (y e Γ L (em e Γ (psh 1 L) op 0 0 (some s.m) (mkm s))))).c.length
    omega
theorem gok_Bot {op : Int32} : ∀ {r : List gEx} {x : gEx}, gok x → (∀ y ∈ r, gok y) → gok (gBot op r x)
  | [], _, hx, _ => hx
  | y :: r, x, hx, h => gok_Bot (r := r) (x := gAnd op x y) (gok_And hx (h y List.mem_cons_self)) (fun q' h' => h q' (List.mem_cons_of_mem _ h'))
theorem xe_Both {b lst : Nat} {op : Int32} {x : gEx} {r : List gEx} (hS : ∀ a, S a → 190 ≤ a) (hb : S b) (e0 : gi M b 0 = op) (hop : op.toInt8.toInt32 = op) (e1 : gr M b 1 = some (lst, 11, 0)) (hl : xEl S M D lst (x :: r)) (hD : 3 ≤ D) : xE S M (D + 1) (b, 34, 0) (gBot op r x) := by
  refine ⟨hS, rfl, (show 20 ≤ 34 ∧ 34 < 45 by decide), _, rfl, fun E d Q M' e Γ l δ L st ha h hl' hd hQ => ?_⟩
  obtain ⟨d, rfl⟩ : ∃ d', d = d' + 4 := ⟨d - 4, by omega⟩
  have hlt := hl.lt
  rw [List.length_cons] at hlt
  have gk : ∀ q ∈ r, gok q := fun q hq => hl.gok q (List.mem_cons_of_mem _ hq)
  rw [gBot_eq] at hl' hQ
  have loop : ∀ (r' pre : List gEx) (M1 : zM) (s : gS), r = pre ++ r' → agS S M M1 → xCz M1 e Γ l δ s → ((botS e Γ L op r' s).c.length : Int) + δ < 100000000 → (∀ M2, xCz M2 e Γ l δ (botS e Γ L op r' s) → fr cdP M1 M2 → Q (.inl none) M2) → Z E YX29_code (d + 3 + 1) M1 [(0, vr (some (b, 34, 0))), (1, C29), (2, vi (nI (pre.length + 1)))] 17 [] Q := by
    intro r'
    induction r' with
    | nil =>
      intro pre M1 s hr a1 c1 b1 q1
      refine iX29_code_17 M1 b _ _ ⟨lst, (a1 b 1 hb).2.trans e1, ?_⟩
      rw [y_num hl a1, if_pos (nI_le (by rw [List.length_cons, hr, List.append_nil]; exact Nat.le_refl _) (by rw [hr, List.append_nil] at hlt; omega))]
      exact q1 M1 c1 fr.rf
    | cons y r' ih =>
      intro pre M1 s hr a1 c1 b1 q1
      have hat := at_app hr
      have hpl := (List.getElem?_eq_some_iff.mp hat).1
      have hu : (x :: r)[pre.length + 1]? = some y := by rw [List.getElem?_cons_succ, hat]
      have gy := gk y (List.mem_of_getElem? hat)
      have hs : botS e Γ L op (y :: r') s = botS e Γ L op r' (hre s.m (y e Γ L (em e Γ (psh 1 L) op 0 0 (some s.m) (mkm s)))) := rfl
      rw [hs] at b1 q1
      have w0 := xCz_wf c1
      have l1 := botS_len e Γ L op r' (hre s.m (y e Γ L (em e Γ (psh 1 L) op 0 0 (some s.m) (mkm s)))) (fun q' h' => gk q' (by rw [hr]; exact List.mem_append_right _ (List.mem_cons_of_mem _ h')))
      have l1 : (y e Γ L (em e Γ (psh 1 L) op 0 0 (some s.m) (mkm s))).c.length ≤ _ := l1
      have l2 : (em e Γ (psh 1 L) op 0 0 (some s.m) (mkm s)).c.length = s.c.length + 1 := em_len ..
      have g1 := gy e Γ L (em e Γ (psh 1 L) op 0 0 (some s.m) (mkm s))
      have l3 := g1.len
      have u1 := noM_only (s := mkm s) (mm := s.m) (fun q hq => w0.no (Nat.le_refl _) q hq) e Γ (psh 1 L) op 0 0
      have m1 : s.m + 1 ≤ (y e Γ L (em e Γ (psh 1 L) op 0 0 (some s.m) (mkm s))).m := g1.2.1
      have u1 := only_gst u1 (by show s.c.length < _; omega) g1 (fun z => z) (show s.m < s.m + 1 by omega)
      refine iX29_code_17 M1 b _ _ ⟨lst, (a1 b 1 hb).2.trans e1, ?_⟩
      rw [y_num hl a1, if_neg (nI_ge (by rw [List.length_cons]; omega) (by rw [List.length_cons]; omega))]
      refine ⟨29, rfl, ?_⟩
      rw [(a1 b 0 hb).1, e0]
      refine y_putZ (L := psh 1 L) (a := 0) (mk := some s.m) (xCz_mkm c1) (by omega) hop rfl (fun z => by cases z) (fun mm p z1 z2 => by rw [← Option.some.inj z1, show (mkm s).at s.m = none from w0.2 _ (Nat.le_refl _)] at z2; cases z2) (fun mm z1 => by have := Option.some.inj z1; show mm < s.m + 1; omega) (fun M2 i0 hi0 hb0 c2 f2 => ?_)
      have a2 := a1.tr (f2.agS hS)
      show Z E YX29_code (d + 3 + 1) M2 [(0, vr (some (b, 34, 0))), (1, C29), (2, vi (nI (pre.length + 1)))] 38 [vi (nI i0)] Q
      refine sX29_code_38 M2 b 29 _ _ ⟨lst, (a2 b 1 hb).2.trans e1, ?_⟩
      refine y_elem (d := d) hl a2 hu (fun p hp => ?_)
      show Z E YX29_code (d + 3 + 1) M2 [(0, vr (some (b, 34, 0))), (1, C29), (2, vi (nI (pre.length + 1))), (3, vi (nI i0))] 47 [vr (some p)] Q
      refine sX29_code_47 M2 b 29 _ _ _ ?_
      refine y_subL (L := L) hp a2 c2 (by omega) (by omega) (fun M3 c3 f3 => ?_)
      show Z E YX29_code (d + 3 + 1) M3 [(0, vr (some (b, 34, 0))), (1, C29), (2, vi (nI (pre.length + 1))), (3, vi (nI i0))] 54 [] Q
      refine sX29_code_54 M3 b 29 _ _ ?_
      refine y_goalZ (k0 := s.c.length) c3 hi0 hb0 m1 u1 (fun M4 c4 f4 => ?_)
      show Z E YX29_code (d + 3 + 1) M4 [(0, vr (some (b, 34, 0))), (1, C29), (2, vi (nI (pre.length + 1)))] 59 [] Q
      refine sX29_code_59 M4 b 29 _ ?_
      have := ih (pre ++ [y]) M4 _ (by rw [hr]; simp) ((a2.tr (f3.agS hS)).tr (f4.agS hS)) c4 b1 (fun M5 c5 f5 => q1 M5 c5 (((f2.tr f3).tr f4).tr f5))
      rw [List.length_append] at this
      rw [nI_l1]
      exact this
  have l1 := botS_len e Γ L op r (x e Γ L st) gk
  refine sX29_code_0 M' b _ ⟨lst, (ha b 1 hb).2.trans e1, ?_⟩
  refine y_elem (d := d) (i := 0) hl ha rfl (fun p hp => ?_)
  show Z E YX29_code (d + 3 + 1) M' [(0, vr (some (b, 34, 0))), (1, C29)] 8 [vr (some p)] Q
  refine sX29_code_8 M' b _ _ ?_
  refine y_subL (L := L) hp ha h (by omega) (by omega) (fun M1 c1 f1 => ?_)
  show Z E YX29_code (d + 3 + 1) M1 [(0, vr (some (b, 34, 0))), (1, C29)] 15 [] Q
  refine sX29_code_15 M1 b _ ?_
  exact loop r [] M1 _ rfl (ha.tr (f1.agS hS)) c1 hl' (fun M2 c2 f2 => hQ M2 c2 (f1.tr f2))
/-- commas -/
def gCms (r : List gEx) (x : gEx) : gEx := r.foldl (fun a y => gCom a y) x
def cmsS (e : gN) (Γ : gK) (L : List Bool) (r : List gEx) (s : gS) : gS := r.foldl (fun s y => y e Γ L (em e Γ (psh 1 L) 17 0 0 none s)) s
theorem gCms_eq (e : gN) (Γ : gK) (L : List Bool) : ∀ (r : List gEx) (x : gEx) (st : gS), gCms r x e Γ L st = cmsS e Γ L r (x e Γ L st)
  | [], _, _ => rfl
  | y :: r, x, st => gCms_eq e Γ L r (gCom x y) st
theorem cmsS_len (e : gN) (Γ : gK) (L : List Bool) : ∀ (r : List gEx) (s : gS), (∀ y ∈ r, gok y) → s.c.length ≤ (cmsS e Γ L r s).c.length
  | [], _, _ => Nat.le_refl _
  | y :: r, s, h => by
    have h1 := (h y List.mem_cons_self e Γ L (em e Γ (psh 1 L) 17 0 0 none s)).len
    have h2 := cmsS_len e Γ L r (y e Γ L (em e Γ (psh 1 L) 17 0 0 none s)) (fun q' h' => h q' (List.mem_cons_of_mem _ h'))
    rw [em_len] at h1
    show _ ≤ (cmsS e Γ L r (y e Γ L (em e Γ (psh 1 L) 17 0 0 none s))).c.length
    omega
theorem gok_Cms : ∀ {r : List gEx} {x : gEx}, gok x → (∀ y ∈ r, gok y) → gok (gCms r x)
  | [], _, hx, _ => hx
  | y :: r, x, hx, h => gok_Cms (r := r) (x := gCom x y) (gok_Com hx (h y List.mem_cons_self)) (fun q' h' => h q' (List.mem_cons_of_mem _ h'))
theorem xe_Commas {b lst : Nat} {x : gEx} {r : List gEx} (hS : ∀ a, S a → 190 ≤ a) (hb : S b) (e0 : gr M b 0 = some (lst, 11, 0)) (hl : xEl S M D lst (x :: r)) (hD : 3 ≤ D) : xE S M (D + 1) (b, 28, 0) (gCms r x) := by
  refine ⟨hS, rfl, (show 20 ≤ 28 ∧ 28 < 45 by decide), _, rfl, fun E d Q M' e Γ l δ L st ha h hl' hd hQ => ?_⟩
  obtain ⟨d, rfl⟩ : ∃ d', d = d' + 4 := ⟨d - 4, by omega⟩
  have hlt := hl.lt
  rw [List.length_cons] at hlt
  have gk : ∀ q ∈ r, gok q := fun q hq => hl.gok q (List.mem_cons_of_mem _ hq)
  rw [gCms_eq] at hl' hQ
  have loop : ∀ (r' pre : List gEx) (M1 : zM) (s : gS), r = pre ++ r' → agS S M M1 → xCz M1 e Γ l δ s → ((cmsS e Γ L r' s).c.length : Int) + δ < 100000000 → (∀ M2, xCz M2 e Γ l δ (cmsS e Γ L r' s) → fr cdP M1 M2 → Q (.inl none) M2) → Z E YX22_code (d + 3 + 1) M1 [(0, vr (some (b, 28, 0))), (1, C29), (2, vi (nI (pre.length + 1)))] 2 [] Q := by
    intro r'
    induction r' with
    | nil =>
      intro pre M1 s hr a1 c1 b1 q1
      refine iX22_code_2 M1 b _ _ ⟨lst, (a1 b 0 hb).2.trans e0, ?_⟩
      rw [y_num hl a1, if_pos (nI_le (by rw [List.length_cons, hr, List.append_nil]; exact Nat.le_refl _) (by rw [hr, List.append_nil] at hlt; omega))]
      exact q1 M1 c1 fr.rf
    | cons y r' ih =>
      intro pre M1 s hr a1 c1 b1 q1
      have hat := at_app hr
      have hpl := (List.getElem?_eq_some_iff.mp hat).1
      have hu : (x :: r)[pre.length + 1]? = some y := by rw [List.getElem?_cons_succ, hat]
      have gy := gk y (List.mem_of_getElem? hat)
      have hs : cmsS e Γ L (y :: r') s = cmsS e Γ L r' (y e Γ L (em e Γ (psh 1 L) 17 0 0 none s)) := rfl
      rw [hs] at b1 q1
      have l1 := cmsS_len e Γ L r' (y e Γ L (em e Γ (psh 1 L) 17 0 0 none s)) (fun q' h' => gk q' (by rw [hr]; exact List.mem_append_right _ (List.mem_cons_of_mem _ h')))
      have l3 := (gy e Γ L (em e Γ (psh 1 L) 17 0 0 none s)).len
      refine iX22_code_2 M1 b _ _ ⟨lst, (a1 b 0 hb).2.trans e0, ?_⟩
      rw [y_num hl a1, if_neg (nI_ge (by rw [List.length_cons]; omega) (by rw [List.length_cons]; omega)), if_neg (show ¬ nI (pre.length + 1) ≤ 0 from nI_ge (a := 0) (by omega) (by omega))]
      refine ⟨29, rfl, ?_⟩
      refine y_putn (L := psh 1 L) c1 (by omega) rfl rfl (fun M2 v c2 f2 => ?_)
      have a2 := a1.tr (f2.agS hS)
      show Z E YX22_code (d + 3 + 1) M2 [(0, vr (some (b, 28, 0))), (1, C29), (2, vi (nI (pre.length + 1)))] 25 [vi v] Q
      refine sX22_code_25 M2 b 29 _ _ ⟨lst, (a2 b 0 hb).2.trans e0, ?_⟩
      refine y_elem (d := d) hl a2 hu (fun p hp => ?_)
      show Z E YX22_code (d + 3 + 1) M2 [(0, vr (some (b, 28, 0))), (1, C29), (2, vi (nI (pre.length + 1)))] 34 [vr (some p)] Q
      refine sX22_code_34 M2 b _ _ _ ?_
      refine y_subL (L := L) hp a2 c2 (by omega) (by omega) (fun M3 c3 f3 => ?_)
      show Z E YX22_code (d + 3 + 1) M3 [(0, vr (some (b, 28, 0))), (1, C29), (2, vi (nI (pre.length + 1)))] 41 [] Q
      refine sX22_code_41 M3 b _ _ ?_
      have := ih (pre ++ [y]) M3 _ (by rw [hr]; simp) (a2.tr (f3.agS hS)) c3 b1 (fun M5 c5 f5 => q1 M5 c5 ((f2.tr f3).tr f5))
      rw [List.length_append] at this
      rw [nI_l1]
      exact this
  have l1 := cmsS_len e Γ L r (x e Γ L st) gk
  refine sX22_code_0 M' b _ ?_
  refine iX22_code_2 M' b _ _ ⟨lst, (ha b 0 hb).2.trans e0, ?_⟩
  rw [y_num hl ha, if_neg (show ¬ nI (x :: r).length ≤ 0 from nI_ge (a := 0) (by rw [List.length_cons]; omega) (by rw [List.length_cons]; omega)), if_pos (by decide)]
  refine y_elem (d := d) (i := 0) hl ha rfl (fun p hp => ?_)
  show Z E YX22_code (d + 3 + 1) M' [(0, vr (some (b, 28, 0))), (1, C29), (2, vi 0)] 34 [vr (some p)] Q
  refine sX22_code_34 M' b _ _ _ ?_
  refine y_subL (L := L) hp ha h (by omega) (by omega) (fun M1 c1 f1 => ?_)
  show Z E YX22_code (d + 3 + 1) M1 [(0, vr (some (b, 28, 0))), (1, C29), (2, vi 0)] 41 [] Q
  refine sX22_code_41 M1 b _ _ ?_
  exact loop r [] M1 _ rfl (ha.tr (f1.agS hS)) c1 hl' (fun M2 c2 f2 => hQ M2 c2 (f1.tr f2))
end
