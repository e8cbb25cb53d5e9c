/-! THE COMPONENT's CODER: targets (Left's place), delete, Sets, Counts -/
/-- a member's place -/
def xPl (S : Nat → Prop) (M : zM) (D : Nat) (p : zP) (o k : gEx) : Prop :=
  (∀ a, S a → 190 ≤ a) ∧ p.2 = (30, 0) ∧ (gok o ∧ gok k) ∧ (∀ (E : zE) (d : Nat) (Q : zO → zM → Prop) (M' : zM), agS S M M' → 4 ≤ d → Q (.inl (some (vi 1))) M' → Z E YX24_isMember d M' [(0, vr (some p))] 0 [] Q) ∧
  ∀ (E : zE) (d : Nat) (Q : zO → zM → Prop) (M' : zM) (e : gN) (Γ : gK) (l : List Nat) (δ : Int) (L : List Bool) (st : gS), agS S M M' → xCz M' e Γ l δ st → ((k e Γ (psh 1 L) (o e Γ L st)).c.length : Int) + δ < 100000000 → D ≤ d →
    (∀ M'', xCz M'' e Γ l δ (k e Γ (psh 1 L) (o e Γ L st)) → fr cdP M' M'' → Q (.inl none) M'') → Z E YX24_place d M' [(0, vr (some p)), (1, C29)] 0 [] Q
theorem xPl_mono {S S' : Nat → Prop} {M M' : zM} {D D' : Nat} {p : zP} {o k : gEx} (h : xPl S M D p o k) (hs : ∀ a, S a → S' a) (h190 : ∀ a, S' a → 190 ≤ a) (ha : agS S M M') (hD : D ≤ D') : xPl S' M' D' p o k := by
  obtain ⟨h1, h2, h3, h4, h5⟩ := h
  exact ⟨h190, h2, h3, fun E d Q M'' a => h4 E d Q M'' (ha.tr (a.mono hs)), fun E d Q M'' e Γ l δ L st a c b dd k => h5 E d Q M'' e Γ l δ L st (ha.tr (a.mono hs)) c b (Nat.le_trans hD dd) k⟩
section
variable {S : Nat → Prop} {M : zM} {D : Nat}
theorem sf_num {M' : zM} {lb : Nat} {sf : List gSf} (h : xSfs S M D lb sf) (ha : agS S M M') : gi M' lb 2 = nI sf.length := by
  obtain ⟨es, h1, h2, -⟩ := h
  rw [← h2]; exact (xLr_ag h1 ha).2.1
theorem xe_Left {b lb : Nat} {p1 : zP} {x : gEx} {sf : List gSf} (hb : S b) (e0 : gr M b 0 = some p1) (e1 : gr M b 1 = some (lb, 11, 0)) (h1 : xE S M D p1 x) (hx : gok x) (hF : xSfs S M D lb sf) (hD : 3 ≤ D) : xE S M (D + 3) (b, 30, 0) (lfF x sf).1 := by
  refine ⟨h1.1, rfl, (show 20 ≤ 30 ∧ 30 < 45 by decide), _, rfl, fun E d Q M' e Γ l δ L st ha c hl hd hQ => ?_⟩
  obtain ⟨d, rfl⟩ : ∃ d', d = d' + 6 := ⟨d - 6, by omega⟩
  refine iX24_code_0 M' b _ ⟨lb, (ha b 1 hb).2.trans e1, ?_⟩
  rw [sf_num hF ha]
  refine y_upTo (rest := []) (L := L) hb e0 e1 h1 hx (by rw [List.append_nil]; exact hF) ha c hl (by omega) (fun M1 c1 f1 => ?_)
  show Z E YX24_code (d + 5 + 1) M1 [] 12 [] Q
  exact sX24_code_12 M1 (hQ M1 c1 f1)
theorem xp_Left {b lb : Nat} {p1 : zP} {x k : gEx} {w : List gEx} {sf : List gSf} (hb : S b) (e0 : gr M b 0 = some p1) (e1 : gr M b 1 = some (lb, 11, 0)) (h1 : xE S M D p1 x) (hx : gok x) (hF : xSfs S M D lb (sf ++ [(some k, w)])) (hD : 3 ≤ D) : xPl S M (D + 3) (b, 30, 0) (lfF x sf).1 k := by
  have hok := hF.ok
  have hlt := hF.lt
  rw [List.length_append] at hlt
  have hlt : sf.length + 1 < 100000 := hlt
  have gk : gok k := (hok _ (List.mem_append_right _ List.mem_cons_self)).1 k rfl
  have go : gok (lfF x sf).1 := (gok_lf sf (x, none) (fun q hq => hok q (List.mem_append_left _ hq)) hx (fun _ _ z => by cases z)).1
  have hat : (sf ++ [(some k, w)])[sf.length]? = some (some k, w) := at_app rfl
  have em1 : nI (sf.length + 1) - 1 = nI sf.length := by rw [show (1 : Int32) = nI 1 from rfl, nn_sub (by omega)]; rfl
  have hS := h1.1
  refine ⟨hS, rfl, ⟨go, gk⟩, fun E d Q M' ha hd hQ => ?_, fun E d Q M' e Γ l δ L st ha c hl hd hQ => ?_⟩
  · obtain ⟨d, rfl⟩ : ∃ d', d = d' + 4 := ⟨d - 4, by omega⟩
    refine iX24_isMember_0 M' b ⟨lb, (ha b 1 hb).2.trans e1, ?_⟩
    rw [sf_num hF ha, List.length_append]
    rw [show nI (sf.length + [(some k, w)].length) - 1 = nI sf.length from em1]
    refine y_sf (d := d) hF ha hat (fun a hq => ?_)
    show Z E YX24_isMember (d + 3 + 1) M' [] 16 [vr (some (a, 19, 0))] Q
    refine sX24_isMember_16 M' _ ⟨a, rfl, ?_⟩
    rw [if_pos ((xSf_no hq ha).mpr rfl)]
    exact hQ
  · obtain ⟨d, rfl⟩ : ∃ d', d = d' + 6 := ⟨d - 6, by omega⟩
    have l1 := (gk e Γ (psh 1 L) ((lfF x sf).1 e Γ L st)).len
    refine iX24_place_0 M' b _ ⟨lb, (ha b 1 hb).2.trans e1, ?_⟩
    rw [sf_num hF ha, List.length_append]
    rw [show nI (sf.length + [(some k, w)].length) - 1 = nI sf.length from em1]
    refine y_upTo (L := L) hb e0 e1 h1 hx hF ha c (by omega) (by omega) (fun M1 c1 f1 => ?_)
    have a1 := ha.tr (f1.agS hS)
    show Z E YX24_place (d + 5 + 1) M1 [(0, vr (some (b, 30, 0))), (1, C29)] 14 [] Q
    refine iX24_place_14 M1 b _ ⟨lb, (a1 b 1 hb).2.trans e1, ?_⟩
    rw [sf_num hF a1, List.length_append]
    rw [show nI (sf.length + [(some k, w)].length) - 1 = nI sf.length from em1]
    refine y_sf (d := d + 2) hF a1 hat (fun a hq => ?_)
    show Z E YX24_place (d + 5 + 1) M1 [(1, C29)] 30 [vr (some (a, 19, 0))] Q
    refine sX24_place_30 M1 _ _ ⟨a, rfl, ?_⟩
    refine y_key (d := d + 3) (L := psh 1 L) hS hq a1 c1 hl (by omega) (fun M2 c2 f2 => ?_)
    show Z E YX24_place (d + 5 + 1) M2 [] 37 [] Q
    exact sX24_place_37 M2 (hQ M2 c2 (f1.tr f2))
theorem lfF_mem (x k : gEx) (w : List gEx) (sf : List gSf) : lfF x (sf ++ [(some k, w)]) = (gMem (lfF x sf).1 k, some ((lfF x sf).1, k)) := by
  unfold lfF
  rw [List.foldl_append]
  rfl
/-- delete -/
theorem xe_Del {b : Nat} {p1 : zP} {o k : gEx} (hb : S b) (e0 : gi M b 0 = 6) (e1 : gr M b 1 = some p1) (h1 : xPl S M D p1 o k) (hD : 1 ≤ D) : xE S M (D + 1) (b, 33, 0) (gDel o k) := by
  refine ⟨h1.1, rfl, (show 20 ≤ 33 ∧ 33 < 45 by decide), _, rfl, fun E d Q M' e Γ l δ L st ha c hl hd hQ => ?_⟩
  obtain ⟨d, rfl⟩ : ∃ d', d = d' + 2 := ⟨d - 2, by omega⟩
  obtain ⟨hS, hp, -, -, h5⟩ := h1
  obtain ⟨pb, pt⟩ := p1
  cases hp
  have hs : gDel o k e Γ L st = em e Γ (psh 2 L) 12 0 0 none (k e Γ (psh 1 L) (o e Γ L st)) := rfl
  rw [hs] at hl hQ
  have l1 := em_len e Γ (psh 2 L) 12 0 0 none (k e Γ (psh 1 L) (o e Γ L st))
  refine sX28_code_0 M' b _ ?_
  rw [(ha b 0 hb).1, e0, (ha b 1 hb).2, e1, if_pos rfl]
  refine ⟨pb, rfl, ?_⟩
  refine h5 E (d + 1) _ M' e Γ l δ L st ha c (by omega) (by omega) (fun M1 c1 f1 => ?_)
  show Z E YX28_code (d + 1 + 1) M1 [(1, C29)] 20 [] Q
  refine sX28_code_20 M1 _ ⟨29, rfl, ?_⟩
  refine y_putn (L := psh 2 L) c1 (by omega) rfl rfl (fun M2 v c2 f2 => ?_)
  show Z E YX28_code (d + 1 + 1) M2 [] 28 [vi v] Q
  exact sX28_code_28 M2 _ (hQ M2 c2 (f1.tr f2))
/-- the sign of an assignment: none is -1 -/
def sgO (v : Int32) : Option Int32 → Prop
  | none => v = -1
  | some h => v = h ∧ ¬ h = -1 ∧ h.toInt16.toInt32 = h
theorem xe_SetN {b n x : Nat} {pv : zP} {v : gEx} {h : Option Int32} (hb : S b) (hn : S n) (e0 : sgO (gi M b 0) h) (e1 : gr M b 1 = some (n, 23, 0)) (en : gi M n 0 = nI x) (hx : x < 100000) (e2 : gr M b 2 = some pv) (h1 : xE S M D pv v) (hv : gok v) (hD : 4 ≤ D) : xE S M (D + 1) (b, 22, 0) (gGvN h x v) := by
  refine ⟨h1.1, rfl, (show 20 ≤ 22 ∧ 22 < 45 by decide), _, rfl, fun E d Q M' e Γ l δ L st ha c hl hd hQ => ?_⟩
  obtain ⟨d, rfl⟩ : ∃ d', d = d' + 5 := ⟨d - 5, by omega⟩
  have hS := h1.1
  refine sX16_code_0 M' b _ ?_
  rw [(ha b 1 hb).2, e1]
  refine ⟨n, 23, rfl, _, rfl, ?_⟩
  refine sX13_isMember_0 M' _ _ ?_
  show Z E YX16_code (d + 4 + 1) M' [(0, vr (some (b, 22, 0))), (1, C29)] 7 [vi 0] Q
  refine iX16_code_7 M' b _ _ ?_
  rw [if_pos rfl, (ha b 0 hb).1, (ha b 2 hb).2, e2, (ha b 1 hb).2, e1]
  cases h with
  | none =>
    have e0 : gi M b 0 = -1 := e0
    have hs : gGvN none x v e Γ L st = gSet x e Γ (psh 1 L) (v e Γ L st) := rfl
    rw [hs] at hl hQ
    have l1 := gSet_len x e Γ (psh 1 L) (v e Γ L st)
    rw [e0, if_pos rfl]
    refine y_sub (L := L) h1 ha c (by omega) (by omega) (fun M1 c1 f1 => ?_)
    have a1 := ha.tr (f1.agS hS)
    show Z E YX16_code (d + 4 + 1) M1 [(0, vr (some (b, 22, 0))), (1, C29)] 109 [] Q
    refine sX16_code_109 M1 b _ ?_
    rw [(a1 b 0 hb).1, e0, if_pos rfl]
    refine ⟨n, (a1 b 1 hb).2.trans e1, 29, rfl, ?_⟩
    rw [(a1 n 0 hn).1, en]
    refine y_setZ (d := d + 2) (L := psh 1 L) c1 hl hx (fun M2 c2 f2 => ?_)
    show Z E YX16_code (d + 4 + 1) M2 [] 143 [] Q
    exact sX16_code_143 M2 (hQ M2 c2 (f1.tr f2))
  | some h =>
    obtain ⟨z1, z2, z3⟩ : gi M b 0 = h ∧ ¬ h = -1 ∧ h.toInt16.toInt32 = h := e0
    have hs : gGvN (some h) x v e Γ L st = gSet x e Γ (psh 1 L) (em e Γ (psh 2 L) 14 h 0 none (v e Γ (psh 1 L) (gGet x e Γ L st))) := rfl
    rw [hs] at hl hQ
    have l1 := gSet_len x e Γ (psh 1 L) (em e Γ (psh 2 L) 14 h 0 none (v e Γ (psh 1 L) (gGet x e Γ L st)))
    have l2 := em_len e Γ (psh 2 L) 14 h 0 none (v e Γ (psh 1 L) (gGet x e Γ L st))
    have l3 := (hv e Γ (psh 1 L) (gGet x e Γ L st)).len
    rw [z1, if_neg z2]
    refine y_sub (D := 4) (L := L) (xe_Name hS hn en hx (by omega)) ha c (by omega) (by omega) (fun M1 c1 f1 => ?_)
    have a1 := ha.tr (f1.agS hS)
    show Z E YX16_code (d + 4 + 1) M1 [(0, vr (some (b, 22, 0))), (1, C29)] 101 [] Q
    refine sX16_code_101 M1 b _ ?_
    rw [(a1 b 2 hb).2, e2]
    refine y_sub (L := psh 1 L) h1 a1 c1 (by omega) (by omega) (fun M2 c2 f2 => ?_)
    have a2 := a1.tr (f2.agS hS)
    show Z E YX16_code (d + 4 + 1) M2 [(0, vr (some (b, 22, 0))), (1, C29)] 109 [] Q
    refine sX16_code_109 M2 b _ ?_
    rw [(a2 b 0 hb).1, z1, if_neg z2]
    refine ⟨29, rfl, ?_⟩
    refine y_putn (L := psh 2 L) c2 (by omega) rfl z3 (fun M3 v3 c3 f3 => ?_)
    have a3 := a2.tr (f3.agS hS)
    show Z E YX16_code (d + 4 + 1) M3 [(0, vr (some (b, 22, 0))), (1, C29)] 128 [vi v3] Q
    refine sX16_code_128 M3 b 29 _ ⟨n, (a3 b 1 hb).2.trans e1, ?_⟩
    rw [(a3 n 0 hn).1, en]
    refine y_setZ (d := d + 2) (L := psh 1 L) c3 hl hx (fun M4 c4 f4 => ?_)
    show Z E YX16_code (d + 4 + 1) M4 [] 143 [] Q
    exact sX16_code_143 M4 (hQ M4 c4 (((f1.tr f2).tr f3).tr f4))
theorem xe_SetM {b : Nat} {p1 pv : zP} {o k v : gEx} {h : Option Int32} (hb : S b) (e0 : sgO (gi M b 0) h) (e1 : gr M b 1 = some p1) (e2 : gr M b 2 = some pv) (hp : xPl S M D p1 o k) (h1 : xE S M D pv v) (hv : gok v) (hD : 4 ≤ D) : xE S M (D + 1) (b, 22, 0) (gGvM h o k v) := by
  refine ⟨h1.1, rfl, (show 20 ≤ 22 ∧ 22 < 45 by decide), _, rfl, fun E d Q M' e Γ l δ L st ha c hl hd hQ => ?_⟩
  obtain ⟨d, rfl⟩ : ∃ d', d = d' + 5 := ⟨d - 5, by omega⟩
  obtain ⟨hS, hp2, ⟨go, gk⟩, h4, h5⟩ := hp
  obtain ⟨pb, pt⟩ := p1
  cases hp2
  refine sX16_code_0 M' b _ ?_
  rw [(ha b 1 hb).2, e1]
  refine ⟨pb, 30, rfl, _, rfl, ?_⟩
  refine h4 E (d + 4) _ M' ha (by omega) ?_
  show Z E YX16_code (d + 4 + 1) M' [(0, vr (some (b, 22, 0))), (1, C29)] 7 [vi 1] Q
  refine iX16_code_7 M' b _ _ ?_
  rw [if_neg (by decide), (ha b 1 hb).2, e1]
  refine ⟨pb, rfl, ?_⟩
  cases h with
  | none =>
    have e0 : gi M b 0 = -1 := e0
    have hs : gGvM none o k v e Γ L st = em e Γ (psh 3 L) 11 0 0 none (v e Γ (psh 2 L) (k e Γ (psh 1 L) (o e Γ L st))) := rfl
    rw [hs] at hl hQ
    have l1 := em_len e Γ (psh 3 L) 11 0 0 none (v e Γ (psh 2 L) (k e Γ (psh 1 L) (o e Γ L st)))
    have l2 := (hv e Γ (psh 2 L) (k e Γ (psh 1 L) (o e Γ L st))).len
    refine h5 E (d + 4) _ M' e Γ l δ L st ha c (by omega) (by omega) (fun M1 c1 f1 => ?_)
    have a1 := ha.tr (f1.agS hS)
    show Z E YX16_code (d + 4 + 1) M1 [(0, vr (some (b, 22, 0))), (1, C29)] 21 [] Q
    refine sX16_code_21 M1 b _ ?_
    rw [(a1 b 0 hb).1, e0, if_pos rfl, (a1 b 2 hb).2, e2]
    refine y_sub (L := psh 2 L) h1 a1 c1 (by omega) (by omega) (fun M2 c2 f2 => ?_)
    have a2 := a1.tr (f2.agS hS)
    show Z E YX16_code (d + 4 + 1) M2 [(0, vr (some (b, 22, 0))), (1, C29)] 55 [] Q
    refine sX16_code_55 M2 b _ ?_
    rw [(a2 b 0 hb).1, e0, if_pos rfl]
    refine ⟨29, rfl, ?_⟩
    refine y_putn (L := psh 3 L) c2 hl rfl rfl (fun M3 v3 c3 f3 => ?_)
    show Z E YX16_code (d + 4 + 1) M3 [] 83 [vi v3] Q
    exact sX16_code_83 M3 _ (hQ M3 c3 ((f1.tr f2).tr f3))
  | some h =>
    obtain ⟨z1, z2, z3⟩ : gi M b 0 = h ∧ ¬ h = -1 ∧ h.toInt16.toInt32 = h := e0
    have hs : gGvM (some h) o k v e Γ L st = em e Γ (psh 3 L) 11 0 0 none (em e Γ (psh 4 L) 14 h 0 none (v e Γ (psh 3 L) (em e Γ (psh 4 L) 10 0 0 none (em e Γ (psh 2 L) 19 0 0 none (k e Γ (psh 1 L) (o e Γ L st)))))) := rfl
    rw [hs] at hl hQ
    have l1 := em_len e Γ (psh 3 L) 11 0 0 none (em e Γ (psh 4 L) 14 h 0 none (v e Γ (psh 3 L) (em e Γ (psh 4 L) 10 0 0 none (em e Γ (psh 2 L) 19 0 0 none (k e Γ (psh 1 L) (o e Γ L st))))))
    have l2 := em_len e Γ (psh 4 L) 14 h 0 none (v e Γ (psh 3 L) (em e Γ (psh 4 L) 10 0 0 none (em e Γ (psh 2 L) 19 0 0 none (k e Γ (psh 1 L) (o e Γ L st)))))
    have l3 := (hv e Γ (psh 3 L) (em e Γ (psh 4 L) 10 0 0 none (em e Γ (psh 2 L) 19 0 0 none (k e Γ (psh 1 L) (o e Γ L st))))).len
    have l4 := em_len e Γ (psh 4 L) 10 0 0 none (em e Γ (psh 2 L) 19 0 0 none (k e Γ (psh 1 L) (o e Γ L st)))
    have l5 := em_len e Γ (psh 2 L) 19 0 0 none (k e Γ (psh 1 L) (o e Γ L st))
    refine h5 E (d + 4) _ M' e Γ l δ L st ha c (by omega) (by omega) (fun M1 c1 f1 => ?_)
    have a1 := ha.tr (f1.agS hS)
    show Z E YX16_code (d + 4 + 1) M1 [(0, vr (some (b, 22, 0))), (1, C29)] 21 [] Q
    refine sX16_code_21 M1 b _ ?_
    rw [(a1 b 0 hb).1, z1, if_neg z2]
    refine ⟨29, rfl, ?_⟩
    refine y_putn (L := psh 2 L) c1 (by omega) rfl rfl (fun M2 v2 c2 f2 => ?_)
    show Z E YX16_code (d + 4 + 1) M2 [(0, vr (some (b, 22, 0))), (1, C29)] 37 [vi v2] Q
    refine sX16_code_37 M2 b 29 _ ?_
    refine y_putn (L := psh 4 L) c2 (by omega) rfl rfl (fun M3 v3 c3 f3 => ?_)
    have a3 := (a1.tr (f2.agS hS)).tr (f3.agS hS)
    show Z E YX16_code (d + 4 + 1) M3 [(0, vr (some (b, 22, 0))), (1, C29)] 46 [vi v3] Q
    refine sX16_code_46 M3 b 29 _ ?_
    rw [(a3 b 2 hb).2, e2]
    refine y_sub (L := psh 3 L) h1 a3 c3 (by omega) (by omega) (fun M4 c4 f4 => ?_)
    have a4 := a3.tr (f4.agS hS)
    show Z E YX16_code (d + 4 + 1) M4 [(0, vr (some (b, 22, 0))), (1, C29)] 55 [] Q
    refine sX16_code_55 M4 b _ ?_
    rw [(a4 b 0 hb).1, z1, if_neg z2]
    refine ⟨29, rfl, ?_⟩
    refine y_putn (L := psh 4 L) c4 (by omega) rfl z3 (fun M5 v5 c5 f5 => ?_)
    show Z E YX16_code (d + 4 + 1) M5 [(1, C29)] 74 [vi v5] Q
    refine sX16_code_74 M5 29 _ ?_
    refine y_putn (L := psh 3 L) c5 hl rfl rfl (fun M6 v6 c6 f6 => ?_)
    show Z E YX16_code (d + 4 + 1) M6 [] 83 [vi v6] Q
    exact sX16_code_83 M6 _ (hQ M6 c6 (((((f1.tr f2).tr f3).tr f4).tr f5).tr f6))
end
