/-! THE COMPONENT's CODER: Left -/
/-- what stands behind: a key, or (none) arguments -/
abbrev gSf : Type := Option gEx × List gEx
def lfV (a : gEx × Option (gEx × gEx)) (q : gSf) : gEx × Option (gEx × gEx) := match q.1 with
  | some k => (gMem a.1 k, some (a.1, k))
  | none => (match a.2 with | some ok => gCallM ok.1 ok.2 q.2 | none => gCall a.1 q.2, none)
def lfF (x : gEx) (sf : List gSf) : gEx × Option (gEx × gEx) := sf.foldl lfV (x, none)
def nxC : List gSf → Bool
  | q :: _ => q.1.isNone
  | [] => false
/-- how many plain calls -/
def npl : Bool → List gSf → Nat
  | _, [] => 0
  | p, q :: r => (if q.1.isNone && p then 1 else 0) + npl q.1.isNone r
def cst (e : gN) (Γ : gK) (L : List Bool) : Nat → gS → gS
  | 0, s => s
  | n + 1, s => em e Γ (psh n L) 0 0 0 none (cst e Γ L n s)
def bdS (e : gN) (Γ : gK) (L : List Bool) (c : Nat) (q : gSf) (nx : Bool) (s : gS) : gS := match q.1 with
  | some k => if nx then em e Γ (psh (c + 3) L) 10 0 0 none (k e Γ (psh (c + 2) L) (em e Γ (psh (c + 1) L) 18 0 0 none s)) else em e Γ (psh (c + 2) L) 10 0 0 none (k e Γ (psh (c + 1) L) s)
  | none => em e Γ (psh (q.2.length + c + 1) L) 15 (nI q.2.length) 0 none (gArg q.2 e Γ (psh (c + 1) L) s)
def bdC (c : Nat) (q : gSf) (nx : Bool) : Nat := match q.1 with
  | some _ => if nx then c + 1 else c
  | none => c - 1
def bod (e : gN) (Γ : gK) (L : List Bool) : Nat → List gSf → gS → gS
  | _, [], s => s
  | c, q :: r, s => bod e Γ L (bdC c q (nxC r)) r (bdS e Γ L c q (nxC r) s)
theorem psh_psh (a b : Nat) (L : List Bool) : psh a (psh b L) = psh (a + b) L := by
  show List.replicate a false ++ (List.replicate b false ++ L) = List.replicate (a + b) false ++ L
  rw [← List.append_assoc, List.replicate_append_replicate]
theorem npl_nc : ∀ {sf : List gSf}, nxC sf = false → npl true sf = npl false sf
  | [], _ => rfl
  | q :: r, h => by
    have h : q.1.isNone = false := h
    show (if q.1.isNone && true then 1 else 0) + _ = (if q.1.isNone && false then 1 else 0) + _
    rw [h]; rfl
theorem bod_eq (e : gN) (Γ : gK) (L : List Bool) (st : gS) : ∀ (sf : List gSf) (g : gEx) (m : Option (gEx × gEx)), (m = none ∨ nxC sf = false) → (sf.foldl lfV (g, m)).1 e Γ L st = bod e Γ L (npl true sf) sf (g e Γ (psh (npl true sf) L) (cst e Γ L (npl true sf) st))
  | [], g, m, _ => rfl
  | (none, as) :: r, g, m, h => by
    have hm : m = none := h.resolve_right (by show ¬ true = false; decide)
    subst hm
    have ih := bod_eq e Γ L st r (gCall g as) none (.inl rfl)
    have en : npl true ((none, as) :: r) = npl true r + 1 := by show 1 + npl true r = _; omega
    rw [en]
    show (r.foldl lfV (gCall g as, none)).1 e Γ L st = bod e Γ L (npl true r) r (em e Γ (psh (as.length + (npl true r + 1) + 1) L) 15 (nI as.length) 0 none (gArg as e Γ (psh (npl true r + 1 + 1) L) (g e Γ (psh (npl true r + 1) L) (em e Γ (psh (npl true r) L) 0 0 0 none (cst e Γ L (npl true r) st)))))
    rw [ih]
    congr 1
    show em e Γ (psh (as.length + 2) (psh (npl true r) L)) 15 (nI as.length) 0 none _ = _
    rw [psh_psh, show as.length + 2 + npl true r = as.length + (npl true r + 1) + 1 by omega]
    rfl
  | (some k, _) :: (none, as) :: r, g, m, _ => by
    have ih := bod_eq e Γ L st r (gCallM g k as) none (.inl rfl)
    have en : ∀ w, npl true ((some k, w) :: (none, as) :: r) = npl true r := fun w => by show 0 + (0 + npl true r) = _; omega
    rw [en]
    show (r.foldl lfV (gCallM g k as, none)).1 e Γ L st = bod e Γ L (npl true r) r (em e Γ (psh (as.length + (npl true r + 1) + 1) L) 15 (nI as.length) 0 none (gArg as e Γ (psh (npl true r + 1 + 1) L) (em e Γ (psh (npl true r + 3) L) 10 0 0 none (k e Γ (psh (npl true r + 2) L) (em e Γ (psh (npl true r + 1) L) 18 0 0 none (g e Γ (psh (npl true r) L) (cst e Γ L (npl true r) st)))))))
    rw [ih]
    congr 1
    show em e Γ (psh (as.length + 2) (psh (npl true r) L)) 15 (nI as.length) 0 none _ = _
    rw [psh_psh, show as.length + 2 + npl true r = as.length + (npl true r + 1) + 1 by omega]
    rfl
  | [(some k, _)], g, m, _ => rfl
  | (some k, w) :: (some k2, x) :: r, g, m, _ => by
    have ih := bod_eq e Γ L st ((some k2, x) :: r) (gMem g k) (some (g, k)) (.inr rfl)
    have en : npl true ((some k, w) :: (some k2, x) :: r) = npl true ((some k2, x) :: r) := by show 0 + (0 + npl false r) = 0 + npl false r; omega
    rw [en]
    exact ih
def sfok (q : gSf) : Prop := (∀ k, q.1 = some k → gok k) ∧ ∀ a ∈ q.2, gok a
theorem bdS_gst {e : gN} {Γ : gK} {L : List Bool} {c : Nat} {q : gSf} {nx : Bool} (s : gS) (h : sfok q) : gst (fun _ => False) s (bdS e Γ L c q nx s) := by
  obtain ⟨q1, q2⟩ := q
  cases q1 with
  | some k =>
    have hk := h.1 k rfl
    cases nx with
    | true => exact ((gst_em ..).tr (hk ..)).tr (gst_em ..)
    | false => exact (hk ..).tr (gst_em ..)
  | none => exact (gok_Arg h.2 ..).tr (gst_em ..)
theorem bod_gst {e : gN} {Γ : gK} {L : List Bool} : ∀ (sf : List gSf) (c : Nat) (s : gS), (∀ q ∈ sf, sfok q) → gst (fun _ => False) s (bod e Γ L c sf s)
  | [], _, s, _ => gst.rf s
  | q :: r, c, s, h => (bdS_gst s (h q List.mem_cons_self)).tr (bod_gst r _ _ fun q' h' => h q' (List.mem_cons_of_mem _ h'))
theorem cst_len (e : gN) (Γ : gK) (L : List Bool) : ∀ (n : Nat) (s : gS), (cst e Γ L n s).c.length = s.c.length + n
  | 0, _ => rfl
  | n + 1, s => by
    show (em e Γ (psh n L) 0 0 0 none (cst e Γ L n s)).c.length = _
    rw [em_len, cst_len e Γ L n s]; omega
theorem gok_lf : ∀ (sf : List gSf) (a : gEx × Option (gEx × gEx)), (∀ q ∈ sf, sfok q) → gok a.1 → (∀ o k, a.2 = some (o, k) → gok o ∧ gok k) → gok (sf.foldl lfV a).1 ∧ ∀ o k, (sf.foldl lfV a).2 = some (o, k) → gok o ∧ gok k
  | [], a, _, h1, h2 => ⟨h1, h2⟩
  | (some k, w) :: r, a, h, h1, h2 => gok_lf r (gMem a.1 k, some (a.1, k)) (fun q' h' => h q' (List.mem_cons_of_mem _ h')) (gok_Mem h1 ((h _ List.mem_cons_self).1 k rfl)) (fun o' k' z => by cases z; exact ⟨h1, (h _ List.mem_cons_self).1 k rfl⟩)
  | (none, as) :: r, (g, none), h, h1, h2 => gok_lf r (gCall g as, none) (fun q' h' => h q' (List.mem_cons_of_mem _ h')) (gok_Call h1 (h _ List.mem_cons_self).2) (fun _ _ z => by cases z)
  | (none, as) :: r, (g, some (o, k)), h, h1, h2 => gok_lf r (gCallM o k as, none) (fun q' h' => h q' (List.mem_cons_of_mem _ h')) (gok_CallM (h2 o k rfl).1 (h2 o k rfl).2 (h _ List.mem_cons_self).2) (fun _ _ z => by cases z)
/-- a suffix -/
def xSf (S : Nat → Prop) (M : zM) (D a : Nat) (q : gSf) : Prop :=
  S a ∧ match q.1 with
  | some k => gr M a 2 = none ∧ ((gr M a 1 = none ∧ k = gCo 6 (gi M a 0)) ∨ ∃ p, gr M a 1 = some p ∧ xE S M D p k ∧ gok k)
  | none => ∃ lst, gr M a 2 = some (lst, 11, 0) ∧ xEl S M D lst q.2 ∧ q.2.length < 32768
def xSfs (S : Nat → Prop) (M : zM) (D lb : Nat) (sf : List gSf) : Prop :=
  ∃ es, xLr S M lb es ∧ es.length = sf.length ∧ ∀ i q, sf[i]? = some q → sfok q ∧ ∃ a, es.getD i none = some (a, 19, 0) ∧ xSf S M D a q
section
variable {E : zE} {d : Nat} {Q : zO → zM → Prop} {M M0 : zM} {S : Nat → Prop} {e : gN} {Γ : gK} {l : List Nat} {δ : Int} {st : gS} {L : List Bool} {D : Nat}
theorem y_sf {lb i : Nat} {sf : List gSf} {q : gSf} (h : xSfs S M0 D lb sf) (ha : agS S M0 M) (hi : sf[i]? = some q) (hQ : ∀ a, xSf S M0 D a q → Q (.inl (some (vr (some (a, 19, 0))))) M) : Z E YJ2_get (d + 3) M [(0, vr (some (lb, 11, 0))), (1, vi (nI i))] 0 [] Q := by
  obtain ⟨es, h1, h2, h3⟩ := h
  obtain ⟨-, a, h4, h5⟩ := h3 i q hi
  have hl := (List.getElem?_eq_some_iff.mp hi).1
  refine l_getR (xLr_ag h1 ha) (by omega) ?_
  rw [h4]
  exact hQ a h5
theorem xSfs.ok {lb : Nat} {sf : List gSf} (h : xSfs S M0 D lb sf) : ∀ q ∈ sf, sfok q := fun q hq => by
  obtain ⟨i, hi⟩ := List.mem_iff_getElem?.mp hq
  obtain ⟨es, -, -, h3⟩ := h
  exact (h3 i q hi).1
theorem xSfs.lt {lb : Nat} {sf : List gSf} (h : xSfs S M0 D lb sf) : sf.length < 100000 := by
  obtain ⟨es, h1, h2, -⟩ := h
  rw [← h2]; exact h1.2.2.1
theorem xSf_no {a : Nat} {q : gSf} (h : xSf S M0 D a q) (ha : agS S M0 M) : gr M a 2 = none ↔ q.1.isNone = false := by
  obtain ⟨h0, h1⟩ := h
  obtain ⟨q1, q2⟩ := q
  rw [(ha a 2 h0).2]
  cases q1 with
  | some k => exact ⟨fun _ => rfl, fun _ => h1.1⟩
  | none =>
    obtain ⟨lst, h1, -⟩ := h1
    exact ⟨fun z => (by rw [h1] at z; cases z), fun z => (by cases z)⟩
/-- a suffix' key -/
theorem y_key {a : Nat} {k : gEx} {w : List gEx} (hS : ∀ a, S a → 190 ≤ a) (hq : xSf S M0 D a (some k, w)) (ha : agS S M0 M) (h : xCz M e Γ l δ st) (hb : ((k e Γ L st).c.length : Int) + δ < 100000000) (hd : D ≤ d + 1) (hQ : ∀ M', xCz M' e Γ l δ (k e Γ L st) → fr cdP M M' → Q (.inl none) M') : Z E YX25_key (d + 1 + 1) M [(0, vr (some (a, 19, 0))), (1, C29)] 0 [] Q := by
  obtain ⟨h0, -, h2⟩ := hq
  refine sX25_key_0 M a _ ?_
  rw [(ha a 1 h0).2]
  rcases h2 with ⟨e1, rfl⟩ | ⟨p, e1, e2, e3⟩
  · rw [e1, if_pos rfl, (ha a 0 h0).1]
    refine ⟨29, rfl, ?_⟩
    refine y_putn (L := L) h hb rfl rfl (fun M2 v c2 f2 => ?_)
    show Z E YX25_key (d + 1 + 1) M2 [] 29 [vi v] Q
    exact sX25_key_29 M2 _ (hQ M2 c2 f2)
  · rw [e1, if_neg (fun z => by cases z)]
    refine y_sub (L := L) e2 ha h hb hd (fun M2 c2 f2 => ?_)
    show Z E YX25_key (d + 1 + 1) M2 [] 15 [] Q
    exact sX25_key_15 M2 (hQ M2 c2 f2)
/-- isPlainCall -/
theorem y_plain {b lb : Nat} {sf pre r : List gSf} {q : gSf} {p : Bool} (hb : S b) (e1 : gr M0 b 1 = some (lb, 11, 0)) (hF : xSfs S M0 D lb sf) (hr : sf = pre ++ q :: r) (hp : (pre = [] ∧ p = true) ∨ ∃ pre' q0, pre = pre' ++ [q0] ∧ p = q0.1.isNone) (ha : agS S M0 M) (hQ : ∀ v, (v = if q.1.isNone && p then 1 else 0) → Q (.inl (some (vi v))) M) : Z E YX24_isPlainCall (d + 3 + 1) M [(0, vr (some (b, 30, 0))), (1, vi (nI pre.length))] 0 [] Q := by
  have hat := at_app hr
  have hlt := hF.lt
  have hpl := (List.getElem?_eq_some_iff.mp hat).1
  refine sX24_isPlainCall_0 M b _ ⟨lb, (ha b 1 hb).2.trans e1, ?_⟩
  refine y_sf hF ha hat (fun a hq => ?_)
  show Z E YX24_isPlainCall (d + 3 + 1) M [(0, vr (some (b, 30, 0))), (1, vi (nI pre.length))] 8 [vr (some (a, 19, 0))] Q
  refine sX24_isPlainCall_8 M b _ _ ⟨a, rfl, ?_⟩
  cases hn : q.1.isNone with
  | false => rw [if_pos ((xSf_no hq ha).mpr hn)]; exact hQ _ (by rw [hn]; rfl)
  | true =>
    rw [if_neg (fun z => by rw [(xSf_no hq ha).mp z] at hn; cases hn)]
    rw [hn] at hQ
    rcases hp with ⟨rfl, rfl⟩ | ⟨pre', q0, rfl, rfl⟩
    · rw [if_pos (show nI ([] : List gSf).length = 0 from rfl)]; exact hQ _ rfl
    · have hl : (pre' ++ [q0]).length = pre'.length + 1 := List.length_append
      have hat0 : sf[pre'.length]? = some q0 := at_app (r' := q :: r) (by rw [hr]; simp)
      rw [hl] at hpl
      rw [hl, if_neg (show ¬ nI (pre'.length + 1) = 0 by rw [nn_eql (by omega) (by decide)]; simp)]
      refine ⟨lb, (ha b 1 hb).2.trans e1, ?_⟩
      rw [show nI (pre'.length + 1) - 1 = nI pre'.length from by rw [show (1 : Int32) = nI 1 from rfl, nn_sub (by omega)]; rfl]
      refine y_sf hF ha hat0 (fun a0 hq0 => ?_)
      show Z E YX24_isPlainCall (d + 3 + 1) M [] 31 [vr (some (a0, 19, 0))] Q
      refine sX24_isPlainCall_31 M _ ⟨a0, rfl, ?_⟩
      cases hn0 : q0.1.isNone with
      | false => rw [if_pos ((xSf_no hq0 ha).mpr hn0)]; exact hQ _ (by rw [hn0]; rfl)
      | true => rw [if_neg (fun z => by rw [(xSf_no hq0 ha).mp z] at hn0; cases hn0)]; exact hQ _ (by rw [hn0]; rfl)
/-- upTo: the first so many suffixes -/
theorem y_upTo {b lb : Nat} {p1 : zP} {x : gEx} {sf rest : List gSf} (hb : S b) (e0 : gr M0 b 0 = some p1) (e1 : gr M0 b 1 = some (lb, 11, 0)) (h1 : xE S M0 D p1 x) (hx : gok x) (hF : xSfs S M0 D lb (sf ++ rest)) (ha : agS S M0 M) (h : xCz M e Γ l δ st) (hl : (((lfF x sf).1 e Γ L st).c.length : Int) + δ < 100000000) (hd : D ≤ d + 3)
    (hQ : ∀ M', xCz M' e Γ l δ ((lfF x sf).1 e Γ L st) → fr cdP M M' → Q (.inl none) M') : Z E YX24_upTo (d + 4 + 1) M [(0, vr (some (b, 30, 0))), (1, C29), (2, vi (nI sf.length))] 0 [] Q := by
  have hS := h1.1
  have hok := hF.ok
  have hlt := hF.lt
  rw [List.length_append] at hlt
  have hoks : ∀ q ∈ sf, sfok q := fun q hq => hok q (List.mem_append_left _ hq)
  have eqn : (lfF x sf).1 e Γ L st = bod e Γ L (npl true sf) sf (x e Γ (psh (npl true sf) L) (cst e Γ L (npl true sf) st)) := bod_eq e Γ L st sf x none (.inl rfl)
  rw [eqn] at hl hQ
  -- the arguments
  have args : ∀ (as ra prea : List gEx) (a lst i c : Nat) (M1 : zM) (s : gS), as = prea ++ ra → S a → gr M0 a 2 = some (lst, 11, 0) → xEl S M0 D lst as → as.length < 32768 → agS S M0 M1 → xCz M1 e Γ l δ s → ((gArg ra e Γ (psh (c + 1 + prea.length) L) s).c.length : Int) + 1 + δ < 100000000 → (∀ M2 v, xCz M2 e Γ l δ (em e Γ (psh (as.length + c + 1) L) 15 (nI as.length) 0 none (gArg ra e Γ (psh (c + 1 + prea.length) L) s)) → fr cdP M1 M2 → Z E YX24_upTo (d + 4 + 1) M2 [(0, vr (some (b, 30, 0))), (1, C29), (2, vi (nI sf.length)), (3, vi (nI i))] 172 [vi v] Q) → Z E YX24_upTo (d + 4 + 1) M1 [(0, vr (some (b, 30, 0))), (1, C29), (2, vi (nI sf.length)), (3, vi (nI i)), (4, vr (some (a, 19, 0))), (5, vi (nI prea.length))] 121 [] Q := by
    intro as ra
    induction ra with
    | nil =>
      intro prea a lst i c M1 s hr sa ea hl' hn a1 c1 b1 q1
      have hpl : prea.length = as.length := by rw [hr, List.append_nil]
      have b1 : (s.c.length : Int) + 1 + δ < 100000000 := b1
      refine iX24_upTo_121 M1 b _ _ _ a _ ⟨lst, (a1 a 2 sa).2.trans ea, ?_⟩
      rw [y_num hl' a1, if_pos (nI_le (by omega) (by omega))]
      refine ⟨29, rfl, ?_⟩
      exact y_putn (L := psh (as.length + c + 1) L) c1 (by rw [em_len]; omega) rfl (nn_ns2 hn) (fun M2 v c2 f2 => q1 M2 v c2 f2)
    | cons y ra ih =>
      intro prea a lst i c M1 s hr sa ea hl' hn a1 c1 b1 q1
      have hat := at_app hr
      have hpl := (List.getElem?_eq_some_iff.mp hat).1
      have gy : gok y := hl'.gok y (List.mem_of_getElem? hat)
      have gr' : gok (gArg ra) := gok_Arg fun a' h' => hl'.gok a' (by rw [hr]; exact List.mem_append_right _ (List.mem_cons_of_mem _ h'))
      have hs : gArg (y :: ra) e Γ (psh (c + 1 + prea.length) L) s = gArg ra e Γ (psh (c + 1 + (prea.length + 1)) L) (y e Γ (psh (c + 1 + prea.length) L) s) := rfl
      rw [hs] at b1 q1
      have l1 := (gr' e Γ (psh (c + 1 + (prea.length + 1)) L) (y e Γ (psh (c + 1 + prea.length) L) s)).len
      refine iX24_upTo_121 M1 b _ _ _ a _ ⟨lst, (a1 a 2 sa).2.trans ea, ?_⟩
      rw [y_num hl' a1, if_neg (nI_ge hpl (by omega))]
      refine y_elem (d := d + 1) hl' a1 hat (fun p hp => ?_)
      show Z E YX24_upTo (d + 4 + 1) M1 [(0, vr (some (b, 30, 0))), (1, C29), (2, vi (nI sf.length)), (3, vi (nI i)), (4, vr (some (a, 19, 0))), (5, vi (nI prea.length))] 144 [vr (some p)] Q
      refine sX24_upTo_144 M1 b _ _ _ a _ _ ?_
      refine y_subL (L := psh (c + 1 + prea.length) L) hp a1 c1 (by omega) (by omega) (fun M2 c2 f2 => ?_)
      show Z E YX24_upTo (d + 4 + 1) M2 [(0, vr (some (b, 30, 0))), (1, C29), (2, vi (nI sf.length)), (3, vi (nI i)), (4, vr (some (a, 19, 0))), (5, vi (nI prea.length))] 151 [] Q
      refine sX24_upTo_151 M2 b _ _ _ a _ ?_
      have := ih (prea ++ [y]) a lst i c M2 (y e Γ (psh (c + 1 + prea.length) L) s) (by rw [hr]; simp) sa ea hl' hn (a1.tr (f2.agS hS)) c2
      rw [List.length_append] at this
      rw [nI_l1]
      exact this b1 (fun M3 v c3 f3 => q1 M3 v c3 (f2.tr f3))
  -- the second loop
  have loop2 : ∀ (r' pre : List gSf) (c : Nat) (M1 : zM) (s : gS), sf = pre ++ r' → agS S M0 M1 → xCz M1 e Γ l δ s → ((bod e Γ L c r' s).c.length : Int) + δ < 100000000 → (∀ M2, xCz M2 e Γ l δ (bod e Γ L c r' s) → fr cdP M1 M2 → Q (.inl none) M2) → Z E YX24_upTo (d + 4 + 1) M1 [(0, vr (some (b, 30, 0))), (1, C29), (2, vi (nI sf.length)), (3, vi (nI pre.length))] 39 [] Q := by
    intro r'
    induction r' with
    | nil =>
      intro pre c M1 s hr a1 c1 b1 q1
      refine sX24_upTo_39 M1 b _ _ _ ?_
      rw [if_pos (nI_le (by rw [hr, List.append_nil]; exact Nat.le_refl _) (by rw [hr, List.append_nil] at hlt; omega))]
      exact q1 M1 c1 fr.rf
    | cons q r' ih =>
      intro pre c M1 s hr a1 c1 b1 q1
      have hat := at_app hr
      have hpl := (List.getElem?_eq_some_iff.mp hat).1
      have hatF : (sf ++ rest)[pre.length]? = some q := at_app (r' := r' ++ rest) (by rw [hr]; simp)
      have hq := hoks q (List.mem_of_getElem? hat)
      have g2 : gst (fun _ => False) (bdS e Γ L c q (nxC r') s) (bod e Γ L (bdC c q (nxC r')) r' (bdS e Γ L c q (nxC r') s)) := bod_gst r' _ _ (fun q' h' => hoks q' (by rw [hr]; exact List.mem_append_right _ (List.mem_cons_of_mem _ h')))
      have l2 := g2.len
      have hs : bod e Γ L c (q :: r') s = bod e Γ L (bdC c q (nxC r')) r' (bdS e Γ L c q (nxC r') s) := rfl
      rw [hs] at b1 q1
      have nxt : ∀ M2, xCz M2 e Γ l δ (bdS e Γ L c q (nxC r') s) → fr cdP M1 M2 → Z E YX24_upTo (d + 4 + 1) M2 [(0, vr (some (b, 30, 0))), (1, C29), (2, vi (nI sf.length)), (3, vi (nI pre.length + 1))] 39 [] Q := fun M2 c2 f2 => by
        have := ih (pre ++ [q]) (bdC c q (nxC r')) M2 _ (by rw [hr]; simp) (a1.tr (f2.agS hS)) c2 b1 (fun M3 c3 f3 => q1 M3 c3 (f2.tr f3))
        rw [List.length_append] at this
        rw [nI_l1]
        exact this
      refine sX24_upTo_39 M1 b _ _ _ ?_
      rw [if_neg (nI_ge hpl (by omega))]
      refine ⟨lb, (a1 b 1 hb).2.trans e1, ?_⟩
      refine y_sf (d := d + 1) hF a1 hatF (fun a hqa => ?_)
      show Z E YX24_upTo (d + 4 + 1) M1 [(0, vr (some (b, 30, 0))), (1, C29), (2, vi (nI sf.length)), (3, vi (nI pre.length))] 52 [vr (some (a, 19, 0))] Q
      refine sX24_upTo_52 M1 b _ _ _ _ ⟨a, rfl, ?_⟩
      obtain ⟨qk, qa⟩ := q
      cases qk with
      | none =>
        rw [if_neg (fun z => by have := (xSf_no hqa a1).mp z; cases this)]
        obtain ⟨sa, lst, ea, hl', hn⟩ := hqa
        have l3 : (bdS e Γ L c (none, qa) (nxC r') s).c.length = (gArg qa e Γ (psh (c + 1) L) s).c.length + 1 := em_len ..
        exact args qa qa [] a lst pre.length c M1 s rfl sa ea hl' hn a1 c1 (by show ((gArg qa e Γ (psh (c + 1) L) s).c.length : Int) + 1 + δ < _; omega) (fun M2 v c2 f2 => sX24_upTo_172 M2 b _ _ _ _ (nxt M2 c2 f2))
      | some k =>
        rw [if_pos ((xSf_no hqa a1).mpr rfl)]
        have gk : gok k := hq.1 k rfl
        -- without COPY
        have plain : nxC r' = false → Z E YX25_key (d + 4) M1 (zargs 0 [vr (some (a, 19, 0)), C29]) 0 [] (zafter E YX24_upTo (d + 4 + 1) [(0, vr (some (b, 30, 0))), (1, C29), (2, vi (nI sf.length)), (3, vi (nI pre.length))] 103 3 [] Q) := fun hx => by
          have l3 : (bdS e Γ L c (some k, qa) (nxC r') s).c.length = (k e Γ (psh (c + 1) L) s).c.length + 1 := by rw [hx]; exact em_len ..
          refine y_key (d := d + 2) (L := psh (c + 1) L) hS hqa a1 c1 (by omega) (by omega) (fun M2 c2 f2 => ?_)
          show Z E YX24_upTo (d + 4 + 1) M2 [(0, vr (some (b, 30, 0))), (1, C29), (2, vi (nI sf.length)), (3, vi (nI pre.length))] 106 [] Q
          refine sX24_upTo_106 M2 b _ _ _ ⟨29, rfl, ?_⟩
          refine y_putn (L := psh (c + 2) L) c2 (by rw [em_len]; omega) rfl rfl (fun M3 v c3 f3 => ?_)
          show Z E YX24_upTo (d + 4 + 1) M3 [(0, vr (some (b, 30, 0))), (1, C29), (2, vi (nI sf.length)), (3, vi (nI pre.length))] 114 [vi v] Q
          refine sX24_upTo_114 M3 b 29 _ _ _ (nxt M3 ?_ (f2.tr f3))
          rw [hx]; exact c3
        rw [nI_l1]
        cases r' with
        | nil =>
          rw [if_pos (nI_le (by rw [hr, List.length_append]; exact Nat.le_refl _) (by omega))]
          exact plain rfl
        | cons q2 r2 =>
          have hat2 : (sf ++ rest)[pre.length + 1]? = some q2 := by
            rw [show pre.length + 1 = (pre ++ [(some k, qa)]).length by rw [List.length_append]; rfl]
            exact at_app (r' := r2 ++ rest) (by rw [hr]; simp)
          have hpl2 : pre.length + 1 < sf.length := by rw [hr, List.length_append, List.length_cons, List.length_cons]; omega
          rw [if_neg (nI_ge hpl2 (by omega))]
          refine ⟨lb, (a1 b 1 hb).2.trans e1, ?_⟩
          refine y_sf (d := d + 1) hF a1 hat2 (fun a2 hq2 => ?_)
          show Z E YX24_upTo (d + 4 + 1) M1 [(0, vr (some (b, 30, 0))), (1, C29), (2, vi (nI sf.length)), (3, vi (nI pre.length)), (4, vr (some (a, 19, 0)))] 82 [vr (some (a2, 19, 0))] Q
          refine sX24_upTo_82 M1 b _ _ _ a _ ⟨a2, rfl, ?_⟩
          cases hn : q2.1.isNone with
          | false =>
            rw [if_pos ((xSf_no hq2 a1).mpr hn)]
            exact plain hn
          | true =>
            have hx : nxC (q2 :: r2) = true := hn
            rw [if_neg (fun z => by have := (xSf_no hq2 a1).mp z; rw [hn] at this; cases this)]
            have l3 : (bdS e Γ L c (some k, qa) (nxC (q2 :: r2)) s).c.length = (k e Γ (psh (c + 2) L) (em e Γ (psh (c + 1) L) 18 0 0 none s)).c.length + 1 := by rw [hx]; exact em_len ..
            have l4 := (gk e Γ (psh (c + 2) L) (em e Γ (psh (c + 1) L) 18 0 0 none s)).len
            refine ⟨29, rfl, ?_⟩
            refine y_putn (L := psh (c + 1) L) c1 (by omega) rfl rfl (fun M2 v c2 f2 => ?_)
            show Z E YX24_upTo (d + 4 + 1) M2 [(0, vr (some (b, 30, 0))), (1, C29), (2, vi (nI sf.length)), (3, vi (nI pre.length)), (4, vr (some (a, 19, 0)))] 99 [vi v] Q
            refine sX24_upTo_99 M2 b 29 _ _ a _ ?_
            refine y_key (d := d + 2) (L := psh (c + 2) L) hS hqa (a1.tr (f2.agS hS)) c2 (by omega) (by omega) (fun M3 c3 f3 => ?_)
            show Z E YX24_upTo (d + 4 + 1) M3 [(0, vr (some (b, 30, 0))), (1, C29), (2, vi (nI sf.length)), (3, vi (nI pre.length))] 106 [] Q
            refine sX24_upTo_106 M3 b _ _ _ ⟨29, rfl, ?_⟩
            refine y_putn (L := psh (c + 3) L) c3 (by rw [em_len]; omega) rfl rfl (fun M4 v4 c4 f4 => ?_)
            show Z E YX24_upTo (d + 4 + 1) M4 [(0, vr (some (b, 30, 0))), (1, C29), (2, vi (nI sf.length)), (3, vi (nI pre.length))] 114 [vi v4] Q
            refine sX24_upTo_114 M4 b 29 _ _ _ (nxt M4 ?_ ((f2.tr f3).tr f4))
            rw [hx]; exact c4
  -- the first loop
  have lC := cst_len e Γ L (npl true sf) st
  have lx := (hx e Γ (psh (npl true sf) L) (cst e Γ L (npl true sf) st)).len
  have lb' := (bod_gst (e := e) (Γ := Γ) (L := L) sf (npl true sf) (x e Γ (psh (npl true sf) L) (cst e Γ L (npl true sf) st)) hoks).len
  have loop1 : ∀ (r' pre : List gSf) (c : Nat) (p : Bool) (M1 : zM), sf = pre ++ r' → ((pre = [] ∧ p = true) ∨ ∃ pre' q0, pre = pre' ++ [q0] ∧ p = q0.1.isNone) → c + npl p r' = npl true sf → agS S M0 M1 → xCz M1 e Γ l δ (cst e Γ L c st) → fr cdP M M1 → Z E YX24_upTo (d + 4 + 1) M1 [(0, vr (some (b, 30, 0))), (1, C29), (2, vi (nI sf.length)), (3, vi (nI pre.length))] 2 [] Q := by
    intro r'
    induction r' with
    | nil =>
      intro pre c p M1 hr hp hc a1 c1 f1
      have hc : c = npl true sf := hc
      refine sX24_upTo_2 M1 b _ _ _ ?_
      rw [if_pos (nI_le (by rw [hr, List.append_nil]; exact Nat.le_refl _) (by rw [hr, List.append_nil] at hlt; omega)), (a1 b 0 hb).2, e0]
      rw [hc] at c1
      refine y_sub (L := psh (npl true sf) L) h1 a1 c1 (by omega) (by omega) (fun M2 c2 f2 => ?_)
      show Z E YX24_upTo (d + 4 + 1) M2 [(0, vr (some (b, 30, 0))), (1, C29), (2, vi (nI sf.length))] 37 [] Q
      refine sX24_upTo_37 M2 b _ _ ?_
      exact loop2 sf [] (npl true sf) M2 _ rfl (a1.tr (f2.agS hS)) c2 hl (fun M3 c3 f3 => hQ M3 c3 ((f1.tr f2).tr f3))
    | cons q r' ih =>
      intro pre c p M1 hr hp hc a1 c1 f1
      have hat := at_app hr
      have hpl := (List.getElem?_eq_some_iff.mp hat).1
      have hc : c + ((if q.1.isNone && p then 1 else 0) + npl q.1.isNone r') = npl true sf := hc
      refine sX24_upTo_2 M1 b _ _ _ ?_
      rw [if_neg (nI_ge hpl (by omega))]
      refine y_plain (d := d) (q := q) (pre := pre) hb e1 hF (r := r' ++ rest) (by rw [hr]; simp) hp a1 (fun v hv => ?_)
      show Z E YX24_upTo (d + 4 + 1) M1 [(0, vr (some (b, 30, 0))), (1, C29), (2, vi (nI sf.length)), (3, vi (nI pre.length))] 12 [vi v] Q
      refine sX24_upTo_12 M1 b _ _ _ _ ?_
      have nx := fun c' M2 => ih (pre ++ [q]) c' q.1.isNone M2 (by rw [hr]; simp) (.inr ⟨pre, q, rfl, rfl⟩)
      rw [List.length_append] at nx
      cases hw : (q.1.isNone && p) with
      | false =>
        rw [hw] at hc hv
        rw [hv, if_pos (show (if false = true then (1 : Int32) else 0) = 0 from rfl), nI_l1]
        exact nx c M1 (by simp at hc; omega) a1 c1 f1
      | true =>
        rw [hw] at hc hv
        rw [hv, if_neg (show ¬ (if true = true then (1 : Int32) else 0) = 0 by decide)]
        refine ⟨29, rfl, ?_⟩
        have lc := cst_len e Γ L c st
        refine y_putn (L := psh c L) c1 (by rw [em_len]; simp at hc; omega) rfl rfl (fun M2 v2 c2 f2 => ?_)
        show Z E YX24_upTo (d + 4 + 1) M2 [(0, vr (some (b, 30, 0))), (1, C29), (2, vi (nI sf.length)), (3, vi (nI pre.length))] 22 [vi v2] Q
        refine sX24_upTo_22 M2 b 29 _ _ _ ?_
        rw [nI_l1]
        exact nx (c + 1) M2 (by simp at hc; omega) (a1.tr (f2.agS hS)) c2 (f1.tr f2)
  refine sX24_upTo_0 M b _ _ ?_
  exact loop1 sf [] 0 true M rfl (.inl ⟨rfl, rfl⟩) (Nat.zero_add _) ha h fr.rf
end
