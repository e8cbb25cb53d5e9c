/-! what coding keeps: marks, prefixes -/
/-- instructions' marks are there -/
def wfS (s : gS) : Prop := (∀ q ∈ s.c, ∀ m, q.2.1 = some m → m < s.m) ∧ ∀ m, s.m ≤ m → s.at m = none
/-- from s on: new instructions go to new marks (or to those that P names), old marks stay where they are -/
def gst (P : Nat → Prop) (s s' : gS) : Prop := (∃ n, s'.c = s.c ++ n ∧ ∀ q ∈ n, ∀ m, q.2.1 = some m → P m ∨ s.m ≤ m ∧ m < s'.m) ∧ s.m ≤ s'.m ∧ (∀ m, m < s.m → s'.at m = s.at m) ∧ s.si ≤ s'.si ∧ s'.lev = s.lev ∧ s.mx ≤ s'.mx ∧ ∀ m, s'.m ≤ m → s.at m = none → s'.at m = none
theorem gst.rf {P : Nat → Prop} (s : gS) : gst P s s := ⟨⟨[], by rw [List.append_nil], fun q hq => by cases hq⟩, Nat.le_refl _, fun _ _ => rfl, Nat.le_refl _, rfl, Nat.le_refl _, fun _ _ z => z⟩
theorem gst.tr {P : Nat → Prop} {s s' s'' : gS} (h : gst P s s') (h' : gst P s' s'') : gst P s s'' := by
  obtain ⟨⟨n, a1, a2⟩, a3, a4, a5, a6, a7, a8⟩ := h
  obtain ⟨⟨n', b1, b2⟩, b3, b4, b5, b6, b7, b8⟩ := h'
  refine ⟨⟨n ++ n', by rw [b1, a1, List.append_assoc], fun q hq m hm => ?_⟩, Nat.le_trans a3 b3, fun m hm => (b4 m (by omega)).trans (a4 m hm), Nat.le_trans a5 b5, b6.trans a6, Nat.le_trans a7 b7, fun m hm z => b8 m hm (a8 m (Nat.le_trans b3 hm) z)⟩
  rcases List.mem_append.mp hq with z | z
  · rcases a2 q z m hm with y | y
    · exact .inl y
    · exact .inr ⟨y.1, by omega⟩
  · rcases b2 q z m hm with y | y
    · exact .inl y
    · exact .inr ⟨by omega, y.2⟩
theorem gst.mono {P P' : Nat → Prop} {s s' : gS} (h : gst P s s') (hp : ∀ m, P m → P' m) : gst P' s s' := by
  obtain ⟨⟨n, a1, a2⟩, a3⟩ := h
  exact ⟨⟨n, a1, fun q hq m hm => (a2 q hq m hm).imp (hp m) id⟩, a3⟩
/-- marks that came since are new -/
theorem gst.fin {P P' : Nat → Prop} {s s' : gS} (h : gst P' s s') (hp : ∀ m, P' m → P m ∨ s.m ≤ m ∧ m < s'.m) : gst P s s' := by
  obtain ⟨⟨n, a1, a2⟩, a3⟩ := h
  refine ⟨⟨n, a1, fun q hq m hm => ?_⟩, a3⟩
  rcases a2 q hq m hm with y | y
  · exact hp m y
  · exact .inr y
/-- in one step: new marks from s on are below n -/
theorem gst.fin2 {P P' : Nat → Prop} {s s' : gS} {n : Nat} (h : gst P' s s') (hn : n ≤ s'.m) (hp : ∀ m, P' m → P m ∨ s.m ≤ m ∧ m < n) : gst P s s' := h.fin fun m hm => (hp m hm).imp id fun z => ⟨z.1, by omega⟩
theorem gst.len {P : Nat → Prop} {s s' : gS} (h : gst P s s') : s.c.length ≤ s'.c.length := by
  obtain ⟨⟨n, a1, -⟩, -⟩ := h
  rw [a1, List.length_append]; omega
theorem gst.wf {P : Nat → Prop} {s s' : gS} (h : gst P s s') (hw : wfS s) (hp : ∀ m, P m → m < s.m) : wfS s' := by
  obtain ⟨⟨n, a1, a2⟩, a3, a4, a5, a6, a7, a8⟩ := h
  refine ⟨fun q hq m hm => ?_, fun m hm => a8 m hm (hw.2 m (Nat.le_trans a3 hm))⟩
  rw [a1] at hq
  rcases List.mem_append.mp hq with z | z
  · have := hw.1 q z m hm; omega
  · rcases a2 q z m hm with y | y
    · have := hp m y; omega
    · exact y.2
theorem gst.get {P : Nat → Prop} {s s' : gS} (h : gst P s s') {k : Nat} {q : gI} (hk : s.c[k]? = some q) : s'.c[k]? = some q := by
  obtain ⟨⟨n, a1, -⟩, -⟩ := h
  rw [a1, List.getElem?_append_left (List.getElem?_eq_some_iff.mp hk).1]; exact hk
theorem gst_em {P : Nat → Prop} (e : gN) (Γ : gK) (L : List Bool) (op a b : Int32) (s : gS) : gst P s (em e Γ L op a b none s) := ⟨⟨[_], rfl, fun q hq m hm => by rw [List.mem_singleton.mp hq] at hm; cases hm⟩, Nat.le_refl _, fun _ _ => rfl, Nat.le_refl _, rfl, Nat.le_refl _, fun _ _ z => z⟩
theorem gst_emm {P : Nat → Prop} (e : gN) (Γ : gK) (L : List Bool) (op a b : Int32) {m : Nat} (s : gS) (hm : P m) : gst P s (em e Γ L op a b (some m) s) := ⟨⟨[_], rfl, fun q hq m' hm' => by rw [List.mem_singleton.mp hq] at hm'; cases hm'; exact .inl hm⟩, Nat.le_refl _, fun _ _ => rfl, Nat.le_refl _, rfl, Nat.le_refl _, fun _ _ z => z⟩
theorem gst_mkm {P : Nat → Prop} (s : gS) : gst P s (mkm s) := ⟨⟨[], by rw [List.append_nil]; rfl, fun q hq => by cases hq⟩, Nat.le_succ _, fun _ _ => rfl, Nat.le_refl _, rfl, Nat.le_refl _, fun _ _ z => z⟩
theorem gst_sit {P : Nat → Prop} (s : gS) : gst P s (sit s) := ⟨⟨[], by rw [List.append_nil]; rfl, fun q hq => by cases hq⟩, Nat.le_refl _, fun _ _ => rfl, Nat.le_succ _, rfl, Nat.le_refl _, fun _ _ z => z⟩
/-- a mark that came since s is placed -/
theorem gst_hre {P : Nat → Prop} {s s' : gS} {m : Nat} (h : gst P s s') (hm : s.m ≤ m) (hm2 : m < s'.m) : gst P s (hre m s') := by
  obtain ⟨a1, a3, a4, a5, a6, a7, a8⟩ := h
  exact ⟨a1, a3, fun k hk => (show (if k = m then _ else s'.at k) = _ by rw [if_neg (by omega)]; exact a4 k hk), a5, a6, a7, fun k hk z => (show (if k = m then _ else s'.at k) = _ by have : s'.m ≤ k := hk; rw [if_neg (by omega)]; exact a8 k hk z)⟩
theorem gst_hrp {P : Nat → Prop} {s s' : gS} {m p : Nat} (h : gst P s s') (hm : s.m ≤ m) (hm2 : m < s'.m) : gst P s (hrp m p s') := by
  obtain ⟨a1, a3, a4, a5, a6, a7, a8⟩ := h
  exact ⟨a1, a3, fun k hk => (show (if k = m then _ else s'.at k) = _ by rw [if_neg (by omega)]; exact a4 k hk), a5, a6, a7, fun k hk z => (show (if k = m then _ else s'.at k) = _ by have : s'.m ≤ k := hk; rw [if_neg (by omega)]; exact a8 k hk z)⟩
/-- with new marks below n -/
def gsn (n : Nat) (P : Nat → Prop) (s s' : gS) : Prop := gst P s s' ∧ n ≤ s'.m
theorem gsn.tr {n : Nat} {P : Nat → Prop} {s s' s'' : gS} (h : gsn n P s s') (h' : gst P s' s'') : gsn n P s s'' := ⟨h.1.tr h', Nat.le_trans h.2 h'.2.1⟩
theorem gsn_hre {n : Nat} {P : Nat → Prop} {s s' : gS} {m : Nat} (h : gsn n P s s') (hm : s.m ≤ m) (hn : m < n) : gsn n P s (hre m s') := ⟨gst_hre h.1 hm (Nat.lt_of_lt_of_le hn h.2), h.2⟩
theorem gsn_hrp {n : Nat} {P : Nat → Prop} {s s' : gS} {m p : Nat} (h : gsn n P s s') (hm : s.m ≤ m) (hn : m < n) : gsn n P s (hrp m p s') := ⟨gst_hrp h.1 hm (Nat.lt_of_lt_of_le hn h.2), h.2⟩
theorem gsn.fin {n : Nat} {P P' : Nat → Prop} {s s' : gS} (h : gsn n P' s s') (hp : ∀ m, P' m → P m ∨ s.m ≤ m ∧ m < n) : gst P s s' := h.1.fin2 h.2 hp
theorem gsn_2 {P : Nat → Prop} (s : gS) : gsn (s.m + 2) P s (mkm (mkm s)) := ⟨(gst_mkm s).tr (gst_mkm _), Nat.le_refl _⟩
theorem gsn_3 {P : Nat → Prop} (s : gS) : gsn (s.m + 3) P s (mkm (mkm (mkm s))) := ⟨((gst_mkm s).tr (gst_mkm _)).tr (gst_mkm _), Nat.le_refl _⟩
/-- an expression's code keeps -/
def gok (g : gEx) : Prop := ∀ e Γ L s, gst (fun _ => False) s (g e Γ L s)
theorem gok_Co (s v : Int32) : gok (gCo s v) := fun e Γ L s => gst_em ..
theorem gok_Th : gok gTh := fun e Γ L s => gst_em ..
theorem gok_Get (x : Nat) : gok (gGet x) := fun e Γ L s => by unfold gGet; split <;> exact gst_em ..
theorem gok_Set (x : Nat) : gok (gSet x) := fun e Γ L s => by unfold gSet; split <;> exact gst_em ..
theorem gok_Md (f : Nat) : gok (gMd f) := fun e Γ L s => gst_em ..
theorem gok_Mem {o k : gEx} (ho : gok o) (hk : gok k) : gok (gMem o k) := fun e Γ L s => ((ho ..).tr (hk ..)).tr (gst_em ..)
theorem gok_Arg : ∀ {as : List gEx}, (∀ a ∈ as, gok a) → gok (gArg as)
  | [], _ => fun e Γ L s => gst.rf s
  | a :: as, h => fun e Γ L s => (h a List.mem_cons_self ..).tr (gok_Arg (fun b hb => h b (List.mem_cons_of_mem _ hb)) ..)
theorem gok_Call {f : gEx} {as : List gEx} (hf : gok f) (ha : ∀ a ∈ as, gok a) : gok (gCall f as) := fun e Γ L s => (((gst_em ..).tr (hf ..)).tr (gok_Arg ha ..)).tr (gst_em ..)
theorem gok_CallM {o k : gEx} {as : List gEx} (ho : gok o) (hk : gok k) (ha : ∀ a ∈ as, gok a) : gok (gCallM o k as) := fun e Γ L s => (((((ho ..).tr (gst_em ..)).tr (hk ..)).tr (gst_em ..)).tr (gok_Arg ha ..)).tr (gst_em ..)
theorem gok_New {f : gEx} {as : List gEx} (hf : gok f) (ha : ∀ a ∈ as, gok a) : gok (gNew f as) := fun e Γ L s => (((hf ..).tr (gok_Arg ha ..)).tr (gst_em ..)).tr (gst_sit _)
theorem gok_Its : ∀ {r : List (Int32 × Int32 × gEx)}, (∀ q ∈ r, gok q.2.2) → gok (gIts r)
  | [], _ => fun e Γ L s => gst.rf s
  | (s1, v, x) :: r, h => fun e Γ L s => (((((gst_em ..).tr (gst_em ..)).tr (h _ List.mem_cons_self ..)).tr (gst_em ..)).tr (gst_em ..)).tr (gok_Its (fun b hb => h b (List.mem_cons_of_mem _ hb)) ..)
theorem gok_Itm {op : Int32} {r : List (Int32 × Int32 × gEx)} (h : ∀ q ∈ r, gok q.2.2) : gok (gItm op r) := fun e Γ L s => ((gst_em ..).tr (gst_sit _)).tr (gok_Its h ..)
theorem gok_Un {h : Int32} {x : gEx} (hx : gok x) : gok (gUn h x) := fun e Γ L s => (hx ..).tr (gst_em ..)
theorem gok_Void {x : gEx} (hx : gok x) : gok (gVoid x) := fun e Γ L s => ((hx ..).tr (gst_em ..)).tr (gst_em ..)
theorem gok_Del {o k : gEx} (ho : gok o) (hk : gok k) : gok (gDel o k) := fun e Γ L s => ((ho ..).tr (hk ..)).tr (gst_em ..)
theorem gok_Typ (x : Nat) : gok (gTyp x) := fun e Γ L s => by
  unfold gTyp
  split
  · exact (gst_em ..).tr (gst_em ..)
  · exact gst_em ..
theorem gok_Bin {h : Int32} {x y : gEx} (hx : gok x) (hy : gok y) : gok (gBin h x y) := fun e Γ L s => ((hx ..).tr (hy ..)).tr (gst_em ..)
theorem gok_And {op : Int32} {x y : gEx} (hx : gok x) (hy : gok y) : gok (gAnd op x y) := fun e Γ L s => by
  have a : gsn ((x e Γ L s).m + 1) (fun m => m = (x e Γ L s).m) s (mkm (x e Γ L s)) := ⟨((hx e Γ L s).mono fun _ z => z.elim).tr (gst_mkm _), Nat.le_refl _⟩
  exact (gsn_hre ((a.tr (gst_emm e Γ (psh 1 L) op 0 0 (m := (x e Γ L s).m) _ rfl)).tr ((hy e Γ L _).mono fun _ z => z.elim)) (hx e Γ L s).2.1 (Nat.lt_succ_self _)).fin fun m hm => .inr ⟨by rw [hm]; exact (hx e Γ L s).2.1, by omega⟩
theorem gok_Choice {x y z : gEx} (hx : gok x) (hy : gok y) (hz : gok z) : gok (gChoice x y z) := fun e Γ L s => by
  have a := (gsn_2 (P := fun m => m = s.m ∨ m = s.m + 1) s).tr ((hx e Γ L _).mono fun _ z => z.elim)
  have b := gsn_hre (((a.tr (gst_emm e Γ (psh 1 L) 22 0 0 (m := s.m) _ (.inl rfl))).tr ((hy e Γ L _).mono fun _ z => z.elim)).tr (gst_emm e Γ (psh 1 L) 21 0 0 (m := s.m + 1) _ (.inr rfl))) (Nat.le_refl _) (by omega)
  exact (gsn_hre (b.tr ((hz e Γ L _).mono fun _ z => z.elim)) (Nat.le_succ _) (by omega)).fin fun m hm => .inr (by omega)
theorem gok_Com {x y : gEx} (hx : gok x) (hy : gok y) : gok (gCom x y) := fun e Γ L s => ((hx ..).tr (gst_em ..)).tr (hy ..)
theorem gok_GvN {h : Option Int32} {x : Nat} {v : gEx} (hv : gok v) : gok (gGvN h x v) := fun e Γ L s => by
  cases h with
  | none => exact (hv ..).tr (gok_Set x ..)
  | some h => exact (((gok_Get x ..).tr (hv ..)).tr (gst_em ..)).tr (gok_Set x ..)
theorem gok_GvM {h : Option Int32} {o k v : gEx} (ho : gok o) (hk : gok k) (hv : gok v) : gok (gGvM h o k v) := fun e Γ L s => by
  cases h with
  | none => exact (((ho ..).tr (hk ..)).tr (hv ..)).tr (gst_em ..)
  | some h => exact ((((((ho ..).tr (hk ..)).tr (gst_em ..)).tr (gst_em ..)).tr (hv ..)).tr (gst_em ..)).tr (gst_em ..)
theorem gok_BfN (h : Int32) (x : Nat) : gok (gBfN h x) := fun e Γ L s => ((((gok_Get x ..).tr (gst_em ..)).tr (gst_em ..)).tr (gst_em ..)).tr (gok_Set x ..)
theorem gok_BfM {h : Int32} {o k : gEx} (ho : gok o) (hk : gok k) : gok (gBfM h o k) := fun e Γ L s => (((((((ho ..).tr (hk ..)).tr (gst_em ..)).tr (gst_em ..)).tr (gst_em ..)).tr (gst_em ..)).tr (gst_em ..)).tr (gst_em ..)
theorem gok_BhN (h : Int32) (x : Nat) : gok (gBhN h x) := fun e Γ L s => ((((((gok_Get x ..).tr (gst_em ..)).tr (gst_em ..)).tr (gst_em ..)).tr (gst_em ..)).tr (gok_Set x ..)).tr (gst_em ..)
theorem gok_BhM {h : Int32} {o k : gEx} (ho : gok o) (hk : gok k) : gok (gBhM h o k) := fun e Γ L s => (((((((((ho ..).tr (hk ..)).tr (gst_em ..)).tr (gst_em ..)).tr (gst_em ..)).tr (gst_em ..)).tr (gst_em ..)).tr (gst_em ..)).tr (gst_em ..)).tr (gst_em ..)
/-! statements -/
/-- the marks of what is around -/
def wmk (w : gW) (m : Nat) : Prop := (w.1 = 0 ∨ w.1 = 4) ∧ (m = w.2.2.2.1 ∨ m = w.2.2.2.2.1) ∨ w.1 = 1 ∧ m = w.2.2.2.1
def mkP (Γ : gK) (m : Nat) : Prop := ∃ w ∈ Γ, wmk w m
theorem mkP_tl {w : gW} {Γ : gK} {m : Nat} (h : mkP Γ m) : mkP (w :: Γ) m := by
  obtain ⟨v, h1, h2⟩ := h
  exact ⟨v, List.mem_cons_of_mem _ h1, h2⟩
theorem mkP_cons {w : gW} {Γ : gK} {m : Nat} (h : mkP (w :: Γ) m) : wmk w m ∨ mkP Γ m := by
  obtain ⟨v, h1, h2⟩ := h
  rcases List.mem_cons.mp h1 with e | e
  · rw [e] at h2; exact .inl h2
  · exact .inr ⟨v, e, h2⟩
theorem wmk_lp {o n m : Nat} (h : wmk (lpW o n) m) : m = o ∨ m = n := h.elim (fun z => z.2) (fun z => absurd z.1 (show ¬ 0 = 1 by decide))
theorem wmk_ea {o n m : Nat} (h : wmk (eaW o n) m) : m = o ∨ m = n := h.elim (fun z => z.2) (fun z => absurd z.1 (show ¬ 4 = 1 by decide))
theorem wmk_sw {o m : Nat} (h : wmk (swW o) m) : m = o := h.elim (fun z => absurd z.1 (show ¬ (1 = 0 ∨ 1 = 4) by decide)) (fun z => z.2)
theorem wmk_va {X : List Bool} {m : Nat} (h : wmk (vaW X) m) : False := h.elim (fun z => absurd z.1 (show ¬ (3 = 0 ∨ 3 = 4) by decide)) (fun z => absurd z.1 (show ¬ 3 = 1 by decide))
theorem wmk_tr {k h m : Nat} {f : Option (List Bool → gS → gS)} (q : wmk (trW k h f) m) : False := q.elim (fun z => absurd z.1 (show ¬ (2 = 0 ∨ 2 = 4) by decide)) (fun z => absurd z.1 (show ¬ 2 = 1 by decide))
/-- finally's codes keep, too -/
def kgo : gK → Prop
  | [] => True
  | w :: Γ => kgo Γ ∧ ∀ φ, w.2.2.2.2.2 = some φ → ∀ X s, gst (mkP Γ) s (φ X s)
def gokT (g : gSt) : Prop := ∀ e Γ s, kgo Γ → gst (mkP Γ) s (g e Γ s)
theorem gok.st {g : gEx} (h : gok g) {P : Nat → Prop} (e : gN) (Γ : gK) (L : List Bool) (s : gS) : gst P s (g e Γ L s) := (h e Γ L s).mono fun _ z => z.elim
theorem gst_Lv {P : Nat → Prop} {φ : List Bool → gS → gS} (h : ∀ X s, gst P s (φ X s)) (X : List Bool) (s : gS) : gst P s (gLv φ X s) := by
  obtain ⟨a1, a3, a4, a5, a6, a7, a8⟩ := h X (s.1, s.2.1, s.2.2.1, s.2.2.2.1, s.lev + 1, max s.mx (s.lev + 1))
  exact ⟨a1, a3, a4, a5, rfl, Nat.le_trans (Nat.le_max_left _ _) a7, a8⟩
theorem gokT_No : gokT gNo := fun _ _ s _ => gst.rf s
theorem gokT_Sq {x y : gSt} (hx : gokT x) (hy : gokT y) : gokT (gSq x y) := fun e Γ s h => (hx e Γ s h).tr (hy e Γ _ h)
theorem gokT_Pl {x : gEx} (hx : gok x) : gokT (gPl x) := fun e Γ s _ => (hx.st ..).tr (gst_em ..)
theorem gokT_To {x : gEx} (hx : gok x) : gokT (gTo x) := fun e Γ s _ => (hx.st ..).tr (gst_em ..)
theorem kgo_w {w : gW} {Γ : gK} (h : kgo Γ) (hw : w.2.2.2.2.2 = none) : kgo (w :: Γ) := ⟨h, fun φ e => by rw [hw] at e; cases e⟩
theorem gokT_If {x : gEx} {y : gSt} (hx : gok x) (hy : gokT y) : gokT (gIf x y) := fun e Γ s hk => by
  have a := (gsn_2 (P := fun m => m = s.m ∨ mkP Γ m) s).tr (hx.st e Γ (skk Γ) _)
  have b := (a.tr (gst_emm e Γ (psh 1 (skk Γ)) 22 0 0 (m := s.m) _ (.inl rfl))).tr ((hy e Γ _ hk).mono fun _ z => .inr z)
  exact (gsn_hre (gsn_hre b (Nat.le_refl _) (by omega)) (Nat.le_succ _) (by omega)).fin fun m hm => hm.elim (fun z => .inr (by omega)) .inl
theorem gokT_IfE {x : gEx} {y z : gSt} (hx : gok x) (hy : gokT y) (hz : gokT z) : gokT (gIfE x y z) := fun e Γ s hk => by
  have a := (gsn_2 (P := fun m => (m = s.m ∨ m = s.m + 1) ∨ mkP Γ m) s).tr (hx.st e Γ (skk Γ) _)
  have b := gsn_hre (((a.tr (gst_emm e Γ (psh 1 (skk Γ)) 22 0 0 (m := s.m) _ (.inl (.inl rfl)))).tr ((hy e Γ _ hk).mono fun _ z => .inr z)).tr (gst_emm e Γ (skk Γ) 21 0 0 (m := s.m + 1) _ (.inl (.inr rfl)))) (Nat.le_refl _) (by omega)
  exact (gsn_hre (b.tr ((hz e Γ _ hk).mono fun _ z => .inr z)) (Nat.le_succ _) (by omega)).fin fun m hm => hm.elim (fun z => .inr (by omega)) .inl
theorem gokT_Wh {x : gEx} {y : gSt} (hx : gok x) (hy : gokT y) : gokT (gWh x y) := fun e Γ s hk => by
  have a := (gsn_2 (P := fun m => (m = s.m ∨ m = s.m + 1) ∨ mkP Γ m) s).tr (hx.st e Γ (skk Γ) _)
  have b := gsn_hrp (p := s.c.length) ((a.tr (gst_emm e Γ (psh 1 (skk Γ)) 22 0 0 (m := s.m + 1) _ (.inl (.inr rfl)))).tr ((hy e (lpW (s.m + 1) s.m :: Γ) _ (kgo_w hk rfl)).mono fun m z => (mkP_cons z).imp (fun z => (wmk_lp z).symm) id)) (Nat.le_refl s.m) (by omega)
  exact (gsn_hre (b.tr (gst_emm e Γ (skk Γ) 21 0 0 (m := s.m) _ (.inl (.inl rfl)))) (Nat.le_succ s.m) (by omega)).fin fun m hm => hm.elim (fun z => .inr (by omega)) .inl
theorem gokT_Do {x : gEx} {y : gSt} (hx : gok x) (hy : gokT y) : gokT (gDo y x) := fun e Γ s hk => by
  have a := gsn_hre (gsn_3 (P := fun m => (m = s.m ∨ m = s.m + 1 ∨ m = s.m + 2) ∨ mkP Γ m) s) (Nat.le_refl s.m) (by omega)
  have b := gsn_hre (a.tr ((hy e (lpW (s.m + 2) (s.m + 1) :: Γ) _ (kgo_w hk rfl)).mono fun m z => (mkP_cons z).imp (fun z => (wmk_lp z).elim (fun z => .inr (.inr z)) (fun z => .inr (.inl z))) id)) (Nat.le_succ s.m) (by omega)
  exact (gsn_hre (((b.tr (hx.st e Γ (skk Γ) _)).tr (gst_emm e Γ (psh 1 (skk Γ)) 22 0 0 (m := s.m + 2) _ (.inl (.inr (.inr rfl))))).tr (gst_emm e Γ (skk Γ) 21 0 0 (m := s.m) _ (.inl (.inl rfl)))) (show s.m ≤ s.m + 2 by omega) (by omega)).fin fun m hm => hm.elim (fun z => .inr (by omega)) .inl
theorem gokT_For {i z y : gSt} {x : Option gEx} (hi : gokT i) (hx : ∀ g, x = some g → gok g) (hz : gokT z) (hy : gokT y) : gokT (gFor i x z y) := fun e Γ s hk => by
  have a := gsn_hre ((gsn_3 (P := fun m => (m = s.m ∨ m = s.m + 1 ∨ m = s.m + 2) ∨ mkP Γ m) s).tr ((hi e Γ _ hk).mono fun _ z => .inr z)) (Nat.le_refl s.m) (by omega)
  have t : ∀ s1, gst (fun m => (m = s.m ∨ m = s.m + 1 ∨ m = s.m + 2) ∨ mkP Γ m) s1 (gTst e Γ (s.m + 2) x s1) := fun s1 => by
    cases x with
    | none => exact gst.rf s1
    | some g => exact ((hx g rfl).st e Γ (skk Γ) s1).tr (gst_emm e Γ (psh 1 (skk Γ)) 22 0 0 (m := s.m + 2) _ (.inl (.inr (.inr rfl))))
  have c := gsn_hre ((a.tr (t _)).tr ((hy e (lpW (s.m + 2) (s.m + 1) :: Γ) _ (kgo_w hk rfl)).mono fun m z => (mkP_cons z).imp (fun z => (wmk_lp z).elim (fun z => .inr (.inr z)) (fun z => .inr (.inl z))) id)) (Nat.le_succ s.m) (by omega)
  exact (gsn_hre ((c.tr ((hz e Γ _ hk).mono fun _ z => .inr z)).tr (gst_emm e Γ (skk Γ) 21 0 0 (m := s.m) _ (.inl (.inl rfl)))) (show s.m ≤ s.m + 2 by omega) (by omega)).fin fun m hm => hm.elim (fun z => .inr (by omega)) .inl
theorem gokT_Ea {n : Nat} {x : gEx} {y : gSt} (hx : gok x) (hy : gokT y) : gokT (gEa n x y) := fun e Γ s hk => by
  have a := ((gsn_2 (P := fun m => (m = s.m ∨ m = s.m + 1) ∨ mkP Γ m) s).tr (hx.st e Γ (skk Γ) _)).tr (gst_em e Γ (psh 1 (skk Γ)) 29 0 0 _)
  have b := ((a.tr (gst_emm e (eaW (s.m + 1) s.m :: Γ) (true :: skk Γ) 30 0 0 (m := s.m + 1) _ (.inl (.inr rfl)))).tr ((gok_Set n).st e (eaW (s.m + 1) s.m :: Γ) (false :: true :: skk Γ) _)).tr (gst_em e (eaW (s.m + 1) s.m :: Γ) (false :: true :: skk Γ) 17 0 0 _)
  have c := gsn_hrp (p := (em e Γ (psh 1 (skk Γ)) 29 0 0 none (x e Γ (skk Γ) (mkm (mkm s)))).c.length) (b.tr ((hy e (eaW (s.m + 1) s.m :: Γ) _ (kgo_w hk rfl)).mono fun m z => (mkP_cons z).imp (fun z => (wmk_ea z).symm) id)) (Nat.le_refl s.m) (by omega)
  exact (gsn_hre (c.tr (gst_emm e (eaW (s.m + 1) s.m :: Γ) (true :: skk Γ) 21 0 0 (m := s.m) _ (.inl (.inl rfl)))) (Nat.le_succ s.m) (by omega)).fin fun m hm => hm.elim (fun z => .inr (by omega)) .inl
theorem gst_Drops {P : Nat → Prop} (e : gN) (Γ : gK) : ∀ (X L : List Bool) (s : gS), gst P s (gDrops e Γ X L s)
  | [], _, s => gst.rf s
  | b :: X, L, s => (gst_em ..).tr (gst_Drops e Γ X L _)
theorem gst_fin {P : Nat → Prop} {w : gW} {Γ : gK} (hk : kgo (w :: Γ)) (hp : ∀ m, mkP Γ m → P m) (X : List Bool) (s : gS) : gst P s (gFi w.2.2.2.2.2 X s) := by
  cases hf : w.2.2.2.2.2 with
  | none => exact gst.rf s
  | some φ => exact (gst_Lv (hk.2 φ hf) X s).mono hp
theorem gst_Go (out : Bool) (e : gN) : ∀ (Γ : gK) (s : gS), kgo Γ → gst (mkP Γ) s (gGo out e Γ s)
  | [], s, _ => gst.rf s
  | w :: Γ, s, hk => by
    have up : ∀ {s1 s2 : gS}, gst (mkP Γ) s1 s2 → gst (mkP (w :: Γ)) s1 s2 := fun h => h.mono fun _ z => mkP_tl z
    unfold gGo
    by_cases h0 : w.1 = 0
    · rw [if_pos h0]
      refine gst_emm _ _ _ _ _ _ _ ⟨w, List.mem_cons_self, .inl ⟨.inl h0, ?_⟩⟩
      split
      · exact .inl rfl
      · exact .inr rfl
    rw [if_neg h0]
    by_cases h4 : w.1 = 4
    · rw [if_pos h4]
      split
      · exact (gst_em ..).tr (gst_emm _ _ _ _ _ _ _ ⟨w, List.mem_cons_self, .inl ⟨.inr h4, .inl rfl⟩⟩)
      · exact gst_emm _ _ _ _ _ _ _ ⟨w, List.mem_cons_self, .inl ⟨.inr h4, .inr rfl⟩⟩
    rw [if_neg h4]
    by_cases h1 : w.1 = 1 ∧ out = true
    · rw [if_pos h1]; exact gst_emm _ _ _ _ _ _ _ ⟨w, List.mem_cons_self, .inr ⟨h1.1, rfl⟩⟩
    rw [if_neg h1]
    by_cases h3 : w.1 = 3
    · rw [if_pos h3]; exact (gst_Drops ..).tr (up (gst_Go out e Γ _ hk.1))
    rw [if_neg h3]
    by_cases h2 : w.1 = 2
    · rw [if_pos h2]
      exact ((gst_em ..).tr (gst_fin hk (fun _ z => mkP_tl z) [] _)).tr (up (gst_Go out e Γ _ hk.1))
    · rw [if_neg h2]; exact up (gst_Go out e Γ s hk.1)
theorem gst_Ret (e : gN) : ∀ (Γ : gK) (X : List Bool) (s : gS), kgo Γ → gst (mkP Γ) s (gRet e Γ X s)
  | [], X, s, _ => gst_em ..
  | w :: Γ, X, s, hk => by
    have up : ∀ {s1 s2 : gS}, gst (mkP Γ) s1 s2 → gst (mkP (w :: Γ)) s1 s2 := fun h => h.mono fun _ z => mkP_tl z
    unfold gRet
    by_cases h2 : w.1 = 2
    · rw [if_pos h2]
      exact ((gst_em ..).tr (gst_fin hk (fun _ z => mkP_tl z) X _)).tr (up (gst_Ret e Γ X _ hk.1))
    · rw [if_neg h2]; exact up (gst_Ret e Γ _ s hk.1)
theorem gokT_Go (out : Bool) : gokT (fun e Γ st => gGo out e Γ st) := fun e Γ s hk => gst_Go out e Γ s hk
theorem gokT_Bk {x : gEx} (hx : gok x) : gokT (gBk x) := fun e Γ s hk => (hx.st ..).tr (gst_Ret e Γ _ _ hk)
theorem gokT_TrC {y z : gSt} {n : Nat} (hy : gokT y) (hz : gokT z) : gokT (gTrC y n z) := fun e Γ s hk => by
  have a := (gsn_2 (P := fun m => (m = s.m ∨ m = s.m + 1) ∨ mkP Γ m) s).tr (gst_emm e Γ (skk Γ) 27 0 0 (m := s.m) _ (.inl (.inl rfl)))
  have b := (a.tr ((hy e (trW s.c.length s.m none :: Γ) _ (kgo_w hk rfl)).mono fun m z => (mkP_cons z).elim (fun z => (wmk_tr z).elim) .inr)).tr (gst_em e (trW s.c.length s.m none :: Γ) (skk Γ) 28 0 0 _)
  have c := gsn_hre (b.tr (gst_emm e Γ (skk Γ) 21 0 0 (m := s.m + 1) _ (.inl (.inr rfl)))) (Nat.le_refl s.m) (by omega)
  exact (gsn_hre (((c.tr ((gok_Set n).st e Γ (psh 1 (skk Γ)) _)).tr (gst_em e Γ (psh 1 (skk Γ)) 17 0 0 _)).tr ((hz e Γ _ hk).mono fun _ z => .inr z)) (Nat.le_succ s.m) (by omega)).fin fun m hm => hm.elim (fun z => .inr (by omega)) .inl
theorem kgo_va {X : List Bool} {Γ : gK} (h : kgo Γ) : kgo (vaK X Γ) := by
  unfold vaK
  split
  · exact h
  · exact kgo_w h rfl
theorem mkP_va {X : List Bool} {Γ : gK} {m : Nat} (h : mkP (vaK X Γ) m) : mkP Γ m := by
  unfold vaK at h
  split at h
  · exact h
  · exact (mkP_cons h).elim (fun z => (wmk_va z).elim) id
theorem gokT_TrF {y z : gSt} (hy : gokT y) (hz : gokT z) : gokT (gTrF y z) := fun e Γ s hk => by
  have hk' : kgo (trW s.c.length s.m (some (fun X s => z e (vaK X Γ) s)) :: Γ) := ⟨hk, fun φ hφ X s => by
    have : (fun X s => z e (vaK X Γ) s) = φ := Option.some.inj hφ
    rw [← this]
    exact (hz e _ s (kgo_va hk)).mono fun _ z => mkP_va z⟩
  have hw : ∀ m, mkP (trW s.c.length s.m (some (fun X s => z e (vaK X Γ) s)) :: Γ) m → (m = s.m ∨ m = s.m + 1) ∨ mkP Γ m := fun m z => (mkP_cons z).elim (fun z => (wmk_tr z).elim) .inr
  have a := (gsn_2 (P := fun m => (m = s.m ∨ m = s.m + 1) ∨ mkP Γ m) s).tr (gst_emm e Γ (skk Γ) 27 0 0 (m := s.m) _ (.inl (.inl rfl)))
  have b := (a.tr ((hy e _ _ hk').mono hw)).tr (gst_em e (trW s.c.length s.m (some (fun X s => z e (vaK X Γ) s)) :: Γ) (skk Γ) 28 0 0 _)
  have c := gsn_hre ((b.tr ((hz e Γ _ hk).mono fun _ z => .inr z)).tr (gst_emm e Γ (skk Γ) 21 0 0 (m := s.m + 1) _ (.inl (.inr rfl)))) (Nat.le_refl s.m) (by omega)
  exact (gsn_hre ((c.tr ((hz e (vaW [false] :: Γ) _ (kgo_w hk rfl)).mono fun m z => (mkP_cons z).elim (fun z => (wmk_va z).elim) .inr)).tr (gst_em e Γ (psh 1 (skk Γ)) 26 0 0 _)) (Nat.le_succ s.m) (by omega)).fin fun m hm => hm.elim (fun z => .inr (by omega)) .inl
theorem gst_Mks {P : Nat → Prop} : ∀ (n : Nat) (s : gS), gst P s (gMks n s) ∧ (gMks n s).m = s.m + n
  | 0, s => ⟨gst.rf s, rfl⟩
  | n + 1, s => by
    obtain ⟨h1, h2⟩ := gst_Mks (P := P) n (mkm s)
    exact ⟨(gst_mkm s).tr h1, by show (gMks n (mkm s)).m = _; rw [h2]; show s.m + 1 + n = _; omega⟩
theorem gst_CsT {P : Nat → Prop} (e : gN) (Γ : gK) : ∀ (cs : List (Option gEx × gSt)) (m : Nat) (s : gS), (∀ q ∈ cs, ∀ g, q.1 = some g → gok g) → (∀ k, m ≤ k → k < m + cs.length → P k) → gst P s (gCsT e Γ cs m s)
  | [], _, s, _, _ => gst.rf s
  | (none, _) :: r, m, s, h, hp => gst_CsT e Γ r (m + 1) s (fun q hq => h q (List.mem_cons_of_mem _ hq)) (fun k h1 h2 => hp k (by omega) (by rw [List.length_cons]; omega))
  | (some x, y) :: r, m, s, h, hp => by
    have hx := h (some x, y) List.mem_cons_self x rfl
    have a := (((gst_mkm (P := fun k => k = s.m ∨ P k) s).tr (gst_em e Γ (psh 1 (skk Γ)) 18 0 0 _)).tr (hx.st e Γ (psh 2 (skk Γ)) _)).tr (gst_em e Γ (psh 3 (skk Γ)) 14 13 0 _)
    have b := ((a.tr (gst_emm e Γ (psh 2 (skk Γ)) 22 0 0 (m := s.m) _ (.inl rfl))).tr (gst_em e Γ (psh 1 (skk Γ)) 17 0 0 _)).tr (gst_emm e Γ (skk Γ) 21 0 0 (m := m) _ (.inr (hp m (Nat.le_refl _) (by rw [List.length_cons]; omega))))
    have c := (gsn_hre (n := s.m + 1) ⟨b, (hx e Γ (psh 2 (skk Γ)) (em e Γ (psh 1 (skk Γ)) 18 0 0 none (mkm s))).2.1⟩ (Nat.le_refl s.m) (by omega)).fin (P := P) fun k hk => hk.elim (fun z => .inr (by omega)) .inl
    exact c.tr (gst_CsT e Γ r (m + 1) _ (fun q hq => h q (List.mem_cons_of_mem _ hq)) (fun k h1 h2 => hp k (by omega) (by rw [List.length_cons]; omega)))
theorem gsn_CsB {n : Nat} {P : Nat → Prop} {s0 : gS} (e : gN) (Γ : gK) (hk : kgo Γ) (hΓ : ∀ m, mkP Γ m → P m) : ∀ (cs : List (Option gEx × gSt)) (m : Nat) (s : gS), (∀ q ∈ cs, gokT q.2) → s0.m ≤ m → m + cs.length ≤ n → gsn n P s0 s → gsn n P s0 (gCsB e Γ cs m s)
  | [], _, s, _, _, _, h => h
  | (x, y) :: r, m, s, h, hm, hn, h0 => gsn_CsB e Γ hk hΓ r (m + 1) _ (fun q hq => h q (List.mem_cons_of_mem _ hq)) (by omega) (by rw [List.length_cons] at hn; omega) ((gsn_hre h0 hm (by rw [List.length_cons] at hn; omega)).tr ((h (x, y) List.mem_cons_self e Γ _ hk).mono hΓ))
theorem gDef_in : ∀ (cs : List (Option gEx × gSt)) (m d : Nat), gDef cs m d = d ∨ m ≤ gDef cs m d ∧ gDef cs m d < m + cs.length
  | [], _, _ => .inl rfl
  | (none, _) :: r, m, d => by
    rw [List.length_cons]
    show gDef r (m + 1) m = d ∨ _ ≤ gDef r (m + 1) m ∧ gDef r (m + 1) m < _
    rcases gDef_in r (m + 1) m with h | h
    · exact .inr (by omega)
    · exact .inr (by omega)
  | (some _, _) :: r, m, d => by
    rw [List.length_cons]
    show gDef r (m + 1) d = d ∨ _ ≤ gDef r (m + 1) d ∧ gDef r (m + 1) d < _
    rcases gDef_in r (m + 1) d with h | h
    · exact .inl h
    · exact .inr (by omega)
theorem gokT_Sw {x : gEx} {cs : List (Option gEx × gSt)} (hx : gok x) (h1 : ∀ q ∈ cs, ∀ g, q.1 = some g → gok g) (h2 : ∀ q ∈ cs, gokT q.2) : gokT (gSw x cs) := fun e Γ s hk => by
  refine (hx.st e Γ (skk Γ) s).tr ?_
  show gst (mkP Γ) (x e Γ (skk Γ) s) ((fun s => (fun n => hre n (gCsB e (swW n :: Γ) cs (n + 1) (em e Γ (skk Γ) 21 0 0 (some (gDef cs (n + 1) n)) (em e Γ (psh 1 (skk Γ)) 17 0 0 none (gCsT e Γ cs (n + 1) (gMks cs.length (mkm s))))))) s.m) (x e Γ (skk Γ) s))
  generalize x e Γ (skk Γ) s = s1
  dsimp only
  obtain ⟨m1, m2⟩ := gst_Mks (P := fun m => (s1.m ≤ m ∧ m < s1.m + 1 + cs.length) ∨ mkP Γ m) cs.length (mkm s1)
  have m3 : (mkm s1).m = s1.m + 1 := rfl
  have a0 : gsn (s1.m + 1 + cs.length) (fun m => (s1.m ≤ m ∧ m < s1.m + 1 + cs.length) ∨ mkP Γ m) s1 (gMks cs.length (mkm s1)) := ⟨(gst_mkm s1).tr m1, by omega⟩
  have a := (a0.tr (gst_CsT e Γ cs (s1.m + 1) _ h1 fun k z1 z2 => .inl (by omega))).tr (gst_em e Γ (psh 1 (skk Γ)) 17 0 0 _)
  have b := a.tr (gst_emm e Γ (skk Γ) 21 0 0 (m := gDef cs (s1.m + 1) s1.m) _ (.inl (by have := gDef_in cs (s1.m + 1) s1.m; omega)))
  exact (gsn_hre (gsn_CsB e (swW s1.m :: Γ) (kgo_w hk rfl) (fun m z => (mkP_cons z).elim (fun z => by have := wmk_sw z; exact .inl (by omega)) .inr) cs (s1.m + 1) _ h2 (Nat.le_succ _) (Nat.le_refl _) b) (Nat.le_refl s1.m) (by omega)).fin fun m hm => hm.elim (fun z => .inr (by omega)) .inl
