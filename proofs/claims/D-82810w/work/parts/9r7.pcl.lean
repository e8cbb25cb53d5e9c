/-! P's RESULTS are in the class -/
def nmS (s : pS) : Nat := s.2.1.length
def fuS (s : pS) (c f : Nat) : Prop := 1 ≤ f ∧ ∃ q, s.2.2[f]? = some q ∧ q.2.2.2.1 = c
/-- a function's variables, own name, what is around; its parts -/
def vOK (s : pS) (k : Nat) (q : gF) : Prop := (∀ x ∈ q.1, x < nmS s) ∧ (∀ x, q.2.2.1 = some x → x < nmS s) ∧ (0 < k → q.2.2.2.1 < k) ∧ q.1.Nodup ∧ q.2.1 ≤ q.1.length
def fOK (s : pS) (k : Nat) (q : gF) : Prop := cSt (nmS s) (fuS s k) 20 0 0 40 q.2.2.2.2.2 ∧ ∀ r ∈ q.2.2.2.2.1, fuS s k r.1 ∧ r.2 < nmS s
def iS (c : Nat) (s : pS) : Prop := c < s.2.2.length ∧ ∀ (k : Nat) q, s.2.2[k]? = some q → vOK s k q
/-- functions that came since are done -/
def nwF (N : Nat) (s' : pS) : Prop := ∀ (k : Nat) q, N ≤ k → s'.2.2[k]? = some q → fOK s' k q
def gad (c : Nat) (s s' : pS) : Prop := adv c s s' ∧ iS c s' ∧ nwF s.2.2.length s'
theorem adv.nm {c : Nat} {s s' : pS} (h : adv c s s') : nmS s ≤ nmS s' := h.2.1.1.length_le
theorem adv.fn {c : Nat} {s s' : pS} (h : adv c s s') {k f : Nat} (z : fuS s k f) : fuS s' k f := by
  obtain ⟨z1, q, z2, z3⟩ := z
  obtain ⟨q', e1, e2, -⟩ := h.2.2.2.2.1 f q (List.getElem?_eq_some_iff.mp z2).1 z2
  exact ⟨z1, q', e1, by rw [e2]; exact z3⟩
theorem fOK.up {c : Nat} {s s' : pS} (h : adv c s s') {k : Nat} {q q' : gF} (z : fOK s k q) (e : q'.2 = q.2) : fOK s' k q' := by
  unfold fOK
  rw [e]
  exact ⟨z.1.up h.nm (fun f y => h.fn y) 40 (Nat.le_refl _), fun r hr => ⟨h.fn (z.2 r hr).1, Nat.lt_of_lt_of_le (z.2 r hr).2 h.nm⟩⟩
theorem gad.tr {c : Nat} {s s' s'' : pS} (h : gad c s s') (h' : gad c s' s'') : gad c s s'' := by
  refine ⟨h.1.tr h'.1, h'.2.1, fun k q hk hq => ?_⟩
  by_cases z : s'.2.2.length ≤ k
  · exact h'.2.2 k q z hq
  · have e : s'.2.2[k]? = some (s'.2.2[k]'(by omega)) := List.getElem?_eq_getElem (by omega)
    obtain ⟨q', e1, e2, -⟩ := h'.1.2.2.2.2.1 k _ (by omega) e
    rw [e1] at hq
    cases hq
    exact (h.2.2 k _ hk e).up h'.1 e2
theorem gad.rf {c : Nat} {s : pS} (h : iS c s) : gad c s s := ⟨adv.rf, h, fun k q hk hq => by rw [List.getElem?_eq_none hk] at hq; cases hq⟩
theorem vOK.up {s s' : pS} {k : Nat} {q : gF} (h : vOK s k q) (hn : nmS s ≤ nmS s') : vOK s' k q := ⟨fun x hx => Nat.lt_of_lt_of_le (h.1 x hx) hn, fun x hx => Nat.lt_of_lt_of_le (h.2.1 x hx) hn, h.2.2⟩
theorem gad_nx {c : Nat} {s : pS} (h : iS c s) : gad c s (s.1 + 1, s.2) := ⟨adv_nx s, h, fun k q hk hq => by rw [List.getElem?_eq_none hk] at hq; cases hq⟩
theorem nIx_lt {w : List Int32} : ∀ {L : List (List Int32)}, w ∈ L → nIx L w < L.length
  | [], h => by cases h
  | x :: L, h => by
    unfold nIx
    by_cases e : x = w
    · rw [if_pos e]; exact Nat.zero_lt_succ _
    · rw [if_neg e]
      have := nIx_lt (L := L) (by rcases List.mem_cons.mp h with z | z; exact absurd z.symm e; exact z)
      rw [List.length_cons]; omega
theorem nam_lt (w : List Int32) (s : pS) : (nam w s).1 < (nam w s).2.2.1.length := nIx_lt (by
  show w ∈ if w ∈ s.2.1 then s.2.1 else s.2.1 ++ [w]
  by_cases h : w ∈ s.2.1
  · rw [if_pos h]; exact h
  · rw [if_neg h]; exact List.mem_append_right _ List.mem_cons_self)
theorem gad_nm {c : Nat} {s : pS} (w : List Int32) (h : iS c s) : gad c s (s.1 + 1, (nam w s).2.2) ∧ (nam w s).1 < nmS (s.1 + 1, (nam w s).2.2) := by
  refine ⟨⟨adv_nm w s, ⟨h.1, fun k q hq => (h.2 k q hq).up (adv_nm (c := c) w s).nm⟩, fun k q hk hq => ?_⟩, nam_lt w s⟩
  have hq : s.2.2[k]? = some q := hq
  rw [List.getElem?_eq_none hk] at hq; cases hq
theorem gad_hld {c x : Nat} {s : pS} (h : iS c s) (hx : x < nmS s) : gad c s (hld c x s) := by
  have e : (hld c x s).2.2 = adV c x s.2.2 := rfl
  have l := (adV_get c x s.2.2).1
  refine ⟨adv_hld x s, ⟨by rw [e, l]; exact h.1, fun k q hq => ?_⟩, fun k q hk hq => by rw [e, List.getElem?_eq_none (by rw [l]; exact hk)] at hq; cases hq⟩
  rw [e] at hq
  unfold adV at hq
  have hc : s.2.2[c]? = some (s.2.2[c]'h.1) := List.getElem?_eq_getElem h.1
  rw [hc] at hq
  dsimp only at hq
  by_cases z : k = c
  · rw [z, List.getElem?_set_self h.1] at hq
    cases hq
    have v := h.2 c _ hc
    rw [z]
    refine ⟨fun y hy => ?_, v.2.1, v.2.2.1, ?_, ?_⟩
    rotate_left
    · dsimp only
      split
      · exact v.2.2.2.1
      · rename_i m
        exact List.nodup_append.mpr ⟨v.2.2.2.1, (by simp), fun a ha b hb => by rw [List.mem_singleton.mp hb]; exact fun e => m (by rw [← e]; exact ha)⟩
    · dsimp only
      have := v.2.2.2.2
      split
      · exact this
      · rw [List.length_append]; omega
    dsimp only at hy
    by_cases m : x ∈ (s.2.2[c]'h.1).1
    · rw [if_pos m] at hy; exact v.1 y hy
    · rw [if_neg m] at hy
      rcases List.mem_append.mp hy with u | u
      · exact v.1 y u
      · rw [List.mem_singleton.mp u]; exact hx
  · rw [List.getElem?_set_ne (fun y => z y.symm)] at hq
    exact h.2 k q hq
/-- a value -/
def cV (s : pS) (c n : Nat) (v : gV) : Prop := cEx (nmS s) (fuS s c) n v.1 ∧ (v.2.1 = 0 ∨ v.2.1 = 1 ∧ v.2.2.1 < nmS s ∨ v.2.1 = 2 ∧ cEx (nmS s) (fuS s c) n v.2.2.2.1 ∧ cEx (nmS s) (fuS s c) n v.2.2.2.2)
theorem cEx.ad {c k n : Nat} {s s' : pS} {g : gEx} (h : cEx (nmS s) (fuS s k) n g) (a : gad c s s') : cEx (nmS s') (fuS s' k) n g := h.up a.1.nm fun f z => a.1.fn z
theorem cSt.ad {c k H l w d : Nat} {s s' : pS} {g : gSt} (h : cSt (nmS s) (fuS s k) H l w d g) (a : gad c s s') : cSt (nmS s') (fuS s' k) H l w d g := h.up a.1.nm (fun f z => a.1.fn z) d (Nat.le_refl _)
theorem cV.ad {c k n : Nat} {s s' : pS} {v : gV} (h : cV s k n v) (a : gad c s s') : cV s' k n v := ⟨h.1.ad a, h.2.imp id (Or.imp (fun z => ⟨z.1, Nat.lt_of_lt_of_le z.2 a.1.nm⟩) fun z => ⟨z.1, z.2.1.ad a, z.2.2.ad a⟩)⟩
theorem cV.mono {k n m : Nat} {s : pS} {v : gV} (h : cV s k n v) (hm : n ≤ m) : cV s k m v := ⟨.mono h.1 hm, h.2.imp id (Or.imp id fun z => ⟨z.1, .mono z.2.1 hm, .mono z.2.2 hm⟩)⟩
theorem cV_of {k n : Nat} {s : pS} {g : gEx} (h : cEx (nmS s) (fuS s k) n g) : cV s k n (vOf g) := ⟨h, .inl rfl⟩
theorem cV.mem {k n : Nat} {s : pS} {v : gV} (h : cV s k n v) (h0 : v.2.1 ≠ 0) (h1 : v.2.1 ≠ 1) : cEx (nmS s) (fuS s k) n v.2.2.2.1 ∧ cEx (nmS s) (fuS s k) n v.2.2.2.2 := by
  rcases h.2 with z | z | z
  · exact absurd z h0
  · exact absurd z.1 h1
  · exact z.2
theorem cV.nam {k n : Nat} {s : pS} {v : gV} (h : cV s k n v) (h1 : v.2.1 = 1) : v.2.2.1 < nmS s := by
  rcases h.2 with z | z | z
  · omega
  · exact z.2
  · omega
def cR (n : Nat) (c : pC) (s : pS) (v : gV) (s' : pS) : Prop := gad c.1 s s' ∧ cV s' c.1 n v
def cA (j : Nat) (c : pC) (s : pS) (l : List gEx) (s' : pS) : Prop := gad c.1 s s' ∧ l.length ≤ 8 ∧ ∃ k, j = k + 1 ∧ ∀ g ∈ l, cEx (nmS s') (fuS s' c.1) k g
def cS (j : Nat) (c : pC) (s : pS) (y : gSt) (s' : pS) : Prop := gad c.1 s s' ∧ cSt (nmS s') (fuS s' c.1) 20 c.2.1 c.2.2 (2 * j) y
def cF (d : Bool) (c : pC) (s : pS) (f : Nat × Nat) (s' : pS) : Prop := gad c.1 s s' ∧ fuS s' c.1 f.1 ∧ (d = true → f.2 < nmS s')
def clT (j : Nat) (r : pT) : Prop := (∀ c s, iS c.1 s → sat (r.prim c s) (cR (j) c s)) ∧ (∀ n e c s, iS c.1 s → j ≤ n → cV s c.1 n e → sat (r.mem e c s) (cR n c s)) ∧ (∀ c s, iS c.1 s → sat (r.args c s) (cA j c s)) ∧ (∀ c s, iS c.1 s → sat (r.made c s) (cR (j) c s)) ∧ (∀ c s, iS c.1 s → sat (r.unit c s) (cR (j) c s)) ∧ (∀ i c s, iS c.1 s → sat (r.asg i c s) (cR (j) c s)) ∧ (∀ i c s, iS c.1 s → sat (r.expr i c s) (cR (j) c s)) ∧ (∀ c s, iS c.1 s → sat (r.stmt c s) (cS j c s)) ∧ (∀ d c s, iS c.1 s → sat (r.func d c s) (cF d c s)) ∧ ∀ i c s, iS c.1 s → sat (r.wth i c s) (cR (j) c s)
section
variable {j : Nat} {r : pT}
theorem clT.prim (h : clT j r) : ∀ c s, iS c.1 s → sat (r.prim c s) (cR (j) c s) := h.1
theorem clT.mem (h : clT j r) : ∀ n e c s, iS c.1 s → j ≤ n → cV s c.1 n e → sat (r.mem e c s) (cR n c s) := h.2.1
theorem clT.args (h : clT j r) : ∀ c s, iS c.1 s → sat (r.args c s) (cA j c s) := h.2.2.1
theorem clT.made (h : clT j r) : ∀ c s, iS c.1 s → sat (r.made c s) (cR (j) c s) := h.2.2.2.1
theorem clT.unit (h : clT j r) : ∀ c s, iS c.1 s → sat (r.unit c s) (cR (j) c s) := h.2.2.2.2.1
theorem clT.asg (h : clT j r) : ∀ i c s, iS c.1 s → sat (r.asg i c s) (cR (j) c s) := h.2.2.2.2.2.1
theorem clT.expr (h : clT j r) : ∀ i c s, iS c.1 s → sat (r.expr i c s) (cR (j) c s) := h.2.2.2.2.2.2.1
theorem clT.stmt (h : clT j r) : ∀ c s, iS c.1 s → sat (r.stmt c s) (cS j c s) := h.2.2.2.2.2.2.2.1
theorem clT.func (h : clT j r) : ∀ d c s, iS c.1 s → sat (r.func d c s) (cF d c s) := h.2.2.2.2.2.2.2.2.1
theorem clT.wth (h : clT j r) : ∀ i c s, iS c.1 s → sat (r.wth i c s) (cR (j) c s) := h.2.2.2.2.2.2.2.2.2
end
def clO (j : Nat) (ro : Option pT) : Prop := ∀ r', ro = some r' → ∃ k, j = k + 1 ∧ clT k r'
section
variable {z : pZ} {K j : Nat} {r : pT} {c : pC}
theorem sat_tk {s : pS} {F : Nat → pS → Prop} (h : F (nam (z.2.1 s.1) s).1 (s.1 + 1, (nam (z.2.1 s.1) s).2.2)) : sat (takN z s) F := by
  unfold takN
  exact sat_bnd (sat_nx (sat_prt h))
theorem sat_nn {s : pS} {F : Nat → pS → Prop} (h : F (nam (z.2.1 s.1) s).1 (s.1 + 1, (nam (z.2.1 s.1) s).2.2)) : sat (nedN z s) F := by
  unfold nedN
  exact sat_ite (fun _ => sat_tk h) (fun _ => sat_flt)
theorem cl_arr (hr : clT j r) : ∀ (f : Nat) (acc : List gEx) (s : pS), iS c.1 s → (∀ g ∈ acc, cEx (nmS s) (fuS s c.1) (j) g) → sat (pArr z r c f acc s) fun l s' => gad c.1 s s' ∧ ∀ g ∈ l, cEx (nmS s') (fuS s' c.1) (j) g := by
  intro f
  induction f with
  | zero => intros; exact sat_err
  | succ f ih =>
    intro acc s hs ha
    unfold pArr
    refine sat_ite (fun _ => sat_bnd (sat_nx (sat_prt ⟨gad_nx hs, ha⟩))) (fun _ => ?_)
    refine sat_bnd (F := _) (sat.mono (F := fun _ s1 => gad c.1 s s1) ?_ (fun _ s1 h1 => ?_))
    · exact sat_ite (fun h => sat_prt (gad.rf hs)) (fun h => sat_ite (fun _ => sat_flt) (fun _ => sat_nx (gad_nx hs)))
    · refine sat_bnd ((hr.asg true c s1 h1.2.1).mono fun v s2 h2 => ?_)
      refine (ih _ s2 h2.1.2.1 fun g hg => ?_).mono fun l s3 h3 => ⟨(h1.tr h2.1).tr h3.1, h3.2⟩
      rcases List.mem_append.mp hg with y | y
      · exact (ha g y).ad (h1.tr h2.1)
      · rw [List.mem_singleton.mp y]; exact h2.2.1
theorem cl_key {s : pS} (hs : iS c.1 s) : sat (pKey z s) fun x s' => gad c.1 s s' ∧ x < nmS s' := by
  unfold pKey
  refine sat_ite (fun _ => sat_tk (gad_nm _ hs)) (fun _ => sat_ite (fun _ => sat_bnd (sat_nx (sat_prt (gad_nm _ hs)))) (fun _ => sat_flt))
theorem cl_obj (hr : clT j r) : ∀ (f : Nat) (acc : List (Nat × gEx)) (s : pS), iS c.1 s → (∀ q ∈ acc, q.1 < nmS s ∧ cEx (nmS s) (fuS s c.1) (j) q.2) → sat (pObj z r c f acc s) fun l s' => gad c.1 s s' ∧ ∀ q ∈ l, q.1 < nmS s' ∧ cEx (nmS s') (fuS s' c.1) (j) q.2 := by
  intro f
  induction f with
  | zero => intros; exact sat_err
  | succ f ih =>
    intro acc s hs ha
    unfold pObj
    refine sat_ite (fun _ => sat_bnd (sat_nx (sat_prt ⟨gad_nx hs, ha⟩))) (fun _ => ?_)
    refine sat_bnd (F := _) (sat.mono (F := fun _ s1 => gad c.1 s s1) ?_ (fun _ s1 h1 => ?_))
    · exact sat_ite (fun h => sat_prt (gad.rf hs)) (fun h => sat_ite (fun _ => sat_flt) (fun _ => sat_nx (gad_nx hs)))
    · refine sat_bnd ((cl_key (c := c) h1.2.1).mono fun x sk hk => sat_bnd (sat_ned (sat_bnd ((hr.asg true c _ (gad_nx hk.1.2.1).2.1).mono fun v s2 h2 => ?_))))
      have a2 := (gad_nx hk.1.2.1).tr h2.1
      refine (ih _ s2 h2.1.2.1 fun g hg => ?_).mono fun l s3 h3 => ⟨((h1.tr hk.1).tr a2).tr h3.1, h3.2⟩
      rcases List.mem_append.mp hg with y | y
      · have := ha g y
        have a := (h1.tr hk.1).tr a2
        exact ⟨Nat.lt_of_lt_of_le this.1 a.1.nm, this.2.ad a⟩
      · rw [List.mem_singleton.mp y]; exact ⟨Nat.lt_of_lt_of_le hk.2 a2.1.nm, h2.2.1⟩
theorem numb_mem : ∀ (l : List gEx) (k : Nat), ∀ q ∈ numb k l, q.1 = 5 ∧ q.2.2 ∈ l
  | [], _, q, h => by cases h
  | x :: r, k, q, h => by
    rcases List.mem_cons.mp h with y | y
    · rw [y]; exact ⟨rfl, List.mem_cons_self⟩
    · have := numb_mem r (k + 1) q y
      exact ⟨this.1, List.mem_cons_of_mem _ this.2⟩
theorem coK_5 {N : Nat} {v : Int32} : coK N 5 v := ⟨5, by decide, rfl, fun z => by cases z⟩
theorem coK_lt {N : Nat} {v : Int32} (k : Nat) (hk : k < 6) : coK N (Int32.ofNat k) v := ⟨k, by omega, rfl, fun z => by omega⟩
theorem coK_6 {N x : Nat} (h : x < N) : coK N 6 (Int32.ofNat x) := ⟨6, by decide, rfl, fun _ => ⟨x, rfl, h⟩⟩
theorem cl_prim {ro : Option pT} (hr : clO j ro) {s : pS} (hs : iS c.1 s) : sat (pPrim z K ro c s) (cR (j) c s) := by
  have one : ∀ g : gEx, cEx (nmS s) (fuS s c.1) j g → sat (bnd (nxt' z s) fun _ s => prt (vOf g) s) (cR (j) c s) := fun g hg => sat_bnd (sat_nx (sat_prt ⟨gad_nx hs, cV_of hg⟩))
  unfold pPrim
  refine sat_ite (fun _ => sat_bnd (sat_tk (sat_prt ?_))) (fun _ => ?_)
  · have := gad_nm (z.2.1 s.1) hs
    exact ⟨this.1, .get this.2, .inr (.inl ⟨rfl, this.2⟩)⟩
  refine sat_ite (fun _ => one _ (.co coK_5)) (fun _ => ?_)
  refine sat_ite (fun _ => sat_bnd (sat_tk (sat_prt ?_))) (fun _ => ?_)
  · have := gad_nm (z.2.1 s.1) hs
    exact ⟨this.1, cV_of (.co (coK_6 this.2))⟩
  refine sat_ite (fun _ => one _ .th) (fun _ => ?_)
  refine sat_ite (fun _ => one _ (.co (coK_lt 0 (by decide)))) (fun _ => ?_)
  refine sat_ite (fun _ => one _ (.co (coK_lt 1 (by decide)))) (fun _ => ?_)
  refine sat_ite (fun _ => one _ (.co (coK_lt 2 (by decide)))) (fun _ => ?_)
  refine sat_ite (fun _ => one _ (.co (coK_lt 3 (by decide)))) (fun _ => ?_)
  refine sat_ite (fun _ => one _ (.co (coK_lt 4 (by decide)))) (fun _ => ?_)
  have n1 := gad_nx hs
  refine sat_ite (fun _ => sat_opens fun r' e => ?_) (fun _ => ?_)
  · obtain ⟨k, hk, hr'⟩ := hr r' e
    exact sat_bnd (sat_nx (sat_bnd ((hr'.func false c _ n1.2.1).mono fun f s' h => sat_prt ⟨n1.tr h.1, cV_of (.md h.2.1)⟩)))
  refine sat_ite (fun _ => sat_opens fun r' e => ?_) (fun _ => ?_)
  · obtain ⟨k, hk, hr'⟩ := hr r' e
    exact sat_bnd (sat_nx (sat_bnd ((hr'.expr true c _ n1.2.1).mono fun v s' h => sat_bnd (sat_ned (sat_prt ⟨(n1.tr h.1).tr (gad_nx h.1.2.1), (cV_of (h.2.1.ad (gad_nx h.1.2.1))).mono (by omega)⟩)))))
  refine sat_ite (fun _ => sat_opens fun r' e => ?_) (fun _ => ?_)
  · obtain ⟨k, hk, hr'⟩ := hr r' e
    refine sat_bnd (sat_nx (sat_bnd ((cl_arr hr' K [] _ n1.2.1 (fun g hg => by cases hg)).mono fun l s' h => sat_prt ⟨n1.tr h.1, cV_of (by rw [hk]; exact .itm (.inr rfl) (fun q hq => by rw [(numb_mem l 0 q hq).1]; exact coK_5) (fun q hq => h.2 _ (numb_mem l 0 q hq).2))⟩)))
  refine sat_ite (fun _ => sat_opens fun r' e => ?_) (fun _ => sat_flt)
  obtain ⟨k, hk, hr'⟩ := hr r' e
  refine sat_bnd (sat_nx (sat_bnd ((cl_obj hr' K [] _ n1.2.1 (fun g hg => by cases hg)).mono fun l s' h => sat_prt ⟨n1.tr h.1, cV_of (by rw [hk]; exact .itm (.inl rfl) (fun q hq => by obtain ⟨p, hp, rfl⟩ := List.mem_map.mp hq; exact coK_6 (h.2 p hp).1) (fun q hq => by obtain ⟨p, hp, rfl⟩ := List.mem_map.mp hq; exact (h.2 p hp).2))⟩)))
theorem cV_mm {k n : Nat} {s : pS} {o p : gEx} (ho : cEx (nmS s) (fuS s k) n o) (hp : cEx (nmS s) (fuS s k) n p) : cV s k n (vMm o p) := ⟨.mem ho hp, .inr (.inr ⟨rfl, ho, hp⟩)⟩
theorem cl_mem {ro : Option pT} (hr : clO j ro) {n : Nat} (hn : j ≤ n) {e : gV} {s : pS} (hs : iS c.1 s) (he : cV s c.1 n e) : sat (pMem z ro e c s) (cR n c s) := by
  unfold pMem
  have n1 := gad_nx hs
  refine sat_ite (fun _ => sat_bnd (sat_nx (sat_ite (fun _ => sat_bnd (sat_tk (sat_prt ?_))) (fun _ => sat_flt)))) (fun _ => ?_)
  · have := gad_nm (z.2.1 (s.1 + 1)) n1.2.1
    have a := n1.tr this.1
    exact ⟨a, cV_mm (he.1.ad a) (.co (coK_6 this.2))⟩
  refine sat_opens fun r' e' => ?_
  obtain ⟨k, hk, hr'⟩ := hr r' e'
  refine sat_bnd (sat_nx (sat_bnd ((hr'.expr true c _ n1.2.1).mono fun v s' h => sat_bnd (sat_ned (sat_prt ?_)))))
  have n2 := gad_nx h.1.2.1
  have a := (n1.tr h.1).tr n2
  exact ⟨a, cV_mm (he.1.ad a) (.mono (h.2.1.ad n2) (by omega))⟩
theorem cl_arg1 (hr : clT j r) : ∀ (f : Nat) (acc : List gEx) (s : pS), iS c.1 s → acc.length ≤ 8 → (∀ g ∈ acc, cEx (nmS s) (fuS s c.1) (j) g) → sat (pArg1 z r c f acc s) fun l s' => gad c.1 s s' ∧ l.length ≤ 8 ∧ ∀ g ∈ l, cEx (nmS s') (fuS s' c.1) (j) g := by
  intro f
  induction f with
  | zero => intros; exact sat_err
  | succ f ih =>
    intro acc s hs hl ha
    unfold pArg1
    refine sat_ite (fun _ => sat_ite (fun _ => sat_flt) (fun h8 => sat_bnd (sat_nx (sat_bnd ((hr.asg true c _ (gad_nx hs).2.1).mono fun v s2 h2 => ?_))))) (fun _ => sat_prt ⟨gad.rf hs, hl, ha⟩)
    have a := (gad_nx hs).tr h2.1
    have : acc.length ≠ 8 := fun y => h8 (beq_iff_eq.mpr y)
    refine (ih _ s2 h2.1.2.1 (by rw [List.length_append]; show acc.length + 1 ≤ 8; omega) fun g hg => ?_).mono fun l s3 h3 => ⟨a.tr h3.1, h3.2⟩
    rcases List.mem_append.mp hg with y | y
    · exact (ha g y).ad a
    · rw [List.mem_singleton.mp y]; exact h2.2.1
theorem cl_args {ro : Option pT} (hr : clO j ro) {s : pS} (hs : iS c.1 s) : sat (pArgs z K ro c s) (cA j c s) := by
  unfold pArgs
  refine sat_opens fun r' e => ?_
  obtain ⟨k, hk, hr'⟩ := hr r' e
  have n1 := gad_nx hs
  refine sat_bnd (sat_nx (sat_bnd (sat.mono (F := fun l s' => gad c.1 (s.1 + 1, s.2) s' ∧ l.length ≤ 8 ∧ ∀ g ∈ l, cEx (nmS s') (fuS s' c.1) (k) g) ?_ fun l s' h => sat_bnd (sat_ned (sat_prt ⟨(n1.tr h.1).tr (gad_nx h.1.2.1), h.2.1, k, hk, fun g hg => (h.2.2 g hg).ad (gad_nx h.1.2.1)⟩)))))
  refine sat_ite (fun _ => sat_prt ⟨gad.rf n1.2.1, by decide, fun g hg => by cases hg⟩) (fun _ => sat_bnd ((hr'.asg true c _ n1.2.1).mono fun v s1 h1 => ?_))
  refine (cl_arg1 hr' K _ s1 h1.1.2.1 (by show 1 ≤ 8; decide) (fun g hg => ?_)).mono fun l s' h => ⟨h1.1.tr h.1, h.2⟩
  rw [List.mem_singleton.mp hg]; exact h1.2.1
theorem cl_mems (hr : clT j r) {n : Nat} (hn : j ≤ n) : ∀ (f : Nat) (e : gV) (s : pS), iS c.1 s → cV s c.1 n e → sat (pMems z r c f e s) (cR n c s) := by
  intro f
  induction f with
  | zero => intros; exact sat_err
  | succ f ih =>
    intro e s hs he
    unfold pMems
    exact sat_ite (fun _ => sat_bnd ((hr.mem n e c s hs hn he).mono fun v s1 h1 => (ih v s1 h1.1.2.1 h1.2).mono fun v' s' h => ⟨h1.1.tr h.1, h.2⟩)) (fun _ => sat_prt ⟨gad.rf hs, he⟩)
theorem cl_made {ro : Option pT} (hr : clO j ro) {s : pS} (hs : iS c.1 s) : sat (pMade z K ro c s) (cR j c s) := by
  unfold pMade
  refine sat_opens fun r' e => ?_
  obtain ⟨k, hk, hr'⟩ := hr r' e
  have n1 := gad_nx hs
  refine sat_bnd (sat_nx (sat_bnd (sat.mono (F := cR k c (s.1 + 1, s.2)) (sat_ite (fun _ => hr'.made c _ n1.2.1) (fun _ => hr'.prim c _ n1.2.1)) fun v s1 h1 => sat_bnd ((cl_mems hr' (Nat.le_refl _) K v s1 h1.1.2.1 h1.2).mono fun v2 s2 h2 => sat_bnd (sat.mono (F := fun l s' => gad c.1 s2 s' ∧ l.length ≤ 8 ∧ ∀ g ∈ l, cEx (nmS s') (fuS s' c.1) k g) (sat_ite (fun _ => (hr'.args c s2 h2.1.2.1).mono fun l s' h => ⟨h.1, h.2.1, fun g hg => by obtain ⟨k2, e2, e3⟩ := h.2.2; exact .mono (e3 g hg) (by omega)⟩) (fun _ => sat_prt ⟨gad.rf h2.1.2.1, by decide, fun g hg => by cases hg⟩)) fun l s3 h3 => sat_prt ?_)))))
  exact ⟨((n1.tr h1.1).tr h2.1).tr h3.1, cV_of (by rw [hk]; exact .new (.mono (h2.2.1.ad h3.1) (by omega)) h3.2.2 h3.2.1)⟩
theorem cl_cl {s s' : pS} {n : Nat} (hn : j ≤ n) {e : gV} {l : List gEx} (he : cV s c.1 n e) (hl : cA j c s l s') : cV s' c.1 n (vCl e l) := by
  unfold vCl
  obtain ⟨a, l1, k, l2, l3⟩ := hl
  obtain ⟨m, rfl⟩ : ∃ m, n = m + 1 := ⟨n - 1, by omega⟩
  have la : ∀ g ∈ l, cEx (nmS s') (fuS s' c.1) m g := fun g hg => .mono (l3 g hg) (by omega)
  by_cases h : e.2.1 = 2
  · rw [if_pos h]
    obtain ⟨h1, h2⟩ := (he.ad a).mem (by omega) (by omega)
    exact cV_of (.callM h1 h2 la l1)
  · rw [if_neg h]
    exact cV_of (.call (he.ad a).1 la l1)
theorem cl_sufs {ro : Option pT} (hr : clO j ro) : ∀ (f : Nat) (e : gV) (s : pS), iS c.1 s → cV s c.1 j e → sat (pSufs z K ro c f e s) (cR j c s) := by
  intro f
  induction f with
  | zero => intros; exact sat_err
  | succ f ih =>
    intro e s hs he
    unfold pSufs
    refine sat_ite (fun _ => sat_bnd ((cl_args hr hs).mono fun l s1 h1 => ?_)) (fun _ => sat_ite (fun _ => sat_bnd ((cl_mem hr (Nat.le_refl _) hs he).mono fun v s1 h1 => (ih v s1 h1.1.2.1 h1.2).mono fun v' s' h => ⟨h1.1.tr h.1, h.2⟩)) (fun _ => sat_prt ⟨gad.rf hs, he⟩))
    exact (ih _ s1 h1.1.2.1 (cl_cl (Nat.le_refl _) he h1)).mono fun v' s' h => ⟨h1.1.tr h.1, h.2⟩
theorem cl_left {ro : Option pT} (hr : clO j ro) {s : pS} (hs : iS c.1 s) : sat (pLeft z K ro c s) (cR j c s) := by
  unfold pLeft
  exact sat_bnd (sat.mono (F := cR j c s) (sat_ite (fun _ => cl_made hr hs) (fun _ => cl_prim hr hs)) fun v s1 h1 => (cl_sufs hr K v s1 h1.1.2.1 h1.2).mono fun v' s' h => ⟨h1.1.tr h.1, h.2⟩)
theorem i01 (b : Bool) : ∃ k : Nat, k < 21 ∧ (if b then (0 : Int32) else 1) = Int32.ofNat k := by
  cases b
  · exact ⟨1, by decide, rfl⟩
  · exact ⟨0, by decide, rfl⟩
theorem cl_post {ro : Option pT} (hr : clO j ro) {s : pS} (hs : iS c.1 s) : sat (pPost z K ro c s) (cR j c s) := by
  unfold pPost
  refine sat_bnd ((cl_left hr hs).mono fun v s1 h1 => sat_ite (fun _ => sat_ite (fun _ => sat_flt) (fun h0 => sat_bnd (sat_nx (sat_prt ⟨h1.1.tr (gad_nx h1.1.2.1), cV_of ?_⟩)))) (fun _ => sat_prt h1))
  obtain ⟨k, hk, ek⟩ := i01 (isS z 10 s1)
  rw [ek]
  have hv := h1.2.ad (gad_nx h1.1.2.1)
  by_cases h : v.2.1 = 1
  · rw [if_pos h]; exact .bhn (hv.nam h) hk
  · rw [if_neg h]
    obtain ⟨k1, k2⟩ := hv.mem h0 h
    exact .bhm hk k1 k2
theorem cl_ahd {n : Nat} {s : pS} {e : gV} {s' : pS} (he : cV s' c.1 n e) : sat (pAhd z s e s') fun v s2 => s2 = s' ∧ cV s' c.1 n v := by
  unfold pAhd
  obtain ⟨k, hk, ek⟩ := i01 (isS z 10 s)
  rw [ek]
  refine sat_ite (fun _ => sat_ite (fun _ => sat_flt) (fun h0 => sat_prt ⟨rfl, cV_of ?_⟩)) (fun _ => ?_)
  · by_cases h : e.2.1 = 1
    · rw [if_pos h]; exact .bfn (he.nam h) hk
    · rw [if_neg h]
      obtain ⟨k1, k2⟩ := he.mem h0 h
      exact .bfm hk k1 k2
  refine sat_ite (fun _ => sat_ite (fun h2 => sat_prt ⟨rfl, cV_of ?_⟩) (fun _ => sat_flt)) (fun _ => ?_)
  · obtain ⟨k1, k2⟩ := he.mem (by omega) (by omega)
    exact .del k1 k2
  refine sat_ite (fun _ => sat_prt ⟨rfl, cV_of (.void he.1)⟩) (fun _ => ?_)
  refine sat_ite (fun _ => sat_prt ⟨rfl, cV_of ?_⟩) (fun _ => sat_prt ⟨rfl, cV_of ?_⟩)
  · by_cases h : e.2.1 = 1
    · rw [if_pos h]; exact .typ (he.nam h)
    · rw [if_neg h]; exact .un (k := 4) (by decide) he.1
  · split
    · exact .un (k := 0) (by decide) he.1
    · split
      · exact .un (k := 1) (by decide) he.1
      · split
        · exact .un (k := 2) (by decide) he.1
        · exact .un (k := 3) (by decide) he.1
theorem cl_unit {ro : Option pT} (hr : clO j ro) {s : pS} (hs : iS c.1 s) : sat (pUnit z K ro c s) (cR j c s) := by
  unfold pUnit
  refine sat_ite (fun _ => sat_opens fun r' e => ?_) (fun _ => cl_post hr hs)
  obtain ⟨k, hk, hr'⟩ := hr r' e
  have n1 := gad_nx hs
  refine sat_bnd (sat_nx (sat_bnd ((hr'.unit c _ n1.2.1).mono fun v s1 h1 => (cl_ahd h1.2).mono fun v' s2 h2 => ?_)))
  rw [h2.1]
  exact ⟨n1.tr h1.1, h2.2.mono (by omega)⟩
theorem ite_or {α : Type} {p : Prop} [Decidable p] {a x y : α} (e : (if p then a else x) = y) : a = y ∨ x = y := by
  by_cases h : p
  · rw [if_pos h] at e; exact .inl e
  · rw [if_neg h] at e; exact .inr e
theorem pStr_ok {i : Bool} {s : pS} {l : Nat} {h : Int32} (e : pStr z i s = some (l, h)) : ∃ k : Nat, k < 21 ∧ h = Int32.ofNat k := by
  suffices hh : ∃ k : Fin 21, h = Int32.ofNat k.val by obtain ⟨k, hk⟩ := hh; exact ⟨k.val, k.isLt, hk⟩
  unfold pStr at e
  rcases ite_or e with e | e
  · cases e; decide
  rcases ite_or e with e | e
  · rcases ite_or e with e | e
    · cases e; decide
    · cases e
  rcases ite_or e with e | e
  · cases e; decide
  rcases ite_or e with e | e
  · cases e; decide
  rcases ite_or e with e | e
  · cases e; decide
  rcases ite_or e with e | e
  · cases e; decide
  rcases ite_or e with e | e
  · cases e; decide
  rcases ite_or e with e | e
  · cases e; decide
  rcases ite_or e with e | e
  · cases e; decide
  rcases ite_or e with e | e
  · cases e; decide
  rcases ite_or e with e | e
  · cases e; decide
  rcases ite_or e with e | e
  · cases e; decide
  rcases ite_or e with e | e
  · cases e; decide
  rcases ite_or e with e | e
  · cases e; decide
  rcases ite_or e with e | e
  · cases e; decide
  rcases ite_or e with e | e
  · cases e; decide
  rcases ite_or e with e | e
  · cases e; decide
  rcases ite_or e with e | e
  · cases e; decide
  rcases ite_or e with e | e
  · cases e; decide
  rcases ite_or e with e | e
  · cases e; decide
  rcases ite_or e with e | e
  · cases e; decide
  rcases ite_or e with e | e
  · cases e; decide
  rcases ite_or e with e | e
  · cases e; decide
  cases e
theorem pSet_ok {s : pS} {h : Int32} (e : pSet z s = some (some h)) : ∃ k : Nat, k < 21 ∧ h = Int32.ofNat k := by
  suffices hh : ∃ k : Fin 21, h = Int32.ofNat k.val by obtain ⟨k, hk⟩ := hh; exact ⟨k.val, k.isLt, hk⟩
  unfold pSet at e
  rcases ite_or e with e | e
  · cases e
  rcases ite_or e with e | e
  · cases e; decide
  rcases ite_or e with e | e
  · cases e; decide
  rcases ite_or e with e | e
  · cases e; decide
  rcases ite_or e with e | e
  · cases e; decide
  rcases ite_or e with e | e
  · cases e; decide
  rcases ite_or e with e | e
  · cases e; decide
  rcases ite_or e with e | e
  · cases e; decide
  rcases ite_or e with e | e
  · cases e; decide
  rcases ite_or e with e | e
  · cases e; decide
  rcases ite_or e with e | e
  · cases e; decide
  rcases ite_or e with e | e
  · cases e; decide
  cases e
theorem cl_blp {i : Bool} {l : Nat} {un : pS → pR gV} (hu : ∀ s, iS c.1 s → sat (un s) (cR j c s)) : ∀ (f : Nat) (e : gV) (s : pS), iS c.1 s → cV s c.1 j e → sat (pBlp z i l un f e s) (cR j c s) := by
  intro f
  induction f with
  | zero => intros; exact sat_err
  | succ f ih =>
    intro e s hs he
    unfold pBlp
    cases hp : pStr z i s with
    | none => exact sat_prt ⟨gad.rf hs, he⟩
    | some p =>
      obtain ⟨l', h⟩ := p
      obtain ⟨k, hk, ek⟩ := pStr_ok hp
      have n1 := gad_nx hs
      refine sat_ite (fun _ => sat_bnd (sat_nx (sat_bnd ((hu _ n1.2.1).mono fun v s1 h1 => ?_)))) (fun _ => sat_prt ⟨gad.rf hs, he⟩)
      have a := n1.tr h1.1
      have hg : cEx (nmS s1) (fuS s1 c.1) j (gOp l h e.1 v.1) := by
        unfold gOp
        rw [ek]
        split
        · exact .and (.inr rfl) (he.ad a).1 h1.2.1
        · split
          · exact .and (.inl rfl) (he.ad a).1 h1.2.1
          · exact .bin hk (he.ad a).1 h1.2.1
      exact (ih _ s1 h1.1.2.1 (cV_of hg)).mono fun v' s' h => ⟨a.tr h.1, h.2⟩
theorem cl_bin {ro : Option pT} (hr : clO j ro) (i : Bool) : ∀ (n : Nat) (s : pS), iS c.1 s → sat (pBin z K ro i c n s) (cR j c s)
  | 0, s, hs => cl_unit hr hs
  | n + 1, s, hs => by
    unfold pBin
    exact sat_bnd ((cl_bin hr i n s hs).mono fun v s1 h1 => (cl_blp (cl_bin hr i n) K v s1 h1.1.2.1 h1.2).mono fun v' s' h => ⟨h1.1.tr h.1, h.2⟩)
theorem cl_wth {ro : Option pT} (hr : clO j ro) (i : Bool) {s : pS} (hs : iS c.1 s) : sat (pWth z ro i c s) fun v s' => cR j c s v s' ∧ ∃ k, j = k + 1 ∧ cV s' c.1 k v := by
  unfold pWth
  refine sat_ite (fun _ => sat_opens fun r' e => ?_) (fun _ => sat_flt)
  obtain ⟨k, hk, hr'⟩ := hr r' e
  exact (hr'.asg i c s hs).mono fun v s' h => ⟨⟨h.1, h.2.mono (by omega)⟩, k, hk, h.2⟩
theorem cl_asg {ro : Option pT} (hr : clO j ro) (i : Bool) {s : pS} (hs : iS c.1 s) : sat (pAsg z K ro i c s) (cR j c s) := by
  unfold pAsg
  refine sat_bnd ((cl_bin hr i 10 s hs).mono fun v s1 h1 => ?_)
  have n1 := gad_nx h1.1.2.1
  refine sat_ite (fun _ => sat_bnd (sat_nx (sat_bnd ((cl_wth hr i n1.2.1).mono fun va s2 ⟨h2, _⟩ => sat_bnd (sat_ned (sat_bnd ((cl_wth hr i (gad_nx h2.1.2.1).2.1).mono fun vb s3 ⟨h3, _⟩ => sat_prt ?_))))))) (fun _ => ?_)
  · have a2 := (gad_nx h2.1.2.1).tr h3.1
    have a1 := (n1.tr h2.1).tr a2
    exact ⟨h1.1.tr a1, cV_of (.choice (h1.2.ad a1).1 (h2.2.ad a2).1 h3.2.1)⟩
  · cases hp : pSet z s1 with
    | none => exact sat_prt h1
    | some h =>
      refine sat_ite (fun _ => sat_flt) (fun h0 => sat_bnd (sat_nx (sat_bnd ((cl_wth hr i n1.2.1).mono fun va s2 ⟨h2, k0, e0, h20⟩ => sat_prt ?_))))
      have a := n1.tr h2.1
      have hv := h1.2.ad a
      refine ⟨h1.1.tr a, cV_of ?_⟩
      cases h with
      | none =>
        by_cases h' : v.2.1 = 1
        · rw [if_pos h']; exact .gvn0 (hv.nam h') h2.2.1
        · rw [if_neg h']
          obtain ⟨k1, k2⟩ := hv.mem h0 h'
          subst e0
          exact .gvm0 k1 k2 h20.1
      | some h =>
        obtain ⟨k, hk, ek⟩ := pSet_ok hp
        rw [ek]
        by_cases h' : v.2.1 = 1
        · rw [if_pos h']; exact .gvn1 (hv.nam h') hk h2.2.1
        · rw [if_neg h']
          obtain ⟨k1, k2⟩ := hv.mem h0 h'
          exact .gvm1 hk k1 k2 h2.2.1
theorem cl_coms {ro : Option pT} (hr : clO j ro) (i : Bool) : ∀ (f : Nat) (e : gV) (s : pS), iS c.1 s → cV s c.1 j e → sat (pComs z K ro i c f e s) (cR j c s) := by
  intro f
  induction f with
  | zero => intros; exact sat_err
  | succ f ih =>
    intro e s hs he
    unfold pComs
    have n1 := gad_nx hs
    refine sat_ite (fun _ => sat_bnd (sat_nx (sat_bnd ((cl_asg hr i n1.2.1).mono fun v s1 h1 => ?_)))) (fun _ => sat_prt ⟨gad.rf hs, he⟩)
    have a := n1.tr h1.1
    exact (ih _ s1 h1.1.2.1 (cV_of (.com (he.ad a).1 h1.2.1))).mono fun v' s' h => ⟨a.tr h.1, h.2⟩
theorem cl_expr {ro : Option pT} (hr : clO j ro) (i : Bool) {s : pS} (hs : iS c.1 s) : sat (pExpr z K ro i c s) (cR j c s) := by
  unfold pExpr
  exact sat_bnd ((cl_asg hr i hs).mono fun v s1 h1 => (cl_coms hr i K v s1 h1.1.2.1 h1.2).mono fun v' s' h => ⟨h1.1.tr h.1, h.2⟩)
end
