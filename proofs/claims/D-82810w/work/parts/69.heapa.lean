/-! THE MACHINE's HEAP, abstractly: the twin's cells (of a memory that is only looked at there), texts, objects, their properties, free ones -/
abbrev mA : Type := zM × List (List Int32) × Nat × (Nat → List Nat) × List Nat
abbrev aT (A : mA) : zM := A.1
abbrev aL (A : mA) : List (List Int32) := A.2.1
abbrev aO (A : mA) : Nat := A.2.2.1
abbrev aP (A : mA) : Nat → List Nat := A.2.2.2.1
abbrev aF (A : mA) : List Nat := A.2.2.2.2
/-- cells of the twin's heap -/
def hpT (a k : Nat) : Prop := 138 ≤ a ∧ a ≤ 149 ∨ a = 97 ∧ (k = 76 ∨ k = 84 ∨ k = 85 ∨ k = 86)
/-- cells of the component's heap -/
def hpX (a k : Nat) : Prop := 38 ≤ a ∧ a ≤ 50 ∨ a = 16 ∧ 26 ≤ k ∧ k ≤ 29
/-- things that a script may have: no scopes -/
def mthing (T : zM) (ob : Nat) (s v : Int32) : Prop := s = 7 → ∃ j : Nat, v = nI j ∧ j < ob ∧ ¬ gi T 141 j = 3
/-- what holds of the heap -/
def iA (A : mA) : Prop :=
  hT (aT A) (aO A) (aP A) (aF A) ∧ mLok (aL A) ∧ (∀ o, o < aO A → ∀ q ∈ aP A o, mok (aL A) (aO A) (gi (aT A) 146 q) (gi (aT A) 147 q) ∧ mthing (aT A) (aO A) (gi (aT A) 146 q) (gi (aT A) 147 q) ∧ ∃ j, gi (aT A) 145 q = nI j ∧ j < (aL A).length) ∧
  ∀ o, o < aO A → ∃ l, chn (gi (aT A) 139) (-1) (nI o) l ∧ ∀ q ∈ l, q < aO A
def sX (M : zM) (A : mA) : Prop := cw M ∧ hX M (aT A) (aO A) (aP A) (aF A) ∧ hL M (aT A) (aO A) ∧ xtx M (aL A)
def sT (T : zM) (A : mA) : Prop := (∀ a k, hpT a k → gi T a k = gi (aT A) a k) ∧ tS T (aL A)
theorem sT_hT {T : zM} {A : mA} (h : sT T A) (i : iA A) : hT T (aO A) (aP A) (aF A) := by
  obtain ⟨⟨h1, h2⟩, ⟨g1, g2, g3, g4, g5⟩, H⟩ := i.1
  have e149 : gi T 149 = gi (aT A) 149 := funext fun k => h.1 149 k (by unfold hpT; omega)
  refine ⟨⟨(h.1 97 76 (by unfold hpT; omega)).trans h1, h2⟩, ⟨(h.1 97 84 (by unfold hpT; omega)).trans g1, g2, by rw [e149, h.1 97 85 (by unfold hpT; omega)]; exact g3, g4, g5⟩, fun o ho => ?_⟩
  obtain ⟨d1, d2, d3⟩ := H o ho
  exact ⟨by rw [e149, h.1 143 o (by unfold hpT; omega)]; exact d1, (h.1 144 o (by unfold hpT; omega)).trans d2, d3⟩
theorem sT_fr {T T' : zM} {A : mA} {P : Nat → Nat → Prop} (h : sT T A) (f : fr P T T') (hP : ∀ a k, P a k → ¬ hpT a k ∧ ¬ stT a k) : sT T' A := by
  refine ⟨fun a k q => (f.2 a k (fun z => (hP a k z).1 q)).1.trans (h.1 a k q), (f.2 97 7 (fun z => (hP _ _ z).2 (by unfold stT; omega))).1.trans h.2.1, h.2.2.1, fun s w hs => ?_⟩
  obtain ⟨h1, h2, h3⟩ := h.2.2.2 s w hs
  exact ⟨(f.2 101 s (fun z => (hP _ _ z).2 (by unfold stT; omega))).1.trans h1, h2, fun k hk => (f.2 100 _ (fun z => (hP _ _ z).2 (by unfold stT; omega))).1.trans (h3 k hk)⟩
theorem sX_fr {M M' : zM} {A : mA} {P : Nat → Nat → Prop} (h : sX M A) (f : fr P M M') (hP : ∀ a k, P a k → ¬ hpX a k ∧ a ≠ 17 ∧ a ≠ 18 ∧ a ≠ 19 ∧ a ≠ 29 ∧ (a = 16 → ∀ q ∈ cwl, q.2.1 ≠ k ∨ q.1 ≠ 16)) : sX M' A := by
  obtain ⟨hw, ⟨⟨b1, b2⟩, ⟨sp, m, s1, s2, s3, s4⟩, b3, b4⟩, hl, ⟨x1, x2, ⟨y1, y2, y3⟩, x4⟩⟩ := h
  have e : ∀ a k, hpX a k → gi M' a k = gi M a k := fun a k q => (f.2 a k (fun z => (hP a k z).1 q)).1
  have e47 : gi M' 47 = gi M 47 := funext fun k => e 47 k (by unfold hpX; omega)
  refine ⟨fun q hq => ?_, ⟨⟨(e _ _ (by unfold hpX; omega)).trans b1, (e _ _ (by unfold hpX; omega)).trans b2⟩, ⟨sp, m, s1, s2, by rw [e47, e 16 28 (by unfold hpX; omega)]; exact s3, (e _ _ (by unfold hpX; omega)).trans s4⟩, fun o ho => ?_, fun o ho q hq => ?_⟩, fun o ho => ?_, ?_⟩
  · have hc := cwl_ok q hq
    rw [(f.2 q.1 q.2.1 (fun z => ?_)).2.2]
    · exact hw q hq
    · obtain ⟨-, -, -, -, z5, z6⟩ := hP _ _ z
      rcases hc with hc | hc
      · rcases z6 hc.1 q hq with r | r
        · exact r rfl
        · exact r hc.1
      · exact z5 hc
  · rw [e 38 _ (by unfold hpX; omega), e 41 _ (by unfold hpX; omega), e 42 _ (by unfold hpX; omega), e 43 _ (by unfold hpX; omega), e 44 _ (by unfold hpX; omega)]; exact b3 o ho
  · rw [e 46 _ (by unfold hpX; omega), e 47 _ (by unfold hpX; omega), e 48 _ (by unfold hpX; omega), e 49 _ (by unfold hpX; omega), e 50 _ (by unfold hpX; omega)]; exact b4 o ho q hq
  · exact hL_cg hl (fun a k q => e a k (by unfold hpX; omega)) (fun _ _ _ => rfl) o ho
  · have g : ∀ a k, a = 17 ∨ a = 18 ∨ a = 19 → ¬ P a k := fun a k q z => by have := hP a k z; omega
    exact ⟨(f.2 17 1 (g _ _ (by omega))).2.2.trans x1, (f.2 17 0 (g _ _ (by omega))).2.2.trans x2, ⟨(f.2 17 2 (g _ _ (by omega))).1.trans y1, fun k hk => (f.2 18 k (g _ _ (by omega))).1.trans (y2 k hk), fun j hj => (f.2 19 j (g _ _ (by omega))).1.trans (y3 j hj)⟩, x4⟩
/-- a value is given to a property of an object: whether there was room -/
def a_set (A : mA) (o : Nat) (x s v : Int32) : Bool × mA :=
  if fnd (gi (aT A) 145) x (aP A o) = -1 then
    (match aF A with
      | [] => (false, A)
      | p :: fl => (true, (m_app (aT A) o p x s v, aL A, aO A, (fun i => if i = o then aP A o ++ [p] else aP A i), fl)))
  else (true, (m_put (aT A) (fnd (gi (aT A) 145) x (aP A o)).toNatClampNeg s v, aL A, aO A, aP A, aF A))
theorem m_app_hp {T T' : zM} (e : ∀ a k, hpT a k → gi T' a k = gi T a k) (o p : Nat) (x s v : Int32) : ∀ a k, hpT a k → gi (m_app T' o p x s v) a k = gi (m_app T o p x s v) a k := by
  have e1 := e 149 p (by unfold hpT; omega)
  have e2 := e 97 84 (by unfold hpT; omega)
  have e3 := e 97 86 (by unfold hpT; omega)
  have e4 := e 144 o (by unfold hpT; omega)
  intro a k h
  have e5 := e a k h
  unfold m_app
  rw [e1, e2, e3, e4]
  dsimp only
  by_cases h1 : gi T 144 o = -1
  · rw [if_pos h1, if_pos h1]
    simp only [gi_si, e5]
  · rw [if_neg h1, if_neg h1]
    simp only [gi_si, e5]
theorem m_put_hp {T T' : zM} (e : ∀ a k, hpT a k → gi T' a k = gi T a k) (p : Nat) (s v : Int32) : ∀ a k, hpT a k → gi (m_put T' p s v) a k = gi (m_put T p s v) a k := by
  intro a k h
  unfold m_put
  simp only [gi_si, e a k h]
section
variable {E : zE} {d : Nat} {T M : zM} {Q : zO → zM → Prop} {A : mA}
/-- set of the twin -/
theorem tA_set {o : Nat} {x s v : Int32} (h : sT T A) (i : iA A) (ho : o < aO A) (h1 : ∀ T' A', a_set A o x s v = (true, A') → sT T' A' → fr fT T T' → Q (.inl none) T') (h2 : ∀ A', a_set A o x s v = (false, A') → A' = A → Q (.inl none) (si T 97 75 1)) : Zm E YX8_set_2 (d + 1) T [(0, T97), (1, vi (nI o)), (2, vi x), (3, vi s), (4, vi v)] 0 [] Q := by
  have hn : ∀ q ∈ aP A o, gi T 145 q = gi (aT A) 145 q := fun q _ => h.1 145 q (by unfold hpT; omega)
  have ef : fnd (gi T 145) x (aP A o) = fnd (gi (aT A) 145) x (aP A o) := fnd_cg hn
  refine tm_set (sT_hT h i) ho (fun p hp hpo _ => ?_) (fun hm hf => ?_) (fun p fl' hm hf => ?_)
  · have hp3 := ((i.1.2.2 o ho).2.2.2.1 p hpo).1
    have ea : a_set A o x s v = (true, (m_put (aT A) p s v, aL A, aO A, aP A, aF A)) := by
      unfold a_set
      rw [← ef, hp, if_neg (by rw [nn_m1 (by omega)]; exact fun z => z), nn_cl (by omega)]
    have f : fr fT T (m_put T p s v) := (fr.si (by unfold fT; omega)).tr (fr.si (by unfold fT; omega))
    refine h1 _ _ ea ⟨m_put_hp h.1 p s v, (f.2 97 7 (by unfold fT; omega)).1.trans h.2.1, h.2.2.1, fun s' w hs => ?_⟩ f
    obtain ⟨q1, q2, q3⟩ := h.2.2.2 s' w hs
    exact ⟨(f.2 101 s' (by unfold fT; omega)).1.trans q1, q2, fun k hk => (f.2 100 _ (by unfold fT; omega)).1.trans (q3 k hk)⟩
  · exact h2 A (by unfold a_set; rw [← ef, if_pos hm, hf]) rfl
  · have ea : a_set A o x s v = (true, (m_app (aT A) o p x s v, aL A, aO A, (fun i => if i = o then aP A o ++ [p] else aP A i), fl')) := by
      unfold a_set; rw [← ef, if_pos hm, hf]
    have f := m_app_fr T o p x s v
    refine h1 _ _ ea ⟨m_app_hp h.1 o p x s v, (f.2 97 7 (by unfold fT; omega)).1.trans h.2.1, h.2.2.1, fun s' w hs => ?_⟩ f
    obtain ⟨q1, q2, q3⟩ := h.2.2.2 s' w hs
    exact ⟨(f.2 101 s' (by unfold fT; omega)).1.trans q1, q2, fun k hk => (f.2 100 _ (by unfold fT; omega)).1.trans (q3 k hk)⟩
/-- setOwn of the component -/
theorem xA_set {o jx ks : Nat} {v : Int32} (h : sX M A) (i : iA A) (ho : o < aO A) (hx : jx < 32768) (hs : ks < 8) (h1 : ∀ M' A', a_set A o (nI jx) (nI ks) v = (true, A') → sX M' A' → fr fX M M' → Q (.inl none) M') (h2 : ∀ A', a_set A o (nI jx) (nI ks) v = (false, A') → A' = A → Q (.inr (51, 13, 0)) M) : Z E YX1_setOwn (d + 1) M [(0, zX16), (1, vi (nI o)), (2, vi (nI jx)), (3, vi (nI ks)), (4, vi v)] 0 [] Q := by
  obtain ⟨hw, g, hl, hxt⟩ := h
  have keep : ∀ (M' T' : zM), fr fX M M' → (∀ a k, a = 138 ∨ a = 141 ∨ a = 142 → gi T' a k = gi (aT A) a k) → hL M' T' (aO A) := fun M' T' f e => hL_cg hl (fun a k q => (f.2 a k (by unfold fX; omega)).1) e
  have keepx : ∀ M' : zM, fr fX M M' → xtx M' (aL A) := fun M' f => by
    obtain ⟨x1, x2, ⟨y1, y2, y3⟩, x4⟩ := hxt
    exact ⟨(f.2 17 1 (by unfold fX; omega)).2.2.trans x1, (f.2 17 0 (by unfold fX; omega)).2.2.trans x2, ⟨(f.2 17 2 (by unfold fX; omega)).1.trans y1, fun k hk => (f.2 18 k (by unfold fX; omega)).1.trans (y2 k hk), fun j hj => (f.2 19 j (by unfold fX; omega)).1.trans (y3 j hj)⟩, x4⟩
  refine xm_set hw i.1 g ho hx hs (fun p M' hp hpo _ g' f => ?_) (fun hm hf => ?_) (fun p fl' M' hm hf g' f => ?_)
  · have hp3 := ((i.1.2.2 o ho).2.2.2.1 p hpo).1
    have ea : a_set A o (nI jx) (nI ks) v = (true, (m_put (aT A) p (nI ks) v, aL A, aO A, aP A, aF A)) := by
      unfold a_set
      rw [hp, if_neg (by rw [nn_m1 (by omega)]; exact fun z => z), nn_cl (by omega)]
    exact h1 _ _ ea ⟨cw_fX hw f, g', keep _ _ f (fun a k q => by unfold m_put; rw [gi_oth (by omega), gi_oth (by omega)]), keepx _ f⟩ f
  · exact h2 A (by unfold a_set; rw [if_pos hm, hf]) rfl
  · have ea : a_set A o (nI jx) (nI ks) v = (true, (m_app (aT A) o p (nI jx) (nI ks) v, aL A, aO A, (fun i => if i = o then aP A o ++ [p] else aP A i), fl')) := by
      unfold a_set; rw [if_pos hm, hf]
    exact h1 _ _ ea ⟨cw_fX hw f, g', keep _ _ f (fun a k q => m_app_oth _ _ _ _ _ _ (by unfold fT; omega)), keepx _ f⟩ f
end
