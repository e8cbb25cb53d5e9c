/-! THE HEAP's INVARIANT is kept -/
section
variable {A A' B : mA} {G : mG} {par : Nat → Nat}
theorem isSc_gro {o g : Nat} (h : gro A A') (s : isSc A G o g) : isSc A' G o g := by
  obtain ⟨s1, s2, s3, s4, s5⟩ := s
  obtain ⟨h1, h2, -⟩ := h.2.2 o s1
  refine ⟨Nat.lt_of_lt_of_le s1 h.1, (h1 141 (by omega)).trans s2, s3, s4, ?_⟩
  rcases h2 with e | ⟨lb, l1, l2, l3, l4, l5⟩
  · rw [e]; exact s5
  · rcases s5 with s5 | s5
    · rw [l4, nn_eq (by omega) (by omega)] at s5
      right; rw [l5, s5]
    · rw [l4, nn_eq (by omega) (by omega)] at s5
      omega
theorem isSc_org {o g : Nat} (hl : G.length ≤ 12) (h : gro A A') (ho : o < aO A) (s : isSc A' G o g) : isSc A G o g := by
  obtain ⟨s1, s2, s3, s4, s5⟩ := s
  obtain ⟨h1, h2, -⟩ := h.2.2 o ho
  refine ⟨ho, (h1 141 (by omega)).symm.trans s2, s3, s4, ?_⟩
  rcases h2 with e | ⟨lb, l1, l2, l3, l4, l5⟩
  · rw [← e]; exact s5
  · rcases s5 with s5 | s5
    · rw [l5, nn_eq (by omega) (by omega)] at s5
      omega
    · rw [l5, nn_eq (by omega) (by omega)] at s5
      left; rw [l4]; congr 1; omega
theorem lkOK_gro {l : Int32} {g : Nat} (h : gro A A') (s : lkOK A G l g) : lkOK A' G l g := s.imp id fun ⟨h1, o, e, hs⟩ => ⟨h1, o, e, isSc_gro h hs⟩
theorem lkOK_sh {l : Int32} {g : Nat} (i : iA A) (s : lkOK A G l g) : vp_nar .short l.toInt16.toInt32 = l := by
  have hob := i.1.1.2
  rcases s with ⟨-, e⟩ | ⟨-, o, e, hs⟩
  · rw [e]; rfl
  · rw [e]; have := hs.1; exact nn_nss (by omega)
theorem J_gro (j : J G par A) (h : gro A A') (i' : iA A') (l' : iL A')
    (hc : ∀ f, aO A ≤ f → f < aO A' → gi (aT A') 141 f = 1 → 23 ≤ f ∧ f < 299 ∧ (∃ g q, G[g]? = some q ∧ 1 ≤ g ∧ gi (aT A') 142 f = nI g ∧ lkOK A' G (gi (aT A') 140 f) (par g)) ∧ (∃ lb : Nat, gi (aT A') 138 f = nI lb ∧ 29 ≤ lb ∧ lb < 200))
    (hs : ∀ o g, aO A ≤ o → isSc A' G o g → (∀ q, G[g]? = some q → ∀ x ∈ q.2.2.1, has A' o (nI x)) ∧ lkOK A' G (gi (aT A') 140 o) (par g)) : J G par A' := by
  obtain ⟨j1, j2, ⟨⟨j3, j0⟩, w1, w2, w3⟩, j4, j5, j6⟩ := j
  obtain ⟨r, hr⟩ := h.2.1
  have hlen := h.len
  have h31 := j1.2.1.1
  refine ⟨i', l', ⟨⟨?_, ((h.2.2 0 (by have := j4.1; omega)).1 141 (by omega)).trans j0⟩, w1, w2, fun q hq => ?_⟩, ⟨by have := j4.1; have := h.1; omega, fun f hf h1 => ?_⟩, fun f g hf h1 h23 hg hg100 => ?_, fun o g hsc => ?_⟩
  · rw [hr, List.getElem?_append_left (by omega)]; exact j3
  · obtain ⟨a, b, c, d⟩ := w3 q hq
    exact ⟨a, b, c, fun x hx => Nat.lt_of_lt_of_le (d x hx) hlen⟩
  · by_cases ho : f < aO A
    · obtain ⟨h1', h2, -⟩ := h.2.2 f ho
      rw [h1' 141 (by omega)] at h1
      rw [h1' 142 (by omega), h1' 140 (by omega)]
      rcases j4.2 f ho h1 with ⟨c1, c2, c3, c4⟩ | ⟨c1, c2, c3, ⟨lb, c4, c5, c6⟩, c7⟩
      · left
        refine ⟨c1, c2, c3, ?_⟩
        rcases h2 with e | ⟨lb, l1, l2, l3, l4, l5⟩
        · rw [e]; exact c4
        · rw [c4, nn_eq (by omega) (by omega)] at l4; omega
      · right
        refine ⟨c1, c2, c3, ?_, c7⟩
        rcases h2 with e | ⟨l, l1, l2, l3, l4, l5⟩
        · rw [e]; exact ⟨lb, c4, c5, c6⟩
        · exact ⟨l + 1, l5, by omega, by omega⟩
    · right
      obtain ⟨a, b, ⟨g, q, c1, c2, c3, c4⟩, d⟩ := hc f (by omega) hf h1
      exact ⟨a, b, ⟨g, q, c1, c2, c3⟩, d, lkOK_sh i' c4⟩
  · by_cases ho : f < aO A
    · obtain ⟨h1', -, -⟩ := h.2.2 f ho
      rw [h1' 140 (by omega)]
      exact lkOK_gro h (j5 f g ho ((h1' 141 (by omega)).symm.trans h1) h23 ((h1' 142 (by omega)).symm.trans hg) hg100)
    · obtain ⟨-, -, ⟨g', q, c1, c2, c3, c4⟩, -⟩ := hc f (by omega) hf h1
      have hgl : g' < G.length := (List.getElem?_eq_some_iff.mp c1).1
      rw [hg, nn_eq (by omega) (by omega)] at c3
      rw [c3]; exact c4
  · by_cases ho : o < aO A
    · have s0 := isSc_org w2 h ho hsc
      obtain ⟨k1, k2⟩ := j6 o g s0
      refine ⟨fun q hq x hx => (h.2.2 o ho).2.2 s0.2.1 _ (k1 q hq x hx), ?_⟩
      rw [(h.2.2 o ho).1 140 (by omega)]
      exact lkOK_gro h k2
    · exact hs o g (by omega) hsc
/-- the same when no function and no scope came -/
theorem J_gro0 (j : J G par A) (h : gro A A') (i' : iA A') (l' : iL A') (hn : ∀ o, aO A ≤ o → o < aO A' → ¬ gi (aT A') 141 o = 1 ∧ ¬ gi (aT A') 141 o = 3) : J G par A' :=
  J_gro j h i' l' (fun f h1 h2 h3 => absurd h3 (hn f h1 h2).1) (fun o g h1 h2 => absurd h2.2.1 (hn o h1 h2.1).2)
theorem J_l0 (j : J G par A) : m_l0 A := by
  intro n k A1 hn e hk
  subst hk
  have hL := j.1.2.1
  unfold a_text at e
  rw [if_neg (by decide)] at e
  cases hm : mmk (aL A) (mText (aL A) 5 (nI n)) with
  | none => rw [hm] at e; cases e
  | some y =>
    obtain ⟨k', L'⟩ := y
    rw [hm] at e
    dsimp only at e
    have ek : k' = 0 := (Prod.mk.inj (Option.some.inj e)).1
    subst ek
    have hv : mok (aL A) (aO A) 5 (nI n) := mok_5
    obtain ⟨-, m2⟩ := mText_at hL hv
    obtain ⟨-, -, q3, ⟨r, q4⟩⟩ := mmk_ok hL m2 hm
    have h31 := hL.1
    rw [q4, List.getElem?_append_left (by omega), j.2.2.1.1.1] at q3
    have e5 : mText (aL A) 5 (nI n) = mdi (nI n) := rfl
    rw [e5] at q3
    exact mdi_ne n hn (Option.some.inj q3).symm
theorem J_text {s v : Int32} {k : Nat} (j : J G par A) (hv : mok (aL A) (aO A) s v) (h : a_text A s v = some (k, A')) : J G par A' ∧ gro A A' ∧ k < (aL A').length := by
  obtain ⟨i1, hk, hL, hr, eT, eO, eP, eF⟩ := iA_text j.1 hv h
  have g := gro_text j.1 hv h
  exact ⟨J_gro0 j g i1 (iL_cg j.2.1 eT eO eP) (fun o h1 h2 => by omega), g, hk⟩
theorem J_set {o jx : Nat} {s v : Int32} (j : J G par A) (ho : o < aO A) (hx : jx < (aL A).length) (hv : mval A s v) (hj : ¬ jx = 0 ∨ ¬ gi (aT A) 141 o = 2) (h : a_set A o (nI jx) s v = (true, A')) : J G par A' ∧ gro A A' ∧ aO A' = aO A := by
  obtain ⟨i1, eL, eO, eT⟩ := iA_set j.1 ho hx hv h
  have g := gro_set j.1 ho h
  exact ⟨J_gro0 j g i1 (iL_set j.1 j.2.1 ho hx hj h) (fun z h1 h2 => by omega), g, eO⟩
theorem J_len {o n : Nat} (j : J G par A) (ho : o < aO A) (h2 : gi (aT A) 141 o = 2) (hn : n ≤ 100) : J G par (a_set A o 0 5 (nI n)).2 ∧ gro A (a_set A o 0 5 (nI n)).2 := by
  obtain ⟨q, m, hq, hq3, e0, e5, em, hm, es, l'⟩ := iL_len (n := n) j.1 j.2.1 ho h2 hn
  have es' : a_set A o (nI 0) 5 (nI n) = _ := es
  have hx : 0 < (aL A).length := by have := j.1.2.1.1; omega
  have hv : mval A 5 (nI n) := ⟨mok_5, fun h => absurd h (by decide)⟩
  obtain ⟨i1, eL, eO, eT⟩ := iA_set j.1 ho hx hv es'
  have g := gro_set j.1 ho es
  rw [es]
  exact ⟨J_gro0 j g i1 l' (fun z h1 h2 => by have : z < aO A := h2; omega), g⟩
theorem iL_new {pr st lk : Int32} {lb : Nat} (l : iL A) (hst : ¬ st = 2) : iL (a_new A pr lb st lk) := by
  intro o ho h2
  have hne : ¬ o = aO A := fun e => by
    rw [a_new_srt _ _ _ _ _ _ _ (by omega), if_pos e] at h2
    exact hst h2
  rw [a_new_srt _ _ _ _ _ _ _ (by omega), if_neg hne] at h2
  have ho' : o < aO A := by have : o < aO A + 1 := ho; omega
  obtain ⟨q, q1, q2, q3, q4⟩ := l o ho' h2
  have e : ∀ a k, a = 145 ∨ a = 146 ∨ a = 147 → gi (m_new (aT A) (aO A) pr lb st lk) a k = gi (aT A) a k := fun a k h => by
    rw [m_new_at]
    rcases h with h | h | h <;> subst h <;> simp
  have e145 : gi (m_new (aT A) (aO A) pr lb st lk) 145 = gi (aT A) 145 := funext fun k => e 145 k (by omega)
  show ∃ q ∈ (if o = aO A then [] else aP A o), fnd (gi (m_new (aT A) (aO A) pr lb st lk) 145) 0 (if o = aO A then [] else aP A o) = nI q ∧ gi (m_new (aT A) (aO A) pr lb st lk) 146 q = 5 ∧ ∃ n : Nat, gi (m_new (aT A) (aO A) pr lb st lk) 147 q = nI n ∧ n ≤ 100
  rw [if_neg hne, e145]
  exact ⟨q, q1, q2, (e 146 q (by omega)).trans q3, by rw [e 147 q (by omega)]; exact q4⟩
theorem J_new {pr st lk : Int32} {lb : Nat} (j : J G par A) (hob : aO A < 300) (hpr : pr = -1 ∨ ∃ p, pr = nI p ∧ p < aO A) (hlb : lb < 160) (hpar : 29 ≤ lb → (lb - 29) % 2 = 0) (hst : ¬ st = 1 ∧ ¬ st = 2 ∧ ¬ st = 3) : J G par (a_new A pr lb st lk) ∧ gro A (a_new A pr lb st lk) := by
  have g : gro A (a_new A pr lb st lk) := gro_new hlb hpar
  refine ⟨J_gro0 j g (iA_new j.1 hob hpr (by omega)) (iL_new j.2.1 hst.2.1) (fun o h1 h2 => ?_), g⟩
  have e : o = aO A := by have : o < aO A + 1 := h2; omega
  have es : gi (aT (a_new A pr lb st lk)) 141 o = st := by rw [a_new_srt _ _ _ _ _ _ _ (by omega), if_pos e]; rfl
  rw [es]
  exact ⟨hst.1, hst.2.2⟩
/-- a property goes -/
theorem J_rem {o k : Nat} (j : J G par A) (ho : o < aO A) (h3 : ¬ gi (aT A) 141 o = 3) (hk : k < (aL A).length) (hj : ¬ k = 0 ∨ ¬ gi (aT A) 141 o = 2) : J G par (a_rem A o (nI k)) ∧ gro A (a_rem A o (nI k)) := by
  have g := gro_rem (nI k) j.1 ho h3
  obtain ⟨i2, eL, eO, eT⟩ := iA_rem (nI k) j.1 ho
  have h400 := j.1.2.1.2.1
  refine ⟨J_gro0 j g i2 ?_ (fun z h1 h2 => by omega), g⟩
  by_cases k0 : k = 0
  · -- the object is no array
    have h2 := hj.resolve_left (fun z => z k0)
    rcases fnd_or (gi (aT A) 145) (nI k) (aP A o) with ⟨-, e⟩ | ⟨l1, p, l2, e1, e2, e3, -⟩
    · rw [a_rem_none e]; exact j.2.1
    · rw [a_rem_some j.1 ho e1 e2 e3] at eT ⊢
      intro z hz hz2
      have hz2' : gi (aT A) 141 z = 2 := (eT 141 z (by omega)).symm.trans hz2
      have hne : ¬ z = o := fun e => h2 (by rw [← e]; exact hz2')
      obtain ⟨q, q1, q2, q3, q4⟩ := j.2.1 z hz hz2'
      have e145 : gi (m_rem (aT A) o p l1) 145 = gi (aT A) 145 := funext fun q => m_rem_nm _ _ _ _ (by omega)
      show ∃ q ∈ (if z = o then l1 ++ l2 else aP A z), fnd (gi (m_rem (aT A) o p l1) 145) 0 (if z = o then l1 ++ l2 else aP A z) = nI q ∧ gi (m_rem (aT A) o p l1) 146 q = 5 ∧ ∃ n : Nat, gi (m_rem (aT A) o p l1) 147 q = nI n ∧ n ≤ 100
      rw [if_neg hne, e145]
      refine ⟨q, q1, q2, (m_rem_nm _ _ _ _ (by omega)).trans q3, by rw [m_rem_nm _ _ _ _ (by omega)]; exact q4⟩
  · exact (iL_rem j.1 j.2.1 ho (by rw [nn_eql (by omega) (by omega)]; exact k0)).1
/-- what an operation's end keeps -/
def jv (G : mG) (par : Nat → Nat) (A : mA) (p : mE) : Prop := gro A p.2.1 ∧ iA p.2.1 ∧ (¬ p.1 = 2 → J G par p.2.1 ∧ mval p.2.1 p.2.2.1 p.2.2.2)
theorem jv_id {n : Nat} {s v : Int32} (j : J G par A) (hv : mval A s v) : jv G par A (n, A, s, v) := ⟨gro.rf, j.1, fun _ => ⟨j, hv⟩⟩
theorem jv_2 {s v : Int32} (g : gro A B) (i : iA B) : jv G par A (2, B, s, v) := ⟨g, i, fun h => absurd rfl h⟩
theorem jv_to {s v : Int32} {n : Nat} (g : gro A B) (j : J G par B) (hv : mval B s v) : jv G par A (n, B, s, v) := ⟨g, j.1, fun _ => ⟨j, hv⟩⟩
theorem jv_tr {p : mE} (g : gro A B) (h : jv G par B p) : jv G par A p := ⟨g.tr h.1, h.2.1, h.2.2⟩
theorem jv_err {n : Nat} (j : J G par A) (hn : n < 3) : jv G par A (m_err A n) := by
  have h23 := j.2.2.2.1.1
  have hob := j.1.1.1.2
  unfold m_err
  by_cases h : aO A = 300
  · rw [if_pos h]; exact jv_2 gro.rf j.1
  · rw [if_neg h]
    obtain ⟨j', g⟩ := J_new (pr := nI (6 + n)) (st := 0) (lk := -1) (lb := 26 + n) j (by omega) (.inr ⟨6 + n, rfl, by omega⟩) (by omega) (by omega) ⟨by decide, by decide, by decide⟩
    refine jv_to g j' (mval_7 (Nat.lt_succ_self _) ?_)
    rw [a_new_srt _ _ _ _ _ _ _ (by omega), if_pos rfl]; decide
theorem jv_prop {o q : Nat} (j : J G par A) (ho : o < aO A) (hq : q ∈ aP A o) : jv G par A (m_val A (nI q)) := by
  have q3 := ((j.1.1.2.2 o ho).2.2.2.1 q hq).1
  obtain ⟨h1, h2, -⟩ := j.1.2.2.1 o ho q hq
  unfold m_val
  rw [if_neg (by rw [nn_m1 (by omega)]; exact fun z => z), nn_cl (by omega)]
  exact jv_id j ⟨h1, h2⟩
theorem jv_get1 {o : Nat} {x : Int32} (j : J G par A) (ho : o < aO A) : jv G par A (m_val A (a_get A o x)) := by
  rcases a_get_or j.1 ho x with e | ⟨q, z, hz, hq, q3, -, e⟩
  · unfold m_val; rw [if_pos e]; exact jv_id j mval_0
  · rw [e]; exact jv_prop j hz hq
end
