/-! CHAINS: a segment of a linked list, from p to e -/
def chn (nx : Nat → Int32) (e : Int32) : Int32 → List Nat → Prop
  | p, [] => p = e
  | p, q :: l => p = nI q ∧ chn nx e (nx q) l
theorem chn_cg {nx nx' : Nat → Int32} {e : Int32} : ∀ {p : Int32} {l : List Nat}, (∀ q ∈ l, nx' q = nx q) → chn nx e p l → chn nx' e p l
  | _, [], _, h => h
  | _, q :: l, hq, h => ⟨h.1, by
    rw [hq q List.mem_cons_self]
    exact chn_cg (fun z hz => hq z (List.mem_cons_of_mem _ hz)) h.2⟩
theorem chn_app {nx : Nat → Int32} {e : Int32} : ∀ {p : Int32} {l1 l2 : List Nat}, chn nx e p (l1 ++ l2) ↔ ∃ m, chn nx m p l1 ∧ chn nx e m l2
  | p, [], l2 => ⟨fun h => ⟨p, rfl, h⟩, fun ⟨m, h1, h2⟩ => by cases (show p = m from h1); exact h2⟩
  | p, q :: l1, l2 => by
    constructor
    · intro h
      obtain ⟨m, h1, h2⟩ := chn_app.mp (show chn nx e (nx q) (l1 ++ l2) from h.2)
      exact ⟨m, ⟨h.1, h1⟩, h2⟩
    · intro ⟨m, h1, h2⟩
      exact ⟨h1.1, chn_app.mpr ⟨m, h1.2, h2⟩⟩
/-- the first of a chain whose name is x -/
def fnd (nm : Nat → Int32) (x : Int32) : List Nat → Int32
  | [] => -1
  | q :: l => if nm q = x then nI q else fnd nm x l
theorem fnd_cg {nm nm' : Nat → Int32} {x : Int32} : ∀ {l : List Nat}, (∀ q ∈ l, nm' q = nm q) → fnd nm' x l = fnd nm x l
  | [], _ => rfl
  | q :: l, h => by
    unfold fnd
    rw [h q List.mem_cons_self, fnd_cg (fun z hz => h z (List.mem_cons_of_mem _ hz))]
/-- either none has the name, or there is a first one that has -/
theorem fnd_or (nm : Nat → Int32) (x : Int32) : ∀ (l : List Nat), (fnd nm x l = -1 ∧ ∀ q ∈ l, nm q ≠ x) ∨ ∃ l1 q l2, l = l1 ++ q :: l2 ∧ nm q = x ∧ (∀ z ∈ l1, nm z ≠ x) ∧ fnd nm x l = nI q
  | [] => .inl ⟨rfl, fun _ h => by cases h⟩
  | q :: l => by
    by_cases h : nm q = x
    · exact .inr ⟨[], q, l, rfl, h, ⟨fun z hz => absurd hz (by simp), if_pos h⟩⟩
    · have e : fnd nm x (q :: l) = fnd nm x l := if_neg h
      rcases fnd_or nm x l with ⟨h1, h2⟩ | ⟨l1, z, l2, h1, h2, h3, h4⟩
      · exact .inl ⟨e.trans h1, fun z hz => by rcases List.mem_cons.mp hz with r | r; · rw [r]; exact h
                                               · exact h2 z r⟩
      · exact .inr ⟨q :: l1, z, l2, by rw [h1]; rfl, h2, fun y hy => by rcases List.mem_cons.mp hy with r | r; · rw [r]; exact h
                                                                        · exact h3 y r, e.trans h4⟩
/-- the last of a chain -/
def lst (l : List Nat) : Int32 := match l.getLast? with
  | some q => nI q
  | none => -1
theorem lst_nil : lst [] = -1 := rfl
theorem lst_app (l : List Nat) (q : Nat) : lst (l ++ [q]) = nI q := by unfold lst; rw [List.getLast?_append]; rfl
/-- the twin's objects and properties: ob objects, the properties of each, those that are free -/
def hT (T : zM) (ob : Nat) (ps : Nat → List Nat) (fl : List Nat) : Prop :=
  (gi T 97 76 = nI ob ∧ ob ≤ 300) ∧ (gi T 97 84 = nI (3000 - fl.length) ∧ fl.length ≤ 3000 ∧ chn (gi T 149) (nI 3000) (gi T 97 85) fl ∧ (∀ q ∈ fl, q < 3000) ∧ fl.Nodup) ∧
  ∀ o, o < ob → chn (gi T 149) (-1) (gi T 143 o) (ps o) ∧ gi T 144 o = lst (ps o) ∧ (ps o).Nodup ∧ (∀ q ∈ ps o, q < 3000 ∧ q ∉ fl) ∧ ∀ o', o' < ob → o' ≠ o → ∀ q ∈ ps o, q ∉ ps o'
/-- what changes when a property is added: p, to the object o -/
def m_app (T : zM) (o p : Nat) (x s v : Int32) : zM :=
  let T1 := si (si (si (si (si (si T 97 85 (gi T 149 p)) 97 84 (gi T 97 84 + 1)) 145 p x) 97 86 (gi T 97 86 + 1)) 148 p (gi T 97 86 + 1)) 149 p (-1)
  let T2 := if gi T 144 o = -1 then si T1 143 o (nI p) else si T1 149 (gi T 144 o).toNatClampNeg (nI p)
  si (si (si T2 144 o (nI p)) 146 p s) 147 p v
theorem m_app_149 (T : zM) (o p : Nat) (x s v : Int32) (q : Nat) : gi (m_app T o p x s v) 149 q = if gi T 144 o = -1 then (if q = p then -1 else gi T 149 q) else if q = (gi T 144 o).toNatClampNeg then nI p else if q = p then -1 else gi T 149 q := by
  unfold m_app
  split
  · simp [gi_si]
  · simp [gi_si]
theorem m_app_143 (T : zM) (o p : Nat) (x s v : Int32) (q : Nat) : gi (m_app T o p x s v) 143 q = if gi T 144 o = -1 ∧ q = o then nI p else gi T 143 q := by
  unfold m_app
  split
  · rename_i h; simp [gi_si, h]
  · rename_i h; simp [gi_si, h]
theorem m_app_144 (T : zM) (o p : Nat) (x s v : Int32) (q : Nat) : gi (m_app T o p x s v) 144 q = if q = o then nI p else gi T 144 q := by
  unfold m_app
  split <;> simp [gi_si]
theorem m_app_97 (T : zM) (o p : Nat) (x s v : Int32) : gi (m_app T o p x s v) 97 76 = gi T 97 76 ∧ gi (m_app T o p x s v) 97 84 = gi T 97 84 + 1 ∧ gi (m_app T o p x s v) 97 85 = gi T 149 p ∧ gi (m_app T o p x s v) 97 86 = gi T 97 86 + 1 := by
  unfold m_app
  split <;> simp [gi_si]
theorem lst_or (l : List Nat) : (l = [] ∧ lst l = -1) ∨ ∃ l1 z, l = l1 ++ [z] ∧ lst l = nI z := by
  rcases List.eq_nil_or_concat l with h | ⟨l1, z, h⟩
  · exact .inl ⟨h, by rw [h]; rfl⟩
  · exact .inr ⟨l1, z, by simpa using h, by rw [h, List.concat_eq_append]; exact lst_app l1 z⟩
theorem hT_app {T : zM} {ob : Nat} {ps : Nat → List Nat} {fl : List Nat} {p : Nat} (h : hT T ob ps (p :: fl)) {o : Nat} (ho : o < ob) (x s v : Int32) : hT (m_app T o p x s v) ob (fun i => if i = o then ps o ++ [p] else ps i) fl := by
  obtain ⟨⟨h1, h2⟩, ⟨g1, g2, g3, g4, g5⟩, H⟩ := h
  obtain ⟨m1, m2, m3, m4⟩ := m_app_97 T o p x s v
  have hp : p < 3000 := g4 p List.mem_cons_self
  have hpf : p ∉ fl := (List.nodup_cons.mp g5).1
  have hl : fl.length + 1 ≤ 3000 := by simpa using g2
  obtain ⟨c1, c2, c3, c4, c5⟩ := H o ho
  have hpo : ∀ i, i < ob → p ∉ ps i := fun i hi hm => ((H i hi).2.2.2.1 p hm).2 List.mem_cons_self
  -- the new links of those that are not in o's chain
  have nx : ∀ q, q ≠ p → (∀ z, lst (ps o) = nI z → z < 3000 → q ≠ z) → gi (m_app T o p x s v) 149 q = gi T 149 q := fun q hq hz => by
    rw [m_app_149, c2]
    rcases lst_or (ps o) with ⟨-, e⟩ | ⟨l1, z, e, e2⟩
    · rw [if_pos e, if_neg hq]
    · have hzb : z < 3000 := (c4 z (by rw [e]; simp)).1
      rw [e2, if_neg (by rw [nn_m1 (by omega)]; exact fun f => f), nn_cl (by omega), if_neg (hz z e2 hzb), if_neg hq]
  have zin : ∀ z, lst (ps o) = nI z → z < 3000 → z ∈ ps o := fun z hz hzb => by
    rcases lst_or (ps o) with ⟨-, e⟩ | ⟨l1, y, e, e2⟩
    · rw [hz, nn_m1 (by omega)] at e; exact e.elim
    · have hyb : y < 3000 := (c4 y (by rw [e]; simp)).1
      rw [hz, nn_eq (by omega) (by omega)] at e2
      rw [e2, e]; simp
  refine ⟨⟨m1.trans h1, h2⟩, ⟨?_, by omega, ?_, fun q hq => g4 q (List.mem_cons_of_mem _ hq), (List.nodup_cons.mp g5).2⟩, fun i hi => ?_⟩
  · rw [m2, g1, List.length_cons]
    simp (disch := omega) only [nn_add, nn_addl, nn_ladd, nn_mul, nn_lmul, nn_mull, nn_sub, nn_subl, nn_lsub, nn_lt, nn_le, nn_eq, nn_ltl, nn_llt, nn_lel, nn_lle, nn_eql, nn_leq, nn_m1, nn_1m, nn_ltm, nn_mlt, nn_mle, nn_lem, nn_cl, nn_in, nn_ns, nn_ns2, nn_nb, nn_nb2, nn_s1, nn_s2, nn_b1, nn_b2]
    congr 1
    omega
  · rw [m3]
    refine chn_cg (fun q hq => nx q (fun e => hpf (e ▸ hq)) (fun z hz hzb e => (c4 z (zin z hz hzb)).2 (List.mem_cons_of_mem _ (e ▸ hq)))) g3.2
  · dsimp only
    by_cases hio : i = o
    · subst hio
      rw [if_pos rfl]
      refine ⟨?_, ?_, ?_, fun q hq => ?_, fun o' ho' hne q hq => ?_⟩
      · rw [m_app_143]
        rcases lst_or (ps i) with ⟨e, e2⟩ | ⟨l1, z, e, e2⟩
        · rw [c2, if_pos ⟨e2, rfl⟩, e]
          refine ⟨rfl, ?_⟩
          show gi (m_app T i p x s v) 149 p = -1
          rw [m_app_149, c2, if_pos e2, if_pos rfl]
        · have hzb : z < 3000 := (c4 z (by rw [e]; simp)).1
          have hzp : ¬ z = p := fun q => hpo i hi (by rw [e, ← q]; simp)
          have hnm : ¬ gi T 144 i = -1 := by rw [c2, e2, nn_m1 (by omega)]; exact fun f => f
          rw [if_neg (fun q => hnm q.1)]
          have hnd : z ∉ l1 := by
            have := c3
            rw [e, List.nodup_append] at this
            exact fun q => this.2.2 z q z (by simp) rfl
          rw [e] at c1
          obtain ⟨m, s1, s2⟩ := chn_app.mp c1
          rw [e, List.append_assoc]
          refine chn_app.mpr ⟨m, chn_cg (fun q hq => nx q (fun r => hpo i hi (by rw [e, ← r]; simp [hq])) (fun y hy hyb r => ?_)) s1, ?_⟩
          · rw [e2, nn_eq (by omega) (by omega)] at hy
            exact hnd (by rw [hy, ← r]; exact hq)
          · refine ⟨s2.1, ?_, ?_⟩
            · rw [m_app_149, if_neg hnm, c2, e2, nn_cl (by omega), if_pos rfl]
            · show gi (m_app T i p x s v) 149 p = -1
              rw [m_app_149, if_neg hnm, c2, e2, nn_cl (by omega), if_neg (fun q => hzp q.symm), if_pos rfl]
      · rw [m_app_144, if_pos rfl, lst_app]
      · rw [List.nodup_append]
        exact ⟨c3, by simp, fun a ha b hb e => hpo i hi (by simp at hb; rw [← hb, ← e]; exact ha)⟩
      · rcases List.mem_append.mp hq with q1 | q1
        · exact ⟨(c4 q q1).1, fun r => (c4 q q1).2 (List.mem_cons_of_mem _ r)⟩
        · have : q = p := by simpa using q1
          rw [this]; exact ⟨hp, hpf⟩
      · rw [if_neg hne]
        rcases List.mem_append.mp hq with q1 | q1
        · exact c5 o' ho' hne q q1
        · have : q = p := by simpa using q1
          rw [this]; exact hpo o' ho'
    · rw [if_neg hio]
      obtain ⟨d1, d2, d3, d4, d5⟩ := H i hi
      refine ⟨?_, ?_, d3, fun q hq => ⟨(d4 q hq).1, fun r => (d4 q hq).2 (List.mem_cons_of_mem _ r)⟩, fun o' ho' hne q hq => ?_⟩
      · rw [m_app_143, if_neg (fun q => hio q.2)]
        exact chn_cg (fun q hq => nx q (fun r => hpo i hi (r ▸ hq)) (fun z hz hzb r => d5 o ho (fun w => hio w.symm) q hq (by rw [r]; exact zin z hz hzb))) d1
      · rw [m_app_144, if_neg hio]; exact d2
      · by_cases hoo : o' = o
        · subst hoo
          rw [if_pos rfl]
          intro r
          rcases List.mem_append.mp r with q1 | q1
          · exact d5 o' ho' hne q hq q1
          · have : q = p := by simpa using q1
            exact hpo i hi (this ▸ hq)
        · rw [if_neg hoo]; exact d5 o' ho' hne q hq
section
variable {E : zE} {d : Nat} {T M : zM} {Q : zO → zM → Prop}
/-- findProperty of the twin -/
theorem tm_find {o x : Int32} {l : List Nat} (ho : vp_in o 300) (hc : chn (gi T 149) (-1) (gi T 143 o.toNatClampNeg) l) (hl : ∀ q ∈ l, q < 3000) (hQ : ∀ p, p = fnd (gi T 145) x l → Q (.inl (some (vi p))) T) : Zm E YX8_findProperty d T [(0, T97), (1, vi o), (2, vi x)] 0 [] Q := by
  refine sX8_findProperty_0 T o x ⟨ho, ?_⟩
  generalize gi T 143 o.toNatClampNeg = p at hc ⊢
  induction l generalizing p with
  | nil =>
    have hp : p = -1 := hc
    subst hp
    refine iX8_findProperty_7 T x _ ?_
    rw [if_pos rfl]
    exact hQ _ rfl
  | cons q l ih =>
    obtain ⟨rfl, hc⟩ := hc
    have hq : q < 3000 := hl q List.mem_cons_self
    refine iX8_findProperty_7 T x _ ?_
    simp (disch := omega) only [nn_add, nn_addl, nn_ladd, nn_mul, nn_lmul, nn_mull, nn_sub, nn_subl, nn_lsub, nn_lt, nn_le, nn_eq, nn_ltl, nn_llt, nn_lel, nn_lle, nn_eql, nn_leq, nn_m1, nn_1m, nn_ltm, nn_mlt, nn_mle, nn_lem, nn_cl, nn_in, nn_ns, nn_ns2, nn_nb, nn_nb2, nn_s1, nn_s2, nn_b1, nn_b2]
    rw [if_neg (fun f => f)]
    refine ⟨hq, ?_⟩
    by_cases h : gi T 145 q = x
    · rw [if_pos h]; exact hQ _ (by unfold fnd; rw [if_pos h])
    · rw [if_neg h]
      exact ih (fun z hz => hl z (List.mem_cons_of_mem _ hz)) (fun p hp => hQ p (by unfold fnd; rw [if_neg h]; exact hp)) _ hc
/-- own of the component -/
theorem xm_own {o x : Int32} {l : List Nat} (hw : cw M) (ho : vp_in o 300) (hc : chn (gi M 47) (-1) (gi M 43 o.toNatClampNeg) l) (hl : ∀ q ∈ l, q < 3000) (hQ : ∀ p, p = fnd (gi M 46) x l → Q (.inl (some (vi p))) M) : Z E YX1_own d M [(0, zX16), (1, vi o), (2, vi x)] 0 [] Q := by
  refine sX1_own_0 M o x hw ⟨ho, ?_⟩
  generalize gi M 43 o.toNatClampNeg = p at hc ⊢
  induction l generalizing p with
  | nil =>
    have hp : p = -1 := hc
    subst hp
    refine iX1_own_7 M x _ hw ?_
    rw [if_pos rfl]
    exact hQ _ rfl
  | cons q l ih =>
    obtain ⟨rfl, hc⟩ := hc
    have hq : q < 3000 := hl q List.mem_cons_self
    refine iX1_own_7 M x _ hw ?_
    simp (disch := omega) only [nn_add, nn_addl, nn_ladd, nn_mul, nn_lmul, nn_mull, nn_sub, nn_subl, nn_lsub, nn_lt, nn_le, nn_eq, nn_ltl, nn_llt, nn_lel, nn_lle, nn_eql, nn_leq, nn_m1, nn_1m, nn_ltm, nn_mlt, nn_mle, nn_lem, nn_cl, nn_in, nn_ns, nn_ns2, nn_nb, nn_nb2, nn_s1, nn_s2, nn_b1, nn_b2]
    rw [if_neg (fun f => f)]
    refine ⟨hq, ?_⟩
    by_cases h : gi M 46 q = x
    · rw [if_pos h]; exact hQ _ (by unfold fnd; rw [if_pos h])
    · rw [if_neg h]
      exact ih (fun z hz => hl z (List.mem_cons_of_mem _ hz)) (fun p hp => hQ p (by unfold fnd; rw [if_neg h]; exact hp)) _ hc
end
