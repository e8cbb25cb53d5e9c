/-! TYPED CODE: the static stack before each instruction (true: a list), the tries, the function -/
abbrev mW : Type := Nat → Option (List Bool × List (Nat × Nat) × Nat)
abbrev mI : Type := List (Int32 × Int32 × Int32)
def kX (M : zM) (C : mI) : Prop := ∀ k q, C[k]? = some q → gi M 30 k = q.1 ∧ gi M 31 k = q.2.1 ∧ gi M 34 k = q.2.2
def kT (T : zM) (C : mI) : Prop := ∀ k q, C[k]? = some q → gi T 123 k = q.1 ∧ gi T 124 k = q.2.1 ∧ gi T 125 k = q.2.2
def anc (par : Nat → Nat) (g : Nat) : Nat → Nat
  | 0 => g
  | h + 1 => par (anc par g h)
/-- a variable is there: so many links away -/
def varOK (G : mG) (par : Nat → Nat) (g : Nat) (a b : Int32) : Prop := ∃ h x q, a = nI h ∧ b = nI x ∧ h < 600 ∧ x < 400 ∧ (∀ j, j ≤ h → 1 ≤ anc par g j) ∧ G[anc par g h]? = some q ∧ x ∈ q.2.2.1
/-- tries of a stack: where they go on -/
def tokl (W : mW) (g : Nat) : List Bool → List (Nat × Nat) → Prop
  | _, [] => True
  | L, (p, h) :: t => h ≤ L.length ∧ p < 600 ∧ W p = some (false :: L.drop (L.length - h), t, g) ∧ tokl W g (L.drop (L.length - h)) t
def siteOK (G : mG) (s : Nat) : Prop := 29 + 6 * (G.length - 1) + 2 * s < 160
def nxt (W : mW) (k : Nat) (L : List Bool) (t : List (Nat × Nat)) (g : Nat) : Prop := k < 600 ∧ W k = some (L, t, g)
def opOK (G : mG) (par : Nat → Nat) (W : mW) (nm : Nat) (op a b : Int32) (k : Nat) (L : List Bool) (t : List (Nat × Nat)) (g : Nat) : Prop :=
  (op = 0 ∧ (∃ s, a = nI s ∧ s < 7 ∧ (s = 6 → ∃ j, b = nI j ∧ j < nm)) ∧ nxt W (k + 1) (false :: L) t g) ∨
  (op = 1 ∧ varOK G par g a b ∧ nxt W (k + 1) (false :: L) t g) ∨
  (op = 2 ∧ varOK G par g a b ∧ (∃ L', L = false :: L') ∧ nxt W (k + 1) L t g) ∨
  (op = 3 ∧ nxt W (k + 1) (false :: L) t g) ∨
  (op = 4 ∧ (∃ x, b = nI x ∧ x < nm) ∧ (∃ L', L = false :: L') ∧ nxt W (k + 1) L t g) ∨
  (op = 5 ∧ nxt W (k + 1) (false :: L) t g) ∨
  (op = 6 ∧ nxt W (k + 1) (false :: L) t g) ∨
  (op = 7 ∧ (∃ s, a = nI s ∧ siteOK G s) ∧ nxt W (k + 1) (false :: L) t g) ∨
  (op = 8 ∧ (∃ s, a = nI s ∧ siteOK G s) ∧ nxt W (k + 1) (false :: L) t g) ∨
  (op = 9 ∧ (∃ g', a = nI g' ∧ 1 ≤ g' ∧ g' < G.length ∧ par g' = g) ∧ nxt W (k + 1) (false :: L) t g) ∨
  (op = 10 ∧ ∃ L', L = false :: false :: L' ∧ nxt W (k + 1) (false :: L') t g) ∨
  (op = 11 ∧ ∃ L', L = false :: false :: false :: L' ∧ nxt W (k + 1) (false :: L') t g) ∨
  (op = 12 ∧ ∃ L', L = false :: false :: L' ∧ nxt W (k + 1) (false :: L') t g) ∨
  (op = 13 ∧ (∃ h, a = nI h ∧ h < 5) ∧ ∃ L', L = false :: L' ∧ nxt W (k + 1) (false :: L') t g) ∨
  (op = 14 ∧ (∃ h, a = nI h ∧ h < 21) ∧ ∃ L', L = false :: false :: L' ∧ nxt W (k + 1) (false :: L') t g) ∨
  (op = 15 ∧ ∃ n L', a = nI n ∧ L = List.replicate n false ++ false :: false :: L' ∧ tokl W g L' t ∧ nxt W (k + 1) (false :: L') t g) ∨
  (op = 16 ∧ ∃ n s L', a = nI n ∧ b = nI s ∧ siteOK G s ∧ L = List.replicate n false ++ false :: L' ∧ tokl W g L' t ∧ nxt W (k + 1) (false :: L') t g) ∨
  (op = 17 ∧ ∃ c L', L = c :: L' ∧ nxt W (k + 1) L' t g) ∨
  (op = 18 ∧ ∃ L', L = false :: L' ∧ nxt W (k + 1) (false :: L) t g) ∨
  (op = 19 ∧ ∃ L', L = false :: false :: L' ∧ nxt W (k + 1) (false :: false :: L) t g) ∨
  (op = 20 ∧ ∃ L', L = false :: false :: false :: L' ∧ nxt W (k + 1) (false :: L) t g) ∨
  (op = 21 ∧ ∃ p, a = nI p ∧ nxt W p L t g) ∨
  (op = 22 ∧ ∃ p L', a = nI p ∧ L = false :: L' ∧ nxt W p L' t g ∧ nxt W (k + 1) L' t g) ∨
  ((op = 23 ∨ op = 24) ∧ ∃ p L', a = nI p ∧ L = false :: L' ∧ nxt W p L t g ∧ nxt W (k + 1) L' t g) ∨
  (op = 25 ∧ ∃ L', L = false :: L') ∨
  (op = 26 ∧ ∃ L', L = false :: L') ∨
  (op = 27 ∧ ∃ p, a = nI p ∧ p < 600 ∧ nxt W (k + 1) L ((p, L.length) :: t) g) ∨
  (op = 28 ∧ ∃ q t', t = q :: t' ∧ nxt W (k + 1) L t' g) ∨
  (op = 29 ∧ ∃ L', L = false :: L' ∧ nxt W (k + 1) (true :: L') t g) ∨
  (op = 30 ∧ ∃ p L', a = nI p ∧ L = true :: L' ∧ nxt W p L' t g ∧ nxt W (k + 1) (false :: L) t g)
/-- the code is typed; n names -/
def wI (C : mI) (G : mG) (par : Nat → Nat) (W : mW) (nm : Nat) : Prop :=
  (∀ k L t g, W k = some (L, t, g) → k + 1 < 600 ∧ L.length ≤ 386 ∧ t.length ≤ 40 ∧ g < G.length ∧ tokl W g L t ∧ ∃ q, C[k]? = some q ∧ opOK G par W nm q.1 q.2.1 q.2.2 k L t g) ∧
  (∀ g q, G[g]? = some q → W q.1 = some ([], [], g)) ∧ (∀ g, 1 ≤ g → g < G.length → 29 + 6 * (g - 1) + 4 < 160)
def stOK (A : mA) : List mC → List Bool → Prop
  | [], [] => True
  | c :: st, b :: L => (if b = true then mlist A c else mval A c.1 c.2.1) ∧ stOK A st L
  | _, _ => False
def frOK (A : mA) (G : mG) (r : mF) (L : List Bool) (t : List (Nat × Nat)) (g : Nat) : Prop :=
  r.1.1 = nI g ∧ lkOK A G r.1.2.1 g ∧ mval A r.1.2.2.1 r.1.2.2.2.1 ∧ (r.1.2.2.2.2 = -1 ∨ ∃ o, r.1.2.2.2.2 = nI o ∧ o < aO A ∧ ¬ gi (aT A) 141 o = 3) ∧ r.tr = t ∧ stOK A r.st L
/-- the frame that runs; one that waits for what it called -/
def topOK (A : mA) (G : mG) (W : mW) (r : mF) : Prop := ∃ L t g, W r.pl = some (L, t, g) ∧ frOK A G r L t g
def watOK (A : mA) (G : mG) (W : mW) (r : mF) : Prop := ∃ L t g, W r.pl = some (false :: L, t, g) ∧ tokl W g L t ∧ frOK A G r L t g
def frsOK (A : mA) (G : mG) (W : mW) : List mF → Prop
  | [] => True
  | r :: F => F.length < 24 ∧ topOK A G W r ∧ ∀ q ∈ F, watOK A G W q
section
variable {A A' : mA} {G : mG} {W : mW} {par : Nat → Nat} {C : mI} {nm : Nat} {r : mF} {F : List mF} {L : List Bool} {t : List (Nat × Nat)} {g : Nat}
theorem stOK_len : ∀ {st : List mC} {L : List Bool}, stOK A st L → st.length = L.length
  | [], [], _ => rfl
  | _ :: st, _ :: L, h => by rw [List.length_cons, List.length_cons, stOK_len h.2]
  | [], _ :: _, h => h.elim
  | _ :: _, [], h => h.elim
theorem stOK_gro (h : gro A A') : ∀ {st : List mC} {L : List Bool}, stOK A st L → stOK A' st L
  | [], [], _ => trivial
  | c :: st, b :: L, q => by
    refine ⟨?_, stOK_gro h q.2⟩
    have := q.1
    cases b with
    | false => exact h.val this
    | true => exact h.lst this
  | [], _ :: _, q => q.elim
  | _ :: _, [], q => q.elim
theorem stOK_drop : ∀ {n : Nat} {st : List mC} {L : List Bool}, stOK A st L → stOK A (st.drop n) (L.drop n)
  | 0, _, _, h => h
  | n + 1, [], [], _ => trivial
  | n + 1, _ :: st, _ :: L, h => stOK_drop (n := n) h.2
  | _ + 1, [], _ :: _, q => q.elim
  | _ + 1, _ :: _, [], q => q.elim
theorem frOK_gro (h : gro A A') (q : frOK A G r L t g) : frOK A' G r L t g := by
  obtain ⟨a, b, c, d, e, f⟩ := q
  exact ⟨a, lkOK_gro h b, h.val c, d.imp id fun ⟨o, h1, h2, h3⟩ => ⟨o, h1, Nat.lt_of_lt_of_le h2 h.1, by rw [(h.2.2 o h2).1 141 (by omega)]; exact h3⟩, e, stOK_gro h f⟩
theorem watOK_gro (h : gro A A') (q : watOK A G W r) : watOK A' G W r := by
  obtain ⟨L, t, g, h1, h0, h2⟩ := q
  exact ⟨L, t, g, h1, h0, frOK_gro h h2⟩
theorem topOK_gro (h : gro A A') (q : topOK A G W r) : topOK A' G W r := by
  obtain ⟨L, t, g, h1, h2⟩ := q
  exact ⟨L, t, g, h1, frOK_gro h h2⟩
theorem tokl_all (W : mW) (g : Nat) : ∀ (t : List (Nat × Nat)) (L : List Bool), tokl W g L t → ∀ q ∈ t, q.1 < 600 ∧ q.2 ≤ L.length
  | [], _, _, q, hq => by cases hq
  | (p, h) :: t, L, ⟨h1, h2, h3, h4⟩, q, hq => by
    rcases List.mem_cons.mp hq with e | e
    · rw [e]; exact ⟨h2, h1⟩
    · obtain ⟨a, b⟩ := tokl_all W g t _ h4 q e
      rw [List.length_drop] at b
      exact ⟨a, by omega⟩
theorem fr_sz (w : wI C G par W nm) (hw : W r.pl = some (L, t, g)) (h : frOK A G r L t g) : r.pl < 600 ∧ r.tr.length ≤ 40 ∧ r.st.length ≤ 390 ∧ (∀ c ∈ r.tr, c.1 < 600 ∧ c.2 ≤ 390) ∧ ∀ c ∈ r.tr, c.2 ≤ r.st.length := by
  obtain ⟨a, b, c, d, e, -⟩ := w.1 _ _ _ _ hw
  have hl := stOK_len h.2.2.2.2.2
  have ht := h.2.2.2.2.1
  have := tokl_all W g t L e
  exact ⟨by omega, by rw [ht]; omega, by omega, fun q hq => by rw [ht] at hq; have := this q hq; omega, fun q hq => by rw [ht] at hq; have := this q hq; omega⟩
theorem wat_sz (w : wI C G par W nm) (h : watOK A G W r) : r.pl < 600 ∧ r.tr.length ≤ 40 ∧ r.st.length ≤ 390 ∧ (∀ c ∈ r.tr, c.1 < 600 ∧ c.2 ≤ 390) ∧ ∀ c ∈ r.tr, c.2 ≤ r.st.length := by
  obtain ⟨L, t, g, hw, h0, h⟩ := h
  obtain ⟨a, b, c, d, e, -⟩ := w.1 _ _ _ _ hw
  have hl := stOK_len h.2.2.2.2.2
  have ht := h.2.2.2.2.1
  have := tokl_all W g t _ h0
  rw [List.length_cons] at b
  exact ⟨by omega, by rw [ht]; omega, by omega, fun q hq => by rw [ht] at hq; have := this q hq; omega, fun q hq => by rw [ht] at hq; have := this q hq; omega⟩
theorem frs_ok (w : wI C G par W nm) (h : frsOK A G W (r :: F)) : mFok (r :: F) ∧ mTh (r :: F) ∧ r.pl + 1 < 600 := by
  obtain ⟨h1, ⟨L, t, g, hw, h2⟩, h3⟩ := h
  have a := fr_sz w hw h2
  refine ⟨⟨by rw [List.length_cons]; omega, fun q hq => ?_⟩, fun q hq => ?_, (w.1 _ _ _ _ hw).1⟩
  · rcases List.mem_cons.mp hq with e | e
    · rw [e]; exact ⟨a.1, a.2.1, a.2.2.1, a.2.2.2.1⟩
    · have b := wat_sz w (h3 q e)
      exact ⟨b.1, b.2.1, b.2.2.1, b.2.2.2.1⟩
  · rcases List.mem_cons.mp hq with e | e
    · rw [e]; exact a.2.2.2.2
    · exact (wat_sz w (h3 q e)).2.2.2.2
/-- a value is thrown: the frames then -/
theorem mts_ok {c : mC} (hc : mval A c.1 c.2.1) : ∀ (F : List mF), F.length ≤ 24 → (∀ q ∈ F, ∃ L t g, tokl W g L t ∧ frOK A G q L t g) → (∀ q ∈ F.tail, watOK A G W q) → frsOK A G W (mts c F)
  | [], _, _, _ => trivial
  | r :: F, hl, h1, h2 => by
    rw [List.length_cons] at hl
    obtain ⟨L, t, g, h3, h4⟩ := h1 r List.mem_cons_self
    obtain ⟨f1, f2, f3, f4, f5, f6⟩ := h4
    cases ht : t with
    | nil =>
      rw [mts_nil (by rw [f5, ht])]
      exact mts_ok hc F (by omega) (fun q hq => h1 q (List.mem_cons_of_mem _ hq)) (fun q hq => h2 q (List.mem_of_mem_tail hq))
    | cons q t' =>
      obtain ⟨p, h⟩ := q
      rw [mts_cons (by rw [f5, ht])]
      rw [ht] at h3
      obtain ⟨k1, k2, k3, k4⟩ := h3
      refine ⟨by omega, ⟨_, _, _, k3, f1, f2, f3, f4, rfl, ?_⟩, fun q hq => h2 q hq⟩
      show mval A c.1 c.2.1 ∧ stOK A (r.st.drop (r.st.length - h)) (L.drop (L.length - h))
      rw [stOK_len f6]
      exact ⟨hc, stOK_drop f6⟩
end
/-! A STEP of both machines: what it comes to -/
/-- how it ends (0 it goes on, 1 thrown, 2 no room, 3 the script is done), the heap, the frames, the lines, what was thrown -/
abbrev mO : Type := Nat × mA × List mF × List Nat × Int32 × Int32
def ownX (Q : zO → zM → Prop) (M : zM) (r : mF) (F : List mF) (o : mO) : Prop :=
  (o.1 = 0 → ∀ M', gX M' o.2.1 o.2.2.1 → xLn M' o.2.2.2.1 → fr cXP M M' → Q (.inl none) M') ∧
  (o.1 = 1 → ∀ M', gX M' o.2.1 (mFpl r (r.pl + 1) :: F) → gi M' 16 57 = o.2.2.2.2.1 → gi M' 16 58 = o.2.2.2.2.2 → fr cX M M' → Q (.inr (52, 14, 0)) M') ∧
  (o.1 = 2 → ∀ M', gX M' o.2.1 (mFpl r (r.pl + 1) :: F) → fr cX M M' → Q (.inr (51, 13, 0)) M') ∧
  (o.1 = 3 → ∀ M', sX M' o.2.1 → xFs M' [] → gi M' 16 51 = 2 → fr cXr M M' → Q (.inl none) M')
def ownT (Q : zO → zM → Prop) (T : zM) (r : mF) (F : List mF) (o : mO) : Prop :=
  (o.1 = 0 → ∀ T', gT T' o.2.1 o.2.2.1 → tLn T' o.2.2.2.1 → fr cTP T T' → Q (.inl none) T') ∧
  (o.1 = 1 → (∀ T', mts (o.2.2.2.2.1, o.2.2.2.2.2, 0, 0) (r :: F) = [] → sT T' o.2.1 → tFs T' [] → gi T' 97 75 = 0 → gi T' 97 73 = 3 → gi T' 97 109 = o.2.2.2.2.1 → gi T' 97 110 = o.2.2.2.2.2 → fr cT T T' → Q (.inl none) T') ∧ ∀ T' r' F', mts (o.2.2.2.2.1, o.2.2.2.2.2, 0, 0) (r :: F) = r' :: F' → gT T' o.2.1 (r' :: F') → fr cT T T' → Q (.inl none) T') ∧
  (o.1 = 2 → ∀ T', nT T' o.2.1 r F → fr cT T T' → Q (.inl none) T') ∧
  (o.1 = 3 → ∀ T', sT T' o.2.1 → tFs T' [] → gi T' 97 75 = 0 → gi T' 97 73 = 2 → fr cT T T' → Q (.inl none) T')
/-- what holds of a step's end -/
def invO (G : mG) (par : Nat → Nat) (W : mW) (A : mA) (o : mO) : Prop :=
  gro A o.2.1 ∧ iA o.2.1 ∧ (o.1 = 0 → J G par o.2.1 ∧ frsOK o.2.1 G W o.2.2.1 ∧ ∃ r F, o.2.2.1 = r :: F) ∧ (o.1 = 1 → J G par o.2.1 ∧ mval o.2.1 o.2.2.2.2.1 o.2.2.2.2.2) ∧ (o.1 = 3 → J G par o.2.1) ∧ o.1 ≤ 3 ∧ (o.2.2.2.1.length ≤ 100 ∧ ∀ x ∈ o.2.2.2.1, x < (aL o.2.1).length)
/-- both machines come to the same -/
def pairO (C : mI) (G : mG) (par : Nat → Nat) (W : mW) (A : mA) (P : List Nat) (r : mF) (F : List mF) : Prop :=
  ∃ o : mO, invO G par W A o ∧
    (∀ (E : zE) (d : Nat) (M : zM) (Q : zO → zM → Prop), gX M A (r :: F) → xG M G → xLn M P → kX M C → ownX Q M r F o → Z E YX1_step (d + 7) M [(0, zX16), (1, vi (nI r.pl))] 0 [] Q) ∧
    ∀ (E : zE) (d : Nat) (T : zM) (Q : zO → zM → Prop), gT T A (r :: F) → tG T G → tLn T P → kT T C → ownT Q T r F o → Zm E YX8_step_2 (d + 800) T [(0, T97)] 0 [] Q
/-- an operation that gives a value in place of n: how it ends -/
def kd (n : Nat) : Nat := if n = 0 then 0 else if n = 1 then 1 else 2
def oE (p : mE) (n : Nat) (r : mF) (F : List mF) (P : List Nat) : mO := (kd p.1, p.2.1, mFst (mFpl r (r.pl + 1)) ((p.2.2.1, p.2.2.2, 0, 0) :: r.st.drop n) :: F, P, p.2.2.1, p.2.2.2)
section
variable {A A' : mA} {G : mG} {W : mW} {par : Nat → Nat} {C : mI} {nm : Nat} {r : mF} {F : List mF} {L : List Bool} {t : List (Nat × Nat)} {g : Nat} {P : List Nat} {Q : zO → zM → Prop} {M T : zM}
theorem own_vX {p : mE} {n : Nat} (hp : xLn M P) (h : ownX Q M r F (oE p n r F P)) : vX Q M p n (mFpl r (r.pl + 1)) F :=
  ⟨fun e M' g f => h.1 (show kd p.1 = 0 by rw [e]; rfl) M' g (xLn_cX hp f) (f.mono fun a k q => .inl q), fun e M' g a b f => h.2.1 (show kd p.1 = 1 by rw [e]; rfl) M' g a b f, fun e M' g f => h.2.2.1 (show kd p.1 = 2 by rw [e]; rfl) M' g f⟩
theorem own_vT {p : mE} {n : Nat} (hp : tLn T P) (h : ownT Q T r F (oE p n r F P)) : vT Q T p n r F :=
  ⟨fun e T' g f => h.1 (show kd p.1 = 0 by rw [e]; rfl) T' g (tLn_cT hp f) (f.mono fun a k q => .inl q), fun e => h.2.1 (show kd p.1 = 1 by rw [e]; rfl), fun e T' a b c d f => h.2.2.1 (show kd p.1 = 2 by rw [e]; rfl) T' ⟨a, b, c, d⟩ f⟩
theorem kd_0 {n : Nat} (h : kd n = 0) : n = 0 := by
  unfold kd at h
  split at h
  · assumption
  · split at h <;> omega
theorem kd_1 {n : Nat} (h : kd n = 1) : n = 1 := by
  unfold kd at h
  split at h
  · omega
  · split at h
    · assumption
    · omega
theorem kd_3 (n : Nat) : kd n ≤ 2 := by
  unfold kd
  split
  · omega
  · split <;> omega
theorem frs_val {A' : mA} {s v : Int32} {n : Nat} {L' : List Bool} (g0 : gro A A') (h : frsOK A G W (r :: F)) (hw : W r.pl = some (L, t, g)) (hf : frOK A G r L t g) (hL : L.drop n = L') (hx : nxt W (r.pl + 1) (false :: L') t g) (hv : mval A' s v) : frsOK A' G W (mFst (mFpl r (r.pl + 1)) ((s, v, 0, 0) :: r.st.drop n) :: F) := by
  obtain ⟨f1, f2, f3, f4, f5, f6⟩ := frOK_gro g0 hf
  refine ⟨h.1, ⟨false :: L', t, g, hx.2, f1, f2, f3, f4, f5, hv, ?_⟩, fun q hq => watOK_gro g0 (h.2.2 q hq)⟩
  show stOK A' (r.st.drop n) L'
  rw [← hL]
  exact stOK_drop f6
theorem pair_v {p : mE} {n : Nat} {L' : List Bool} (hP : P.length ≤ 100 ∧ ∀ x ∈ P, x < (aL A).length) (h : frsOK A G W (r :: F)) (hw : W r.pl = some (L, t, g)) (hf : frOK A G r L t g) (hL : L.drop n = L') (hx : nxt W (r.pl + 1) (false :: L') t g) (hj : jv G par A p)
    (hX : ∀ (E : zE) (d : Nat) (M : zM) (Q : zO → zM → Prop), gX M A (r :: F) → xG M G → kX M C → vX Q M p n (mFpl r (r.pl + 1)) F → Z E YX1_step (d + 7) M [(0, zX16), (1, vi (nI r.pl))] 0 [] Q)
    (hT : ∀ (E : zE) (d : Nat) (T : zM) (Q : zO → zM → Prop), gT T A (r :: F) → tG T G → kT T C → vT Q T p n r F → Zm E YX8_step_2 (d + 800) T [(0, T97)] 0 [] Q) : pairO C G par W A P r F := by
  refine ⟨oE p n r F P, ⟨hj.1, hj.2.1, fun e => ?_, fun e => ?_, fun e => ?_, ?_, hP.1, fun x hx' => Nat.lt_of_lt_of_le (hP.2 x hx') hj.1.len⟩, fun E d M Q a b c e f => hX E d M Q a b e (own_vX c f), fun E d T Q a b c e f => hT E d T Q a b e (own_vT c f)⟩
  · have z := hj.2.2 (by have := kd_0 (show kd p.1 = 0 from e); omega)
    exact ⟨z.1, frs_val hj.1 h hw hf hL hx z.2, _, _, rfl⟩
  · exact hj.2.2 (by have := kd_1 (show kd p.1 = 1 from e); omega)
  · have : kd p.1 = 3 := e
    have := kd_3 p.1
    omega
  · show kd p.1 ≤ 3
    have := kd_3 p.1
    omega
end
