/-! THE CODE OF A WHOLE SCRIPT is typed -/
/-- how far out a name's function is -/
def hopN (F : List gF) : Nat → Nat → Nat → Option Nat
  | 0, _, _ => none
  | u + 1, f, x => if f = 0 then none else match F[f]? with
    | some q => if x ∈ q.1 then some 0 else (hopN F u q.2.2.2.1 x).map (· + 1)
    | none => none
def envN (F : List gF) (k : Nat) : gN := (k, hopN F (k + 1) k)
def gOne (F : List gF) (k : Nat) (s : gS) : gS := match F[k]? with
  | some q => gFn (envN F k) (if k = 0 then q.1 else []) q.2.2.2.2.1 q.2.2.2.2.2 s
  | none => s
def gAll (F : List gF) : Nat → gS
  | 0 => ([], 0, fun _ => none, 0, 0, 0)
  | k + 1 => gOne F k (gAll F k)
def parN (F : List gF) (k : Nat) : Nat := match F[k]? with | some q => q.2.2.2.1 | none => 0
def ownN : Option Nat → Int32
  | some x => nI x
  | none => -1
/-- the functions, as they are run -/
def gGs (F : List gF) : mG := (List.range F.length).map fun k => ((gAll F k).c.length, match F[k]? with | some q => (q.2.1, q.1, ownN q.2.2.1) | none => (0, [], -1))
/-- where a mark is; the instructions; their types -/
def posN (s : gS) (m : Nat) : Nat := (s.at m).getD 0
def gCd (s : gS) : mI := s.c.map fun q => (q.1.1, (match q.2.1 with | some m => nI (posN s m) | none => q.1.2.1), q.1.2.2)
def trN (s : gS) (t : List (Nat × Nat)) : List (Nat × Nat) := t.map fun x => (posN s x.1, x.2)
def gWt (s : gS) : mW := fun k => match s.c[k]? with | some q => some (q.2.2.2.2.2.1, trN s q.2.2.2.2.2.2, q.2.2.1) | none => none
theorem anc_par (par : Nat → Nat) (g : Nat) : ∀ h, anc par g (h + 1) = anc par (par g) h
  | 0 => rfl
  | h + 1 => by show par (anc par g (h + 1)) = par (anc par (par g) h); rw [anc_par par g h]
/-- variables that are there -/
def voN (F : List gF) (g h x : Nat) : Prop := h < 600 ∧ (∀ j, j ≤ h → 1 ≤ anc (parN F) g j) ∧ ∃ q, F[anc (parN F) g h]? = some q ∧ x ∈ q.1
theorem hopN_vo {F : List gF} : ∀ (u g h x : Nat), hopN F u g x = some h → h < u ∧ (∀ j, j ≤ h → 1 ≤ anc (parN F) g j) ∧ ∃ q, F[anc (parN F) g h]? = some q ∧ x ∈ q.1
  | 0, g, h, x, e => by cases e
  | u + 1, g, h, x, e => by
    unfold hopN at e
    by_cases g0 : g = 0
    · rw [if_pos g0] at e; cases e
    rw [if_neg g0] at e
    cases hq : F[g]? with
    | none => rw [hq] at e; cases e
    | some q =>
      rw [hq] at e
      dsimp only at e
      by_cases hx : x ∈ q.1
      · rw [if_pos hx] at e
        cases e
        exact ⟨Nat.zero_lt_succ _, fun j hj => by rw [show j = 0 by omega]; show 1 ≤ g; omega, q, hq, hx⟩
      · rw [if_neg hx] at e
        cases hr : hopN F u q.2.2.2.1 x with
        | none => rw [hr] at e; cases e
        | some h' =>
          rw [hr] at e
          have e : h' + 1 = h := Option.some.inj e
          subst e
          obtain ⟨k1, k2, k3⟩ := hopN_vo u _ _ _ hr
          have pe : parN F g = q.2.2.2.1 := by unfold parN; rw [hq]
          refine ⟨by omega, fun j hj => ?_, ?_⟩
          · cases j with
            | zero => show 1 ≤ g; omega
            | succ j => rw [anc_par, pe]; exact k2 j (by omega)
          · show ∃ q, F[anc (parN F) g (h' + 1)]? = some q ∧ x ∈ q.1
            rw [anc_par, pe]; exact k3
section
variable {s : gS} {θ : tH} {μ : Nat → tyP} {N B : Nat}
/-- what is typed, with all marks placed, behind nothing: the next instruction is there -/
theorem wt_at (h : tyS θ μ (fun _ => False) s ([], [], B)) {p : Nat} {L : List Bool} {t : List (Nat × Nat)} {g : Nat} (e : typ s ([], [], B) p = (L, t, g)) (hg : g < B) : p < s.c.length ∧ gWt s p = some (L, trN s t, g) := by
  unfold typ at e
  unfold gWt
  cases hq : s.c[p]? with
  | none =>
    rw [hq] at e
    have := congrArg (fun x : tyP => x.2.2) e
    dsimp only at this
    omega
  | some q =>
    rw [hq] at e
    have e : tyOf q = (L, t, g) := e
    unfold tyOf at e
    have e1 := congrArg (fun x : tyP => x.1) e
    have e2 := congrArg (fun x : tyP => x.2.1) e
    have e3 := congrArg (fun x : tyP => x.2.2) e
    dsimp only at e1 e2 e3
    refine ⟨(List.getElem?_eq_some_iff.mp hq).1, ?_⟩
    dsimp only
    rw [e1, e2, e3]
theorem wt_mk (h : tyS θ μ (fun _ => False) s ([], [], B)) {m : Nat} (hm : pnd (fun _ => False) s m) {L : List Bool} {t : List (Nat × Nat)} {g : Nat} (e : μ m = (L, t, g)) (hg : g < B) : posN s m < s.c.length ∧ gWt s (posN s m) = some (L, trN s t, g) := by
  cases hp : s.at m with
  | none => exact (hm.2 hp).elim
  | some p =>
    obtain ⟨h1, h2, h3⟩ := h.2 m p hp
    have ep : posN s m = p := by unfold posN; rw [hp]; rfl
    rw [ep]
    exact wt_at h (h3.trans e) hg
theorem wt_tk (h : tyS θ μ (fun _ => False) s ([], [], B)) (h6 : s.c.length < 600) {g : Nat} (hg : g < B) : ∀ {t : List (Nat × Nat)} {L : List Bool}, tkm μ s.m g L t → (∀ x ∈ t, pnd (fun _ => False) s x.1) → tokl (gWt s) g L (trN s t)
  | [], _, _, _ => trivial
  | (m, k) :: t, L, ⟨h1, h2, h3, h4⟩, hp => by
    obtain ⟨k1, k2⟩ := wt_mk h (hp _ List.mem_cons_self) h3 hg
    exact ⟨h1, by omega, k2, wt_tk h h6 hg h4 (fun x hx => hp x (List.mem_cons_of_mem _ hx))⟩
/-- one instruction -/
theorem wt_op {F : List gF} {G : mG} {nm : Nat} (hGl : G.length = F.length) (hGF : ∀ (k : Nat) q, F[k]? = some q → ∃ p, G[k]? = some p ∧ p.2.2.1 = q.1) (hnm : nm ≤ 400) (hvx : ∀ (k : Nat) q, F[k]? = some q → ∀ x ∈ q.1, x < 400) (hsi : 29 + 6 * (G.length - 1) + 2 * s.si < 162) (h6 : s.c.length < 600) (hB : B = F.length)
    (h : tyS (nm, voN F, fun a f => 1 ≤ f ∧ f < F.length ∧ parN F f = a) μ (fun _ => False) s ([], [], B)) {k : Nat} {q : gI} (hk : s.c[k]? = some q) (hg : q.2.2.1 < B) :
    opOK G (parN F) (gWt s) nm q.1.1 (match q.2.1 with | some m => nI (posN s m) | none => q.1.2.1) q.1.2.2 k q.2.2.2.2.2.1 (trN s q.2.2.2.2.2.2) q.2.2.1 := by
  obtain ⟨ho, hk1, hk2, hk3⟩ := h.1 k q hk
  have nx : ∀ {L : List Bool} {t : List (Nat × Nat)}, typ s ([], [], B) (k + 1) = (L, t, q.2.2.1) → nxt (gWt s) (k + 1) L (trN s t) q.2.2.1 := fun e => by
    obtain ⟨a1, a2⟩ := wt_at h e hg
    exact ⟨by omega, a2⟩
  have jp : ∀ {m : Nat} {L : List Bool} {t : List (Nat × Nat)}, q.2.1 = some m → μ m = (L, t, q.2.2.1) → nxt (gWt s) (posN s m) L (trN s t) q.2.2.1 := fun e1 e => by
    obtain ⟨a1, a2⟩ := wt_mk h (hk2 _ e1) e hg
    exact ⟨by omega, a2⟩
  have tk : ∀ {L : List Bool}, tkm μ s.m q.2.2.1 L q.2.2.2.2.2.2 → tokl (gWt s) q.2.2.1 L (trN s q.2.2.2.2.2.2) := fun e => wt_tk h h6 hg e hk3
  have vo : ∀ {a x : Nat}, voN F q.2.2.1 a x → varOK G (parN F) q.2.2.1 (Int32.ofNat a) (Int32.ofNat x) := fun {a x} e => by
    obtain ⟨e1, e2, p, e3, e4⟩ := e
    obtain ⟨p', e5, e6⟩ := hGF _ _ e3
    exact ⟨a, x, p', rfl, rfl, e1, hvx _ _ e3 x e4, e2, e5, by rw [e6]; exact e4⟩
  obtain ⟨⟨op, a, b⟩, mk, f, o1, o2, L, t⟩ := q
  dsimp only at ho hk1 hk2 hk3 nx jp tk vo hg ⊢
  unfold opOK
  cases ho using opF.ind with
  | co h1 h2 =>
    obtain ⟨j, c1, c2, c3⟩ := h1
    exact .inl ⟨rfl, ⟨j, c2, c1, c3⟩, nx h2⟩
  | ld h1 h2 => exact .inr (.inl ⟨rfl, vo h1, nx h2⟩)
  | st h1 h2 h3 => exact .inr (.inr (.inl ⟨rfl, vo h1, ⟨_, h2⟩, nx h3⟩))
  | gl h1 => exact .inr (.inr (.inr (.inl ⟨rfl, nx h1⟩)))
  | sg h1 h2 h3 => exact .inr (.inr (.inr (.inr (.inl ⟨rfl, ⟨_, rfl, h1⟩, ⟨_, h2⟩, nx h3⟩))))
  | tg h1 => exact .inr (.inr (.inr (.inr (.inr (.inl ⟨rfl, nx h1⟩)))))
  | th h1 => exact .inr (.inr (.inr (.inr (.inr (.inr (.inl ⟨rfl, nx h1⟩))))))
  | nw h1 h2 h3 =>
    rcases h1 with h1 | h1
    · rw [h1]; exact .inr (.inr (.inr (.inr (.inr (.inr (.inr (.inl ⟨rfl, ⟨_, rfl, by unfold siteOK; omega⟩, nx h3⟩)))))))
    · rw [h1]; exact .inr (.inr (.inr (.inr (.inr (.inr (.inr (.inr (.inl ⟨rfl, ⟨_, rfl, by unfold siteOK; omega⟩, nx h3⟩))))))))
  | md h1 h2 => exact .inr (.inr (.inr (.inr (.inr (.inr (.inr (.inr (.inr (.inl ⟨rfl, ⟨_, rfl, h1.1, by rw [hGl]; exact h1.2.1, h1.2.2⟩, nx h2⟩)))))))))
  | b2 h1 h2 h3 =>
    rcases h1 with h1 | h1
    · rw [h1]; exact .inr (.inr (.inr (.inr (.inr (.inr (.inr (.inr (.inr (.inr (.inl ⟨rfl, _, h2, nx h3⟩))))))))))
    · rw [h1]; exact .inr (.inr (.inr (.inr (.inr (.inr (.inr (.inr (.inr (.inr (.inr (.inr (.inl ⟨rfl, _, h2, nx h3⟩))))))))))))
  | pt h2 h3 => exact .inr (.inr (.inr (.inr (.inr (.inr (.inr (.inr (.inr (.inr (.inr (.inl ⟨rfl, _, h2, nx h3⟩)))))))))))
  | un h1 h2 h3 => exact .inr (.inr (.inr (.inr (.inr (.inr (.inr (.inr (.inr (.inr (.inr (.inr (.inr (.inl ⟨rfl, ⟨_, rfl, h1⟩, _, h2, nx h3⟩)))))))))))))
  | bi h1 h2 h3 => exact .inr (.inr (.inr (.inr (.inr (.inr (.inr (.inr (.inr (.inr (.inr (.inr (.inr (.inr (.inl ⟨rfl, ⟨_, rfl, h1⟩, _, h2, nx h3⟩))))))))))))))
  | cl h1 h2 h3 => exact .inr (.inr (.inr (.inr (.inr (.inr (.inr (.inr (.inr (.inr (.inr (.inr (.inr (.inr (.inr (.inl ⟨rfl, _, _, rfl, h1, tk h2, nx h3⟩)))))))))))))))
  | ne h0 h1 h2 h3 => exact .inr (.inr (.inr (.inr (.inr (.inr (.inr (.inr (.inr (.inr (.inr (.inr (.inr (.inr (.inr (.inr (.inl ⟨rfl, _, _, _, rfl, rfl, by unfold siteOK; omega, h1, tk h2, nx h3⟩))))))))))))))))
  | dr h2 h3 => exact .inr (.inr (.inr (.inr (.inr (.inr (.inr (.inr (.inr (.inr (.inr (.inr (.inr (.inr (.inr (.inr (.inr (.inl ⟨rfl, _, _, h2, nx h3⟩)))))))))))))))))
  | cp h2 h3 => exact .inr (.inr (.inr (.inr (.inr (.inr (.inr (.inr (.inr (.inr (.inr (.inr (.inr (.inr (.inr (.inr (.inr (.inr (.inl ⟨rfl, _, h2, nx h3⟩))))))))))))))))))
  | c2 h2 h3 => exact .inr (.inr (.inr (.inr (.inr (.inr (.inr (.inr (.inr (.inr (.inr (.inr (.inr (.inr (.inr (.inr (.inr (.inr (.inr (.inl ⟨rfl, _, h2, nx h3⟩)))))))))))))))))))
  | c3 h2 h3 => exact .inr (.inr (.inr (.inr (.inr (.inr (.inr (.inr (.inr (.inr (.inr (.inr (.inr (.inr (.inr (.inr (.inr (.inr (.inr (.inr (.inl ⟨rfl, _, h2, nx h3⟩))))))))))))))))))))
  | jm h1 => exact .inr (.inr (.inr (.inr (.inr (.inr (.inr (.inr (.inr (.inr (.inr (.inr (.inr (.inr (.inr (.inr (.inr (.inr (.inr (.inr (.inr (.inl ⟨rfl, _, rfl, jp rfl h1⟩)))))))))))))))))))))
  | ul h1 h2 h3 => exact .inr (.inr (.inr (.inr (.inr (.inr (.inr (.inr (.inr (.inr (.inr (.inr (.inr (.inr (.inr (.inr (.inr (.inr (.inr (.inr (.inr (.inr (.inl ⟨rfl, _, _, rfl, h1, jp rfl h2, nx h3⟩))))))))))))))))))))))
  | ao h0 h1 h2 h3 => exact .inr (.inr (.inr (.inr (.inr (.inr (.inr (.inr (.inr (.inr (.inr (.inr (.inr (.inr (.inr (.inr (.inr (.inr (.inr (.inr (.inr (.inr (.inr (.inl ⟨h0, _, _, rfl, h1, jp rfl h2, nx h3⟩)))))))))))))))))))))))
  | rt h1 => exact .inr (.inr (.inr (.inr (.inr (.inr (.inr (.inr (.inr (.inr (.inr (.inr (.inr (.inr (.inr (.inr (.inr (.inr (.inr (.inr (.inr (.inr (.inr (.inr (.inl ⟨rfl, _, h1⟩))))))))))))))))))))))))
  | tw h1 => exact .inr (.inr (.inr (.inr (.inr (.inr (.inr (.inr (.inr (.inr (.inr (.inr (.inr (.inr (.inr (.inr (.inr (.inr (.inr (.inr (.inr (.inr (.inr (.inr (.inr (.inl ⟨rfl, _, h1⟩)))))))))))))))))))))))))
  | @tr m h1 =>
    have hp : posN s m < 600 := by
      have hm := hk2 m rfl
      cases hp : s.at m with
      | none => exact (hm.2 hp).elim
      | some p =>
        have := (h.2 m p hp).1
        have ep : posN s m = p := by unfold posN; rw [hp]; rfl
        omega
    exact .inr (.inr (.inr (.inr (.inr (.inr (.inr (.inr (.inr (.inr (.inr (.inr (.inr (.inr (.inr (.inr (.inr (.inr (.inr (.inr (.inr (.inr (.inr (.inr (.inr (.inr (.inl ⟨rfl, _, rfl, hp, nx h1⟩))))))))))))))))))))))))))
  | lv h1 h2 => exact .inr (.inr (.inr (.inr (.inr (.inr (.inr (.inr (.inr (.inr (.inr (.inr (.inr (.inr (.inr (.inr (.inr (.inr (.inr (.inr (.inr (.inr (.inr (.inr (.inr (.inr (.inr (.inl ⟨rfl, _, _, by rw [h1]; rfl, nx h2⟩)))))))))))))))))))))))))))
  | ls h1 h2 => exact .inr (.inr (.inr (.inr (.inr (.inr (.inr (.inr (.inr (.inr (.inr (.inr (.inr (.inr (.inr (.inr (.inr (.inr (.inr (.inr (.inr (.inr (.inr (.inr (.inr (.inr (.inr (.inr (.inl ⟨rfl, _, h1, nx h2⟩))))))))))))))))))))))))))))
  | ni h1 h2 h3 => exact .inr (.inr (.inr (.inr (.inr (.inr (.inr (.inr (.inr (.inr (.inr (.inr (.inr (.inr (.inr (.inr (.inr (.inr (.inr (.inr (.inr (.inr (.inr (.inr (.inr (.inr (.inr (.inr (.inr ⟨rfl, _, _, rfl, h1, jp rfl h2, nx h3⟩))))))))))))))))))))))))))))
theorem nodup_ln : ∀ (n : Nat) (l : List Nat), l.Nodup → (∀ x ∈ l, x < n) → l.length ≤ n
  | 0, l, _, h => by
    cases l with
    | nil => exact Nat.le_refl _
    | cons x r => exact absurd (h x List.mem_cons_self) (by omega)
  | n + 1, l, hd, h => by
    by_cases m : n ∈ l
    · have e := List.length_erase_of_mem m
      have ih := nodup_ln n (l.erase n) (hd.erase n) (fun x hx => by
        have := hd.mem_erase_iff.mp hx
        have := h x this.2
        omega)
      omega
    · exact Nat.le_succ_of_le (nodup_ln n l hd fun x hx => by
        have := h x hx
        have : x ≠ n := fun e => m (by rw [← e]; exact hx)
        omega)
theorem Fg_len (F : List gF) : (gGs F).length = F.length := by unfold gGs; rw [List.length_map, List.length_range]
theorem Fg_get {F : List gF} {k : Nat} {q : gF} (h : F[k]? = some q) : (gGs F)[k]? = some ((gAll F k).c.length, q.2.1, q.1, ownN q.2.2.1) := by
  have hk := (List.getElem?_eq_some_iff.mp h).1
  unfold gGs
  rw [List.getElem?_map, List.getElem?_range hk]
  show some ((gAll F k).c.length, match F[k]? with | some q => (q.2.1, q.1, ownN q.2.2.1) | none => (0, [], -1)) = _
  rw [h]
/-- the state after k functions is typed, and high no more than it may be -/
theorem all_ty {s' : pS} (hi : iS 0 s') (hn : nwF 0 s') (hF : s'.2.2.length ≤ 600) : ∀ k, k ≤ s'.2.2.length → ∃ μ, tyS (nmS s', voN s'.2.2, fun a f => 1 ≤ f ∧ f < s'.2.2.length ∧ parN s'.2.2 f = a) μ (fun _ => False) (gAll s'.2.2 k) ([], [], k) ∧ (∀ (p : Nat) (q : gI), (gAll s'.2.2 k).c[p]? = some q → 2 * q.2.2.2.2.2.1.length ≤ (gAll s'.2.2 k).c.length + 170 ∧ q.2.2.2.2.2.2.length ≤ 40 ∧ q.2.2.1 < k) ∧ (∀ j, j ≤ k → (gAll s'.2.2 j).c.length ≤ (gAll s'.2.2 k).c.length) ∧ ∀ j, j < k → typ (gAll s'.2.2 k) ([], [], k) (gAll s'.2.2 j).c.length = ([], [], j) := by
  intro k
  induction k with
  | zero => exact fun _ => ⟨fun _ => ([], [], 0), ⟨(fun k q hq => by cases hq), (fun m p hp => by cases hp)⟩, (fun p q hq => by cases hq), (fun j hj => by rw [show j = 0 by omega]; exact Nat.le_refl _), (fun j hj => by omega)⟩
  | succ k ih =>
    intro hk
    obtain ⟨μ, h1, h2, h3, h4⟩ := ih (by omega)
    have hq : s'.2.2[k]? = some (s'.2.2[k]'(by omega)) := List.getElem?_eq_getElem (by omega)
    generalize s'.2.2[k]'(by omega) = q at hq
    have e : gAll s'.2.2 (k + 1) = gFn (envN s'.2.2 k) (if k = 0 then q.1 else []) q.2.2.2.2.1 q.2.2.2.2.2 (gAll s'.2.2 k) := by
      show gOne s'.2.2 k (gAll s'.2.2 k) = _
      unfold gOne
      rw [hq]
    have v := hi.2 k q hq
    have f := hn k q (Nat.zero_le _) hq
    obtain ⟨μ', r⟩ := ty_fn (θ := (nmS s', voN s'.2.2, fun a f => 1 ≤ f ∧ f < s'.2.2.length ∧ parN s'.2.2 f = a)) (f := k) (e := envN s'.2.2 k) (N := nmS s') (Φ := fuS s' k) (Nat.le_refl _) (fun f hf => by
      obtain ⟨k1, q', k2, k3⟩ := hf
      exact ⟨k1, (List.getElem?_eq_some_iff.mp k2).1, by unfold parN; rw [k2]; exact k3⟩) ⟨rfl, fun x h hx => by
      obtain ⟨k1, k2, k3⟩ := hopN_vo (k + 1) k h x hx
      exact ⟨by omega, k2, k3⟩⟩ (gl := if k = 0 then q.1 else []) (fun x hx => by
      split at hx
      · exact v.1 x hx
      · cases hx) (dc := q.2.2.2.2.1) (fun p hp => by
      obtain ⟨⟨k1, q', k2, k3⟩, k4⟩ := f.2 p hp
      exact ⟨⟨k1, (List.getElem?_eq_some_iff.mp k2).1, by unfold parN; rw [k2]; exact k3⟩, k4⟩) f.1 h1 ([], [], k + 1)
    have hs := hS_fn (e := envN s'.2.2 k) (gl := if k = 0 then q.1 else []) (dc := q.2.2.2.2.1) f.1 (gAll s'.2.2 k)
    rw [← e] at r hs
    have l := hs.len
    refine ⟨μ', r.1, fun p q' hp => ?_, fun j hj => ?_, fun j hj => ?_⟩
    · obtain ⟨n, a1, a2⟩ := hs
      rw [a1] at hp
      by_cases z : p < (gAll s'.2.2 k).c.length
      · rw [List.getElem?_append_left z] at hp
        have := h2 p q' hp
        exact ⟨by omega, this.2.1, by omega⟩
      · rw [List.getElem?_append_right (by omega)] at hp
        have := a2 q' (List.mem_of_getElem? hp)
        exact ⟨this.1, this.2.1, by rw [this.2.2]; exact Nat.lt_succ_self _⟩
    · by_cases z : j = k + 1
      · rw [z]; exact Nat.le_refl _
      · exact Nat.le_trans (h3 j (by omega)) l
    · rw [r.2.2.2.2.2.1 _ (h3 j (by omega))]
      by_cases z : j = k
      · rw [z]; exact typ_end (Nat.le_refl _)
      · exact h4 j (by omega)
/-- THE CODE IS TYPED -/
theorem all_wI {s' : pS} (hi : iS 0 s') (hn : nwF 0 s') (h11 : s'.2.2.length ≤ 11) (h90 : nmS s' ≤ 90) (hsi : (gAll s'.2.2 s'.2.2.length).si ≤ 19) (h5 : (gAll s'.2.2 s'.2.2.length).c.length ≤ 599) :
    wI (gCd (gAll s'.2.2 s'.2.2.length)) (gGs s'.2.2) (parN s'.2.2) (gWt (gAll s'.2.2 s'.2.2.length)) (nmS s') ∧ wG (gGs s'.2.2) (nmS s') := by
  obtain ⟨μ, h1, h2, h3, h4⟩ := all_ty hi hn (by omega) s'.2.2.length (Nat.le_refl _)
  have gl := Fg_len s'.2.2
  have hGF : ∀ (k : Nat) q, s'.2.2[k]? = some q → ∃ p, (gGs s'.2.2)[k]? = some p ∧ p.2.2.1 = q.1 := fun k q hq => ⟨_, Fg_get hq, rfl⟩
  have beg : ∀ (g : Nat) q, (gGs s'.2.2)[g]? = some q → g < s'.2.2.length ∧ ∃ p, s'.2.2[g]? = some p ∧ q = ((gAll s'.2.2 g).c.length, p.2.1, p.1, ownN p.2.2.1) := fun g q hq => by
    have hl : g < s'.2.2.length := by rw [← gl]; exact (List.getElem?_eq_some_iff.mp hq).1
    have e : s'.2.2[g]? = some (s'.2.2[g]'hl) := List.getElem?_eq_getElem hl
    refine ⟨hl, _, e, ?_⟩
    rw [Fg_get e] at hq
    exact (Option.some.inj hq).symm
  have bw : ∀ g, g < s'.2.2.length → (gAll s'.2.2 g).c.length < (gAll s'.2.2 s'.2.2.length).c.length ∧ gWt (gAll s'.2.2 s'.2.2.length) (gAll s'.2.2 g).c.length = some ([], [], g) := fun g hg => wt_at h1 (h4 g hg) hg
  refine ⟨⟨fun k L t g hk => ?_, fun g q hq => ?_, fun g hg1 hg2 => by omega⟩, ⟨by rw [gl]; exact hi.1, by omega, fun q hq => ?_⟩⟩
  · unfold gWt at hk
    cases hq : (gAll s'.2.2 s'.2.2.length).c[k]? with
    | none => rw [hq] at hk; cases hk
    | some q =>
      rw [hq] at hk
      cases hk
      have hl := (List.getElem?_eq_some_iff.mp hq).1
      obtain ⟨a1, a2, a3⟩ := h2 k q hq
      obtain ⟨-, b2, b3, b4⟩ := h1.1 k q hq
      refine ⟨by omega, by omega, by unfold trN; rw [List.length_map]; exact a2, by omega, wt_tk h1 (by omega) a3 b2 b4, (q.1.1, (match q.2.1 with | some m => nI (posN (gAll s'.2.2 s'.2.2.length) m) | none => q.1.2.1), q.1.2.2), ?_, wt_op (F := s'.2.2) gl hGF (by omega) (fun k q hq x hx => by have := (hi.2 k q hq).1 x hx; omega) (by omega) (by omega) rfl h1 hq a3⟩
      unfold gCd
      rw [List.getElem?_map, hq]
      rfl
  · obtain ⟨hl, p, e, rfl⟩ := beg g q hq
    exact (bw g hl).2
  · obtain ⟨g, hg⟩ := List.mem_iff_getElem?.mp hq
    obtain ⟨hl, p, e, rfl⟩ := beg g q hg
    have v := hi.2 g p e
    have := nodup_ln _ _ v.2.2.2.1 v.1
    exact ⟨by have := (bw g hl).1; dsimp only; omega, by dsimp only; omega, v.2.2.2.2, v.1⟩
end
