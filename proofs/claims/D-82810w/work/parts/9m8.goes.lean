/-! THE COMPONENT's CODER: break and continue -/
def gB (out : Bool) : Int32 := if out then 0 else 1
/-- g is the around that break (out) or continue goes to -/
def tgO (out : Bool) : gK → List Nat → Nat → Prop
  | [], _, _ => False
  | w :: Γ, l, g => (w.1 = 4 ∧ ∃ b2 l', l = b2 :: g :: l') ∨ (w.1 ≠ 4 ∧ (w.1 = 0 ∨ w.1 = 1 ∧ out = true) ∧ ∃ l', l = g :: l') ∨ (w.1 ≠ 4 ∧ ¬ (w.1 = 0 ∨ w.1 = 1 ∧ out = true) ∧ ∃ b l', l = b :: l' ∧ tgO out Γ l' g)
theorem tgO_mem {M : zM} {A : List Nat} {m : Nat} {st : gS} {out : Bool} : ∀ (Γ : gK) (v : Nat) (l bs : List Nat) (ps : List (Option zP)) (g : Nat), tgO out Γ l g → xCh M A m st v Γ l bs ps → ∃ i, i < v ∧ A[i]? = some g ∧ (gr M g 5 = none ∨ ∃ b2, gr M g 5 = some (b2, 17, 0) ∧ i + 1 < v ∧ A[i + 1]? = some b2)
  | [], _, _, _, _, _, h, _ => h.elim
  | w :: Γ, v, l, bs, ps, g, h, hc => by
    obtain ⟨i, b, l', β, bs', p, ps', e1, e2, hi, hb, h3, h4⟩ := hc
    rcases h with ⟨z4, b2, l2, z⟩ | ⟨z4, zt, l2, z⟩ | ⟨z4, zt, b2, l2, z, zg⟩
    · rw [if_pos z4] at h3
      obtain ⟨b2', c1, c2, c3, c4, -⟩ := h3
      rw [z] at c1
      have eg : g = b := (List.cons.inj (List.cons.inj c1).2).1
      subst eg
      exact ⟨i, hi, hb, .inr ⟨b2', c4, c2, c3⟩⟩
    · rw [if_neg z4] at h3
      have c1 := h3.1
      rw [z] at c1
      have eg : g = b := (List.cons.inj c1).1
      subst eg
      exact ⟨i, hi, hb, .inl h3.2.1⟩
    · rw [if_neg z4] at h3
      have c1 := h3.1
      rw [z] at c1
      have el : l2 = l' := (List.cons.inj c1).2
      subst el
      obtain ⟨i', q1, q2, q3⟩ := tgO_mem Γ i l2 bs' ps' g zg h4
      exact ⟨i', by omega, q2, q3.imp id fun ⟨b3, y1, y2, y3⟩ => ⟨b3, y1, by omega, y3⟩⟩
section
variable {E : zE} {d : Nat} {Q : zO → zM → Prop} {M : zM}
theorem y_find {out : Bool} {r2 : Option zP} (hw : cw M) : ∀ (Γ : gK) (p : Option zP) (l : List Nat), xAr M p Γ l → (∀ w ∈ Γ, w.1 ≤ 4) → (∃ w ∈ Γ, w.1 = 0 ∨ w.1 = 4 ∨ w.1 = 1 ∧ out = true) → (∀ g, tgO out Γ l g → Z E YX3_goOut (d + 1) M [(0, C29), (1, vi (gB out)), (2, vr r2), (3, vr (some (g, 17, 0)))] 37 [] Q) → Z E YX3_goOut (d + 1) M [(0, C29), (1, vi (gB out)), (2, vr r2), (3, vr p)] 10 [] Q
  | [], _, _, _, _, h, _ => by obtain ⟨w, hw, _⟩ := h; cases hw
  | w :: Γ, p, [], h, _, _, _ => h.elim
  | w :: Γ, p, b :: l, h, hk, ht, hQ => by
    obtain ⟨h1, h2, h3⟩ := h
    have hw4 := hk w List.mem_cons_self
    refine sX3_goOut_10 M _ _ p hw ⟨b, h1, ?_⟩
    by_cases h4 : w.1 = 4
    · rw [if_pos h4] at h3
      obtain ⟨b2, l2, e1, e2, e3, e4, e5, e6, e7⟩ := h3
      have go : Z E YX3_goOut (d + 1) M [(0, C29), (1, vi (gB out)), (2, vr r2), (3, vr (gr M b 4))] 10 [] Q := by
        rw [e4]
        refine sX3_goOut_10 M _ _ _ hw ⟨b2, rfl, ?_⟩
        rw [e6, if_pos rfl]
        exact hQ b2 (.inl ⟨h4, b, l2, by rw [e1]⟩)
      rw [e2, if_neg (by decide)]
      cases out with
      | false => rw [if_neg (by decide)]; exact go
      | true => rw [if_pos (show gB true = 0 from rfl), if_neg (by decide)]; exact go
    · rw [if_neg h4] at h3
      obtain ⟨e1, e2, e3, e4⟩ := h3
      rw [e2]
      by_cases h0 : w.1 = 0
      · rw [if_pos (by rw [h0]; rfl)]
        exact hQ b (.inr (.inl ⟨h4, .inl h0, l, rfl⟩))
      · rw [if_neg (by rw [nn_eql (by omega) (by decide)]; exact h0)]
        have rc : ¬ (w.1 = 1 ∧ out = true) → Z E YX3_goOut (d + 1) M [(0, C29), (1, vi (gB out)), (2, vr r2), (3, vr (gr M b 4))] 10 [] Q := fun hn => y_find hw Γ _ l e4 (fun w' hw' => hk w' (List.mem_cons_of_mem _ hw')) (by
          obtain ⟨w', q1, q2⟩ := ht
          rcases List.mem_cons.mp q1 with z | z
          · rw [z] at q2
            rcases q2 with y | y | y
            · exact absurd y h0
            · exact absurd y h4
            · exact absurd y hn
          · exact ⟨w', z, q2⟩) (fun g hg => hQ g (.inr (.inr ⟨h4, fun z => z.elim h0 hn, b, l, rfl, hg⟩)))
        cases out with
        | false => rw [if_neg (by decide)]; exact rc (fun z => by cases z.2)
        | true =>
          rw [if_pos (show gB true = 0 from rfl)]
          by_cases h1' : w.1 = 1
          · rw [if_pos (by rw [h1']; rfl)]
            exact hQ b (.inr (.inl ⟨h4, .inr ⟨h1', rfl⟩, l, rfl⟩))
          · rw [if_neg (by rw [nn_eql (by omega) (by decide)]; exact h1')]
            exact rc (fun z => h1' z.1)
theorem go37 {out : Bool} {r2 : Option zP} {g b : Nat} (hw : cw M) (h9 : gr M 29 9 = some (b, 17, 0)) (hb : 190 ≤ b) (hg : 190 ≤ g) (hne : b ≠ g) (how : gr M g 5 = none ∨ ∃ b2, gr M g 5 = some (b2, 17, 0) ∧ 190 ≤ b2 ∧ b ≠ b2 ∨ out = true) (k : Z E YX3_goOut (d + 1) M [(0, C29), (1, vi (gB out)), (2, vr r2), (3, vr (some (g, 17, 0))), (4, vr (some (b, 17, 0))), (5, vi 0)] 69 [] Q) : Z E YX3_goOut (d + 1) M [(0, C29), (1, vi (gB out)), (2, vr r2), (3, vr (some (g, 17, 0)))] 37 [] Q := by
  have zc : ∀ x, 190 ≤ x → zcmp (some (x, 17, 0)) := fun x hx p hp => by cases hp; exact .inr (by show 16 ≤ x; omega)
  refine iX3_goOut_37 M _ _ g hw ?_
  rw [h9]
  refine ⟨⟨zc b hb, zc g hg⟩, ?_⟩
  rw [if_neg (show ¬ zfst (some (b, 17, 0)) = zfst (some (g, 17, 0)) from fun z => hne (Option.some.inj z))]
  cases out with
  | true => rw [if_pos (show gB true = 0 from rfl)]; exact k
  | false =>
    rw [if_neg (by decide)]
    rcases how with z | ⟨b2, ⟨z, z1, z2⟩ | z⟩
    · rw [z]
      exact ⟨⟨zc b hb, fun p hp => by cases hp⟩, by rw [if_neg (show ¬ zfst (some (b, 17, 0)) = zfst none from fun y => by cases y)]; exact k⟩
    · rw [z]
      exact ⟨⟨zc b hb, zc b2 z1⟩, by rw [if_neg (show ¬ zfst (some (b, 17, 0)) = zfst (some (b2, 17, 0)) from fun y => z2 (Option.some.inj y))]; exact k⟩
    · cases z
theorem fr_sr9 {q q' : Option zP} : fr p9 (sr M 29 9 q) (sr M 29 9 q') := ⟨⟨rfl, rfl⟩, fun x k h => ⟨rfl, rfl, by simp only [gr_sr]; unfold p9 at h; grind⟩⟩
end
section
variable {M M' : zM} {e : gN} {w : gW} {Γ : gK} {l bs : List Nat} {ps : List (Option zP)} {ρ : Nat → Nat} {A : List Nat} {u m : Nat} {st st' : gS}
/-- ends of tries within one another do not show -/
theorem xSt_lev (h : xSt M e Γ l bs ps ρ A u m st) (h1 : st'.c = st.c) (h2 : st'.m = st.m) (h3 : st'.at = st.at) (h4 : st'.si = st.si) : xSt M e Γ l bs ps ρ A u m st' := by
  obtain ⟨c, m', a, s, x, y⟩ := st
  obtain ⟨c', m'', a', s', x', y'⟩ := st'
  have h1 : c' = c := h1
  have h2 : m'' = m' := h2
  have h3 : a' = a := h3
  have h4 : s' = s := h4
  subst h1 h2 h3 h4
  refine xSt_mk h fr.rf ?_ rfl (Nat.le_refl _) (fun _ _ => rfl)
  exact h.1
/-- beyond 600 the code that is not put does not show -/
theorem xSt_ov (h : xSt M e Γ l bs ps ρ A u m st) (hm : 600 < m) (g : gst (mkP Γ) st st') : xSt M e Γ l bs ps ρ A u m st' := by
  have hA := h.A190
  obtain ⟨⟨c1, ⟨k1, k2, k3, k4, k5, k6, k7⟩, c3⟩, h2, h3, h4, h5, h6, h7, h8⟩ := h
  have J : ∀ (Γ : gK) (v : Nat) (l bs : List Nat) (ps : List (Option zP)), xCh M A m st v Γ l bs ps → xCh M A m st' v Γ l bs ps := by
    intro Γ
    induction Γ with
    | nil => intro v l bs ps h; exact h
    | cons w Γ ih =>
      intro v l bs ps h
      obtain ⟨i, b, l', β, bs', p, ps', e1, e2, hi, hb, h3, h4⟩ := h
      have jm : ∀ out on, xJm M b m β st out on → xJm M b m β st' out on := fun out on hx => by
        obtain ⟨j1, j2, k1, k2, e1, e2, x1, x2, hl, hk⟩ := hx
        exact ⟨j1, j2, k1, k2, e1, e2, x1, x2, hl, fun z => by omega⟩
      refine ⟨i, b, l', β, bs', p, ps', e1, e2, hi, hb, ?_, ih _ _ _ _ h4⟩
      by_cases z : w.1 = 4
      · rw [if_pos z] at h3 ⊢
        obtain ⟨b2, q1, q2, q3, q4, q5, q6, q7, q8⟩ := h3
        exact ⟨b2, q1, q2, q3, q4, q5, q6, q7, jm _ _ q8⟩
      · rw [if_neg z] at h3 ⊢
        obtain ⟨q1, q2, q3, q4, q5, q6⟩ := h3
        exact ⟨q1, q2, q3, q4, fun y => jm _ _ (q5 y), fun y => jm _ _ (q6 y)⟩
  have lg := g.len
  refine ⟨⟨c1, ⟨k1, k2, fun z => by omega, fun z => Nat.lt_of_lt_of_le (k4 z) lg, fun z => by omega, k6, g.wf k7 (fun mm z => (h7 mm z).1)⟩, c3⟩, h2, h3, h4, h5, J _ _ _ _ _ h6, fun mm z => ⟨Nat.lt_of_lt_of_le (h7 mm z).1 g.2.1, (g.2.2.1 mm (h7 mm z).1).trans (h7 mm z).2⟩, h8⟩
end
theorem gGo_2 {out : Bool} {e : gN} {w : gW} {Γ : gK} {st : gS} (h : w.1 = 2) : gGo out e (w :: Γ) st = gGo out e Γ (gFi w.2.2.2.2.2 [] (em e (w :: Γ) (skk Γ) 28 0 0 none st)) := by
  show (if w.1 = 0 then _ else _) = _
  rw [if_neg (by omega), if_neg (by omega), if_neg (by omega), if_neg (by omega), if_pos h]
theorem gGo_3 {out : Bool} {e : gN} {w : gW} {Γ : gK} {st : gS} (h : w.1 = 3) : gGo out e (w :: Γ) st = gGo out e Γ (gDrops e (w :: Γ) w.2.1 (skk Γ) st) := by
  show (if w.1 = 0 then _ else _) = _
  rw [if_neg (by omega), if_neg (by omega), if_neg (by omega), if_pos h]
theorem gGo_1 {e : gN} {w : gW} {Γ : gK} {st : gS} (h : w.1 = 1) : gGo false e (w :: Γ) st = gGo false e Γ st := by
  show (if w.1 = 0 then _ else _) = _
  rw [if_neg (by omega), if_neg (by omega), if_neg (fun z => by cases z.2), if_neg (by omega), if_neg (by omega)]
theorem gGo_t {out : Bool} {e : gN} {w : gW} {Γ : gK} {st : gS} (h : w.1 = 0 ∨ w.1 = 1 ∧ out = true) : gGo out e (w :: Γ) st = em e (w :: Γ) (skk Γ) 21 0 0 (some (if out then w.2.2.2.1 else w.2.2.2.2.1)) st := by
  show (if w.1 = 0 then _ else _) = _
  rcases h with h | ⟨h, h'⟩
  · rw [if_pos h]
  · rw [if_neg (by omega), if_neg (by omega), if_pos ⟨h, h'⟩, if_pos h']
theorem gGo_4o {e : gN} {w : gW} {Γ : gK} {st : gS} (h : w.1 = 4) : gGo true e (w :: Γ) st = em e Γ (skk Γ) 21 0 0 (some w.2.2.2.1) (em e (w :: Γ) (w.2.1 ++ skk Γ) 17 0 0 none st) := by
  show (if w.1 = 0 then _ else _) = _
  rw [if_neg (by omega), if_pos h, if_pos rfl]
theorem gGo_4a {e : gN} {w : gW} {Γ : gK} {st : gS} (h : w.1 = 4) : gGo false e (w :: Γ) st = em e (w :: Γ) (w.2.1 ++ skk Γ) 21 0 0 (some w.2.2.2.2.1) st := by
  show (if w.1 = 0 then _ else _) = _
  rw [if_neg (by omega), if_pos h, if_neg (by decide)]
