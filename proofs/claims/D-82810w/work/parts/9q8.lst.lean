/-! THE COMPONENT's PARSER: lists that are being made; expression -/
theorem sto_n {t : Nat} (h1 : 20 ≤ t) (h2 : t ≤ 44) : zsto 6 t := by
  have : t = 20 ∨ t = 21 ∨ t = 22 ∨ t = 23 ∨ t = 24 ∨ t = 25 ∨ t = 26 ∨ t = 27 ∨ t = 28 ∨ t = 29 ∨ t = 30 ∨ t = 31 ∨ t = 32 ∨ t = 33 ∨ t = 34 ∨ t = 35 ∨ t = 36 ∨ t = 37 ∨ t = 38 ∨ t = 39 ∨ t = 40 ∨ t = 41 ∨ t = 42 ∨ t = 43 ∨ t = 44 := by omega
  rcases this with rfl | rfl | rfl | rfl | rfl | rfl | rfl | rfl | rfl | rfl | rfl | rfl | rfl | rfl | rfl | rfl | rfl | rfl | rfl | rfl | rfl | rfl | rfl | rfl | rfl
  · exact ⟨_, rfl, .inl ⟨rfl, q5233⟩⟩
  · exact ⟨_, rfl, .inl ⟨rfl, q5234⟩⟩
  · exact ⟨_, rfl, .inl ⟨rfl, q5235⟩⟩
  · exact ⟨_, rfl, .inl ⟨rfl, q5236⟩⟩
  · exact ⟨_, rfl, .inl ⟨rfl, q5237⟩⟩
  · exact ⟨_, rfl, .inl ⟨rfl, q5238⟩⟩
  · exact ⟨_, rfl, .inl ⟨rfl, q5239⟩⟩
  · exact ⟨_, rfl, .inl ⟨rfl, q5240⟩⟩
  · exact ⟨_, rfl, .inl ⟨rfl, q5241⟩⟩
  · exact ⟨_, rfl, .inl ⟨rfl, q5242⟩⟩
  · exact ⟨_, rfl, .inl ⟨rfl, q5243⟩⟩
  · exact ⟨_, rfl, .inl ⟨rfl, q5245⟩⟩
  · exact ⟨_, rfl, .inl ⟨rfl, q5246⟩⟩
  · exact ⟨_, rfl, .inl ⟨rfl, q5247⟩⟩
  · exact ⟨_, rfl, .inl ⟨rfl, q5248⟩⟩
  · exact ⟨_, rfl, .inl ⟨rfl, q5249⟩⟩
  · exact ⟨_, rfl, .inl ⟨rfl, q5250⟩⟩
  · exact ⟨_, rfl, .inl ⟨rfl, q5251⟩⟩
  · exact ⟨_, rfl, .inl ⟨rfl, q5252⟩⟩
  · exact ⟨_, rfl, .inl ⟨rfl, q5253⟩⟩
  · exact ⟨_, rfl, .inl ⟨rfl, q5254⟩⟩
  · exact ⟨_, rfl, .inl ⟨rfl, q5255⟩⟩
  · exact ⟨_, rfl, .inl ⟨rfl, q5256⟩⟩
  · exact ⟨_, rfl, .inl ⟨rfl, q5257⟩⟩
  · exact ⟨_, rfl, .inl ⟨rfl, q5258⟩⟩
theorem sto19 : zsto 6 19 := ⟨_, rfl, .inl ⟨rfl, q5244⟩⟩
theorem sto10 : zsto 6 10 := ⟨_, rfl, .inl ⟨rfl, q5231⟩⟩
/-- a list that is being made: its cells are the method's own -/
def wL (lo : Nat) (M : zM) (τ : Nat → Nat) (l : Nat) (es : List (Option zP)) : Prop := xLs M l es ∧ (lo ≤ l ∧ τ l = 1) ∧ (16 ≤ lA M l → lo ≤ lA M l ∧ τ (lA M l) = 1)
/-- its nodes -/
def wE (lo : Nat) (M : zM) (τ : Nat → Nat) (D : Nat) (es : List (Option zP)) (as : List gEx) : Prop := es.length = as.length ∧ ∀ (i : Nat) (g : gEx), as[i]? = some g → ∃ p, es.getD i none = some p ∧ xE (nS lo (zsz M) τ) M D p g ∧ gok g
section
variable {E : zE} {pp a lf n : Nat} {c : Nat → Int32} {dg : Int32 → List Int32} {K o : Nat}
variable {M0 M M' : zM} {τ0 τ τ' : Nat → Nat} {fs0 fs fs' : List Nat} {s0 s s' : pS} {c0 : Nat} {C : pC} {Zb Ub cz cu lo D : Nat} {es : List (Option zP)} {as : List gEx} {l : Nat}
theorem wL.k {P : Nat → Nat → Prop} (h : wL lo M τ l es) (hl : 190 ≤ lo) (f : fg P M M') (hP : ∀ x k, 190 ≤ x → τ x = 1 → ¬ P x k) (ht : ∀ x, x < zsz M → τ' x = τ x) : wL lo M' τ' l es ∧ lA M' l = lA M l ∧ lC M' l = lC M l := by
  obtain ⟨h1, h2, h3⟩ := h
  have lz := h1.1.2
  have la := lA_fg lz f (hP l 1 (by omega) h2.2)
  refine ⟨⟨xLs_fg h1 f (fun k => hP l k (by omega) h2.2) (fun k => ?_), ⟨h2.1, (ht l lz).trans h2.2⟩, fun z => ?_⟩, la⟩
  · by_cases z : lA M l < 16
    · exact .inl z
    · have := h3 (by omega)
      exact .inr (hP _ k (by omega) this.2)
  · rw [la.1] at z ⊢
    have := h3 z
    refine ⟨this.1, (ht _ ?_).trans this.2⟩
    rcases h1.2.2.2.2 with ⟨e, -⟩ | ⟨b, m, e, e2, -⟩
    · unfold lA at z; rw [e] at z; exact absurd z (by decide)
    · unfold lA; rw [e]; exact e2.2.1
theorem wE.mv (h : wE lo M τ D es as) (m : mvr τ M τ' M') (hl : 190 ≤ lo) : wE lo M' τ' D es as := ⟨h.1, fun i g hg => by
  obtain ⟨p, h1, h2, h3⟩ := h.2 i g hg
  exact ⟨p, h1, xE_mono h2 (fun x z => m.sub (Nat.le_refl _) (Nat.le_refl _) x z) (nS_190 hl) (m.agS hl (Nat.le_refl _)) (Nat.le_refl _), h3⟩⟩
theorem wE.app {p : zP} {g : gEx} (h : wE lo M τ D es as) (hp : xE (nS lo (zsz M) τ) M D p g) (hg : gok g) : wE lo M τ D (es ++ [some p]) (as ++ [g]) := by
  refine ⟨by rw [List.length_append, List.length_append, h.1]; rfl, fun i g' hi => ?_⟩
  by_cases z : i < as.length
  · rw [List.getElem?_append_left z] at hi
    obtain ⟨q, h1, h2⟩ := h.2 i g' hi
    refine ⟨q, ?_, h2⟩
    rw [List.getD_eq_getElem?_getD, List.getElem?_append_left (by rw [h.1]; exact z), ← List.getD_eq_getElem?_getD]
    exact h1
  · have hl : i < (as ++ [g]).length := (List.getElem?_eq_some_iff.mp hi).1
    rw [List.length_append] at hl
    have hl : i < as.length + 1 := hl
    have e : i = as.length := by omega
    rw [e, List.getElem?_append_right (Nat.le_refl _), Nat.sub_self] at hi
    cases hi
    refine ⟨p, ?_, hp, hg⟩
    rw [e, List.getD_eq_getElem?_getD, ← h.1, List.getElem?_append_right (Nat.le_refl _), Nat.sub_self]
    rfl
/-- it is done -/
theorem wL.el (h : wL lo M τ l es) (he : wE lo M (fin lo τ) D es as) : xEl (nS lo (zsz M) (fin lo τ)) M D l as := by
  obtain ⟨⟨a0, a1, a2, a3, a4⟩, h2, h3⟩ := h
  refine ⟨es, ⟨fin_1 h2.1 a0.2 h2.2, a1, a2, ?_⟩, he.1, he.2⟩
  rcases a4 with ⟨-, e⟩ | ⟨b, m, e1, e2, e3, e4⟩
  · exact .inl e
  · have eb : lA M l = b := by unfold lA; rw [e1]
    have := h3 (by rw [eb]; exact e2.1)
    rw [eb] at this
    exact .inr ⟨b, m, e1, fin_1 this.1 e2.2.1 this.2, ⟨e3.1, by omega⟩, e4⟩
theorem k1_tk (h : xPs M τ pp a lf n c fs s C o) (f : fr (tkP a) M M') {x : Nat} (hx : 190 ≤ x ∧ τ x = 1) (k : Nat) : gi M' x k = gi M x k ∧ gr M' x k = gr M x k := by
  have az := h.az
  have := f.2 x k (nt_tk hx.1 (fun e => by rw [e] at hx; omega))
  exact ⟨this.1, this.2.2⟩
theorem k1_P {x k : Nat} (hx : 190 ≤ x) (h1 : τ x = 1) : ¬ pU τ x k := by unfold pU; omega
theorem k1_pe (pe : pEnd pp a lf n c cz cu M τ fs s C o M' τ' fs' s') {x : Nat} (hx : 190 ≤ x ∧ x < zsz M ∧ τ x = 1) (k : Nat) : gi M' x k = gi M x k ∧ gr M' x k = gr M x k := by
  have := pe.2.1.2 x k hx.2.1 (k1_P hx.1 hx.2.2)
  exact ⟨this.1, this.2.2⟩
theorem wL.tk (h : wL lo M τ l es) (hl : 190 ≤ lo) (hs : xPs M τ pp a lf n c fs s C o) (f : fr (tkP a) M M') : wL lo M' τ l es ∧ lA M' l = lA M l ∧ lC M' l = lC M l := by
  have az := hs.az
  exact h.k hl f.fg (fun x k h1 h2 => nt_tk h1 (fun e => by rw [e] at h2; omega)) (fun _ _ => rfl)
theorem wL.pe (h : wL lo M τ l es) (hl : 190 ≤ lo) (pe : pEnd pp a lf n c cz cu M τ fs s C o M' τ' fs' s') : wL lo M' τ' l es ∧ lA M' l = lA M l ∧ lC M' l = lC M l := h.k hl pe.2.1 (fun x k h1 h2 => k1_P h1 h2) pe.2.2.1
/-- one more -/
theorem y_ladd {d : Nat} {Q : zO → zM → Prop} {p : zP} (hR : rn pp a lf n c M0 τ0 fs0 s0 c0 C o M τ fs s Zb Ub) (hW : wL (zsz M0) M τ l es) (hn : es.length < 90000) (hx : zsto 6 p.2.1)
    (hQ : ∀ M' τ' w, rn pp a lf n c M0 τ0 fs0 s0 c0 C o M' τ' fs s (Zb + 1) (Ub + w) → wL (zsz M0) M' τ' l (es ++ [some p]) → mvr τ M τ' M' → (∀ x, x < zsz M → τ' x = τ x) → fg (lP M l) M M' → w + 4 * lC M l = 4 * lC M' l → (lA M' l = lA M l ∨ zsz M ≤ lA M' l) → Q (.inl (some (vi 1))) M') : Z E YJ2_add (d + 6) M [(0, vr (some (l, 11, 0))), (1, vr (some p))] 0 [] Q := by
  obtain ⟨h1, h2, h3⟩ := id hW
  refine l_add h1 (by omega) (fun q e => by cases e; exact hx) (fun M' x' f k => ?_)
  have z0 := f.1.2
  have f' : fg (fun x _ => zsz M0 ≤ x ∧ τ x = 1) M M' := f.mono fun x k _ z => by
    rcases z with z | z
    · rw [z]; exact h2
    · rw [z.1]; exact h3 (by rw [← z.1]; exact z.2)
  obtain ⟨τ', R', ag, on, m⟩ := hR.lc1 (v := 1) (w := 4 * lC M' l - 4 * lC M l) f' k.1 (by have := k.2.1; omega)
  have zz := f.1.1
  refine hQ M' τ' _ R' ⟨x', ⟨h2.1, (ag l h1.1.2).trans h2.2⟩, fun z => ?_⟩ m ag f (by have := k.2.1; omega) k.2.2
  have zl := R'.2.1.2.1.1.1
  rcases k.2.2 with y | y
  · rw [y] at z ⊢
    have := h3 z
    refine ⟨this.1, (ag _ ?_).trans this.2⟩
    rcases h1.2.2.2.2 with ⟨e, -⟩ | ⟨b, mm, e, e2, -⟩
    · unfold lA at z; rw [e] at z; exact absurd z (by decide)
    · unfold lA; rw [e]; exact e2.2.1
  · have l0 := hR.2.1.2.1.1.1
    refine ⟨by omega, on _ y ?_⟩
    rcases x'.2.2.2.2 with ⟨e, -⟩ | ⟨b, mm, e, e2, -⟩
    · unfold lA at z; rw [e] at z; exact absurd z (by decide)
    · unfold lA; rw [e]; exact e2.2.1
theorem wL_mk (h1 : gi M l 2 = 0) (h2 : gr M l 1 = some (1, 110, 0)) (h3 : 16 ≤ l ∧ l < zsz M) (h4 : lo ≤ l ∧ τ l = 1) : wL lo M τ l [] := ⟨⟨h3, h1, by show 0 < 100000; decide, (fun p hp => by cases hp), .inl ⟨h2, rfl⟩⟩, h4, fun z => by unfold lA at z; rw [h2] at z; exact absurd z (by decide)⟩
end
