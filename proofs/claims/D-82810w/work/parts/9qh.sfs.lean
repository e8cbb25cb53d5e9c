/-! THE COMPONENT's PARSER: suffixes that are being made -/
section
variable {S S' : Nat → Prop} {M M' : zM} {D D' : Nat}
theorem xEl_mono {l : Nat} {as : List gEx} (h : xEl S M D l as) (hs : ∀ a, S a → S' a) (h190 : ∀ a, S' a → 190 ≤ a) (ha : agS S M M') (hD : D ≤ D') : xEl S' M' D' l as := by
  obtain ⟨es, h1, h2, h3⟩ := h
  exact ⟨es, xLr_mono (xLr_ag h1 ha) hs, h2, fun i g hg => by obtain ⟨p, q1, q2, q3⟩ := h3 i g hg; exact ⟨p, q1, xE_mono q2 hs h190 ha hD, q3⟩⟩
theorem xSf_mono {b : Nat} {q : gSf} (h : xSf S M D b q) (hs : ∀ a, S a → S' a) (h190 : ∀ a, S' a → 190 ≤ a) (ha : agS S M M') (hD : D ≤ D') : xSf S' M' D' b q := by
  obtain ⟨q1, q2⟩ := q
  obtain ⟨h1, h2⟩ := h
  refine ⟨hs _ h1, ?_⟩
  cases q1 with
  | none =>
    obtain ⟨l, h3, h4, h5⟩ := h2
    exact ⟨l, (ha b 2 h1).2.trans h3, xEl_mono h4 hs h190 ha hD, h5⟩
  | some k =>
    obtain ⟨h3, h4⟩ := h2
    refine ⟨(ha b 2 h1).2.trans h3, ?_⟩
    rcases h4 with ⟨y1, y2⟩ | ⟨p, y1, y2, y3⟩
    · exact .inl ⟨(ha b 1 h1).2.trans y1, by rw [(ha b 0 h1).1]; exact y2⟩
    · exact .inr ⟨p, (ha b 1 h1).2.trans y1, xE_mono y2 hs h190 ha hD, y3⟩
theorem isM0_Left {b lb : Nat} {sf : List gSf} {as : List gEx} (hb : S b) (e1 : gr M b 1 = some (lb, 11, 0)) (hF : xSfs S M D lb (sf ++ [(none, as)])) : isM0 S M (b, 30, 0) := fun _ E d Q M' ha hd hQ => by
  have hlt := hF.lt
  rw [List.length_append] at hlt
  have hlt : sf.length + 1 < 100000 := hlt
  have hat : (sf ++ [((none : Option gEx), as)])[sf.length]? = some (none, as) := at_app rfl
  have em1 : nI (sf.length + 1) - 1 = nI sf.length := by rw [show (1 : Int32) = nI 1 from rfl, nn_sub (by omega)]; rfl
  obtain ⟨d, rfl⟩ : ∃ d', d = d' + 4 := ⟨d - 4, by omega⟩
  refine iX24_isMember_0 M' b ⟨lb, (ha b 1 hb).2.trans e1, ?_⟩
  rw [sf_num hF ha, List.length_append]
  rw [show nI (sf.length + [((none : Option gEx), as)].length) - 1 = nI sf.length from em1]
  refine y_sf (d := d) hF ha hat (fun a hq => ?_)
  show Z E YX24_isMember (d + 3 + 1) M' [] 16 [vr (some (a, 19, 0))] Q
  refine sX24_isMember_16 M' _ ⟨a, rfl, ?_⟩
  rw [if_neg (fun z => by have := (xSf_no hq ha).mp z; cases this)]
  exact hQ
theorem lfF_call (x : gEx) (as : List gEx) (sf : List gSf) : lfF x (sf ++ [(none, as)]) = (match (lfF x sf).2 with | some ok => gCallM ok.1 ok.2 as | none => gCall (lfF x sf).1 as, none) := by
  unfold lfF
  rw [List.foldl_append]
  rfl
end
def wS (lo : Nat) (M : zM) (τ : Nat → Nat) (D : Nat) (es : List (Option zP)) (sf : List gSf) : Prop := es.length = sf.length ∧ ∀ (i : Nat) (q : gSf), sf[i]? = some q → sfok q ∧ ∃ b, es.getD i none = some (b, 19, 0) ∧ xSf (nS lo (zsz M) τ) M D b q
section
variable {M M' : zM} {τ τ' : Nat → Nat} {lo D l : Nat} {es : List (Option zP)} {sf : List gSf}
theorem wS.mv (h : wS lo M τ D es sf) (m : mvr τ M τ' M') (hl : 190 ≤ lo) : wS lo M' τ' D es sf := ⟨h.1, fun i q hq => by
  obtain ⟨h0, b, h1, h2⟩ := h.2 i q hq
  exact ⟨h0, b, h1, xSf_mono h2 (fun x z => m.sub (Nat.le_refl _) (Nat.le_refl _) x z) (nS_190 hl) (m.agS hl (Nat.le_refl _)) (Nat.le_refl _)⟩⟩
theorem wS.app {b : Nat} {q : gSf} (h : wS lo M τ D es sf) (hk : sfok q) (hq : xSf (nS lo (zsz M) τ) M D b q) : wS lo M τ D (es ++ [some (b, 19, 0)]) (sf ++ [q]) := by
  refine ⟨by rw [List.length_append, List.length_append, h.1]; rfl, fun i q' hi => ?_⟩
  by_cases z : i < sf.length
  · rw [List.getElem?_append_left z] at hi
    obtain ⟨h0, b', h1, h2⟩ := h.2 i q' hi
    refine ⟨h0, b', ?_, h2⟩
    rw [List.getD_eq_getElem?_getD, List.getElem?_append_left (by rw [h.1]; exact z), ← List.getD_eq_getElem?_getD]
    exact h1
  · have hl : i < (sf ++ [q]).length := (List.getElem?_eq_some_iff.mp hi).1
    rw [List.length_append] at hl
    have hl : i < sf.length + 1 := hl
    have e : i = sf.length := by omega
    rw [e, List.getElem?_append_right (Nat.le_refl _), Nat.sub_self] at hi
    cases hi
    refine ⟨hk, b, ?_, hq⟩
    rw [e, List.getD_eq_getElem?_getD, ← h.1, List.getElem?_append_right (Nat.le_refl _), Nat.sub_self]
    rfl
theorem wL.sfx (h : wL lo M τ l es) (he : wS lo M (fin lo τ) D es sf) : xSfs (nS lo (zsz M) (fin lo τ)) M D l sf := by
  obtain ⟨⟨a0, a1, a2, a3, a4⟩, h2, h3⟩ := h
  refine ⟨es, ⟨fin_1 h2.1 a0.2 h2.2, a1, a2, ?_⟩, he.1, he.2⟩
  rcases a4 with ⟨-, e⟩ | ⟨b, m, e1, e2, e3, e4⟩
  · exact .inl e
  · have eb : lA M l = b := by unfold lA; rw [e1]
    have := h3 (by rw [eb]; exact e2.1)
    rw [eb] at this
    exact .inr ⟨b, m, e1, fin_1 this.1 e2.2.1 this.2, ⟨e3.1, by omega⟩, e4⟩
end
/-- what has been read so far: the first, its suffixes -/
def eLf (x0 : gEx) (sf : List gSf) (e : gV) : Prop := e.1 = (lfF x0 sf).1 ∧ ((lfF x0 sf).2 = none ∧ e.2.1 ≠ 2 ∨ e.2.1 = 2 ∧ (lfF x0 sf).2 = some (e.2.2.2.1, e.2.2.2.2)) ∧ (sf = [] ∨ (e.2.1 = 2 ∧ ∃ sf' w, sf = sf' ++ [(some e.2.2.2.2, w)] ∧ e.2.2.2.1 = (lfF x0 sf').1) ∨ (e.2.1 = 0 ∧ ∃ sf' as, sf = sf' ++ [(none, as)]))
theorem eLf_0 {e : gV} (h : e.2.1 ≠ 2) : eLf e.1 [] e := ⟨rfl, .inl ⟨rfl, h⟩, .inl rfl⟩
theorem eLf.mm {x0 : gEx} {sf : List gSf} {e : gV} (h : eLf x0 sf e) (k : gEx) : eLf x0 (sf ++ [(some k, [])]) (vMm e.1 k) := by
  obtain ⟨h1, h2, h3⟩ := h
  have e0 := lfF_mem x0 k [] sf
  refine ⟨?_, .inr ⟨rfl, ?_⟩, .inr (.inl ⟨rfl, sf, [], rfl, h1⟩)⟩
  · rw [e0, ← h1]; rfl
  · rw [e0, ← h1]; rfl
theorem eLf.cl {x0 : gEx} {sf : List gSf} {e : gV} (h : eLf x0 sf e) (l : List gEx) : eLf x0 (sf ++ [(none, l)]) (vCl e l) := by
  obtain ⟨h1, h2, h3⟩ := h
  have e0 := lfF_call x0 l sf
  refine ⟨?_, .inl ⟨?_, (show 0 ≠ 2 by decide)⟩, .inr (.inr ⟨rfl, sf, l, rfl⟩)⟩
  · rw [e0]
    show (if e.2.1 = 2 then gCallM e.2.2.2.1 e.2.2.2.2 l else gCall e.1 l) = _
    rcases h2 with ⟨y1, y2⟩ | ⟨y1, y2⟩
    · rw [if_neg y2, y1, h1]
    · rw [if_pos y1, y2]
  · rw [e0]
section
variable {E : zE} {pp a lf n : Nat} {c : Nat → Int32} {dg : Int32 → List Int32} {K o : Nat}
theorem y_is {d j : Nat} {Q : zO → zM → Prop} {M : zM} {s : pS} {k : Int32} (hj : j < 48) (hk : sgX (nI j) = k) (h : xTz M a n c s) (hQ : Q (.inl (some (vi (if isS (zOf n c dg) (nI j) s then 1 else 0)))) M) : Z E YX10_is d M [(0, vr (some (a, 9, 0))), (1, vi k)] 0 [] Q := by
  have hb := y_isS hj dg h
  rw [hk] at hb
  refine sX10_is_0 M a _ ?_
  cases hs : isS (zOf n c dg) (nI j) s with
  | true =>
    obtain ⟨z1, z2⟩ := hb.mpr hs
    rw [hs, if_pos rfl] at hQ
    rw [if_pos z1, if_pos z2]; exact hQ
  | false =>
    have z0 : ¬ (gi M a 3 = 5 ∧ gi M a 6 = k) := fun z => by rw [hb.mp z] at hs; cases hs
    rw [hs, if_neg (by decide)] at hQ
    by_cases z1 : gi M a 3 = 5
    · rw [if_pos z1, if_neg (fun z2 => z0 ⟨z1, z2⟩)]; exact hQ
    · rw [if_neg z1]; exact hQ
/-- a Left, done -/
theorem v_Left {S : Nat → Prop} {M : zM} {D b lb : Nat} {p1 : zP} {x0 : gEx} {sf : List gSf} {e : gV} (hb : S b) (e0 : gr M b 0 = some p1) (e1 : gr M b 1 = some (lb, 11, 0)) (h1 : xE S M D p1 x0) (hx : gok x0) (hF : xSfs S M D lb sf) (hD : 3 ≤ D) (hE : eLf x0 sf e) (hne : sf ≠ []) : vNs S M (D + 3) (b, 30, 0) e := by
  obtain ⟨q1, q2, q3⟩ := hE
  refine ⟨tgv _ 30 (by decide), ?_, ?_⟩
  · rw [q1]; exact xe_Left hb e0 e1 h1 hx hF hD
  · rcases q3 with y | ⟨y1, sf', w, y2, y3⟩ | ⟨y1, sf', as, y2⟩
    · exact absurd y hne
    · refine .inr (.inr ⟨y1, ?_⟩)
      rw [y2] at hF
      rw [y3]
      exact xp_Left hb e0 e1 h1 hx hF hD
    · rw [y2] at hF
      exact .inl ⟨y1, (by show 30 ≠ 23; decide), isM0_Left hb e1 hF⟩
end
