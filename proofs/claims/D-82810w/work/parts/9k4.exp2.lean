/-! THE COMPONENT's CODER: sites, lists of nodes -/
section
variable {E : zE} {d : Nat} {Q : zO → zM → Prop} {M : zM} {e : gN} {Γ : gK} {l : List Nat} {m : Nat} {δ : Int} {st : gS} {L : List Bool}
/-- site: OBJECT, ARRAY (numbered in a), NEW (in b) -/
theorem y_site {op n : Int32} (h : xCz M e Γ l δ st) (hop : op = 7 ∨ op = 8 ∨ op = 16) (hn : n.toInt16.toInt32 = n) (hb : (st.c.length : Int) + 1 + δ < 100000000)
    (hQ : ∀ M', xCz M' e Γ l δ (sit (em e Γ L op (if op = 16 then n else nI st.si) (if op = 16 then nI st.si else 0) none st)) → fr cdP M M' → Q (.inl none) M') : Z E YX3_site (d + 2) M [(0, C29), (1, vi op), (2, vi n)] 0 [] Q := by
  obtain ⟨m, hm, h⟩ := h
  obtain ⟨h1, h2, h3, h4, h5⟩ := id h
  obtain ⟨c1, c2, c3, c4, c5, c6, c7⟩ := id h2
  have ho : op.toInt8.toInt32 = op := by rcases hop with rfl | rfl | rfl <;> rfl
  -- how many sites, as the coder counts
  obtain ⟨j, hj, hjm, hje⟩ : ∃ j, gi M 29 8 = nI j ∧ j ≤ m ∧ (m ≤ 600 → j = st.si) := by
    by_cases z : m ≤ 600
    · obtain ⟨d1, d0, -⟩ := c5 z
      exact ⟨st.si, d1, d0, fun _ => rfl⟩
    · obtain ⟨j, j1, j2⟩ := c6 (by omega)
      exact ⟨j, j2, j1, fun q => absurd q z⟩
  -- behind put
  have fin : ∀ (M1 M2 : zM) (a b : Int32), (a = if op = 16 then n else nI st.si) → (b = if op = 16 then nI st.si else 0) → fr cdP M M1 → (m < 600 → st.si < 20 → gi M1 36 st.si = nI m) → xCo M2 e Γ l (m + 1) (em e Γ L op a b none st) → fr cdP M1 M2 → (∀ k, gi M2 36 k = gi M1 36 k) → gi M2 29 8 = nI j → Q (.inl none) (si M2 29 8 (nI (j + 1))) := fun M1 M2 a b ea eb f1 hp k f2 e36 e8 => by
    have f3 : fr cdP M2 (si M2 29 8 (nI (j + 1))) := fr.si (.inr ⟨rfl, .inr rfl⟩)
    rw [← ea, ← eb] at hQ
    refine hQ _ ⟨m + 1, by show ((m + 1 : Nat) : Int) = ((em e Γ L op a b none st).c.length : Int) + δ; rw [em_len]; omega, xCo_fr k f3 ?_⟩ ((f1.tr f2).tr f3)
    obtain ⟨-, ⟨g1, g2, g3, g4, g5, g6, g7⟩, -⟩ := k
    have E : ∀ x k, ¬ (x = 29 ∧ k = 8) → gi (si M2 29 8 (nI (j + 1))) x k = gi M2 x k := fun x k hx => by
      by_cases z : x = 29
      · rw [z]; exact gi_idx (fun w => hx ⟨z, w⟩)
      · exact gi_oth z
    refine ⟨by rw [E _ _ (by omega)]; exact g1, g2, g3, g4, fun hm6 => ?_, fun hm6 => ⟨j + 1, by omega, gi_self ..⟩, g7⟩
    obtain ⟨i1, i0, i2, i3⟩ := g5 hm6
    have ej := hje (by omega)
    refine ⟨by rw [gi_self, ej]; rfl, by show st.si + 1 ≤ m + 1; omega, fun k q hq => ?_, fun x hx1 hx2 => ?_⟩
    · have := i2 k q hq
      unfold xIns at this ⊢
      rw [E 30 _ (by omega), E 31 _ (by omega), E 32 _ (by omega), E 33 _ (by omega), E 34 _ (by omega), E 35 _ (by omega)]
      exact this
    · rw [E 36 _ (by omega)]
      by_cases hxs : x = st.si
      · refine ⟨m, _, by rw [e36, hxs]; exact hp (by omega) (by omega), show (st.c ++ [_])[m]? = _ by rw [c3 (by omega), List.getElem?_append_right (Nat.le_refl _), Nat.sub_self]; rfl, ?_⟩
        show ((op = 7 ∨ op = 8) ∧ a = nI x ∨ op = 16 ∧ b = nI x)
        rw [ea, eb, hxs]
        rcases hop with z | z | z
        · exact .inl ⟨.inl z, by rw [if_neg (by rw [z]; decide)]⟩
        · exact .inl ⟨.inr z, by rw [if_neg (by rw [z]; decide)]⟩
        · exact .inr ⟨z, by rw [if_pos z]⟩
      · exact i3 x (by have : x < st.si + 1 := hx1; show x < st.si; omega) hx2
  have go : ∀ M1 : zM, xCo M1 e Γ l m st → fr cdP M M1 → (m < 600 → st.si < 20 → gi M1 36 st.si = nI m) → gi M1 29 8 = nI j → (if op = 16 then Z E YX3_put (d + 1) M1 (zargs 0 [C29, vi op, vi n, vi (nI j)]) 0 [] (zafter E YX3_site (d + 1 + 1) [(0, C29)] 35 3 [] Q) else Z E YX3_put (d + 1) M1 (zargs 0 [C29, vi op, vi (nI j), vi 0]) 0 [] (zafter E YX3_site (d + 1 + 1) [(0, C29)] 49 3 [] Q)) := fun M1 k f1 hp e8 => by
    by_cases h16 : op = 16
    · rw [if_pos h16]
      rw [if_pos h16, if_pos h16] at fin
      refine y_put0 (a := n) (b := nI st.si) (L := L) (mk := none) k (by omega) (fun hm6 => ⟨ho, hn, fun _ => rfl, fun _ _ z => (by cases z), by rw [hje (by omega)]⟩) (fun _ z => by cases z) (fun M2 k2 f2 => ?_)
      have w2 := k2.1
      have g8 : gi M2 29 8 = nI j := (f2.2 29 8 (by unfold ptP; omega)).1.trans e8
      show Z E YX3_site (d + 1 + 1) M2 [(0, C29)] 38 [vi (nI m)] Q
      refine sX3_site_38 M2 _ w2 ?_
      rw [g8, nI_l1]
      exact fin M1 M2 _ _ rfl rfl f1 hp k2 f2.pt (fun x => (f2.2 36 x (by unfold ptP; omega)).1) g8
    · rw [if_neg h16]
      rw [if_neg h16, if_neg h16] at fin
      refine y_put0 (a := nI st.si) (b := 0) (L := L) (mk := none) k (by omega) (fun hm6 => ⟨ho, nn_ns2 (by omega), fun _ => by rw [hje (by omega)], fun _ _ z => (by cases z), rfl⟩) (fun _ z => by cases z) (fun M2 k2 f2 => ?_)
      have w2 := k2.1
      have g8 : gi M2 29 8 = nI j := (f2.2 29 8 (by unfold ptP; omega)).1.trans e8
      show Z E YX3_site (d + 1 + 1) M2 [(0, C29)] 52 [vi (nI m)] Q
      refine sX3_site_52 M2 _ w2 ?_
      rw [g8, nI_l1]
      exact fin M1 M2 _ _ rfl rfl f1 hp k2 f2.pt (fun x => (f2.2 36 x (by unfold ptP; omega)).1) g8
  refine iX3_site_0 M op n h1 ?_
  rw [hj, c1]
  by_cases h19 : 19 < j
  · rw [if_pos (show (19 : Int32) < nI j from nI_lt (a := 19) h19 (by omega))]
    exact go M h fr.rf (fun z1 z2 => by have := hje (by omega); omega) hj
  · rw [if_neg (show ¬ (19 : Int32) < nI j from nI_nlt (a := 19) (by omega) (by omega))]
    refine ⟨nI_in (by omega) (by decide), ?_⟩
    rw [nI_clamp (by omega)]
    have f0 : fr cdP M (si M 36 j (nI m)) := fr.si (.inl ⟨by decide, by decide⟩)
    have E : ∀ x k, ¬ (x = 36 ∧ k = j) → gi (si M 36 j (nI m)) x k = gi M x k := fun x k hx => by
      by_cases z : x = 36
      · rw [z]; exact gi_idx (fun w => hx ⟨z, w⟩)
      · exact gi_oth z
    refine go _ (xCo_fr h f0 ⟨by rw [E _ _ (by omega)]; exact c1, c2, c3, c4, fun hm6 => ?_, fun hm6 => ?_, c7⟩) f0 (fun z1 z2 => by rw [← hje (by omega), gi_self]) (by rw [E _ _ (by omega)]; exact hj)
    · obtain ⟨i1, i0, i2, i3⟩ := c5 hm6
      refine ⟨by rw [E _ _ (by omega)]; exact i1, i0, fun k q hq => ?_, fun x hx1 hx2 => ?_⟩
      · have := i2 k q hq
        unfold xIns at this ⊢
        rw [E 30 _ (by omega), E 31 _ (by omega), E 32 _ (by omega), E 33 _ (by omega), E 34 _ (by omega), E 35 _ (by omega)]
        exact this
      · have := hje hm6
        rw [E 36 _ (by omega)]; exact i3 x hx1 hx2
    · obtain ⟨q, q1, q2⟩ := c6 hm6
      exact ⟨q, q1, by rw [E _ _ (by omega)]; exact q2⟩
end
/-! lists that are only read -/
def xLr (S : Nat → Prop) (M : zM) (l : Nat) (es : List (Option zP)) : Prop :=
  S l ∧ gi M l 2 = nI es.length ∧ es.length < 100000 ∧ (es = [] ∨ ∃ b m, gr M l 1 = some (b, 106, m) ∧ S b ∧ (es.length ≤ m ∧ m < 1000000) ∧ ∀ k, k < es.length → gr M b k = es.getD k none)
theorem xLr_ag {S : Nat → Prop} {M M' : zM} {l : Nat} {es : List (Option zP)} (h : xLr S M l es) (ha : agS S M M') : xLr S M' l es := by
  obtain ⟨h1, h2, h3, h4⟩ := h
  refine ⟨h1, (ha l 2 h1).1.trans h2, h3, h4.imp id fun ⟨b, m, e1, e2, e3, e4⟩ => ⟨b, m, (ha l 1 h1).2.trans e1, e2, e3, fun k hk => (ha b k e2).2.trans (e4 k hk)⟩⟩
/-- a list of nodes -/
def xEl (S : Nat → Prop) (M : zM) (D l : Nat) (as : List gEx) : Prop :=
  ∃ es, xLr S M l es ∧ es.length = as.length ∧ ∀ i a, as[i]? = some a → ∃ p, es.getD i none = some p ∧ xE S M D p a ∧ gok a
theorem xEl.gok {S : Nat → Prop} {M : zM} {D l : Nat} {as : List gEx} (h : xEl S M D l as) : ∀ a ∈ as, gok a := fun a ha => by
  obtain ⟨i, hi⟩ := List.mem_iff_getElem?.mp ha
  obtain ⟨es, -, -, h3⟩ := h
  obtain ⟨p, -, -, h⟩ := h3 i a hi
  exact h
theorem xEl.lt {S : Nat → Prop} {M : zM} {D l : Nat} {as : List gEx} (h : xEl S M D l as) : as.length < 100000 := by
  obtain ⟨es, h1, h2, -⟩ := h
  rw [← h2]; exact h1.2.2.1
section
variable {E : zE} {d : Nat} {Q : zO → zM → Prop} {M : zM} {S : Nat → Prop}
theorem l_getR {l k : Nat} {es : List (Option zP)} (h : xLr S M l es) (hk : k < es.length) (hQ : Q (.inl (some (vr (es.getD k none)))) M) : Z E YJ2_get (d + 3) M [(0, vr (some (l, 11, 0))), (1, vi (nI k))] 0 [] Q := by
  obtain ⟨a0, a1, a2, a4⟩ := h
  refine sJ2_get_0 M l (nI k) ?_
  rw [a1]
  refine sJ13_checkIndex_0 M _ _ ?_
  refine l_chk (nI_nlt (b := 0) (Nat.zero_le _) (by omega)) (nI_lt hk (by omega)) ?_
  show Z E YJ13_checkIndex (d + 1 + 1) M [] 6 [vi (nI k)] _
  refine sJ13_checkIndex_6 M _ ?_
  show Z E YJ2_get (d + 2 + 1) M [(0, vr (some (l, 11, 0))), (1, vi (nI k))] 8 [vi (nI k)] Q
  rcases a4 with rfl | ⟨b, m, e, hb, hm, hk'⟩
  · exact absurd hk (Nat.not_lt_zero k)
  refine iJ2_get_8 M l (nI k) (nI k) ⟨b, m, e, nI_in (by omega) (by omega), ?_⟩
  rw [nI_clamp (by omega), hk' k hk]
  exact hQ
theorem y_elem {M0 : zM} {D l i : Nat} {as : List gEx} {a : gEx} (h : xEl S M0 D l as) (ha : agS S M0 M) (hi : as[i]? = some a) (hQ : ∀ p, xE S M0 D p a → Q (.inl (some (vr (some p)))) M) : Z E YJ2_get (d + 3) M [(0, vr (some (l, 11, 0))), (1, vi (nI i))] 0 [] Q := by
  obtain ⟨es, h1, h2, h3⟩ := h
  obtain ⟨p, h4, h5, -⟩ := h3 i a hi
  have hl := (List.getElem?_eq_some_iff.mp hi).1
  refine l_getR (xLr_ag h1 ha) (by omega) ?_
  rw [h4]
  exact hQ p h5
theorem y_num {M0 : zM} {D l : Nat} {as : List gEx} (h : xEl S M0 D l as) (ha : agS S M0 M) : gi M l 2 = nI as.length := by
  obtain ⟨es, h1, h2, h3⟩ := h
  rw [← h2]; exact (xLr_ag h1 ha).2.1
end
theorem at_app {α : Type} {r : List α} {pre : List α} {q : α} {r' : List α} (h : r = pre ++ q :: r') : r[pre.length]? = some q := by
  rw [h, List.getElem?_append_right (Nat.le_refl _), Nat.sub_self]; rfl
section
variable {S : Nat → Prop} {M : zM} {D : Nat}
theorem xe_New {b lst : Nat} {p1 : zP} {x : gEx} {as : List gEx} (hb : S b) (e0 : gr M b 0 = some p1) (e1 : gr M b 1 = some (lst, 11, 0)) (h1 : xE S M D p1 x) (hl : xEl S M D lst as) (hx : gok x) (hn : as.length < 32768) (hD : 4 ≤ D) : xE S M (D + 1) (b, 31, 0) (gNew x as) := by
  refine ⟨h1.1, rfl, (show 20 ≤ 31 ∧ 31 < 45 by decide), _, rfl, fun E d Q M' e Γ l δ L st ha h hl' hd hQ => ?_⟩
  obtain ⟨d, rfl⟩ : ∃ d', d = d' + 5 := ⟨d - 5, by omega⟩
  have hS := h1.1
  have loop : ∀ (r pre : List gEx) (M1 : zM) (s : gS), as = pre ++ r → agS S M M1 → xCz M1 e Γ l δ s → ((gArg r e Γ (psh (pre.length + 1) L) s).c.length : Int) + 1 + δ < 100000000 → (∀ M2, xCz M2 e Γ l δ (sit (em e Γ (psh (as.length + 1) L) 16 (nI as.length) (nI (gArg r e Γ (psh (pre.length + 1) L) s).si) none (gArg r e Γ (psh (pre.length + 1) L) s))) → fr cdP M1 M2 → Q (.inl none) M2) → Z E YX26_code (d + 4 + 1) M1 [(0, vr (some (b, 31, 0))), (1, C29), (2, vi (nI pre.length))] 10 [] Q := by
    intro r
    induction r with
    | nil =>
      intro pre M1 s hr a1 c1 b1 q1
      have hpl : pre.length = as.length := by rw [hr, List.append_nil]
      have b1 : (s.c.length : Int) + 1 + δ < 100000000 := b1
      refine iX26_code_10 M1 b _ _ ⟨lst, (a1 b 1 hb).2.trans e1, ?_⟩
      rw [y_num hl a1, if_pos (nI_le (by omega) (by omega))]
      refine ⟨29, rfl, ?_⟩
      refine y_site (L := psh (as.length + 1) L) (n := nI as.length) (op := 16) c1 (.inr (.inr rfl)) (nn_ns2 hn) (by omega) (fun M2 c2 f2 => ?_)
      show Z E YX26_code (d + 4 + 1) M2 [] 55 [] Q
      exact sX26_code_55 M2 (q1 M2 c2 f2)
    | cons a r ih =>
      intro pre M1 s hr a1 c1 b1 q1
      have hat := at_app hr
      have hpl := (List.getElem?_eq_some_iff.mp hat).1
      have ga : gok a := hl.gok a (List.mem_of_getElem? hat)
      have gr' : gok (gArg r) := gok_Arg fun a' h' => hl.gok a' (by rw [hr]; exact List.mem_append_right _ (List.mem_cons_of_mem _ h'))
      have hs : gArg (a :: r) e Γ (psh (pre.length + 1) L) s = gArg r e Γ (psh (pre.length + 1 + 1) L) (a e Γ (psh (pre.length + 1) L) s) := rfl
      rw [hs] at b1 q1
      have l1 := (gr' e Γ (psh (pre.length + 1 + 1) L) (a e Γ (psh (pre.length + 1) L) s)).len
      refine iX26_code_10 M1 b _ _ ⟨lst, (a1 b 1 hb).2.trans e1, ?_⟩
      rw [y_num hl a1, if_neg (nI_ge hpl (by have := hl.lt; omega))]
      refine y_elem (d := d + 1) hl a1 hat (fun p hp => ?_)
      show Z E YX26_code (d + 4 + 1) M1 [(0, vr (some (b, 31, 0))), (1, C29), (2, vi (nI pre.length))] 29 [vr (some p)] Q
      refine sX26_code_29 M1 b _ _ _ ?_
      refine y_subL (L := psh (pre.length + 1) L) hp a1 c1 (by omega) (by omega) (fun M2 c2 f2 => ?_)
      show Z E YX26_code (d + 4 + 1) M2 [(0, vr (some (b, 31, 0))), (1, C29), (2, vi (nI pre.length))] 36 [] Q
      refine sX26_code_36 M2 b _ _ ?_
      have := ih (pre ++ [a]) M2 (a e Γ (psh (pre.length + 1) L) s) (by rw [hr]; simp) (a1.tr (f2.agS hS)) c2
      rw [List.length_append] at this
      rw [nI_l1]
      exact this b1 (fun M3 c3 f3 => q1 M3 c3 (f2.tr f3))
  have hs : gNew x as e Γ L st = sit (em e Γ (psh (as.length + 1) L) 16 (nI as.length) (nI (gArg as e Γ (psh 1 L) (x e Γ L st)).si) none (gArg as e Γ (psh 1 L) (x e Γ L st))) := rfl
  have l0 : (gNew x as e Γ L st).c.length = (gArg as e Γ (psh 1 L) (x e Γ L st)).c.length + 1 := em_len ..
  have l1 := (gok_Arg hl.gok e Γ (psh 1 L) (x e Γ L st)).len
  refine sX26_code_0 M' b _ ?_
  rw [(ha b 0 hb).2, e0]
  refine y_sub (L := L) h1 ha h (by omega) (by omega) (fun M1 c1 f1 => ?_)
  show Z E YX26_code (d + 4 + 1) M1 [(0, vr (some (b, 31, 0))), (1, C29)] 8 [] Q
  refine sX26_code_8 M1 b _ ?_
  exact loop as [] M1 _ rfl (ha.tr (f1.agS hS)) c1 (by show ((gArg as e Γ (psh 1 L) (x e Γ L st)).c.length : Int) + 1 + δ < _; omega) (fun M2 c2 f2 => hQ M2 (by rw [hs]; exact c2) (f1.tr f2))
/-- a row of units with signs: from the left -/
def gRow (r : List (Int32 × gEx)) (x : gEx) : gEx := r.foldl (fun a q => gBin q.1 a q.2) x
def rowS (e : gN) (Γ : gK) (L : List Bool) (r : List (Int32 × gEx)) (s : gS) : gS := r.foldl (fun s q => em e Γ (psh 2 L) 14 q.1 0 none (q.2 e Γ (psh 1 L) s)) s
theorem gRow_eq (e : gN) (Γ : gK) (L : List Bool) : ∀ (r : List (Int32 × gEx)) (x : gEx) (st : gS), gRow r x e Γ L st = rowS e Γ L r (x e Γ L st)
  | [], _, _ => rfl
  | q :: r, x, st => gRow_eq e Γ L r (gBin q.1 x q.2) st
theorem rowS_len (e : gN) (Γ : gK) (L : List Bool) : ∀ (r : List (Int32 × gEx)) (s : gS), (∀ q ∈ r, gok q.2) → s.c.length ≤ (rowS e Γ L r s).c.length
  | [], _, _ => Nat.le_refl _
  | q :: r, s, h => by
    have h1 := (h q List.mem_cons_self e Γ (psh 1 L) s).len
    have h2 := rowS_len e Γ L r (em e Γ (psh 2 L) 14 q.1 0 none (q.2 e Γ (psh 1 L) s)) (fun q' h' => h q' (List.mem_cons_of_mem _ h'))
    rw [em_len] at h2
    show _ ≤ (rowS e Γ L r (em e Γ (psh 2 L) 14 q.1 0 none (q.2 e Γ (psh 1 L) s))).c.length
    omega
theorem gok_Row : ∀ {r : List (Int32 × gEx)} {x : gEx}, gok x → (∀ q ∈ r, gok q.2) → gok (gRow r x)
  | [], _, hx, _ => hx
  | q :: r, x, hx, h => gok_Row (r := r) (x := gBin q.1 x q.2) (gok_Bin hx (h q List.mem_cons_self)) (fun q' h' => h q' (List.mem_cons_of_mem _ h'))
theorem xe_Row {b lst sb sm : Nat} {x : gEx} {r : List (Int32 × gEx)} (hS : ∀ a, S a → 190 ≤ a) (hb : S b) (e0 : gr M b 0 = some (lst, 11, 0)) (e1 : gr M b 1 = some (sb, 100, sm)) (hl : xEl S M D lst (x :: r.map (·.2))) (hsb : S sb) (hsm : r.length ≤ sm ∧ sm < 1000000) (hsg : ∀ i q, r[i]? = some q → gi M sb i = q.1 ∧ q.1.toInt16.toInt32 = q.1) (hD : 3 ≤ D) : xE S M (D + 1) (b, 35, 0) (gRow r x) := by
  refine ⟨hS, rfl, (show 20 ≤ 35 ∧ 35 < 45 by decide), _, rfl, fun E d Q M' e Γ l δ L st ha h hl' hd hQ => ?_⟩
  obtain ⟨d, rfl⟩ : ∃ d', d = d' + 4 := ⟨d - 4, by omega⟩
  have hlt := hl.lt
  rw [List.length_cons, List.length_map] at hlt
  have gk : ∀ q ∈ r, gok q.2 := fun q hq => hl.gok q.2 (List.mem_cons_of_mem _ (List.mem_map.mpr ⟨q, hq, rfl⟩))
  rw [gRow_eq] at hl' hQ
  have loop : ∀ (r' pre : List (Int32 × gEx)) (M1 : zM) (s : gS), r = pre ++ r' → agS S M M1 → xCz M1 e Γ l δ s → ((rowS e Γ L r' s).c.length : Int) + δ < 100000000 → (∀ M2, xCz M2 e Γ l δ (rowS e Γ L r' s) → fr cdP M1 M2 → Q (.inl none) M2) → Z E YX30_code (d + 3 + 1) M1 [(0, vr (some (b, 35, 0))), (1, C29), (2, vi (nI (pre.length + 1)))] 17 [] Q := by
    intro r'
    induction r' with
    | nil =>
      intro pre M1 s hr a1 c1 b1 q1
      refine iX30_code_17 M1 b _ _ ⟨lst, (a1 b 0 hb).2.trans e0, ?_⟩
      rw [y_num hl a1, if_pos (nI_le (by rw [List.length_cons, List.length_map, hr, List.append_nil]; exact Nat.le_refl _) (by rw [hr, List.append_nil] at hlt; omega))]
      exact q1 M1 c1 fr.rf
    | cons q r' ih =>
      intro pre M1 s hr a1 c1 b1 q1
      have hat := at_app hr
      have hpl := (List.getElem?_eq_some_iff.mp hat).1
      have hu : (x :: r.map (·.2))[pre.length + 1]? = some q.2 := by rw [List.getElem?_cons_succ, List.getElem?_map, hat]; rfl
      have gq := gk q (List.mem_of_getElem? hat)
      have hs : rowS e Γ L (q :: r') s = rowS e Γ L r' (em e Γ (psh 2 L) 14 q.1 0 none (q.2 e Γ (psh 1 L) s)) := rfl
      rw [hs] at b1 q1
      have l1 := rowS_len e Γ L r' (em e Γ (psh 2 L) 14 q.1 0 none (q.2 e Γ (psh 1 L) s)) (fun q' h' => gk q' (by rw [hr]; exact List.mem_append_right _ (List.mem_cons_of_mem _ h')))
      have l2 := em_len e Γ (psh 2 L) 14 q.1 0 none (q.2 e Γ (psh 1 L) s)
      refine iX30_code_17 M1 b _ _ ⟨lst, (a1 b 0 hb).2.trans e0, ?_⟩
      rw [y_num hl a1, if_neg (nI_ge (by rw [List.length_cons, List.length_map]; omega) (by rw [List.length_cons, List.length_map]; omega))]
      refine y_elem (d := d) hl a1 hu (fun p hp => ?_)
      show Z E YX30_code (d + 3 + 1) M1 [(0, vr (some (b, 35, 0))), (1, C29), (2, vi (nI (pre.length + 1)))] 36 [vr (some p)] Q
      refine sX30_code_36 M1 b _ _ _ ?_
      refine y_subL (L := psh 1 L) hp a1 c1 (by omega) (by omega) (fun M2 c2 f2 => ?_)
      have a2 := a1.tr (f2.agS hS)
      show Z E YX30_code (d + 3 + 1) M2 [(0, vr (some (b, 35, 0))), (1, C29), (2, vi (nI (pre.length + 1)))] 43 [] Q
      obtain ⟨g1, g2⟩ := hsg _ q hat
      refine sX30_code_43 M2 b _ _ ⟨sb, sm, (a2 b 1 hb).2.trans e1, ?_⟩
      rw [show nI (pre.length + 1) - 1 = nI pre.length from by rw [show (1 : Int32) = nI 1 from rfl, nn_sub (by omega)]; rfl]
      refine ⟨nI_in (by omega) (by omega), 29, rfl, ?_⟩
      rw [nI_clamp (by omega), (a2 sb _ hsb).1, g1]
      refine y_putn (L := psh 2 L) c2 (by omega) rfl g2 (fun M3 v c3 f3 => ?_)
      show Z E YX30_code (d + 3 + 1) M3 [(0, vr (some (b, 35, 0))), (1, C29), (2, vi (nI (pre.length + 1)))] 58 [vi v] Q
      refine sX30_code_58 M3 b 29 _ _ ?_
      have := ih (pre ++ [q]) M3 _ (by rw [hr]; simp) (a2.tr (f3.agS hS)) c3 b1 (fun M4 c4 f4 => q1 M4 c4 ((f2.tr f3).tr f4))
      rw [List.length_append] at this
      rw [nI_l1]
      exact this
  have l1 := rowS_len e Γ L r (x e Γ L st) gk
  refine sX30_code_0 M' b _ ⟨lst, (ha b 0 hb).2.trans e0, ?_⟩
  refine y_elem (d := d) (i := 0) hl ha rfl (fun p hp => ?_)
  show Z E YX30_code (d + 3 + 1) M' [(0, vr (some (b, 35, 0))), (1, C29)] 8 [vr (some p)] Q
  refine sX30_code_8 M' b _ _ ?_
  refine y_subL (L := L) hp ha h (by omega) (by omega) (fun M1 c1 f1 => ?_)
  show Z E YX30_code (d + 3 + 1) M1 [(0, vr (some (b, 35, 0))), (1, C29)] 15 [] Q
  refine sX30_code_15 M1 b _ ?_
  exact loop r [] M1 _ rfl (ha.tr (f1.agS hS)) c1 hl' (fun M2 c2 f2 => hQ M2 c2 (f1.tr f2))
end
