/-! THE COMPONENT's LEXER: one token -/
/-- a string's signs, unescaped -/
def lxU (n : Nat) (c : Nat → Int32) (q : Int32) : Nat → Nat → List Int32
  | 0, _ => []
  | f + 1, p => if n ≤ p then [] else if c p = q then [] else if c p = 92 then (if c (p + 1) = 110 then 10 else if c (p + 1) = 116 then 9 else c (p + 1)) :: lxU n c q f (p + 2) else c p :: lxU n c q f (p + 1)
/-- the text that a token at p tells -/
def lxTx (n : Nat) (c : Nat → Int32) (p : Nat) (k : Int32) (e : Nat) : List Int32 := if k = 4 then lxU n c (c p) n (p + 1) else lxW c p (e - p)
/-- one name more, if it is new -/
def nmA (L : List (List Int32)) (w : List Int32) : List (List Int32) := if w ∈ L then L else L ++ [w]
theorem tfd_no {w : List Int32} : ∀ (L : List (List Int32)) (s : Nat), w ∉ L → tfd s L w = -1
  | [], _, _ => rfl
  | x :: r, s, h => by
    unfold tfd
    rw [if_neg (fun e => h (by rw [e]; exact List.mem_cons_self))]
    exact tfd_no r (s + 1) (fun z => h (List.mem_cons_of_mem _ z))
theorem tfd_yes {w : List Int32} : ∀ (L : List (List Int32)) (s : Nat), w ∈ L → ∃ k, k < L.length ∧ tfd s L w = nI (s + k) ∧ L[k]? = some w
  | [], _, h => by cases h
  | x :: r, s, h => by
    unfold tfd
    by_cases e : x = w
    · exact ⟨0, by simp, by rw [if_pos e]; rfl, by rw [e]; rfl⟩
    · rw [if_neg e]
      obtain ⟨k, h1, h2, h3⟩ := tfd_yes r (s + 1) ((List.mem_cons.mp h).resolve_left (Ne.symm e))
      exact ⟨k + 1, by rw [List.length_cons]; omega, by rw [h2]; congr 1; omega, h3⟩
theorem tfd_new {w : List Int32} : ∀ (L : List (List Int32)) (s : Nat), w ∉ L → tfd s (L ++ [w]) w = nI (s + L.length)
  | [], s, _ => by show (if w = w then nI s else _) = _; rw [if_pos rfl]; rfl
  | x :: r, s, h => by
    show (if x = w then nI s else tfd (s + 1) (r ++ [w]) w) = _
    rw [if_neg (fun e => h (by rw [e]; exact List.mem_cons_self)), tfd_new r (s + 1) (fun z => h (List.mem_cons_of_mem _ z))]
    congr 1
    rw [List.length_cons]
    omega
theorem nmA_mem (L : List (List Int32)) (w : List Int32) : w ∈ nmA L w := by
  unfold nmA
  split
  · assumption
  · simp
/-- the component's number of a sign of the twin's -/
def sgX (j : Int32) : Int32 := tfd 0 lxGx (lxGt.getD j.toNatClampNeg [])
/-- what one token changes -/
def tkQ (a x k : Nat) : Prop := x = a ∧ (k = 1 ∨ k = 3 ∨ k = 6 ∨ k = 7) ∨ x = 16 ∧ k = 3 ∨ x = 20 ∨ x = 17 ∧ k = 2 ∨ x = 18 ∨ x = 19
def tkA (a x k : Nat) : Prop := x = a ∧ (k = 1 ∨ k = 3 ∨ k = 6 ∨ k = 7)
theorem tkQ_P {a : Nat} : ∀ x k, tkQ a x k → tkP a x k := fun x k h => by unfold tkQ at h; unfold tkP; omega
/-- the tables of words and signs -/
def xTb (M : zM) : Prop := (xS M 22 23 24 lxK ∧ gr M 22 1 = some (23, 100, 41) ∧ gr M 22 0 = some (24, 101, 400)) ∧ xS M 25 26 27 lxGx ∧ gr M 25 1 = some (26, 100, 61) ∧ gr M 25 0 = some (27, 101, 200)
theorem xS_fg {P : Nat → Nat → Prop} {M M' : zM} {a f s : Nat} {L : List (List Int32)} (h : xS M a f s L) (g : fg P M M') (hz : a < zsz M ∧ f < zsz M ∧ s < zsz M) (h1 : ¬ P a 2) (h2 : ∀ k, ¬ P f k) (h3 : ∀ k, ¬ P s k) : xS M' a f s L :=
  ⟨(g.gi hz.1 h1).trans h.1, fun k hk => (g.gi hz.2.1 (h2 k)).trans (h.2.1 k hk), fun k hk => (g.gi hz.2.2 (h3 k)).trans (h.2.2 k hk)⟩
theorem xTb_fg {P : Nat → Nat → Prop} {M M' : zM} (h : xTb M) (g : fg P M M') (hz : 28 ≤ zsz M) (hP : ∀ x k, 22 ≤ x → x ≤ 27 → ¬ P x k) : xTb M' := by
  obtain ⟨⟨a1, a2, a3⟩, b1, b2, b3⟩ := h
  have e : ∀ x k, 22 ≤ x → x ≤ 27 → gr M' x k = gr M x k := fun x k h1 h2 => g.gr (by omega) (hP x k h1 h2)
  exact ⟨⟨xS_fg a1 g (by omega) (hP _ _ (by omega) (by omega)) (fun k => hP _ _ (by omega) (by omega)) (fun k => hP _ _ (by omega) (by omega)), (e _ _ (by omega) (by omega)).trans a2, (e _ _ (by omega) (by omega)).trans a3⟩, xS_fg b1 g (by omega) (hP _ _ (by omega) (by omega)) (fun k => hP _ _ (by omega) (by omega)) (fun k => hP _ _ (by omega) (by omega)), (e _ _ (by omega) (by omega)).trans b2, (e _ _ (by omega) (by omega)).trans b3⟩
theorem tab_ok : lxK.flatten.length ≤ 200 ∧ lxGx.flatten.length ≤ 100 ∧ (∀ w ∈ lxGx, w ∈ lxGt) ∧ (∀ w ∈ lxGt, w ∈ lxGx) ∧ ∀ i, i < 48 → ∀ j, j < 48 → (lxGt.getD j []).length < (lxGt.getD i []).length → i < j := by decide +kernel
theorem lxI_c7 {x : Int32} (h : lxI x = true) : c7 x := by
  have e : ∀ x : Int32, lxI x = true → x.toInt = x.toNatClampNeg ∧ x.toNatClampNeg < 128 := fun x h => by
    have h36 : (36 : Int32).toInt = 36 := rfl
    have k1 : (97 : Int32).toInt = 97 := rfl
    have k2 : (122 : Int32).toInt = 122 := rfl
    have k3 : (65 : Int32).toInt = 65 := rfl
    have k4 : (90 : Int32).toInt = 90 := rfl
    have k5 : (48 : Int32).toInt = 48 := rfl
    have k6 : (57 : Int32).toInt = 57 := rfl
    have k7 : (95 : Int32).toInt = 95 := rfl
    unfold lxI lxL lxD at h
    simp only [Bool.or_eq_true, Bool.and_eq_true, decide_eq_true_eq, Int32.le_iff_toInt_le] at h
    have : 0 ≤ x.toInt ∧ x.toInt < 128 := by
      rcases h with (((h | h) | h) | h) | h
      · omega
      · omega
      · rw [h]; decide
      · rw [h]; decide
      · omega
    show x.toInt = (x.toInt.toNat : Int) ∧ x.toInt.toNat < 128
    omega
  obtain ⟨h1, h2⟩ := e x h
  exact ⟨x.toNatClampNeg, h2, Int32.toInt.inj (by rw [nn_toInt (by omega)]; exact h1)⟩
section
variable {E : zE} {d : Nat} {Q : zO → zM → Prop} {n : Nat} {c : Nat → Int32} {a : Nat}
/-- starts, inner -/
theorem x_starts {M : zM} {x : Int32} (hw : cw M) (hQ : Q (.inl (some (vi (bI (lxL x))))) M) : Z E YX1_starts d M [(0, vi x)] 0 [] Q := by
  have k24 : lxL x = (decide (x = 95) || decide (x = 36)) → Z E YX1_starts d M [(0, vi x)] 24 [] Q := fun h => by
    refine sX1_starts_24 M x hw ?_
    by_cases h1 : x = 95
    · rw [if_pos h1]; rw [h, decide_eq_true h1] at hQ; exact hQ
    · rw [if_neg h1]
      by_cases h2 : x = 36
      · rw [if_pos h2]; rw [h, decide_eq_false h1, decide_eq_true h2] at hQ; exact hQ
      · rw [if_neg h2]; rw [h, decide_eq_false h1, decide_eq_false h2] at hQ; exact hQ
  have k12 : lxL x = ((decide (65 ≤ x) && decide (x ≤ 90)) || decide (x = 95) || decide (x = 36)) → Z E YX1_starts d M [(0, vi x)] 12 [] Q := fun h => by
    refine sX1_starts_12 M x hw ?_
    by_cases h1 : x < 65
    · rw [if_pos h1]
      refine k24 ?_
      rw [h, decide_eq_false (show ¬ (65 : Int32) ≤ x by rw [i_le]; exact h1)]; rfl
    · rw [if_neg h1]
      have h65 : (65 : Int32) ≤ x := by rw [← i_lt]; exact h1
      by_cases h2 : x ≤ 90
      · rw [if_pos h2]; rw [h, decide_eq_true h65, decide_eq_true h2] at hQ; exact hQ
      · rw [if_neg h2]
        refine k24 ?_
        rw [h, decide_eq_false h2, Bool.and_false, Bool.false_or]
  refine sX1_starts_0 M x hw ?_
  by_cases h1 : x < 97
  · rw [if_pos h1]
    refine k12 ?_
    unfold lxL
    rw [decide_eq_false (show ¬ (97 : Int32) ≤ x by rw [i_le]; exact h1)]; rfl
  · rw [if_neg h1]
    have h97 : (97 : Int32) ≤ x := by rw [← i_lt]; exact h1
    by_cases h2 : x ≤ 122
    · rw [if_pos h2]
      unfold lxL at hQ
      rw [decide_eq_true h97, decide_eq_true h2] at hQ
      exact hQ
    · rw [if_neg h2]
      refine k12 ?_
      unfold lxL
      rw [decide_eq_false h2, Bool.and_false, Bool.false_or]
theorem x_inner {M : zM} {x : Int32} (hw : cw M) (hQ : Q (.inl (some (vi (bI (lxI x))))) M) : Z E YX1_inner (d + 1) M [(0, vi x)] 0 [] Q := by
  refine sX1_inner_0 M x hw (x_starts hw ?_)
  show Z E YX1_inner (d + 1) M [(0, vi x)] 4 [vi (bI (lxL x))] Q
  refine iX1_inner_4 M x _ hw ?_
  unfold lxI at hQ
  cases h : lxL x with
  | true => rw [h] at hQ; exact hQ
  | false =>
    rw [h, Bool.false_or] at hQ
    rw [bI_f, if_pos rfl]
    exact lxD_3 (P := fun x => Q (.inl (some (vi x))) M) hQ
/-- write, whatever comes of it -/
theorem x_write0 {M : zM} {x : Int32} (hw : cw M) (h3 : ∃ k, k ≤ 256 ∧ gi M 16 3 = nI k) (hQ : ∀ M', fr (fun a k => a = 20 ∨ a = 16 ∧ k = 3) M M' → (∃ k, k ≤ 256 ∧ gi M' 16 3 = nI k) → Q (.inl none) M') : Z E YX1_write d M [(0, zX16), (1, vi x)] 0 [] Q := by
  obtain ⟨k, hk, e⟩ := h3
  refine sX1_write_0 M x hw ?_
  rw [e]
  by_cases h : k = 256
  · rw [if_pos (show (256 : Int32) ≤ nI k from nI_le (a := 256) (by omega) (by omega))]
    exact hQ M fr.rf ⟨k, hk, e⟩
  · rw [if_neg (show ¬ (256 : Int32) ≤ nI k from nI_ge (b := 256) (by omega) (by decide)), nI_l1]
    exact ⟨nI_in (by omega) (by decide), hQ _ ((fr.si (.inr ⟨rfl, rfl⟩)).tr (fr.si (.inl rfl))) ⟨k + 1, by omega, by rw [gi_oth (by decide), gi_self]⟩⟩
theorem x_name {M : zM} {w : List Int32} {L : List (List Int32)} (hw : cw M) (ha : gr M a 0 = some (16, 0, 0)) (hp : xgp M) (hR : xR M w) (hb : ∀ x ∈ w, xb x) (hS : xS M 17 18 19 L) (h1 : L.length < 2199) (h2 : L.flatten.length + w.length ≤ 40000)
    (hQ : ∀ M', fr (fun x k => x = 19 ∨ x = 18 ∨ x = 17 ∧ k = 2) M M' → xS M' 17 18 19 (nmA L w) → Q (.inl (some (vi (tfd 0 (nmA L w) w)))) M') : Z E YX10_name (d + 2) M [(0, vr (some (a, 9, 0)))] 0 [] Q := by
  refine iX10_name_0 M a ⟨16, ha, 17, cw_x hw, ?_⟩
  rw [cw_r hw, hR.1]
  refine x_find hp.1 hp.2 hS (by omega) (by decide) (by omega) (by decide) (fun k hk => hR.2.2 k hk) hR.2.1 (by decide) ?_
  show Z E YX10_name (d + 1 + 1) M [(0, vr (some (a, 9, 0)))] 24 [vi (tfd 0 L w)] Q
  refine iX10_name_24 M a _ ?_
  by_cases hm : w ∈ L
  · obtain ⟨k, k1, k2, -⟩ := tfd_yes L 0 hm
    have e : nmA L w = L := if_pos hm
    rw [e] at hQ
    rw [if_neg (by rw [k2, nn_m1 (by omega)]; exact fun z => z)]
    exact hQ M fr.rf hS
  · have e : nmA L w = L ++ [w] := if_neg hm
    rw [e, tfd_new L 0 hm, Nat.zero_add] at hQ
    rw [if_pos (tfd_no L 0 hm)]
    refine ⟨16, ha, 17, cw_x hw, ?_⟩
    rw [cw_r hw, hR.1]
    refine x_add hp.1 hp.2 hS (by omega) (by decide) h2 (by decide) (fun k hk => ⟨hR.2.2 k hk, hb _ (by rw [getD_lt hk]; exact List.getElem_mem hk)⟩) hR.2.1 (by decide) (by decide) (by decide) (fun M1 f1 hS1 => ?_)
    show Z E YX10_name (d + 1 + 1) M1 [] 54 [vi (nI L.length)] Q
    exact sX10_name_54 M1 _ (hQ M1 f1 hS1)
/-- what one token's reading owes -/
def xPost (Q : zO → zM → Prop) (n : Nat) (c : Nat → Int32) (a : Nat) (M : zM) (p : Nat) (r : Int32 × Int32 × Nat) (L : List (List Int32)) : Prop :=
  ∀ M' L', fr (tkQ a) M M' → gi M' a 3 = r.1 → (¬ r.1 = 6 → gi M' a 1 = nI r.2.2) → (r.1 = 2 → gi M' a 6 = r.2.1) → (r.1 = 5 → gi M' a 6 = sgX r.2.1) → (r.1 = 3 → gi M' a 7 = r.2.1) → (r.1 = 1 ∨ r.1 = 4 → gi M' a 6 = tfd 0 L' (lxTx n c p r.1 r.2.2) ∧ L' = nmA L (lxTx n c p r.1 r.2.2)) → (¬ (r.1 = 1 ∨ r.1 = 4) → ¬ r.1 = 6 → L' = L) → (¬ r.1 = 6 → xS M' 17 18 19 L') → Q (.inl none) M'
theorem x_digits {p l : Nat} {M : zM} {L : List (List Int32)} (h : xLx M a n c p l) (hS : xS M 17 18 19 L) (hp : p < n) (h0 : lxL (c p) = false) (h1 : lxD (c p) = true) (hQ : xPost Q n c a M p (lxO n c p) L) : Z E YX10_digits (d + 2) M [(0, vr (some (a, 9, 0)))] 0 [] Q := by
  have hn := h.2.1.2.1
  have hO : lxO n c p = (if 10 < lxF n (fun k => !(lxD (c k))) p - p ∨ 0 < lg_cmp (lxV c (lxF n (fun k => !(lxD (c k))) p - p) p 0 0) 2147483647 ∨ (lxF n (fun k => !(lxD (c k))) p < n ∧ lxI (c (lxF n (fun k => !(lxD (c k))) p)) = true) then 6 else 3, (lxV c (lxF n (fun k => !(lxD (c k))) p - p) p 0 0).toInt32, lxF n (fun k => !(lxD (c k))) p) := by
    unfold lxO; rw [if_neg (by omega), h0, if_neg (by decide), if_pos h1]
  generalize he : lxF n (fun k => !(lxD (c k))) p = e at hO
  have hge : p ≤ e := by rw [← he]; exact lxF_ge n _ _ p rfl
  have hle : e ≤ n := by rw [← he]; exact lxF_le n _ _ p rfl (by omega)
  rw [hO] at hQ
  generalize hV : lxV c (e - p) p 0 0 = V at hQ
  have ha := h.2.2.1
  have done : ∀ (M1 : zM) (v : Int32), fr (tkA a) M M1 → gi M1 a 1 = nI e → gi M1 a 7 = V.toInt32 → v = (if 10 < e - p ∨ 0 < lg_cmp V 2147483647 ∨ (e < n ∧ lxI (c e) = true) then (6 : Int32) else 3) → Q (.inl none) (si M1 a 3 v) := fun M1 v f e1 e7 hv => by
    have f2 : fr (tkA a) M (si M1 a 3 v) := f.tr (fr.si ⟨rfl, by omega⟩)
    have v36 : v = 6 ∨ v = 3 := by rw [hv]; split <;> simp
    rw [← hv] at hQ
    refine hQ _ L (f2.mono fun x k q => .inl q) (by rw [gi_self]) (fun _ => (gi_idx (by decide)).trans e1) (fun z => ?_) (fun z => ?_) (fun _ => (gi_idx (by decide)).trans e7) (fun z => ?_) (fun _ _ => rfl) (fun _ => ?_)
    · exfalso; dsimp only at z; rcases v36 with q | q <;> rw [q] at z <;> exact absurd z (by decide)
    · exfalso; dsimp only at z; rcases v36 with q | q <;> rw [q] at z <;> exact absurd z (by decide)
    · exfalso; dsimp only at z; rcases v36 with q | q <;> rw [q] at z <;> exact z.elim (fun z => absurd z (by decide)) (fun z => absurd z (by decide))
    · exact xS_fg hS f2.fg (by omega) (by unfold tkA; omega) (fun k => by unfold tkA; omega) (fun k => by unfold tkA; omega)
  have fin : ∀ (M1 : zM), fr (tkA a) M M1 → gi M1 a 1 = nI e → Z E YX10_digits (d + 1 + 1) M1 [(0, vr (some (a, 9, 0))), (1, vl V), (3, vi (nI (e - p)))] 78 [] Q := fun M1 f e1 => by
    have h2 : xLx M1 a n c e l := xLx_fg h (f.mono fun x k q => by unfold tkA at q; unfold tkP; omega).fg e1 (((f.2 a 2 (by unfold tkA; omega)).1).trans h.2.2.2.2)
    obtain ⟨w1, w2, w3, w4, w5⟩ := id h2
    have f7 : fr (tkA a) M1 (si M1 a 7 V.toInt32) := fr.si ⟨rfl, by omega⟩
    have q1 : gi (si M1 a 7 V.toInt32) a 1 = nI e := (gi_idx (by decide)).trans e1
    have q7 : gi (si M1 a 7 V.toInt32) a 7 = V.toInt32 := gi_self ..
    refine iX10_digits_78 M1 a _ _ ⟨by omega, ?_⟩
    by_cases h10 : 10 < e - p
    · rw [if_pos (show (10 : Int32) < nI (e - p) from nI_lt (a := 10) h10 (by omega))]
      exact done _ 6 (f.tr f7) q1 q7 (by rw [if_pos (Or.inl h10)])
    rw [if_neg (show ¬ (10 : Int32) < nI (e - p) from nI_nlt (a := 10) (by omega) (by decide))]
    by_cases hm : 0 < lg_cmp V 2147483647
    · rw [if_pos hm]
      exact done _ 6 (f.tr f7) q1 q7 (by rw [if_pos (Or.inr (Or.inl hm))])
    rw [if_neg hm]
    refine ⟨16, w3.2.2, ?_⟩
    rw [gi_oth (by omega), w2.1, q1]
    by_cases hen : e < n
    · rw [if_neg (nI_ge hen (by omega))]
      refine ⟨21, 4000, cw_t w1, nI_in (by omega) (by omega), ?_⟩
      rw [gi_oth (by omega), xl_at w2 hen]
      refine x_inner (cw.si w1) ?_
      show Z E YX10_digits (d + 1 + 1) (si M1 a 7 V.toInt32) [] 124 [vi (bI (lxI (c e))), vr (some (a, 9, 0))] Q
      refine sX10_digits_124 _ _ a ?_
      cases hI : lxI (c e) with
      | true =>
        rw [bI_t, if_neg (by decide)]
        exact ⟨by omega, done _ 6 (f.tr f7) q1 q7 (by rw [if_pos (Or.inr (Or.inr ⟨hen, hI⟩))])⟩
      | false =>
        rw [bI_f, if_pos rfl]
        exact ⟨by omega, done _ 3 (f.tr f7) q1 q7 (by rw [if_neg (fun z => z.elim h10 (fun z => z.elim hm (fun z => by rw [hI] at z; exact absurd z.2 (by decide))))])⟩
    · rw [if_pos (nI_le (by omega) (by omega))]
      exact done _ 3 (f.tr f7) q1 q7 (by rw [if_neg (fun z => z.elim h10 (fun z => z.elim hm (fun z => hen z.1)))])
  have loop : ∀ (f k : Nat) (v : Int64) (M1 : zM), n - k = f → p ≤ k → k ≤ e → lxF n (fun k => !(lxD (c k))) k = e → lxV c (e - k) k (k - p) v = V → fr (tkA a) M M1 → gi M1 a 1 = nI k → Z E YX10_digits (d + 1 + 1) M1 [(0, vr (some (a, 9, 0))), (1, vl v), (3, vi (nI (k - p)))] 4 [] Q := by
    intro f
    induction f with
    | zero =>
      intro k v M1 hf hpk hke hek hv hfr e1
      have h2 : xLx M1 a n c k l := xLx_fg h (hfr.mono fun x k q => by unfold tkA at q; unfold tkP; omega).fg e1 (((hfr.2 a 2 (by unfold tkA; omega)).1).trans h.2.2.2.2)
      rw [lxF_end (by omega)] at hek
      subst hek
      rw [Nat.sub_self] at hv
      have hv' : v = V := hv
      subst hv'
      refine iX10_digits_4 M1 a _ _ h2.1 ⟨16, h2.2.2.1.2.2, ?_⟩
      rw [h2.2.1.1, e1, if_pos (nI_le (by omega) (by omega))]
      exact fin M1 hfr e1
    | succ f ih =>
      intro k v M1 hf hpk hke hek hv hfr e1
      have h2 : xLx M1 a n c k l := xLx_fg h (hfr.mono fun x k q => by unfold tkA at q; unfold tkP; omega).fg e1 (((hfr.2 a 2 (by unfold tkA; omega)).1).trans h.2.2.2.2)
      obtain ⟨w1, w2, w3, w4, w5⟩ := id h2
      have hkn : k < n := by omega
      refine iX10_digits_4 M1 a _ _ w1 ⟨16, w3.2.2, ?_⟩
      rw [w2.1, e1, if_neg (nI_ge hkn (by omega))]
      refine ⟨21, 4000, cw_t w1, nI_in (by omega) (by omega), ?_⟩
      rw [xl_at w2 hkn, nI_l1, nI_l1]
      have stop : lxD (c k) = false → Z E YX10_digits (d + 1 + 1) M1 [(0, vr (some (a, 9, 0))), (1, vl v), (3, vi (nI (k - p)))] 78 [] Q := fun hz => by
        rw [lxF_yes (P := fun k => !(lxD (c k))) (by simp [hz])] at hek
        subst hek
        rw [Nat.sub_self] at hv
        have hv' : v = V := hv
        subst hv'
        exact fin M1 hfr e1
      by_cases h48 : c k < 48
      · rw [if_pos h48]
        exact stop (by unfold lxD; rw [decide_eq_false (show ¬ (48 : Int32) ≤ c k by rw [i_le]; exact h48)]; rfl)
      rw [if_neg h48]
      by_cases h57 : 57 < c k
      · rw [if_pos h57]
        exact stop (by unfold lxD; rw [decide_eq_false (show ¬ c k ≤ (57 : Int32) by rw [i_le]; exact h57), Bool.and_false])
      rw [if_neg h57]
      have hD : lxD (c k) = true := by
        unfold lxD
        rw [decide_eq_true (show (48 : Int32) ≤ c k by rw [← i_lt]; exact h48), decide_eq_true (show c k ≤ (57 : Int32) by rw [← i_lt]; exact h57)]; rfl
      have hek' : lxF n (fun k => !(lxD (c k))) (k + 1) = e := by rw [← lxF_no hkn (by simp [hD])]; exact hek
      have hk1e : k + 1 ≤ e := by rw [← hek']; exact lxF_ge n _ _ (k + 1) rfl
      have hv2 : lxV c (e - (k + 1)) (k + 1) (k + 1 - p) (if k - p < 10 then (10 : Int64) * v + (c k).toInt64 - 48 else v) = V := by
        rw [← hv, show e - k = (e - (k + 1)) + 1 by omega, show k + 1 - p = k - p + 1 by omega]; rfl
      have f1 : fr (tkA a) M (si M1 a 1 (nI (k + 1))) := hfr.tr (fr.si ⟨rfl, by omega⟩)
      rw [show k - p + 1 = k + 1 - p by omega]
      by_cases h10 : k - p < 10
      · rw [if_neg (show ¬ (10 : Int32) ≤ nI (k - p) from nI_ge (b := 10) h10 (by decide))]
        rw [if_pos h10] at hv2
        exact ⟨by omega, ih (k + 1) _ _ (by omega) (by omega) hk1e hek' hv2 f1 (gi_self ..)⟩
      · rw [if_pos (show (10 : Int32) ≤ nI (k - p) from nI_le (a := 10) (by omega) (by omega))]
        rw [if_neg h10] at hv2
        exact ⟨by omega, ih (k + 1) _ _ (by omega) (by omega) hk1e hek' hv2 f1 (gi_self ..)⟩
  refine sX10_digits_0 M a ?_
  have := loop _ p 0 M rfl (Nat.le_refl _) hge he (by rw [Nat.sub_self]; exact hV) fr.rf h.2.2.2.1
  rw [Nat.sub_self] at this
  exact this
end
