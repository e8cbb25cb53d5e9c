/-! THE COMPONENT's CODER: what is around, in memory -/
/-- the i-th around a, its two lists of jumps and their arrays; ρ gives each such cell a number of its own -/
def oA (M : zM) (ρ : Nat → Nat) (i a : Nat) : Prop :=
  ∃ j1 j2 k1 k2, (ρ a = 5 * i + 1 ∧ ρ j1 = 5 * i + 2 ∧ ρ j2 = 5 * i + 3 ∧ ρ (jR M j1) = 5 * i + 4 ∧ ρ (jR M j2) = 5 * i + 5) ∧ gi M a 0 = nI i ∧ gr M a 1 = some (j1, 18, 0) ∧ gr M a 2 = some (j2, 18, 0) ∧ xJp M j1 k1 ∧ xJp M j2 k2
def xOw (M : zM) (ρ : Nat → Nat) (A : List Nat) : Prop :=
  (∀ c, ρ c ≠ 0 → 190 ≤ c ∧ c < zsz M) ∧ xLs M 37 (A.map fun a => some (a, 17, 0)) ∧ (ρ (lA M 37) = 0 ∧ (lA M 37 < 16 ∨ 190 ≤ lA M 37)) ∧ ∀ i a, A[i]? = some a → oA M ρ i a
/-- what entering changes -/
def enF (M : zM) (ρ : Nat → Nat) (u : Nat) (x k : Nat) : Prop :=
  x = 29 ∧ (k = 9 ∨ k = 11) ∨ x = 37 ∨ (x = lA M 37 ∧ 16 ≤ x) ∨ ρ x = 5 * u + 1 ∧ 3 ≤ k ∨ (ρ x = 5 * u + 2 ∨ ρ x = 5 * u + 3) ∧ k = 1
def enP (M M' : zM) (ρ ρ' : Nat → Nat) (A A' : List Nat) (a u : Nat) (s : Int32) : Prop :=
  xOw M' ρ' A' ∧ A'[u]? = some a ∧ (A' = A ∨ u = A.length ∧ A' = A ++ [a]) ∧ (∀ c, c < zsz M → ρ' c = ρ c) ∧ (gi M' a 3 = s ∧ gr M' a 4 = gr M 29 9 ∧ gr M' a 5 = none ∧ gr M' a 6 = none ∧ gi M' a 7 = 0 ∧ gi M' a 8 = 1) ∧
  (∃ j1 j2, gr M' a 1 = some (j1, 18, 0) ∧ gr M' a 2 = some (j2, 18, 0) ∧ xJp M' j1 [] ∧ xJp M' j2 []) ∧ gr M' 29 9 = some (a, 17, 0) ∧ gi M' 29 11 = nI (u + 1) ∧ cw M' ∧ fg (enF M ρ u) M M' ∧
  zsz M' + 6 * A.length ≤ zsz M + 6 * A'.length ∧ zsu M' + 4 * lC M 37 + 21 * A.length ≤ zsu M + 4 * lC M' 37 + 21 * A'.length ∧ (lA M' 37 = lA M 37 ∨ zsz M ≤ lA M' 37)
theorem beg_gi (M : zM) (a : Nat) (s : Int32) (r : Option zP) (j1 j2 : Nat) (n1 : a ≠ j1) (n2 : a ≠ j2) (x k : Nat) : gi (si (si (si (si (sr (sr (sr (si M a 3 s) a 4 r) a 5 none) a 6 none) a 7 0) a 8 1) j1 1 0) j2 1 0) x k = if (x = j1 ∨ x = j2) ∧ k = 1 then 0 else if x = a ∧ k = 8 then 1 else if x = a ∧ k = 7 then 0 else if x = a ∧ k = 3 then s else gi M x k := by
  have e : ∀ (M : zM) (b i : Nat) (v : Option zP) (x k : Nat), gi (sr M b i v) x k = gi M x k := fun _ _ _ _ _ _ => rfl
  simp only [gi_si, e]
  by_cases h1 : x = j1
  · by_cases h2 : x = j2 <;> by_cases h3 : k = 1 <;> simp_all <;> grind
  · by_cases h2 : x = j2 <;> by_cases h3 : k = 1 <;> simp_all <;> grind
theorem beg_gr (M : zM) (a : Nat) (s : Int32) (r : Option zP) (j1 j2 x k : Nat) : gr (si (si (si (si (sr (sr (sr (si M a 3 s) a 4 r) a 5 none) a 6 none) a 7 0) a 8 1) j1 1 0) j2 1 0) x k = if x = a ∧ (k = 5 ∨ k = 6) then none else if x = a ∧ k = 4 then r else gr M x k := by
  simp only [gr_si, gr_sr]; grind
section
variable {E : zE} {d : Nat} {Q : zO → zM → Prop} {M : zM} {ρ : Nat → Nat} {A : List Nat}
/-- begin: an around that is there is used anew -/
theorem y_begA {a u : Nat} {s : Int32} (hw : cw M) (ho : xOw M ρ A) (hu : gi M 29 11 = nI u) (hul : u < 90000) (ha : A[u]? = some a) (hz : 190 ≤ zsz M)
    (hQ : ∀ M', xOw M' ρ A → (gi M' a 3 = s ∧ gr M' a 4 = gr M 29 9 ∧ gr M' a 5 = none ∧ gr M' a 6 = none ∧ gi M' a 7 = 0 ∧ gi M' a 8 = 1) → (∃ j1 j2, gr M' a 1 = some (j1, 18, 0) ∧ gr M' a 2 = some (j2, 18, 0) ∧ xJp M' j1 [] ∧ xJp M' j2 []) → gr M' 29 9 = some (a, 17, 0) → gi M' 29 11 = nI (u + 1) → cw M' → fr (fun x k => x = 29 ∧ (k = 9 ∨ k = 11) ∨ ρ x = 5 * u + 1 ∧ 3 ≤ k ∨ (ρ x = 5 * u + 2 ∨ ρ x = 5 * u + 3) ∧ k = 1) M M' → Q (.inl (some (vr (some (a, 17, 0))))) M') : Z E YX3_enter (d + 1) M [(0, C29), (1, vi s)] 44 [vr (some (a, 17, 0))] Q := by
  obtain ⟨o1, o2, ⟨o3, o3'⟩, o4⟩ := id ho
  obtain ⟨j1, j2, k1, k2, ⟨r1, r2, r3, r4, r5⟩, g0, g1, g2, x1, x2⟩ := o4 u a ha
  have ba := o1 a (by omega)
  have b1 := o1 j1 (by omega)
  have b2 := o1 j2 (by omega)
  have n1 : a ≠ j1 := fun z => by rw [z] at r1; omega
  have n2 : a ≠ j2 := fun z => by rw [z] at r1; omega
  have n3 : j1 ≠ j2 := fun z => by rw [z] at r2; omega
  refine sX3_enter_44 M _ _ hw ⟨a, rfl, ?_⟩
  refine jX40_begin M a s _ ⟨by omega, j1, ?_, by omega, j2, ?_, by omega, ?_⟩
  · simp only [gr_sr, gr_si]; simp [g1]
  · simp only [gr_sr, gr_si]; simp [g2]
  have G := beg_gi M a s (gr M 29 9) j1 j2 n1 n2
  have R := beg_gr M a s (gr M 29 9) j1 j2
  have F : fr (fun x k => x = 29 ∧ (k = 9 ∨ k = 11) ∨ ρ x = 5 * u + 1 ∧ 3 ≤ k ∨ (ρ x = 5 * u + 2 ∨ ρ x = 5 * u + 3) ∧ k = 1) M (si (si (si (si (sr (sr (sr (si M a 3 s) a 4 (gr M 29 9)) a 5 none) a 6 none) a 7 0) a 8 1) j1 1 0) j2 1 0) :=
    (((((((fr.si (.inr (.inl ⟨r1, by decide⟩))).tr (fr.sr (.inr (.inl ⟨r1, by decide⟩)))).tr (fr.sr (.inr (.inl ⟨r1, by decide⟩)))).tr (fr.sr (.inr (.inl ⟨r1, by decide⟩)))).tr (fr.si (.inr (.inl ⟨r1, by decide⟩)))).tr (fr.si (.inr (.inl ⟨r1, by decide⟩)))).tr (fr.si (.inr (.inr ⟨.inl r2, rfl⟩)))).tr (fr.si (.inr (.inr ⟨.inr r3, rfl⟩)))
  generalize si (si (si (si (sr (sr (sr (si M a 3 s) a 4 (gr M 29 9)) a 5 none) a 6 none) a 7 0) a 8 1) j1 1 0) j2 1 0 = M2 at *
  have ρ29 : ρ 29 = 0 := Nat.eq_zero_of_not_pos fun z => by have := o1 29 (by omega); omega
  have ρ16 : ρ 16 = 0 := Nat.eq_zero_of_not_pos fun z => by have := o1 16 (by omega); omega
  have ρ37 : ρ 37 = 0 := Nat.eq_zero_of_not_pos fun z => by have := o1 37 (by omega); omega
  have cwP : ∀ q ∈ cwl, ¬ (q.1 = 29 ∧ (q.2.1 = 9 ∨ q.2.1 = 11) ∨ ρ q.1 = 5 * u + 1 ∧ 3 ≤ q.2.1 ∨ (ρ q.1 = 5 * u + 2 ∨ ρ q.1 = 5 * u + 3) ∧ q.2.1 = 1) := fun q hq => by
    have : (q.1 = 16 ∨ q.1 = 29) ∧ ¬ (q.1 = 29 ∧ (q.2.1 = 9 ∨ q.2.1 = 11)) := (show ∀ q ∈ cwl, (q.1 = 16 ∨ q.1 = 29) ∧ ¬ (q.1 = 29 ∧ (q.2.1 = 9 ∨ q.2.1 = 11)) by decide +kernel) q hq
    have h0 : ρ q.1 = 0 := by rcases this.1 with z | z <;> rw [z] <;> assumption
    rw [h0]
    have := this.2
    omega
  show Z E YX3_enter (d + 1) M2 [(0, C29), (2, vr (some (a, 17, 0)))] 57 [] Q
  have w2 : cw M2 := F.cw cwP hw
  refine sX3_enter_57 M2 a w2 ?_
  rw [show gi M2 29 11 = nI u by rw [G, if_neg (by omega), if_neg (by omega), if_neg (by omega), if_neg (by omega)]; exact hu, nI_l1]
  have F3 := F.tr ((fr.si (M := M2) (v := nI (u + 1)) (a := 29) (k := 11) (.inl ⟨rfl, .inr rfl⟩)).tr (fr.sr (v := some (a, 17, 0)) (a := 29) (k := 9) (.inl ⟨rfl, .inl rfl⟩)))
  have G3 : ∀ x k, gi (sr (si M2 29 11 (nI (u + 1))) 29 9 (some (a, 17, 0))) x k = if x = 29 ∧ k = 11 then nI (u + 1) else gi M2 x k := fun x k => by simp only [gi_si, gi_sr]; grind
  have R3 : ∀ x k, gr (sr (si M2 29 11 (nI (u + 1))) 29 9 (some (a, 17, 0))) x k = if x = 29 ∧ k = 9 then some (a, 17, 0) else gr M2 x k := fun x k => by simp only [gr_si, gr_sr]; grind
  generalize sr (si M2 29 11 (nI (u + 1))) 29 9 (some (a, 17, 0)) = M3 at *
  -- a list of jumps that is emptied
  have emp : ∀ j ks, (j = j1 ∨ j = j2) → xJp M j ks → ρ (jR M j) ≠ 0 ∧ (ρ (jR M j) = 5 * u + 4 ∨ ρ (jR M j) = 5 * u + 5) → xJp M3 j [] ∧ jR M3 j = jR M j := fun j ks hj h hρ => by
    obtain ⟨a0, a1, a2, a3, a4, a5, a6⟩ := h
    have e0 : gr M3 j 0 = gr M j 0 := by rw [R3, if_neg (by omega), R, if_neg (by omega), if_neg (by omega)]
    have eR : jR M3 j = jR M j := by unfold jR; rw [e0]
    have eC : jC M3 j = jC M j := by unfold jC; rw [e0]
    refine ⟨?_, eR⟩
    unfold xJp
    rw [eR, eC, F3.1.1]
    exact ⟨e0.trans a0, a1, a2, by rw [G3, if_neg (by omega), G, if_pos ⟨hj, rfl⟩]; rfl, ⟨Nat.zero_le _, a4.2⟩, fun i hi => absurd hi (Nat.not_lt_zero i), fun k hk => by cases hk⟩
  obtain ⟨y1, y1'⟩ := emp j1 k1 (.inl rfl) x1 ⟨by omega, .inl r4⟩
  obtain ⟨y2, y2'⟩ := emp j2 k2 (.inr rfl) x2 ⟨by omega, .inr r5⟩
  have ga1 : gr M3 a 1 = some (j1, 18, 0) := by rw [R3, if_neg (by omega), R, if_neg (by omega), if_neg (by omega)]; exact g1
  have ga2 : gr M3 a 2 = some (j2, 18, 0) := by rw [R3, if_neg (by omega), R, if_neg (by omega), if_neg (by omega)]; exact g2
  have l37 : lA M3 37 = lA M 37 := (lA_fg (by omega) F3.fg (by rw [ρ37]; omega)).1
  refine hQ M3 ⟨fun c hc => by rw [F3.1.1]; exact o1 c hc, xLs_fg o2 F3.fg (fun k => by rw [ρ37]; omega) (fun k => ?_), ⟨by rw [l37]; exact o3, by rw [l37]; exact o3'⟩, fun i a' ha' => ?_⟩ ⟨?_, ?_, ?_, ?_, ?_, ?_⟩ ⟨j1, j2, ga1, ga2, y1, y2⟩ (by rw [R3, if_pos ⟨rfl, rfl⟩]) (by rw [G3, if_pos ⟨rfl, rfl⟩]) (F3.cw cwP hw) F3
  · by_cases z : lA M 37 < 16
    · exact .inl z
    · refine .inr (fun q => ?_)
      rw [o3] at q
      rcases q with ⟨q1, -⟩ | ⟨q1, -⟩ | ⟨q1, -⟩
      · rcases o3' with y | y <;> omega
      · omega
      · omega
  · by_cases hi : i = u
    · subst hi
      have : a' = a := by rw [ha] at ha'; exact (Option.some.inj ha').symm
      subst this
      exact ⟨j1, j2, [], [], ⟨r1, r2, r3, by rw [y1']; exact r4, by rw [y2']; exact r5⟩, by rw [G3, if_neg (by omega), G, if_neg (by omega), if_neg (by omega), if_neg (by omega), if_neg (by omega)]; exact g0, ga1, ga2, y1, y2⟩
    · obtain ⟨i1, i2, m1, m2, ⟨s1, s2, s3, s4, s5⟩, h0, h1, h2, z1, z2⟩ := o4 i a' ha'
      have na : a' ≠ a := fun z => by rw [z] at s1; omega
      have nb := o1 a' (by omega)
      have P1 : ∀ x, ρ x ≠ 0 → (∀ v, v < 5 → ρ x ≠ 5 * u + 1 + v) → ∀ k, ¬ (x = 29 ∧ (k = 9 ∨ k = 11) ∨ ρ x = 5 * u + 1 ∧ 3 ≤ k ∨ (ρ x = 5 * u + 2 ∨ ρ x = 5 * u + 3) ∧ k = 1) := fun x hx hv k q => by
        rcases q with ⟨q1, -⟩ | ⟨q1, -⟩ | ⟨q1 | q1, -⟩
        · rw [q1] at hx; exact hx ρ29
        · exact hv 0 (by decide) q1
        · exact hv 1 (by decide) q1
        · exact hv 2 (by decide) q1
      have w1 := xJp_fg z1 F3.fg (P1 i1 (by omega) (fun v hv => by omega) 0) (P1 i1 (by omega) (fun v hv => by omega) 1) (fun i' => P1 _ (by omega) (fun v hv => by omega) i')
      have w2' := xJp_fg z2 F3.fg (P1 i2 (by omega) (fun v hv => by omega) 0) (P1 i2 (by omega) (fun v hv => by omega) 1) (fun i' => P1 _ (by omega) (fun v hv => by omega) i')
      have v1 := (jR_fg z1.2.1.2 F3.fg (P1 i1 (by omega) (fun v hv => by omega) 0)).1
      have v2 := (jR_fg z2.2.1.2 F3.fg (P1 i2 (by omega) (fun v hv => by omega) 0)).1
      have pa := P1 a' (by omega) (fun v hv => by omega)
      exact ⟨i1, i2, m1, m2, ⟨s1, s2, s3, by rw [v1]; exact s4, by rw [v2]; exact s5⟩, (F3.2 a' 0 (pa 0)).1.trans h0, (F3.2 a' 1 (pa 1)).2.2.trans h1, (F3.2 a' 2 (pa 2)).2.2.trans h2, w1, w2'⟩
  · rw [G3, if_neg (by omega), G, if_neg (by omega), if_neg (by omega), if_neg (by omega), if_pos ⟨rfl, rfl⟩]
  · rw [R3, if_neg (by omega), R, if_neg (by omega), if_pos ⟨rfl, rfl⟩]
  · rw [R3, if_neg (by omega), R, if_pos ⟨rfl, .inl rfl⟩]
  · rw [R3, if_neg (by omega), R, if_pos ⟨rfl, .inr rfl⟩]
  · rw [G3, if_neg (by omega), G, if_neg (by omega), if_neg (by omega), if_pos ⟨rfl, rfl⟩]
  · rw [G3, if_neg (by omega), G, if_neg (by omega), if_pos ⟨rfl, rfl⟩]
end
/-! a new around -/
def nAr (M : zM) (v : Int32) : zM := si (sr (sr (zn (zn (sr (sr (zn (zn (zn M 9) 2) 4) (zsz M + 1) 0 (some (zsz M + 2, 100, 4))) (zsz M) 1 (some (zsz M + 1, 18, 0))) 2) 4) (zsz M + 3) 0 (some (zsz M + 4, 100, 4))) (zsz M) 2 (some (zsz M + 3, 18, 0))) (zsz M) 0 v
theorem nAr_gi (M : zM) (v : Int32) (x k : Nat) : gi (nAr M v) x k = if x = zsz M ∧ k = 0 then v else if zsz M ≤ x ∧ x < zsz M + 5 then 0 else gi M x k := by
  unfold nAr
  simp only [gi_si, gi_sr, gi_zn, zsz_sr, zsz_zn]
  grind
theorem nAr_gr (M : zM) (v : Int32) (x k : Nat) : gr (nAr M v) x k = if x = zsz M ∧ k = 1 then some (zsz M + 1, 18, 0) else if x = zsz M ∧ k = 2 then some (zsz M + 3, 18, 0) else if x = zsz M + 1 ∧ k = 0 then some (zsz M + 2, 100, 4) else if x = zsz M + 3 ∧ k = 0 then some (zsz M + 4, 100, 4) else if zsz M ≤ x ∧ x < zsz M + 5 then none else gr M x k := by
  unfold nAr
  simp only [gr_si, gr_sr, gr_zn, zsz_sr, zsz_zn]
  by_cases h0 : x = zsz M
  · subst h0; simp; try grind
  by_cases h1 : x = zsz M + 1
  · subst h1; simp; try grind
  by_cases h2 : x = zsz M + 2
  · subst h2; simp; try grind
  by_cases h3 : x = zsz M + 3
  · subst h3; simp; try grind
  by_cases h4 : x = zsz M + 4
  · subst h4; simp; try grind
  have h5 : ¬ (zsz M ≤ x ∧ x < zsz M + 5) := by omega
  simp [h0, h1, h2, h3, h4, h5]
theorem nAr_fg (M : zM) (v : Int32) : fg (fun _ _ => False) M (nAr M v) := by
  refine ⟨⟨by show zsz M ≤ zsz M + 5; omega, by show zsu M ≤ zsu M + 9 + 2 + 4 + 2 + 4; omega⟩, fun x k hx _ => ⟨?_, ?_, ?_⟩⟩
  · rw [nAr_gi, if_neg (by omega), if_neg (by omega)]
  · rw [show gl (nAr M v) x k = if x = zsz M + 4 then 0 else if x = zsz M + 3 then 0 else if x = zsz M + 2 then 0 else if x = zsz M + 1 then 0 else if x = zsz M then 0 else gl M x k from rfl]
    rw [if_neg (by omega), if_neg (by omega), if_neg (by omega), if_neg (by omega), if_neg (by omega)]
  · rw [nAr_gr, if_neg (by omega), if_neg (by omega), if_neg (by omega), if_neg (by omega), if_neg (by omega)]
theorem sto17 : zsto 6 17 := ⟨_, rfl, .inl ⟨rfl, q5259⟩⟩
section
variable {E : zE} {d : Nat} {Q : zO → zM → Prop} {M : zM} {ρ : Nat → Nat} {A : List Nat}
theorem y_enter {u : Nat} {s : Int32} (hw : cw M) (ho : xOw M ρ A) (hu : gi M 29 11 = nI u) (hul : u ≤ A.length) (hA : A.length < 90000) (hz : 190 ≤ zsz M) (hQ : ∀ M' ρ' A' a, enP M M' ρ ρ' A A' a u s → Q (.inl (some (vr (some (a, 17, 0))))) M') : Z E YX3_enter (d + 6 + 1) M [(0, C29), (1, vi s)] 0 [] Q := by
  obtain ⟨o1, o2, ⟨o3, o3'⟩, o4⟩ := id ho
  have en : gi M 37 2 = nI A.length := by rw [o2.2.1, List.length_map]
  have gd : ∀ (B : List Nat) (a : Nat), B[u]? = some a → (B.map fun a => some ((a, 17, 0) : zP)).getD u none = some (a, 17, 0) := fun B a h => by rw [List.getD_eq_getElem?_getD, List.getElem?_map, h]; rfl
  have ρ37 : ρ 37 = 0 := Nat.eq_zero_of_not_pos fun z => by have := o1 37 (by omega); omega
  have ρ29 : ρ 29 = 0 := Nat.eq_zero_of_not_pos fun z => by have := o1 29 (by omega); omega
  refine iX3_enter_0 M _ hw ?_
  rw [hu, en]
  by_cases hul' : u = A.length
  · -- a new one
    rw [if_pos (by rw [hul'])]
    have w1 : cw (zn M 9) := fun q hq => by
      have : q.1 = 16 ∨ q.1 = 29 := (show ∀ q ∈ cwl, q.1 = 16 ∨ q.1 = 29 by decide +kernel) q hq
      rw [gr_zn, if_neg (by omega)]; exact hw q hq
    refine sX3_enter_21 (zn M 9) _ _ w1 ?_
    rw [show gi (zn M 9) 29 11 = nI u by rw [gi_zn, if_neg (by omega)]; exact hu]
    refine iX40_init_0 (d := d + 4) (zn M 9) (zsz M) _ ⟨by show 16 ≤ zsz M + 1; omega, by omega, by show 16 ≤ zsz M + 3; omega, ?_⟩
    show zafter E YX3_enter (d + 6 + 1) [(0, C29), (1, vi s)] 26 3 [vr (some (zsz M, 17, 0)), vr (some (37, 11, 0))] Q (.inl none) (nAr M (nI u))
    have f2 := nAr_fg M (nI u)
    have G2 := nAr_gi M (nI u)
    have R2 := nAr_gr M (nI u)
    have z2 : zsz (nAr M (nI u)) = zsz M + 5 := rfl
    have u2 : zsu (nAr M (nI u)) = zsu M + 21 := by show zsu M + 9 + 2 + 4 + 2 + 4 = _; omega
    generalize nAr M (nI u) = M2 at *
    have w2 : cw M2 := fun q hq => by
      have : q.1 = 16 ∨ q.1 = 29 := (show ∀ q ∈ cwl, q.1 = 16 ∨ q.1 = 29 by decide +kernel) q hq
      rw [f2.gr (by omega) (fun z => z)]; exact hw q hq
    obtain ⟨lA2, lC2⟩ := lA_fg (l := 37) (by omega) f2 (fun z => z)
    have x2 : xLs M2 37 (A.map fun a => some (a, 17, 0)) := xLs_fg o2 f2 (fun _ z => z) (fun _ => .inr (fun z => z))
    show Z E YX3_enter (d + 6 + 1) M2 [(0, C29), (1, vi s)] 29 [vr (some (zsz M, 17, 0)), vr (some (37, 11, 0))] Q
    refine sX3_enter_29 M2 _ _ w2 ?_
    refine l_add (d := d) x2 (by rw [List.length_map]; omega) (fun p hp => by cases hp; exact sto17) (fun M3 x3 f3 k3 => ?_)
    have lAb : lA M 37 < zsz M := by
      obtain ⟨-, -, -, -, h⟩ := o2
      rcases h with ⟨e, -⟩ | ⟨b, m, e, hb, -⟩
      · unfold lA; rw [e]; show 1 < zsz M; omega
      · unfold lA; rw [e]; exact hb.2.1
    have f03 : fg (fun x _ => x = 37 ∨ x = lA M 37 ∧ 16 ≤ x) M M3 := (f2.mono (fun _ _ _ z => z.elim)).tr (f3.mono (fun x k _ z => by unfold lP at z; rw [lA2] at z; exact z))
    have w3 : cw M3 := fun q hq => by
      have : q.1 = 16 ∨ q.1 = 29 := (show ∀ q ∈ cwl, q.1 = 16 ∨ q.1 = 29 by decide +kernel) q hq
      rw [f03.gr (by omega) (fun z => by omega)]; exact hw q hq
    obtain ⟨k31, k32, k33⟩ := k3
    have zz3 := f3.1.1
    -- the numbers of the new cells
    obtain ⟨ρ', hρ'⟩ : ∃ ρ' : Nat → Nat, ∀ c, ρ' c = if c = zsz M then 5 * u + 1 else if c = zsz M + 1 then 5 * u + 2 else if c = zsz M + 3 then 5 * u + 3 else if c = zsz M + 2 then 5 * u + 4 else if c = zsz M + 4 then 5 * u + 5 else ρ c := ⟨_, fun _ => rfl⟩
    have rold : ∀ c, c < zsz M → ρ' c = ρ c := fun c hc => by rw [hρ', if_neg (by omega), if_neg (by omega), if_neg (by omega), if_neg (by omega), if_neg (by omega)]
    have n0 : ρ' (zsz M) = 5 * u + 1 := by rw [hρ', if_pos rfl]
    have n1 : ρ' (zsz M + 1) = 5 * u + 2 := by rw [hρ', if_neg (by omega), if_pos rfl]
    have n3 : ρ' (zsz M + 3) = 5 * u + 3 := by rw [hρ', if_neg (by omega), if_neg (by omega), if_pos rfl]
    have n2 : ρ' (zsz M + 2) = 5 * u + 4 := by rw [hρ', if_neg (by omega), if_neg (by omega), if_neg (by omega), if_pos rfl]
    have n4 : ρ' (zsz M + 4) = 5 * u + 5 := by rw [hρ', if_neg (by omega), if_neg (by omega), if_neg (by omega), if_neg (by omega), if_pos rfl]
    have r5 : ∀ c, zsz M + 5 ≤ c → ρ' c = 0 := fun c hc => by
      rw [hρ', if_neg (by omega), if_neg (by omega), if_neg (by omega), if_neg (by omega), if_neg (by omega)]
      exact Nat.eq_zero_of_not_pos fun z => by have := o1 c (by omega); omega
    -- cells of M2 that the list does not touch
    have keep : ∀ x k, zsz M ≤ x → x < zsz M + 5 → gi M3 x k = gi M2 x k ∧ gr M3 x k = gr M2 x k := fun x k h1 h2 => by
      have := f3.2 x k (by omega) (by unfold lP; rw [lA2]; omega)
      exact ⟨this.1, this.2.2⟩
    have nJ : ∀ j, (j = zsz M + 1 ∨ j = zsz M + 3) → gr M3 j 0 = some (j + 1, 100, 4) ∧ jR M3 j = j + 1 ∧ xJp M3 j [] := fun j hj => by
      have e0 : gr M3 j 0 = some (j + 1, 100, 4) := by
        rw [(keep j 0 (by omega) (by omega)).2, R2]
        rcases hj with rfl | rfl
        · rw [if_neg (by omega), if_neg (by omega), if_pos ⟨rfl, rfl⟩]
        · rw [if_neg (by omega), if_neg (by omega), if_neg (by omega), if_pos ⟨rfl, rfl⟩]
      have eR : jR M3 j = j + 1 := by unfold jR; rw [e0]
      have eC : jC M3 j = 4 := by unfold jC; rw [e0]
      refine ⟨e0, eR, ?_⟩
      unfold xJp
      rw [eR, eC]
      exact ⟨e0, by omega, by omega, by rw [(keep j 1 (by omega) (by omega)).1, G2, if_neg (by omega), if_pos (by omega)]; rfl, ⟨by simp, by omega, by omega⟩, fun i hi => absurd hi (Nat.not_lt_zero i), fun k hk => by cases hk⟩
    have ho3 : xOw M3 ρ' (A ++ [zsz M]) := by
      refine ⟨fun c hc => ?_, by rw [List.map_append]; exact x3, ⟨?_, ?_⟩, fun i a ha => ?_⟩
      · by_cases h1 : c < zsz M
        · rw [rold c h1] at hc; have := o1 c hc; omega
        · by_cases h2 : c < zsz M + 5
          · omega
          · exact absurd (r5 c (by omega)) hc
      · rcases k33 with z | z
        · rw [z, lA2, rold _ lAb]; exact o3
        · exact r5 _ (by omega)
      · rcases k33 with z | z
        · rw [z, lA2]; exact o3'
        · right; omega
      · rcases get_app ha with ⟨hi, ha⟩ | ⟨hi, rfl⟩
        · obtain ⟨i1, i2, m1, m2, ⟨s1, s2, s3, s4, s5⟩, h0, h1, h2, z1, z2⟩ := o4 i a ha
          have P1 : ∀ x, ρ x ≠ 0 → ¬ (x = 37 ∨ x = lA M 37 ∧ 16 ≤ x) := fun x hx q => by
            rcases q with q | ⟨q, -⟩
            · rw [q] at hx; exact hx ρ37
            · rw [q] at hx; exact hx o3
          have ba := o1 a (by omega)
          have v1 := (jR_fg z1.2.1.2 f03 (P1 i1 (by omega))).1
          have v2 := (jR_fg z2.2.1.2 f03 (P1 i2 (by omega))).1
          refine ⟨i1, i2, m1, m2, ⟨?_, ?_, ?_, ?_, ?_⟩, (f03.gi ba.2 (P1 a (by omega))).trans h0, (f03.gr ba.2 (P1 a (by omega))).trans h1, (f03.gr ba.2 (P1 a (by omega))).trans h2, xJp_fg z1 f03 (P1 i1 (by omega)) (P1 i1 (by omega)) (fun _ => P1 _ (by omega)), xJp_fg z2 f03 (P1 i2 (by omega)) (P1 i2 (by omega)) (fun _ => P1 _ (by omega))⟩
          · rw [rold a ba.2]; exact s1
          · rw [rold i1 z1.2.1.2]; exact s2
          · rw [rold i2 z2.2.1.2]; exact s3
          · rw [v1, rold _ z1.2.2.1.2.1]; exact s4
          · rw [v2, rold _ z2.2.2.1.2.1]; exact s5
        · have hiu : i = u := by omega
          subst hiu
          obtain ⟨-, e1, y1⟩ := nJ (zsz M + 1) (.inl rfl)
          obtain ⟨-, e3, y3⟩ := nJ (zsz M + 3) (.inr rfl)
          refine ⟨zsz M + 1, zsz M + 3, [], [], ⟨n0, n1, n3, by rw [e1]; exact n2, by rw [e3]; exact n4⟩, ?_, ?_, ?_, y1, y3⟩
          · rw [(keep _ 0 (by omega) (by omega)).1, G2, if_pos ⟨rfl, rfl⟩]
          · rw [(keep _ 1 (by omega) (by omega)).2, R2, if_pos ⟨rfl, rfl⟩]
          · rw [(keep _ 2 (by omega) (by omega)).2, R2, if_neg (by omega), if_pos ⟨rfl, rfl⟩]
    have hu3 : gi M3 29 11 = nI u := (f03.gi (by omega) (fun z => by omega)).trans hu
    have e9 : gr M3 29 9 = gr M 29 9 := f03.gr (by omega) (fun z => by omega)
    have hau : (A ++ [zsz M])[u]? = some (zsz M) := by rw [hul']; exact at_app rfl
    show Z E YX3_enter (d + 6 + 1) M3 [(0, C29), (1, vi s)] 32 [vi 1] Q
    refine sX3_enter_32 M3 _ _ w3 ?_
    rw [hu3]
    refine l_get (d := d + 3) ho3.2.1 (by rw [List.length_map, List.length_append]; show u < A.length + 1; omega) ?_
    rw [gd _ _ hau]
    show Z E YX3_enter (d + 6 + 1) M3 [(0, C29), (1, vi s)] 44 [vr (some (zsz M, 17, 0))] Q
    refine y_begA w3 ho3 hu3 (by omega) hau (by omega) (fun M4 q1 q2 q3 q4 q5 q6 q7 => ?_)
    have h29 : ¬ ((37 : Nat) = 29 ∧ ((1 : Nat) = 9 ∨ (1 : Nat) = 11) ∨ ρ' 37 = 5 * u + 1 ∧ (3 : Nat) ≤ 1 ∨ (ρ' 37 = 5 * u + 2 ∨ ρ' 37 = 5 * u + 3) ∧ (1 : Nat) = 1) := by rw [rold 37 (by omega), ρ37]; omega
    obtain ⟨hA4, hC4⟩ := lA_fg (l := 37) (by omega) q7.fg h29
    refine hQ M4 ρ' (A ++ [zsz M]) (zsz M) ⟨q1, hau, .inr ⟨hul', rfl⟩, rold, ⟨q2.1, q2.2.1.trans e9, q2.2.2⟩, q3, q4, q5, q6, ⟨⟨by rw [q7.1.1]; omega, by rw [q7.1.2]; exact f03.1.2⟩, fun x k hx hq => ?_⟩, by rw [q7.1.1, List.length_append]; show _ ≤ zsz M + 6 * (A.length + 1); omega, ?_, by rw [hA4]; rcases k33 with z | z; exact .inl (z.trans lA2); exact .inr (by omega)⟩
    · unfold enF at hq
      have a1 := f03.2 x k hx (fun z => hq (by rcases z with z | z; exact .inr (.inl z); exact .inr (.inr (.inl z))))
      have a2 := q7.2 x k (fun z => hq (by have z : x = 29 ∧ (k = 9 ∨ k = 11) ∨ ρ' x = 5 * u + 1 ∧ 3 ≤ k ∨ (ρ' x = 5 * u + 2 ∨ ρ' x = 5 * u + 3) ∧ k = 1 := z; rw [rold x hx] at z; rcases z with z | z | z; exact .inl z; exact .inr (.inr (.inr (.inl z))); exact .inr (.inr (.inr (.inr z)))))
      exact ⟨a2.1.trans a1.1, a2.2.1.trans a1.2.1, a2.2.2.trans a1.2.2⟩
    · rw [q7.1.2, hC4, List.length_append]
      show _ ≤ zsu M + 4 * lC M3 37 + 21 * (A.length + 1)
      omega
  · -- one that is there
    have hlt : u < A.length := by omega
    obtain ⟨a, ha⟩ : ∃ a, A[u]? = some a := ⟨_, List.getElem?_eq_getElem hlt⟩
    rw [if_neg (fun z => hul' (nI_inj (by omega) (by omega) z))]
    refine l_get (d := d + 3) o2 (by rw [List.length_map]; exact hlt) ?_
    rw [gd A a ha]
    show Z E YX3_enter (d + 6 + 1) M [(0, C29), (1, vi s)] 44 [vr (some (a, 17, 0))] Q
    refine y_begA hw ho hu (by omega) ha hz (fun M4 q1 q2 q3 q4 q5 q6 q7 => ?_)
    have h29 : ¬ ((37 : Nat) = 29 ∧ ((1 : Nat) = 9 ∨ (1 : Nat) = 11) ∨ ρ 37 = 5 * u + 1 ∧ (3 : Nat) ≤ 1 ∨ (ρ 37 = 5 * u + 2 ∨ ρ 37 = 5 * u + 3) ∧ (1 : Nat) = 1) := by rw [ρ37]; omega
    obtain ⟨hA4, hC4⟩ := lA_fg (l := 37) (by omega) q7.fg h29
    refine hQ M4 ρ A a ⟨q1, ha, .inl rfl, fun _ _ => rfl, q2, q3, q4, q5, q6, (q7.fg.mono (fun x k _ z => by unfold enF; rcases z with z | z | z; exact .inl z; exact .inr (.inr (.inr (.inl z))); exact .inr (.inr (.inr (.inr z))))), by have := q7.1.1; omega, by rw [q7.1.2, hC4]; omega, .inl hA4⟩
end
