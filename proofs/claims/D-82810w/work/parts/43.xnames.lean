/-! CONTRACTS: the component's first names -/
/-- the first names -/
def xN0 : List (List Int32) := (xwords (zsbyt.getD 0 []) [] []).1 ++ [(xwords (zsbyt.getD 0 []) [] []).2]
theorem xN0_ok : xN0.length = 31 ∧ xN0.flatten.length = 199 ∧ (xwords (zsbyt.getD 0 []) [] []).1.length = 30 ∧ (xwords (zsbyt.getD 0 []) [] []).1.flatten.length + (xwords (zsbyt.getD 0 []) [] []).2.length = 199 ∧ (xwords (zsbyt.getD 0 []) [] []).2 = [] := by decide +kernel
theorem xg_t : xg 17 18 19 := by unfold xg; decide
section
variable {E : zE} {d : Nat} {Q : zO → zM → Prop}
/-- the pointers of the texts -/
def xgp (M : zM) : Prop := gr M 17 1 = some (18, 100, 2201) ∧ gr M 17 0 = some (19, 101, 40000)
theorem xgp_fr {M M' : zM} (h : fr (xP 17 18 19) M M') (g : xgp M) : xgp M' := ⟨((h.2 17 1 (by unfold xP; omega)).2.2).trans g.1, ((h.2 17 0 (by unfold xP; omega)).2.2).trans g.2⟩
theorem x_begins {M : zM} {L : List (List Int32)} {w : List Int32} (hw : cw M) (hp : xgp M) (hR : xR M w) (hb : ∀ c ∈ w, xb c) (hS : xS M 17 18 19 L) (h1 : L.length < 2199) (h2 : L.flatten.length + w.length ≤ 40000)
    (hQ : ∀ M', xR M' [] → xS M' 17 18 19 (L ++ [w]) → fr (xP 17 18 19) M M' → Q (.inl none) M') : Z E YX1_begins (d + 1) M [(0, zX16)] 0 [] Q := by
  refine sX1_begins_0 M hw ?_
  rw [hR.1]
  refine x_add hp.1 hp.2 hS (by omega) (by decide) h2 (by decide) (fun k hk => ⟨hR.2.2 k hk, hb _ (by rw [getD_lt hk]; exact List.getElem_mem hk)⟩) hR.2.1 (by decide) (by decide) (by decide) (fun M1 f1 hS1 => ?_)
  have f1' : fr (xP 17 18 19) M M1 := f1.mono (fun x k h => by unfold xP; omega)
  have hw1 : cw M1 := f1'.cw (xP_cw xg_t.2.2.1) hw
  show Z E YX1_begins (d + 1) M1 [(0, zX16)] 15 [vi (nI L.length)] Q
  refine sX1_begins_15 M1 _ hw1 (sX1_clearRow_0 M1 hw1 ?_)
  show Z E YX1_begins (d + 1) (si M1 16 3 0) [] 20 [] Q
  refine sX1_begins_20 _ (cw.si hw1) ?_
  refine hQ _ ⟨gi_self _ _ _ _, by decide, fun k hk => absurd hk (Nat.not_lt_zero k)⟩ ⟨?_, fun k hk => ?_, fun k hk => ?_⟩ (f1'.tr (fr.si (by unfold xP; omega)))
  · rw [gi_oth (by decide)]; exact hS1.1
  · rw [gi_oth (by decide)]; exact hS1.2.1 k hk
  · rw [gi_oth (by decide)]; exact hS1.2.2 k hk
theorem x_fn1 :
    ∀ (cs : List Int32) (i : Nat) (M : zM) (L : List (List Int32)) (r : List Int32), (zsbyt.getD 0 []).drop i = cs → i ≤ (zsbyt.getD 0 []).length → cw M → xgp M → xR M r → (∀ c ∈ r, xb c) → xS M 17 18 19 L → (xwords cs r L).1.length < 100 → (xwords cs r L).1.flatten.length + (xwords cs r L).2.length ≤ 250 →
      (∀ M', cw M' → xgp M' → xR M' (xwords cs r L).2 → (∀ c ∈ (xwords cs r L).2, xb c) → xS M' 17 18 19 (xwords cs r L).1 → fr (xP 17 18 19) M M' → Z E YX1_begins (d + 3) M' (zargs 0 [zX16]) 0 [] (zafter E YX1_firstNames (d + 4) [(0, zX16)] 58 3 [] Q)) →
      Z E YX1_firstNames (d + 4) M [(0, zX16), (1, vr (some (4, 111, 0))), (2, vi (nI i))] 17 [] Q
  | [], i, M, L, r, hd, hi, hw, hp, hR, hrb, hS, h1, h2, hQ => by
    obtain ⟨z1, z2, z3⟩ := zslen_ok 0 (by decide)
    have hl : (zsbyt.getD 0 []).length ≤ i := List.drop_eq_nil_iff.mp hd
    refine sX1_firstNames_17 M (nI i) hw ⟨by omega, ?_⟩
    rw [if_pos (show Int32.ofNat (zslen.getD 0 0) ≤ nI i from nI_le (by omega) (by omega))]
    exact hQ M hw hp hR hrb hS fr.rf
  | c :: cs, i, M, L, r, hd, hi, hw, hp, hR, hrb, hS, h1, h2, hQ => by
    obtain ⟨z1, z2, z3⟩ := zslen_ok 0 (by decide)
    have hil : i < (zsbyt.getD 0 []).length := by
      by_cases h : i < (zsbyt.getD 0 []).length
      · exact h
      · rw [List.drop_eq_nil_of_le (by omega)] at hd; cases hd
    have hc : (zsbyt.getD 0 [])[i] = c := by
      rw [List.drop_eq_getElem_cons hil] at hd
      exact (List.cons.inj hd).1
    have hd' : (zsbyt.getD 0 []).drop (i + 1) = cs := by
      rw [List.drop_eq_getElem_cons hil] at hd
      exact (List.cons.inj hd).2
    have hch : zsch 0 i = c := by unfold zsch; rw [getD_lt hil, hc]
    have hcb : xb c := xb_str 0 (by decide) c (by rw [← hc]; exact List.getElem_mem hil)
    refine sX1_firstNames_17 M (nI i) hw ⟨by omega, ?_⟩
    rw [if_neg (show ¬ Int32.ofNat (zslen.getD 0 0) ≤ nI i from nI_ge (by omega) (by omega)), nI_clamp (by omega), hch]
    refine ⟨by omega, nI_in (by omega) (by omega), ?_⟩
    obtain ⟨l1, l2⟩ := xwords_len (c :: cs) r L
    by_cases h32 : c = 32
    · rw [if_pos h32]
      have ew : xwords (c :: cs) r L = xwords cs [] (L ++ [r]) := by unfold xwords; rw [if_pos h32]; cases cs <;> rfl
      rw [ew] at h1 h2 hQ l1 l2
      refine x_begins hw hp hR hrb hS (by omega) (by omega) (fun M1 hR1 hS1 f1 => ?_)
      have hw1 : cw M1 := f1.cw (xP_cw xg_t.2.2.1) hw
      show Z E YX1_firstNames (d + 4) M1 [(0, zX16), (1, vr (some (4, 111, 0))), (2, vi (nI i))] 39 [] Q
      refine sX1_firstNames_39 M1 (nI i) hw1 (sX1_firstNames_51 M1 (nI i) hw1 ?_)
      rw [nI_l1]
      exact x_fn1 cs (i + 1) M1 (L ++ [r]) [] hd' (by omega) hw1 (xgp_fr f1 hp) hR1 (fun c hc => by cases hc) hS1 h1 h2 (fun M' g0 g1 g2 g3 g4 g5 => hQ M' g0 g1 g2 g3 g4 (f1.tr g5))
    · rw [if_neg h32]
      have ew : xwords (c :: cs) r L = xwords cs (r ++ [c]) L := by unfold xwords; rw [if_neg h32]; cases cs <;> rfl
      rw [ew] at h1 h2 hQ l1 l2
      obtain ⟨m1, m2⟩ := xwords_len cs (r ++ [c]) L
      simp only [List.length_append, List.length_cons, List.length_nil] at m2
      refine ⟨by omega, nI_in (by omega) (by omega), ?_⟩
      refine x_write hw hR (by omega) hcb (fun M1 hR1 f1 => ?_)
      have f1' : fr (xP 17 18 19) M M1 := f1.mono (fun x k h => by unfold xP; omega)
      have hw1 : cw M1 := f1'.cw (xP_cw xg_t.2.2.1) hw
      show Z E YX1_firstNames (d + 4) M1 [(0, zX16), (1, vr (some (4, 111, 0))), (2, vi (nI i))] 51 [] Q
      refine sX1_firstNames_51 M1 (nI i) hw1 ?_
      rw [nI_l1]
      have e : ∀ x k, x = 17 ∨ x = 18 ∨ x = 19 → gi M1 x k = gi M x k := fun x k h => (f1.2 x k (by omega)).1
      refine x_fn1 cs (i + 1) M1 L (r ++ [c]) hd' (by omega) hw1 (xgp_fr f1' hp) hR1 (fun x hx => ?_) ⟨(e 17 2 (Or.inl rfl)).trans hS.1, fun k hk => (e 18 k (Or.inr (Or.inl rfl))).trans (hS.2.1 k hk), fun k hk => (e 19 k (Or.inr (Or.inr rfl))).trans (hS.2.2 k hk)⟩ h1 h2 (fun M' g0 g1 g2 g3 g4 g5 => hQ M' g0 g1 g2 g3 g4 (f1'.tr g5))
      rcases List.mem_append.mp hx with h | h
      · exact hrb x h
      · rw [List.mem_singleton.mp h]; exact hcb
/-- firstNames: the texts are the first names, and so many names there are -/
theorem x_firstNames {M : zM} (hw : cw M) (hp : xgp M) (h0 : gi M 18 0 = 0)
    (hQ : ∀ M', xR M' [] → xS M' 17 18 19 xN0 → gi M' 16 1 = 31 → fr (xP 17 18 19) M M' → Q (.inl none) M') : Z E YX1_firstNames (d + 4) M [(0, zX16)] 0 [] Q := by
  obtain ⟨o1, o2, o3, o4, o5⟩ := xN0_ok
  refine sX1_firstNames_0 M hw (sX1_clearRow_0 _ (cw.si hw) ?_)
  have hw1 : cw (si (si M 17 2 0) 16 3 0) := cw.si (cw.si hw)
  have f0 : fr (xP 17 18 19) M (si (si M 17 2 0) 16 3 0) := fr.tr (fr.si (by unfold xP; omega)) (fr.si (by unfold xP; omega))
  show Z E YX1_firstNames (d + 4) (si (si M 17 2 0) 16 3 0) [(0, zX16), (1, vr (some (4, 111, 0)))] 15 [] Q
  refine sX1_firstNames_15 _ hw1 ?_
  refine x_fn1 (zsbyt.getD 0 []) 0 _ [] [] rfl (Nat.zero_le _) hw1 (xgp_fr f0 hp) ⟨gi_self _ _ _ _, by decide, fun k hk => absurd hk (Nat.not_lt_zero k)⟩ (fun c hc => by cases hc) ⟨?_, fun k hk => ?_, fun k hk => absurd hk (Nat.not_lt_zero k)⟩ (by rw [o3]; decide) (by rw [o4]; decide) (fun M1 g0 g1 g2 g3 g4 g5 => ?_)
  · rw [gi_oth (by decide), gi_self]; rfl
  · have : k = 0 := by simpa using hk
    subst this
    rw [gi_oth (by decide), gi_oth (by decide), h0]; rfl
  · refine x_begins (d := d + 2) g0 g1 g2 g3 g4 (by rw [o3]; decide) (by rw [o4]; decide) (fun M2 q1 q2 q3 => ?_)
    have hw2 : cw M2 := q3.cw (xP_cw xg_t.2.2.1) g0
    show Z E YX1_firstNames (d + 4) M2 [(0, zX16)] 61 [] Q
    refine sX1_firstNames_61 M2 hw2 ?_
    have q2' : xS M2 17 18 19 xN0 := q2
    refine hQ _ ⟨?_, by decide, fun k hk => absurd hk (Nat.not_lt_zero k)⟩ ⟨?_, fun k hk => ?_, fun k hk => ?_⟩ ?_ (((f0.tr g5).tr q3).tr (fr.si (by unfold xP; omega)))
    · rw [gi_idx (by decide)]; exact q1.1
    · rw [gi_oth (by decide)]; exact q2'.1
    · rw [gi_oth (by decide)]; exact q2'.2.1 k hk
    · rw [gi_oth (by decide)]; exact q2'.2.2 k hk
    · rw [gi_self, q2'.1, o1]; rfl
end
