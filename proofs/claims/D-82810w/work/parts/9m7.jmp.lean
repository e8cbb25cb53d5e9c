/-! THE COMPONENT's CODER: a jump to a loop's or a switch's mark -/
section
variable {S B C : Nat → Prop} {M0 : zM} {E : zE} {d : Nat} {Q : zO → zM → Prop} {M : zM} {e : gN} {w : gW} {Γ : gK} {la : List Nat} {own : Option zP} {v a : Nat} {l bs : List Nat} {ps : List (Option zP)} {ρ : Nat → Nat} {A : List Nat} {i m T fc : Nat} {st : gS} {L : List Bool} {j1 j2 : Nat} {k1 k2 : List Nat}
theorem lp_add {jb : Bool} {k : Nat} (h : xLp M e w Γ la own v a l bs ps ρ A i m st j1 j2 k1 k2) (hf : fnS S M0 e fc) (ha : agS S M0 M) (hF : gr M 29 12 = some (fc, 10, 0)) (hs : sep S B M ρ) (hk : k < 100000000) (hl : k1.length ≤ 30000000 ∧ k2.length ≤ 30000000) (hd : 1 ≤ d) (hla : ∀ b ∈ la, ∃ x, ρ b = 5 * x + 1) (haa : a ∈ la)
    (hQ : ∀ M' ρ', xLp M' e w Γ la own v a l bs ps ρ' A i m st j1 j2 (if jb then k1 ++ [k] else k1) (if jb then k2 else k2 ++ [k]) → sep S B M' ρ' → stF B C M M' ρ ρ' → rm C v la M ρ A T M' ρ' A (T + 1) 0 → (∀ x, x < zsz M → ¬ (5 * i + 2 ≤ ρ x ∧ ρ x ≤ 5 * i + 5) → ∀ k, gi M' x k = gi M x k ∧ gl M' x k = gl M x k ∧ gr M' x k = gr M x k) → Q (.inl none) M') :
    Z E YX41_add d M [(0, vr (some (if jb then j1 else j2, 18, 0))), (1, vi (nI k))] 0 [] Q := by
  have ba := h.a190
  obtain ⟨⟨c1, c2, c3, c4, c5⟩, h2, h3, h4, h5, h6, h7, h8, ⟨d1, d2, d3, d4⟩, ⟨x1, x2⟩, h9⟩ := h
  have core : ∀ (j lab : Nat) (ks : List Nat), (gr M a 1 = some (j, 18, 0) ∧ lab = 5 * i + 4 ∨ gr M a 2 = some (j, 18, 0) ∧ lab = 5 * i + 5) → xJp M j ks → ks.length ≤ 30000000 → (∀ (M' : zM) (ρ' : Nat → Nat), xJp M' j (ks ++ [k]) → fg (jP M j) M M' → (∀ l1 l2 : List Nat, xJp M' j1 l1 → xJp M' j2 l2 → xLp M' e w Γ la own v a l bs ps ρ' A i m st j1 j2 l1 l2) → sep S B M' ρ' → stF B C M M' ρ ρ' → rm C v la M ρ A T M' ρ' A (T + 1) 0 → (∀ x, x < zsz M → ¬ (5 * i + 2 ≤ ρ x ∧ ρ x ≤ 5 * i + 5) → ∀ k, gi M' x k = gi M x k ∧ gl M' x k = gl M x k ∧ gr M' x k = gr M x k) → Q (.inl none) M') → Z E YX41_add d M [(0, vr (some (j, 18, 0))), (1, vi (nI k))] 0 [] Q := by
    intro j lab ks hj hx hks hQ
    refine y_addJ hx hk hks hd (fun M' x' f kk cc => ?_)
    obtain ⟨ρ', q1, q2, q3, q4, q5, q6⟩ := add_ow h2 h8.1 hj x' f kk.2.2 h5
    have psz := add_ps hx x' kk.2.1 cc hks
    have zz := f.1.1
    have low : ∀ x k, x < 190 → gi M' x k = gi M x k ∧ gl M' x k = gl M x k ∧ gr M' x k = gr M x k := fun x k hx => q3 x (by omega) (fun z => by have := h2.1 x (by omega); omega) k
    have un : ∀ x, x < zsz M → ρ x = 0 → ∀ k, gi M' x k = gi M x k ∧ gr M' x k = gr M x k := fun x hx hr k => ⟨(q3 x hx (by omega) k).1, (q3 x hx (by omega) k).2.2⟩
    have sF : stF B C M M' ρ ρ' := ⟨⟨f.1.1, f.1.2, q1⟩, fun x z1 z2 z3 z4 => ⟨(q1 x z2).trans z3, by rw [q4]; exact z4, fun k _ => un x z2 z3 k⟩, fun x k hx _ => low x k hx⟩
    have se : sep S B M' ρ' := ⟨fun x hx => by obtain ⟨z1, z2, z3, z4⟩ := hs.1 x hx; exact ⟨z1, by omega, (q1 x z2).trans z3, by rw [q4]; exact z4⟩, hs.2.1, fun b hb => by
      obtain ⟨z1, z2, z3, z4⟩ := hs.1 b (.inr hb)
      exact sep3_ag (hs.2.2 b hb) (un b z2 z3 3).2 (un b z2 z3 1).2 (fun a ha => by obtain ⟨k1, k2, k3, k4⟩ := hs.1 a (.inl ha); exact (un a k2 k3 2).1) (fun r hr => q1 r (h2.1 r hr).2)⟩
    have lab1 : ∀ b, ρ b ≠ 0 → (∃ x, ρ b = 5 * x + 1) → ∀ k, gi M' b k = gi M b k ∧ gr M' b k = gr M b k := fun b hb ⟨x, hx⟩ k => by
      have := q3 b (h2.1 b hb).2 (by omega) k
      exact ⟨this.1, this.2.2⟩
    have fa := lab1 a (by omega) ⟨i, ba.2.2.1⟩
    have f9 := low 29 9 (by decide)
    refine hQ M' ρ' x' f (fun l1 l2 z1 z2 => ⟨⟨fun q hq => ?_, xCd_ag c2 (fun x k hx => (low x k (by unfold cdP at hx; omega)).1) (fun _ z => z), ?_, c4, ?_⟩, q2, (low 29 11 (by decide)).1.trans h3, h4, by omega, xCh_lb h2.2.2.2 (fun _ _ z => z) zz Γ i l bs ps (fun i' x hi z1 z2 k => ?_) h6, h7, h8, ⟨(fa 5).2.trans d1, (fa 6).2.trans d2, (fa 1).2.trans d3, (fa 2).2.trans d4⟩, ⟨z1, z2⟩, ?_⟩) se sF ⟨?_, ⟨zz, q1, fun _ _ z => z⟩, fun x hx hr hn k => ?_, fun x hx hr hn k => ?_⟩ q3
    · have : q.1 = 16 ∨ q.1 = 29 := (show ∀ q ∈ cwl, q.1 = 16 ∨ q.1 = 29 by decide +kernel) q hq
      rw [(low q.1 q.2.1 (by omega)).2.2]; exact c1 q hq
    · rw [f9.2.2]
      refine xAr_ag _ _ _ (fun b hb k => ?_) c3
      obtain ⟨x, hx⟩ := hla b hb
      exact lab1 b (by omega) ⟨x, hx⟩ k
    · obtain ⟨u', v1, v2⟩ := hf
      exact ⟨fc, u', v1, (low 29 12 (by decide)).2.2.trans hF, v2 M' (ha.tr (sF.agS hs))⟩
    · have := q3 x (h2.1 x (by omega)).2 (by omega) k
      exact ⟨this.1, this.2.2⟩
    · rw [(fa 4).2]
      refine xAr_ag _ _ _ (fun b hb k => ?_) h9
      obtain ⟨i', hi, hbi⟩ := xCh_mem Γ i l bs ps h6 b hb
      obtain ⟨_, _, _, _, ⟨t1, -⟩, -⟩ := h2.2.2.2 i' b hbi
      exact lab1 b (by omega) ⟨i', t1⟩ k
    · have := kk.1
      rw [q5]
      omega
    · have := q3 x hx (fun z => hn (.inr ⟨a, haa, by rw [ba.2.2.1]; omega⟩)) k
      exact ⟨this.1, this.2.2⟩
    · have hiA := (List.getElem?_eq_some_iff.mp h8.1).1
      have := q3 x hx (fun z => by omega) k
      exact ⟨this.1, this.2.2⟩
  obtain ⟨i1, i2, p1, p2, ⟨r1, r2, r3, r4, r5⟩, g0, g1, g2, y1, y2⟩ := h2.2.2.2 i a h8.1
  have e1 : i1 = j1 := by rw [d3] at g1; cases g1; rfl
  have e2 : i2 = j2 := by rw [d4] at g2; cases g2; rfl
  subst e1 e2
  have pne : ∀ x y : Nat, ρ x ≠ ρ y → x ≠ y := fun x y h z => h (by rw [z])
  cases jb with
  | true =>
    refine core i1 _ k1 (.inl ⟨d3, rfl⟩) x1 hl.1 (fun M' ρ' z1 f z2 z3 z4 z5 z6 => hQ M' ρ' (z2 _ _ z1 ?_) z3 z4 z5 z6)
    exact xJp_fg x2 f (fun z => by rcases z with z | z; exact pne i2 i1 (by omega) z; exact pne i2 _ (by omega) z) (fun z => by rcases z with z | z; exact pne i2 i1 (by omega) z; exact pne i2 _ (by omega) z) (fun k z => by rcases z with z | z; exact pne _ i1 (by omega) z; exact pne _ _ (by omega) z)
  | false =>
    refine core i2 _ k2 (.inr ⟨d4, rfl⟩) x2 hl.2 (fun M' ρ' z1 f z2 z3 z4 z5 z6 => hQ M' ρ' (z2 _ _ ?_ z1) z3 z4 z5 z6)
    exact xJp_fg x1 f (fun z => by rcases z with z | z; exact pne i1 i2 (by omega) z; exact pne i1 _ (by omega) z) (fun z => by rcases z with z | z; exact pne i1 i2 (by omega) z; exact pne i1 _ (by omega) z) (fun k z => by rcases z with z | z; exact pne _ i2 (by omega) z; exact pne _ _ (by omega) z)
theorem jmK_em {β : Nat} {ks : List Nat} {mm : Nat} (h : jmK st β ks mm) (e : gN) (Γ : gK) (L : List Bool) (op a b : Int32) : jmK (em e Γ L op a b (some mm) st) β (ks ++ [st.c.length]) mm := by
  refine ⟨fun k q hk hq hm => ?_, fun k hk => ?_⟩
  · rcases get_app (show (st.c ++ [_])[k]? = some q from hq) with ⟨-, z⟩ | ⟨z, -⟩
    · exact List.mem_append_left _ (h.1 k q hk z hm)
    · rw [z]; exact List.mem_append_right _ List.mem_cons_self
  · rcases List.mem_append.mp hk with z | z
    · obtain ⟨q, q1, q2⟩ := h.2 k z
      exact ⟨q, (gst_emm (P := fun x => x = mm) e Γ L op a b st rfl).get q1, q2⟩
    · rw [List.mem_singleton.mp z]
      exact ⟨((op, a, b), some mm, e.1, opn Γ, (skk Γ).length, L, trs Γ), at_app rfl, rfl⟩
theorem y_jmp {jb : Bool} {mm : Nat} {r2 : Option zP} (h : xLp M e w Γ la own v a l bs ps ρ A i m st j1 j2 k1 k2) (hf : fnS S M0 e fc) (ha : agS S M0 M) (hF : gr M 29 12 = some (fc, 10, 0)) (hs : sep S B M ρ) (hS : ∀ a, S a → 190 ≤ a) (hb : m + 1 < 10000000) (hl : k1.length ≤ m ∧ k2.length ≤ m) (hmm : mm < st.m) (hmw : mkP (w :: Γ) mm) (hmΓ : ¬ mkP Γ mm) (hd : 1 ≤ d) (hla : ∀ b ∈ la, ∃ x, ρ b = 5 * x + 1) (haa : a ∈ la)
    (hQ : ∀ M' ρ', xLp M' e w Γ la own v a l bs ps ρ' A i (m + 1) (em e (w :: Γ) L 21 0 0 (some mm) st) j1 j2 (if jb then k1 ++ [m] else k1) (if jb then k2 else k2 ++ [m]) → sep S B M' ρ' → stF B C M M' ρ ρ' → rm C v la M ρ A T M' ρ' A (T + 1) 0 → (∀ x k, x < zsz M → ρ x % 5 = 1 → gi M' x k = gi M x k ∧ gr M' x k = gr M x k) → gr M' 29 9 = gr M 29 9 ∧ gi M' 29 11 = gi M 29 11 → Z E YX3_goOut (d + 1) M' [(0, C29), (2, vr r2)] 186 [] Q) :
    Z E YX3_put d M [(0, C29), (1, vi 21), (2, vi 0), (3, vi 0)] 0 [] (zafter E YX3_goOut (d + 1) [(0, C29), (2, vr r2)] 180 3 [vr (some (if jb then j1 else j2, 18, 0))] Q) := by
  obtain ⟨d, rfl⟩ : ∃ d', d = d' + 1 := ⟨d - 1, by omega⟩
  have hz := h.2.2.2.2.1
  refine lp_pu (L := L) (mk := some mm) (a' := 0) (b' := 0) h (by omega) (fun _ => ⟨rfl, rfl, (fun z => by cases z), (fun m' p z1 z2 z3 => by cases z1; exact absurd hmw z3), rfl⟩) (fun m' z => by cases z; exact hmm) (fun m' z => by cases z; exact hmΓ) (fun M1 h1 f1 => ?_)
  show Z E YX3_goOut (d + 1 + 1) M1 [(0, C29), (2, vr r2)] 183 [vi (nI m), vr (some (if jb then j1 else j2, 18, 0))] Q
  refine sX3_goOut_183 M1 _ _ _ h1.1.1 ⟨_, rfl, ?_⟩
  have F1 := f1.stF (B := B) (C := C) (ρ := ρ) hz
  refine lp_add (C := C) (T := T) h1 hf (ha.tr (f1.agS hS)) (F1.f12.trans hF) (sep_cd hs f1 hz) (by omega) (by omega) (by omega) hla haa (fun M2 ρ2 L2 s2 F2 r q => ?_)
  have hlz : ∀ b ∈ la, b < zsz M := fun b hb => by obtain ⟨x, hx⟩ := hla b hb; exact (h.2.1.1 b (by omega)).2
  show Z E YX3_goOut (d + 1 + 1) M2 [(0, C29), (2, vr r2)] 186 [] Q
  have lowS : ∀ k, gi M2 29 k = gi M1 29 k ∧ gl M2 29 k = gl M1 29 k ∧ gr M2 29 k = gr M1 29 k := fun k => q 29 (by rw [f1.1.1]; omega) (fun z => by have := h.2.1.1 29 (by omega); omega) k
  have o9 := f1.2 29 9 (by unfold cdP; omega)
  have o11 := f1.2 29 11 (by unfold cdP; omega)
  refine hQ M2 ρ2 L2 s2 (F1.tr F2) ((rm_cd (V := 0) h.2.1 f1 hz (Nat.le_refl _)).tr r hlz (Nat.le_refl _) (Nat.le_refl _)) (fun x k hx hr => ?_) ⟨(lowS 9).2.2.trans o9.2.2, (lowS 11).1.trans o11.1⟩
  have b1 := h.2.1.1 x (by omega)
  have b2 := f1.2 x k (by unfold cdP; omega)
  have b3 := q x (by rw [f1.1.1]; exact hx) (by omega) k
  exact ⟨b3.1.trans b2.1, b3.2.2.trans b2.2.2⟩
/-- a state as a loop's, a switch's or an each's -/
theorem St_lpG {u : Nat} {l' bs' : List Nat} {ps' : List (Option zP)} (h : xSt M e (w :: Γ) l' bs' ps' ρ A u m st) (hw : w.1 = 0 ∨ w.1 = 1 ∨ w.1 = 4) : ∃ (i a : Nat) (l : List Nat) (β : Nat) (bs : List Nat) (p : Option zP) (ps : List (Option zP)) (own : Option zP) (j1 j2 : Nat) (k1 k2 : List Nat), bs' = β :: bs ∧ ps' = p :: ps ∧ (w.1 ≠ 4 ∧ l' = a :: l ∧ own = none ∨ w.1 = 4 ∧ ∃ b2, l' = b2 :: a :: l ∧ own = some (b2, 17, 0) ∧ (i + 1 < u ∧ A[i + 1]? = some b2) ∧ gr M b2 5 = none ∧ gr M b2 6 = none) ∧ xLp M e w Γ l' own u a l bs ps ρ A i m st j1 j2 k1 k2 ∧ (k1.length ≤ m ∧ k2.length ≤ m) ∧ (m ≤ 600 → jmK st β k1 w.2.2.2.1 ∧ (w.1 ≠ 1 → jmK st β k2 w.2.2.2.2.1)) := by
  obtain ⟨h1, h2, h3, h4, h5, ⟨i, b, l, β, bs, p, ps, e1, e2, hi, hb, c, h6⟩, h7, h8⟩ := id h
  have h7' : ∀ mm, mkP Γ mm → mm < st.m ∧ st.at mm = none := fun mm hmm => h7 mm (mkP_tl hmm)
  by_cases z4 : w.1 = 4
  · rw [if_pos z4] at c
    obtain ⟨b2, q1, q2, q3, q4, q5, q6, q7, j1, j2, k1, k2, g1, g2, x1, x2, hl, hk⟩ := c
    have har := h1.2.2.1
    rw [q1] at har
    obtain ⟨a1, a2, a3⟩ := har
    rw [if_pos z4] at a3
    obtain ⟨b', l2, t1, t2, t3, t4, t5, t6, t7⟩ := a3
    have eb := (List.cons.inj t1).1
    have el := (List.cons.inj t1).2
    subst eb el
    exact ⟨i, b, l, β, bs, p, ps, some (b2, 17, 0), j1, j2, k1, k2, e1, e2, .inr ⟨z4, b2, q1, rfl, ⟨q2, q3⟩, q6, q7⟩, ⟨h1, h2, h3, h4, h5, h6, ⟨h7', h8.2⟩, ⟨hb, hi⟩, ⟨q4, q5, g1, g2⟩, ⟨x1, x2⟩, t7⟩, hl, fun z => ⟨(hk z).1, fun _ => (hk z).2 _ rfl⟩⟩
  · rw [if_neg z4] at c
    obtain ⟨f1, f2, f3, f4, f5, f6⟩ := c
    have har := h1.2.2.1
    rw [f1] at har
    obtain ⟨a1, a2, a3⟩ := har
    rw [if_neg z4] at a3
    rcases hw with z | z | z
    · obtain ⟨j1, j2, k1, k2, g1, g2, x1, x2, hl, hk⟩ := f5 z
      exact ⟨i, b, l, β, bs, p, ps, none, j1, j2, k1, k2, e1, e2, .inl ⟨z4, f1, rfl⟩, ⟨h1, h2, h3, h4, h5, h6, ⟨h7', h8.2⟩, ⟨hb, hi⟩, ⟨f2, f3 (by omega), g1, g2⟩, ⟨x1, x2⟩, a3.2.2.2⟩, hl, fun z => ⟨(hk z).1, fun _ => (hk z).2 _ rfl⟩⟩
    · obtain ⟨j1, j2, k1, k2, g1, g2, x1, x2, hl, hk⟩ := f6 z
      exact ⟨i, b, l, β, bs, p, ps, none, j1, j2, k1, k2, e1, e2, .inl ⟨z4, f1, rfl⟩, ⟨h1, h2, h3, h4, h5, h6, ⟨h7', h8.2⟩, ⟨hb, hi⟩, ⟨f2, f3 (by omega), g1, g2⟩, ⟨x1, x2⟩, a3.2.2.2⟩, hl, fun z' => ⟨(hk z').1, fun y => absurd z y⟩⟩
    · exact absurd z z4
/-- and back -/
theorem lp_StG {u β : Nat} {p : Option zP} {l' : List Nat} (h : xLp M e w Γ l' own u a l bs ps ρ A i m st j1 j2 k1 k2) (hw : w.1 = 0 ∨ w.1 = 1 ∨ w.1 = 4) (hsh : w.1 ≠ 4 ∧ l' = a :: l ∧ own = none ∨ w.1 = 4 ∧ ∃ b2, l' = b2 :: a :: l ∧ own = some (b2, 17, 0) ∧ (i + 1 < u ∧ A[i + 1]? = some b2) ∧ gr M b2 5 = none ∧ gr M b2 6 = none) (hmk : ∀ mm, wmk w mm → mm < st.m ∧ st.at mm = none) (hdj : (∀ mm, wmk w mm → ¬ mkP Γ mm) ∧ (w.1 = 0 ∨ w.1 = 4 → w.2.2.2.1 ≠ w.2.2.2.2.1)) (hl : k1.length ≤ m ∧ k2.length ≤ m) (hj : m ≤ 600 → jmK st β k1 w.2.2.2.1 ∧ (w.1 ≠ 1 → jmK st β k2 w.2.2.2.2.1)) : xSt M e (w :: Γ) l' (β :: bs) (p :: ps) ρ A u m st := by
  obtain ⟨h1, h2, h3, h4, h5, h6, ⟨h7, hD⟩, h8, ⟨d1, d2, d3, d4⟩, ⟨x1, x2⟩, h9⟩ := h
  refine ⟨h1, h2, h3, h4, h5, ⟨i, a, l, β, bs, p, ps, rfl, rfl, h8.2, h8.1, ?_, h6⟩, fun mm hmm => (mkP_cons hmm).elim (hmk mm) (h7 mm), hdj, hD⟩
  rcases hsh with ⟨z4, z, zo⟩ | ⟨z4, b2, z, zo, zi, z5, z6⟩
  · rw [if_neg z4]
    rw [zo] at d1
    exact ⟨z, d1, fun _ => d2, fun y => by omega, fun y => ⟨j1, j2, k1, k2, d3, d4, x1, x2, hl, fun y6 => ⟨(hj y6).1, fun o ho => by cases ho; exact (hj y6).2 (by omega)⟩⟩, fun y => ⟨j1, j2, k1, k2, d3, d4, x1, x2, hl, fun y6 => ⟨(hj y6).1, fun o ho => by cases ho⟩⟩⟩
  · rw [if_pos z4]
    rw [zo] at d1
    exact ⟨b2, z, zi.1, zi.2, d1, d2, z5, z6, j1, j2, k1, k2, d3, d4, x1, x2, hl, fun y6 => ⟨(hj y6).1, fun o ho => by cases ho; exact (hj y6).2 (by omega)⟩⟩
end
