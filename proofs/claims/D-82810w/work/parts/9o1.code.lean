/-! THE COMPONENT's CODER: a whole function -/
/-- a function's Code: its variables (if it is the script itself), the functions declared in it (Codes, numbers, names), its parts -/
def xCd2 (S B : Nat → Prop) (M : zM) (fc : Nat) (gl : List Nat) (dc : List (Nat × Nat)) (C : Nat → Prop) (D : Nat) (gs : gBs) : Prop :=
  S fc ∧ (gr M fc 1 = none ∧ (∃ bv mb, S bv ∧ gr M fc 4 = some (bv, 100, mb) ∧ gi M fc 5 = nI gl.length ∧ gl.length ≤ mb ∧ mb < 100000 ∧ ∀ k, k < gl.length → gi M bv k = nI (gl.getD k 0)) ∨ gr M fc 1 ≠ none ∧ gl = []) ∧
  (∃ ld es, gr M fc 3 = some (ld, 11, 0) ∧ xLr S M ld es ∧ es.length = dc.length ∧ ∀ (k : Nat) (q : Nat × Nat), dc[k]? = some q → ∃ f, es.getD k none = some (f, 10, 0) ∧ S f ∧ gi M f 0 = nI q.1 ∧ gi M f 7 = nI q.2 ∧ q.1 < 32768 ∧ q.2 < 100000) ∧
  ∃ lp, gr M fc 2 = some (lp, 11, 0) ∧ xNl S B M (0, 0) C D lp gs
section
variable {S B C : Nat → Prop} {M : zM} {e : gN} {fc : Nat} {E : zE} {d : Nat} {Q : zO → zM → Prop} {l bs : List Nat} {ps : List (Option zP)} {ρ : Nat → Nat} {A : List Nat}
theorem y_gl (hS : ∀ a, S a → 190 ≤ a) {gl : List Nat} (hfc : S fc) (hv : gr M fc 1 = none ∧ (∃ bv mb, S bv ∧ gr M fc 4 = some (bv, 100, mb) ∧ gi M fc 5 = nI gl.length ∧ gl.length ≤ mb ∧ mb < 100000 ∧ ∀ k, k < gl.length → gi M bv k = nI (gl.getD k 0)) ∨ gr M fc 1 ≠ none ∧ gl = []) : ∀ (r pre : List Nat) (M1 : zM) (m : Nat) (s : gS), gl = pre ++ r → agS S M M1 → xSt M1 e [] l bs ps ρ A 0 m s → m + 3 * r.length < 10000000 → (∀ M', xSt M' e [] l bs ps ρ A 0 (m + 3 * r.length) (gGl e r s) → fr cdP M1 M' → Z E YX3_code (d + 1 + 1) M' [(0, C29), (1, vr (some (fc, 10, 0))), (2, vi 0)] 78 [] Q) → Z E YX3_code (d + 1 + 1) M1 [(0, C29), (1, vr (some (fc, 10, 0))), (2, vi (nI pre.length))] 25 [] Q := by
  intro r
  induction r with
  | nil =>
    intro pre M1 m s hgl ha h hm hQ
    rw [List.append_nil] at hgl
    refine sX3_code_25 M1 fc _ h.1.1 ?_
    rcases hv with ⟨v1, bv, mb, v2, v3, v4, v5, v6, v7⟩ | ⟨v1, v2⟩
    · rw [(ha fc 1 hfc).2, v1, if_pos rfl, (ha fc 5 hfc).1, v4, hgl, if_pos (nI_le (Nat.le_refl _) (by rw [hgl] at v5; omega))]
      exact hQ M1 h fr.rf
    · rw [(ha fc 1 hfc).2, if_neg v1]
      exact hQ M1 h fr.rf
  | cons x r ih =>
    intro pre M1 m s hgl ha h hm hQ
    have hat := at_app hgl
    have hpl := (List.getElem?_eq_some_iff.mp hat).1
    have hrl : (x :: r).length = r.length + 1 := rfl
    rw [hrl] at hm hQ
    rcases hv with ⟨v1, bv, mb, v2, v3, v4, v5, v6, v7⟩ | ⟨v1, v2⟩
    · refine sX3_code_25 M1 fc _ h.1.1 ?_
      rw [(ha fc 1 hfc).2, v1, if_pos rfl, (ha fc 5 hfc).1, v4, if_neg (nI_ge hpl (by omega))]
      refine y_puS (L := []) h (by omega) rfl rfl (fun M2 h2 f2 => ?_)
      have a2 := ha.tr (f2.agS hS)
      show Z E YX3_code (d + 1 + 1) M2 [(0, C29), (1, vr (some (fc, 10, 0))), (2, vi (nI pre.length))] 47 [vi (nI m)] Q
      refine sX3_code_47 M2 fc _ _ h2.1.1 ⟨bv, mb, (a2 fc 4 hfc).2.trans v3, nI_in (by omega) (by omega), ?_⟩
      rw [nI_clamp (by omega), (a2 bv _ v2).1, v7 _ hpl, List.getD_eq_getElem?_getD, hat]
      refine y_puS (L := [false]) (b := Int32.ofNat x) h2 (by omega) rfl rfl (fun M3 h3 f3 => ?_)
      show Z E YX3_code (d + 1 + 1) M3 [(0, C29), (1, vr (some (fc, 10, 0))), (2, vi (nI pre.length))] 60 [vi (nI (m + 1))] Q
      refine sX3_code_60 M3 fc _ _ h3.1.1 ?_
      refine y_puS (L := [false]) h3 (by omega) rfl rfl (fun M4 h4 f4 => ?_)
      show Z E YX3_code (d + 1 + 1) M4 [(0, C29), (1, vr (some (fc, 10, 0))), (2, vi (nI pre.length))] 69 [vi (nI (m + 1 + 1))] Q
      refine sX3_code_69 M4 fc _ _ h4.1.1 ?_
      rw [nI_l1]
      have f24 := (f2.tr f3).tr f4
      have := ih (pre ++ [x]) M4 (m + 1 + 1 + 1) _ (by rw [hgl]; simp) (ha.tr (f24.agS hS)) h4 (by omega) (fun M' h' f' => hQ M' (by rw [show m + 3 * (r.length + 1) = m + 1 + 1 + 1 + 3 * r.length by omega]; exact h') (f24.tr f'))
      rw [List.length_append] at this
      exact this
    · rw [v2] at hgl; simp at hgl
theorem y_dc (hS : ∀ a, S a → 190 ≤ a) {dc : List (Nat × Nat)} (hfc : S fc) {ld : Nat} {es : List (Option zP)} (e3 : gr M fc 3 = some (ld, 11, 0)) (hl : xLr S M ld es) (hel : es.length = dc.length) (hd : ∀ (k : Nat) (q : Nat × Nat), dc[k]? = some q → ∃ f, es.getD k none = some (f, 10, 0) ∧ S f ∧ gi M f 0 = nI q.1 ∧ gi M f 7 = nI q.2 ∧ q.1 < 32768 ∧ q.2 < 100000) : ∀ (r pre : List (Nat × Nat)) (M1 : zM) (m : Nat) (s : gS), dc = pre ++ r → agS S M M1 → xSt M1 e [] l bs ps ρ A 0 m s → m + 3 * r.length < 10000000 → (∀ M', xSt M' e [] l bs ps ρ A 0 (m + 3 * r.length) (gDc e r s) → fr cdP M1 M' → Z E YX3_code (d + 3 + 1) M' [(0, C29), (1, vr (some (fc, 10, 0))), (2, vi 0)] 146 [] Q) → Z E YX3_code (d + 3 + 1) M1 [(0, C29), (1, vr (some (fc, 10, 0))), (2, vi (nI pre.length))] 78 [] Q := by
  intro r
  have hlt := hl.2.2.1
  induction r with
  | nil =>
    intro pre M1 m s hgl ha h hm hQ
    rw [List.append_nil] at hgl
    refine iX3_code_78 M1 fc _ h.1.1 ⟨ld, (ha fc 3 hfc).2.trans e3, ?_⟩
    rw [(xLr_ag hl ha).2.1, hel, hgl, if_pos (nI_le (Nat.le_refl _) (by rw [← hgl]; omega))]
    exact hQ M1 h fr.rf
  | cons q r ih =>
    intro pre M1 m s hgl ha h hm hQ
    have hat := at_app hgl
    have hpl := (List.getElem?_eq_some_iff.mp hat).1
    have hrl : (q :: r).length = r.length + 1 := rfl
    rw [hrl] at hm hQ
    obtain ⟨f, t1, t2, t3, t4, t5, t6⟩ := hd _ q hat
    refine iX3_code_78 M1 fc _ h.1.1 ⟨ld, (ha fc 3 hfc).2.trans e3, ?_⟩
    rw [(xLr_ag hl ha).2.1, hel, if_neg (nI_ge hpl (by omega))]
    refine l_getR (d := d) (xLr_ag hl ha) (by omega) ?_
    rw [t1]
    show Z E YX3_code (d + 3 + 1) M1 [(0, C29), (1, vr (some (fc, 10, 0))), (2, vi (nI pre.length))] 100 [vr (some (f, 10, 0)), vi 9, C29] Q
    refine sX3_code_100 M1 fc _ _ _ h.1.1 ⟨f, rfl, ?_⟩
    rw [(ha f 0 t2).1, t3]
    refine y_puS (L := []) (a := nI q.1) h (by omega) rfl (nn_ns2 t5) (fun M2 h2 f2 => ?_)
    have a2 := ha.tr (f2.agS hS)
    show Z E YX3_code (d + 3 + 1) M2 [(0, C29), (1, vr (some (fc, 10, 0))), (2, vi (nI pre.length))] 110 [vi (nI m)] Q
    refine sX3_code_110 M2 fc _ _ h2.1.1 ⟨ld, (a2 fc 3 hfc).2.trans e3, ?_⟩
    refine l_getR (d := d) (xLr_ag hl a2) (by omega) ?_
    rw [t1]
    show Z E YX3_code (d + 3 + 1) M2 [(0, C29), (1, vr (some (fc, 10, 0))), (2, vi (nI pre.length))] 120 [vr (some (f, 10, 0)), C29] Q
    refine sX3_code_120 M2 fc _ _ h2.1.1 ⟨f, rfl, ?_⟩
    rw [(a2 f 7 t2).1, t4]
    refine y_seS (L := [false]) h2 (by omega) t6 (fun M3 h3 f3 => ?_)
    show Z E YX3_code (d + 3 + 1) M3 [(0, C29), (1, vr (some (fc, 10, 0))), (2, vi (nI pre.length))] 129 [] Q
    refine sX3_code_129 M3 fc _ h3.1.1 ?_
    refine y_puS (L := [false]) h3 (by omega) rfl rfl (fun M4 h4 f4 => ?_)
    show Z E YX3_code (d + 3 + 1) M4 [(0, C29), (1, vr (some (fc, 10, 0))), (2, vi (nI pre.length))] 137 [vi (nI (m + 1 + 1))] Q
    refine sX3_code_137 M4 fc _ _ h4.1.1 ?_
    rw [nI_l1]
    have f24 := (f2.tr f3).tr f4
    have eg : gDc e (q :: r) s = gDc e r (em e [] [false] 17 0 0 none (gSet q.2 e [] [false] (em e [] [] 9 (Int32.ofNat q.1) 0 none s))) := by obtain ⟨q1, q2⟩ := q; rfl
    rw [eg] at hQ
    have := ih (pre ++ [q]) M4 (m + 1 + 1 + 1) _ (by rw [hgl]; simp) (ha.tr (f24.agS hS)) h4 (by omega) (fun M' h' f' => hQ M' (by rw [show m + 3 * (r.length + 1) = m + 1 + 1 + 1 + 3 * r.length by omega]; exact h') (f24.tr f'))
    rw [List.length_append] at this
    exact this
/-- the coder between two functions -/
def xTp (M : zM) (ρ : Nat → Nat) (A : List Nat) (m : Nat) (st : gS) : Prop :=
  cw M ∧ xCd M (fun _ => False) m st ∧ xOw M ρ A ∧ A.length < 80000 ∧ 190 ≤ zsz M
theorem y_code {gl : List Nat} {dc : List (Nat × Nat)} {D : Nat} {gs : gBs} {m T : Nat} {st : gS} (hS : ∀ a, S a → 190 ≤ a) (h : xTp M ρ A m st) (hs : sep S B M ρ) (hT : T ≤ m) (hd : D + 360 ≤ d + 3) (hD : D ≤ 1900) (hb1 : S fc)
    (hM1 : ∀ M1 : zM, M1 = si (si (sr (sr M 29 12 (some (fc, 10, 0))) 29 9 none) 29 11 0) fc 9 (gi M 29 7) → fnS S M1 e fc ∧ xCd2 S B M1 fc gl dc C D gs) (hsz : m + (3 * gl.length + 3 * dc.length + sO gs + 2) < 9000000) (hsN : sN gs < 8000000)
    (hQ : ∀ (M' : zM) (ρ' : Nat → Nat) (A' : List Nat) (m' T' : Nat), xTp M' ρ' A' m' (gFn e gl dc (gBl gs) st) → sep S B M' ρ' → stF B C (si (si (sr (sr M 29 12 (some (fc, 10, 0))) 29 9 none) 29 11 0) fc 9 (gi M 29 7)) M' ρ ρ' → szs m T (3 * gl.length + 3 * dc.length + sO gs + 2) (3 * gl.length + 3 * dc.length + sN gs + 2) (sH gs) (sK gs) m' T' → rm C 0 [] (si (si (sr (sr M 29 12 (some (fc, 10, 0))) 29 9 none) 29 11 0) fc 9 (gi M 29 7)) ρ A T M' ρ' A' T' D → Q (.inl none) M') : Z E YX3_code (d + 3 + 1) M [(0, C29), (1, vr (some (fc, 10, 0)))] 0 [] Q := by
  obtain ⟨w0, c0, o0, hA, hz⟩ := h
  have bfc := hs.1 fc (.inl hb1)
  refine sX3_code_0 M _ w0 ⟨fc, rfl, by omega, ?_⟩
  obtain ⟨hf, hfc, hv, ⟨ld, es, e3, hl, hel, hdd⟩, lp, e2, hnl⟩ := hM1 _ rfl
  have f0 : fr (fun x k => x = 29 ∧ (k = 9 ∨ k = 11 ∨ k = 12) ∨ x = fc ∧ k = 9) M (si (si (sr (sr M 29 12 (some (fc, 10, 0))) 29 9 none) 29 11 0) fc 9 (gi M 29 7)) := (((fr.sr (.inl ⟨rfl, .inr (.inr rfl)⟩)).tr (fr.sr (.inl ⟨rfl, .inl rfl⟩))).tr (fr.si (.inl ⟨rfl, .inr (.inl rfl)⟩))).tr (fr.si (.inr ⟨rfl, rfl⟩))
  have r12 : gr (si (si (sr (sr M 29 12 (some (fc, 10, 0))) 29 9 none) 29 11 0) fc 9 (gi M 29 7)) 29 12 = some (fc, 10, 0) := by simp only [gr_si, gr_sr]; simp
  have r9 : gr (si (si (sr (sr M 29 12 (some (fc, 10, 0))) 29 9 none) 29 11 0) fc 9 (gi M 29 7)) 29 9 = none := by simp only [gr_si, gr_sr]; simp
  have i11 : gi (si (si (sr (sr M 29 12 (some (fc, 10, 0))) 29 9 none) 29 11 0) fc 9 (gi M 29 7)) 29 11 = nI 0 := by
    rw [gi_oth (by omega), gi_self]; rfl
  generalize si (si (sr (sr M 29 12 (some (fc, 10, 0))) 29 9 none) 29 11 0) fc 9 (gi M 29 7) = M1 at *
  have cwP : ∀ q ∈ cwl, ¬ (q.1 = 29 ∧ (q.2.1 = 9 ∨ q.2.1 = 11 ∨ q.2.1 = 12) ∨ q.1 = fc ∧ q.2.1 = 9) := fun q hq z => by
    have := (show ∀ q ∈ cwl, (q.1 = 16 ∨ q.1 = 29) ∧ ¬ (q.1 = 29 ∧ (q.2.1 = 9 ∨ q.2.1 = 11 ∨ q.2.1 = 12)) by decide +kernel) q hq
    omega
  have w1 : cw M1 := f0.cw cwP w0
  have ofg : xOw M1 ρ A := ow_fg o0 f0.fg hA hz (fun k z => by omega) (fun x k hr _ z => by
    rcases z with z | z
    · have := o0.1 x hr; omega
    · rw [z.1] at hr; exact hr bfc.2.2.1) (fun k => .inr (fun z => by
    rcases z with z | z
    · rcases o0.2.2.1.2 with y | y <;> omega
    · exact bfc.2.2.2 z.1.symm)) (fun _ _ => rfl) (fun x hx hr => by have := (o0.1 x hr).2; omega)
  have X1 : xSt M1 e [] [] [] [] ρ A 0 m st := by
    obtain ⟨u', v1, v2⟩ := hf
    refine ⟨⟨w1, xCd_ag c0 (fun x k hx => (f0.2 x k (by unfold cdP at hx; omega)).1) (fun _ z => z.elim), ⟨r9, rfl⟩, ⟨(fun w hw => by cases hw), (by show (0 : Nat) < 32768; decide)⟩, fc, u', v1, r12, v2 M1 (fun _ _ _ => ⟨rfl, rfl⟩)⟩, ofg, i11, ⟨Nat.zero_le _, hA⟩, by rw [f0.1.1]; exact hz, ⟨rfl, rfl, rfl⟩, (fun mm z => by obtain ⟨w, hw, _⟩ := z; cases hw), trivial⟩
  have l37 : lA M1 37 = lA M 37 := (lA_fg (by omega) f0.fg (by omega)).1
  have s1 : sep S B M1 ρ := by
    refine ⟨fun a ha => by rw [f0.1.1, l37]; exact hs.1 a ha, hs.2.1, fun b hb => ?_⟩
    have hb9 := hs.1 b (.inr hb)
    exact sep3_ag (hs.2.2 b hb) (f0.2 b 3 (by omega)).2.2 (f0.2 b 1 (by omega)).2.2 (fun a ha => (f0.2 a 2 (by have := (hs.1 a (.inl ha)).1; omega)).1) (fun _ _ => rfl)
  have aM : agS S M1 M1 := fun _ _ _ => ⟨rfl, rfl⟩
  obtain ⟨d, rfl⟩ : ∃ d', d = d' + 1 := ⟨d - 1, by omega⟩
  have hlt := hl.2.2.1
  have g0 := y_gl (E := E) (d := d + 3) (Q := Q) hS hfc hv gl [] M1 m st rfl aM X1 (by omega) (fun M2 X2 f2 => ?_)
  · exact g0
  have a2 := f2.agS hS
  have hz1 := X1.2.2.2.2.1
  have g1 := y_dc (E := E) (d := d + 1) (Q := Q) hS hfc e3 hl hel hdd dc [] M2 (m + 3 * gl.length) _ rfl a2 X2 (by omega) (fun M3 X3 f3 => ?_)
  · exact g1
  have f13 := f2.tr f3
  have F3 := f13.stF (B := B) (C := C) (ρ := ρ) hz1
  have s3 := sep_cd s1 f13 hz1
  have hz3 := X3.2.2.2.2.1
  -- the parts
  have hlt' : gs.length < 100000 := by obtain ⟨es, h1, h2, -⟩ := id hnl; rw [← h2]; exact h1.2.2.1
  have num : ∀ M2 : zM, agS S M1 M2 → gi M2 lp 2 = nI gs.length := fun M2 ha => by obtain ⟨es, h1, h2, -⟩ := id hnl; rw [← h2]; exact (xLr_ag h1 ha).2.1
  have loop : ∀ (r pre : gBs) (M4 : zM) (ρ4 : Nat → Nat) (A4 : List Nat) (m4 T4 : Nat) (s : gS), gs = pre ++ r → agS S M1 M4 → agB B M1 M4 → gr M4 29 12 = some (fc, 10, 0) → sep S B M4 ρ4 → xSt M4 e [] [] [] [] ρ4 A4 0 m4 s → m4 + sO r < 9500000 → sN r < 8000000 → T4 ≤ m4 → (∀ M' ρ' A' m' T', xSt M' e [] [] [] [] ρ' A' 0 m' (gBl r e [] s) → sep S B M' ρ' → stF B C M4 M' ρ4 ρ' → szs m4 T4 (sO r) (sN r) (sH r) (sK r) m' T' → rm C 0 [] M4 ρ4 A4 T4 M' ρ' A' T' D → Z E YX3_put (d + 4) M' [(0, C29), (1, vi 0), (2, vi 0), (3, vi 0)] 0 [] (zafter E YX3_code (d + 4 + 1) [(0, C29)] 182 3 [] Q)) → Z E YX3_code (d + 4 + 1) M4 [(0, C29), (1, vr (some (fc, 10, 0))), (2, vi (nI pre.length))] 146 [] Q := by
    intro r
    induction r with
    | nil =>
      intro pre M4 ρ4 A4 m4 T4 s hr ha hB hF hs h hm hN hT hQ
      refine iX3_code_146 M4 fc _ h.1.1 ⟨lp, (ha fc 2 hfc).2.trans e2, ?_⟩
      rw [num M4 ha, if_pos (nI_le (by rw [hr, List.append_nil]; exact Nat.le_refl _) (by rw [hr, List.append_nil] at hlt'; omega))]
      exact hQ M4 ρ4 A4 m4 T4 h hs stF.rf (by show szs m4 T4 0 0 0 0 m4 T4; unfold szs; omega) rm.rf
    | cons q r ih =>
      intro pre M4 ρ4 A4 m4 T4 s hr ha hB hF hs h hm hN hT hQ
      have hat := at_app hr
      have hpl := (List.getElem?_eq_some_iff.mp hat).1
      have on := sON hnl r (pre ++ [q]) (by rw [hr]; simp)
      obtain ⟨es, h1, h2, h3⟩ := id hnl
      obtain ⟨hon, p, h4, h5⟩ := h3 _ q hat
      have hm' : m4 + (q.1.1 + sO r) < 9500000 := hm
      have hN' : q.1.2.1 + sN r < 8000000 := hN
      refine iX3_code_146 M4 fc _ h.1.1 ⟨lp, (ha fc 2 hfc).2.trans e2, ?_⟩
      rw [num M4 ha, if_neg (nI_ge hpl (by omega))]
      refine l_getR (d := d + 1) (xLr_ag h1 ha) (by omega) ?_
      rw [h4]
      show Z E YX3_code (d + 4 + 1) M4 [(0, C29), (1, vr (some (fc, 10, 0))), (2, vi (nI pre.length))] 165 [vr (some p)] Q
      refine sX3_code_165 M4 fc _ _ h.1.1 ?_
      have W := h5 e fc [] [] 0 0 0 (fun _ => False) C hf (trivial : Good S B M1 e fc (fun _ => False) 0 0 0 [] []) ⟨fun _ z => z, fun _ z => z.elim, fun _ _ z => z⟩ trivial ⟨fun z => absurd z (by decide), fun z => absurd z (by decide)⟩
      refine y_ndL W ha hB hF hs h (by omega) (by omega) (by show 0 + _ ≤ _; omega) (by omega) (by omega) hT (fun M5 ρ5 A5 m5 T5 g1 g2 g3 g4 g7 => ?_)
      show Z E YX3_code (d + 4 + 1) M5 [(0, C29), (1, vr (some (fc, 10, 0))), (2, vi (nI pre.length))] 172 [] Q
      refine sX3_code_172 M5 fc _ g1.1.1 ?_
      have := ih (pre ++ [q]) M5 ρ5 A5 m5 T5 (q.2 e [] s) (by rw [hr]; simp) (ha.tr (g3.agS hs)) (hB.tr (g3.agB hs)) (g3.f12.trans hF) g2 g1 (by unfold szs at g4; omega) (by omega) g4.2.2.1 (fun M3 ρ3 A3 m3 T3 k1 k2 k3 k4 k7 => hQ M3 ρ3 A3 m3 T3 k1 k2 (g3.tr k3) (by
        show szs m4 T4 (q.1.1 + sO r) (q.1.2.1 + sN r) (q.1.2.2.1 + sH r) (q.1.2.2.2 + sK r) m3 T3
        unfold szs at *; omega) (g7.tr k7 h.lz (by omega) (Nat.le_refl _)))
      rw [List.length_append] at this
      rw [nI_l1]
      exact this
  have g2 := loop gs [] M3 ρ A (m + 3 * gl.length + 3 * dc.length) T _ rfl (f13.agS hS) (F3.agB s1) (F3.f12.trans r12) s3 X3 (by omega) hsN (by omega) (fun M4 ρ4 A4 m4 T4 X4 s4 F4 sz R4 => ?_)
  · exact g2
  have hz4 := X4.2.2.2.2.1
  refine y_puS (L := []) X4 (by unfold szs at sz; omega) rfl rfl (fun M5 X5 f5 => ?_)
  show Z E YX3_code (d + 4 + 1) M5 [(0, C29)] 185 [vi (nI m4)] Q
  refine sX3_code_185 M5 _ X5.1.1 ?_
  refine y_puS (L := [false]) X5 (by unfold szs at sz; omega) rfl rfl (fun M6 X6 f6 => ?_)
  show Z E YX3_code (d + 4 + 1) M6 [] 194 [vi (nI (m4 + 1))] Q
  refine sX3_code_194 M6 _ X6.1.1 ?_
  have f46 := f5.tr f6
  have on := sON hnl gs [] rfl
  refine hQ M6 ρ4 A4 (m4 + 1 + 1) T4 ⟨X6.1.1, xCd_31 X6.1.2.1 (fun _ _ _ _ => rfl) rfl rfl X6.1.2.1.2.2.2.2.2.2 (fun h6 k q hq => ⟨fun _ => rfl, fun mm p z1 z2 _ => ((X6.1.2.1.2.2.2.2.1 h6).2.2.1 k q hq).2.2.1 mm p z1 z2 (fun z => by obtain ⟨w, hw, _⟩ := z; cases hw)⟩), X6.2.1, X6.2.2.2.1.2, X6.2.2.2.2.1⟩ (sep_cd s4 f46 hz4) ((F3.tr F4).tr (f46.stF hz4)) (by unfold szs at *; omega) ?_
  exact ((rm_cd (V := 0) X1.2.1 f13 hz1 (Nat.le_refl _)).tr R4 (fun b hb => by cases hb) (Nat.zero_le _) (Nat.le_refl _)).tr (rm_cd (V := 0) X4.2.1 f46 hz4 (Nat.le_refl _)) (fun b hb => by cases hb) (Nat.le_refl _) (Nat.zero_le _)
end
