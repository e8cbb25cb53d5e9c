/-! THE COMPONENT's CODER: switch, its bodies; the whole -/
theorem gMks_eq : ∀ (n : Nat) (s : gS), (gMks n s).c = s.c ∧ (gMks n s).m = s.m + n ∧ (gMks n s).at = s.at ∧ (gMks n s).si = s.si
  | 0, _ => ⟨rfl, rfl, rfl, rfl⟩
  | n + 1, s => by
    obtain ⟨a1, a2, a3, a4⟩ := gMks_eq n (mkm s)
    exact ⟨a1, by show (gMks n (mkm s)).m = _; rw [a2]; show s.m + 1 + n = _; omega, a3, a4⟩
section
variable {S B C C' Ck : Nat → Prop} {M : zM} {c : Nat × Nat} {e : gN} {Γ : gK} {fc : Nat}
theorem y_goV {E : zE} {d : Nat} {Q : zO → zM → Prop} {M1 : zM} {l bs : List Nat} {ps : List (Option zP)} {ρ : Nat → Nat} {A : List Nat} {u m k mm : Nat} {st : gS} (h : xSt M1 e Γ l bs ps ρ A u m st) (hkb : k < 100000000) (hmm : mm < st.m) (hp : ¬ mkP Γ mm) (hu : m ≤ 600 → only st mm k) (hQ : ∀ M', xSt M' e Γ l bs ps ρ A u m (hre mm st) → fr cdP M1 M' → Q (.inl none) M') : Z E YX3_goal (d + 1) M1 [(0, C29), (1, vi (nI k))] 0 [] Q :=
  y_goal h.1 (fun z q hq => (hu z).1 q hq) (fun z j q hq hm => (hu z).2 j q hq hm) hkb hmm (fun M' c f => hQ M' (xSt_mk h f c rfl (Nat.le_refl _) (fun m' z => (show (if m' = mm then _ else st.at m') = st.at m' by rw [if_neg (fun y => hp (by rw [← y]; exact z))]))) f)
/-- where a case's jump is -/
def jjk (oth : Option Nat) (jp : Nat → Nat) (last k : Nat) : Nat := if oth = some k then last else jp k
theorem swB {b lb n a u rr β last D Dk Nk Kk : Nat} {l bs : List Nat} {ps : List (Option zP)} {cz : gCz} {fs : List (Option zP)} {oth : Option Nat} {jp : Nat → Nat} {d : Nat} {E : zE} {Q : zO → zM → Prop} (hb : B b) (hnb : ¬ C' b) (hkb : ¬ Ck b) (hdis : ∀ x, C' x → ¬ Ck x) (e2 : gr M b 2 = some (lb, 11, 0)) (hfl : xLr S M lb fs) (hbl : fs.length = cz.length)
    (hbs : ∀ k q, cz[k]? = some q → (q.1.1 ≤ q.1.2.1 ∧ q.1.2.2.1 ≤ q.1.2.2.2) ∧ gokT q.2.2 ∧ ∃ pb, fs.getD k none = some (pb, 20, 0) ∧ xNd S B M (c.1, c.2 + 1) C' D q.1.1 q.1.2.1 q.1.2.2.1 q.1.2.2.2 (pb, 20, 0) q.2.2) (hlen : cz.length < 100000) (hf : fnS S M e fc) (hG : Good S B M e fc Ck Nk Kk Dk Γ ps) (hk : kgo Γ) (hcx : ctx c Γ) (hd : D + 1 + Dk + 350 ≤ d + 3) (hu : u + (D + 2 + Dk) ≤ 60000) (hsk : (skk Γ).length + (D + 2 + Dk) ≤ 2000) (hla : last < 100000000) (hoth : ∀ k, oth = some k → k < cz.length) (nΓ : ∀ mm, n ≤ mm → ¬ mkP Γ mm) :
    ∀ (r pre : gCz) (M1 : zM) (ρ1 : Nat → Nat) (A1 : List Nat) (m1 T1 : Nat) (s : gS), cz = pre ++ r → agS S M M1 → agB B M M1 → gr M1 29 12 = some (fc, 10, 0) → sep S B M1 ρ1 → xSt M1 e (swW n :: Γ) (a :: l) (β :: bs) (none :: ps) ρ1 A1 (u + 1) m1 s → gr M1 b 3 = some (rr, 100, cz.length) → (ρ1 rr = 5 * (100000 + b) ∧ ρ1 a = 5 * u + 1) → (∀ k, pre.length ≤ k → k < cz.length → oth ≠ some k → gi M1 rr k = nI (jp k) ∧ jp k < 100000000) → (m1 ≤ 600 → ∀ k, pre.length ≤ k → k < cz.length → only s (n + 1 + k) (jjk oth jp last k) ∧ jjk oth jp last k < s.c.length) → n + 1 + cz.length ≤ s.m → m1 + sO (czB r) < 10000000 → Nk + sN (czB r) < 9000000 → T1 ≤ m1 →
    (∀ (M' : zM) (ρ' : Nat → Nat) (A' : List Nat) (m' T' : Nat) (s' : gS), s' = gCsB e (swW n :: Γ) (czS r) (n + 1 + pre.length) s → xSt M' e (swW n :: Γ) (a :: l) (β :: bs) (none :: ps) ρ' A' (u + 1) m' s' → sep S B M' ρ' → stF B (fun x => C' x ∨ Ck x) M1 M' ρ1 ρ' → szs m1 T1 (sO (czB r)) (Nk + sN (czB r)) (sH (czB r)) (Kk + sK (czB r)) m' T' → rm (fun x => C' x ∨ Ck x) u l M1 ρ1 A1 T1 M' ρ' A' T' (u + (D + 2 + Dk)) → gr M' b 3 = some (rr, 100, cz.length) → ρ' a = 5 * u + 1 → (∃ t, s'.c = s.c ++ t) → n + 1 + cz.length ≤ s'.m → Z E YX39_code (d + 3 + 1) M' [(0, vr (some (b, 44, 0))), (1, C29), (2, vr (some (a, 17, 0))), (3, vi (oN oth)), (4, vi (nI last)), (5, vi (nI cz.length))] 170 [] Q) →
    Z E YX39_code (d + 3 + 1) M1 [(0, vr (some (b, 44, 0))), (1, C29), (2, vr (some (a, 17, 0))), (3, vi (oN oth)), (4, vi (nI last)), (5, vi (nI pre.length))] 170 [] Q := by
  have sm : smC (swW n :: Γ) Γ := smC_lp (show (1 : Nat) ≠ 2 by decide) rfl
  have skw : (skk (swW n :: Γ)).length = (skk Γ).length := by rw [sm.2.1]
  intro r
  induction r with
  | nil =>
    intro pre M1 ρ1 A1 m1 T1 s hcz ha hB hF hs X h3 hρ hj ho hmm hm hN hT hQ
    rw [List.append_nil] at hcz
    subst hcz
    exact hQ M1 ρ1 A1 m1 T1 s rfl X hs stF.rf (by show szs m1 T1 0 (Nk + 0) 0 (Kk + 0) m1 T1; unfold szs; omega) rm.rf h3 hρ.2 ⟨[], by rw [List.append_nil]⟩ hmm
  | cons q r ih =>
    intro pre M1 ρ1 A1 m1 T1 s hcz ha hB hF hs X h3 hρ hj ho hmm hm hN hT hQ
    have hat := at_app hcz
    have hkl := (List.getElem?_eq_some_iff.mp hat).1
    have hcz' : cz = (pre ++ [q]) ++ r := by rw [hcz]; simp
    have hpl : (pre ++ [q]).length = pre.length + 1 := by rw [List.length_append]; rfl
    have hm : m1 + (q.1.1 + sO (czB r)) < 10000000 := hm
    have hN : Nk + (q.1.2.1 + sN (czB r)) < 9000000 := hN
    obtain ⟨hon, hy, pb, t2, h2⟩ := hbs _ q hat
    have onr : ∀ (r' : gCz), (∀ x ∈ r', x ∈ cz) → sO (czB r') ≤ sN (czB r') ∧ sH (czB r') ≤ sK (czB r') := by
      intro r'
      induction r' with
      | nil => intro _; exact ⟨Nat.le_refl _, Nat.le_refl _⟩
      | cons x r' ih' =>
        intro hx
        have h1 := ih' (fun y hy => hx y (List.mem_cons_of_mem _ hy))
        obtain ⟨i, hi⟩ := List.getElem?_of_mem (hx x List.mem_cons_self)
        have h2 := (hbs i x hi).1
        show x.1.1 + sO (czB r') ≤ x.1.2.1 + sN (czB r') ∧ x.1.2.2.1 + sH (czB r') ≤ x.1.2.2.2 + sK (czB r')
        omega
    have onr' := onr r (fun x hx => by rw [hcz']; exact List.mem_append_right _ hx)
    have hz := X.2.2.2.2.1
    have bb := hs.1 b (.inr hb)
    have brr := X.2.1.1 rr (by omega)
    have nsw : ∀ k, k < cz.length → ¬ mkP (swW n :: Γ) (n + 1 + k) := fun k _ z => (mkP_cons z).elim (fun z => by have := wmk_sw z; omega) (nΓ _ (by omega))
    -- from behind the goal on
    have go : ∀ M2 : zM, xSt M2 e (swW n :: Γ) (a :: l) (β :: bs) (none :: ps) ρ1 A1 (u + 1) m1 (hre (n + 1 + pre.length) s) → fr cdP M1 M2 → Z E YX39_code (d + 3 + 1) M2 [(0, vr (some (b, 44, 0))), (1, C29), (2, vr (some (a, 17, 0))), (3, vi (oN oth)), (4, vi (nI last)), (5, vi (nI pre.length))] 202 [] Q := by
      intro M2 X2 f2
      have F2 := f2.stF (B := B) (C := fun x => C' x ∨ Ck x) (ρ := ρ1) hz
      have s2 := sep_cd hs f2 hz
      have a2 := ha.tr (F2.agS hs)
      have B2 := hB.tr (F2.agB hs)
      refine sX39_code_202 M2 b 29 _ _ _ _ ⟨lb, (B2 b 2 hb (by decide)).2.trans e2, ?_⟩
      refine l_getR (d := d) (xLr_ag hfl a2) (by omega) ?_
      rw [t2]
      show Z E YX39_code (d + 3 + 1) M2 [(0, vr (some (b, 44, 0))), (1, C29), (2, vr (some (a, 17, 0))), (3, vi (oN oth)), (4, vi (nI last)), (5, vi (nI pre.length))] 211 [vr (some (pb, 20, 0))] Q
      refine sX39_code_211 M2 b 29 _ _ _ _ _ ⟨pb, rfl, ?_⟩
      obtain ⟨_, _, Y, w3, w4⟩ := h2 e fc (swW n :: Γ) (none :: ps) (Dk + 1) Nk Kk Ck (fun x => C' x ∨ Ck x) hf (hG.cons rfl) ⟨fun _ z => .inl z, fun _ z => .inr z, hdis⟩ (kgo_w hk rfl) (ctx_sw hcx rfl)
      have eY : YX14_code = Y := Option.some.inj w3
      subst eY
      refine w4 E (d + 3) _ M2 (a :: l) (β :: bs) ρ1 A1 (u + 1) m1 T1 _ a2 B2 (F2.f12.trans hF) s2 X2 (by omega) (by omega) (by rw [skw]; omega) (by omega) (by omega) hT (fun M3 ρ3 A3 m3 T3 X3 s3 F3 sz r3 => ?_)
      have g3 := hy e (swW n :: Γ) (hre (n + 1 + pre.length) s) (kgo_w hk rfl)
      have r3' := r3.dn hρ.2
      have zz2 : zsz M2 = zsz M1 := f2.1.1
      have ρr : ρ3 rr = ρ1 rr := F3.1.2.2 rr (by omega)
      have ρa : ρ3 a = ρ1 a := by
        have := X.2.1.1 a (by omega)
        exact F3.1.2.2 a (by omega)
      have g2 : ∀ x k, 190 ≤ x → gi M2 x k = gi M1 x k ∧ gr M2 x k = gr M1 x k := fun x k hx => by
        have := f2.2 x k (by unfold cdP; omega)
        exact ⟨this.1, this.2.2⟩
      have s2b := s2.1 b (.inr hb)
      have h33 : gr M3 b 3 = some (rr, 100, cz.length) := (((F3.2.1 b s2b.1 s2b.2.1 s2b.2.2.1 s2b.2.2.2).2.2 3 (fun _ z => absurd z (fun z => z.elim hnb hkb))).2.trans (g2 b 3 bb.1).2).trans h3
      have hj3 : ∀ k, gi M3 rr k = gi M1 rr k := fun k => ((r3'.2.2.2 rr (by omega) (by omega) (by rw [hρ.1, show 5 * (100000 + b) / 5 - 100000 = b by omega]; exact fun z => z.elim hnb hkb) k).1).trans (g2 rr k brr.1).1
      show Z E YX39_code (d + 3 + 1) M3 [(0, vr (some (b, 44, 0))), (1, C29), (2, vr (some (a, 17, 0))), (3, vi (oN oth)), (4, vi (nI last)), (5, vi (nI pre.length))] 218 [] Q
      refine sX39_code_218 M3 b 29 _ _ _ _ ?_
      rw [nI_l1]
      have hlz := X.lz
      have hlz' : ∀ x ∈ l, x < zsz M1 := fun x hx => hlz x (List.mem_cons_of_mem _ hx)
      have eg : gCsB e (swW n :: Γ) (czS (q :: r)) (n + 1 + pre.length) s = gCsB e (swW n :: Γ) (czS r) (n + 1 + (pre ++ [q]).length) (q.2.2 e (swW n :: Γ) (hre (n + 1 + pre.length) s)) := by
        obtain ⟨q1, q2, q3⟩ := q
        rw [hpl]; rfl
      have := ih (pre ++ [q]) M3 ρ3 A3 m3 T3 _ hcz' (a2.tr (F3.agS s2)) (B2.tr (F3.agB s2)) (F3.f12.trans (F2.f12.trans hF)) s3 X3 h33 ⟨ρr.trans hρ.1, ρa.trans hρ.2⟩ (fun k hk hk' ho' => by rw [hpl] at hk; rw [hj3 k]; exact hj k (by omega) hk' ho') (fun h6 k hk hk' => by
        rw [hpl] at hk
        obtain ⟨y1, y2⟩ := ho (by unfold szs at sz; omega) k (by omega) hk'
        exact ⟨only_gst (s := hre (n + 1 + pre.length) s) y1 y2 g3 (nsw k hk') (by show _ < s.m; omega), Nat.lt_of_lt_of_le y2 g3.len⟩) (Nat.le_trans hmm g3.2.1) (by unfold szs at sz; omega) (by omega) sz.2.2.1 (fun M' ρ' A' m' T' s' k1 k2 k3 k4 k5 k6 k7 k8 k9 k10 => hQ M' ρ' A' m' T' s' (by rw [eg]; exact k1) k2 k3 ((F2.tr F3).tr k4) (by
          show szs m1 T1 (q.1.1 + sO (czB r)) (Nk + (q.1.2.1 + sN (czB r))) (q.1.2.2.1 + sH (czB r)) (Kk + (q.1.2.2.2 + sK (czB r))) m' T'
          unfold szs at *; omega) ((((rm_cd (V := 0) X.2.1 f2 hz (Nat.le_refl _)).tr r3' hlz' (V'' := u + (D + 2 + Dk)) (Nat.zero_le _) (by omega)).tr k6 hlz' (Nat.le_refl _) (Nat.le_refl _))) k7 k8 (by
          obtain ⟨t, ht⟩ := k9
          obtain ⟨⟨t', ht', -⟩, -⟩ := g3
          exact ⟨t' ++ t, by rw [ht, ht', List.append_assoc]; rfl⟩) k10)
      rw [hpl] at this
      exact this
    refine iX39_code_170 M1 b 29 _ _ _ _ ⟨rr, cz.length, h3, ?_⟩
    rw [if_neg (show ¬ Int32.ofNat cz.length ≤ nI pre.length from nI_ge hkl (by omega))]
    have hu1 : m1 ≤ 600 → only s (n + 1 + pre.length) (jjk oth jp last pre.length) := fun z => (ho z _ (Nat.le_refl _) hkl).1
    by_cases hok : oth = some pre.length
    · rw [if_pos (show nI pre.length = oN oth by rw [hok]; rfl)]
      rw [show jjk oth jp last pre.length = last from if_pos hok] at hu1
      exact y_goV (k := last) X hla (by omega) (nsw _ hkl) hu1 (fun M2 X2 f2 => go M2 X2 f2)
    · have hne : ¬ nI pre.length = oN oth := by
        cases ho' : oth with
        | none => rw [show oN none = -1 from rfl, nn_m1 (by omega)]; exact fun z => z
        | some k' =>
          intro z
          have hk' := hoth k' ho'
          exact hok (by rw [ho', nI_inj (by omega) (by omega) z])
      rw [if_neg hne]
      rw [show jjk oth jp last pre.length = jp pre.length from if_neg hok] at hu1
      obtain ⟨y1, y2⟩ := hj _ (Nat.le_refl _) hkl hok
      refine ⟨nI_in hkl (by omega), ?_⟩
      rw [nI_clamp (by omega), y1]
      exact y_goV (k := jp pre.length) X y2 (by omega) (nsw _ hkl) hu1 (fun M2 X2 f2 => go M2 X2 f2)
theorem xs_Switch {De b lt lb ox ot D : Nat} {p1 : zP} {x : gEx} {cz : gCz} {es fs : List (Option zP)} (hb : B b) (hCb : C b) (hC' : ∀ a, C' a → C a) (hnb : ¬ C' b) (e0 : gr M b 0 = some p1) (e1 : gr M b 1 = some (lt, 11, 0)) (e2 : gr M b 2 = some (lb, 11, 0)) (h1 : xE S M De p1 x) (hx : gok x) (hcx : gcx x) (hox : gle ox x) (ht : xLr S M lt es) (htl : es.length = cz.length) (hfl : xLr S M lb fs) (hbl : fs.length = cz.length)
    (hts : ∀ k q, cz[k]? = some q → (q.2.1 = none ∧ es.getD k none = none) ∨ ∃ y p, q.2.1 = some y ∧ es.getD k none = some p ∧ xE S M De p y ∧ gok y ∧ gcx y ∧ gle ot y)
    (hbs : ∀ k q, cz[k]? = some q → (q.1.1 ≤ q.1.2.1 ∧ q.1.2.2.1 ≤ q.1.2.2.2) ∧ gokT q.2.2 ∧ ∃ pb, fs.getD k none = some (pb, 20, 0) ∧ xNd S B M (c.1, c.2 + 1) C' D q.1.1 q.1.2.1 q.1.2.2.1 q.1.2.2.2 (pb, 20, 0) q.2.2)
    (hun : ∀ (k k' : Nat) (q q' : (Nat × Nat × Nat × Nat) × (Option gEx × gSt)), cz[k]? = some q → cz[k']? = some q' → q.2.1 = none → q'.2.1 = none → k = k') (hnn : cz.length ≤ nTs cz + 1) (hlen : cz.length < 10000) (hDe : De ≤ 348) (hon : sO (czB cz) ≤ sN (czB cz) ∧ sH (czB cz) ≤ sK (czB cz)) :
    xNd S B M c C (D + 2) (ox + cz.length * (ot + 5) + 2 + sO (czB cz)) (ox + cz.length * (ot + 5) + 2 + sN (czB cz)) (cz.length + 1 + sH (czB cz)) (cz.length + 1 + sK (czB cz)) (b, 44, 0) (gSw x (czS cz)) := by
  intro e fc Γ ps Dk Nk Kk Ck CC hf hG hCC hk hcx'
  refine ⟨rfl, (show 20 ≤ 44 ∧ 44 < 45 by decide), _, rfl, fun E d Q M1 l bs ρ A u m T st ha hB hF hs h hd hu hsk hm hN hT hQ => ?_⟩
  obtain ⟨d, rfl⟩ : ∃ d', d = d' + 8 := ⟨d - 8, by omega⟩
  have hz := h.2.2.2.2.1
  have w0 : wfS st := h.1.2.1.2.2.2.2.2.2
  have hS := h1.1
  have ls : (czS cz).length = cz.length := List.length_map _
  have gx := hx e Γ (skk Γ) st
  have gl := gx.len
  have lo := hox e Γ (skk Γ) st
  have wx : wfS (x e Γ (skk Γ) st) := gx.wf w0 (fun _ z => z.elim)
  have hs0 : gSw x (czS cz) e Γ st = hre (x e Γ (skk Γ) st).m (gCsB e (swW (x e Γ (skk Γ) st).m :: Γ) (czS cz) ((x e Γ (skk Γ) st).m + 1) (em e Γ (skk Γ) 21 0 0 (some (gDef (czS cz) ((x e Γ (skk Γ) st).m + 1) (x e Γ (skk Γ) st).m)) (em e Γ (psh 1 (skk Γ)) 17 0 0 none (gCsT e Γ (czS cz) ((x e Γ (skk Γ) st).m + 1) (gMks (czS cz).length (mkm (x e Γ (skk Γ) st))))))) := rfl
  rw [hs0, ls] at hQ
  have mx : st.m ≤ (x e Γ (skk Γ) st).m := gx.2.1
  generalize hn : (x e Γ (skk Γ) st).m = n at *
  have nΓ : ∀ mm, n ≤ mm → ¬ mkP Γ mm := fun mm h1 h2 => by have := (h.2.2.2.2.2.2.1 mm h2).1; omega
  have sm : smC (swW n :: Γ) Γ := smC_lp (show (1 : Nat) ≠ 2 by decide) rfl
  have ex : x e (swW n :: Γ) = x e Γ := hcx e _ Γ sm
  refine sX39_code_0 M1 b _ ⟨29, rfl, ?_⟩
  refine y_enter (d := d) h.1.1 h.2.1 h.2.2.1 h.2.2.2.1.1 (by have := h.2.2.2.1.2; omega) hz (fun M2 ρ2 A2 a he => ?_)
  obtain ⟨F2, s2⟩ := en_stF (C := CC) he hs hz h.2.1
  have R2 := en_rm (C := CC) (l := l) (m := T) he h.2.1 (by omega)
  obtain ⟨j1, j2, L2⟩ := en_xLp (w := swW n) h he rfl (.inr rfl) (wOK_sw n) hf ha hF hs (by omega)
  have hz2 := L2.2.2.2.2.1
  have a2 : agS S M M2 := ha.tr (F2.agS hs)
  have B2 : agB B M M2 := hB.tr (F2.agB hs)
  have F12 := F2.f12.trans hF
  have ra := L2.a190.2.2.1
  show Z E YX39_code (d + 7 + 1) M2 [(0, vr (some (b, 44, 0))), (1, C29)] 5 [vr (some (a, 17, 0))] Q
  refine sX39_code_5 M2 b 29 _ ?_
  rw [(B2 b 0 hb (by decide)).2, e0]
  refine lp_ex (L := skk Γ) h1 hx a2 L2 (by rw [ex]; omega) (by omega) (fun M3 L3 f3 => ?_)
  rw [ex] at L3
  generalize hs1 : x e Γ (skk Γ) st = s1 at *
  have hmv : m ≤ m + (s1.c.length - st.c.length) ∧ m + (s1.c.length - st.c.length) ≤ m + ox := by omega
  generalize hmx : m + (s1.c.length - st.c.length) = mv at *
  obtain ⟨k1, k2, k3, k4⟩ := gMks_eq cz.length (mkm s1)
  have k2 : (gMks cz.length (mkm s1)).m = n + 1 + cz.length := by rw [k2]; show s1.m + 1 + _ = _; omega
  have L3 := lp_mk (st' := gMks cz.length (mkm s1)) L3 k1 (by rw [k2]; omega) k3 k4
  have noq : ∀ mm, n ≤ mm → noM (gMks cz.length (mkm s1)) mm := fun mm hmm q hq => by rw [k1] at hq; exact wx.no (by omega) q hq
  have atn : ∀ mm, n ≤ mm → (gMks cz.length (mkm s1)).at mm = none := fun mm hmm => by rw [k3]; exact wx.2 mm (by omega)
  generalize gMks cz.length (mkm s1) = s2' at *
  have F3 := f3.stF (B := B) (C := CC) (ρ := ρ2) hz2
  have s3 := sep_cd s2 f3 hz2
  have a3 := a2.tr (F3.agS s2)
  have B3 := B2.tr (F3.agB s2)
  have F123 := F3.f12.trans F12
  have hz3 := L3.2.2.2.2.1
  have hA3 := L3.2.2.2.1.2
  have R3 : rm CC u l M1 ρ A T M3 ρ2 A2 T (u + 1) := R2.tr (rm_cd L2.2.1 f3 hz2 (Nat.le_refl _)) h.lz (V' := 0) (Nat.le_refl _) (Nat.zero_le _)
  have cCC : CC b := hCC.1 b hCb
  have hla : ∀ x ∈ a :: l, ρ2 x ≠ 0 ∧ ρ2 x < 500000 := fun x hx' => by
    rcases List.mem_cons.mp hx' with z | z
    · rw [z, ra]; omega
    · obtain ⟨i', hi', hbi⟩ := xCh_mem Γ u l bs ps L3.2.2.2.2.2.1 x z
      obtain ⟨_, _, _, _, ⟨w1, -⟩, -⟩ := L3.2.1.2.2.2 i' x hbi
      omega
  have l3 : gi M3 lt 2 = nI cz.length := by rw [← htl]; exact (xLr_ag ht a3).2.1
  have b31 : gr M3 b 1 = some (lt, 11, 0) := (B3 b 1 hb (by decide)).2.trans e1
  have zl1 := h.lz
  -- from the tests on
  have rest : ∀ (M4 : zM) (ρ4 : Nat → Nat) (rr T4 : Nat), xLp M4 e (swW n) Γ (a :: l) none (u + 1) a l bs ps ρ4 A2 u mv s2' j1 j2 [] [] → sep S B M4 ρ4 → stF B CC M3 M4 ρ2 ρ4 → rm CC u l M3 ρ2 A2 T M4 ρ4 A2 T4 0 → gr M4 b 3 = some (rr, 100, cz.length) → ρ4 rr = 5 * (100000 + b) → (T ≤ T4 ∧ T4 ≤ T + cz.length + 1) → Z E YX39_code (d + 7 + 1) M4 [(0, vr (some (b, 44, 0))), (1, C29), (2, vr (some (a, 17, 0))), (3, vi (-1)), (4, vi 0)] 39 [] Q := by
    intro M4 ρ4 rr T4 L4 s4 F4 R4 h43 hr4 hT4
    have a4 := a3.tr (F4.agS s3)
    have B4 := B3.tr (F4.agB s3)
    have F124 := F4.f12.trans F123
    have hz4 := L4.2.2.2.2.1
    have ra4 := L4.a190.2.2.1
    have := swT (C := CC) (T := T4) (E := E) (Q := Q) (d := d + 4) hb cCC e1 ht htl hts hDe (by omega) hf (by omega) hr4 (by omega) cz [] M4 mv s2' none (fun _ => 0) rfl a4 B4 F124 s4 L4 h43 ⟨(fun k q hq => by cases hq), (fun k _ _ => noq _ (by omega)), noq n (Nat.le_refl _), (fun k _ => atn _ (by omega)), (by rw [k2]; omega), (fun k hk => by cases hk), (fun k q hq => by cases hq)⟩ nΓ (by omega) (fun M5 m5 oth jp L5 s5 F5 R5 h53 I5 sz5 dm5 => ?_)
    · exact this
    obtain ⟨I1, I2, I3, I4, I5', I6, I7⟩ := id I5
    have hz5 := L5.2.2.2.2.1
    have F45 := F5
    have a5 := a4.tr (F5.agS s4)
    have B5 := B4.tr (F5.agB s4)
    have F125 := F5.f12.trans F124
    have hdm : n ≤ dmk n oth ∧ dmk n oth < n + 1 + cz.length := by
      cases ho : oth with
      | none => show n ≤ n ∧ n < n + 1 + cz.length; omega
      | some k =>
        obtain ⟨q, y1, y2⟩ := I6 k ho
        have := (List.getElem?_eq_some_iff.mp y1).1
        show n ≤ n + 1 + k ∧ n + 1 + k < n + 1 + cz.length
        omega
    have dm5 : gDef (czS cz) (n + 1) n = dmk n oth := dm5.symm
    rw [dm5] at hQ
    have L5 : xLp M5 e (swW n) Γ (a :: l) none (u + 1) a l bs ps ρ4 A2 u m5 (gCsT e Γ (czS cz) (n + 1) s2') j1 j2 [] [] := L5
    have I1 : ∀ k q, cz[k]? = some q → (q.2.1 ≠ none → gi M5 rr k = nI (jp k) ∧ jp k < 100000000 ∧ (m5 ≤ 600 → only (gCsT e Γ (czS cz) (n + 1) s2') (n + 1 + k) (jp k) ∧ jp k < (gCsT e Γ (czS cz) (n + 1) s2').c.length)) ∧ (q.2.1 = none → noM (gCsT e Γ (czS cz) (n + 1) s2') (n + 1 + k)) := I1
    have I3 : noM (gCsT e Γ (czS cz) (n + 1) s2') n := I3
    have I4 : ∀ k, k ≤ cz.length → (gCsT e Γ (czS cz) (n + 1) s2').at (n + k) = none := I4
    have I5' : n + 1 + cz.length ≤ (gCsT e Γ (czS cz) (n + 1) s2').m := I5'
    generalize gCsT e Γ (czS cz) (n + 1) s2' = s5' at *
    have adm : s5'.at (dmk n oth) = none := by
      have := I4 (dmk n oth - n) (by omega)
      rw [show n + (dmk n oth - n) = dmk n oth by omega] at this
      exact this
    refine lp_pu (L := psh 1 (skk Γ)) (mk := none) (a' := 0) (b' := 0) L5 (by omega) (fun _ => ⟨rfl, rfl, (fun _ => rfl), (fun mm p z1 => by cases z1), rfl⟩) (fun mm z => by cases z) (fun mm z => by cases z) (fun M6 L6 f6 => ?_)
    rw [em_cx sm] at L6
    show Z E YX39_code (d + 7 + 1) M6 [(0, vr (some (b, 44, 0))), (1, C29), (2, vr (some (a, 17, 0))), (3, vi (oN oth))] 156 [vi (nI m5)] Q
    refine sX39_code_156 M6 b 29 _ _ _ ?_
    have l6 := em_len e Γ (psh 1 (skk Γ)) 17 0 0 none s5'
    have no6 : ∀ mm, noM s5' mm → noM (em e Γ (psh 1 (skk Γ)) 17 0 0 none s5') mm := fun mm z => noM_em z e Γ (psh 1 (skk Γ)) 17 0 0 (mk := none) (fun z => by cases z)
    have on6 : ∀ mm k, only s5' mm k → k < s5'.c.length → only (em e Γ (psh 1 (skk Γ)) 17 0 0 none s5') mm k := fun mm k z z' => only_em z z' e Γ (psh 1 (skk Γ)) 17 0 0 (mk := none) (fun z => by cases z)
    have ad6 : (em e Γ (psh 1 (skk Γ)) 17 0 0 none s5').at (dmk n oth) = none := adm
    have at6 : (em e Γ (psh 1 (skk Γ)) 17 0 0 none s5').at n = none := by have := I4 0 (Nat.zero_le _); exact this
    have m6 : n + 1 + cz.length ≤ (em e Γ (psh 1 (skk Γ)) 17 0 0 none s5').m := I5'
    generalize em e Γ (psh 1 (skk Γ)) 17 0 0 none s5' = s6 at *
    have c6 : m5 + 1 ≤ 600 → m5 + 1 = s6.c.length := L6.1.2.1.2.2.1
    refine lp_pu (L := skk Γ) (mk := some (dmk n oth)) (a' := 0) (b' := 0) L6 (by omega) (fun _ => ⟨rfl, rfl, (fun z => by cases z), (fun mm p z1 z2 => by cases z1; rw [ad6] at z2; cases z2), rfl⟩) (fun mm z => by cases z; omega) (fun mm z => by cases z; exact nΓ _ hdm.1) (fun M7 L7 f7 => ?_)
    rw [em_cx sm] at L7
    have l7 := em_len e Γ (skk Γ) 21 0 0 (some (dmk n oth)) s6
    -- where the cases' jumps are
    have on7 : m5 + 1 + 1 ≤ 600 → ∀ k, 0 ≤ k → k < cz.length → only (em e Γ (skk Γ) 21 0 0 (some (dmk n oth)) s6) (n + 1 + k) (jjk oth jp (m5 + 1) k) ∧ jjk oth jp (m5 + 1) k < (em e Γ (skk Γ) 21 0 0 (some (dmk n oth)) s6).c.length := fun h6 k _ hk => by
      obtain ⟨q, hq⟩ : ∃ q, cz[k]? = some q := ⟨_, List.getElem?_eq_getElem hk⟩
      obtain ⟨y1, y2⟩ := I1 k q hq
      unfold jjk
      by_cases ho : oth = some k
      · rw [if_pos ho, c6 (by omega)]
        obtain ⟨q', z1, z2⟩ := I6 k ho
        have eq' : q' = q := by rw [hq] at z1; exact (Option.some.inj z1).symm
        rw [eq'] at z2
        have := noM_only (no6 _ (y2 z2)) e Γ (skk Γ) 21 0 0
        rw [ho]
        exact ⟨this, by rw [ho] at l7; show _ < (em e Γ (skk Γ) 21 0 0 (some (n + 1 + k)) s6).c.length; have l7 : (em e Γ (skk Γ) 21 0 0 (some (n + 1 + k)) s6).c.length = s6.c.length + 1 := l7; omega⟩
      · rw [if_neg ho]
        have hq1 : q.2.1 ≠ none := fun z => by
          obtain ⟨k', hk'⟩ := I7 k q hq z
          obtain ⟨q', z1, z2⟩ := I6 k' hk'
          exact ho (by rw [hk', hun k k' q q' hq z1 z z2])
        obtain ⟨_, _, x3⟩ := y1 hq1
        obtain ⟨x4, x5⟩ := x3 (by omega)
        refine ⟨only_em (on6 _ _ x4 x5) (by omega) e Γ (skk Γ) 21 0 0 (fun z => ?_), by omega⟩
        have := Option.some.inj z
        cases ho' : oth with
        | none => rw [ho'] at this; have : n = n + 1 + k := this; omega
        | some k' => rw [ho'] at this; have : n + 1 + k' = n + 1 + k := this; exact ho (by rw [ho', show k' = k by omega])
    obtain ⟨o7, ho7⟩ : ∃ o7 : Option Nat, o7 = if oth = none then some (m5 + 1) else none := ⟨_, rfl⟩
    have mkn : m5 + 1 + 1 ≤ 600 → mkS (em e Γ (skk Γ) 21 0 0 (some (dmk n oth)) s6) n (fun k => o7 = some k) := fun h6 => by
      rw [ho7]
      cases ho : oth with
      | none =>
        rw [if_pos rfl, c6 (by omega)]
        exact (mkS_emm (P := fun _ => False) (no6 _ I3).mkS _ _ _ _ _ _).mono fun k z => by rw [z.resolve_left id]
      | some k' => exact (mkS_em (no6 _ I3).mkS _ _ _ _ _ _ (fun z => by have z : n + 1 + k' = n := Option.some.inj z; omega))
    have mkn1 : m5 + 1 + 1 ≤ 600 → ∀ k, o7 = some k → ∃ q, (em e Γ (skk Γ) 21 0 0 (some (dmk n oth)) s6).c[k]? = some q ∧ q.2.1 = some n := fun h6 k hk' => by
      rw [ho7] at hk'
      cases ho : oth with
      | none =>
        rw [ho, if_pos rfl, c6 (by omega)] at hk'
        have : s6.c.length = k := Option.some.inj hk'
        rw [← this]
        exact ⟨((21, 0, 0), some n, e.1, opn Γ, (skk Γ).length, skk Γ, trs Γ), at_app rfl, rfl⟩
      | some k' => rw [ho, if_neg (fun z => by cases z)] at hk'; cases hk'
    have at7 : (em e Γ (skk Γ) 21 0 0 (some (dmk n oth)) s6).at n = none := at6
    have m7 : n + 1 + cz.length ≤ (em e Γ (skk Γ) 21 0 0 (some (dmk n oth)) s6).m := m6
    generalize em e Γ (skk Γ) 21 0 0 (some (dmk n oth)) s6 = s7 at *
    have f57 := f6.tr f7
    have F7 := f57.stF (B := B) (C := CC) (ρ := ρ4) hz5
    have s7' := sep_cd s5 f57 hz5
    have a7 := a5.tr (F7.agS s5)
    have B7 := B5.tr (F7.agB s5)
    have hz7 := L7.2.2.2.2.1
    have bb5 := s5.1 b (.inr hb)
    have brr := L5.2.1.1 rr (by omega)
    have g57 : ∀ x k, 190 ≤ x → gi M7 x k = gi M5 x k ∧ gr M7 x k = gr M5 x k := fun x k hx' => by
      have := f57.2 x k (by unfold cdP; omega)
      exact ⟨this.1, this.2.2⟩
    have X7 := lp_xSt L7 (.inr rfl) (fun mm z => by have := wmk_sw z; rw [this]; exact ⟨by omega, at7⟩) ⟨fun mm z => by have := wmk_sw z; rw [this]; exact nΓ _ (Nat.le_refl _), fun z => absurd z (show ¬ ((1 : Nat) = 0 ∨ (1 : Nat) = 4) by decide)⟩
    have ckb : ¬ Ck b := hCC.2.2 b hCb
    show Z E YX39_code (d + 7 + 1) M7 [(0, vr (some (b, 44, 0))), (1, C29), (2, vr (some (a, 17, 0))), (3, vi (oN oth))] 165 [vi (nI (m5 + 1))] Q
    refine sX39_code_165 M7 b 29 _ _ _ ?_
    have jpk : ∀ k, 0 ≤ k → k < cz.length → oth ≠ some k → gi M7 rr k = nI (jp k) ∧ jp k < 100000000 := fun k _ hk ho => by
      obtain ⟨q, hq⟩ : ∃ q, cz[k]? = some q := ⟨_, List.getElem?_eq_getElem hk⟩
      have hq1 : q.2.1 ≠ none := fun z => by
        obtain ⟨k', hk'⟩ := I7 k q hq z
        obtain ⟨q', z1, z2⟩ := I6 k' hk'
        exact ho (by rw [hk', hun k k' q q' hq z1 z z2])
      obtain ⟨x1, x2, _⟩ := (I1 k q hq).1 hq1
      exact ⟨(g57 rr k brr.1).1.trans x1, x2⟩
    have bnd : m5 + 2 + sO (czB cz) < 10000000 := by omega
    have := swB (C' := C') (Ck := Ck) (c := c) (oth := oth) (jp := jp) (last := m5 + 1) (d := d + 4) (E := E) (Q := Q) (D := D) (Dk := Dk) (Nk := Nk) (Kk := Kk) (β := s7.c.length) (rr := rr) (n := n) (a := a) (u := u) hb hnb ckb (fun x z => hCC.2.2 x (hC' x z)) e2 hfl hbl hbs (by omega) hf hG hk hcx' (by omega) (by omega) (by omega) (by omega) (fun k hk' => by obtain ⟨q, z1, _⟩ := I6 k hk'; exact (List.getElem?_eq_some_iff.mp z1).1) nΓ cz [] M7 ρ4 A2 (m5 + 1 + 1) T4 s7 rfl a7 B7 (F7.f12.trans F125) s7' X7 ((g57 b 3 bb5.1).2.trans h53) ⟨hr4, ra4⟩ jpk on7 m7 (by omega) (by omega) (by omega) (fun M8 ρ8 A8 m8 T8 s8 hs8 X8 s8' F8 sz8 R8 h83 ra8 pf m8' => ?_)
    · exact this
    have hs8 : s8 = gCsB e (swW n :: Γ) (czS cz) (n + 1) s7 := hs8
    rw [← hs8] at hQ
    have F8' := F8.mono (C' := CC) (fun x z => z.elim (fun z => hCC.1 x (hC' x z)) (hCC.2.1 x))
    have R8' := R8.monC (C' := CC) (fun x z => z.elim (fun z => hCC.1 x (hC' x z)) (hCC.2.1 x))
    obtain ⟨j1', j2', q1, q2, L8, J⟩ := St_lp X8 (.inr rfl) ra8
    have hz8 := L8.2.2.2.2.1
    obtain ⟨h11, h12, h13, h14, h15, h16, h17, h18, ⟨d1, d2, d3, d4⟩, ⟨x1, x2⟩, h19⟩ := id L8
    have la8 := L8.a190
    obtain ⟨t8, ht8⟩ := pf
    have K : m8 ≤ 600 → mkS s8 n (fun k => k ∈ q1 ∨ o7 = some k) := fun z k q hq hm' => by
      by_cases hk' : k < s7.c.length
      · rw [ht8, List.getElem?_append_left hk'] at hq
        exact .inr (mkn (by unfold szs at sz8; omega) k q hq hm')
      · exact .inl ((J z).1.1 k q (by omega) hq hm')
    have K1 : m8 ≤ 600 → ∀ k, k ∈ q1 ∨ o7 = some k → ∃ q, s8.c[k]? = some q ∧ q.2.1 = some n := fun z k hk' => by
      rcases hk' with y | y
      · exact (J z).1.2 k y
      · obtain ⟨q, y1, y2⟩ := mkn1 (by unfold szs at sz8; omega) k y
        exact ⟨q, by rw [ht8, List.getElem?_append_left (List.getElem?_eq_some_iff.mp y1).1]; exact y1, y2⟩
    -- the end
    have tail : ∀ M9 : zM, fr (fun x _ => x = 31) M8 M9 → (∀ i, gi M9 31 i = if o7 = some i ∧ i < 600 then (nI m8).toInt16.toInt32 else gi M8 31 i) → Z E YX3_place (d + 7) M9 [(0, C29)] 0 [] (zafter E YX39_code (d + 7 + 1) [(1, C29), (2, vr (some (a, 17, 0)))] 241 3 [C29, vr (gr M9 a 1)] Q) := by
      intro M9 f9 v9
      have cw9 : cw M9 := f9.cw (by decide +kernel) h11.1
      refine sX3_place_0 M9 cw9 ?_
      show Z E YX39_code (d + 7 + 1) M9 [(1, C29), (2, vr (some (a, 17, 0)))] 244 [vi (gi M9 29 7), C29, vr (gr M9 a 1)] Q
      rw [show gi M9 29 7 = nI m8 from (f9.2 29 7 (by decide)).1.trans h11.2.1.1, show gr M9 a 1 = some (j1', 18, 0) from (f9.2 a 1 (by omega)).2.2.trans d3]
      refine sX39_code_244 M9 29 a _ 29 _ ⟨j1', rfl, ?_⟩
      have x1' : xJp M9 j1' q1 := xJp_fg x1 f9.fg (fun z => by have := x1.2.1.1; omega) (fun z => by have := x1.2.1.1; omega) (fun i z => by have := x1.2.2.1.1; omega)
      refine y_goAll (d := d + 6) cw9 x1' (fun M10 f10 v10 => ?_)
      show Z E YX39_code (d + 7 + 1) M10 [(1, C29), (2, vr (some (a, 17, 0)))] 247 [] Q
      refine sX39_code_247 M10 29 a ?_
      have cw10 : cw M10 := f10.cw (by decide +kernel) cw9
      refine sX3_leave_0 M10 _ cw10 ⟨a, rfl, ?_⟩
      have f810 := f9.tr f10
      have v810 : ∀ i, gi M10 31 i = if (i ∈ q1 ∨ o7 = some i) ∧ i < 600 then (nI m8).toInt16.toInt32 else gi M8 31 i := fun i => by
        rw [v10 i, v9 i]
        by_cases z6 : i < 600
        · by_cases y1 : i ∈ q1
          · rw [if_pos ⟨y1, z6⟩, if_pos ⟨.inl y1, z6⟩]
          · rw [if_neg (fun z => y1 z.1)]
            by_cases y2 : o7 = some i
            · rw [if_pos ⟨y2, z6⟩, if_pos ⟨.inr y2, z6⟩]
            · rw [if_neg (fun z => y2 z.1), if_neg (fun z => z.1.elim y1 y2)]
        · rw [if_neg (fun z => z6 z.2), if_neg (fun z => z6 z.2), if_neg (fun z => z6 z.2)]
      have H := fin_31 h11.2.1 (fun mm z => wmk_sw z) v810 K K1
      have wf : wfS (hre n s8) := wfS_hre h11.2.1.2.2.2.2.2.2 (by omega)
      have hatn : ∀ mm, mkP Γ mm → (hre n s8).at mm = s8.at mm := fun mm z => (show (if mm = n then _ else s8.at mm) = s8.at mm by rw [if_neg (fun y => nΓ n (Nat.le_refl _) (by rw [← y]; exact z))])
      have hL := xLp_31 (w' := swW n) (st' := hre n s8) L8 f810 rfl (Nat.le_refl _) rfl wf ⟨rfl, rfl, rfl⟩ hatn (fun h6 k q hq => ⟨(H h6 k q hq).1, fun mm p z1 z2 z3 => (H h6 k q hq).2 mm p z1 z2 (fun y => z3 (mkP_tl y))⟩)
      have hC := xCd_31 (P' := mkP Γ) (st' := hre n s8) h11.2.1 (fun x k _ hx' => (f810.2 x k hx').1) rfl rfl wf H
      have hS' := lv_xSt hL hC rfl (Nat.le_refl _) (fun _ _ => rfl)
      show Z E YX39_code (d + 7 + 1) (si (sr M10 29 9 (gr M10 a 4)) 29 11 (gi M10 a 0)) [] 252 [] Q
      refine sX39_code_252 _ ?_
      have fl : fr loP M8 (si (sr M10 29 9 (gr M10 a 4)) 29 11 (gi M10 a 0)) := (f810.mono fun x k z => .inl (.inl (by omega))).tr hS'.2
      refine hQ _ ρ8 A8 m8 T8 hS'.1 (sep_lo s8' fl hz8) (((((((F2.tr F3).tr F4).tr F5).tr F7).tr F8').tr (stL_of fl hz8))) (by unfold szs at *; omega) ?_
      exact (((((R3.tr R4 zl1 (V'' := u + (D + 2 + Dk)) (by omega) (Nat.zero_le _)).tr R5 zl1 (V'' := u + (D + 2 + Dk)) (Nat.le_refl _) (Nat.zero_le _)).tr (rm_cd (V := 0) L5.2.1 f57 hz5 (Nat.le_refl _)) zl1 (V'' := u + (D + 2 + Dk)) (Nat.le_refl _) (Nat.zero_le _)).tr R8' zl1 (V'' := u + (D + 2 + Dk)) (Nat.le_refl _) (Nat.le_refl _)).tr (rm_lo (V := 0) L8.2.1 fl hz8 (Nat.le_refl _)) zl1 (Nat.le_refl _) (Nat.zero_le _))
    refine iX39_code_170 M8 b 29 _ _ _ _ ⟨rr, cz.length, h83, ?_⟩
    rw [if_pos (show Int32.ofNat cz.length ≤ nI cz.length from nI_le (Nat.le_refl _) (by omega))]
    cases ho : oth with
    | none =>
      rw [if_pos (show oN none = -1 from rfl)]
      rw [ho, if_pos rfl] at ho7
      have := y_goal31 (E := E) (d := d + 6) (o := some (m5 + 1)) (m := m8) (Q := zafter E YX39_code (d + 7 + 1) [(1, C29), (2, vr (some (a, 17, 0)))] 232 3 [] Q) h11.1 h11.2.1.1 (fun k z => by cases z; omega) (fun M9 f9 v9 => by
        show Z E YX39_code (d + 7 + 1) M9 [(1, C29), (2, vr (some (a, 17, 0)))] 235 [] Q
        exact sX39_code_235 M9 29 _ ⟨a, rfl, tail M9 f9 (fun i => by rw [ho7]; exact v9 i)⟩)
      exact this
    | some k' =>
      have hk' : k' < cz.length := by obtain ⟨q, z1, _⟩ := I6 k' ho; exact (List.getElem?_eq_some_iff.mp z1).1
      rw [if_neg (show ¬ oN (some k') = -1 by rw [show oN (some k') = nI k' from rfl, nn_m1 (by omega)]; exact fun z => z)]
      rw [ho, if_neg (fun z => by cases z)] at ho7
      exact ⟨a, rfl, tail M8 fr.rf (fun i => by rw [ho7, if_neg (fun z => by cases z.1)])⟩
  show Z E YX39_code (d + 7 + 1) M3 [(0, vr (some (b, 44, 0))), (1, C29), (2, vr (some (a, 17, 0)))] 14 [] Q
  refine iX39_code_14 M3 b 29 _ ?_
  have s3b := s3.1 b (.inr hb)
  rcases s3.2.2 b hb with hn3 | ⟨rr, n', lt', y1, y2, y3, y4, y5, y6⟩
  · rw [hn3, if_pos rfl]
    refine ⟨lt, b31, ?_⟩
    rw [l3, nI_clamp (by omega)]
    refine ⟨⟨nI_nlt (b := 0) (Nat.zero_le _) (by omega), by omega⟩, by omega, ?_⟩
    obtain ⟨ρ4, o4, s4, F4, R4, r4, f4⟩ := sw_new (C := CC) (T := T) (l' := l) (u := u) L3.2.1 hA3 hz3 s3 hb hn3 b31 ht.1 l3 (by omega) cCC
    have v3 : gr (sr (zn M3 cz.length) b 3 (some (zsz M3, 100, cz.length))) b 3 = some (zsz M3, 100, cz.length) := by simp only [gr_sr]; simp
    have L4 := lp_fg L3 f4 (fun x k hx' z => by omega) (fun x k hr' h5 z => by rw [z.1] at hr'; exact hr' s3b.2.2.1) o4 hla hf (a3.tr (F4.agS s3)) F123
    exact rest _ ρ4 (zsz M3) (T + cz.length + 1) L4 s4 F4 R4 v3 r4 ⟨by omega, Nat.le_refl _⟩
  · rw [y1, if_neg (fun z => by cases z)]
    have elt : lt' = lt := by rw [b31] at y3; cases y3; rfl
    have en : n' = cz.length := by rw [elt, l3] at y5; exact (nI_inj (by omega) (by omega) y5).symm
    subst en
    exact rest M3 ρ2 rr T L3 s3 stF.rf rm.rf y1 y2 ⟨Nat.le_refl _, by omega⟩
end
