/-! THE COMPONENT's CODER: switch, its tests -/
/-- cases: sizes of the body, test, body -/
abbrev gCz : Type := List ((Nat × Nat × Nat × Nat) × (Option gEx × gSt))
def czS (cz : gCz) : List (Option gEx × gSt) := cz.map (·.2)
def czB (cz : gCz) : gBs := cz.map (fun q => (q.1, q.2.2))
def nTs : gCz → Nat
  | [] => 0
  | q :: r => (match q.2.1 with | none => 0 | some _ => 1) + nTs r
def dmk (n : Nat) : Option Nat → Nat
  | none => n
  | some k => n + 1 + k
theorem wOK_sw (n : Nat) : wOK (swW n) := ⟨(show (1 : Nat) ≤ 4 by decide), fun z => absurd z (show ¬ (1 : Nat) = 4 by decide), fun _ => rfl, (show (0 : Nat) < 100000 by decide), (show (0 : Nat) < 32768 by decide)⟩
/-- the state of a switch's tests: pre are done -/
def swI (M1 : zM) (cz pre : gCz) (n rr m : Nat) (s : gS) (oth : Option Nat) (jp : Nat → Nat) : Prop :=
  (∀ k q, pre[k]? = some q → (q.2.1 ≠ none → gi M1 rr k = nI (jp k) ∧ jp k < 100000000 ∧ (m ≤ 600 → only s (n + 1 + k) (jp k) ∧ jp k < s.c.length)) ∧ (q.2.1 = none → noM s (n + 1 + k))) ∧
  (∀ k, pre.length ≤ k → k < cz.length → noM s (n + 1 + k)) ∧ noM s n ∧ (∀ k, k ≤ cz.length → s.at (n + k) = none) ∧ n + 1 + cz.length ≤ s.m ∧ (∀ k, oth = some k → ∃ q, pre[k]? = some q ∧ q.2.1 = none) ∧ ∀ (k : Nat) (q : (Nat × Nat × Nat × Nat) × (Option gEx × gSt)), pre[k]? = some q → q.2.1 = none → ∃ k', oth = some k'
section
variable {S B C : Nat → Prop} {M : zM} {e : gN} {Γ : gK} {fc : Nat}
theorem swT {b lt De ot n a u rr : Nat} {l bs : List Nat} {ps : List (Option zP)} {ρ : Nat → Nat} {A : List Nat} {cz : gCz} {es : List (Option zP)} {j1 j2 T d : Nat} {E : zE} {Q : zO → zM → Prop} (hb : B b) (hCb : C b) (e1 : gr M b 1 = some (lt, 11, 0)) (ht : xLr S M lt es) (htl : es.length = cz.length)
    (hts : ∀ k q, cz[k]? = some q → (q.2.1 = none ∧ es.getD k none = none) ∨ ∃ y p, q.2.1 = some y ∧ es.getD k none = some p ∧ xE S M De p y ∧ gok y ∧ gcx y ∧ gle ot y) (hDe : De ≤ 348) (hlen : cz.length < 100000) (hf : fnS S M e fc) (hd : 350 ≤ d + 4) (hr : ρ rr = 5 * (100000 + b)) (hu9 : u < 80000) :
    ∀ (r pre : gCz) (M1 : zM) (m1 : Nat) (s : gS) (oth : Option Nat) (jp : Nat → Nat), cz = pre ++ r → agS S M M1 → agB B M M1 → gr M1 29 12 = some (fc, 10, 0) → sep S B M1 ρ → xLp M1 e (swW n) Γ (a :: l) none (u + 1) a l bs ps ρ A u m1 s j1 j2 [] [] → gr M1 b 3 = some (rr, 100, cz.length) → swI M1 cz pre n rr m1 s oth jp → (∀ mm, n ≤ mm → ¬ mkP Γ mm) → m1 + r.length * (ot + 5) < 10000000 →
    (∀ (M' : zM) (m' : Nat) (oth' : Option Nat) (jp' : Nat → Nat), xLp M' e (swW n) Γ (a :: l) none (u + 1) a l bs ps ρ A u m' (gCsT e Γ (czS r) (n + 1 + pre.length) s) j1 j2 [] [] → sep S B M' ρ → stF B C M1 M' ρ ρ → rm C u l M1 ρ A T M' ρ A T 0 → gr M' b 3 = some (rr, 100, cz.length) → swI M' cz cz n rr m' (gCsT e Γ (czS r) (n + 1 + pre.length) s) oth' jp' → (m1 + 5 * nTs r ≤ m' ∧ m' ≤ m1 + r.length * (ot + 5)) → dmk n oth' = gDef (czS r) (n + 1 + pre.length) (dmk n oth) → Z E YX3_put (d + 3) M' [(0, C29), (1, vi 17), (2, vi 0), (3, vi 0)] 0 [] (zafter E YX39_code (d + 3 + 1) [(0, vr (some (b, 44, 0))), (1, C29), (2, vr (some (a, 17, 0))), (3, vi (oN oth'))] 153 3 [] Q)) →
    Z E YX39_code (d + 3 + 1) M1 [(0, vr (some (b, 44, 0))), (1, C29), (2, vr (some (a, 17, 0))), (3, vi (oN oth)), (4, vi (nI pre.length))] 39 [] Q := by
  intro r
  induction r with
  | nil =>
    intro pre M1 m1 s oth jp hcz ha hB hF hs L h3 I nΓ hm hQ
    rw [List.append_nil] at hcz
    subst hcz
    refine sX39_code_39 M1 b 29 _ _ _ ⟨rr, cz.length, h3, ?_⟩
    rw [if_pos (show Int32.ofNat cz.length ≤ nI cz.length from nI_le (Nat.le_refl _) (by omega))]
    exact hQ M1 m1 oth jp L hs stF.rf rm.rf h3 I ⟨by show m1 + 5 * 0 ≤ m1; omega, by omega⟩ rfl
  | cons q r ih =>
    intro pre M1 m1 s oth jp hcz ha hB hF hs L h3 I nΓ hm hQ
    have hat := at_app hcz
    have hkl := (List.getElem?_eq_some_iff.mp hat).1
    have hcz' : cz = (pre ++ [q]) ++ r := by rw [hcz]; simp
    have hpl : (pre ++ [q]).length = pre.length + 1 := by rw [List.length_append]; rfl
    have hrl : (q :: r).length = r.length + 1 := rfl
    rw [hrl, Nat.add_mul] at hm
    have b1 : gr M1 b 1 = some (lt, 11, 0) := (hB b 1 hb (by decide)).2.trans e1
    obtain ⟨I1, I2, I3, I4, I5, I6, I7⟩ := id I
    have hz := L.2.2.2.2.1
    have la := L.a190
    have hAl := L.2.2.2.1.2
    refine sX39_code_39 M1 b 29 _ _ _ ⟨rr, cz.length, h3, ?_⟩
    rw [if_neg (show ¬ Int32.ofNat cz.length ≤ nI pre.length from nI_ge hkl (by omega))]
    refine ⟨lt, b1, ?_⟩
    refine l_getR (d := d) (xLr_ag ht ha) (by omega) ?_
    rcases hts _ q hat with ⟨t1, t2⟩ | ⟨y, p, t1, t2, h1, hy, hcy, hoy⟩
    · -- the default
      rw [t2]
      show Z E YX39_code (d + 3 + 1) M1 [(0, vr (some (b, 44, 0))), (1, C29), (2, vr (some (a, 17, 0))), (3, vi (oN oth)), (4, vi (nI pre.length))] 58 [vr none] Q
      refine iX39_code_58 M1 b 29 _ _ _ _ ?_
      rw [if_pos rfl, nI_l1]
      have eg : gCsT e Γ (czS (q :: r)) (n + 1 + pre.length) s = gCsT e Γ (czS r) (n + 1 + (pre ++ [q]).length) s := by
        obtain ⟨q1, q2, q3⟩ := q
        have t1 : q2 = none := t1
        subst t1
        rw [hpl]; rfl
      have ed : gDef (czS (q :: r)) (n + 1 + pre.length) (dmk n oth) = gDef (czS r) (n + 1 + (pre ++ [q]).length) (dmk n (some pre.length)) := by
        obtain ⟨q1, q2, q3⟩ := q
        have t1 : q2 = none := t1
        subst t1
        rw [hpl]; rfl
      have en : nTs (q :: r) = nTs r := by
        obtain ⟨q1, q2, q3⟩ := q
        have t1 : q2 = none := t1
        subst t1
        exact Nat.zero_add _
      have := ih (pre ++ [q]) M1 m1 s (some pre.length) jp hcz' ha hB hF hs L h3 ⟨fun k q' hq' => ?_, fun k hk => I2 k (by omega), I3, I4, I5, fun k hk => ?_, fun _ _ _ _ => ⟨_, rfl⟩⟩ nΓ (by omega) (fun M' m' oth' jp' g1 g2 g3 g4 g5 g6 g7 g8 => hQ M' m' oth' jp' (by rw [eg]; exact g1) g2 g3 g4 g5 (by rw [eg]; exact g6) (by rw [en, hrl, Nat.add_mul]; omega) (by rw [ed]; exact g8))
      · rw [hpl] at this
        exact this
      · rcases get_app hq' with ⟨_, z⟩ | ⟨z, rfl⟩
        · exact I1 k q' z
        · exact ⟨fun y => absurd t1 y, fun _ => I2 k (by omega) (by omega)⟩
      · have : pre.length = k := Option.some.inj hk
        rw [← this]
        exact ⟨q, at_app rfl, t1⟩
    · -- a test
      rw [t2]
      show Z E YX39_code (d + 3 + 1) M1 [(0, vr (some (b, 44, 0))), (1, C29), (2, vr (some (a, 17, 0))), (3, vi (oN oth)), (4, vi (nI pre.length))] 58 [vr (some p)] Q
      refine iX39_code_58 M1 b 29 _ _ _ _ ?_
      rw [if_neg (fun z => by cases z)]
      have sm : smC (swW n :: Γ) Γ := smC_lp (show (1 : Nat) ≠ 2 by decide) rfl
      have ey : y e (swW n :: Γ) = y e Γ := hcy e _ Γ sm
      have hS := h1.1
      have w0 : wfS s := L.1.2.1.2.2.2.2.2.2
      have L0 := lp_mk (st' := mkm s) L rfl (Nat.le_succ _) rfl rfl
      have eg : gCsT e Γ (czS (q :: r)) (n + 1 + pre.length) s = gCsT e Γ (czS r) (n + 1 + (pre ++ [q]).length) (hre s.m (em e Γ (skk Γ) 21 0 0 (some (n + 1 + pre.length)) (em e Γ (psh 1 (skk Γ)) 17 0 0 none (em e Γ (psh 2 (skk Γ)) 22 0 0 (some s.m) (em e Γ (psh 3 (skk Γ)) 14 13 0 none (y e Γ (psh 2 (skk Γ)) (em e Γ (psh 1 (skk Γ)) 18 0 0 none (mkm s)))))))) := by
        obtain ⟨q1, q2, q3⟩ := q
        have t1 : q2 = some y := t1
        subst t1
        rw [hpl]; rfl
      have ed : gDef (czS (q :: r)) (n + 1 + pre.length) (dmk n oth) = gDef (czS r) (n + 1 + (pre ++ [q]).length) (dmk n oth) := by
        obtain ⟨q1, q2, q3⟩ := q
        have t1 : q2 = some y := t1
        subst t1
        rw [hpl]; rfl
      have en : nTs (q :: r) = 1 + nTs r := by
        obtain ⟨q1, q2, q3⟩ := q
        have t1 : q2 = some y := t1
        subst t1
        rfl
      rw [eg, ed, en] at hQ
      -- the spec's states
      have g1 : gst (fun z => z = s.m) s (em e Γ (psh 1 (skk Γ)) 18 0 0 none (mkm s)) := (gst_mkm s).tr (gst_em ..)
      have g2 := hy e Γ (psh 2 (skk Γ)) (em e Γ (psh 1 (skk Γ)) 18 0 0 none (mkm s))
      have g2' : gst (fun z => z = s.m) s (y e Γ (psh 2 (skk Γ)) (em e Γ (psh 1 (skk Γ)) 18 0 0 none (mkm s))) := g1.tr (g2.mono fun _ z => z.elim)
      have gl2 := g2.len
      have l1 := em_len e Γ (psh 1 (skk Γ)) 18 0 0 none (mkm s)
      have lm : (mkm s).c.length = s.c.length := rfl
      have lo := hoy e Γ (psh 2 (skk Γ)) (em e Γ (psh 1 (skk Γ)) 18 0 0 none (mkm s))
      have no0 : noM (y e Γ (psh 2 (skk Γ)) (em e Γ (psh 1 (skk Γ)) 18 0 0 none (mkm s))) s.m := noM_gst (noM_em (s := mkm s) (fun q hq => w0.no (Nat.le_refl _) q hq) e Γ (psh 1 (skk Γ)) 18 0 0 (mk := none) (fun z => by cases z)) g2 (fun z => z) (show s.m < s.m + 1 by omega)
      have at0 : (y e Γ (psh 2 (skk Γ)) (em e Γ (psh 1 (skk Γ)) 18 0 0 none (mkm s))).at s.m = none := (g2.2.2.1 _ (show s.m < s.m + 1 by omega)).trans (w0.2 _ (Nat.le_refl _))
      have m2 : s.m + 1 ≤ (y e Γ (psh 2 (skk Γ)) (em e Γ (psh 1 (skk Γ)) 18 0 0 none (mkm s))).m := g2.2.1
      have nk2 : noM (y e Γ (psh 2 (skk Γ)) (em e Γ (psh 1 (skk Γ)) 18 0 0 none (mkm s))) (n + 1 + pre.length) := noM_gst (I2 _ (Nat.le_refl _) hkl) g2' (fun z => by omega) (by omega)
      have at2 : (y e Γ (psh 2 (skk Γ)) (em e Γ (psh 1 (skk Γ)) 18 0 0 none (mkm s))).at (n + 1 + pre.length) = none := (g2'.2.2.1 _ (by omega)).trans (by have := I4 (1 + pre.length) (by omega); rw [show n + (1 + pre.length) = n + 1 + pre.length by omega] at this; exact this)
      refine lp_pu (L := psh 1 (skk Γ)) (mk := none) (a' := 0) (b' := 0) L0 (by omega) (fun _ => ⟨rfl, rfl, (fun _ => rfl), (fun mm p z1 => by cases z1), rfl⟩) (fun mm z => by cases z) (fun mm z => by cases z) (fun M2 L2 f2 => ?_)
      rw [em_cx sm] at L2
      show Z E YX39_code (d + 3 + 1) M2 [(0, vr (some (b, 44, 0))), (1, C29), (2, vr (some (a, 17, 0))), (3, vi (oN oth)), (4, vi (nI pre.length))] 75 [vi (nI m1)] Q
      have F2 := f2.stF (B := B) (C := C) (ρ := ρ) hz
      have a2 := ha.tr (F2.agS hs)
      have B2 := hB.tr (F2.agB hs)
      refine sX39_code_75 M2 b 29 _ _ _ _ ⟨lt, (B2 b 1 hb (by decide)).2.trans e1, ?_⟩
      refine l_getR (d := d) (xLr_ag ht a2) (by omega) ?_
      rw [t2]
      show Z E YX39_code (d + 3 + 1) M2 [(0, vr (some (b, 44, 0))), (1, C29), (2, vr (some (a, 17, 0))), (3, vi (oN oth)), (4, vi (nI pre.length))] 85 [vr (some p)] Q
      refine sX39_code_85 M2 b 29 _ _ _ _ ?_
      obtain ⟨pb, pt, hbt, Y, hY, hZ⟩ : ∃ b_ t_, some p = some (b_, t_, 0) ∧ ∃ Y, vt_code t_ = some Y ∧ Z E Y (d + 3) M2 (zargs 0 [vr (some (b_, t_, 0)), C29]) 0 [] (zafter E YX39_code (d + 3 + 1) [(0, vr (some (b, 44, 0))), (1, C29), (2, vr (some (a, 17, 0))), (3, vi (oN oth)), (4, vi (nI pre.length))] 89 3 [] Q) := by
        refine lp_ex (L := psh 2 (skk Γ)) h1 hy a2 L2 (by rw [ey]; omega) (by omega) (fun M3 L3 f3 => ?_)
        rw [ey] at L3
        generalize hs2 : y e Γ (psh 2 (skk Γ)) (em e Γ (psh 1 (skk Γ)) 18 0 0 none (mkm s)) = s2 at *
        have hmv : m1 + 1 ≤ m1 + 1 + (s2.c.length - (em e Γ (psh 1 (skk Γ)) 18 0 0 none (mkm s)).c.length) ∧ m1 + 1 + (s2.c.length - (em e Γ (psh 1 (skk Γ)) 18 0 0 none (mkm s)).c.length) ≤ m1 + 1 + ot := by omega
        generalize hmx : m1 + 1 + (s2.c.length - (em e Γ (psh 1 (skk Γ)) 18 0 0 none (mkm s)).c.length) = mv at *
        show Z E YX39_code (d + 3 + 1) M3 [(0, vr (some (b, 44, 0))), (1, C29), (2, vr (some (a, 17, 0))), (3, vi (oN oth)), (4, vi (nI pre.length))] 92 [] Q
        refine sX39_code_92 M3 b 29 _ _ _ ?_
        refine lp_pu (L := psh 3 (skk Γ)) (mk := none) (a' := 13) (b' := 0) L3 (by omega) (fun _ => ⟨rfl, rfl, (fun _ => rfl), (fun mm p z1 => by cases z1), rfl⟩) (fun mm z => by cases z) (fun mm z => by cases z) (fun M4 L4 f4 => ?_)
        rw [em_cx sm] at L4
        have no3 := noM_em no0 e Γ (psh 3 (skk Γ)) 14 13 0 (mk := none) (fun z => by cases z)
        have nk3 := noM_em nk2 e Γ (psh 3 (skk Γ)) 14 13 0 (mk := none) (fun z => by cases z)
        have at3 : (em e Γ (psh 3 (skk Γ)) 14 13 0 none s2).at s.m = none := at0
        have at3' : (em e Γ (psh 3 (skk Γ)) 14 13 0 none s2).at (n + 1 + pre.length) = none := at2
        have m3 : s.m + 1 ≤ (em e Γ (psh 3 (skk Γ)) 14 13 0 none s2).m := m2
        have g3 : gst (fun z => z = s.m) s (em e Γ (psh 3 (skk Γ)) 14 13 0 none s2) := g2'.tr (gst_em ..)
        generalize em e Γ (psh 3 (skk Γ)) 14 13 0 none s2 = s3 at *
        show Z E YX39_code (d + 3 + 1) M4 [(0, vr (some (b, 44, 0))), (1, C29), (2, vr (some (a, 17, 0))), (3, vi (oN oth)), (4, vi (nI pre.length))] 101 [vi (nI mv)] Q
        refine sX39_code_101 M4 b 29 _ _ _ _ ?_
        refine lp_pu (L := psh 2 (skk Γ)) (mk := some s.m) (a' := 0) (b' := 0) L4 (by omega) (fun _ => ⟨rfl, rfl, (fun z => by cases z), (fun mm p z1 z2 => by cases z1; rw [at3] at z2; cases z2), rfl⟩) (fun mm z => by cases z; omega) (fun mm z => by cases z; exact nΓ _ (by omega)) (fun M5 L5 f5 => ?_)
        rw [em_cx sm] at L5
        have c4 : mv + 1 ≤ 600 → mv + 1 = s3.c.length := L4.1.2.1.2.2.1
        have u4 := noM_only no3 e Γ (psh 2 (skk Γ)) 22 0 0
        have nk4 := noM_em nk3 e Γ (psh 2 (skk Γ)) 22 0 0 (mk := some s.m) (fun z => by have := Option.some.inj z; omega)
        have l4 := em_len e Γ (psh 2 (skk Γ)) 22 0 0 (some s.m) s3
        have at4 : (em e Γ (psh 2 (skk Γ)) 22 0 0 (some s.m) s3).at (n + 1 + pre.length) = none := at3'
        have m4 : s.m + 1 ≤ (em e Γ (psh 2 (skk Γ)) 22 0 0 (some s.m) s3).m := m3
        have g4 : gst (fun z => z = s.m) s (em e Γ (psh 2 (skk Γ)) 22 0 0 (some s.m) s3) := g3.tr (gst_emm _ _ _ _ _ _ _ rfl)
        generalize em e Γ (psh 2 (skk Γ)) 22 0 0 (some s.m) s3 = s4 at *
        show Z E YX39_code (d + 3 + 1) M5 [(0, vr (some (b, 44, 0))), (1, C29), (2, vr (some (a, 17, 0))), (3, vi (oN oth)), (4, vi (nI pre.length))] 110 [vi (nI (mv + 1))] Q
        refine sX39_code_110 M5 b 29 _ _ _ _ ?_
        refine lp_pu (L := psh 1 (skk Γ)) (mk := none) (a' := 0) (b' := 0) L5 (by omega) (fun _ => ⟨rfl, rfl, (fun _ => rfl), (fun mm p z1 => by cases z1), rfl⟩) (fun mm z => by cases z) (fun mm z => by cases z) (fun M6 L6 f6 => ?_)
        rw [em_cx sm] at L6
        have u5 := only_em u4 (by omega) e Γ (psh 1 (skk Γ)) 17 0 0 (mk := none) (fun z => by cases z)
        have nk5 := noM_em nk4 e Γ (psh 1 (skk Γ)) 17 0 0 (mk := none) (fun z => by cases z)
        have l5 := em_len e Γ (psh 1 (skk Γ)) 17 0 0 none s4
        have at5 : (em e Γ (psh 1 (skk Γ)) 17 0 0 none s4).at (n + 1 + pre.length) = none := at4
        have m5 : s.m + 1 ≤ (em e Γ (psh 1 (skk Γ)) 17 0 0 none s4).m := m4
        have g5 : gst (fun z => z = s.m) s (em e Γ (psh 1 (skk Γ)) 17 0 0 none s4) := g4.tr (gst_em ..)
        generalize em e Γ (psh 1 (skk Γ)) 17 0 0 none s4 = s5 at *
        show Z E YX39_code (d + 3 + 1) M6 [(0, vr (some (b, 44, 0))), (1, C29), (2, vr (some (a, 17, 0))), (3, vi (oN oth)), (4, vi (nI pre.length)), (5, vi (nI (mv + 1)))] 120 [vi (nI (mv + 1 + 1))] Q
        refine sX39_code_120 M6 b 29 _ _ _ _ _ ?_
        refine lp_pu (L := skk Γ) (mk := some (n + 1 + pre.length)) (a' := 0) (b' := 0) L6 (by omega) (fun _ => ⟨rfl, rfl, (fun z => by cases z), (fun mm p z1 z2 => by cases z1; rw [at5] at z2; cases z2), rfl⟩) (fun mm z => by cases z; omega) (fun mm z => by cases z; exact nΓ _ (by omega)) (fun M7 L7 f7 => ?_)
        rw [em_cx sm] at L7
        have c6 : mv + 1 + 1 + 1 ≤ 600 → mv + 1 + 1 + 1 = s5.c.length := L6.1.2.1.2.2.1
        have u6 := only_em u5 (by omega) e Γ (skk Γ) 21 0 0 (mk := some (n + 1 + pre.length)) (fun z => by have := Option.some.inj z; omega)
        have uk6 := noM_only nk5 e Γ (skk Γ) 21 0 0
        have l6 := em_len e Γ (skk Γ) 21 0 0 (some (n + 1 + pre.length)) s5
        have m6 : s.m + 1 ≤ (em e Γ (skk Γ) 21 0 0 (some (n + 1 + pre.length)) s5).m := m5
        have g6 : gst (fun z => z = s.m ∨ z = n + 1 + pre.length) s (em e Γ (skk Γ) 21 0 0 (some (n + 1 + pre.length)) s5) := (g5.mono fun _ z => .inl z).tr (gst_emm _ _ _ _ _ _ _ (.inr rfl))
        generalize em e Γ (skk Γ) 21 0 0 (some (n + 1 + pre.length)) s5 = s6 at *
        have f17 := ((((f2.tr f3).tr f4).tr f5).tr f6).tr f7
        have F7 := f17.stF (B := B) (C := C) (ρ := ρ) hz
        have sp7 := sep_cd hs f17 hz
        have bb := hs.1 b (.inr hb)
        have g17 : ∀ x k, 190 ≤ x → gi M7 x k = gi M1 x k ∧ gr M7 x k = gr M1 x k := fun x k hx => by
          have := f17.2 x k (by unfold cdP; omega)
          exact ⟨this.1, this.2.2⟩
        have f16 := (((f2.tr f3).tr f4).tr f5).tr f6
        have h36 : gr M6 b 3 = some (rr, 100, cz.length) := (f16.2 b 3 (by unfold cdP; omega)).2.2.trans h3
        have hz7 := L7.2.2.2.2.1
        show Z E YX39_code (d + 3 + 1) M7 [(0, vr (some (b, 44, 0))), (1, C29), (2, vr (some (a, 17, 0))), (3, vi (oN oth)), (4, vi (nI pre.length)), (5, vi (nI (mv + 1)))] 135 [vi (nI (mv + 1 + 1 + 1)), vi (nI pre.length), vr (gr M6 b 3)] Q
        rw [h36]
        have brr := L.2.1.1 rr (by omega)
        refine sX39_code_135 M7 b 29 _ _ _ _ _ _ _ ⟨rr, cz.length, rfl, by omega, nI_in hkl (by omega), ?_⟩
        rw [nI_clamp (by omega)]
        obtain ⟨o8, s8, F8, R8, f8⟩ := sw_set (C := C) (T := T) (l' := l) (u := u) (k := pre.length) (x := nI (mv + 1 + 1 + 1)) L7.2.1 hAl hz7 sp7 hr hCb (by omega)
        have v8 : gi (si M7 rr pre.length (nI (mv + 1 + 1 + 1))) rr pre.length = nI (mv + 1 + 1 + 1) := gi_self _ _ _ _
        have v8' : ∀ k, k ≠ pre.length → gi (si M7 rr pre.length (nI (mv + 1 + 1 + 1))) rr k = gi M7 rr k := fun k hk => gi_idx hk
        have rb : gr (si M7 rr pre.length (nI (mv + 1 + 1 + 1))) b 3 = gr M7 b 3 := rfl
        have hla : ∀ x ∈ a :: l, ρ x ≠ 0 ∧ ρ x < 500000 := fun x hx => by
          rcases List.mem_cons.mp hx with z | z
          · rw [z, la.2.2.1]; omega
          · obtain ⟨i', hi', hbi⟩ := xCh_mem Γ u l bs ps L.2.2.2.2.2.1 x z
            obtain ⟨_, _, _, _, ⟨w1, -⟩, -⟩ := L.2.1.2.2.2 i' x hbi
            omega
        have ag8 := (ha.tr (F7.agS hs)).tr (F8.agS sp7)
        have L8 := lp_fg L7 f8.fg (fun x k hx z => by omega) (fun x k hr' h5 z => by rw [z] at h5; omega) o8 hla hf ag8 (F7.f12.trans hF)
        have b8 : gr (si M7 rr pre.length (nI (mv + 1 + 1 + 1))) b 3 = some (rr, 100, cz.length) := rb.trans ((g17 b 3 bb.1).2.trans h3)
        generalize si M7 rr pre.length (nI (mv + 1 + 1 + 1)) = M8 at *
        have hz8 := L8.2.2.2.2.1
        refine lp_go (k := mv + 1) (k0 := s3.c.length) (mm := s.m) L8 (fun z => c4 (by omega)) (by omega) (by omega) (nΓ _ (by omega)) (fun _ => u6) (fun M9 L9 f9 => ?_)
        have F9 := f9.stF (B := B) (C := C) (ρ := ρ) hz8
        have g79 : ∀ k, gi M9 rr k = gi M8 rr k := fun k => (f9.2 rr k (by unfold cdP; omega)).1
        have g7' : gst (fun z => z = n + 1 + pre.length) s (hre s.m s6) := (gst_hre g6 (Nat.le_refl _) (by omega)).fin fun z hz' => hz'.elim (fun y => .inr ⟨by omega, by show z < s6.m; omega⟩) .inl
        have uk7 : only (hre s.m s6) (n + 1 + pre.length) s5.c.length := uk6
        have lk7 : s5.c.length < (hre s.m s6).c.length := by show _ < s6.c.length; omega
        show Z E YX39_code (d + 3 + 1) M9 [(0, vr (some (b, 44, 0))), (1, C29), (2, vr (some (a, 17, 0))), (3, vi (oN oth)), (4, vi (nI pre.length))] 142 [] Q
        refine sX39_code_142 M9 b 29 _ _ _ ?_
        rw [nI_l1]
        have F19 := (F7.tr F8).tr F9
        have hlz : ∀ x ∈ l, x < zsz M1 := fun x hx => (L.2.1.1 x (hla x (List.mem_cons_of_mem _ hx)).1).2
        have R19 : rm C u l M1 ρ A T M9 ρ A T 0 := ((rm_cd L.2.1 f17 hz (Nat.le_refl _)).tr R8 hlz (Nat.le_refl _) (Nat.le_refl _)).tr (rm_cd L8.2.1 f9 hz8 (Nat.le_refl _)) hlz (Nat.le_refl _) (Nat.le_refl _)
        have := ih (pre ++ [q]) M9 (mv + 1 + 1 + 1 + 1) (hre s.m s6) oth (fun k => if k = pre.length then mv + 1 + 1 + 1 else jp k) hcz' (ha.tr (F19.agS hs)) (hB.tr (F19.agB hs)) (F19.f12.trans hF) (sep_cd s8 f9 hz8) L9 ((f9.2 b 3 (by unfold cdP; omega)).2.2.trans b8) ⟨fun k q' hq' => ?_, fun k hk hk' => ?_, ?_, fun k hk => ?_, ?_, fun k hk => ?_, fun k q' hq' hn' => ?_⟩ nΓ (by omega) (fun M' m' oth' jp' g1 g2 g3 g4 g5 g6 g7 g8 => hQ M' m' oth' jp' g1 g2 (F19.tr g3) (R19.tr g4 hlz (Nat.le_refl _) (Nat.le_refl _)) g5 g6 (by rw [hrl, Nat.add_mul]; omega) g8)
        · rw [hpl] at this
          exact this
        · rcases get_app hq' with ⟨hk, z⟩ | ⟨hk, rfl⟩
          · have hkp := (List.getElem?_eq_some_iff.mp z).1
            obtain ⟨y1, y2⟩ := I1 k q' z
            refine ⟨fun hq => ?_, fun hq => noM_gst (y2 hq) g7' (fun z => by omega) (by omega)⟩
            obtain ⟨x1, x2, x3⟩ := y1 hq
            dsimp only
            rw [if_neg (by omega)]
            refine ⟨by rw [g79, v8' k (by omega), (g17 rr k brr.1).1]; exact x1, x2, fun h6 => ?_⟩
            obtain ⟨x4, x5⟩ := x3 (by omega)
            exact ⟨only_gst x4 x5 g7' (fun z => by omega) (by omega), Nat.lt_of_lt_of_le x5 g7'.len⟩
          · refine ⟨fun _ => ?_, fun y' => by rw [t1] at y'; cases y'⟩
            dsimp only
            rw [if_pos hk, hk]
            exact ⟨by rw [g79, v8], by omega, fun h6 => by rw [c6 (by omega)]; exact ⟨uk7, lk7⟩⟩
        · rw [hpl] at hk
          exact noM_gst (I2 k (by omega) hk') g7' (fun z => by omega) (by omega)
        · exact noM_gst I3 g7' (fun z => by omega) (by omega)
        · rw [g7'.2.2.1 (n + k) (by omega)]
          exact I4 k hk
        · exact Nat.le_trans I5 g7'.2.1
        · obtain ⟨q', y1, y2⟩ := I6 k hk
          exact ⟨q', by rw [List.getElem?_append_left (List.getElem?_eq_some_iff.mp y1).1]; exact y1, y2⟩
        · rcases get_app hq' with ⟨_, z⟩ | ⟨_, rfl⟩
          · exact I7 k q' z hn'
          · rw [t1] at hn'; cases hn'
      have ep : p = (pb, pt, 0) := Option.some.inj hbt
      have h20 := h1.2.2.1
      rw [ep] at h20
      exact ⟨pb, pt, hbt, h20, Y, hY, hZ⟩
end
