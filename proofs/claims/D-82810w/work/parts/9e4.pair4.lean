/-! A STEP of both machines: CALL, NEW -/
section
variable {A A' : mA} {G : mG} {W : mW} {par : Nat → Nat} {C : mI} {nm : Nat} {r : mF} {F : List mF} {L : List Bool} {t : List (Nat × Nat)} {g : Nat} {P : List Nat} {Q : zO → zM → Prop} {M T : zM}
theorem st_args : ∀ {n : Nat} {st : List mC} {L2 : List Bool}, stOK A st (List.replicate n false ++ L2) → ∃ as rest : List mC, st = as.reverse ++ rest ∧ as.length = n ∧ (∀ c ∈ as, mval A c.1 c.2.1) ∧ stOK A rest L2
  | 0, st, L2, h => ⟨[], st, rfl, rfl, (fun c hc => by cases hc), h⟩
  | n + 1, st, L2, h => by
    rw [List.replicate_succ, List.cons_append] at h
    obtain ⟨c, st', e, hv, h'⟩ := st_f h
    obtain ⟨as, rest, e2, hl, ha, hr⟩ := st_args (n := n) h'
    refine ⟨as ++ [c], rest, ?_, by rw [List.length_append, hl]; rfl, fun z hz => ?_, hr⟩
    · rw [e, e2, List.reverse_append]; rfl
    · rcases List.mem_append.mp hz with q | q
      · exact ha z q
      · rw [List.mem_singleton] at q; rw [q]; exact hv
theorem oE_inv {p : mE} {n : Nat} {L' : List Bool} (hP : P.length ≤ 100 ∧ ∀ x ∈ P, x < (aL A).length) (h : frsOK A G W (r :: F)) (hw : W r.pl = some (L, t, g)) (hf : frOK A G r L t g) (hL : L.drop n = L') (hx : nxt W (r.pl + 1) (false :: L') t g) (hj : jv G par A p) : invO G par W A (oE p n r F P) := by
  refine ⟨hj.1, hj.2.1, fun e => ?_, fun e => ?_, fun e => ?_, ?_, hP.1, fun x hx' => Nat.lt_of_lt_of_le (hP.2 x hx') hj.1.len⟩
  · have z := hj.2.2 (by have := kd_0 (show kd p.1 = 0 from e); omega)
    exact ⟨z.1, frs_val hj.1 h hw hf hL hx z.2, _, _, rfl⟩
  · exact hj.2.2 (by have := kd_1 (show kd p.1 = 1 from e); omega)
  · have : kd p.1 = 3 := e
    have := kd_3 p.1
    omega
  · show kd p.1 ≤ 3
    have := kd_3 p.1
    omega
/-- entering: the outcome -/
theorem p_ent {f g' n : Nat} {q' : Nat × Nat × List Nat × Int32} {ts tv md : Int32} {as : List mC} {L' : List Bool} {A0 : mA} (g0 : gro A0 A) (j : J G par A) (w : wI C G par W nm) (hP : P.length ≤ 100 ∧ ∀ x ∈ P, x < (aL A).length) (h : frsOK A G W (r :: F)) (hw : W r.pl = some (L, t, g)) (hf : frOK A G r L t g) (hL : L.drop n = L') (htk : tokl W g L' t) (hx : nxt W (r.pl + 1) (false :: L') t g) (hg1 : 1 ≤ g') (hg : G[g']? = some q') (hff : f < aO A) (hf1 : gi (aT A) 141 f = 1) (hlk : lkOK A G (gi (aT A) 140 f) (par g')) (hv : ∀ c ∈ as, mval A c.1 c.2.1) (ht : mval A ts tv) (hmd : md = -1 ∨ ∃ o, md = nI o ∧ o < aO A ∧ ¬ gi (aT A) 141 o = 3) :
    ∃ o : mO, invO G par W A0 o ∧ (∀ M Q, xLn M P → ownX Q M r F o → entX Q M A f g' q' ts tv md as n (mFpl r (r.pl + 1)) F) ∧ ∀ T Q, tLn T P → ownT Q T r F o → entT Q T A f g' q' ts tv md as n r F := by
  have inv2 : ∀ {o : mO}, invO G par W A o → invO G par W A0 o := fun i => ⟨g0.tr i.1, i.2⟩
  by_cases c24 : F.length + 1 = 24
  · refine ⟨oE (m_err A 2) n r F P, inv2 (oE_inv hP h hw hf hL hx (jv_err j (by omega))), fun M Q hp o => ⟨fun _ => own_vX hp o, fun z => by omega, fun z => by omega⟩, fun T Q hp o => ⟨fun _ => own_vT hp o, fun z => by omega, fun z => by omega⟩⟩
  · cases em : m_ent A f g' q' as with
    | mk b B =>
      obtain ⟨e1, e2, e3⟩ := jv_ent j hg1 hg hff hf1 hlk hv em
      cases b with
      | false =>
        refine ⟨(2, B, r :: F, P, 0, 0), inv2 ⟨e1, e2, fun e => absurd (show (2 : Nat) = 0 from e) (by decide), fun e => absurd (show (2 : Nat) = 1 from e) (by decide), fun e => absurd (show (2 : Nat) = 3 from e) (by decide), by show (2 : Nat) ≤ 3; omega, hP.1, fun x hx' => Nat.lt_of_lt_of_le (hP.2 x hx') e1.len⟩, fun M Q hp o => ⟨fun z => absurd z c24, fun _ A' M' z g f => ?_, fun _ A' M' z => ?_⟩, fun T Q hp o => ⟨fun z => absurd z c24, fun _ A' T' z g f => ?_, fun _ A' T' z => ?_⟩⟩
        · rw [em] at z; cases z; exact o.2.2.1 rfl M' g f
        · rw [em] at z; cases z
        · rw [em] at z; cases z; exact o.2.2.1 rfl T' g f
        · rw [em] at z; cases z
      | true =>
        obtain ⟨j', hsc⟩ := e3 rfl
        obtain ⟨f1, f2, f3, f4, f5, f6⟩ := frOK_gro e1 hf
        have hlen : F.length + 1 < 24 := by have := h.1; omega
        have hst : stOK B (r.st.drop n) L' := by rw [← hL]; exact stOK_drop f6
        refine ⟨(0, B, ((nI g', nI (aO A), ts, tv, md), q'.1, [], []) :: mFst (mFpl r (r.pl + 1)) (r.st.drop n) :: F, P, 0, 0), inv2 ⟨e1, e2, fun _ => ⟨j', ⟨by rw [List.length_cons]; exact hlen, ⟨[], [], g', w.2.1 g' q' hg, rfl, .inr ⟨hg1, aO A, rfl, hsc⟩, e1.val ht, ?_, rfl, trivial⟩, fun q hq => ?_⟩, _, _, rfl⟩, fun e => absurd (show (0 : Nat) = 1 from e) (by decide), fun e => absurd (show (0 : Nat) = 3 from e) (by decide), Nat.zero_le _, hP.1, fun x hx' => Nat.lt_of_lt_of_le (hP.2 x hx') e1.len⟩, fun M Q hp o => ⟨fun z => absurd z c24, fun _ A' M' z => ?_, fun _ A' M' z g f => ?_⟩, fun T Q hp o => ⟨fun z => absurd z c24, fun _ A' T' z => ?_, fun _ A' T' z g f => ?_⟩⟩
        · exact hmd.imp id fun ⟨o, h1, h2, h3⟩ => ⟨o, h1, Nat.lt_of_lt_of_le h2 e1.1, by rw [(e1.2.2 o h2).1 141 (by omega)]; exact h3⟩
        · rcases List.mem_cons.mp hq with e | e
          · rw [e]; exact ⟨L', t, g, hx.2, htk, f1, f2, f3, f4, f5, hst⟩
          · exact watOK_gro e1 (h.2.2 q e)
        · rw [em] at z; cases z
        · rw [em] at z; cases z; exact o.1 rfl M' g (xLn_cX hp f) (f.mono fun a k q => .inl q)
        · rw [em] at z; cases z
        · rw [em] at z; cases z; exact o.1 rfl T' g (tLn_cT hp f) (f.mono fun a k q => .inl q)
/-- what a call comes to -/
theorem p_end {n : Nat} {L' : List Bool} {x : Option (Nat × Int32 × Int32 × List mC)} (j : J G par A) (w : wI C G par W nm) (hP : P.length ≤ 100 ∧ ∀ x ∈ P, x < (aL A).length) (h : frsOK A G W (r :: F)) (hw : W r.pl = some (L, t, g)) (hf : frOK A G r L t g) (hL : L.drop n = L') (htk : tokl W g L' t) (hx : nxt W (r.pl + 1) (false :: L') t g) (ho : ∀ f ts tv as, x = some (f, ts, tv, as) → f < aO A ∧ gi (aT A) 141 f = 1 ∧ ¬ f = 20 ∧ mval A ts tv ∧ ∀ c ∈ as, mval A c.1 c.2.1) :
    ∃ o : mO, invO G par W A o ∧ (∀ M Q, xLn M P → ownX Q M r F o → endX Q M A G P n (mFpl r (r.pl + 1)) F x) ∧ ∀ T Q, tLn T P → ownT Q T r F o → endT Q T A G P n r F x := by
  cases x with
  | none => exact ⟨oE (m_err A 0) n r F P, oE_inv hP h hw hf hL hx (jv_err j (by omega)), fun M Q hp o => own_vX hp o, fun T Q hp o => own_vT hp o⟩
  | some y =>
    obtain ⟨f, ts, tv, as⟩ := y
    obtain ⟨hff, hf1, h20, ht, hv⟩ := ho f ts tv as rfl
    rcases j.2.2.2.1.2 f hff hf1 with ⟨c1, c2, c3, c4⟩ | ⟨c1, c2, ⟨g', q', hg, hg1, c3⟩, c4, c5⟩
    · by_cases e9 : f = 9
      · subst e9
        have hv0 := m_a0_ok hv
        cases e : a_text A (m_a0 as).1 (m_a0 as).2 with
        | none =>
          refine ⟨oE (2, A, 0, 0) n r F P, oE_inv hP h hw hf hL hx (jv_2 gro.rf j.1), fun M Q hp o => ⟨fun _ => ⟨fun _ => own_vX hp o, fun k A' M' z => ?_⟩, fun _ z => absurd rfl z, fun z => by omega⟩, fun T Q hp o => ⟨fun _ => ⟨fun _ => own_vT hp o, fun k A' T' z => ?_⟩, fun _ z => absurd rfl z, fun z => by omega⟩⟩
          · rw [e] at z; cases z
          · rw [e] at z; cases z
        | some y =>
          obtain ⟨k, A1⟩ := y
          obtain ⟨j1, g1, hk⟩ := J_text j hv0.1 e
          have hpr : (m_prt P k).length ≤ 100 ∧ ∀ x ∈ m_prt P k, x < (aL A1).length := by
            unfold m_prt
            split
            · refine ⟨by rw [List.length_append]; simp; omega, fun x hx' => ?_⟩
              rcases List.mem_append.mp hx' with z | z
              · exact Nat.lt_of_lt_of_le (hP.2 x z) g1.len
              · rw [List.mem_singleton] at z; rw [z]; exact hk
            · exact ⟨hP.1, fun x z => Nat.lt_of_lt_of_le (hP.2 x z) g1.len⟩
          refine ⟨(0, A1, mFst (mFpl r (r.pl + 1)) ((0, 0, 0, 0) :: r.st.drop n) :: F, m_prt P k, 0, 0), ⟨g1, j1.1, fun _ => ⟨j1, frs_val g1 h hw hf hL hx mval_0, _, _, rfl⟩, fun e => absurd (show (0 : Nat) = 1 from e) (by decide), fun e => absurd (show (0 : Nat) = 3 from e) (by decide), Nat.zero_le _, hpr⟩, fun M Q hp o => ⟨fun _ => ⟨fun z => ?_, fun k' A' M' z g p f => ?_⟩, fun _ z => absurd rfl z, fun z => by omega⟩, fun T Q hp o => ⟨fun _ => ⟨fun z => ?_, fun k' A' T' z g p f => ?_⟩, fun _ z => absurd rfl z, fun z => by omega⟩⟩
          · rw [e] at z; cases z
          · rw [e] at z; cases z; exact o.1 rfl M' g p f
          · rw [e] at z; cases z
          · rw [e] at z; cases z; exact o.1 rfl T' g p f
      · exact ⟨oE (m_nat A f ts tv as) n r F P, oE_inv hP h hw hf hL hx (jv_nat j (by omega) c2 h20 ht hv), fun M Q hp o => ⟨fun z => absurd z e9, fun _ _ => own_vX hp o, fun z => by omega⟩, fun T Q hp o => ⟨fun z => absurd z e9, fun _ _ => own_vT hp o, fun z => by omega⟩⟩
    · obtain ⟨w1, w2, w3⟩ := j.2.2.1.2
      have hgl : g' < G.length := (List.getElem?_eq_some_iff.mp hg).1
      obtain ⟨o, o1, o2, o3⟩ := p_ent (md := -1) (as := as) gro.rf j w hP h hw hf hL htk hx hg1 hg hff hf1 (j.2.2.2.2.1 f g' hff hf1 c1 c3 (by omega)) hv ht (.inl rfl)
      have same : ∀ g2 q2, gi (aT A) 142 f = nI g2 → G[g2]? = some q2 → g2 = g' ∧ q2 = q' := fun g2 q2 a b => by
        have hgl2 : g2 < G.length := (List.getElem?_eq_some_iff.mp b).1
        rw [c3, nn_eq (by omega) (by omega)] at a
        subst a
        rw [hg] at b
        exact ⟨rfl, (Option.some.inj b).symm⟩
      refine ⟨o, o1, fun M Q hp z => ⟨fun e => by omega, fun e => by omega, fun _ g2 q2 a b => ?_⟩, fun T Q hp z => ⟨fun e => by omega, fun e => by omega, fun _ g2 q2 a b => ?_⟩⟩
      · obtain ⟨rfl, rfl⟩ := same g2 q2 a b; exact o2 M Q hp z
      · obtain ⟨rfl, rfl⟩ := same g2 q2 a b; exact o3 T Q hp z
theorem drop_args {as l : List mC} {k : Nat} (hk : k ≤ l.length) : (as.reverse ++ l).drop (as.length + k) = l.drop k := by
  rw [List.drop_append, List.length_reverse, List.drop_eq_nil_of_le (by rw [List.length_reverse]; omega), show as.length + k - as.length = k by omega, List.nil_append]
theorem p_call {q : Int32 × Int32 × Int32} (b : base C G par W nm A P r F L t g q) (e : q.1 = 15) (hx : ∃ n L', q.2.1 = nI n ∧ L = List.replicate n false ++ false :: false :: L' ∧ tokl W g L' t ∧ nxt W (r.pl + 1) (false :: L') t g) : pairO C G par W A P r F := by
  obtain ⟨j, hnm, hP, h, w, hw, hf, hq⟩ := b
  obtain ⟨ok, hh, hpl⟩ := frs_ok w h
  have hob := j.1.1.1.2
  obtain ⟨n, L', ea, rfl, htk, hx⟩ := hx
  have hsz := (w.1 _ _ _ _ hw).2.1
  obtain ⟨as, rest0, e0, hl, hv, hst⟩ := st_args hf.2.2.2.2.2
  obtain ⟨c1, st1, e1, vw, hst⟩ := st_f hst
  obtain ⟨c2, st2, e2, vs, hst⟩ := st_f hst
  have est : r.st = as.reverse ++ c1 :: c2 :: st2 := by rw [e0, e1, e2]
  subst hl
  rw [List.length_append, List.length_replicate, List.length_cons, List.length_cons] at hsz
  have hL : (List.replicate as.length false ++ false :: false :: L').drop (as.length + 2) = L' := by
    rw [List.drop_append, List.length_replicate, List.drop_eq_nil_of_le (by rw [List.length_replicate]; omega), show as.length + 2 - as.length = 2 by omega]; rfl
  obtain ⟨o, o1, o2, o3⟩ := p_end (x := m_cf A c1 c2 as) j w hP h hw hf hL htk hx (fun f ts tv as' ex => by
    unfold m_cf at ex
    by_cases cf : c1.1 = 7 ∧ gi (aT A) 141 c1.2.1.toNatClampNeg = 1
    · rw [if_pos cf] at ex
      obtain ⟨o, eo, ho, -⟩ := mval_j vw cf.1
      have cf2 := cf.2
      rw [eo, nn_cl (by omega)] at ex cf2
      obtain ⟨r1, r2, r3, r4, r5, -⟩ := m_cl_ok j as o c2.1 c2.2.1 ho cf2 vs hv f ts tv as' ex
      exact ⟨r1, r2, r3, r4, r5⟩
    · rw [if_neg cf] at ex; cases ex)
  refine ⟨o, o1, fun E d M Q a b c km z => xs_call a j.1 j.2.1 (J_l0 j) j.2.2.2.1 ok hpl b j.2.2.1.2 c ((km _ _ hq).1.trans e) ((km _ _ hq).2.1.trans ea) est vw vs hv (o2 M Q c z), fun E d T Q a b c kt z => ?_⟩
  have key := ts_call (E := E) (d := d + 784 - 2 * as.length) a j.1 j.2.1 (J_l0 j) j.2.2.2.1 ok hh hpl b j.2.2.1.2 c ((kt _ _ hq).1.trans e) ((kt _ _ hq).2.1.trans ea) est vw vs hv (o3 T Q c z)
  rw [show d + 784 - 2 * as.length + 2 * as.length + 16 = d + 800 by omega] at key
  exact key
theorem p_new {q : Int32 × Int32 × Int32} (b : base C G par W nm A P r F L t g q) (e : q.1 = 16) (hx : ∃ n s L', q.2.1 = nI n ∧ q.2.2 = nI s ∧ siteOK G s ∧ L = List.replicate n false ++ false :: L' ∧ tokl W g L' t ∧ nxt W (r.pl + 1) (false :: L') t g) : pairO C G par W A P r F := by
  obtain ⟨j, hnm, hP, h, w, hw, hf, hq⟩ := b
  obtain ⟨ok, hh, hpl⟩ := frs_ok w h
  have hob := j.1.1.1.2
  have h23 := j.2.2.2.1.1
  obtain ⟨n, s, L', ea, eb, hs, rfl, htk, hx⟩ := hx
  unfold siteOK at hs
  obtain ⟨as, rest0, e0, hl, hv, hst⟩ := st_args hf.2.2.2.2.2
  obtain ⟨c1, st1, e1, vw, hst⟩ := st_f hst
  have est : r.st = as.reverse ++ c1 :: st1 := by rw [e0, e1]
  subst hl
  have hL : (List.replicate as.length false ++ false :: L').drop (as.length + 1) = L' := by
    rw [List.drop_append, List.length_replicate, List.drop_eq_nil_of_le (by rw [List.length_replicate]; omega), show as.length + 1 - as.length = 1 by omega]; rfl
  have fin : (∃ o : mO, invO G par W A o ∧ (∀ M Q, xLn M P → ownX Q M r F o → newX Q M A G (29 + 6 * (G.length - 1) + 2 * s) (as.length + 1) c1 as (mFpl r (r.pl + 1)) F) ∧ ∀ T Q, tLn T P → ownT Q T r F o → newT' Q T A G (29 + 6 * (G.length - 1) + 2 * s) (as.length + 1) c1 as r F) → pairO C G par W A P r F := fun ⟨o, o1, o2, o3⟩ =>
    ⟨o, o1, fun E d M Q a b c km z => xs_new a j.1 j.2.1 (J_l0 j) j.2.2.2.1 ok hpl b j.2.2.1.2 hs ((km _ _ hq).1.trans e) ((km _ _ hq).2.1.trans ea) ((km _ _ hq).2.2.trans eb) est vw hv (o2 M Q c z), fun E d T Q a b c kt z => ts_new (d := d + 792) a j.1 j.2.1 (J_l0 j) j.2.2.2.1 ok hh hpl b j.2.2.1.2 hs ((kt _ _ hq).1.trans e) ((kt _ _ hq).2.1.trans ea) ((kt _ _ hq).2.2.trans eb) est vw hv (o3 T Q c z)⟩
  by_cases cf : c1.1 = 7 ∧ gi (aT A) 141 c1.2.1.toNatClampNeg = 1
  · obtain ⟨f, ef, hff, -⟩ := mval_j vw cf.1
    have hf1 := cf.2
    rw [ef, nn_cl (by omega)] at hf1
    have same : ∀ f2 : Nat, f2 < aO A → c1.2.1 = nI f2 → f2 = f := fun f2 h2 a => by
      rw [ef, nn_eq (by omega) (by omega)] at a; exact a.symm
    rcases j.2.2.2.1.2 f hff hf1 with ⟨d1, d2, d3, d4⟩ | ⟨d1, d2, ⟨g', q', hg, hg1, d3⟩, d4, d5⟩
    · by_cases hn : m_nn f
      · refine fin ⟨oE (m_nat A f 0 0 as) (as.length + 1) r F P, oE_inv hP h hw hf hL hx (jv_nat j (by unfold m_nn at hn; omega) d2 (by unfold m_nn at hn; omega) mval_0 hv), fun M Q hp o => ⟨fun z => absurd cf z, fun f2 a b c d => ?_⟩, fun T Q hp o => ⟨fun z => absurd cf z, fun f2 a b c d => ?_⟩⟩
        · obtain rfl := same f2 c b
          exact ⟨fun _ _ => own_vX hp o, fun _ z => absurd hn z, fun z => by omega, fun z => by omega⟩
        · obtain rfl := same f2 c b
          exact ⟨fun _ _ => own_vT hp o, fun _ z => absurd hn z, fun z => by omega, fun z => by omega⟩
      · refine fin ⟨oE (m_err A 0) (as.length + 1) r F P, oE_inv hP h hw hf hL hx (jv_err j (by omega)), fun M Q hp o => ⟨fun z => absurd cf z, fun f2 a b c d => ?_⟩, fun T Q hp o => ⟨fun z => absurd cf z, fun f2 a b c d => ?_⟩⟩
        · obtain rfl := same f2 c b
          exact ⟨fun _ z => absurd z hn, fun _ _ => own_vX hp o, fun z => by omega, fun z => by omega⟩
        · obtain rfl := same f2 c b
          exact ⟨fun _ z => absurd z hn, fun _ _ => own_vT hp o, fun z => by omega, fun z => by omega⟩
    · by_cases h300 : aO A = 300
      · refine fin ⟨oE (2, A, 0, 0) (as.length + 1) r F P, oE_inv hP h hw hf hL hx (jv_2 gro.rf j.1), fun M Q hp o => ⟨fun z => absurd cf z, fun f2 a b c d => ?_⟩, fun T Q hp o => ⟨fun z => absurd cf z, fun f2 a b c d => ?_⟩⟩
        · obtain rfl := same f2 c b
          exact ⟨fun z => by omega, fun z => by omega, fun _ _ => own_vX hp o, fun _ z => by omega⟩
        · obtain rfl := same f2 c b
          exact ⟨fun z => by omega, fun z => by omega, fun _ _ => own_vT hp o, fun _ z => by omega⟩
      · obtain ⟨w1, w2, w3⟩ := j.2.2.1.2
        have hgl : g' < G.length := (List.getElem?_eq_some_iff.mp hg).1
        obtain ⟨p, ep, hp'⟩ := m_np_ok j.1 h23 hff
        obtain ⟨j1, g1⟩ := J_new (pr := m_np A f) (st := 0) (lk := -1) (lb := 29 + 6 * (G.length - 1) + 2 * s) j (by omega) (.inr ⟨p, ep, hp'⟩) hs (fun _ => by omega) ⟨by decide, by decide, by decide⟩
        have s0 : gi (aT (a_new A (m_np A f) (29 + 6 * (G.length - 1) + 2 * s) 0 (-1))) 141 (aO A) = 0 := by rw [a_new_srt _ _ _ _ _ _ _ (by omega), if_pos rfl]; rfl
        have vo : mval (a_new A (m_np A f) (29 + 6 * (G.length - 1) + 2 * s) 0 (-1)) 7 (nI (aO A)) := mval_7 (Nat.lt_succ_self _) (by rw [s0]; decide)
        have h1 : frsOK (a_new A (m_np A f) (29 + 6 * (G.length - 1) + 2 * s) 0 (-1)) G W (r :: F) := ⟨h.1, topOK_gro g1 h.2.1, fun q hq => watOK_gro g1 (h.2.2 q hq)⟩
        have hlk := lkOK_gro g1 (j.2.2.2.2.1 f g' hff hf1 d1 d3 (by omega))
        have k := g1.2.2 f hff
        obtain ⟨o, o1, o2, o3⟩ := p_ent (n := as.length + 1) (md := nI (aO A)) (as := as) (ts := 7) (tv := nI (aO A)) g1 j1 w ⟨hP.1, fun x hx' => Nat.lt_of_lt_of_le (hP.2 x hx') g1.len⟩ h1 hw (frOK_gro g1 hf) hL htk hx hg1 hg (Nat.lt_of_lt_of_le hff g1.1) ((k.1 141 (by omega)).trans hf1) (by rw [k.1 140 (by omega)]; exact hlk) (fun c hc => g1.val (hv c hc)) vo (.inr ⟨aO A, rfl, Nat.lt_succ_self _, by rw [s0]; decide⟩)
        have same2 : ∀ g2 q2, gi (aT A) 142 f = nI g2 → G[g2]? = some q2 → g2 = g' ∧ q2 = q' := fun g2 q2 a b => by
          have hgl2 : g2 < G.length := (List.getElem?_eq_some_iff.mp b).1
          rw [d3, nn_eq (by omega) (by omega)] at a
          subst a
          rw [hg] at b
          exact ⟨rfl, (Option.some.inj b).symm⟩
        refine fin ⟨o, o1, fun M Q hp z => ⟨fun z => absurd cf z, fun f2 a b c d => ?_⟩, fun T Q hp z => ⟨fun z => absurd cf z, fun f2 a b c d => ?_⟩⟩
        · obtain rfl := same f2 c b
          exact ⟨fun z => by omega, fun z => by omega, fun _ z => absurd z h300, fun _ _ g2 q2 a b => by obtain ⟨rfl, rfl⟩ := same2 g2 q2 a b; exact o2 M Q hp z⟩
        · obtain rfl := same f2 c b
          exact ⟨fun z => by omega, fun z => by omega, fun _ z => absurd z h300, fun _ _ g2 q2 a b => by obtain ⟨rfl, rfl⟩ := same2 g2 q2 a b; exact o3 T Q hp z⟩
  · refine fin ⟨oE (m_err A 0) (as.length + 1) r F P, oE_inv hP h hw hf hL hx (jv_err j (by omega)), fun M Q hp o => ⟨fun _ => own_vX hp o, fun f2 a b c d => absurd ⟨a, by rw [b, nn_cl (by omega)]; exact d⟩ cf⟩, fun T Q hp o => ⟨fun _ => own_vT hp o, fun f2 a b c d => absurd ⟨a, by rw [b, nn_cl (by omega)]; exact d⟩ cf⟩⟩
/-- A STEP of both machines comes to the same -/
theorem step_pair (j : J G par A) (hnm : nm ≤ (aL A).length ∧ nm < 400) (hP : P.length ≤ 100 ∧ ∀ x ∈ P, x < (aL A).length) (w : wI C G par W nm) (h : frsOK A G W (r :: F)) : pairO C G par W A P r F := by
  obtain ⟨L, t, g, hw, hf⟩ := h.2.1
  obtain ⟨-, -, -, -, -, q, hq, op⟩ := w.1 _ _ _ _ hw
  have b : base C G par W nm A P r F L t g q := ⟨j, hnm, hP, h, w, hw, hf, hq⟩
  unfold opOK at op
  rcases op with ⟨e, x, y⟩ | ⟨e, x, y⟩ | ⟨e, x, y, z⟩ | ⟨e, x⟩ | ⟨e, x, y, z⟩ | ⟨e, x⟩ | ⟨e, x⟩ | ⟨e, x, y⟩ | ⟨e, x, y⟩ | ⟨e, x, y⟩ | ⟨e, x⟩ | ⟨e, x⟩ | ⟨e, x⟩ | ⟨e, x, y⟩ | ⟨e, x, y⟩ | ⟨e, x⟩ | ⟨e, x⟩ | ⟨e, x⟩ | ⟨e, x⟩ | ⟨e, x⟩ | ⟨e, x⟩ | ⟨e, x⟩ | ⟨e, x⟩ | ⟨e, x⟩ | ⟨e, x⟩ | ⟨e, x⟩ | ⟨e, x⟩ | ⟨e, x⟩ | ⟨e, x⟩ | ⟨e, x⟩
  · exact p_const b e x y
  · exact p_load b e x y
  · exact p_store b e x y z
  · exact p_glob b e x
  · exact p_setg b e x y z
  · exact p_tglob b e x
  · exact p_this b e x
  · exact p_obj b e x y
  · exact p_arr b e x y
  · exact p_fun b e x y
  · exact p_get b e x
  · exact p_put b e x
  · exact p_del b e x
  · exact p_un b e x y
  · exact p_bin b e x y
  · exact p_call b e x
  · exact p_new b e x
  · exact p_drop b e x
  · exact p_copy b e x
  · exact p_copy2 b e x
  · exact p_under b e x
  · exact p_jump b e x
  · exact p_unless b e x
  · exact p_andor b e x
  · exact p_ret b e x
  · exact p_throw b e x
  · exact p_try b e x
  · exact p_leave b e x
  · exact p_names b e x
  · exact p_next b e x
end
