/-! THE COMPONENT's PARSER: switch, the method -/
theorem zq_sr (M : zM) (a k : Nat) (v : Option zP) : zsz (sr M a k v) = zsz M := rfl
theorem zq_si (M : zM) (a k : Nat) (v : Int32) : zsz (si M a k v) = zsz M := rfl
theorem zq_zn (M : zM) (k : Nat) : zsz (zn M k) = zsz M + 1 := rfl
/-- a switch with its two lists -/
def swM (M : zM) (b : Nat) (u : Option zP) : zM := sr (sr (sr (si (zn (sr (sr (si (zn M 3) (zsz M) 0 (0 : Int32)) (zsz M) 1 (some (1, 110, 0))) b 1 (some ((zsz M), 11, 0))) 3) (zsz M + 1) 0 (0 : Int32)) (zsz M + 1) 1 (some (1, 110, 0))) b 2 (some (zsz M + 1, 11, 0))) b 0 u
theorem swM_ok (M : zM) (b : Nat) (u : Option zP) (hb : b < zsz M) : (gr (swM M b u) b 0 = u ∧ gr (swM M b u) b 1 = some (zsz M, 11, 0) ∧ gr (swM M b u) b 2 = some (zsz M + 1, 11, 0) ∧ gr (swM M b u) b 3 = gr M b 3) ∧ (gr (swM M b u) (zsz M) 1 = some (1, 110, 0) ∧ gi (swM M b u) (zsz M) 2 = 0) ∧ (gr (swM M b u) (zsz M + 1) 1 = some (1, 110, 0) ∧ gi (swM M b u) (zsz M + 1) 2 = 0) ∧ zsz (swM M b u) = zsz M + 2 ∧ zsu (swM M b u) = zsu M + 6 ∧ fg (fun x _ => x = b) M (swM M b u) := by
  have n1 : ¬ b = zsz M := by omega
  have n2 : ¬ b = zsz M + 1 := by omega
  have n3 : ¬ zsz M = b := by omega
  have n4 : ¬ zsz M + 1 = b := by omega
  have n5 : ¬ zsz M = zsz M + 1 := by omega
  have n6 : ¬ zsz M + 1 = zsz M := by omega
  refine ⟨⟨?_, ?_, ?_, ?_⟩, ⟨?_, ?_⟩, ⟨?_, ?_⟩, rfl, rfl, ?_⟩
  · unfold swM; simp [gr_sr]
  · unfold swM; simp [gr_sr, gr_si, gr_zn, zq_sr, zq_si, zq_zn, n1, n2]
  · unfold swM; simp [gr_sr]
  · unfold swM; simp [gr_sr, gr_si, gr_zn, zq_sr, zq_si, zq_zn, n1, n2]
  · unfold swM; simp [gr_sr, gr_si, gr_zn, zq_sr, zq_si, zq_zn, n3, n5]
  · unfold swM; simp [gi_sr, gi_si, gi_zn, zq_sr, zq_si, zq_zn, n3, n5]
  · unfold swM; simp [gr_sr, gr_si, gr_zn, zq_sr, zq_si, zq_zn, n4]
  · unfold swM; simp [gi_sr, gi_si, gi_zn, zq_sr, zq_si, zq_zn, n4, n6]
  · unfold swM
    have fA : fg (fun x _ => x = b) M (sr (si (zn M 3) (zsz M) 0 (0 : Int32)) (zsz M) 1 (some (1, 110, 0))) := (fg.zn (n := 3)).tr2 ((fr.si (.inr (Nat.le_refl _))).tr (fr.sr (.inr (Nat.le_refl _)))).fg
    have fB : fg (fun x _ => x = b) M (sr (sr (si (zn M 3) (zsz M) 0 (0 : Int32)) (zsz M) 1 (some (1, 110, 0))) b 1 (some ((zsz M), 11, 0))) := fA.tr2 (fr.sr (.inl rfl)).fg
    have fC : fg (fun x _ => x = b) M (zn (sr (sr (si (zn M 3) (zsz M) 0 (0 : Int32)) (zsz M) 1 (some (1, 110, 0))) b 1 (some ((zsz M), 11, 0))) 3) := fB.tr2 fg.zn
    exact fC.tr2 ((((fr.si (.inr (by omega))).tr (fr.sr (.inr (by omega)))).tr (fr.sr (.inl rfl))).tr (fr.sr (.inl rfl))).fg
section
variable {E : zE} {pp a lf n : Nat} {c : Nat → Int32} {dg : Int32 → List Int32} {K o dS dE DE dm : Nat} {r : pT}
variable {M M' : zM} {τ τ' : Nat → Nat} {lo b lt lb : Nat} {p1 : zP} {es fs : List (Option zP)} {x : Option zP}
theorem wZ.a1 (h : wZ lo M τ b lt lb p1 es fs) (w : wL lo M' τ' lt (es ++ [x])) (f : fg (lP M lt) M M') (ag : ∀ x, x < zsz M → τ' x = τ x) (la : lA M' lt = lA M lt ∨ zsz M ≤ lA M' lt) (hz : 190 ≤ zsz M) : wZ lo M' τ' b lt lb p1 (es ++ [x]) fs ∧ lC M' lb = lC M lb := by
  obtain ⟨h1, h2, h3, h4, h5, h6, h7⟩ := h
  have z := f.1.1
  have l1 := h3.lz hz
  have l2 := h4.lz hz
  have nb : ∀ k, ¬ lP M lt b k := fun k z => by rcases z with z | z; exact h5.1 z; exact h6.1 z.1
  have nl : ∀ k, ¬ lP M lt lb k := fun k z => by rcases z with z | z; exact h5.2.2 z.symm; exact h6.2.2.2 z.1
  have nA : ∀ k, lA M lb < 16 ∨ ¬ lP M lt (lA M lb) k := fun k => by
    by_cases y : lA M lb < 16
    · exact .inl y
    · refine .inr fun z => ?_
      rcases z with z | z
      · exact h6.2.2.1 z.symm
      · exact h7 (by rw [← z.1]; exact z.2) z.1.symm
  have w2 := h4.k2 f nl nA ag
  refine ⟨⟨⟨h1.1, by omega, (ag b h1.2.1).trans h1.2.2⟩, ⟨(f.gr h1.2.1 (nb 0)).trans h2.1, (f.gr h1.2.1 (nb 1)).trans h2.2.1, (f.gr h1.2.1 (nb 2)).trans h2.2.2.1, (f.gr h1.2.1 (nb 3)).trans h2.2.2.2⟩, w, w2.1, h5, ?_, ?_⟩, w2.2.2⟩
  · rw [w2.2.1]
    rcases la with y | y
    · rw [y]; exact h6
    · exact ⟨by omega, h6.2.1, h6.2.2.1, by omega⟩
  · rw [w2.2.1]
    rcases la with y | y
    · rw [y]; exact h7
    · intro _; omega
theorem wZ.a2 (h : wZ lo M τ b lt lb p1 es fs) (w : wL lo M' τ' lb (fs ++ [x])) (f : fg (lP M lb) M M') (ag : ∀ x, x < zsz M → τ' x = τ x) (la : lA M' lb = lA M lb ∨ zsz M ≤ lA M' lb) (hz : 190 ≤ zsz M) : wZ lo M' τ' b lt lb p1 es (fs ++ [x]) ∧ lC M' lt = lC M lt := by
  obtain ⟨h1, h2, h3, h4, h5, h6, h7⟩ := h
  have z := f.1.1
  have l1 := h3.lz hz
  have l2 := h4.lz hz
  have nb : ∀ k, ¬ lP M lb b k := fun k z => by rcases z with z | z; exact h5.2.1 z; exact h6.2.1 z.1
  have nl : ∀ k, ¬ lP M lb lt k := fun k z => by rcases z with z | z; exact h5.2.2 z; exact h6.2.2.1 z.1
  have nA : ∀ k, lA M lt < 16 ∨ ¬ lP M lb (lA M lt) k := fun k => by
    by_cases y : lA M lt < 16
    · exact .inl y
    · refine .inr fun z => ?_
      rcases z with z | z
      · exact h6.2.2.2 z.symm
      · exact h7 (by omega) z.1
  have w2 := h3.k2 f nl nA ag
  refine ⟨⟨⟨h1.1, by omega, (ag b h1.2.1).trans h1.2.2⟩, ⟨(f.gr h1.2.1 (nb 0)).trans h2.1, (f.gr h1.2.1 (nb 1)).trans h2.2.1, (f.gr h1.2.1 (nb 2)).trans h2.2.2.1, (f.gr h1.2.1 (nb 3)).trans h2.2.2.2⟩, w2.1, w, h5, ?_, ?_⟩, w2.2.2⟩
  · rw [w2.2.1]
    rcases la with y | y
    · rw [y]; exact h6
    · exact ⟨h6.1, by omega, by omega, h6.2.2.2⟩
  · rw [w2.2.1]
    rcases la with y | y
    · rw [y]; exact h7
    · intro _; omega
theorem pos_mx {s : pS} (h : xTz M a n c s) : (tkn n c s.1).2.2.1 ≤ 1280 := by
  obtain ⟨-, -, -, -, hj, -, ⟨hn, hc, -⟩, -⟩ := h
  have ok := tkn_ok hc s.1 hj
  omega
theorem ar_c1 {l T t A A' : Nat} (h : 6 * l + max T 1 + 1 ≤ A) (ht : 1 ≤ t) (hA : A + 4 + t + 1 ≤ A') : 6 * (l + 1) + max (max T t) 1 + 1 ≤ A' := by omega
theorem ar_c2 {l T A A' : Nat} (h : 6 * l + max T 1 + 1 ≤ A) (hA : A + 8 ≤ A') : 6 * (l + 1) + max T 1 + 1 ≤ A' := by omega
theorem czB_app (cs : gCz) (q : (Nat × Nat × Nat × Nat) × (Option gEx × gSt)) : czB (cs ++ [q]) = czB cs ++ [(q.1, q.2.2)] := by unfold czB; rw [List.map_append]; rfl
theorem czS_app (cs : gCz) (q : (Nat × Nat × Nat × Nat) × (Option gEx × gSt)) : czS (cs ++ [q]) = czS cs ++ [q.2] := by unfold czS; rw [List.map_append]; rfl
theorem cas_nx {C : pC} {f : Nat} {d : Bool} {acc : List (Option gEx × gSt)} {s : pS} (h1 : ¬ isS (zOf n c dg) 25 s = true) (h2 : ¬ (isK (zOf n c dg) 4 s && d) = true) : pCas (zOf n c dg) K r C (f + 1) d acc s = bnd (if isK (zOf n c dg) 4 s then bnd (nxt' (zOf n c dg) s) fun _ s => prt none s else bnd (nedK (zOf n c dg) 1 s) fun _ s => bnd (r.expr true C s) fun e s => prt (some e.1) s) fun x s => bnd (nedS (zOf n c dg) 46 s) fun _ s => bnd (pStms r C (fun s => isS (zOf n c dg) 25 s || isK (zOf n c dg) 1 s || isK (zOf n c dg) 4 s) K gNo s) fun y s => pCas (zOf n c dg) K r C f (d || x.isNone) (acc ++ [(x, y)]) s := by
  rw [pCas]; rw [if_neg h1, if_neg h2]
/-- the cases' facts that need no memory -/
def wN (cs : gCz) (dd : Bool) : Prop := cs.length = nTs cs + (if dd = true then 1 else 0) ∧ (∀ (k k' : Nat) (q q' : (Nat × Nat × Nat × Nat) × (Option gEx × gSt)), cs[k]? = some q → cs[k']? = some q' → q.2.1 = none → q'.2.1 = none → k = k') ∧ (dd = false → ∀ (k : Nat) (q : (Nat × Nat × Nat × Nat) × (Option gEx × gSt)), cs[k]? = some q → q.2.1 ≠ none)
theorem wN.app {cs : gCz} {dd : Bool} {q : (Nat × Nat × Nat × Nat) × (Option gEx × gSt)} (h : wN cs dd) (hd : q.2.1 = none → dd = false) : wN (cs ++ [q]) (dd || q.2.1.isNone) := by
  obtain ⟨h1, h2, h3⟩ := h
  have at' : ∀ (k : Nat) (x : (Nat × Nat × Nat × Nat) × (Option gEx × gSt)), (cs ++ [q])[k]? = some x → cs[k]? = some x ∨ (k = cs.length ∧ x = q) := fun k x hk => by
    by_cases z : k < cs.length
    · rw [List.getElem?_append_left z] at hk; exact .inl hk
    · have hl : k < (cs ++ [q]).length := (List.getElem?_eq_some_iff.mp hk).1
      rw [List.length_append] at hl
      have hl : k < cs.length + 1 := hl
      have e : k = cs.length := by omega
      rw [e, List.getElem?_append_right (Nat.le_refl _), Nat.sub_self] at hk
      cases hk
      exact .inr ⟨e, rfl⟩
  refine ⟨?_, fun k k' x x' hk hk' n1 n2 => ?_, fun hf k x hk => ?_⟩
  · rw [List.length_append, nTs_app]
    show cs.length + 1 = _
    cases hq : q.2.1 with
    | none => have := hd hq; subst this; rw [if_neg (by decide)] at h1; rw [if_pos (by rfl)]; show _ = nTs cs + 0 + 1; omega
    | some y => rw [show (dd || (some y : Option gEx).isNone) = dd from by cases dd <;> rfl]; show _ = nTs cs + 1 + _; omega
  · rcases at' k x hk with z | ⟨z, zx⟩
    · rcases at' k' x' hk' with z' | ⟨z', zx'⟩
      · exact h2 k k' x x' z z' n1 n2
      · subst zx'
        exact absurd n1 (h3 (hd n2) k x z)
    · subst zx
      rcases at' k' x' hk' with z' | ⟨z', zx'⟩
      · exact absurd n2 (h3 (hd n1) k' x' z')
      · omega
  · have : dd = false ∧ q.2.1.isNone = false := by simpa using hf
    rcases at' k x hk with z | ⟨z, zx⟩
    · exact h3 this.1 k x z
    · rw [zx]; intro e; rw [e] at this; cases this.2
theorem y_swi (hN : cNx E pp a lf n c dS dE DE o r) (hK : 1300 ≤ K) (hdm : dS + 2 ≤ dm ∧ dE + 3 ≤ dm ∧ 34 ≤ dm) : cSx E pp a lf n c YX9_chosen [] dm o (fun C _ => C.2.1 + C.2.2 < o) (szG n c 0 3 0 0) (pSwi (zOf n c dg) K r) := by
  obtain ⟨hr, hS, hE, hW, hDE⟩ := id hN
  intro d Q M τ fl s C hd hH h hy hn
  obtain ⟨d, rfl⟩ : ∃ d', d = d' + 15 := ⟨d - 15, by omega⟩
  have R := rk_st h C.1
  have z190 := h.z190
  have o20 := h.op.2
  have pe0 : pSwi (zOf n c dg) K r C s = bnd (pRnd (zOf n c dg) r C s) fun e s => bnd (nedS (zOf n c dg) 24 s) fun _ s => bnd (pCas (zOf n c dg) K r (C.1, C.2.1, C.2.2 + 1) K false [] s) fun l s => bnd (nxt' (zOf n c dg) s) fun _ s => prt (gSw e.1 l) s := rfl
  refine iX9_chosen_0 M pp ?_
  obtain ⟨τ1, R1, ag1, on1, m01⟩ := R.lc (M' := zn M 4) (v := 1) (w := 4) (cz' := 99) (cu' := 1996) fg.zn (Nat.le_refl _) (Nat.le_refl _) (by omega) (by omega)
  have sz1 : zsz (zn M 4) = zsz M + 1 := rfl
  have gb1 : gr (zn M 4) (zsz M) 3 = none := by rw [gr_zn, if_pos rfl]
  generalize zn M 4 = M1 at *
  refine R1.val (y_rnd (dg := dg) (dm := dm - 1) (hE true) hr (by omega)) (by omega) (by omega) (by omega) rfl (ok_rnd hr s) (fun v s' z => z.1) (fun v2 s2 e2 o2 M2 τ2 fl2 b2 t2 R2 k2 n2 => ?_) (fun w e q M' er => ZT.out (nohand rfl) (hn w (pe0.trans (bnd_er e)) _ M' er))
  show Z E YX9_chosen (d + 14 + 1) M2 [(0, vr (some (pp, 8, 0)))] 8 [vr (some (b2, t2, 0)), vr (some (zsz M, 44, 0)), vr (some (zsz M, 44, 0))] Q
  refine sX9_chosen_8 M2 pp _ _ _ ?_
  have z2 := k2.z
  have ob2 := k2.ow (lo := zsz M) (x := zsz M) ⟨Nat.le_refl _, by omega, on1 _ (Nat.le_refl _) (by omega)⟩
  have gb2 : gr M2 (zsz M) 3 = none := (k2.g (x := zsz M) ⟨z190, by omega, on1 _ (Nat.le_refl _) (by omega)⟩ 3).2.trans gb1
  refine iX39_init_0 (d := d + 10) M2 (zsz M) _ ⟨by omega, by omega, by show 16 ≤ zsz M2 + 1; omega, ?_⟩
  have pe2 := pe0.trans (bnd_ok e2)
  obtain ⟨⟨g0, g1, g2, gn⟩, ⟨g3, g4⟩, ⟨g5, g6⟩, sz3, su3, f3⟩ := swM_ok M2 (zsz M) (some (b2, t2, 0)) ob2.2.1
  show Z E YX9_chosen (d + 14 + 1) (swM M2 (zsz M) (some (b2, t2, 0))) [(0, vr (some (pp, 8, 0)))] 11 [vr (some (zsz M, 44, 0))] Q
  generalize swM M2 (zsz M) (some (b2, t2, 0)) = M3 at *
  obtain ⟨τ3, R3, ag3, on3, m23⟩ := R2.lc (M' := M3) (v := 2) (w := 6) (cz' := 117) (cu' := 2390) (f3.mono fun x k _ z => by rw [z]; exact ⟨ob2.1, ob2.2.2⟩) (by omega) (by omega) (by omega) (by omega)
  have W3 : wZ (zsz M) M3 τ3 (zsz M) (zsz M2) (zsz M2 + 1) (b2, t2, 0) [] [] := by
    have a1 : lA M3 (zsz M2) = 1 := by unfold lA; rw [g3]
    have a2 : lA M3 (zsz M2 + 1) = 1 := by unfold lA; rw [g5]
    refine ⟨⟨Nat.le_refl _, by omega, (ag3 _ ob2.2.1).trans ob2.2.2⟩, ⟨g0, g1, g2, gn.trans gb2⟩, wL_mk g4 g3 ⟨by omega, by omega⟩ ⟨by omega, on3 _ (Nat.le_refl _) (by omega)⟩, wL_mk g6 g5 ⟨by omega, by omega⟩ ⟨by omega, on3 _ (by omega) (by omega)⟩, ⟨by omega, by omega, by omega⟩, ?_, ?_⟩
    · rw [a1, a2]; exact ⟨by omega, by omega, by omega, by omega⟩
    · rw [a1]; intro z; omega
  have lc3 : lC M3 (zsz M2) = 0 ∧ lC M3 (zsz M2 + 1) = 0 := by unfold lC; rw [g3, g5]; exact ⟨rfl, rfl⟩
  refine sX9_chosen_11 M3 pp _ ⟨a, R3.ps.pt, ?_⟩
  refine R3.need (dg := dg) (j := 24) (by decide) (by decide +kernel) (by omega) (fun e4 M4 R4 k4 => ?_) (fun w e q M' er => ZT.out (nohand rfl) (hn w (pe2.trans (bnd_er e)) _ M' er))
  show Z E YX9_chosen (d + 14 + 1) M4 [(0, vr (some (pp, 8, 0))), (1, vr (some (zsz M, 44, 0))), (2, vi 0)] 22 [] Q
  have pe4 := pe2.trans (bnd_ok e4)
  have pz := R4.ps.pz
  refine sX9_chosen_22 M4 pp _ _ ⟨by omega, ?_⟩
  obtain ⟨⟨y1, y2, y3⟩, ⟨y4, y4'⟩, y5, y6, y7⟩ := R4.ps.2.2.1
  have f5 : fr (fun x k => x = pp ∧ 3 ≤ k) M4 (si M4 pp 6 (gi M4 pp 6 + 1)) := fr.si ⟨rfl, by decide⟩
  have R5 : rk pp a lf n c M τ fl s (geN s.2.2.length) (C.1, C.2.1, C.2.2 + 1) o (si M4 pp 6 (gi M4 pp 6 + 1)) τ3 fl2 (s2.1 + 1, s2.2) (117 + 20) (2390 + 400) := R4.own f5 ⟨⟨y1, y2, y3⟩, ⟨(gi_idx (by decide)).trans y4, y4'⟩, (gi_idx (by decide)).trans y5, by rw [gi_self, y6]; exact nn_add C.2.2 1, by dsimp only; omega⟩
  have k5 : kp τ3 M4 τ3 (si M4 pp 6 (gi M4 pp 6 + 1)) := own_kp R4.ps f5 (fun _ _ z => z.1)
  generalize si M4 pp 6 (gi M4 pp 6 + 1) = M5 at *
  have k35 := k4.tr k5
  have W5 := W3.k k35 z190
  have x5 := n2.mv (m23.tr k35.mvr) z190 (Nat.le_refl _) (Nat.le_refl _)
  have l2 := o2.2.1
  have p2 := pos_le R5.ps.tz (t := s.1) (t' := s2.1) (by omega) (by dsimp only; omega)
  have p2' := pos_le R5.ps.tz (t := s2.1) (t' := s2.1 + 1) (by omega) (Nat.le_refl _)
  obtain ⟨b, hb⟩ : ∃ b, b = zsz M := ⟨_, rfl⟩
  have W5b : wZ (zsz M) M5 τ3 b (zsz M2) (zsz M2 + 1) (b2, t2, 0) [] [] := by rw [hb]; exact W5.1
  have lc5 := W5.2
  generalize zsz M2 = lt at W5b lc3 lc5
  have loop : ∀ (f : Nat) (M2 : zM) (τ2 : Nat → Nat) (fl2 : List Nat) (s3 : pS) (cz cu : Nat) (dd : Bool) (es fs : List (Option zP)) (cs : gCz) (T A Bd At Bt : Nat), 1300 ≤ f + s3.1 → s.1 + 4 ≤ s3.1 → rk pp a lf n c M τ fl s (geN s.2.2.length) (C.1, C.2.1, C.2.2 + 1) o M2 τ2 fl2 s3 cz cu → wZ (zsz M) M2 τ2 b lt (lt + 1) (b2, t2, 0) es fs → wC (zsz M) b M2 τ2 C.2 DE T ((5 * (s3.1 - s.1)) / 4) es fs cs → xE (nS (zsz M) (zsz M2) τ2) M2 DE (b2, t2, 0) v2.1 → 6 * cs.length + max T 1 + 1 ≤ A → A + Bd + (tkn n c s.1).2.2.1 ≤ (tkn n c s3.1).2.2.1 → sN (czB cs) + 2 * sO (czB cs) ≤ 2500 * Bd → s2.1 - s.1 ≤ A → 2 * cs.length + 4 ≤ At → At + Bt + s.1 ≤ s3.1 → sK (czB cs) + 2 * sH (czB cs) ≤ 3 * Bt → 130 ≤ cz → 2600 + 100 * cs.length ≤ cu + 4 * lC M2 lt + 4 * lC M2 (lt + 1) → wN cs dd →
      (pSwi (zOf n c dg) K r C s = bnd (pCas (zOf n c dg) K r (C.1, C.2.1, C.2.2 + 1) f dd (czS cs) s3) fun l s => bnd (nxt' (zOf n c dg) s) fun _ s => prt (gSw v2.1 l) s) → Z E YX9_chosen (d + 14 + 1) M2 [(0, vr (some (pp, 8, 0))), (1, vr (some (b, 44, 0))), (2, vi (boI dd))] 32 [] Q := by
    intro f
    induction f with
    | zero => intro M2 τ2 fl2 s3 cz cu dd es fs cs T A Bd At Bt hf _ R2 _ _ _ _ _ _ _ _ _ _ _ _ _ _; have := R2.ps.tz.t_le; omega
    | succ f ih =>
      intro M2 τ2 fl2 s3 cz cu dd es fs cs T A Bd At Bt hf hs3 R2 W2 C2 x2 hA hA2 hB hh hAt hAt2 hBt hz hu N2 pe
      have tl := R2.ps.tz.t_le
      have zb := R2.z0
      have z2' := R2.ps.z190
      have lc1 := lC_le W2.2.2.1.1
      have lc2 := lC_le W2.2.2.2.1.1
      have el := C2.1
      have kd := tk_kd (dg := dg) R2.ps.tz
      have pz := R2.ps.pz
      have e25 : sgX (nI 25) = 1 := by decide +kernel
      refine iX9_chosen_32 M2 pp b _ ⟨a, R2.ps.pt, ?_⟩
      -- the end
      have endd : isS (zOf n c dg) 25 s3 = true → 16 ≤ pp ∧ (Z E YX10_next (d + 14) (si M2 pp 6 ((gi M2 pp 6) - 1)) (zargs 0 [vr (some (a, 9, 0))]) 0 [] (zafter E YX9_chosen (d + 14 + 1) [(1, vr (some (b, 44, 0)))] 202 3 [] Q)) := fun hs => by
        refine ⟨by omega, ?_⟩
        have ps : pCas (zOf n c dg) K r (C.1, C.2.1, C.2.2 + 1) (f + 1) dd (czS cs) s3 = prt (czS cs) s3 := by rw [pCas]; rw [if_pos hs]
        have pe2 : pSwi (zOf n c dg) K r C s = bnd (nxt' (zOf n c dg) s3) fun _ s => prt (gSw v2.1 (czS cs)) s := pe.trans (bnd_ok ps)
        obtain ⟨⟨y1, y2, y3⟩, ⟨y4, y4'⟩, y5, y6, y7⟩ := R2.ps.2.2.1
        have f5 : fr (fun x k => x = pp ∧ 3 ≤ k) M2 (si M2 pp 6 (gi M2 pp 6 - 1)) := fr.si ⟨rfl, by decide⟩
        have R5 : rk pp a lf n c M τ fl s (geN s.2.2.length) C o (si M2 pp 6 (gi M2 pp 6 - 1)) τ2 fl2 s3 cz cu := R2.own f5 ⟨⟨y1, y2, y3⟩, ⟨(gi_idx (by decide)).trans y4, y4'⟩, (gi_idx (by decide)).trans y5, by rw [gi_self, y6]; exact nn_sub (a := C.2.2 + 1) (b := 1) (by omega), by omega⟩
        have k5 : kp τ2 M2 τ2 (si M2 pp 6 (gi M2 pp 6 - 1)) := own_kp R2.ps f5 (fun _ _ z => z.1)
        generalize si M2 pp 6 (gi M2 pp 6 - 1) = M5 at *
        refine R5.nxt (dg := dg) (.inl (isS_k hs)) (by omega) (fun e6 M6 R6 k6 => ?_) (fun w e q M' er => ZT.out (nohand rfl) (hn w (pe2.trans (bnd_er e)) _ M' er))
        show Z E YX9_chosen (d + 14 + 1) M6 [(1, vr (some (b, 44, 0)))] 205 [] Q
        refine sX9_chosen_205 M6 b ?_
        have k26 := k5.tr k6
        have W6 := (W2.k k26 z190).1
        have zz := k26.z
        obtain ⟨τ7, R7, ag7, on7, m67⟩ := R6.fx 2 (x := b) ⟨by omega, W6.1.2.1, W6.1.2.2⟩ (.inr ⟨rfl, W6.2.1.2.2.2⟩)
        have m7 := m67.tr (fin_mvr (lo := zsz M) (τ := τ7) (M := M6))
        have mm := k26.mvr.tr m7
        have C7 := C2.mv mm z190 (Nat.le_refl _) (Nat.le_refl _)
        have w1 := (W6.2.2.1.t (ag7 lt (Ne.symm W6.2.2.2.2.1.1)) (ag7 _ (Ne.symm W6.2.2.2.2.2.1.1))).lr
        have w2 := (W6.2.2.2.1.t (ag7 (lt + 1) (Ne.symm W6.2.2.2.2.1.2.1)) (ag7 _ (Ne.symm W6.2.2.2.2.2.1.2.1))).lr
        have x7 : xE (nS (zsz M) (zsz M6) (fin (zsz M) τ7)) M6 DE (b2, t2, 0) v2.1 := xE_mono x2 (fun x z => mm.sub (Nat.le_refl _) (Nat.le_refl _) x z) (nS_190 z190) (mm.agS z190 (Nat.le_refl _)) (Nat.le_refl _)
        have bW : nW (zsz M) (zsz M6) (fin (zsz M) τ7) b := ⟨by omega, W6.1.2.1, by rw [fin_k (by rw [on7]; decide)]; exact on7⟩
        have le := sO_le (czB cs) (fun q hq => by
          unfold czB at hq
          obtain ⟨q', hq', rfl⟩ := List.mem_map.mp hq
          obtain ⟨i, hi⟩ := List.mem_iff_getElem?.mp hq'
          exact (C2.2 i q' hi).2.1)
        have p3 := pos_le R7.ps.tz (t := s3.1) (t' := s3.1 + 1) (by omega) (Nat.le_refl _)
        have mx := pos_mx R7.ps.tz
        dsimp only at mx p3
        have n1 := N2.1
        have hnn : cs.length ≤ nTs cs + 1 := by
          cases dd with
          | false => rw [if_neg (by decide)] at n1; omega
          | true => rw [if_pos rfl] at n1; omega
        have big := ar_sw (l := cs.length) (T := T) (A := A) (B := Bd) (ox := 12 * (s2.1 - s.1 - 2)) (P := (tkn n c s3.1).2.2.1 - (tkn n c s.1).2.2.1) (hd := s2.1 - s.1) (m := sN (czB cs)) (o := sO (czB cs)) (by omega) (by omega) (by omega) (by omega) hh hB
        refine hy (gSw v2.1 (czS cs)) (s3.1 + 1, s3.2) (pe2.trans ((bnd_ok e6).trans rfl)) M6 _ fl2 (b, 44, 0) (R7.nd (by omega) (by omega)) ⟨⟨rfl, by show 20 ≤ 44; decide, by show 44 ≤ 44; decide⟩, _, _, _, _, _, ⟨?_, ?_, ?_, ?_, ?_⟩, sn_Switch (De := DE) (C := fun x => zsz M ≤ x ∧ x < zsz M6) (C' := fun x => b < x ∧ x < zsz M6) (ot := 12 * T) bW ⟨bW.1, bW.2.1⟩ (fun x y => ⟨by omega, y.2⟩) (fun y => by omega) W6.2.1.1 W6.2.1.2.1 W6.2.1.2.2.1 x7 o2.2.2.1 w1 el.1 w2 el.2 (fun k q hq => (C7.2 k q hq).1) (fun k q hq => (C7.2 k q hq).2) N2.2.1 hnn (by omega) (by omega) le⟩
        · dsimp only; omega
        · show _ ≤ 2500 * ((tkn n c (s3.1 + 1)).2.2.1 - (tkn n c s.1).2.2.1) + 0
          omega
        · dsimp only; omega
        · omega
        · omega
      -- a case
      have hcol : ∀ (M5 : zM) (τ5 : Nat → Nat) (fl5 : List Nat) (s5 : pS) (cz5 cu5 : Nat) (r3 : Option zP) (xo : Option gEx) (T' A' : Nat), rk pp a lf n c M τ fl s (geN s.2.2.length) (C.1, C.2.1, C.2.2 + 1) o M5 τ5 fl5 s5 cz5 cu5 → s3.1 + 1 ≤ s5.1 → kp τ2 M2 τ5 M5 → cz + 20 ≤ cz5 → cu + 400 ≤ cu5 → ((xo = none ∧ r3 = none) ∨ ∃ y p, xo = some y ∧ r3 = some p ∧ xE (nS (zsz M) (zsz M5) τ5) M5 DE p y ∧ gE (12 * T') y) → (∀ p, r3 = some p → zsto 6 p.2.1) → T ≤ T' → 6 * (cs.length + 1) + max T' 1 + 1 ≤ A' → A' + Bd + (tkn n c s.1).2.2.1 ≤ (tkn n c s5.1).2.2.1 + 1 → A ≤ A' → (xo = none → dd = false) → (pSwi (zOf n c dg) K r C s = bnd (bnd (nedS (zOf n c dg) 46 s5) fun _ s => bnd (pStms r (C.1, C.2.1, C.2.2 + 1) (fun s => isS (zOf n c dg) 25 s || isK (zOf n c dg) 1 s || isK (zOf n c dg) 4 s) K gNo s) fun y s => pCas (zOf n c dg) K r (C.1, C.2.1, C.2.2 + 1) f (dd || xo.isNone) (czS cs ++ [(xo, y)]) s) fun l s => bnd (nxt' (zOf n c dg) s) fun _ s => prt (gSw v2.1 l) s) →
          Z E YX10_need (d + 14) M5 (zargs 0 [vr (some (a, 9, 0)), vi 35]) 0 [] (zafter E YX9_chosen (d + 14 + 1) [(0, vr (some (pp, 8, 0))), (1, vr (some (b, 44, 0))), (2, vi (boI (dd || xo.isNone))), (3, vr r3)] 105 3 [] Q) := fun M5 τ5 fl5 s5 cz5 cu5 r3 xo T' A' R5 l5 k25 hz5 hu5 hx hst hT hA' hA2' hAA hd0 pe5 => by
        have pe5' : pSwi (zOf n c dg) K r C s = bnd (bnd (bnd (nedS (zOf n c dg) 46 s5) fun _ s => pStms r (C.1, C.2.1, C.2.2 + 1) (fun s => isS (zOf n c dg) 25 s || isK (zOf n c dg) 1 s || isK (zOf n c dg) 4 s) K gNo s) fun y s => pCas (zOf n c dg) K r (C.1, C.2.1, C.2.2 + 1) f (dd || xo.isNone) (czS cs ++ [(xo, y)]) s) fun l s => bnd (nxt' (zOf n c dg) s) fun _ s => prt (gSw v2.1 l) s := pe5.trans (congrArg (fun z => bnd z _) (bnd_as _ _ _).symm)
        refine y_cst (dg := dg) (K := K) hS hr hK (by omega) R5.ps (fun y s6 e6 M6 τ6 fl6 bb pd l6 ⟨D6, o6, m6, h6, k6, sz6, x6⟩ => ?_) (fun w e q M' er => hn w (pe5'.trans (bnd_er (bnd_er e))) _ M' (R5.er er (by omega) (by omega)))
        have sa : sat (bnd (nedS (zOf n c dg) 46 s5) fun _ s => pStms r (C.1, C.2.1, C.2.2 + 1) (fun s => isS (zOf n c dg) 25 s || isK (zOf n c dg) 1 s || isK (zOf n c dg) 4 s) K gNo s) fun y s' => adv C.1 s5 s' ∧ gokT y := sat_bnd (sat_ned ((ok_stms hr (c := (C.1, C.2.1, C.2.2 + 1)) K gNo _ gokT_No).mono fun y s' z => ⟨(adv_nx s5).tr z.1, z.2.1⟩))
        have a6 := sa y s6 e6
        have pe6 := pe5'.trans (congrArg (fun z => bnd z _) (bnd_ok e6))
        have R6 := R5.cl pd a6.1
        have k56 := pd.kp
        have k26 := k25.tr k56
        have W6 := W2.k k26 z190
        have z6 := R6.ps.z190
        have z5 := R5.z0
        have zz := k26.z
        have b5 : b < zsz M5 := by have := k25.z; have := W2.1.2.1; omega
        refine ⟨lt, W6.1.2.1.2.1, ?_⟩
        refine R6.ladd (cz' := cz5 + 8) W6.1.2.2.1 (by omega) hst (by omega) (by omega) (by omega) (fun M7 τ7 cu7 R7 u7 w7 m67 ag7 f7 la7 => ?_)
        show Z E YX9_chosen (d + 14 + 1) M7 [(0, vr (some (pp, 8, 0))), (1, vr (some (b, 44, 0))), (2, vi (boI (dd || xo.isNone))), (4, vr (some (bb, 20, 0)))] 174 [vi 1] Q
        have W7 := W6.1.a1 w7 f7 ag7 la7 z6
        have lc7 := lC_le w7.1
        rw [List.length_append] at lc7
        have lc7 : 4 * lC M7 lt ≤ 40 + 8 * (es.length + 1) := lc7
        refine sX9_chosen_174 M7 pp b _ bb _ ⟨lt + 1, W7.1.2.1.2.2.1, ?_⟩
        have c6 := W6.2
        have c7 := W7.2
        refine R7.ladd (cz' := cz5 + 7) W7.1.2.2.2.1 (by omega) (fun p e => by cases e; exact sto_n (by show 20 ≤ 20; decide) (by show 20 ≤ 44; decide)) (by omega) (by omega) (by omega) (fun M8 τ8 cu8 R8 u8 w8 m78 ag8 f8 la8 => ?_)
        show Z E YX9_chosen (d + 14 + 1) M8 [(0, vr (some (pp, 8, 0))), (1, vr (some (b, 44, 0))), (2, vi (boI (dd || xo.isNone)))] 184 [vi 1] Q
        have W8 := W7.1.a2 w8 f8 ag8 la8 R7.ps.z190
        have c8 := W8.2
        refine sX9_chosen_184 M8 pp b _ _ ?_
        have m68 := m67.tr m78
        have zz8 := m68.1.1.1
        have z56 := k56.z
        obtain ⟨q1, q2, q3, q4, q5⟩ := sz6
        dsimp only at q1 q2 q3
        have C8 := (C2.mv (D' := (5 * (s6.1 - s.1)) / 4) (k26.mvr.tr m68) z190 hT (by omega)).app (x := r3) (pb := bb) (q := ((o6, m6, h6, k6), (xo, y))) (hx.imp id fun ⟨y, p, z1, z2, z3, z4⟩ => ⟨y, p, z1, z2, xE_mono z3 (fun x z => (k56.mvr.tr m68).sub (Nat.le_refl _) (Nat.le_refl _) x z) (nS_190 z190) ((k56.mvr.tr m68).agS z190 (Nat.le_refl _)) (Nat.le_refl _), z4⟩) ⟨q4, q5⟩ a6.2 ((x6.mv (lo' := zsz M) m68 R5.ps.z190 (by omega)).up (fun x y => ⟨by omega, by omega⟩) (by omega) (Nat.le_refl _) (Nat.le_refl _) (Nat.le_refl _) (Nat.le_refl _))
        have x8 : xE (nS (zsz M) (zsz M8) τ8) M8 DE (b2, t2, 0) v2.1 := xE_mono x2 (fun x z => (k26.mvr.tr m68).sub (Nat.le_refl _) (Nat.le_refl _) x z) (nS_190 z190) ((k26.mvr.tr m68).agS z190 (Nat.le_refl _)) (Nat.le_refl _)
        have sO' := sO_app (czB cs) ((o6, m6, h6, k6), y)
        dsimp only at sO'
        have p5 := pos_le R8.ps.tz (t := s5.1) (t' := s5.1 + 1) (by omega) (by omega)
        have p6 := pos_le R8.ps.tz (t := s5.1 + 1) (t' := s6.1) (by omega) (Nat.le_refl _)
        refine ih M8 τ8 fl6 s6 _ cu8 (dd || xo.isNone) _ _ (cs ++ [((o6, m6, h6, k6), (xo, y))]) T' A' (Bd + ((tkn n c s6.1).2.2.1 - (tkn n c (s5.1 + 1)).2.2.1)) (At + (s5.1 + 1 - s3.1)) (Bt + (s6.1 - (s5.1 + 1))) (by omega) (by omega) R8 W8.1 C8 x8 ?_ (by omega) ?_ (by omega) ?_ (by omega) ?_ (by omega) ?_ (N2.app (q := ((o6, m6, h6, k6), (xo, y))) hd0) ?_
        · rw [List.length_append]; exact hA'
        · rw [czB_app]; show sN (czB cs ++ [((o6, m6, h6, k6), y)]) + 2 * sO (czB cs ++ [((o6, m6, h6, k6), y)]) ≤ _; omega
        · rw [List.length_append]; show 2 * (cs.length + 1) + 4 ≤ _; omega
        · rw [czB_app]; show sK (czB cs ++ [((o6, m6, h6, k6), y)]) + 2 * sH (czB cs ++ [((o6, m6, h6, k6), y)]) ≤ _; omega
        · rw [List.length_append]; show 2600 + 100 * (cs.length + 1) ≤ _; omega
        · rw [czS_app]; exact pe6
      have caseT : ¬ isS (zOf n c dg) 25 s3 = true → ¬ (isK (zOf n c dg) 4 s3 && dd) = true → Z E YX10_takesWord (d + 14) M2 (zargs 0 [vr (some (a, 9, 0)), vi 4]) 0 [] (zafter E YX9_chosen (d + 14 + 1) [(0, vr (some (pp, 8, 0))), (1, vr (some (b, 44, 0))), (2, vi (boI dd)), (3, vr none)] 74 3 [] Q) := fun h25 h4 => by
        have pe1 := pe.trans (congrArg (fun z => bnd z _) (cas_nx h25 h4))
        refine R2.takesW (dg := dg) (by omega) (fun hk => ?_) (fun hk e5 M5 R5 k5 => ?_) (fun hk w e q M' er => ZT.out (nohand rfl) (hn w (pe1.trans (bnd_er (bnd_er ((if_pos hk).trans (bnd_er e))))) _ M' er))
        · have hk : isK (zOf n c dg) 4 s3 = false := hk
          have pe2 : pSwi (zOf n c dg) K r C s = bnd (nedK (zOf n c dg) 1 s3) fun _ s => bnd (r.expr true (C.1, C.2.1, C.2.2 + 1) s) fun e s => bnd (bnd (nedS (zOf n c dg) 46 s) fun _ s => bnd (pStms r (C.1, C.2.1, C.2.2 + 1) (fun s => isS (zOf n c dg) 25 s || isK (zOf n c dg) 1 s || isK (zOf n c dg) 4 s) K gNo s) fun y s => pCas (zOf n c dg) K r (C.1, C.2.1, C.2.2 + 1) f (dd || (some e.1).isNone) (czS cs ++ [(some e.1, y)]) s) fun l s => bnd (nxt' (zOf n c dg) s) fun _ s => prt (gSw v2.1 l) s := by
            refine pe1.trans ?_
            rw [if_neg (by rw [hk]; decide), bnd_as, bnd_as]
            refine bnd_cg fun _ s => ?_
            rw [bnd_as]
            rfl
          show Z E YX9_chosen (d + 14 + 1) M2 [(0, vr (some (pp, 8, 0))), (1, vr (some (b, 44, 0))), (2, vi (boI dd)), (3, vr none)] 77 [vi 0] Q
          refine sX9_chosen_77 M2 pp b _ _ ?_
          rw [if_pos rfl]
          refine ⟨a, R2.ps.pt, ?_⟩
          refine R2.needW (dg := dg) (by omega) (fun e5 M5 R5 k5 => ?_) (fun w e q M' er => ZT.out (nohand rfl) (hn w (pe2.trans (bnd_er e)) _ M' er))
          show Z E YX9_chosen (d + 14 + 1) M5 [(0, vr (some (pp, 8, 0))), (1, vr (some (b, 44, 0))), (2, vi (boI dd))] 93 [] Q
          refine sX9_chosen_93 M5 pp b _ ?_
          have pe5 := pe2.trans (bnd_ok e5)
          have kw : isK (zOf n c dg) 1 s3 = true := by
            cases hb : isK (zOf n c dg) 1 s3 with
            | true => rfl
            | false => unfold nedK at e5; rw [if_neg (by rw [hb]; decide)] at e5; cases e5
          refine R5.val (hE true).x (by omega) (by omega) (by omega) rfl (hr.expr true (C.1, C.2.1, C.2.2 + 1) _) (fun v s' z => z.1) (fun v6 s6 e6 o6 M6 τ6 fl6 b6 t6 R6 k6 n6 => ?_) (fun w e q M' er => ZT.out (nohand rfl) (hn w (pe5.trans (bnd_er e)) _ M' er))
          show Z E YX9_chosen (d + 14 + 1) M6 [(0, vr (some (pp, 8, 0))), (1, vr (some (b, 44, 0))), (2, vi (boI dd))] 98 [vr (some (b6, t6, 0))] Q
          refine sX9_chosen_98 M6 pp b _ _ ⟨a, R6.ps.pt, ?_⟩
          have pe6 := pe5.trans (bnd_ok e6)
          have l6 := o6.2.1
          dsimp only at l6
          have pk := pos_kw R6.ps.tz (t := s3.1) (by omega) (isK_k kw).1 (j := 1) (m := 4) (isK_k kw).2 (by decide) (by decide +kernel)
          have p6 := pos_le R6.ps.tz (t := s3.1 + 1) (t' := s6.1) (by omega) (Nat.le_refl _)
          have edd : (dd || (some v6.1).isNone) = dd := by cases dd <;> rfl
          have := hcol M6 τ6 fl6 s6 _ _ (some (b6, t6, 0)) (some v6.1) (max T (s6.1 - (s3.1 + 1))) (A + 4 + (s6.1 - (s3.1 + 1)) + 1) R6 (by omega) (k5.tr k6) (by omega) (by omega) (.inr ⟨v6.1, _, rfl, rfl, n6.2.1, o6.2.2.1.mono (by have := Nat.le_max_right T (s6.1 - (s3.1 + 1)); omega)⟩) (fun p e => by cases e; exact sto_n (by have := n6.1.2.1; dsimp only at this ⊢; omega) (by have := n6.1.2.2; dsimp only at this ⊢; omega)) (Nat.le_max_left _ _) (ar_c1 hA (by omega) (Nat.le_refl _)) (by omega) (by omega) (fun z => by cases z) pe6
          rw [edd] at this
          exact this
        · have hk : isK (zOf n c dg) 4 s3 = true := hk
          have d0 : dd = false := by
            cases dd with
            | false => rfl
            | true => exact absurd (by rw [hk]; rfl) h4
          subst d0
          have pe2 : pSwi (zOf n c dg) K r C s = bnd (nxt' (zOf n c dg) s3) fun _ s => bnd (bnd (nedS (zOf n c dg) 46 s) fun _ s => bnd (pStms r (C.1, C.2.1, C.2.2 + 1) (fun s => isS (zOf n c dg) 25 s || isK (zOf n c dg) 1 s || isK (zOf n c dg) 4 s) K gNo s) fun y s => pCas (zOf n c dg) K r (C.1, C.2.1, C.2.2 + 1) f (false || (none : Option gEx).isNone) (czS cs ++ [(none, y)]) s) fun l s => bnd (nxt' (zOf n c dg) s) fun _ s => prt (gSw v2.1 l) s := by
            refine pe1.trans ?_
            rw [if_pos hk, bnd_as, bnd_as]
            rfl
          have pe5 := pe2.trans (bnd_ok e5)
          show Z E YX9_chosen (d + 14 + 1) M5 [(0, vr (some (pp, 8, 0))), (1, vr (some (b, 44, 0))), (2, vi (boI false)), (3, vr none)] 77 [vi 1] Q
          refine sX9_chosen_77 M5 pp b _ _ ?_
          rw [if_neg (by decide)]
          refine ⟨a, R5.ps.pt, ?_⟩
          have pk := pos_kw R5.ps.tz (t := s3.1) (Nat.lt_succ_self _) (isK_k hk).1 (j := 4) (m := 7) (isK_k hk).2 (by decide) (by decide +kernel)
          exact hcol M5 τ2 fl2 _ _ _ none none T (A + 8) R5 (Nat.le_refl _) k5 (by omega) (by omega) (.inl ⟨rfl, rfl⟩) (fun p e => by cases e) (Nat.le_refl _) (ar_c2 hA (Nat.le_refl _)) (by dsimp only; omega) (by omega) (fun _ => rfl) pe5
      have flt3 : isS (zOf n c dg) 25 s3 = false → (isK (zOf n c dg) 4 s3 && dd) = true → Z E YX10_fault (d + 14) M2 (zargs 0 [vr (some (a, 9, 0)), vi 3]) 0 [] (zafter E YX9_chosen (d + 14 + 1) [] 63 3 [] Q) := fun h25 h4 => by
        refine R2.flt (dg := dg) (k := 3) rfl (by omega) (fun q M' er => ?_)
        show Z E YX9_chosen (d + 14 + 1) M' [] 66 [vr (some (q, 12, 0))] Q
        refine sX9_chosen_66 M' _ ⟨q, rfl, hn _ (pe.trans (bnd_er ?_)) _ M' er⟩
        rw [pCas]
        rw [if_neg (by rw [h25]; decide), if_pos h4]
        rfl
      have rest : isS (zOf n c dg) 25 s3 = false → (if (gi M2 a 3) = 2 then (if (gi M2 a 6) = 4 then (if boI dd = 0 then (Z E YX10_takesWord (d + 14) M2 (zargs 0 [vr (some (a, 9, 0)), vi 4]) 0 [] (zafter E YX9_chosen (d + 14 + 1) [(0, vr (some (pp, 8, 0))), (1, vr (some (b, 44, 0))), (2, vi (boI dd)), (3, vr none)] 74 3 [] Q)) else (Z E YX10_fault (d + 14) M2 (zargs 0 [vr (some (a, 9, 0)), vi 3]) 0 [] (zafter E YX9_chosen (d + 14 + 1) [] 63 3 [] Q))) else (Z E YX10_takesWord (d + 14) M2 (zargs 0 [vr (some (a, 9, 0)), vi 4]) 0 [] (zafter E YX9_chosen (d + 14 + 1) [(0, vr (some (pp, 8, 0))), (1, vr (some (b, 44, 0))), (2, vi (boI dd)), (3, vr none)] 74 3 [] Q))) else (Z E YX10_takesWord (d + 14) M2 (zargs 0 [vr (some (a, 9, 0)), vi 4]) 0 [] (zafter E YX9_chosen (d + 14 + 1) [(0, vr (some (pp, 8, 0))), (1, vr (some (b, 44, 0))), (2, vi (boI dd)), (3, vr none)] 74 3 [] Q))) := fun h25 => by
        have n25 : ¬ isS (zOf n c dg) 25 s3 = true := by rw [h25]; decide
        by_cases h2 : gi M2 a 3 = 2
        · rw [if_pos h2]
          have e4 := tk_k (dg := dg) R2.ps.tz h2 4
          by_cases h6 : gi M2 a 6 = 4
          · rw [if_pos h6]
            cases dd with
            | false =>
              rw [if_pos (by decide)]
              exact caseT n25 (by simp)
            | true =>
              rw [if_neg (by decide)]
              exact flt3 h25 (by rw [e4, decide_eq_true h6]; rfl)
          · rw [if_neg h6]
            exact caseT n25 (by rw [e4, decide_eq_false h6]; simp)
        · rw [if_neg h2]
          exact caseT n25 (by rw [tk_nk (dg := dg) R2.ps.tz h2 4]; simp)
      by_cases h3 : gi M2 a 3 = 5
      · rw [if_pos h3]
        have e := tk_s (dg := dg) (j := 25) R2.ps.tz h3 (by decide) e25
        by_cases h6 : gi M2 a 6 = 1
        · rw [if_pos h6]
          exact endd (by rw [show isS (zOf n c dg) 25 s3 = decide (gi M2 a 6 = 1) from e]; exact decide_eq_true h6)
        · rw [if_neg h6]
          exact rest (by rw [show isS (zOf n c dg) 25 s3 = decide (gi M2 a 6 = 1) from e]; exact decide_eq_false h6)
      · rw [if_neg h3]
        exact rest (tk_ns (dg := dg) (j := 25) R2.ps.tz h3 (by decide))
  have hC0 : wC (zsz M) b M5 τ3 C.2 DE 0 ((5 * (s2.1 + 1 - s.1)) / 4) [] [] [] := ⟨⟨rfl, rfl⟩, fun k q hq => by cases hq⟩
  rw [← hb]
  refine loop K M5 τ3 fl2 (s2.1 + 1, s2.2) _ _ false [] [] [] 0 ((tkn n c (s2.1 + 1)).2.2.1 - (tkn n c s.1).2.2.1) 0 (s2.1 + 1 - s.1) 0 (by dsimp only; omega) (by dsimp only; omega) R5 W5b hC0 x5.2.1 ?_ (by dsimp only; omega) (Nat.zero_le _) (by omega) ?_ (by dsimp only; omega) (Nat.zero_le _) (by omega) ?_ ⟨rfl, fun k k' q q' hk => (by cases hk), fun _ k q hk => (by cases hk)⟩ pe4
  · show 6 * 0 + max 0 1 + 1 ≤ _
    omega
  · show 2 * 0 + 4 ≤ _
    omega
  · show 2600 + 100 * 0 ≤ _
    omega
end
