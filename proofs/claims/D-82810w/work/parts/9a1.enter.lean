/-! FUNCTIONS as the machine sees them: where one begins, its parameters, its variables, its own name (or -1) -/
abbrev mG : Type := List (Nat × Nat × List Nat × Int32)
def xG (M : zM) (G : mG) : Prop := gr M 16 8 = some (28, 11, 0) ∧ gi M 28 2 = nI G.length ∧ ∃ e m, gr M 28 1 = some (e, 106, m) ∧ G.length ≤ m ∧ 190 ≤ e ∧ ∀ g q, G[g]? = some q → ∃ b v l, (gr M e g = some (b, 10, 0) ∧ gr M b 4 = some (v, 100, l) ∧ 190 ≤ b ∧ 190 ≤ v) ∧ gi M b 0 = nI g ∧ gi M b 5 = nI q.2.2.1.length ∧ gi M b 6 = nI q.2.1 ∧ gi M b 8 = q.2.2.2 ∧ gi M b 9 = nI q.1 ∧ q.2.2.1.length ≤ l ∧ ∀ k x, q.2.2.1[k]? = some x → gi M v k = nI x
def tG (T : zM) (G : mG) : Prop := gi T 97 32 = nI G.length ∧ ∀ g q, G[g]? = some q → gi T 127 g = nI q.1 ∧ gi T 130 g = nI q.2.2.1.length ∧ gi T 117 g = nI q.2.1 ∧ (∀ k x, q.2.2.1[k]? = some x → gi T 129 (100 * g + k) = nI x) ∧ ∀ k x, q.2.2.1[k]? = some x → q.2.1 ≤ k → ((gi T 115 g = 0 ∧ nI x = gi T 114 g) ↔ nI x = q.2.2.2)
/-- what holds of all functions; n names -/
def wG (G : mG) (n : Nat) : Prop := 1 ≤ G.length ∧ G.length ≤ 12 ∧ ∀ q ∈ G, q.1 < 600 ∧ q.2.2.1.length ≤ 100 ∧ q.2.1 ≤ q.2.2.1.length ∧ ∀ x ∈ q.2.2.1, x < n
theorem nn_nss {n : Nat} (h : n < 32768) : vp_nar .short (nI n).toInt16.toInt32 = nI n := by rw [nn_ns2 h, nn_ns h]
/-- what a variable is when its function is entered -/
def m_sv (q : Nat × Nat × List Nat × Int32) (f : Nat) (as : List mC) (k x : Nat) : Int32 × Int32 :=
  if k < q.2.1 then (match as[k]? with | some c => (c.1, c.2.1) | none => (0, 0)) else if nI x = q.2.2.2 then (7, nI f) else (0, 0)
def m_vars (q : Nat × Nat × List Nat × Int32) (f sc : Nat) (as : List mC) : List Nat → Nat → mA → Bool × mA
  | [], _, A => (true, A)
  | x :: vs, k, A => match a_set A sc (nI x) (m_sv q f as k x).1 (m_sv q f as k x).2 with
    | (false, A') => (false, A')
    | (true, A') => m_vars q f sc as vs (k + 1) A'
/-- the new scope's heap; false: no room -/
def m_ent (A : mA) (f g : Nat) (q : Nat × Nat × List Nat × Int32) (as : List mC) : Bool × mA :=
  if aO A = 300 then (false, A) else m_vars q f (aO A) as q.2.2.1 0 (a_new A (-1) (29 + 6 * (g - 1)) 3 (gi (aT A) 140 f))
theorem mval_cg {A A' : mA} {s v : Int32} (eL : aL A' = aL A) (eO : aO A' = aO A) (eT : ∀ k, gi (aT A') 141 k = gi (aT A) 141 k) (h : mval A s v) : mval A' s v := by
  refine ⟨by rw [eL, eO]; exact h.1, fun h7 => ?_⟩
  obtain ⟨j, j1, j2, j3⟩ := h.2 h7
  exact ⟨j, j1, by rw [eO]; exact j2, by rw [eT]; exact j3⟩
theorem mval_new {A : mA} {pr st lk : Int32} {lb : Nat} {s v : Int32} (h : mval A s v) : mval (a_new A pr lb st lk) s v := by
  refine ⟨mok_mono (Nat.le_refl _) (Nat.le_succ _) h.1, fun h7 => ?_⟩
  obtain ⟨j, j1, j2, j3⟩ := h.2 h7
  refine ⟨j, j1, Nat.lt_succ_of_lt j2, ?_⟩
  rw [a_new_srt _ _ _ _ _ _ _ (by omega), if_neg (by omega)]
  exact j3
theorem mval_0 {A : mA} : mval A 0 0 := ⟨⟨0, rfl, by omega, by omega, by omega⟩, fun h => absurd h (by decide)⟩
theorem m_sv_ok {A : mA} {q : Nat × Nat × List Nat × Int32} {f k x : Nat} {as : List mC} (ha : ∀ c ∈ as, mval A c.1 c.2.1) (hf : mval A 7 (nI f)) : mval A (m_sv q f as k x).1 (m_sv q f as k x).2 := by
  unfold m_sv
  by_cases h1 : k < q.2.1
  · rw [if_pos h1]
    cases h2 : as[k]? with
    | none => exact mval_0
    | some c => exact ha c (List.mem_of_getElem? h2)
  · rw [if_neg h1]
    by_cases h2 : nI x = q.2.2.2
    · rw [if_pos h2]; exact hf
    · rw [if_neg h2]; exact mval_0
theorem xG_fr {M M' : zM} {G : mG} {P : Nat → Nat → Prop} (h : xG M G) (f : fr P M M') (hP : ∀ a k, P a k → a < 190 ∧ a ≠ 28 ∧ ¬ (a = 16 ∧ k = 8)) : xG M' G := by
  obtain ⟨h1, h2, e, m, h3, h4, h5, H⟩ := h
  refine ⟨(f.2 16 8 (fun z => (hP _ _ z).2.2 ⟨rfl, rfl⟩)).2.2.trans h1, (f.2 28 2 (fun z => (hP _ _ z).2.1 rfl)).1.trans h2, e, m, (f.2 28 1 (fun z => (hP _ _ z).2.1 rfl)).2.2.trans h3, h4, h5, fun g q hq => ?_⟩
  obtain ⟨b, v, l, ⟨r1, r2, r3, r4⟩, r5, r6, r7, r8, r9, r10, r11⟩ := H g q hq
  have np : ∀ a k, 190 ≤ a → ¬ P a k := fun a k ha z => by have := hP _ _ z; omega
  exact ⟨b, v, l, ⟨(f.2 e g (np _ _ h5)).2.2.trans r1, (f.2 b 4 (np _ _ r3)).2.2.trans r2, r3, r4⟩, (f.2 b 0 (np _ _ r3)).1.trans r5, (f.2 b 5 (np _ _ r3)).1.trans r6, (f.2 b 6 (np _ _ r3)).1.trans r7, (f.2 b 8 (np _ _ r3)).1.trans r8, (f.2 b 9 (np _ _ r3)).1.trans r9, r10, fun k x hx => (f.2 v k (np _ _ r4)).1.trans (r11 k x hx)⟩
theorem cX_lt {a k : Nat} (q : cX a k) : a < 67 ∧ a ≠ 28 ∧ a ≠ 30 ∧ a ≠ 31 ∧ a ≠ 34 ∧ ¬ (a = 16 ∧ (k = 8 ∨ 51 ≤ k ∧ k ≤ 55)) := by
  rcases q with q | q | q | q | q
  · unfold hpX at q; omega
  · unfold stX at q; omega
  · unfold scx at q; omega
  · rcases q with q | q
    · unfold fFX at q; omega
    · exact q.elim
  · exact q.elim
theorem xG_cX {M M' : zM} {G : mG} (h : xG M G) (f : fr cX M M') : xG M' G := xG_fr h f (fun a k q => by have := cX_lt q; omega)
theorem gi_ne {M : zM} {a k b j : Nat} {v : Int32} (h : ¬ (b = a ∧ j = k)) : gi (si M a k v) b j = gi M b j := by
  rw [gi_si]
  by_cases e : b = a
  · rw [if_pos e, if_neg (fun z => h ⟨e, z⟩)]
  · rw [if_neg e]
theorem tG_fr {T T' : zM} {G : mG} {P : Nat → Nat → Prop} (h : tG T G) (f : fr P T T') (hP : ∀ a k, P a k → ¬ (a = 97 ∧ k = 32) ∧ a ≠ 127 ∧ a ≠ 130 ∧ a ≠ 117 ∧ a ≠ 129 ∧ a ≠ 115 ∧ a ≠ 114) : tG T' G := by
  obtain ⟨h1, H⟩ := h
  refine ⟨(f.2 97 32 (fun z => (hP _ _ z).1 ⟨rfl, rfl⟩)).1.trans h1, fun g q hq => ?_⟩
  obtain ⟨r1, r2, r3, r4, r5⟩ := H g q hq
  refine ⟨(f.2 127 g (fun z => by have := hP _ _ z; omega)).1.trans r1, (f.2 130 g (fun z => by have := hP _ _ z; omega)).1.trans r2, (f.2 117 g (fun z => by have := hP _ _ z; omega)).1.trans r3, fun k x hx => (f.2 129 _ (fun z => by have := hP _ _ z; omega)).1.trans (r4 k x hx), fun k x hx hk => ?_⟩
  rw [(f.2 115 g (fun z => by have := hP _ _ z; omega)).1, (f.2 114 g (fun z => by have := hP _ _ z; omega)).1]
  exact r5 k x hx hk
theorem tG_cT {T T' : zM} {G : mG} (h : tG T G) (f : fr cT T T') : tG T' G := tG_fr h f (fun a k q => by
  unfold cT hpT stT scr fUT fFT at q
  omega)
section
variable {E : zE} {d : Nat} {T M : zM} {Q : zO → zM → Prop} {A : mA} {r : mF} {F : List mF} {G : mG}
/-- get of the component's list of functions -/
theorem xm_fget {g : Nat} {q : Nat × Nat × List Nat × Int32} (h : xG M G) (hl : G.length ≤ 12) (hg : G[g]? = some q) (hQ : ∀ b v l, gr M b 4 = some (v, 100, l) → gi M b 0 = nI g → gi M b 5 = nI q.2.2.1.length → gi M b 6 = nI q.2.1 → gi M b 8 = q.2.2.2 → gi M b 9 = nI q.1 → q.2.2.1.length ≤ l → 190 ≤ b → 190 ≤ v → (∀ k x, q.2.2.1[k]? = some x → gi M v k = nI x) → Q (.inl (some (vr (some (b, 10, 0))))) M) : Z E YJ2_get (d + 2) M [(0, vr (some (28, 11, 0))), (1, vi (nI g))] 0 [] Q := by
  obtain ⟨h1, h2, e, m, h3, h4, h5, H⟩ := h
  have hgl : g < G.length := (List.getElem?_eq_some_iff.mp hg).1
  obtain ⟨b, v, l, ⟨r1, r2, r3, r4⟩, r5, r6, r7, r8, r9, r10, r11⟩ := H g q hg
  refine sJ2_get_0 M _ _ ?_
  rw [h2]
  refine sJ13_checkIndex_0 M _ _ ?_
  refine zs_pre (by rw [nn_0, nn_lt (by omega) (by omega)]; omega) (by rw [nn_lt (by omega) (by omega)]; exact hgl) ?_
  show Z E YJ13_checkIndex (d + 1) M [] 6 [vi (nI g)] _
  refine sJ13_checkIndex_6 M _ ?_
  show Z E YJ2_get (d + 2) M [(0, vr (some (28, 11, 0))), (1, vi (nI g))] 8 [vi (nI g)] Q
  refine iJ2_get_8 M _ _ _ ⟨e, m, h3, by rw [nn_in (by omega)]; omega, ?_⟩
  rw [nn_cl (by omega), r1]
  exact hQ b v l r2 r5 r6 r7 r8 r9 r10 r3 r4 r11
/-- a new frame on top -/
theorem xm_comes {g : Nat} {q : Nat × Nat × List Nat × Int32} {sc ts tv md : Int32} (hw : cw M) (xf : xFs M F) (ok : mFok F) (hF : F.length < 24) (h : xG M G) (wg : wG G 32768) (hg : G[g]? = some q) (hsc : vp_nar .short sc.toInt16.toInt32 = sc) (hts : vp_nar .byte ts.toInt8.toInt32 = ts) (hmd : vp_nar .short md.toInt16.toInt32 = md) (hQ : ∀ M', xFs M' (((nI g, sc, ts, tv, md), q.1, [], []) :: F) → fr fFX M M' → Q (.inl none) M') : Z E YX1_comes (d + 3) M [(0, zX16), (1, vi (nI g)), (2, vi sc), (3, vi ts), (4, vi tv), (5, vi md)] 0 [] Q := by
  obtain ⟨⟨x1, x2, x3⟩, x4⟩ := id xf
  obtain ⟨w1, w2, w3⟩ := wg
  have hgl : g < G.length := (List.getElem?_eq_some_iff.mp hg).1
  have hq := w3 q (List.mem_of_getElem? hg)
  have ht := mtot_le ok
  refine iX1_comes_0 M _ _ _ _ _ hw ?_
  rw [x1, hsc]
  simp (disch := omega) only [nn_add, nn_addl, nn_ladd, nn_mul, nn_lmul, nn_mull, nn_sub, nn_subl, nn_lsub, nn_lt, nn_le, nn_eq, nn_ltl, nn_llt, nn_lel, nn_lle, nn_eql, nn_leq, nn_m1, nn_1m, nn_ltm, nn_mlt, nn_mle, nn_lem, nn_cl, nn_in, nn_ns, nn_ns2, nn_nb, nn_nb2, nn_s1, nn_s2, nn_b1, nn_b2]
  refine ⟨by omega, 28, h.1, ?_⟩
  have f1 : fr fFX M (si (si M 57 F.length (nI g)) 58 F.length sc) := (fr.si (fFX_i (by omega))).tr (fr.si (fFX_i (by omega)))
  have hG1 : xG (si (si M 57 F.length (nI g)) 58 F.length sc) G := xG_cX h f1.cX3
  have e49 : gi (si (si M 57 F.length (nI g)) 58 F.length sc) 16 49 = nI F.length := (gi_oth (by decide)).trans ((gi_oth (by decide)).trans x1)
  have e38 : gi (si (si M 57 F.length (nI g)) 58 F.length sc) 16 38 = nI (mtot F) := (gi_oth (by decide)).trans ((gi_oth (by decide)).trans x2)
  have e50 : gi (si (si M 57 F.length (nI g)) 58 F.length sc) 16 50 = nI (mtt F) := (gi_oth (by decide)).trans ((gi_oth (by decide)).trans x3)
  have c57 : gi (si (si M 57 F.length (nI g)) 58 F.length sc) 57 F.length = nI g := by rw [gi_oth (by decide)]; exact gi_self ..
  have c58 : gi (si (si M 57 F.length (nI g)) 58 F.length sc) 58 F.length = sc := gi_self ..
  have lo1 : ∀ a k, loX F.length (mtot F) (mtt F) a k → gi (si (si M 57 F.length (nI g)) 58 F.length sc) a k = gi M a k := fun a k z => by
    unfold loX at z
    simp only [gi_si]
    grind
  generalize si (si M 57 F.length (nI g)) 58 F.length sc = M1 at *
  refine xm_fget hG1 w2 hg (fun b v l r1 r2 r3 r4 r5 r6 r7 r8 r9 r10 => ?_)
  show Z E YX1_comes (d + 3) M1 [(0, zX16), (3, vi ts), (4, vi tv), (5, vi md)] 38 [vr (some (b, 10, 0)), vi (nI F.length), vr (some (59, 102, 24))] Q
  refine iX1_comes_38 M1 _ _ _ _ _ (cw_fFX hw f1) ⟨b, rfl, ?_⟩
  rw [e49, e38, e50, r6, hts, hmd]
  simp (disch := omega) only [nn_add, nn_addl, nn_ladd, nn_mul, nn_lmul, nn_mull, nn_sub, nn_subl, nn_lsub, nn_lt, nn_le, nn_eq, nn_ltl, nn_llt, nn_lel, nn_lle, nn_eql, nn_leq, nn_m1, nn_1m, nn_ltm, nn_mlt, nn_mle, nn_lem, nn_cl, nn_in, nn_ns, nn_ns2, nn_nb, nn_nb2, nn_s1, nn_s2, nn_b1, nn_b2]
  refine ⟨by omega, by omega, hQ _ ⟨⟨gi_self .., ?_, ?_⟩, ⟨⟨?_, ?_, ?_, ?_, ?_⟩, ?_, ⟨?_, trivial⟩, ?_, trivial⟩, xFr_lo ok (fun a k z => ?_) x4⟩ ?_⟩
  · rw [gi_idx (by decide), gi_oth (by decide), gi_oth (by decide), gi_oth (by decide), gi_oth (by decide), gi_oth (by decide), gi_oth (by decide), e38, mtot_c]; congr 1; show _ = 0 + _; omega
  · rw [gi_idx (by decide), gi_oth (by decide), gi_oth (by decide), gi_oth (by decide), gi_oth (by decide), gi_oth (by decide), gi_oth (by decide), e50, mtt_c]; congr 1; show _ = 0 + _; omega
  · rw [gi_oth (by decide), gi_oth (by decide), gi_oth (by decide), gi_oth (by decide), gi_oth (by decide), gi_oth (by decide), gi_oth (by decide)]; exact c57
  · rw [gi_oth (by decide), gi_oth (by decide), gi_oth (by decide), gi_oth (by decide), gi_oth (by decide), gi_oth (by decide), gi_oth (by decide)]; exact c58
  · rw [gi_oth (by decide), gi_oth (by decide)]; exact gi_self ..
  · rw [gi_oth (by decide)]; exact gi_self ..
  · rw [gi_oth (by decide), gi_oth (by decide), gi_oth (by decide), gi_oth (by decide)]; exact gi_self ..
  · rw [gi_oth (by decide), gi_oth (by decide), gi_oth (by decide), gi_oth (by decide), gi_oth (by decide), gi_oth (by decide)]; exact gi_self ..
  · rw [gi_oth (by decide), gi_oth (by decide), gi_oth (by decide)]; exact gi_self ..
  · rw [gi_oth (by decide), gi_oth (by decide), gi_oth (by decide), gi_oth (by decide), gi_oth (by decide)]; exact gi_self ..
  · rw [← lo1 a k z]
    unfold loX at z
    simp only [gi_si]
    grind
  · exact (((((((f1.tr (fr.si (fFX_i (by omega)))).tr (fr.si (fFX_i (by omega)))).tr (fr.si (fFX_i (by omega)))).tr (fr.si (fFX_i (by omega)))).tr (fr.si (fFX_i (by omega)))).tr (fr.si (fFX_i (by omega)))).tr (fr.si (by unfold fFX; omega)))
/-- a new frame of the twin's -/
theorem tm_comes {g : Nat} {q : Nat × Nat × List Nat × Int32} {sc ts tv md : Int32} (xf : tFs T F) (ok : mFok F) (hF : F.length < 24) (h : tG T G) (wg : wG G 32768) (hg : G[g]? = some q) (hQ : ∀ T', tFs T' (((nI g, sc, ts, tv, md), q.1, [], []) :: F) → fr fFT T T' → Q (.inl none) T') : Zm E YX8_enterFrame d T [(0, T97), (1, vi (nI g)), (2, vi sc), (3, vi ts), (4, vi tv), (5, vi md)] 0 [] Q := by
  obtain ⟨w1, w2, w3⟩ := wg
  have hgl : g < G.length := (List.getElem?_eq_some_iff.mp hg).1
  have r1 := (h.2 g q hg).1
  refine iX8_enterFrame_0 T _ _ _ _ _ ?_
  rw [xf.1]
  simp (disch := omega) only [r1, nn_add, nn_addl, nn_ladd, nn_mul, nn_lmul, nn_mull, nn_sub, nn_subl, nn_lsub, nn_lt, nn_le, nn_eq, nn_ltl, nn_llt, nn_lel, nn_lle, nn_eql, nn_leq, nn_m1, nn_1m, nn_ltm, nn_mlt, nn_mle, nn_lem, nn_cl, nn_in, nn_ns, nn_ns2, nn_nb, nn_nb2, nn_s1, nn_s2, nn_b1, nn_b2]
  refine ⟨by omega, by omega, hQ _ ⟨?_, ⟨⟨?_, ?_, ?_, ?_, ?_⟩, ?_, ⟨gi_self .., trivial⟩, ?_, trivial⟩, tFr_lo ok (fun a k z => ?_) xf.2⟩ ?_⟩
  · rw [gi_oth (by decide), gi_oth (by decide), gi_oth (by decide), gi_oth (by decide), gi_oth (by decide), gi_oth (by decide), gi_oth (by decide), gi_oth (by decide)]; exact gi_self ..
  · rw [gi_oth (by decide), gi_oth (by decide), gi_oth (by decide), gi_oth (by decide), gi_oth (by decide), gi_oth (by decide), gi_oth (by decide)]; exact gi_self ..
  · rw [gi_oth (by decide), gi_oth (by decide), gi_oth (by decide), gi_oth (by decide), gi_oth (by decide), gi_oth (by decide)]; exact gi_self ..
  · rw [gi_oth (by decide), gi_oth (by decide), gi_oth (by decide), gi_oth (by decide), gi_oth (by decide)]; exact gi_self ..
  · rw [gi_oth (by decide), gi_oth (by decide), gi_oth (by decide), gi_oth (by decide)]; exact gi_self ..
  · rw [gi_oth (by decide)]; exact gi_self ..
  · rw [gi_oth (by decide), gi_oth (by decide), gi_oth (by decide)]; exact gi_self ..
  · rw [gi_oth (by decide), gi_oth (by decide)]; exact gi_self ..
  · unfold loT at z
    rw [gi_ne (by omega), gi_ne (by omega), gi_ne (by omega), gi_ne (by omega), gi_ne (by omega), gi_ne (by omega), gi_ne (by omega), gi_ne (by omega), gi_ne (by omega)]
  · exact ((((((((fr.si (by unfold fFT; omega)).tr (fr.si (fFT_i (by omega)))).tr (fr.si (fFT_i (by omega)))).tr (fr.si (fFT_i (by omega)))).tr (fr.si (fFT_i (by omega)))).tr (fr.si (fFT_i (by omega)))).tr (fr.si (fFT_i (by omega)))).tr (fr.si (fFT_i (by omega)))).tr (fr.si (fFT_i (by omega)))
end
