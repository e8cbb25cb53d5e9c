/-! NATIVES of the twin -/
/-- no room -/
def nT (T : zM) (A : mA) (r : mF) (F : List mF) : Prop := sT T A ∧ tFs T (r :: F) ∧ gi T 97 75 = 1 ∧ gi T 97 73 = 1
section
variable {E : zE} {d : Nat} {T M : zM} {Q : zO → zM → Prop} {A : mA} {r : mF} {F : List mF}
theorem nT_of (g : gT T A (r :: F)) (ok : mFok (r :: F)) : nT (si T 97 75 1) A r F ∧ fr cT T (si T 97 75 1) := by
  have f : fr (fun a k => a = 97 ∧ k = 75) T (si T 97 75 1) := fr.si ⟨rfl, rfl⟩
  exact ⟨⟨sT_cg g.1 f (fun a k q => .inr (.inr q)), tFs_cg g.2.1 ok f (fun a k q => .inr (.inr (.inr q))), gi_self .., (gi_idx (by decide)).trans g.2.2.2⟩, cT_75⟩
theorem nT_scr {T' : zM} (g : nT T A r F) (ok : mFok (r :: F)) (f : fr scr T T') : nT T' A r F :=
  ⟨sT_cg g.1 f (fun a k q => .inl q), tFs_cg g.2.1 ok f (fun a k q => .inl q), (f.2 97 75 (by unfold scr; omega)).1.trans g.2.2.1, (f.2 97 73 (by unfold scr; omega)).1.trans g.2.2.2⟩
theorem vT_n {T' : zM} {A' : mA} {p : mE} {n : Nat} (hQ : vT Q T p n r F) (e : p = (2, A', 0, 0)) (x : nT T' A' r F) (f : fr cT T T') : Q (.inl none) T' := by
  subst e
  exact hQ.2.2 rfl T' x.1 x.2.1 x.2.2.1 x.2.2.2 f
/-- gives, when there was no room -/
theorem vT_g {T' : zM} {A' : mA} {p : mE} {n : Nat} {m : Int32} (hQ : vT Q T p n r F) (e : p = (2, A', 0, 0)) (x : nT T' A' r F) (f : fr cT T T') : Zm E YX8_gives (d + 1) T' [(0, T97), (1, vi m)] 0 [] Q :=
  tm_givesN x.2.2.1 (vT_n hQ e x f)
theorem vT_gg {T' : zM} {A' : mA} {p : mE} {n : Nat} {m s v : Int32} (hQ : vT Q T p n r F) (e : p = (2, A', 0, 0)) (x : nT T' A' r F) (ok : mFok (r :: F)) (f : fr cT T T') : Zm E YX8_gives (d + 1) (si (si T' 97 111 s) 97 112 v) [(0, T97), (1, vi m)] 0 [] Q :=
  vT_g hQ e (nT_scr x ok fr_got) (f.tr (fr_got (T := T') (x := s) (y := v)).cT1)
theorem gT_scrt {T' : zM} {A' : mA} (g : gT T A (r :: F)) (ok : mFok (r :: F)) (s' : sT T' A') (f : fr (orP scr stT) T T') : gT T' A' (r :: F) :=
  ⟨s', tFs_cg g.2.1 ok f (fun a k q => q.elim .inl (fun q => .inr (.inl q))), (f.2 97 75 (by unfold orP scr stT; omega)).1.trans g.2.2.1, (f.2 97 73 (by unfold orP scr stT; omega)).1.trans g.2.2.2⟩
/-- textOf of the twin, over the machine's state -/
theorem tg_text {s v : Int32} (g : gT T A (r :: F)) (i : iA A) (ok : mFok (r :: F)) (hv : mok (aL A) (aO A) s v) (h1 : ∀ k A' T', a_text A s v = some (k, A') → gT T' A' (r :: F) → fr cT T T' → fr (orP sct stT) T T' → Q (.inl (some (vi (nI k)))) T') (h2 : ∀ T', a_text A s v = none → nT T' A r F → fr cT T T' → Q (.inl (some (vi 0))) T') : Zm E YX8_textOf (d + 3) T [(0, T97), (1, vi s), (2, vi v)] 0 [] Q := by
  refine tA_text2 g.1 i hv (fun k A' T' e s' f => h1 k A' T' e (gT_scrt g ok s' f.sc2) f.sc2.cT2 f) (fun T' e f => ?_)
  obtain ⟨n, fn⟩ := nT_of (gT_scr g ok f.sc) ok
  exact h2 _ e n (f.sc.cT1.tr fn)
theorem tn_0 {f ts tv tk : Int32} {src : Nat} {as : List mC} (e114 : gi T 97 114 = nI src) (e115 : gi T 97 115 = nI as.length) (hs : src + as.length ≤ 9600) (ha : ∀ k c, as[k]? = some c → gi T 160 (src + k) = c.1 ∧ gi T 161 (src + k) = c.2.1) (k : Zm E YX8_nativeOf (d + 1) T [(0, T97), (1, vi f), (2, vi ts), (3, vi tv), (4, vi tk), (5, vi (m_a0 as).1)] 12 [vi (m_a0 as).2] Q) : Zm E YX8_nativeOf (d + 1) T [(0, T97), (1, vi f), (2, vi ts), (3, vi tv), (4, vi tk)] 0 [] Q := by
  refine sX8_nativeOf_0 T _ _ _ _ ?_
  refine sX8_argumentSort_0 T _ ?_
  rw [e114, e115]
  have arg : ∀ s, s = (m_a0 as).1 → Zm E YX8_nativeOf (d + 1) T [(0, T97), (1, vi f), (2, vi ts), (3, vi tv), (4, vi tk)] 5 [vi s] Q := fun s es => by
    rw [es]
    refine sX8_nativeOf_5 T _ _ _ _ _ ?_
    refine sX8_argument_0 T _ ?_
    rw [e114, e115]
    cases as with
    | nil => rw [if_pos (by decide)]; exact k
    | cons c l =>
      rw [List.length_cons] at hs
      obtain ⟨-, a2⟩ := ha 0 c rfl
      rw [if_neg (by rw [nn_0, nn_le (by rw [List.length_cons]; omega) (by omega), List.length_cons]; omega), show nI src + 0 = nI (src + 0) from nn_add src 0, nn_cl (n := src + 0) (by omega), a2]
      exact ⟨by rw [nn_in (by omega)]; omega, k⟩
  cases as with
  | nil => rw [if_pos (by decide)]; exact arg _ rfl
  | cons c l =>
    rw [List.length_cons] at hs
    obtain ⟨a1, -⟩ := ha 0 c rfl
    rw [if_neg (by rw [nn_0, nn_le (by rw [List.length_cons]; omega) (by omega), List.length_cons]; omega), show nI src + 0 = nI (src + 0) from nn_add src 0, nn_cl (n := src + 0) (by omega), a1]
    exact ⟨by rw [nn_in (by omega)]; omega, arg _ rfl⟩
theorem tn_10 {n : Nat} {l2 l3 l5 s0 : Int32} (g : gT T A (r :: F)) (i : iA A) (ok : mFok (r :: F)) (hn : n ≤ r.st.length) (hQ : vT Q T (m_obj A 23) n r F) : Zm E YX8_nativeOf (d + 3) T [(0, T97), (1, vi 10), (2, vi l2), (3, vi l3), (4, vi (nI n)), (5, vi l5)] 12 [vi s0] Q := by
  have go := vT_out hQ (Q' := zma E YX8_nativeOf (d + 3) [] 313 3 [] Q) (fun T' q => sX8_nativeOf_316 T' q)
  refine iX8_nativeOf_12 T _ _ _ _ _ _ ?_
  rw [if_neg (by decide), if_pos rfl]
  unfold m_obj at go
  refine tA_new (lb := 23) g.1 i (by omega) (fun h3 => ?_) (fun T' hlt s' f' => ?_)
  · rw [if_pos h3] at go
    obtain ⟨x, fn⟩ := nT_of g ok
    show Zm E YX8_nativeOf (d + 3) (si T 97 75 1) [(0, T97), (4, vi (nI n))] 151 [vi 0, vi 7, T97] Q
    exact iX8_nativeOf_151 _ _ _ _ (vT_gg go rfl x ok fn)
  · rw [if_neg (by omega)] at go
    obtain ⟨g2, f2⟩ := gT_new g ok s' f'
    show Zm E YX8_nativeOf (d + 3) T' [(0, T97), (4, vi (nI n))] 151 [vi (nI (aO A)), vi 7, T97] Q
    exact iX8_nativeOf_151 _ _ _ _ (vT_0 (vT_mono go f2) rfl g2 ok hn (by decide))
theorem tn_11 {n : Nat} {l2 l3 l5 s0 : Int32} (g : gT T A (r :: F)) (i : iA A) (h9 : 9 ≤ aO A) (ok : mFok (r :: F)) (hn : n ≤ r.st.length) (hQ : vT Q T (m_arr A 24) n r F) : Zm E YX8_nativeOf (d + 3) T [(0, T97), (1, vi 11), (2, vi l2), (3, vi l3), (4, vi (nI n)), (5, vi l5)] 12 [vi s0] Q := by
  have go := vT_out hQ (Q' := zma E YX8_nativeOf (d + 3) [] 313 3 [] Q) (fun T' q => sX8_nativeOf_316 T' q)
  refine iX8_nativeOf_12 T _ _ _ _ _ _ ?_
  rw [if_neg (by decide), if_neg (by decide), if_pos rfl]
  refine tm_arr (pp := 24) g.1 i h9 (by omega) g.2.2.1 (fun A' T' v e s' x75 f' => ?_) (fun A' T' e s' f' => ?_)
  · show Zm E YX8_nativeOf (d + 3) T' [(0, T97), (4, vi (nI n))] 166 [vi v, vi 7, T97] Q
    exact iX8_nativeOf_166 _ _ _ _ (vT_gg go e ⟨s', tFs_cg g.2.1 ok f' (fun a k q => q.elim (fun q => .inr (.inr (.inl q))) (fun q => .inr (.inr (.inr q)))), x75, (f'.2 97 73 (by unfold hnT hpT; omega)).1.trans g.2.2.2⟩ ok (fr_hnT f'))
  · obtain ⟨g2, f2⟩ := gT_hp g ok s' f'
    show Zm E YX8_nativeOf (d + 3) T' [(0, T97), (4, vi (nI n))] 166 [vi (nI (aO A)), vi 7, T97] Q
    exact iX8_nativeOf_166 _ _ _ _ (vT_0 (vT_mono go f2) e g2 ok hn (by decide))
theorem tn_12 {n : Nat} {l2 l3 : Int32} {as : List mC} (g : gT T A (r :: F)) (i : iA A) (ok : mFok (r :: F)) (hn : n ≤ r.st.length) (hl : as.length ≤ 400) (e115 : gi T 97 115 = nI as.length) (hv : mval A (m_a0 as).1 (m_a0 as).2) (hQ : vT Q T (if as.length = 0 then (0, A, 6, 30) else m_tx A (m_a0 as).1 (m_a0 as).2) n r F) : Zm E YX8_nativeOf (d + 4) T [(0, T97), (1, vi 12), (2, vi l2), (3, vi l3), (4, vi (nI n)), (5, vi (m_a0 as).1)] 12 [vi (m_a0 as).2] Q := by
  have go := vT_out hQ (Q' := zma E YX8_nativeOf (d + 4) [] 313 3 [] Q) (fun T' q => sX8_nativeOf_316 T' q)
  refine iX8_nativeOf_12 T _ _ _ _ _ _ ?_
  rw [if_neg (by decide), if_neg (by decide), if_neg (by decide), if_pos rfl, e115]
  by_cases h0 : as.length = 0
  · rw [if_pos h0] at go
    rw [if_pos (by rw [h0]; rfl)]
    exact vT_0 (d := d + 1) go rfl g ok hn (by decide)
  · rw [if_neg h0] at go
    rw [if_neg (by rw [nn_eql (by omega) (by omega)]; exact h0)]
    unfold m_tx at go
    refine tg_text g i ok hv.1 (fun k A' T' e g' f _ => ?_) (fun T' e x f => ?_)
    · rw [e] at go
      show Zm E YX8_nativeOf (d + 4) T' [(0, T97), (4, vi (nI n))] 195 [vi (nI k), vi 6, T97] Q
      exact iX8_nativeOf_195 _ _ _ _ (vT_0 (d := d + 1) (vT_mono go f) rfl g' ok hn (by decide))
    · rw [e] at go
      show Zm E YX8_nativeOf (d + 4) T' [(0, T97), (4, vi (nI n))] 195 [vi 0, vi 6, T97] Q
      exact iX8_nativeOf_195 _ _ _ _ (vT_gg (d := d + 2) go rfl x ok f)
theorem tn_13 {n : Nat} {l2 l3 s v : Int32} (g : gT T A (r :: F)) (ok : mFok (r :: F)) (hn : n ≤ r.st.length) (hv : mval A s v) (hQ : vT Q T (m_nan A s v) n r F) : Zm E YX8_nativeOf (d + 3) T [(0, T97), (1, vi 13), (2, vi l2), (3, vi l3), (4, vi (nI n)), (5, vi s)] 12 [vi v] Q := by
  have go := vT_out hQ (Q' := zma E YX8_nativeOf (d + 3) [] 313 3 [] Q) (fun T' q => sX8_nativeOf_316 T' q)
  refine iX8_nativeOf_12 T _ _ _ _ _ _ ?_
  rw [if_neg (by decide), if_neg (by decide), if_neg (by decide), if_neg (by decide), if_pos rfl]
  refine tm_numV g.1.2 hv.1 (fun x T' hx hT => ?_)
  show Zm E YX8_nativeOf (d + 3) T' [(0, T97), (4, vi (nI n))] 209 [vi x] Q
  have f : fr scr T T' := by rw [hT]; exact fr.si (scr_97 (by omega))
  have e113 : gi T' 97 113 = bI (mnV (aL A) s v).isSome := by rw [hT]; exact gi_self ..
  have go1 := vT_mono go f.cT1
  have g' := gT_scr g ok f
  unfold m_nan at go1
  refine iX8_nativeOf_209 T' _ _ ?_
  rw [e113]
  cases hb : (mnV (aL A) s v).isSome
  · rw [hb, if_neg (by decide)] at go1
    rw [if_pos (show bI false = 0 from rfl)]; exact vT_0 go1 rfl g' ok hn (by decide)
  · rw [hb, if_pos rfl] at go1
    rw [if_neg (by decide)]; exact vT_0 go1 rfl g' ok hn (by decide)
theorem tn_erm {f n : Nat} {l2 l3 : Int32} {as : List mC} (g : gT T A (r :: F)) (i : iA A) (h9 : 9 ≤ aO A) (ok : mFok (r :: F)) (hn : n ≤ r.st.length) (hl : as.length ≤ 400) (e115 : gi T 97 115 = nI as.length) (hv : mval A (m_a0 as).1 (m_a0 as).2) (h14 : 14 ≤ f) (h17 : f ≤ 17) (hQ : vT Q T (m_erm A f as) n r F) : Zm E YX8_nativeOf (d + 4) T [(0, T97), (1, vi (nI f)), (2, vi l2), (3, vi l3), (4, vi (nI n)), (5, vi (m_a0 as).1)] 12 [vi (m_a0 as).2] Q := by
  have go := vT_out hQ (Q' := zma E YX8_nativeOf (d + 4) [] 313 3 [] Q) (fun T' q => sX8_nativeOf_316 T' q)
  have cont : Zm E YX8_newObject (d + 3) T (zargs 0 [T97, vi (nI f - 9), vi (nI f + 11), vi 0]) 0 [] (zma E YX8_nativeOf (d + 4) [(0, T97), (4, vi (nI n)), (5, vi (m_a0 as).1), (6, vi (m_a0 as).2)] 255 3 [] Q) := by
    rw [nn_addl, show nI f - 9 = nI (f - 9) from nn_subl (by omega)]
    unfold m_erm at go
    refine tA_new (lb := f + 11) g.1 i (by omega) (fun h3 => ?_) (fun T' hlt s' f' => ?_)
    · rw [if_pos h3] at go
      obtain ⟨x, fn⟩ := nT_of g ok
      show Zm E YX8_nativeOf (d + 4) (si T 97 75 1) [(0, T97), (4, vi (nI n)), (5, vi (m_a0 as).1), (6, vi (m_a0 as).2)] 258 [vi 0] Q
      refine iX8_nativeOf_258 _ _ _ _ _ ?_
      rw [gi_self, if_neg (by decide)]
      exact vT_gg (d := d + 2) go rfl x ok fn
    · rw [if_neg (by omega)] at go
      obtain ⟨g2, f2⟩ := gT_new g ok s' f'
      have i2 : iA (a_new A (nI (f - 9)) (f + 11) 0 (-1)) := iA_new i hlt (.inr ⟨f - 9, rfl, by omega⟩) (by omega)
      have go2 := vT_mono go f2
      show Zm E YX8_nativeOf (d + 4) T' [(0, T97), (4, vi (nI n)), (5, vi (m_a0 as).1), (6, vi (m_a0 as).2)] 258 [vi (nI (aO A))] Q
      refine iX8_nativeOf_258 _ _ _ _ _ ?_
      rw [g2.2.2.1, if_pos rfl, (f'.2 97 115 (by omega)).1, e115]
      by_cases h0 : as.length = 0
      · rw [if_pos h0] at go2
        rw [if_pos (by rw [h0]; decide)]
        exact vT_0 (d := d + 1) go2 rfl g2 ok hn (by decide)
      · rw [if_neg h0] at go2
        rw [if_neg (by rw [nn_0, nn_le (by omega) (by omega)]; omega)]
        have hv2 : mval (a_new A (nI (f - 9)) (f + 11) 0 (-1)) (m_a0 as).1 (m_a0 as).2 := mval_new hv
        refine tg_text g2 i2 ok hv2.1 (fun k A3 T3 e g3 f3 _ => ?_) (fun T3 e x f3 => ?_)
        · rw [e] at go2
          dsimp only at go2
          obtain ⟨i3, hk, hL, -, eT, eO, eP, eF⟩ := iA_text i2 hv2.1 e
          have eO : aO A3 = aO A + 1 := eO
          have go3 := vT_mono go2 f3
          show Zm E YX8_nativeOf (d + 4) T3 [(0, T97), (4, vi (nI n)), (7, vi (nI (aO A)))] 282 [vi (nI k)] Q
          refine iX8_nativeOf_282 _ _ _ _ ?_
          rw [g3.2.2.1, if_pos rfl]
          refine tA_set (o := aO A) g3.1 i3 (by omega) (fun T4 A4 ea s4 f4 => ?_) (fun A4 ea eA => ?_)
          · rw [ea] at go3
            show Zm E YX8_nativeOf (d + 4) T4 [(0, T97), (4, vi (nI n)), (7, vi (nI (aO A)))] 302 [] Q
            exact iX8_nativeOf_302 _ _ _ (vT_0 (d := d + 1) (vT_mono go3 f4.cT7) rfl (gT_fT g3 ok s4 f4) ok hn (by decide))
          · rw [ea] at go3
            dsimp only at go3
            rw [eA] at go3
            obtain ⟨x, fn⟩ := nT_of g3 ok
            show Zm E YX8_nativeOf (d + 4) (si T3 97 75 1) [(0, T97), (4, vi (nI n)), (7, vi (nI (aO A)))] 302 [] Q
            exact iX8_nativeOf_302 _ _ _ (vT_gg (d := d + 2) go3 rfl x ok fn)
        · rw [e] at go2
          show Zm E YX8_nativeOf (d + 4) T3 [(0, T97), (4, vi (nI n)), (7, vi (nI (aO A)))] 282 [vi 0] Q
          refine iX8_nativeOf_282 _ _ _ _ ?_
          rw [x.2.2.1, if_neg (by decide)]
          exact vT_gg (d := d + 2) go2 rfl x ok f3
  refine iX8_nativeOf_12 T _ _ _ _ _ _ ?_
  obtain e | e | e | e : f = 14 ∨ f = 15 ∨ f = 16 ∨ f = 17 := by omega
  · subst e
    rw [if_neg (by decide), if_neg (by decide), if_neg (by decide), if_neg (by decide), if_neg (by decide), if_pos (show nI 14 = 14 from rfl)]
    exact cont
  · subst e
    rw [if_neg (by decide), if_neg (by decide), if_neg (by decide), if_neg (by decide), if_neg (by decide), if_neg (by decide), if_pos (show nI 15 = 15 from rfl)]
    exact cont
  · subst e
    rw [if_neg (by decide), if_neg (by decide), if_neg (by decide), if_neg (by decide), if_neg (by decide), if_neg (by decide), if_neg (by decide), if_pos (show nI 16 = 16 from rfl)]
    exact cont
  · subst e
    rw [if_neg (by decide), if_neg (by decide), if_neg (by decide), if_neg (by decide), if_neg (by decide), if_neg (by decide), if_neg (by decide), if_neg (by decide), if_pos (show nI 17 = 17 from rfl)]
    exact cont
theorem tn_9 {n : Nat} {l2 l3 s v : Int32} {P : List Nat} (g : gT T A (r :: F)) (i : iA A) (ok : mFok (r :: F)) (hn : n ≤ r.st.length) (hp : tLn T P) (hv : mval A s v)
    (h2 : a_text A s v = none → ∀ T', nT T' A r F → fr cT T T' → Q (.inl none) T')
    (h1 : ∀ k A' T', a_text A s v = some (k, A') → gT T' A' (mFpl (mFst r ((0, 0, 0, 0) :: r.st.drop n)) (r.pl + 1) :: F) → tLn T' (m_prt P k) → fr (fun a k => cT a k ∨ a = 164 ∨ a = 97 ∧ k = 107) T T' → Q (.inl none) T') : Zm E YX8_nativeOf (d + 4) T [(0, T97), (1, vi 9), (2, vi l2), (3, vi l3), (4, vi (nI n)), (5, vi s)] 12 [vi v] Q := by
  refine iX8_nativeOf_12 T _ _ _ _ _ _ ?_
  rw [if_pos rfl]
  have cc : ∀ {T T' : zM}, fr cT T T' → fr (fun a k => cT a k ∨ a = 164 ∨ a = 97 ∧ k = 107) T T' := fun f => f.mono fun a k q => .inl q
  have np : ∀ k, ¬ cT 164 k := fun k => by unfold cT hpT stT scr fUT fFT; omega
  have np7 : ¬ cT 97 107 := by unfold cT hpT stT scr fUT fFT; omega
  refine tg_text g i ok hv.1 (fun k A1 T1 e g1 f1 _ => ?_) (fun T1 e x f1 => ?_)
  · obtain ⟨i1, hk, -⟩ := iA_text i hv.1 e
    have p1 : tLn T1 P := ⟨(f1.2 97 107 np7).1.trans hp.1, hp.2.1, fun z x hz => (f1.2 164 z (np z)).1.trans (hp.2.2 z x hz)⟩
    have hp2 := hp.2.1
    -- the end, over a memory with these lines
    have fin : ∀ (T2 : zM) (P' : List Nat), gT T2 A1 (r :: F) → tLn T2 P' → fr (fun a k => cT a k ∨ a = 164 ∨ a = 97 ∧ k = 107) T T2 → m_prt P k = P' → Zm E YX8_gives (d + 3) (si (si T2 97 111 0) 97 112 0) (zargs 0 [T97, vi (nI n)]) 0 [] (zma E YX8_nativeOf (d + 4) [] 313 3 [] Q) := fun T2 P' g2 p2 f2 eP => by
      have q : vT (zma E YX8_nativeOf (d + 4) [] 313 3 [] Q) T2 (0, A1, 0, 0) n r F := by
        refine ⟨fun _ T' g' f' => ?_, fun z => absurd z (show ¬ (0 : Nat) = 1 by decide), fun z => absurd z (show ¬ (0 : Nat) = 2 by decide)⟩
        show Zm E YX8_nativeOf (d + 4) T' [] 316 [] Q
        refine sX8_nativeOf_316 T' (h1 k A1 T' e g' ?_ (f2.tr (cc f')))
        rw [eP]
        exact ⟨(f'.2 97 107 np7).1.trans p2.1, p2.2.1, fun z x hz => (f'.2 164 z (np z)).1.trans (p2.2.2 z x hz)⟩
      exact vT_0 (d := d + 1) q rfl g2 ok hn (by decide)
    show Zm E YX8_nativeOf (d + 4) T1 [(0, T97), (4, vi (nI n))] 92 [vi (nI k)] Q
    refine iX8_nativeOf_92 T1 _ _ ?_
    rw [g1.2.2.1, if_pos rfl, p1.1]
    by_cases hl : P.length < 100
    · rw [if_neg (by rw [nn_lle (by omega) (by omega)]; omega)]
      simp (disch := omega) only [nn_add, nn_addl, nn_ladd, nn_mul, nn_lmul, nn_mull, nn_sub, nn_subl, nn_lsub, nn_lt, nn_le, nn_eq, nn_ltl, nn_llt, nn_lel, nn_lle, nn_eql, nn_leq, nn_m1, nn_1m, nn_ltm, nn_mlt, nn_mle, nn_lem, nn_cl, nn_in, nn_ns, nn_ns2, nn_nb, nn_nb2, nn_s1, nn_s2, nn_b1, nn_b2]
      refine ⟨by omega, ?_⟩
      have f2 : fr (fun a k => a = 164 ∨ a = 97 ∧ k = 107) T1 (si (si T1 164 P.length (nI k)) 97 107 (nI (P.length + 1))) := (fr.si (.inl rfl)).tr (fr.si (.inr ⟨rfl, rfl⟩))
      refine fin _ (P ++ [k]) ⟨sT_fr g1.1 f2 (fun a k q => by unfold hpT stT; omega), tFs_fr g1.2.1 ok f2 (fun a k q => by unfold fFT; omega), (f2.2 97 75 (by omega)).1.trans g1.2.2.1, (f2.2 97 73 (by omega)).1.trans g1.2.2.2⟩ ?_ ((cc f1).tr (f2.mono fun a k q => .inr q)) (by unfold m_prt; rw [if_pos hl])
      refine ⟨by rw [gi_self]; congr 1; simp, by simp; omega, fun z x hz => ?_⟩
      by_cases hz2 : z < P.length
      · rw [List.getElem?_append_left hz2] at hz
        rw [gi_oth (by decide), gi_idx (by omega)]
        exact p1.2.2 z x hz
      · rw [List.getElem?_append_right (by omega)] at hz
        have hz0 : z = P.length := by
          have := (List.getElem?_eq_some_iff.mp hz).1
          simp at this
          omega
        subst hz0
        simp at hz
        subst hz
        rw [gi_oth (by decide)]
        exact gi_self ..
    · rw [if_pos (by rw [nn_lle (by omega) (by omega)]; omega)]
      exact fin T1 P g1 p1 (cc f1) (by unfold m_prt; rw [if_neg hl])
  · show Zm E YX8_nativeOf (d + 4) T1 [(0, T97), (4, vi (nI n))] 92 [vi 0] Q
    refine iX8_nativeOf_92 T1 _ _ ?_
    rw [x.2.2.1, if_neg (by decide)]
    refine tm_givesN ((nT_scr x ok fr_got).2.2.1) ?_
    show Zm E YX8_nativeOf (d + 4) _ [] 316 [] Q
    exact sX8_nativeOf_316 _ (h2 e _ (nT_scr x ok fr_got) (f1.tr (fr_got (T := T1) (x := 0) (y := 0)).cT1))
end
