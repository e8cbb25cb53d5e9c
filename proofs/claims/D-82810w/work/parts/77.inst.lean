/-! THE MACHINE: `in`, `instanceof` -/
/-- an end whose value lies in the component's result -/
def rX (Q : zO → zM → Prop) (M : zM) (p : mE) (r : mF) (F : List mF) : Prop :=
  (p.1 = 0 → ∀ M', gX M' p.2.1 (r :: F) → gi M' 16 33 = p.2.2.1 → gi M' 16 32 = p.2.2.2 → fr cX M M' → Q (.inl none) M') ∧
  (p.1 = 1 → ∀ M', gX M' p.2.1 (r :: F) → gi M' 16 57 = p.2.2.1 → gi M' 16 58 = p.2.2.2 → fr cX M M' → Q (.inr (52, 14, 0)) M') ∧
  (p.1 = 2 → ∀ M', gX M' p.2.1 (r :: F) → fr cX M M' → Q (.inr (51, 13, 0)) M')
noncomputable def m_in (A : mA) (ks kv s v : Int32) : mE := match a_text A ks kv with
  | none => (2, A, 0, 0)
  | some (k, A1) => if s = 7 then (if a_get A1 v.toNatClampNeg (nI k) = -1 then (0, A1, 3, 0) else (0, A1, 2, 0)) else m_err A1 0
/-- an object's protos, itself ahead -/
noncomputable def a_chn (A : mA) (o : Nat) : List Nat := Classical.epsilon fun l => chn (gi (aT A) 139) (-1) (nI o) l ∧ ∀ q ∈ l, q < aO A
theorem a_chn_ok {A : mA} (i : iA A) {o : Nat} (ho : o < aO A) : ∃ l, a_chn A o = o :: l ∧ chn (gi (aT A) 139) (-1) (gi (aT A) 139 o) l ∧ ∀ q ∈ l, q < aO A := by
  obtain ⟨h1, h2⟩ := a_chain i ho
  have hob := i.1.1.2
  change chn (gi (aT A) 139) (-1) (nI o) (a_chn A o) at h1
  change ∀ q ∈ a_chn A o, q < aO A at h2
  cases hl : a_chn A o with
  | nil => rw [hl] at h1; exact absurd (show nI o = -1 from h1) (by rw [nn_m1 (by omega)]; exact fun z => z)
  | cons q l =>
    rw [hl] at h1 h2
    have hq := h2 q List.mem_cons_self
    have e : o = q := by have := h1.1; rw [nn_eq (by omega) (by omega)] at this; exact this
    subst e
    exact ⟨l, rfl, h1.2, fun z hz => h2 z (List.mem_cons_of_mem _ hz)⟩
noncomputable def m_inst (A : mA) (s v fs fv : Int32) : mE :=
  if fs = 7 ∧ gi (aT A) 141 fv.toNatClampNeg = 1 then
    (if a_get A fv.toNatClampNeg 1 = -1 then m_err A 0
    else if gi (aT A) 146 (a_get A fv.toNatClampNeg 1).toNatClampNeg = 7 then
      (0, A, if s = 7 ∧ gi (aT A) 147 (a_get A fv.toNatClampNeg 1).toNatClampNeg ∈ ((a_chn A v.toNatClampNeg).drop 1).map nI then 2 else 3, 0)
    else m_err A 0)
  else m_err A 0
section
variable {E : zE} {d : Nat} {T M : zM} {Q : zO → zM → Prop} {A : mA} {r : mF} {F : List mF}
theorem rX_mono {M1 : zM} {p : mE} (h : rX Q M p r F) (f : fr cX M M1) : rX Q M1 p r F :=
  ⟨fun e M' g e1 e2 f' => h.1 e M' g e1 e2 (f.tr f'), fun e M' g e1 e2 f' => h.2.1 e M' g e1 e2 (f.tr f'), fun e M' g f' => h.2.2 e M' g (f.tr f')⟩
theorem rX_0 {p : mE} {s v : Int32} (hQ : rX Q M p r F) (e : p = (0, A, s, v)) (h : gX M A (r :: F)) (ok : mFok (r :: F)) : Q (.inl none) (si (si M 16 33 s) 16 32 v) := by
  have f0 : fr scx M (si (si M 16 33 s) 16 32 v) := fx_got
  subst e
  exact hQ.1 rfl _ ⟨sX_cg h.1 f0 (fun a k q => .inl q), xFs_cg h.2 ok f0 (fun a k q => .inl q)⟩ (by rw [gi_idx (by decide), gi_self]) (by rw [gi_self]) f0.cX1
theorem rX_err {p : mE} {m : Nat} (hQ : rX Q M p r F) (e : p = m_err A m) (h : gX M A (r :: F)) (i : iA A) (ok : mFok (r :: F)) (hm : m < 3) {Q' : zO → zM → Prop} (h1 : ∀ M', Q (.inr (52, 14, 0)) M' → sX M' (a_new A (nI (6 + m)) (26 + m) 0 (-1)) → Q' (.inl (some (vr (some (52, 14, 0))))) M') (h2 : ∀ M', Q (.inr (51, 13, 0)) M' → Q' (.inr (51, 13, 0)) M') : Z E YX1_error (d + 1) M [(0, zX16), (1, vi (nI m))] 0 [] Q' := by
  unfold m_err at e
  refine xA_error h.1 i hm (fun h3 => ?_) (fun M' hl s' e1 e2 f => ?_)
  · rw [if_pos h3] at e
    subst e
    exact h2 _ (hQ.2.2 rfl M h fr.rf)
  · rw [if_neg (by omega)] at e
    subst e
    exact h1 _ (hQ.2.1 rfl M' ⟨s', xFs_cg h.2 ok f (fun a k q => q.elim .inl (fun q => .inr (.inr q)))⟩ e1 e2 f.cX4) s'
theorem xm_readsKey {c1 c2 : mC} {st : List mC} (h : gX M A (r :: F)) (i : iA A) (ok : mFok (r :: F)) (hr : r.st = c1 :: c2 :: st) (v1 : mval A c1.1 c1.2.1) (v2 : mval A c2.1 c2.2.1) (hQ : rX Q M (m_in A c2.1 c2.2.1 c1.1 c1.2.1) r F) : Z E YX1_readsKey (d + 4) M [(0, zX16)] 0 [] Q := by
  obtain ⟨n1, n2, n3, n4⟩ := xFs_nums h.2
  obtain ⟨g0, g1, g2, g3, g4⟩ := mFok_hd ok
  have ht := (mtot_le (mFok_tl ok)).1
  have hl : 2 ≤ r.st.length := by rw [hr]; simp
  obtain ⟨b1, b2⟩ := x_cell h.2 (i := 1) (m := 2) (c := c2) (by rw [hr]; rfl) rfl
  refine iX1_readsKey_0 M h.1.1 ?_
  simp (disch := omega) only [n3, b1, b2, nn_add, nn_addl, nn_ladd, nn_mul, nn_lmul, nn_mull, nn_sub, nn_subl, nn_lsub, nn_lt, nn_le, nn_eq, nn_ltl, nn_llt, nn_lel, nn_lle, nn_eql, nn_leq, nn_m1, nn_1m, nn_ltm, nn_mlt, nn_mle, nn_lem, nn_cl, nn_in, nn_ns, nn_ns2, nn_nb, nn_nb2, nn_s1, nn_s2, nn_b1, nn_b2]
  refine ⟨by omega, ?_⟩
  unfold m_in at hQ
  have hob := i.1.1.2
  refine xA_text h.1 i v2.1 (fun k A1 M1 e s1 f1 => ?_) (fun M1 e f1 => ?_)
  · rw [e] at hQ
    dsimp only at hQ
    obtain ⟨i1, hk, hL, -, eT, eO, eP, eF⟩ := iA_text i v2.1 e
    have hk4 := i1.2.1.2.1
    have g1 : gX M1 A1 (r :: F) := ⟨s1, xFs_cg h.2 ok f1 (fun a k q => q.elim .inl (fun q => .inr (.inl q)))⟩
    have hQ1 := rX_mono hQ f1.cX2
    obtain ⟨a1, a2⟩ := x_cell g1.2 (i := 0) (m := 1) (c := c1) (by rw [hr]; rfl) rfl
    show Z E YX1_readsKey (d + 4) M1 [(0, zX16)] 26 [vi (nI k)] Q
    refine iX1_readsKey_26 M1 _ s1.1 ?_
    rw [(xFs_nums g1.2).2.2.1]
    simp (disch := omega) only [a1, a2, nn_add, nn_addl, nn_ladd, nn_mul, nn_lmul, nn_mull, nn_sub, nn_subl, nn_lsub, nn_lt, nn_le, nn_eq, nn_ltl, nn_llt, nn_lel, nn_lle, nn_eql, nn_leq, nn_m1, nn_1m, nn_ltm, nn_mlt, nn_mle, nn_lem, nn_cl, nn_in, nn_ns, nn_ns2, nn_nb, nn_nb2, nn_s1, nn_s2, nn_b1, nn_b2]
    refine ⟨by omega, ?_⟩
    obtain ⟨⟨kk, ek, hkk, k6, k7⟩, -⟩ := v1
    by_cases c7 : c1.1 = 7
    · rw [if_pos c7] at hQ1 ⊢
      obtain ⟨j, ej, hj⟩ := k7 (by rw [ek] at c7; simp (disch := omega) only [nn_add, nn_addl, nn_ladd, nn_mul, nn_lmul, nn_mull, nn_sub, nn_subl, nn_lsub, nn_lt, nn_le, nn_eq, nn_ltl, nn_llt, nn_lel, nn_lle, nn_eql, nn_leq, nn_m1, nn_1m, nn_ltm, nn_mlt, nn_mle, nn_lem, nn_cl, nn_in, nn_ns, nn_ns2, nn_nb, nn_nb2, nn_s1, nn_s2, nn_b1, nn_b2] at c7; exact c7)
      rw [ej, nn_cl (by omega)] at hQ1
      rw [ej]
      refine xA_find s1 i1 (by omega) ?_
      show Z E YX1_readsKey (d + 4) M1 [] 66 [vi (a_get A1 j (nI k)), zX16] Q
      refine iX1_readsKey_66 M1 _ s1.1 ?_
      by_cases q : a_get A1 j (nI k) = -1
      · rw [if_pos q] at hQ1 ⊢; exact rX_0 hQ1 rfl g1 ok
      · rw [if_neg q] at hQ1 ⊢; exact rX_0 hQ1 rfl g1 ok
    · rw [if_neg c7] at hQ1 ⊢
      refine rX_err (m := 0) hQ1 rfl g1 i1 ok (by omega) (fun M' q s' => ?_) (fun M' q => ?_)
      · show Z E YX1_readsKey (d + 4) M' [] 48 [vr (some (52, 14, 0))] Q
        exact sX1_readsKey_48 M' _ s'.1 ⟨52, rfl, q⟩
      · show ZT E YX1_readsKey (d + 4) M' [] 45 (51, 13, 0) Q
        exact ZT.out (nohand rfl) q
  · rw [e] at hQ
    show ZT E YX1_readsKey (d + 4) M1 [(0, zX16)] 23 (51, 13, 0) Q
    exact ZT.out (nohand rfl) (hQ.2.2 rfl M1 ⟨sX_cg h.1 f1 (fun a k q => .inl q), xFs_cg h.2 ok f1 (fun a k q => .inl q)⟩ f1.cX1)
theorem tm_within {s v ks kv : Int32} (h : gT T A (r :: F)) (i : iA A) (ok : mFok (r :: F)) (hh : mTh (r :: F)) (hl : 2 ≤ r.st.length) (v1 : mval A s v) (v2 : mval A ks kv) (hQ : vT Q T (m_in A ks kv s v) 2 r F) : Zm E YX8_within (d + 4) T [(0, T97), (1, vi ks), (2, vi kv), (3, vi s), (4, vi v)] 0 [] Q := by
  obtain ⟨hs, hf, h75, h73⟩ := id h
  refine sX8_within_0 T _ _ _ _ ?_
  unfold m_in at hQ
  have hob := i.1.1.2
  refine tA_text hs i v2.1 (fun k A1 T1 e s1 f1 => ?_) (fun T1 e f1 => ?_)
  · rw [e] at hQ
    dsimp only at hQ
    obtain ⟨i1, hk, hL, -, eT, eO, eP, eF⟩ := iA_text i v2.1 e
    have t75 : gi T1 97 75 = 0 := (f1.2 97 75 (by unfold orP scr stT; omega)).1.trans h75
    have g1 : gT T1 A1 (r :: F) := ⟨s1, tFs_cg hf ok f1 (fun a k q => q.elim .inl (fun q => .inr (.inl q))), t75, (f1.2 97 73 (by unfold orP scr stT; omega)).1.trans h73⟩
    have hQ1 := vT_mono hQ f1.cT2
    show Zm E YX8_within (d + 4) T1 [(0, T97), (3, vi s), (4, vi v)] 6 [vi (nI k)] Q
    refine sX8_within_6 T1 _ _ _ ?_
    rw [t75, if_pos rfl]
    obtain ⟨⟨kk, ek, hkk, k6, k7⟩, -⟩ := v1
    by_cases c7 : s = 7
    · rw [if_pos c7] at hQ1 ⊢
      obtain ⟨j, ej, hj⟩ := k7 (by rw [ek] at c7; simp (disch := omega) only [nn_add, nn_addl, nn_ladd, nn_mul, nn_lmul, nn_mull, nn_sub, nn_subl, nn_lsub, nn_lt, nn_le, nn_eq, nn_ltl, nn_llt, nn_lel, nn_lle, nn_eql, nn_leq, nn_m1, nn_1m, nn_ltm, nn_mlt, nn_mle, nn_lem, nn_cl, nn_in, nn_ns, nn_ns2, nn_nb, nn_nb2, nn_s1, nn_s2, nn_b1, nn_b2] at c7; exact c7)
      rw [ej, nn_cl (by omega)] at hQ1
      rw [ej]
      have fin : ∀ (T2 : zM) (p : mE) (x : Int32), fr scr T1 T2 → vT Q T1 p 2 r F → p = (0, A1, x, 0) → ¬ x = 8 → Zm E YX8_gives (d + 3) (si (si T2 97 111 x) 97 112 0) (zargs 0 [T97, vi 2]) 0 [] (zma E YX8_within (d + 4) [] 47 3 [] Q) := fun T2 p x f hq ep hx => vT_0 (n := 2) (vT_out (vT_mono hq f.cT1) (fun T' q => sX8_within_50 T' q)) ep ⟨sT_cg g1.1 f (fun a k q => .inl q), tFs_cg g1.2.1 ok f (fun a k q => .inl q), (f.2 97 75 (by unfold scr; omega)).1.trans g1.2.2.1, (f.2 97 73 (by unfold scr; omega)).1.trans g1.2.2.2⟩ ok hl hx
      refine tA_read s1 i1 (by omega) (fun e0 => ?_) (fun q z hz hqz e0 => ?_)
      · rw [if_pos e0] at hQ1
        show Zm E YX8_within (d + 4) (si (si T1 97 111 0) 97 112 0) [(0, T97)] 37 [vi 0] Q
        refine iX8_within_37 _ _ ?_
        rw [if_pos rfl]
        exact fin _ _ 3 fr_got hQ1 rfl (by decide)
      · have q3 := ((i1.1.2.2 z hz).2.2.2.1 q hqz).1
        rw [if_neg (by rw [e0, nn_m1 (by omega)]; exact fun z => z)] at hQ1
        show Zm E YX8_within (d + 4) (si (si T1 97 111 (gi (aT A1) 146 q)) 97 112 (gi (aT A1) 147 q)) [(0, T97)] 37 [vi 1] Q
        refine iX8_within_37 _ _ ?_
        rw [if_neg (by decide)]
        exact fin _ _ 2 fr_got hQ1 rfl (by decide)
    · rw [if_neg c7] at hQ1 ⊢
      exact vT_err (m := 0) (vT_out hQ1 (fun T' q => sX8_within_28 T' q)) rfl g1 i1 ok hh (by omega)
  · rw [e] at hQ
    show Zm E YX8_within (d + 4) (si T1 97 75 1) [(0, T97), (3, vi s), (4, vi v)] 6 [vi 0] Q
    refine sX8_within_6 _ _ _ _ ?_
    rw [gi_self, if_neg (by decide)]
    have f2 : fr (fun a k => scr a k ∨ a = 97 ∧ k = 75) T (si T1 97 75 1) := (f1.mono fun a k q => .inl q).tr (fr.si (.inr ⟨rfl, rfl⟩))
    refine hQ.2.2 rfl _ (sT_cg hs f2 (fun a k q => q.elim .inl (fun q => .inr (.inr q)))) (tFs_cg hf ok f2 (fun a k q => q.elim .inl (fun q => .inr (.inr (.inr q))))) (gi_self ..) ((f2.2 97 73 (by unfold scr; omega)).1.trans h73) (f1.cT1.tr cT_75)
end
