/-! THE MACHINE's STEP: ARRAY -/
theorem gX_hp {M M' : zM} {A A' : mA} {r : mF} {F : List mF} (h : gX M A (r :: F)) (ok : mFok (r :: F)) (s' : sX M' A') (f : fr hpX M M') : gX M' A' (r :: F) ∧ fr cX M M' :=
  ⟨⟨s', xFs_cg h.2 ok f (fun a k q => .inr (.inr q))⟩, f.mono fun a k q => by unfold cX; exact .inl q⟩
theorem gT_hp {T T' : zM} {A A' : mA} {r : mF} {F : List mF} (h : gT T A (r :: F)) (ok : mFok (r :: F)) (s' : sT T' A') (f : fr hpT T T') : gT T' A' (r :: F) ∧ fr cT T T' :=
  ⟨⟨s', tFs_cg h.2.1 ok f (fun a k q => .inr (.inr (.inl q))), (f.2 97 75 (by unfold hpT; omega)).1.trans h.2.2.1, (f.2 97 73 (by unfold hpT; omega)).1.trans h.2.2.2⟩, f.mono fun a k q => by unfold cT; exact .inl q⟩
/-- cells of the twin's heap, and noRoom -/
def hnT (a k : Nat) : Prop := hpT a k ∨ a = 97 ∧ k = 75
theorem fX_hp {M M' : zM} (f : fr fX M M') : fr hpX M M' := f.mono fun a k q => by unfold fX at q; unfold hpX; omega
theorem fT_hp {M M' : zM} (f : fr fT M M') : fr hpT M M' := f.mono fun a k q => by unfold fT at q; unfold hpT; omega
theorem a_new_srt (A : mA) (pr : Int32) (lb : Nat) (st lk : Int32) (a k : Nat) (ha : a = 140 ∨ a = 141 ∨ a = 142) : gi (aT (a_new A pr lb st lk)) a k = if k = aO A then (if a = 140 then lk else if a = 141 then st else 0) else gi (aT A) a k := by
  show gi (m_new (aT A) (aO A) pr lb st lk) a k = _
  rw [m_new_at]
  by_cases h : k = aO A
  · rcases ha with e | e | e <;> subst e <;> simp [h]
  · rcases ha with e | e | e <;> subst e <;> simp [h]
theorem mval_7 {A : mA} {o : Nat} (ho : o < aO A) (h3 : ¬ gi (aT A) 141 o = 3) : mval A 7 (nI o) :=
  ⟨⟨7, rfl, by omega, fun h => absurd h (by decide), fun _ => ⟨o, rfl, ho⟩⟩, fun _ => ⟨o, rfl, ho, h3⟩⟩
section
variable {E : zE} {d : Nat} {T M : zM} {Q : zO → zM → Prop} {A : mA} {r : mF} {F : List mF}
/-- the end of an operation of the twin's for which there was no room -/
theorem vT_2 {T' : zM} {A' : mA} {p : mE} {n : Nat} {s v m : Int32} (hQ : vT Q T p n r F) (e : p = (2, A', 0, 0)) (s' : sT T' A') (ok : mFok (r :: F)) (t : tFs T' (r :: F)) (h75 : gi T' 97 75 = 1) (h73 : gi T' 97 73 = 1) (f : fr cT T T') : Zm E YX8_gives (d + 1) (si (si T' 97 111 s) 97 112 v) [(0, T97), (1, vi m)] 0 [] Q := by
  have f0 : fr scr T' (si (si T' 97 111 s) 97 112 v) := fr_got
  have x75 : gi (si (si T' 97 111 s) 97 112 v) 97 75 = 1 := by rw [gi_idx (by decide), gi_idx (by decide)]; exact h75
  subst e
  exact tm_givesN x75 (hQ.2.2 rfl _ (sT_cg s' f0 (fun a k q => .inl q)) (tFs_cg t ok f0 (fun a k q => .inl q)) x75 ((f0.2 97 73 (by unfold scr; omega)).1.trans h73) (f.tr f0.cT1))
/-- array of the component -/
theorem xm_arr {pp : Nat} (s : sX M A) (i : iA A) (h9 : 9 ≤ aO A) (hpp : pp < 160) (hpar : 29 ≤ pp → (pp - 29) % 2 = 0)
    (h2 : ∀ A' M', m_arr A pp = (2, A', 0, 0) → sX M' A' → fr hpX M M' → Q (.inr (51, 13, 0)) M')
    (h1 : ∀ A' M', m_arr A pp = (0, A', 7, nI (aO A)) → sX M' A' → fr hpX M M' → Q (.inl (some (vi (nI (aO A))))) M') : Z E YX1_array (d + 2) M [(0, zX16), (1, vi (nI pp))] 0 [] Q := by
  refine sX1_array_0 M _ s.1 ?_
  refine xA_new (ks := 2) (pr := 3) (lk := -1) s i (by omega) (by omega) hpp hpar rfl rfl (fun h3 => ?_) (fun hlt s' => ?_)
  · show ZT E YX1_array (d + 2) M [(0, zX16)] 5 (51, 13, 0) Q
    exact ZT.out (nohand rfl) (h2 A M (by unfold m_arr; rw [if_pos h3]) s fr.rf)
  · show Z E YX1_array (d + 2) (x_new M (aO A) (nI 2) pp 3 (-1)) [(0, zX16)] 8 [vi (nI (aO A))] Q
    have f1 : fr hpX M (x_new M (aO A) (nI 2) pp 3 (-1)) := (x_new_fr M (aO A) (nI 2) pp 3 (-1)).mono fun a k q => by unfold hpX; omega
    generalize x_new M (aO A) (nI 2) pp 3 (-1) = M1 at *
    refine sX1_array_8 _ _ s'.1 ?_
    have i' : iA (a_new A 3 pp (nI 2) (-1)) := iA_new i hlt (.inr ⟨3, rfl, by omega⟩) (by omega)
    refine xA_set (o := aO A) (jx := 0) (ks := 5) (v := 0) s' i' (by show aO A < aO A + 1; omega) (by omega) (by omega) (fun M' A' ea s2 f2 => ?_) (fun A' ea eA => ?_)
    · have ea' : a_set (a_new A 3 pp 2 (-1)) (aO A) 0 5 0 = (true, A') := ea
      show Z E YX1_array (d + 2) M' [(2, vi (nI (aO A)))] 17 [] Q
      exact sX1_array_17 M' _ s2.1 (h1 A' M' (by unfold m_arr; rw [if_neg (by omega), ea']) s2 (f1.tr (fX_hp f2)))
    · have ea' : a_set (a_new A 3 pp 2 (-1)) (aO A) 0 5 0 = (false, A') := ea
      show ZT E YX1_array (d + 2) M1 [(2, vi (nI (aO A)))] 14 (51, 13, 0) Q
      exact ZT.out (nohand rfl) (h2 A' M1 (by unfold m_arr; rw [if_neg (by omega), ea']) (by rw [eA]; exact s') f1)
/-- newArray of the twin -/
theorem tm_arr {pp : Nat} (s : sT T A) (i : iA A) (h9 : 9 ≤ aO A) (hpp : pp < 160) (h75 : gi T 97 75 = 0)
    (h2 : ∀ A' T' v, m_arr A pp = (2, A', 0, 0) → sT T' A' → gi T' 97 75 = 1 → fr hnT T T' → Q (.inl (some (vi v))) T')
    (h1 : ∀ A' T', m_arr A pp = (0, A', 7, nI (aO A)) → sT T' A' → fr hpT T T' → Q (.inl (some (vi (nI (aO A))))) T') : Zm E YX8_newArray (d + 2) T [(0, T97), (1, vi (nI pp))] 0 [] Q := by
  refine sX8_newArray_0 T _ ?_
  refine tA_new (pr := 3) (st := 2) s i (by omega) (fun h3 => ?_) (fun T1 hlt s' f' => ?_)
  · show Zm E YX8_newArray (d + 2) (si T 97 75 1) [(0, T97)] 7 [vi 0] Q
    refine iX8_newArray_7 _ _ ?_
    rw [gi_self, if_neg (by decide)]
    have f : fr (fun a k => a = 97 ∧ k = 75) T (si T 97 75 1) := fr.si ⟨rfl, rfl⟩
    exact h2 A _ 0 (by unfold m_arr; rw [if_pos h3]) (sT_cg s f (fun a k q => .inr (.inr q))) (gi_self ..) (f.mono fun a k q => .inr q)
  · show Zm E YX8_newArray (d + 2) T1 [(0, T97)] 7 [vi (nI (aO A))] Q
    have f1 : fr hpT T T1 := f'.mono fun a k q => by unfold hpT; omega
    have i' : iA (a_new A 3 pp 2 (-1)) := iA_new i hlt (.inr ⟨3, rfl, by omega⟩) (by omega)
    refine iX8_newArray_7 _ _ ?_
    rw [(f'.2 97 75 (by omega)).1, h75, if_pos rfl]
    refine tA_set (o := aO A) s' i' (by show aO A < aO A + 1; omega) (fun T' A' ea s2 f2 => ?_) (fun A' ea eA => ?_)
    · show Zm E YX8_newArray (d + 2) T' [(2, vi (nI (aO A)))] 23 [] Q
      exact sX8_newArray_23 T' _ (h1 A' T' (by unfold m_arr; rw [if_neg (by omega), ea]) s2 (f1.tr (fT_hp f2)))
    · have f : fr (fun a k => a = 97 ∧ k = 75) T1 (si T1 97 75 1) := fr.si ⟨rfl, rfl⟩
      show Zm E YX8_newArray (d + 2) (si T1 97 75 1) [(2, vi (nI (aO A)))] 23 [] Q
      exact sX8_newArray_23 _ _ (h2 A' _ _ (by unfold m_arr; rw [if_neg (by omega), ea]) (by rw [eA]; exact sT_cg s' f (fun a k q => .inr (.inr q))) (gi_self ..) ((f1.mono fun a k q => .inl q).tr (f.mono fun a k q => .inr q)))
theorem fr_hnT {T T' : zM} (f : fr hnT T T') : fr cT T T' := f.mono fun a k q => by unfold cT; exact q.elim .inl (fun q => .inr (.inr (.inr (.inr q))))
theorem xs_arr {nf si' : Nat} (h : gX M A (r :: F)) (i : iA A) (h9 : 9 ≤ aO A) (ok : mFok (r :: F)) (hpl : r.pl + 1 < 600) (hc : gi M 30 r.pl = 8) (ha : gi M 31 r.pl = nI si') (hfn : gr M 16 8 = some (28, 11, 0)) (hfs : gi M 28 2 = nI nf) (hf1 : 1 ≤ nf) (hpp : 29 + 6 * (nf - 1) + 2 * si' < 160) (hQ : vX Q M (m_arr A (29 + 6 * (nf - 1) + 2 * si')) 0 (mFpl r (r.pl + 1)) F) : Z E YX1_step (d + 3) M [(0, zX16), (1, vi (nI r.pl))] 0 [] Q := by
  obtain ⟨n1, n2, n3, n4⟩ := xFs_nums h.2
  obtain ⟨g0, -⟩ := mFok_hd ok
  obtain ⟨g, f⟩ := gX_pl h ok (r.pl + 1)
  have ok' : mFok (mFpl r (r.pl + 1) :: F) := mFok_pl ok hpl
  have hQ1 := vX_mono hQ f.cX3
  refine sX1_step_0 M _ h.1.1 ?_
  rw [n1, nn_cl (n := r.pl) (by omega), hc, ha]
  refine ⟨by rw [nn_in (by omega)]; omega, by rw [nn_in (by omega)]; omega, by rw [nn_in (by omega)]; omega, by rw [nn_in (by omega)]; omega, ?_⟩
  repeat rw [if_neg (by decide)]
  rw [if_pos rfl]
  simp (disch := omega) only [nn_add, nn_addl, nn_ladd, nn_mul, nn_lmul, nn_mull, nn_sub, nn_subl, nn_lsub, nn_lt, nn_le, nn_eq, nn_ltl, nn_llt, nn_lel, nn_lle, nn_eql, nn_leq, nn_m1, nn_1m, nn_ltm, nn_mlt, nn_mle, nn_lem, nn_cl, nn_in, nn_ns, nn_ns2, nn_nb, nn_nb2, nn_s1, nn_s2, nn_b1, nn_b2]
  refine jX1_sitePair _ _ g.1.1 ⟨28, hfn, ?_⟩
  rw [gi_oth (by decide), hfs]
  simp (disch := omega) only [nn_add, nn_addl, nn_ladd, nn_mul, nn_lmul, nn_mull, nn_sub, nn_subl, nn_lsub, nn_lt, nn_le, nn_eq, nn_ltl, nn_llt, nn_lel, nn_lle, nn_eql, nn_leq, nn_m1, nn_1m, nn_ltm, nn_mlt, nn_mle, nn_lem, nn_cl, nn_in, nn_ns, nn_ns2, nn_nb, nn_nb2, nn_s1, nn_s2, nn_b1, nn_b2]
  generalize si M 59 F.length (nI (r.pl + 1)) = M1 at *
  show Z E YX1_step (d + 3) M1 [] 394 [vi (nI (29 + 6 * (nf - 1) + 2 * si')), zX16, vi 7, zX16] Q
  refine sX1_step_394 M1 _ _ g.1.1 (xm_arr g.1 i h9 hpp (fun _ => by omega) (fun A' M' e s' f' => ?_) (fun A' M' e s' f' => ?_))
  · obtain ⟨g2, f2⟩ := gX_hp g ok' s' f'
    show ZT E YX1_step (d + 3) M' [] 394 (51, 13, 0) Q
    rw [e] at hQ1
    exact ZT.out (nohand rfl) (hQ1.2.2 rfl _ g2 f2)
  · obtain ⟨g2, f2⟩ := gX_hp g ok' s' f'
    show Z E YX1_step (d + 3) M' [] 397 [vi (nI (aO A)), vi 7, zX16] Q
    exact iX1_step_397 _ _ _ s'.1 (vX_pm (ks := 7) (vX_mono hQ1 f2) e g2 ok' (by omega))
theorem ts_arr {nf si' : Nat} (g : gT T A (r :: F)) (i : iA A) (h9 : 9 ≤ aO A) (ok : mFok (r :: F)) (hc : gi T 123 r.pl = 8) (ha : gi T 124 r.pl = nI si') (hfs : gi T 97 32 = nI nf) (hf1 : 1 ≤ nf) (hpp : 29 + 6 * (nf - 1) + 2 * si' < 160) (hQ : vT Q T (m_arr A (29 + 6 * (nf - 1) + 2 * si')) 0 r F) : Zm E YX8_step_2 (d + 3) T [(0, T97)] 0 [] Q := by
  obtain ⟨n1, n2, n3, n4⟩ := tFs_nums g.2.1
  obtain ⟨g0, g1, -⟩ := mFok_hd ok
  refine sX8_step_2_0 T ?_
  rw [n1, nn_cl (n := F.length) (by omega), n2, nn_cl (n := r.pl) (by omega), hc, ha]
  refine ⟨by rw [nn_in (by omega)]; omega, by rw [nn_in (by omega)]; omega, by rw [nn_in (by omega)]; omega, by rw [nn_in (by omega)]; omega, ?_⟩
  repeat rw [if_neg (by decide)]
  rw [if_pos rfl]
  refine sX8_siteLabel_0 T _ ?_
  rw [hfs]
  simp (disch := omega) only [nn_add, nn_addl, nn_ladd, nn_mul, nn_lmul, nn_mull, nn_sub, nn_subl, nn_lsub, nn_lt, nn_le, nn_eq, nn_ltl, nn_llt, nn_lel, nn_lle, nn_eql, nn_leq, nn_m1, nn_1m, nn_ltm, nn_mlt, nn_mle, nn_lem, nn_cl, nn_in, nn_ns, nn_ns2, nn_nb, nn_nb2, nn_s1, nn_s2, nn_b1, nn_b2]
  show Zm E YX8_step_2 (d + 3) T [(0, T97)] 316 [vi (nI (29 + 6 * (nf - 1) + 2 * si')), T97, vi 7, T97] Q
  refine sX8_step_2_316 T _ _ (tm_arr g.1 i h9 hpp g.2.2.1 (fun A' T' v e s' x75 f' => ?_) (fun A' T' e s' f' => ?_))
  · show Zm E YX8_step_2 (d + 3) T' [(0, T97)] 319 [vi v, vi 7, T97] Q
    refine iX8_step_2_319 _ _ _ ?_
    exact vT_2 (n := 0) (vT_out hQ (fun T' q => iX8_step_2_327 T' q)) e s' ok (tFs_cg g.2.1 ok f' (fun a k q => q.elim (fun q => .inr (.inr (.inl q))) (fun q => .inr (.inr (.inr q))))) x75 ((f'.2 97 73 (by unfold hnT hpT; omega)).1.trans g.2.2.2) (fr_hnT f')
  · obtain ⟨g2, f2⟩ := gT_hp g ok s' f'
    show Zm E YX8_step_2 (d + 3) T' [(0, T97)] 319 [vi (nI (aO A)), vi 7, T97] Q
    refine iX8_step_2_319 _ _ _ ?_
    exact vT_0 (n := 0) (vT_out (vT_mono hQ f2) (fun T' q => iX8_step_2_327 T' q)) e g2 ok (Nat.zero_le _) (by decide)
end
