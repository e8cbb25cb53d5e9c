/-! THE MACHINE's STEP: OBJECT, ARRAY -/
def m_obj (A : mA) (pp : Nat) : mE := if aO A = 300 then (2, A, 0, 0) else (0, a_new A 1 pp 0 (-1), 7, nI (aO A))
/-- a new array: its number; none: no room -/
def m_arr (A : mA) (pp : Nat) : mE := if aO A = 300 then (2, A, 0, 0) else match a_set (a_new A 3 pp 2 (-1)) (aO A) 0 5 0 with
  | (false, A') => (2, A', 0, 0)
  | (true, A') => (0, A', 7, nI (aO A))
section
variable {E : zE} {d : Nat} {T M : zM} {Q : zO → zM → Prop} {A : mA} {r : mF} {F : List mF}
theorem gX_new {ks pp : Nat} {pr lk : Int32} (h : gX M A (r :: F)) (ok : mFok (r :: F)) (s' : sX (x_new M (aO A) (nI ks) pp pr lk) (a_new A pr pp (nI ks) lk)) : gX (x_new M (aO A) (nI ks) pp pr lk) (a_new A pr pp (nI ks) lk) (r :: F) ∧ fr cX M (x_new M (aO A) (nI ks) pp pr lk) := by
  have f := x_new_fr M (aO A) (nI ks) pp pr lk
  exact ⟨⟨s', xFs_cg h.2 ok f (fun a k q => .inr (.inr (by unfold hpX; omega)))⟩, f.mono fun a k q => by unfold cX hpX; omega⟩
theorem gT_new {T' : zM} {A' : mA} (h : gT T A (r :: F)) (ok : mFok (r :: F)) (s' : sT T' A') (f : fr (fun a k => 138 ≤ a ∧ a ≤ 144 ∨ a = 97 ∧ k = 76) T T') : gT T' A' (r :: F) ∧ fr cT T T' :=
  ⟨⟨s', tFs_cg h.2.1 ok f (fun a k q => .inr (.inr (.inl (by unfold hpT; omega)))), (f.2 97 75 (by omega)).1.trans h.2.2.1, (f.2 97 73 (by omega)).1.trans h.2.2.2⟩, f.mono fun a k q => by unfold cT hpT; omega⟩
theorem xs_obj {nf si' : Nat} (h : gX M A (r :: F)) (i : iA A) (ok : mFok (r :: F)) (hpl : r.pl + 1 < 600) (hc : gi M 30 r.pl = 7) (ha : gi M 31 r.pl = nI si') (hfn : gr M 16 8 = some (28, 11, 0)) (hfs : gi M 28 2 = nI nf) (hf1 : 1 ≤ nf) (hpp : 29 + 6 * (nf - 1) + 2 * si' < 160) (hQ : vX Q M (m_obj A (29 + 6 * (nf - 1) + 2 * si')) 0 (mFpl r (r.pl + 1)) F) : Z E YX1_step (d + 2) M [(0, zX16), (1, vi (nI r.pl))] 0 [] Q := by
  obtain ⟨n1, n2, n3, n4⟩ := xFs_nums h.2
  obtain ⟨g0, -⟩ := mFok_hd ok
  obtain ⟨g, f⟩ := gX_pl h ok (r.pl + 1)
  have ok' : mFok (mFpl r (r.pl + 1) :: F) := mFok_pl ok hpl
  have hQ1 := vX_mono hQ f.cX3
  refine sX1_step_0 M _ h.1.1 ?_
  rw [n1, nn_cl (n := r.pl) (by omega), hc, ha]
  refine ⟨by rw [nn_in (by omega)]; omega, by rw [nn_in (by omega)]; omega, by rw [nn_in (by omega)]; omega, by rw [nn_in (by omega)]; omega, ?_⟩
  repeat rw [if_neg (by decide)]
  rw [if_pos rfl]
  simp (disch := omega) only [nn_add, nn_addl, nn_ladd, nn_mul, nn_lmul, nn_mull, nn_sub, nn_subl, nn_lsub, nn_lt, nn_le, nn_eq, nn_ltl, nn_llt, nn_lel, nn_lle, nn_eql, nn_leq, nn_m1, nn_1m, nn_ltm, nn_mlt, nn_mle, nn_lem, nn_cl, nn_in, nn_ns, nn_ns2, nn_nb, nn_nb2, nn_s1, nn_s2, nn_b1, nn_b2]
  refine jX1_sitePair _ _ g.1.1 ⟨28, hfn, ?_⟩
  rw [gi_oth (by decide), hfs]
  simp (disch := omega) only [nn_add, nn_addl, nn_ladd, nn_mul, nn_lmul, nn_mull, nn_sub, nn_subl, nn_lsub, nn_lt, nn_le, nn_eq, nn_ltl, nn_llt, nn_lel, nn_lle, nn_eql, nn_leq, nn_m1, nn_1m, nn_ltm, nn_mlt, nn_mle, nn_lem, nn_cl, nn_in, nn_ns, nn_ns2, nn_nb, nn_nb2, nn_s1, nn_s2, nn_b1, nn_b2]
  generalize si M 59 F.length (nI (r.pl + 1)) = M1 at *
  show Z E YX1_step (d + 2) M1 [] 374 [vi (nI (29 + 6 * (nf - 1) + 2 * si')), vi 0, zX16, vi 7, zX16] Q
  refine sX1_step_374 M1 _ _ _ g.1.1 ?_
  unfold m_obj at hQ1
  refine xA_new (ks := 0) (pr := 1) (lk := -1) g.1 i (by omega) (by omega) hpp (fun _ => by omega) rfl rfl (fun h3 => ?_) (fun hlt s' => ?_)
  · rw [if_pos h3] at hQ1
    show ZT E YX1_step (d + 2) M1 [] 376 (51, 13, 0) Q
    exact ZT.out (nohand rfl) (hQ1.2.2 rfl _ g fr.rf)
  · rw [if_neg (by omega)] at hQ1
    obtain ⟨g2, f2⟩ := gX_new g ok' s'
    show Z E YX1_step (d + 2) (x_new M1 (aO A) (nI 0) (29 + 6 * (nf - 1) + 2 * si') 1 (-1)) [] 379 [vi (nI (aO A)), vi 7, zX16] Q
    exact iX1_step_379 _ _ _ s'.1 (vX_pm (ks := 7) (vX_mono hQ1 f2) rfl g2 ok' (by omega))
theorem ts_obj {nf si' : Nat} (g : gT T A (r :: F)) (i : iA A) (ok : mFok (r :: F)) (hc : gi T 123 r.pl = 7) (ha : gi T 124 r.pl = nI si') (hfs : gi T 97 32 = nI nf) (hf1 : 1 ≤ nf) (hpp : 29 + 6 * (nf - 1) + 2 * si' < 160) (hQ : vT Q T (m_obj A (29 + 6 * (nf - 1) + 2 * si')) 0 r F) : Zm E YX8_step_2 (d + 3) T [(0, T97)] 0 [] Q := by
  obtain ⟨n1, n2, n3, n4⟩ := tFs_nums g.2.1
  obtain ⟨g0, g1, -⟩ := mFok_hd ok
  refine sX8_step_2_0 T ?_
  rw [n1, nn_cl (n := F.length) (by omega), n2, nn_cl (n := r.pl) (by omega), hc, ha]
  refine ⟨by rw [nn_in (by omega)]; omega, by rw [nn_in (by omega)]; omega, by rw [nn_in (by omega)]; omega, by rw [nn_in (by omega)]; omega, ?_⟩
  repeat rw [if_neg (by decide)]
  rw [if_pos rfl]
  refine sX8_siteLabel_0 T _ ?_
  rw [hfs]
  simp (disch := omega) only [nn_add, nn_addl, nn_ladd, nn_mul, nn_lmul, nn_mull, nn_sub, nn_subl, nn_lsub, nn_lt, nn_le, nn_eq, nn_ltl, nn_llt, nn_lel, nn_lle, nn_eql, nn_leq, nn_m1, nn_1m, nn_ltm, nn_mlt, nn_mle, nn_lem, nn_cl, nn_in, nn_ns, nn_ns2, nn_nb, nn_nb2, nn_s1, nn_s2, nn_b1, nn_b2]
  show Zm E YX8_step_2 (d + 3) T [(0, T97)] 292 [vi (nI (29 + 6 * (nf - 1) + 2 * si')), vi 1, T97, vi 7, T97] Q
  refine sX8_step_2_292 T _ _ _ ?_
  unfold m_obj at hQ
  refine tA_new g.1 i (by omega) (fun h3 => ?_) (fun T' hlt s' f' => ?_)
  · rw [if_pos h3] at hQ
    show Zm E YX8_step_2 (d + 3) (si T 97 75 1) [(0, T97)] 296 [vi 0, vi 7, T97] Q
    refine iX8_step_2_296 _ _ _ ?_
    have f3 : fr (fun a k => scr a k ∨ a = 97 ∧ k = 75) T (si (si (si T 97 75 1) 97 111 7) 97 112 0) := (fr.si (.inr ⟨rfl, rfl⟩)).tr (fr_got.mono fun a k q => .inl q)
    have x75 : gi (si (si (si T 97 75 1) 97 111 7) 97 112 0) 97 75 = 1 := by rw [gi_idx (by decide), gi_idx (by decide), gi_self]
    refine tm_givesN x75 (iX8_step_2_304 _ ?_)
    exact hQ.2.2 rfl _ (sT_cg g.1 f3 (fun a k q => q.elim .inl (fun q => .inr (.inr q)))) (tFs_cg g.2.1 ok f3 (fun a k q => q.elim .inl (fun q => .inr (.inr (.inr q))))) x75 ((f3.2 97 73 (by unfold scr; omega)).1.trans g.2.2.2) (f3.mono fun a k q => by unfold cT; exact q.elim (fun q => .inr (.inr (.inl q))) (fun q => .inr (.inr (.inr (.inr q)))))
  · rw [if_neg (by omega)] at hQ
    obtain ⟨g2, f2⟩ := gT_new g ok s' f'
    show Zm E YX8_step_2 (d + 3) T' [(0, T97)] 296 [vi (nI (aO A)), vi 7, T97] Q
    refine iX8_step_2_296 _ _ _ ?_
    exact vT_0 (n := 0) (vT_out (vT_mono hQ f2) (fun T' q => iX8_step_2_304 T' q)) rfl g2 ok (Nat.zero_le _) (by decide)
end
