/-! THE MACHINE's STEP: GET, PUT, DELETE -/
section
variable {E : zE} {d : Nat} {T M : zM} {Q : zO → zM → Prop} {A : mA} {r : mF} {F : List mF}
theorem vX_out {p : mE} {n : Nat} {Q' : zO → zM → Prop} (h : vX Q M p n r F) (k0 : ∀ M', cw M' → Q (.inl none) M' → Q' (.inl none) M') (k1 : ∀ q M', Q (.inr q) M' → Q' (.inr q) M') : vX Q' M p n r F :=
  ⟨fun e M' g f => k0 _ g.1.1 (h.1 e M' g f), fun e M' g e1 e2 f => k1 _ _ (h.2.1 e M' g e1 e2 f), fun e M' g f => k1 _ _ (h.2.2 e M' g f)⟩
/-- the place of the top frame goes on -/
theorem gX_pl (h : gX M A (r :: F)) (ok : mFok (r :: F)) (p : Nat) : gX (si M 59 F.length (nI p)) A (mFpl r p :: F) ∧ fr fFX M (si M 59 F.length (nI p)) :=
  have f : fr fFX M (si M 59 F.length (nI p)) := fr.si (fFX_i (by omega))
  ⟨⟨sX_cg h.1 f (fun a k q => .inr (.inl q)), xFs_pl h.2 (mFok_tl ok) p⟩, f⟩
theorem xs_get {c1 c2 : mC} {st : List mC} (h : gX M A (r :: F)) (i : iA A) (h9 : 9 ≤ aO A) (ok : mFok (r :: F)) (hpl : r.pl + 1 < 600) (hc : gi M 30 r.pl = 10) (hr : r.st = c1 :: c2 :: st) (v1 : mval A c1.1 c1.2.1) (v2 : mval A c2.1 c2.2.1) (hQ : vX Q M (m_get A c2.1 c2.2.1 c1.1 c1.2.1) 2 (mFpl r (r.pl + 1)) F) : Z E YX1_step (d + 5) M [(0, zX16), (1, vi (nI r.pl))] 0 [] Q := by
  obtain ⟨n1, n2, n3, n4⟩ := xFs_nums h.2
  obtain ⟨g0, -⟩ := mFok_hd ok
  obtain ⟨g, f⟩ := gX_pl h ok (r.pl + 1)
  have ok' : mFok (mFpl r (r.pl + 1) :: F) := mFok_pl ok hpl
  refine sX1_step_0 M _ h.1.1 ?_
  rw [n1, nn_cl (n := r.pl) (by omega), hc]
  refine ⟨by rw [nn_in (by omega)]; omega, by rw [nn_in (by omega)]; omega, by rw [nn_in (by omega)]; omega, by rw [nn_in (by omega)]; omega, ?_⟩
  repeat rw [if_neg (by decide)]
  rw [if_pos rfl]
  simp (disch := omega) only [nn_add, nn_addl, nn_ladd, nn_mul, nn_lmul, nn_mull, nn_sub, nn_subl, nn_lsub, nn_lt, nn_le, nn_eq, nn_ltl, nn_llt, nn_lel, nn_lle, nn_eql, nn_leq, nn_m1, nn_1m, nn_ltm, nn_mlt, nn_mle, nn_lem, nn_cl, nn_in, nn_ns, nn_ns2, nn_nb, nn_nb2, nn_s1, nn_s2, nn_b1, nn_b2]
  refine xm_getOf (r := mFpl r (r.pl + 1)) g i ok' h9 hr v1 v2 (vX_out (vX_mono hQ f.cX3) (fun M' hw q => ?_) (fun q M' z => ?_))
  · show Z E YX1_step (d + 5) M' [] 428 [] Q
    exact iX1_step_428 M' hw q
  · show ZT E YX1_step (d + 5) M' [] 425 q Q
    exact ZT.out (nohand rfl) z
theorem ts_get {c1 c2 : mC} {st : List mC} (g : gT T A (r :: F)) (i : iA A) (h9 : 9 ≤ aO A) (ok : mFok (r :: F)) (hh : mTh (r :: F)) (hc : gi T 123 r.pl = 10) (hr : r.st = c1 :: c2 :: st) (v1 : mval A c1.1 c1.2.1) (v2 : mval A c2.1 c2.2.1) (hQ : vT Q T (m_get A c2.1 c2.2.1 c1.1 c1.2.1) 2 r F) : Zm E YX8_step_2 (d + 6) T [(0, T97)] 0 [] Q := by
  obtain ⟨n1, n2, n3, n4⟩ := tFs_nums g.2.1
  obtain ⟨g0, g1, -⟩ := mFok_hd ok
  refine sX8_step_2_0 T ?_
  rw [n1, nn_cl (n := F.length) (by omega), n2, nn_cl (n := r.pl) (by omega), hc]
  refine ⟨by rw [nn_in (by omega)]; omega, by rw [nn_in (by omega)]; omega, by rw [nn_in (by omega)]; omega, by rw [nn_in (by omega)]; omega, ?_⟩
  repeat rw [if_neg (by decide)]
  rw [if_pos rfl]
  exact tm_get g i ok hh h9 hr v1 v2 (vT_out hQ (fun T' q => iX8_step_2_342 T' q))
theorem xs_put {c1 c2 c3 : mC} {st : List mC} (h : gX M A (r :: F)) (i : iA A) (hiL : iL A) (ok : mFok (r :: F)) (hpl : r.pl + 1 < 600) (hc : gi M 30 r.pl = 11) (hr : r.st = c1 :: c2 :: c3 :: st) (v1 : mval A c1.1 c1.2.1) (v2 : mval A c2.1 c2.2.1) (v3 : mval A c3.1 c3.2.1) (hQ : vX Q M (m_put3 A c3.1 c3.2.1 c2.1 c2.2.1 c1.1 c1.2.1) 3 (mFpl r (r.pl + 1)) F) : Z E YX1_step (d + 5) M [(0, zX16), (1, vi (nI r.pl))] 0 [] Q := by
  obtain ⟨n1, n2, n3, n4⟩ := xFs_nums h.2
  obtain ⟨g0, -⟩ := mFok_hd ok
  obtain ⟨g, f⟩ := gX_pl h ok (r.pl + 1)
  have ok' : mFok (mFpl r (r.pl + 1) :: F) := mFok_pl ok hpl
  refine sX1_step_0 M _ h.1.1 ?_
  rw [n1, nn_cl (n := r.pl) (by omega), hc]
  refine ⟨by rw [nn_in (by omega)]; omega, by rw [nn_in (by omega)]; omega, by rw [nn_in (by omega)]; omega, by rw [nn_in (by omega)]; omega, ?_⟩
  repeat rw [if_neg (by decide)]
  rw [if_pos rfl]
  simp (disch := omega) only [nn_add, nn_addl, nn_ladd, nn_mul, nn_lmul, nn_mull, nn_sub, nn_subl, nn_lsub, nn_lt, nn_le, nn_eq, nn_ltl, nn_llt, nn_lel, nn_lle, nn_eql, nn_leq, nn_m1, nn_1m, nn_ltm, nn_mlt, nn_mle, nn_lem, nn_cl, nn_in, nn_ns, nn_ns2, nn_nb, nn_nb2, nn_s1, nn_s2, nn_b1, nn_b2]
  refine xm_putIn (r := mFpl r (r.pl + 1)) g i hiL ok' hr v1 v2 v3 (vX_out (vX_mono hQ f.cX3) (fun M' hw q => ?_) (fun q M' z => ?_))
  · show Z E YX1_step (d + 5) M' [] 435 [] Q
    exact iX1_step_435 M' hw q
  · show ZT E YX1_step (d + 5) M' [] 432 q Q
    exact ZT.out (nohand rfl) z
theorem ts_put {c1 c2 c3 : mC} {st : List mC} (g : gT T A (r :: F)) (i : iA A) (hiL : iL A) (ok : mFok (r :: F)) (hh : mTh (r :: F)) (hc : gi T 123 r.pl = 11) (hr : r.st = c1 :: c2 :: c3 :: st) (v1 : mval A c1.1 c1.2.1) (v2 : mval A c2.1 c2.2.1) (v3 : mval A c3.1 c3.2.1) (hQ : vT Q T (m_put3 A c3.1 c3.2.1 c2.1 c2.2.1 c1.1 c1.2.1) 3 r F) : Zm E YX8_step_2 (d + 6) T [(0, T97)] 0 [] Q := by
  obtain ⟨n1, n2, n3, n4⟩ := tFs_nums g.2.1
  obtain ⟨g0, g1, -⟩ := mFok_hd ok
  refine sX8_step_2_0 T ?_
  rw [n1, nn_cl (n := F.length) (by omega), n2, nn_cl (n := r.pl) (by omega), hc]
  refine ⟨by rw [nn_in (by omega)]; omega, by rw [nn_in (by omega)]; omega, by rw [nn_in (by omega)]; omega, by rw [nn_in (by omega)]; omega, ?_⟩
  repeat rw [if_neg (by decide)]
  rw [if_pos rfl]
  exact tm_putInto g i hiL ok hh hr v1 v2 v3 (vT_out hQ (fun T' q => iX8_step_2_349 T' q))
theorem xs_del {c1 c2 : mC} {st : List mC} (h : gX M A (r :: F)) (i : iA A) (ok : mFok (r :: F)) (hpl : r.pl + 1 < 600) (hc : gi M 30 r.pl = 12) (hr : r.st = c1 :: c2 :: st) (v1 : mval A c1.1 c1.2.1) (v2 : mval A c2.1 c2.2.1) (hQ : vX Q M (m_del A c2.1 c2.2.1 c1.1 c1.2.1) 2 (mFpl r (r.pl + 1)) F) : Z E YX1_step (d + 5) M [(0, zX16), (1, vi (nI r.pl))] 0 [] Q := by
  obtain ⟨n1, n2, n3, n4⟩ := xFs_nums h.2
  obtain ⟨g0, -⟩ := mFok_hd ok
  obtain ⟨g, f⟩ := gX_pl h ok (r.pl + 1)
  have ok' : mFok (mFpl r (r.pl + 1) :: F) := mFok_pl ok hpl
  refine sX1_step_0 M _ h.1.1 ?_
  rw [n1, nn_cl (n := r.pl) (by omega), hc]
  refine ⟨by rw [nn_in (by omega)]; omega, by rw [nn_in (by omega)]; omega, by rw [nn_in (by omega)]; omega, by rw [nn_in (by omega)]; omega, ?_⟩
  repeat rw [if_neg (by decide)]
  rw [if_pos rfl]
  simp (disch := omega) only [nn_add, nn_addl, nn_ladd, nn_mul, nn_lmul, nn_mull, nn_sub, nn_subl, nn_lsub, nn_lt, nn_le, nn_eq, nn_ltl, nn_llt, nn_lel, nn_lle, nn_eql, nn_leq, nn_m1, nn_1m, nn_ltm, nn_mlt, nn_mle, nn_lem, nn_cl, nn_in, nn_ns, nn_ns2, nn_nb, nn_nb2, nn_s1, nn_s2, nn_b1, nn_b2]
  refine xm_deleteIn (r := mFpl r (r.pl + 1)) g i ok' hr v1 v2 (vX_out (vX_mono hQ f.cX3) (fun M' hw q => ?_) (fun q M' z => ?_))
  · show Z E YX1_step (d + 5) M' [] 442 [] Q
    exact iX1_step_442 M' hw q
  · show ZT E YX1_step (d + 5) M' [] 439 q Q
    exact ZT.out (nohand rfl) z
theorem ts_del {c1 c2 : mC} {st : List mC} (g : gT T A (r :: F)) (i : iA A) (ok : mFok (r :: F)) (hh : mTh (r :: F)) (hc : gi T 123 r.pl = 12) (hr : r.st = c1 :: c2 :: st) (v1 : mval A c1.1 c1.2.1) (v2 : mval A c2.1 c2.2.1) (hQ : vT Q T (m_del A c2.1 c2.2.1 c1.1 c1.2.1) 2 r F) : Zm E YX8_step_2 (d + 6) T [(0, T97)] 0 [] Q := by
  obtain ⟨n1, n2, n3, n4⟩ := tFs_nums g.2.1
  obtain ⟨g0, g1, -⟩ := mFok_hd ok
  refine sX8_step_2_0 T ?_
  rw [n1, nn_cl (n := F.length) (by omega), n2, nn_cl (n := r.pl) (by omega), hc]
  refine ⟨by rw [nn_in (by omega)]; omega, by rw [nn_in (by omega)]; omega, by rw [nn_in (by omega)]; omega, by rw [nn_in (by omega)]; omega, ?_⟩
  repeat rw [if_neg (by decide)]
  rw [if_pos rfl]
  exact tm_delete g i ok hh hr v1 v2 (vT_out hQ (fun T' q => iX8_step_2_356 T' q))
end
