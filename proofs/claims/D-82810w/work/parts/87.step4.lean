/-! THE MACHINE's STEP: CONSTANT, THIS -/
section
variable {E : zE} {d : Nat} {T M : zM} {Q : zO → zM → Prop} {A : mA} {r : mF} {F : List mF}
/-- a value is pushed by the component -/
theorem vX_push {p : mE} {ks : Nat} {v : Int32} (hQ : vX Q M p 0 r F) (e : p = (0, A, nI ks, v)) (h : gX M A (r :: F)) (ok : mFok (r :: F)) (hks : ks < 8) {Q' : zO → zM → Prop} (k : ∀ M', cw M' → Q (.inl none) M' → Q' (.inl none) M') : Z E YX1_push d M [(0, zX16), (1, vi (nI ks)), (2, vi v)] 0 [] Q' := by
  obtain ⟨g0, g1, g2, g3, g4⟩ := mFok_hd ok
  refine xm_push h.1.1 h.2 (mFok_tl ok) g0 (by omega) (by omega) 0 0 (fun q => absurd q (by rw [nn_eql (by omega) (by omega)]; omega)) (fun M' x f => ?_)
  subst e
  have s' := sX_cg h.1 f (fun a k q => .inr (.inl q))
  exact k M' s'.1 (hQ.1 rfl M' ⟨s', x⟩ f.cX3)
theorem xs_const {ks : Nat} {v : Int32} (h : gX M A (r :: F)) (ok : mFok (r :: F)) (hpl : r.pl + 1 < 600) (hc : gi M 30 r.pl = 0) (ha : gi M 31 r.pl = nI ks) (hb : gi M 34 r.pl = v) (hks : ks < 8) (hQ : vX Q M (0, A, nI ks, v) 0 (mFpl r (r.pl + 1)) F) : Z E YX1_step (d + 1) M [(0, zX16), (1, vi (nI r.pl))] 0 [] Q := by
  obtain ⟨n1, n2, n3, n4⟩ := xFs_nums h.2
  obtain ⟨g0, -⟩ := mFok_hd ok
  obtain ⟨g, f⟩ := gX_pl h ok (r.pl + 1)
  have ok' : mFok (mFpl r (r.pl + 1) :: F) := mFok_pl ok hpl
  refine sX1_step_0 M _ h.1.1 ?_
  rw [n1, nn_cl (n := r.pl) (by omega), hc, ha, hb]
  refine ⟨by rw [nn_in (by omega)]; omega, by rw [nn_in (by omega)]; omega, by rw [nn_in (by omega)]; omega, by rw [nn_in (by omega)]; omega, ?_⟩
  rw [if_pos rfl]
  simp (disch := omega) only [nn_add, nn_addl, nn_ladd, nn_mul, nn_lmul, nn_mull, nn_sub, nn_subl, nn_lsub, nn_lt, nn_le, nn_eq, nn_ltl, nn_llt, nn_lel, nn_lle, nn_eql, nn_leq, nn_m1, nn_1m, nn_ltm, nn_mlt, nn_mle, nn_lem, nn_cl, nn_in, nn_ns, nn_ns2, nn_nb, nn_nb2, nn_s1, nn_s2, nn_b1, nn_b2]
  refine vX_push (vX_mono hQ f.cX3) rfl g ok' hks (fun M' hw q => ?_)
  show Z E YX1_step (d + 1) M' [] 166 [] Q
  exact iX1_step_166 M' hw q
theorem ts_const {s v : Int32} (g : gT T A (r :: F)) (ok : mFok (r :: F)) (hc : gi T 123 r.pl = 0) (ha : gi T 124 r.pl = s) (hb : gi T 125 r.pl = v) (hs : ¬ s = 8) (hQ : vT Q T (0, A, s, v) 0 r F) : Zm E YX8_step_2 (d + 3) T [(0, T97)] 0 [] Q := by
  obtain ⟨n1, n2, n3, n4⟩ := tFs_nums g.2.1
  obtain ⟨g0, g1, -⟩ := mFok_hd ok
  refine sX8_step_2_0 T ?_
  rw [n1, nn_cl (n := F.length) (by omega), n2, nn_cl (n := r.pl) (by omega), hc, ha, hb]
  refine ⟨by rw [nn_in (by omega)]; omega, by rw [nn_in (by omega)]; omega, by rw [nn_in (by omega)]; omega, by rw [nn_in (by omega)]; omega, ?_⟩
  rw [if_pos rfl]
  refine sX8_give_2_0 T _ _ ?_
  show Zm E YX8_step_2 (d + 3) (si (si T 97 111 s) 97 112 v) [(0, T97)] 122 [] Q
  refine sX8_step_2_122 _ ?_
  exact vT_0 (n := 0) (vT_out hQ (fun T' q => iX8_step_2_127 T' q)) rfl g ok (Nat.zero_le _) hs
theorem xs_this {ks : Nat} {v : Int32} (h : gX M A (r :: F)) (ok : mFok (r :: F)) (hpl : r.pl + 1 < 600) (hc : gi M 30 r.pl = 6) (ha : r.1.2.2.1 = nI ks) (hb : r.1.2.2.2.1 = v) (hks : ks < 8) (hQ : vX Q M (0, A, nI ks, v) 0 (mFpl r (r.pl + 1)) F) : Z E YX1_step (d + 1) M [(0, zX16), (1, vi (nI r.pl))] 0 [] Q := by
  obtain ⟨n1, n2, n3, n4⟩ := xFs_nums h.2
  obtain ⟨g0, -⟩ := mFok_hd ok
  obtain ⟨g, f⟩ := gX_pl h ok (r.pl + 1)
  have ok' : mFok (mFpl r (r.pl + 1) :: F) := mFok_pl ok hpl
  have e63 : gi M 63 F.length = nI ks := h.2.2.1.1.2.2.1.trans ha
  have e64 : gi M 64 F.length = v := h.2.2.1.1.2.2.2.1.trans hb
  refine sX1_step_0 M _ h.1.1 ?_
  rw [n1, nn_cl (n := r.pl) (by omega), hc]
  refine ⟨by rw [nn_in (by omega)]; omega, by rw [nn_in (by omega)]; omega, by rw [nn_in (by omega)]; omega, by rw [nn_in (by omega)]; omega, ?_⟩
  repeat rw [if_neg (by decide)]
  rw [if_pos rfl]
  simp (disch := omega) only [e63, e64, nn_add, nn_addl, nn_ladd, nn_mul, nn_lmul, nn_mull, nn_sub, nn_subl, nn_lsub, nn_lt, nn_le, nn_eq, nn_ltl, nn_llt, nn_lel, nn_lle, nn_eql, nn_leq, nn_m1, nn_1m, nn_ltm, nn_mlt, nn_mle, nn_lem, nn_cl, nn_in, nn_ns, nn_ns2, nn_nb, nn_nb2, nn_s1, nn_s2, nn_b1, nn_b2]
  refine ⟨by omega, by omega, ?_⟩
  refine vX_push (vX_mono hQ f.cX3) rfl g ok' hks (fun M' hw q => ?_)
  show Z E YX1_step (d + 1) M' [] 361 [] Q
  exact iX1_step_361 M' hw q
theorem ts_this {s v : Int32} (g : gT T A (r :: F)) (ok : mFok (r :: F)) (hc : gi T 123 r.pl = 6) (ha : r.1.2.2.1 = s) (hb : r.1.2.2.2.1 = v) (hs : ¬ s = 8) (hQ : vT Q T (0, A, s, v) 0 r F) : Zm E YX8_step_2 (d + 3) T [(0, T97)] 0 [] Q := by
  obtain ⟨n1, n2, n3, n4⟩ := tFs_nums g.2.1
  obtain ⟨g0, g1, -⟩ := mFok_hd ok
  have e152 : gi T 152 F.length = s := g.2.1.2.1.1.2.2.1.trans ha
  have e153 : gi T 153 F.length = v := g.2.1.2.1.1.2.2.2.1.trans hb
  refine sX8_step_2_0 T ?_
  rw [n1, nn_cl (n := F.length) (by omega), n2, nn_cl (n := r.pl) (by omega), hc]
  refine ⟨by rw [nn_in (by omega)]; omega, by rw [nn_in (by omega)]; omega, by rw [nn_in (by omega)]; omega, by rw [nn_in (by omega)]; omega, ?_⟩
  repeat rw [if_neg (by decide)]
  rw [if_pos rfl, e152, e153]
  refine ⟨by rw [nn_in (by omega)]; omega, by rw [nn_in (by omega)]; omega, ?_⟩
  refine sX8_give_2_0 T _ _ ?_
  show Zm E YX8_step_2 (d + 3) (si (si T 97 111 s) 97 112 v) [(0, T97)] 274 [] Q
  refine sX8_step_2_274 _ ?_
  exact vT_0 (n := 0) (vT_out hQ (fun T' q => iX8_step_2_279 T' q)) rfl g ok (Nat.zero_le _) hs
end
