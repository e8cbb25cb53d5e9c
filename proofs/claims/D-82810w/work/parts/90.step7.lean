/-! THE MACHINE's STEP: GLOBAL, TYPE_GLOBAL, SET_GLOBAL -/
def m_setg (A : mA) (x s v : Int32) : mE := match a_set A 0 x s v with
  | (false, A') => (2, A', 0, 0)
  | (true, A') => (0, A', s, v)
section
variable {E : zE} {d : Nat} {T M : zM} {Q : zO → zM → Prop} {A : mA} {r : mF} {F : List mF}
theorem ts_glob {x : Int32} (g : gT T A (r :: F)) (i : iA A) (h9 : 9 ≤ aO A) (ok : mFok (r :: F)) (hh : mTh (r :: F)) (hc : gi T 123 r.pl = 3) (hb : gi T 125 r.pl = x) (hQ : vT Q T (m_glob A x) 0 r F) : Zm E YX8_step_2 (d + 5) T [(0, T97)] 0 [] Q := by
  obtain ⟨n1, n2, n3, n4⟩ := tFs_nums g.2.1
  obtain ⟨g0, g1, -⟩ := mFok_hd ok
  refine sX8_step_2_0 T ?_
  rw [n1, nn_cl (n := F.length) (by omega), n2, nn_cl (n := r.pl) (by omega), hc, hb]
  refine ⟨by rw [nn_in (by omega)]; omega, by rw [nn_in (by omega)]; omega, by rw [nn_in (by omega)]; omega, by rw [nn_in (by omega)]; omega, ?_⟩
  rw [if_neg (show ¬ (3 : Int32) = 0 by decide), if_neg (show ¬ (3 : Int32) = 1 by decide), if_neg (show ¬ (3 : Int32) = 2 by decide), if_pos rfl, if_pos rfl]
  exact ⟨by rw [nn_in (by omega)]; omega, tm_glob (b := true) g i h9 ok hh (vT_out hQ (fun T' q => iX8_step_2_215 T' q))⟩
theorem ts_tglob {x : Int32} (g : gT T A (r :: F)) (i : iA A) (h9 : 9 ≤ aO A) (ok : mFok (r :: F)) (hh : mTh (r :: F)) (hc : gi T 123 r.pl = 5) (hb : gi T 125 r.pl = x) (hQ : vT Q T (m_tglob A x) 0 r F) : Zm E YX8_step_2 (d + 5) T [(0, T97)] 0 [] Q := by
  obtain ⟨n1, n2, n3, n4⟩ := tFs_nums g.2.1
  obtain ⟨g0, g1, -⟩ := mFok_hd ok
  refine sX8_step_2_0 T ?_
  rw [n1, nn_cl (n := F.length) (by omega), n2, nn_cl (n := r.pl) (by omega), hc, hb]
  refine ⟨by rw [nn_in (by omega)]; omega, by rw [nn_in (by omega)]; omega, by rw [nn_in (by omega)]; omega, by rw [nn_in (by omega)]; omega, ?_⟩
  rw [if_neg (show ¬ (5 : Int32) = 0 by decide), if_neg (show ¬ (5 : Int32) = 1 by decide), if_neg (show ¬ (5 : Int32) = 2 by decide), if_neg (show ¬ (5 : Int32) = 3 by decide), if_neg (show ¬ (5 : Int32) = 4 by decide), if_pos rfl]
  exact ⟨by rw [nn_in (by omega)]; omega, tm_glob (b := false) g i h9 ok hh (vT_out hQ (fun T' q => iX8_step_2_215 T' q))⟩
theorem xs_tglob {x : Int32} (h : gX M A (r :: F)) (i : iA A) (h9 : 9 ≤ aO A) (ok : mFok (r :: F)) (hpl : r.pl + 1 < 600) (hc : gi M 30 r.pl = 5) (hb : gi M 34 r.pl = x) (hQ : vX Q M (m_tglob A x) 0 (mFpl r (r.pl + 1)) F) : Z E YX1_step (d + 2) M [(0, zX16), (1, vi (nI r.pl))] 0 [] Q := by
  obtain ⟨n1, n2, n3, n4⟩ := xFs_nums h.2
  obtain ⟨g0, -⟩ := mFok_hd ok
  obtain ⟨g, f⟩ := gX_pl h ok (r.pl + 1)
  have ok' : mFok (mFpl r (r.pl + 1) :: F) := mFok_pl ok hpl
  have hob := i.1.1.2
  have hQ1 := vX_mono hQ f.cX3
  refine sX1_step_0 M _ h.1.1 ?_
  rw [n1, nn_cl (n := r.pl) (by omega), hc, hb]
  refine ⟨by rw [nn_in (by omega)]; omega, by rw [nn_in (by omega)]; omega, by rw [nn_in (by omega)]; omega, by rw [nn_in (by omega)]; omega, ?_⟩
  repeat rw [if_neg (by decide)]
  rw [if_pos rfl]
  simp (disch := omega) only [nn_add, nn_addl, nn_ladd, nn_mul, nn_lmul, nn_mull, nn_sub, nn_subl, nn_lsub, nn_lt, nn_le, nn_eq, nn_ltl, nn_llt, nn_lel, nn_lle, nn_eql, nn_leq, nn_m1, nn_1m, nn_ltm, nn_mlt, nn_mle, nn_lem, nn_cl, nn_in, nn_ns, nn_ns2, nn_nb, nn_nb2, nn_s1, nn_s2, nn_b1, nn_b2]
  refine xA_own (o := 0) g.1 i (by omega) ?_
  show Z E YX1_step (d + 2) (si M 59 F.length (nI (r.pl + 1))) [(0, zX16)] 303 [vi (m_own A 0 x)] Q
  generalize si M 59 F.length (nI (r.pl + 1)) = M1 at *
  refine iX1_step_303 M1 _ g.1.1 ?_
  unfold m_tglob at hQ1
  rcases m_own_or i (show 0 < aO A by omega) x with e | ⟨q, hq, q3, e⟩
  · rw [if_pos e] at hQ1 ⊢
    exact vX_pm (ks := 6) hQ1 rfl g ok' (by omega)
  · have en : ¬ m_own A 0 x = -1 := by rw [e, nn_m1 (by omega)]; exact fun z => z
    rw [if_neg en] at hQ1 ⊢
    rw [e] at hQ1 ⊢
    rw [nn_cl (by omega)] at hQ1 ⊢
    obtain ⟨-, -, e48, e49, -⟩ := g.1.2.1.2.2.2 0 (by omega) q hq
    rw [e48, e49]
    have hv := (i.2.2.1 0 (by omega) q hq).1
    refine ⟨by rw [nn_in (by omega)]; omega, ?_⟩
    refine xm_typ g.1.1 hv hob (fun y hy => ?_)
    have ey : y = mty (gi (aT A) 146 q) (gi (aT A) 141 (gi (aT A) 147 q).toNatClampNeg) := by
      rw [hy]
      refine mty_cg hv (fun h7 => ?_)
      obtain ⟨k, ek, hk8, -, k7⟩ := hv
      obtain ⟨j, ej, hj⟩ := k7 (by rw [ek] at h7; simp (disch := omega) only [nn_add, nn_addl, nn_ladd, nn_mul, nn_lmul, nn_mull, nn_sub, nn_subl, nn_lsub, nn_lt, nn_le, nn_eq, nn_ltl, nn_llt, nn_lel, nn_lle, nn_eql, nn_leq, nn_m1, nn_1m, nn_ltm, nn_mlt, nn_mle, nn_lem, nn_cl, nn_in, nn_ns, nn_ns2, nn_nb, nn_nb2, nn_s1, nn_s2, nn_b1, nn_b2] at h7; exact h7)
      rw [ej, nn_cl (by omega)]
      exact (g.1.2.1.2.2.1 j hj).1
    rw [← ey] at hQ1
    show Z E YX1_step (d + 2) M1 [] 337 [vi y, vi 6, zX16] Q
    exact iX1_step_337 M1 _ _ g.1.1 (vX_pm (ks := 6) hQ1 rfl g ok' (by omega))
end
