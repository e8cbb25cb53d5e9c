/-! THE MACHINE's STEP: GLOBAL -/
def m_own (A : mA) (o : Nat) (x : Int32) : Int32 := fnd (gi (aT A) 145) x (aP A o)
theorem m_own_or {A : mA} (i : iA A) {o : Nat} (ho : o < aO A) (x : Int32) : m_own A o x = -1 ∨ ∃ q, q ∈ aP A o ∧ q < 3000 ∧ m_own A o x = nI q := by
  rcases fnd_or (gi (aT A) 145) x (aP A o) with ⟨e, -⟩ | ⟨l1, q, l2, e1, -, -, e4⟩
  · exact .inl e
  · have hq : q ∈ aP A o := by rw [e1]; simp
    exact .inr ⟨q, hq, ((i.1.2.2 o ho).2.2.2.1 q hq).1, e4⟩
def m_glob (A : mA) (x : Int32) : mE := if m_own A 0 x = -1 then m_err A 1 else m_val A (m_own A 0 x)
section
variable {E : zE} {d : Nat} {T M : zM} {Q : zO → zM → Prop} {A : mA} {r : mF} {F : List mF}
theorem xA_own {o : Nat} {x : Int32} (h : sX M A) (i : iA A) (ho : o < aO A) (hQ : Q (.inl (some (vi (m_own A o x)))) M) : Z E YX1_own d M [(0, zX16), (1, vi (nI o)), (2, vi x)] 0 [] Q := by
  have hob := i.1.1.2
  refine xm_own (o := nI o) h.1 (by simp (disch := omega) only [nn_add, nn_addl, nn_ladd, nn_mul, nn_lmul, nn_mull, nn_sub, nn_subl, nn_lsub, nn_lt, nn_le, nn_eq, nn_ltl, nn_llt, nn_lel, nn_lle, nn_eql, nn_leq, nn_m1, nn_1m, nn_ltm, nn_mlt, nn_mle, nn_lem, nn_cl, nn_in, nn_ns, nn_ns2, nn_nb, nn_nb2, nn_s1, nn_s2, nn_b1, nn_b2]; omega) (by rw [nn_cl (by omega)]; exact hX_chn i.1 h.2.1 ho) (fun z hz => ((i.1.2.2 o ho).2.2.2.1 z hz).1) (fun p hp => ?_)
  rw [hp, hX_fnd h.2.1 ho]
  exact hQ
theorem tA_own {o : Nat} {x : Int32} (h : sT T A) (i : iA A) (ho : o < aO A) (hQ : Q (.inl (some (vi (m_own A o x)))) T) : Zm E YX8_findProperty d T [(0, T97), (1, vi (nI o)), (2, vi x)] 0 [] Q := by
  have hob := i.1.1.2
  have hc := (sT_hT h i).2.2 o ho
  refine tm_find (o := nI o) (by simp (disch := omega) only [nn_add, nn_addl, nn_ladd, nn_mul, nn_lmul, nn_mull, nn_sub, nn_subl, nn_lsub, nn_lt, nn_le, nn_eq, nn_ltl, nn_llt, nn_lel, nn_lle, nn_eql, nn_leq, nn_m1, nn_1m, nn_ltm, nn_mlt, nn_mle, nn_lem, nn_cl, nn_in, nn_ns, nn_ns2, nn_nb, nn_nb2, nn_s1, nn_s2, nn_b1, nn_b2]; omega) (by rw [nn_cl (by omega)]; exact hc.1) (fun z hz => (hc.2.2.2.1 z hz).1) (fun p hp => ?_)
  rw [hp, show gi T 145 = gi (aT A) 145 from funext fun w => h.1 145 w (by unfold hpT; omega)]
  exact hQ
theorem vX_pm {p : mE} {ks : Nat} {v : Int32} (hQ : vX Q M p 0 r F) (e : p = (0, A, nI ks, v)) (h : gX M A (r :: F)) (ok : mFok (r :: F)) (hks : ks < 8) : vp_in (gi M 16 38) 14500 ∧ Q (.inl none) (si (si (si M 53 (gi M 16 38).toNatClampNeg (vp_nar .byte (nI ks).toInt8.toInt32)) 16 38 (gi M 16 38 + 1)) 54 (gi M 16 38).toNatClampNeg v) := by
  obtain ⟨g0, g1, g2, g3, g4⟩ := mFok_hd ok
  have ht := (mtot_le (mFok_tl ok)).1
  subst e
  rw [(xFs_nums h.2).2.2.1]
  simp (disch := omega) only [nn_add, nn_addl, nn_ladd, nn_mul, nn_lmul, nn_mull, nn_sub, nn_subl, nn_lsub, nn_lt, nn_le, nn_eq, nn_ltl, nn_llt, nn_lel, nn_lle, nn_eql, nn_leq, nn_m1, nn_1m, nn_ltm, nn_mlt, nn_mle, nn_lem, nn_cl, nn_in, nn_ns, nn_ns2, nn_nb, nn_nb2, nn_s1, nn_s2, nn_b1, nn_b2]
  have x := xFs_push h.2 (mFok_tl ok) (c := (nI ks, v, 0, 0)) (fun q => absurd q (by show ¬ nI ks = 8; rw [nn_eql (by omega) (by omega)]; omega))
  have f : fr fFX M (si (si (si M 53 (mtot F + r.st.length) (nI ks)) 16 38 (nI (mtot F + r.st.length + 1))) 54 (mtot F + r.st.length) v) := ((fr.si (fFX_i (by omega))).tr (fr.si fFX_38)).tr (fr.si (fFX_i (by omega)))
  exact ⟨by omega, hQ.1 rfl _ ⟨sX_cg h.1 f (fun a k q => .inr (.inl q)), x⟩ f.cX3⟩
theorem xs_glob {x : Int32} (h : gX M A (r :: F)) (i : iA A) (h9 : 9 ≤ aO A) (ok : mFok (r :: F)) (hpl : r.pl + 1 < 600) (hc : gi M 30 r.pl = 3) (hb : gi M 34 r.pl = x) (hQ : vX Q M (m_glob A x) 0 (mFpl r (r.pl + 1)) F) : Z E YX1_step (d + 2) M [(0, zX16), (1, vi (nI r.pl))] 0 [] Q := by
  obtain ⟨n1, n2, n3, n4⟩ := xFs_nums h.2
  obtain ⟨g0, -⟩ := mFok_hd ok
  obtain ⟨g, f⟩ := gX_pl h ok (r.pl + 1)
  have ok' : mFok (mFpl r (r.pl + 1) :: F) := mFok_pl ok hpl
  have hQ1 := vX_mono hQ f.cX3
  refine sX1_step_0 M _ h.1.1 ?_
  rw [n1, nn_cl (n := r.pl) (by omega), hc, hb]
  refine ⟨by rw [nn_in (by omega)]; omega, by rw [nn_in (by omega)]; omega, by rw [nn_in (by omega)]; omega, by rw [nn_in (by omega)]; omega, ?_⟩
  repeat rw [if_neg (by decide)]
  rw [if_pos rfl]
  simp (disch := omega) only [nn_add, nn_addl, nn_ladd, nn_mul, nn_lmul, nn_mull, nn_sub, nn_subl, nn_lsub, nn_lt, nn_le, nn_eq, nn_ltl, nn_llt, nn_lel, nn_lle, nn_eql, nn_leq, nn_m1, nn_1m, nn_ltm, nn_mlt, nn_mle, nn_lem, nn_cl, nn_in, nn_ns, nn_ns2, nn_nb, nn_nb2, nn_s1, nn_s2, nn_b1, nn_b2]
  refine xA_own (o := 0) g.1 i (by omega) ?_
  show Z E YX1_step (d + 2) (si M 59 F.length (nI (r.pl + 1))) [(0, zX16)] 239 [vi (m_own A 0 x)] Q
  generalize si M 59 F.length (nI (r.pl + 1)) = M1 at *
  refine iX1_step_239 M1 _ g.1.1 ?_
  unfold m_glob at hQ1
  rcases m_own_or i (show 0 < aO A by omega) x with e | ⟨q, hq, q3, e⟩
  · rw [if_pos e] at hQ1 ⊢
    refine vX_err (m := 1) hQ1 rfl g i ok' (by omega) (fun M' q s' => ?_) (fun M' q => ?_)
    · show Z E YX1_step (d + 2) M' [] 252 [vr (some (52, 14, 0))] Q
      exact sX1_step_252 M' _ s'.1 ⟨52, rfl, q⟩
    · show ZT E YX1_step (d + 2) M' [] 249 (51, 13, 0) Q
      exact ZT.out (nohand rfl) q
  · have en : ¬ m_own A 0 x = -1 := by rw [e, nn_m1 (by omega)]; exact fun z => z
    rw [if_neg en] at hQ1 ⊢
    rw [e] at hQ1 ⊢
    obtain ⟨-, e48, e49, ks, eks, hks, ev⟩ := x_prop (n := 0) hQ1 rfl g i ok' (Nat.zero_le _) (show 0 < aO A by omega) hq
    rw [nn_cl (by omega), e48, e49, eks]
    exact ⟨by rw [nn_in (by omega)]; omega, vX_pm hQ1 ev g ok' hks⟩
end
