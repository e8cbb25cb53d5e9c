/-! THE MACHINE's STEP: BINARY -/
theorem m_err_1 (A : mA) (n : Nat) : ¬ (m_err A n).1 = 0 := by
  unfold m_err
  split
  · show ¬ (2 : Nat) = 0; decide
  · show ¬ (1 : Nat) = 0; decide
theorem m_in_ok (A : mA) (ks kv s v : Int32) (h : (m_in A ks kv s v).1 = 0) : ∃ k : Nat, (m_in A ks kv s v).2.2.1 = nI k ∧ k < 8 := by
  unfold m_in at h ⊢
  cases e : a_text A ks kv with
  | none => rw [e] at h; exact absurd h (by show ¬ (2 : Nat) = 0; decide)
  | some q =>
    obtain ⟨k, A1⟩ := q
    rw [e] at h
    dsimp only at h ⊢
    by_cases c : s = 7
    · rw [if_pos c]
      by_cases c' : a_get A1 v.toNatClampNeg (nI k) = -1
      · rw [if_pos c']; exact ⟨3, rfl, by omega⟩
      · rw [if_neg c']; exact ⟨2, rfl, by omega⟩
    · rw [if_neg c] at h; exact absurd h (m_err_1 A1 0)
theorem m_inst_ok (A : mA) (s v fs fv : Int32) (h : (m_inst A s v fs fv).1 = 0) : ∃ k : Nat, (m_inst A s v fs fv).2.2.1 = nI k ∧ k < 8 := by
  unfold m_inst at h ⊢
  by_cases c : fs = 7 ∧ gi (aT A) 141 fv.toNatClampNeg = 1
  · rw [if_pos c] at h ⊢
    by_cases c1 : a_get A fv.toNatClampNeg 1 = -1
    · rw [if_pos c1] at h; exact absurd h (m_err_1 A 0)
    · rw [if_neg c1] at h ⊢
      by_cases c2 : gi (aT A) 146 (a_get A fv.toNatClampNeg 1).toNatClampNeg = 7
      · rw [if_pos c2]
        dsimp only
        split
        · exact ⟨2, rfl, by omega⟩
        · exact ⟨3, rfl, by omega⟩
      · rw [if_neg c2] at h; exact absurd h (m_err_1 A 0)
  · rw [if_neg c] at h; exact absurd h (m_err_1 A 0)
section
variable {E : zE} {d : Nat} {T M : zM} {Q : zO → zM → Prop} {A : mA} {r : mF} {F : List mF}
/-- the result is left in place of n values -/
def lfX (Q : zO → zM → Prop) (n : Nat) (M : zM) : Prop := vp_in (gi M 16 38 - nI n) 14500 ∧ Q (.inl none) (si (si (si (si M 16 38 (gi M 16 38 - nI n)) 53 (gi M 16 38 - nI n).toNatClampNeg (vp_nar .byte (gi M 16 33).toInt8.toInt32)) 16 38 (gi M 16 38 - nI n + 1)) 54 (gi M 16 38 - nI n).toNatClampNeg (gi M 16 32))
theorem vX_lf {p : mE} {n ks : Nat} {v : Int32} (hQ : vX Q M p n r F) (e : p = (0, A, nI ks, v)) (h : gX M A (r :: F)) (ok : mFok (r :: F)) (hn : n ≤ r.st.length) (hks : ks < 8) (e33 : gi M 16 33 = nI ks) (e32 : gi M 16 32 = v) : lfX Q n M := by
  obtain ⟨g0, g1, g2, g3, g4⟩ := mFok_hd ok
  have ht := (mtot_le (mFok_tl ok)).1
  obtain ⟨h2, f2⟩ := x_leaf (v := v) h.2 (mFok_tl ok) hn hks
  subst e
  unfold lfX
  rw [(xFs_nums h.2).2.2.1, e33, e32]
  simp (disch := omega) only [nn_add, nn_addl, nn_ladd, nn_mul, nn_lmul, nn_mull, nn_sub, nn_subl, nn_lsub, nn_lt, nn_le, nn_eq, nn_ltl, nn_llt, nn_lel, nn_lle, nn_eql, nn_leq, nn_m1, nn_1m, nn_ltm, nn_mlt, nn_mle, nn_lem, nn_cl, nn_in, nn_ns, nn_ns2, nn_nb, nn_nb2, nn_s1, nn_s2, nn_b1, nn_b2]
  exact ⟨by omega, hQ.1 rfl _ ⟨sX_cg h.1 f2 (fun a k q => .inr (.inl q)), h2⟩ f2.cX3⟩
theorem vX_rX {p : mE} {n : Nat} {Q' : zO → zM → Prop} (hQ : vX Q M p n r F) (ok : mFok (r :: F)) (hn : n ≤ r.st.length) (hp : p.1 = 0 → ∃ ks : Nat, p.2.2.1 = nI ks ∧ ks < 8) (k0 : ∀ M', cw M' → lfX Q n M' → Q' (.inl none) M') (k1 : ∀ q M', Q (.inr q) M' → Q' (.inr q) M') : rX Q' M p r F := by
  refine ⟨fun e M' g e1 e2 f => ?_, fun e M' g e1 e2 f => k1 _ _ (hQ.2.1 e M' g e1 e2 f), fun e M' g f => k1 _ _ (hQ.2.2 e M' g f)⟩
  obtain ⟨ks, ek, hks⟩ := hp e
  obtain ⟨pc, pA, ps, pv⟩ := p
  dsimp only at e e1 e2 ek g
  subst e ek
  exact k0 M' g.1.1 (vX_lf (vX_mono hQ f) rfl g ok hn hks e1 e2)
theorem xs_bin {h : Nat} {c1 c2 : mC} {st : List mC} (g0' : gX M A (r :: F)) (i : iA A) (ok : mFok (r :: F)) (hpl : r.pl + 1 < 600) (hc : gi M 30 r.pl = 14) (ha : gi M 31 r.pl = nI h) (hhow : h < 21) (hr : r.st = c1 :: c2 :: st) (v1 : mval A c1.1 c1.2.1) (v2 : mval A c2.1 c2.2.1) (hQ : vX Q M (m_bin A (nI h) c2.1 c2.2.1 c1.1 c1.2.1) 2 (mFpl r (r.pl + 1)) F) : Z E YX1_step (d + 5) M [(0, zX16), (1, vi (nI r.pl))] 0 [] Q := by
  obtain ⟨n1, n2, n3, n4⟩ := xFs_nums g0'.2
  obtain ⟨g0, -, -, g3, -⟩ := mFok_hd ok
  have ht := (mtot_le (mFok_tl ok)).1
  have hl : 2 ≤ r.st.length := by rw [hr]; simp
  obtain ⟨g, f⟩ := gX_pl g0' ok (r.pl + 1)
  have ok' : mFok (mFpl r (r.pl + 1) :: F) := mFok_pl ok hpl
  obtain ⟨a1, a2⟩ := x_cell g0'.2 (i := 0) (m := 1) (c := c1) (by rw [hr]; rfl) rfl
  obtain ⟨b1, b2⟩ := x_cell g0'.2 (i := 1) (m := 2) (c := c2) (by rw [hr]; rfl) rfl
  have hQ1 := vX_mono hQ f.cX3
  refine sX1_step_0 M _ g0'.1.1 ?_
  rw [n1, nn_cl (n := r.pl) (by omega), hc, ha]
  refine ⟨by rw [nn_in (by omega)]; omega, by rw [nn_in (by omega)]; omega, by rw [nn_in (by omega)]; omega, by rw [nn_in (by omega)]; omega, ?_⟩
  repeat rw [if_neg (by decide)]
  rw [if_pos rfl]
  simp (disch := omega) only [n3, nn_add, nn_addl, nn_ladd, nn_mul, nn_lmul, nn_mull, nn_sub, nn_subl, nn_lsub, nn_lt, nn_le, nn_eq, nn_ltl, nn_llt, nn_lel, nn_lle, nn_eql, nn_leq, nn_m1, nn_1m, nn_ltm, nn_mlt, nn_mle, nn_lem, nn_cl, nn_in, nn_ns, nn_ns2, nn_nb, nn_nb2, nn_s1, nn_s2, nn_b1, nn_b2]
  unfold m_bin at hQ1
  by_cases h19 : 19 ≤ h
  · rw [if_pos h19]
    by_cases e19 : h = 19
    · rw [if_pos e19]
      rw [if_pos (by rw [e19]; rfl)] at hQ1
      refine xm_readsKey (r := mFpl r (r.pl + 1)) g i ok' hr v1 v2 (vX_rX hQ1 ok' hl (m_in_ok _ _ _ _ _) (fun M' hw q => ?_) (fun q M' z => ?_))
      · show Z E YX1_step (d + 5) M' [(0, zX16)] 528 [] Q
        exact iX1_step_528 M' hw q
      · show ZT E YX1_step (d + 5) M' [(0, zX16)] 525 q Q
        exact ZT.out (nohand rfl) z
    · have e20 : h = 20 := by omega
      rw [if_neg e19]
      rw [if_neg (by simp (disch := omega) only [nn_add, nn_addl, nn_ladd, nn_mul, nn_lmul, nn_mull, nn_sub, nn_subl, nn_lsub, nn_lt, nn_le, nn_eq, nn_ltl, nn_llt, nn_lel, nn_lle, nn_eql, nn_leq, nn_m1, nn_1m, nn_ltm, nn_mlt, nn_mle, nn_lem, nn_cl, nn_in, nn_ns, nn_ns2, nn_nb, nn_nb2, nn_s1, nn_s2, nn_b1, nn_b2]; exact e19), if_pos (by rw [e20]; rfl)] at hQ1
      refine xm_instance (r := mFpl r (r.pl + 1)) g i ok' hr v1 v2 (vX_rX hQ1 ok' hl (m_inst_ok _ _ _ _ _) (fun M' hw q => ?_) (fun q M' z => ?_))
      · show Z E YX1_step (d + 5) M' [(0, zX16)] 535 [] Q
        exact iX1_step_535 M' hw q
      · show ZT E YX1_step (d + 5) M' [(0, zX16)] 532 q Q
        exact ZT.out (nohand rfl) z
  · rw [if_neg h19]
    rw [if_neg (by simp (disch := omega) only [nn_add, nn_addl, nn_ladd, nn_mul, nn_lmul, nn_mull, nn_sub, nn_subl, nn_lsub, nn_lt, nn_le, nn_eq, nn_ltl, nn_llt, nn_lel, nn_lle, nn_eql, nn_leq, nn_m1, nn_1m, nn_ltm, nn_mlt, nn_mle, nn_lem, nn_cl, nn_in, nn_ns, nn_ns2, nn_nb, nn_nb2, nn_s1, nn_s2, nn_b1, nn_b2]; omega), if_neg (by simp (disch := omega) only [nn_add, nn_addl, nn_ladd, nn_mul, nn_lmul, nn_mull, nn_sub, nn_subl, nn_lsub, nn_lt, nn_le, nn_eq, nn_ltl, nn_llt, nn_lel, nn_lle, nn_eql, nn_leq, nn_m1, nn_1m, nn_ltm, nn_mlt, nn_mle, nn_lem, nn_cl, nn_in, nn_ns, nn_ns2, nn_nb, nn_nb2, nn_s1, nn_s2, nn_b1, nn_b2]; omega)] at hQ1
    rw [show mtot F + r.st.length - 1 - 1 = mtot F + r.st.length - 2 by omega, a1, a2, b1, b2]
    refine ⟨by omega, by omega, by omega, by omega, ?_⟩
    by_cases hj : mjt (nI h) c2.1 c1.1 = true
    · rw [if_pos hj] at hQ1
      unfold m_cat at hQ1
      refine xm_cat g.1.1 g.1.2.2.2 i.2.1 v2.1 v1.1 hj (fun k L' M' e s' f' _ e1 e2 => ?_) (fun M' e f' => ?_)
      · rw [e] at hQ1
        dsimp only at hQ1
        have e1x : ∀ a k, hpX a k → gi M' a k = gi (si M 59 F.length (nI (r.pl + 1))) a k := fun a k q => (f'.2 a k (by unfold orP scx stX; unfold hpX at q; omega)).1
        have g2 : gX M' (aT A, L', aO A, aP A, aF A) (mFpl r (r.pl + 1) :: F) := by
          refine ⟨⟨cw_fr g.1.1 f' (fun q hq => by have := cwl_ok q hq; unfold orP scx stX; omega), ?_, ?_, s'⟩, xFs_cg g.2 ok' f' (fun a k q => q.elim .inl (fun q => .inr (.inl q)))⟩
          · obtain ⟨⟨p1, p2⟩, ⟨sp, m, s1, s2, s3, s4⟩, p3, p4⟩ := g.1.2.1
            have e47 : gi M' 47 = gi (si M 59 F.length (nI (r.pl + 1))) 47 := funext fun k => e1x 47 k (by unfold hpX; omega)
            refine ⟨⟨(e1x _ _ (by unfold hpX; omega)).trans p1, (e1x _ _ (by unfold hpX; omega)).trans p2⟩, ⟨sp, m, s1, s2, by rw [e47, e1x 16 28 (by unfold hpX; omega)]; exact s3, (e1x _ _ (by unfold hpX; omega)).trans s4⟩, fun o ho => ?_, fun o ho q hq => ?_⟩
            · rw [e1x 38 _ (by unfold hpX; omega), e1x 41 _ (by unfold hpX; omega), e1x 42 _ (by unfold hpX; omega), e1x 43 _ (by unfold hpX; omega), e1x 44 _ (by unfold hpX; omega)]; exact p3 o ho
            · rw [e1x 46 _ (by unfold hpX; omega), e1x 47 _ (by unfold hpX; omega), e1x 48 _ (by unfold hpX; omega), e1x 49 _ (by unfold hpX; omega), e1x 50 _ (by unfold hpX; omega)]; exact p4 o ho q hq
          · intro o ho
            exact hL_cg g.1.2.2.1 (fun a k q => e1x a k (by unfold hpX; omega)) (fun _ _ _ => rfl) o ho
        show Z E YX1_step (d + 5) M' [(0, zX16)] 515 [] Q
        exact iX1_step_515 M' g2.1.1 (vX_lf (ks := 6) (vX_mono hQ1 f'.cX2) rfl g2 ok' hl (by omega) e1 e2)
      · rw [e] at hQ1
        show ZT E YX1_step (d + 5) M' [(0, zX16)] 512 (51, 13, 0) Q
        exact ZT.out (nohand rfl) (hQ1.2.2 rfl M' ⟨sX_cg g.1 f' (fun a k q => .inl q), xFs_cg g.2 ok' f' (fun a k q => .inl q)⟩ f'.cX1)
    · rw [if_neg hj] at hQ1
      have hjf : mjt (nI h) c2.1 c1.1 = false := by cases hb : mjt (nI h) c2.1 c1.1 with | false => rfl | true => exact absurd hb hj
      refine xm_bin g.1.1 g.1.2.2.2 v2.1 v1.1 ⟨h, rfl, by omega⟩ hjf (fun M' f' e1 e2 => ?_)
      obtain ⟨k, ek, hk⟩ := mbi_ok (aL A) (nI h) c2.1 c2.2.1 c1.1 c1.2.1
      have g2 : gX M' A (mFpl r (r.pl + 1) :: F) := ⟨sX_cg g.1 f' (fun a k q => .inl q), xFs_cg g.2 ok' f' (fun a k q => .inl q)⟩
      show Z E YX1_step (d + 5) M' [(0, zX16)] 515 [] Q
      refine iX1_step_515 M' g2.1.1 (vX_lf (ks := k) (v := (mbi (aL A) (nI h) c2.1 c2.2.1 c1.1 c1.2.1).2) (vX_mono hQ1 f'.cX1) ?_ g2 ok' hl hk (e1.trans ek) e2)
      rw [← ek]
theorem ts_bin {h : Nat} {c1 c2 : mC} {st : List mC} (g : gT T A (r :: F)) (i : iA A) (ok : mFok (r :: F)) (hh : mTh (r :: F)) (hc : gi T 123 r.pl = 14) (ha : gi T 124 r.pl = nI h) (hhow : h < 21) (hr : r.st = c1 :: c2 :: st) (v1 : mval A c1.1 c1.2.1) (v2 : mval A c2.1 c2.2.1) (hQ : vT Q T (m_bin A (nI h) c2.1 c2.2.1 c1.1 c1.2.1) 2 r F) : Zm E YX8_step_2 (d + 7) T [(0, T97)] 0 [] Q := by
  obtain ⟨n1, n2, n3, n4⟩ := tFs_nums g.2.1
  obtain ⟨g0, g1, -⟩ := mFok_hd ok
  refine sX8_step_2_0 T ?_
  rw [n1, nn_cl (n := F.length) (by omega), n2, nn_cl (n := r.pl) (by omega), hc, ha]
  refine ⟨by rw [nn_in (by omega)]; omega, by rw [nn_in (by omega)]; omega, by rw [nn_in (by omega)]; omega, by rw [nn_in (by omega)]; omega, ?_⟩
  repeat rw [if_neg (by decide)]
  rw [if_pos rfl]
  exact tm_binary g i ok hh hr v1 v2 hhow (vT_out hQ (fun T' q => iX8_step_2_415 T' q))
end
