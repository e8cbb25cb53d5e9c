/-! THE MACHINE's STEP: GLOBAL, TYPE_GLOBAL of the twin -/
def m_tglob (A : mA) (x : Int32) : mE := if m_own A 0 x = -1 then (0, A, 6, 19) else (0, A, 6, mty (gi (aT A) 146 (m_own A 0 x).toNatClampNeg) (gi (aT A) 141 (gi (aT A) 147 (m_own A 0 x).toNatClampNeg).toNatClampNeg))
section
variable {E : zE} {d : Nat} {T M : zM} {Q : zO → zM → Prop} {A : mA} {r : mF} {F : List mF}
theorem tm_glob {x : Int32} {b : Bool} (g : gT T A (r :: F)) (i : iA A) (h9 : 9 ≤ aO A) (ok : mFok (r :: F)) (hh : mTh (r :: F)) (hQ : vT Q T (if b = true then m_glob A x else m_tglob A x) 0 r F) : Zm E YX8_global (d + 4) T [(0, T97), (1, vi (bI b)), (2, vi x)] 0 [] Q := by
  have hob := i.1.1.2
  refine sX8_global_0 T _ _ ?_
  refine tA_own (o := 0) g.1 i (by omega) ?_
  show Zm E YX8_global (d + 4) T [(0, T97), (1, vi (bI b))] 6 [vi (m_own A 0 x)] Q
  refine sX8_global_6 T _ _ ?_
  have go := vT_out hQ (Q' := zma E YX8_global (d + 4) [] 86 3 [] Q) (fun T' q => sX8_global_89 T' q)
  rcases m_own_or i (show 0 < aO A by omega) x with e | ⟨q, hq, q3, e⟩
  · rw [if_pos e]
    cases b with
    | true =>
      rw [if_neg (by decide)]
      rw [if_pos rfl] at hQ
      unfold m_glob at hQ
      rw [if_pos e] at hQ
      exact vT_err (d := d) (m := 1) (vT_out hQ (fun T' q => sX8_global_22 T' q)) rfl g i ok hh (by omega)
    | false =>
      rw [if_pos (show bI false = 0 from rfl)]
      rw [if_neg (by decide)] at go
      unfold m_tglob at go
      rw [if_pos e] at go
      refine iX8_global_23 T _ _ ?_
      rw [if_pos e]
      exact vT_0 (d := d + 1) (n := 0) go rfl g ok (Nat.zero_le _) (by decide)
  · have en : ¬ m_own A 0 x = -1 := by rw [e, nn_m1 (by omega)]; exact fun z => z
    rw [if_neg en]
    refine iX8_global_23 T _ _ ?_
    rw [if_neg en]
    have e146 : gi T 146 q = gi (aT A) 146 q := g.1.1 146 q (by unfold hpT; omega)
    have e147 : gi T 147 q = gi (aT A) 147 q := g.1.1 147 q (by unfold hpT; omega)
    have hv := (i.2.2.1 0 (by omega) q hq).1
    cases b with
    | true =>
      rw [if_neg (by decide)]
      rw [if_pos rfl] at go
      unfold m_glob m_val at go
      rw [if_neg en, if_neg en, e, nn_cl (by omega)] at go
      rw [e, nn_cl (by omega), e146, e147]
      exact ⟨by rw [nn_in (by omega)]; omega, vT_0 (d := d + 1) (n := 0) go rfl g ok (Nat.zero_le _) (mval_8 hv)⟩
    | false =>
      rw [if_pos (show bI false = 0 from rfl)]
      rw [if_neg (by decide)] at go
      unfold m_tglob at go
      rw [if_neg en, e, nn_cl (by omega)] at go
      rw [e, nn_cl (by omega), e146, e147]
      refine ⟨by rw [nn_in (by omega)]; omega, ?_⟩
      refine tm_typ hv hob (fun y hy => ?_)
      rw [g.1.1 141 _ (by unfold hpT; omega)] at hy
      show Zm E YX8_global (d + 4) T [(0, T97)] 81 [vi y, vi 6, T97] Q
      refine iX8_global_81 T _ _ ?_
      rw [← hy] at go
      exact vT_0 (d := d + 1) (n := 0) go rfl g ok (Nat.zero_le _) (by decide)
end
