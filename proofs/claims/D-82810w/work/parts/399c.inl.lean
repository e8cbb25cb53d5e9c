theorem iX8_fromTop_0 {E : zE} {d : Nat} {Q : zO → zM → Prop} (M : zM) (l1 : Int32) (k : vp_in (639 : Int32) 640 ∧ (Q (.inl (some (vi ((((gi M 172 ((639 : Int32)).toNatClampNeg) + (gi M 171 ((639 : Int32)).toNatClampNeg)) - (1 : Int32)) - l1)))) M)) : Zm E YX8_fromTop d M [(0, vr (some (97, 1, 0))), (1, vi l1)] 0 [] Q := by
  refine sX8_fromTop_0 (d := d) M l1 ?_
  refine zand k (fun h7824 k => ?_)
  refine ⟨h7824, ?_⟩
  exact k
theorem iX8_hasKey_0 {E : zE} {d : Nat} {Q : zO → zM → Prop} (M : zM) (l1 : Int32) (k : if (64 : Int32) ≤ l1 then (if (lg_cmp ((zlr (gl M 97 144) (l1 - (64 : Int32))) &&& (1 : Int64)) (1 : Int64)) = 0 then ((narrow .boolean (.int (1 : Int32)) = .int (1 : Int32)) ∧ (Q (.inl (some (vi (1 : Int32)))) M)) else ((narrow .boolean (.int (0 : Int32)) = .int (0 : Int32)) ∧ (Q (.inl (some (vi (0 : Int32)))) M))) else (if (lg_cmp ((zlr (gl M 97 143) l1) &&& (1 : Int64)) (1 : Int64)) = 0 then ((narrow .boolean (.int (1 : Int32)) = .int (1 : Int32)) ∧ (Q (.inl (some (vi (1 : Int32)))) M)) else ((narrow .boolean (.int (0 : Int32)) = .int (0 : Int32)) ∧ (Q (.inl (some (vi (0 : Int32)))) M)))) : Zm E YX8_hasKey (d + 1) M [(0, vr (some (97, 1, 0))), (1, vi l1)] 0 [] Q := by
  refine sX8_hasKey_0 (d := d) M l1 ?_
  refine jX8_isIn (d := d) M (gl M 97 143) (gl M 97 144) l1 ?_
  refine zite k (fun h7825 k => ?_) (fun h7825 k => ?_)
  · refine zite k (fun h7826 k => ?_) (fun h7826 k => ?_)
    · show Zm E YX8_hasKey (d + 1) M [] 12 [vi (1 : Int32)] Q
      refine sX8_hasKey_12 (d := d) M (1 : Int32) ?_
      exact k
    · show Zm E YX8_hasKey (d + 1) M [] 12 [vi (0 : Int32)] Q
      refine sX8_hasKey_12 (d := d) M (0 : Int32) ?_
      exact k
  · refine zite k (fun h7829 k => ?_) (fun h7829 k => ?_)
    · show Zm E YX8_hasKey (d + 1) M [] 12 [vi (1 : Int32)] Q
      refine sX8_hasKey_12 (d := d) M (1 : Int32) ?_
      exact k
    · show Zm E YX8_hasKey (d + 1) M [] 12 [vi (0 : Int32)] Q
      refine sX8_hasKey_12 (d := d) M (0 : Int32) ?_
      exact k
theorem iX8_hasLabels_0 {E : zE} {d : Nat} {Q : zO → zM → Prop} (M : zM) (l1 : Int32) (k : vp_in l1 647800 ∧ (if (lg_cmp ((gl M 166 (l1).toNatClampNeg) ||| (gl M 167 (l1).toNatClampNeg)) (0 : Int64)) = 0 then (Q (.inl (some (vi (0 : Int32)))) M) else (Q (.inl (some (vi (1 : Int32)))) M))) : Zm E YX8_hasLabels d M [(0, vr (some (97, 1, 0))), (1, vi l1)] 0 [] Q := by
  refine sX8_hasLabels_0 (d := d) M l1 ?_
  refine zand k (fun h7832 k => ?_)
  refine ⟨h7832, ?_⟩
  exact k
theorem jX8_plainly {E : zE} {d : Nat} {Q : zO → zM → Prop} (M : zM) (l1 : Int32) (k : vp_in l1 647800 ∧ (Q (.inl (some (vi ((((gl M 165 (l1).toNatClampNeg) &&& (1023 : Int64))).toInt32 &&& (-513 : Int32))))) M)) : Zm E YX8_plainly (d + 1) M [(0, vr (some (97, 1, 0))), (1, vi l1)] 0 [] Q := by
  refine sX8_plainly_0 (d := d) M l1 ?_
  refine sX8_has_0 (d := d) M l1 ?_
  refine zand k (fun h7838 k => ?_)
  show Zm E YX8_plainly (d + 1) M [] 5 [vi (((gl M 165 (l1).toNatClampNeg) &&& (1023 : Int64))).toInt32] Q
  refine sX8_plainly_5 (d := d) M ((((gl M 165 (l1).toNatClampNeg) &&& (1023 : Int64))).toInt32) ?_
  exact k
theorem iX8_isEmpty_0 {E : zE} {d : Nat} {Q : zO → zM → Prop} (M : zM) (l1 : Int32) (k : vp_in l1 647800 ∧ (if ((((gl M 165 (l1).toNatClampNeg) &&& (1023 : Int64))).toInt32 &&& (-513 : Int32)) = 0 then (if (lg_cmp ((gl M 166 (l1).toNatClampNeg) ||| (gl M 167 (l1).toNatClampNeg)) (0 : Int64)) = 0 then (Q (.inl (some (vi (1 : Int32)))) M) else (Q (.inl (some (vi (0 : Int32)))) M)) else (Q (.inl (some (vi (0 : Int32)))) M))) : Zm E YX8_isEmpty (d + 2) M [(0, vr (some (97, 1, 0))), (1, vi l1)] 0 [] Q := by
  refine sX8_isEmpty_0 (d := (d + 1)) M l1 ?_
  refine jX8_plainly (d := d) M l1 ?_
  refine zand k (fun h7839 k => ?_)
  show Zm E YX8_isEmpty ((d + 1) + 1) M [(0, vr (some (97, 1, 0))), (1, vi l1)] 5 [vi ((((gl M 165 (l1).toNatClampNeg) &&& (1023 : Int64))).toInt32 &&& (-513 : Int32))] Q
  refine sX8_isEmpty_5 (d := (d + 1)) M l1 ((((gl M 165 (l1).toNatClampNeg) &&& (1023 : Int64))).toInt32 &&& (-513 : Int32)) ?_
  refine zite k (fun h7840 k => ?_) (fun h7840 k => ?_)
  · refine jX8_hasLabels (d := (d + 1)) M l1 ?_
    refine ⟨h7839, ?_⟩
    refine zite k (fun h7841 k => ?_) (fun h7841 k => ?_)
    · show Zm E YX8_isEmpty ((d + 1) + 1) M [] 13 [vi (0 : Int32)] Q
      refine sX8_isEmpty_13 (d := (d + 1)) M (0 : Int32) ?_
      refine zpos (show (0 : Int32) = 0 from by decide) ?_
      exact k
    · show Zm E YX8_isEmpty ((d + 1) + 1) M [] 13 [vi (1 : Int32)] Q
      refine sX8_isEmpty_13 (d := (d + 1)) M (1 : Int32) ?_
      refine zneg (show ¬ ((1 : Int32) = 0) from by decide) ?_
      exact k
  · exact k
theorem iX8_isIn_0 {E : zE} {d : Nat} {Q : zO → zM → Prop} (M : zM) (l0 : Int64) (l2 : Int64) (l4 : Int32) (k : if (64 : Int32) ≤ l4 then (if (lg_cmp ((zlr l2 (l4 - (64 : Int32))) &&& (1 : Int64)) (1 : Int64)) = 0 then (Q (.inl (some (vi (1 : Int32)))) M) else (Q (.inl (some (vi (0 : Int32)))) M)) else (if (lg_cmp ((zlr l0 l4) &&& (1 : Int64)) (1 : Int64)) = 0 then (Q (.inl (some (vi (1 : Int32)))) M) else (Q (.inl (some (vi (0 : Int32)))) M))) : Zm E YX8_isIn d M [(0, vl l0), (2, vl l2), (4, vi l4)] 0 [] Q := by
  refine sX8_isIn_0 (d := d) M l0 l2 l4 ?_
  refine zite k (fun h7848 k => ?_) (fun h7848 k => ?_)
  · refine sX8_isIn_21 (d := d) M (zlr l2 (l4 - (64 : Int32))) ?_
    exact k
  · refine sX8_isIn_21 (d := d) M (zlr l0 l4) ?_
    exact k
theorem iX8_joinLabel_41 {E : zE} {d : Nat} {Q : zO → zM → Prop} (M : zM) (l1 : Int32) (l2 : Int32) (s0 : Int32) (k : if s0 = 0 then (vp_in l1 15128 ∧ (vp_in l2 15128 ∧ (if (lg_cmp ((gl M 180 (l1).toNatClampNeg) &&& ((gl M 180 (l2).toNatClampNeg) ^^^ (-1 : Int64))) (0 : Int64)) = 0 then (if (lg_cmp ((gl M 181 (l1).toNatClampNeg) &&& ((gl M 181 (l2).toNatClampNeg) ^^^ (-1 : Int64))) (0 : Int64)) = 0 then (Zm E YX8_joinLabel d M [(0, vr (some (97, 1, 0))), (1, vi l1), (2, vi l2)] 95 [vi (0 : Int32)] Q) else (Zm E YX8_joinLabel d M [(0, vr (some (97, 1, 0))), (1, vi l1), (2, vi l2)] 95 [vi (1 : Int32)] Q)) else (Zm E YX8_joinLabel d M [(0, vr (some (97, 1, 0))), (1, vi l1), (2, vi l2)] 95 [vi (1 : Int32)] Q)))) else (Zm E YX8_joinLabel d M [(0, vr (some (97, 1, 0))), (1, vi l1), (2, vi l2)] 95 [vi (1 : Int32)] Q)) : Zm E YX8_joinLabel d M [(0, vr (some (97, 1, 0))), (1, vi l1), (2, vi l2)] 41 [vi s0] Q := by
  refine sX8_joinLabel_41 (d := d) M l1 l2 s0 ?_
  refine zite k (fun h7862 k => ?_) (fun h7862 k => ?_)
  · refine zand k (fun h7863 k => ?_)
    refine zand k (fun h7864 k => ?_)
    refine zite k (fun h7865 k => ?_) (fun h7865 k => ?_)
    · refine ⟨h7863, ?_⟩
      refine ⟨h7864, ?_⟩
      exact k
    · exact k
  · exact k
theorem iX8_joinLabel_95 {E : zE} {d : Nat} {Q : zO → zM → Prop} (M : zM) (l1 : Int32) (l2 : Int32) (s0 : Int32) (k : if s0 = 0 then (vp_in l1 15128 ∧ (vp_in l2 15128 ∧ (if (lg_cmp ((gl M 182 (l1).toNatClampNeg) &&& ((gl M 182 (l2).toNatClampNeg) ^^^ (-1 : Int64))) (0 : Int64)) = 0 then (if (lg_cmp ((gl M 183 (l1).toNatClampNeg) &&& ((gl M 183 (l2).toNatClampNeg) ^^^ (-1 : Int64))) (0 : Int64)) = 0 then (Zm E YX8_joinLabel d M [(0, vr (some (97, 1, 0))), (1, vi l1), (2, vi l2)] 149 [vi (0 : Int32)] Q) else (Zm E YX8_joinLabel d M [(0, vr (some (97, 1, 0))), (1, vi l1), (2, vi l2)] 149 [vi (1 : Int32)] Q)) else (Zm E YX8_joinLabel d M [(0, vr (some (97, 1, 0))), (1, vi l1), (2, vi l2)] 149 [vi (1 : Int32)] Q)))) else (Zm E YX8_joinLabel d M [(0, vr (some (97, 1, 0))), (1, vi l1), (2, vi l2)] 149 [vi (1 : Int32)] Q)) : Zm E YX8_joinLabel d M [(0, vr (some (97, 1, 0))), (1, vi l1), (2, vi l2)] 95 [vi s0] Q := by
  refine sX8_joinLabel_95 (d := d) M l1 l2 s0 ?_
  refine zite k (fun h7867 k => ?_) (fun h7867 k => ?_)
  · refine zand k (fun h7868 k => ?_)
    refine zand k (fun h7869 k => ?_)
    refine zite k (fun h7870 k => ?_) (fun h7870 k => ?_)
    · refine ⟨h7868, ?_⟩
      refine ⟨h7869, ?_⟩
      exact k
    · exact k
  · exact k
theorem iX8_joinLabel_178 {E : zE} {d : Nat} {Q : zO → zM → Prop} (M : zM) (l1 : Int32) (l2 : Int32) (l3 : Int32) (s0 : Int32) (s1 : Int32) (k : vp_in s1 15128 ∧ (vp_in l2 15128 ∧ (if (gi M 179 (l2).toNatClampNeg) = 0 then (vp_in l1 15128 ∧ (if (gi M 179 (l1).toNatClampNeg) = 0 then ((narrow .boolean (.int l3) = .int l3) ∧ (Q (.inl (some (vi l3))) (sl (sl (sl (sl (si (si M 178 (s1).toNatClampNeg (vp_nar .boolean s0)) 179 (l2).toNatClampNeg (vp_nar .boolean (0 : Int32))) 180 (l2).toNatClampNeg ((gl M 180 (l2).toNatClampNeg) ||| (gl M 180 (l1).toNatClampNeg))) 181 (l2).toNatClampNeg ((gl M 181 (l2).toNatClampNeg) ||| (gl M 181 (l1).toNatClampNeg))) 182 (l2).toNatClampNeg ((gl M 182 (l2).toNatClampNeg) ||| (gl M 182 (l1).toNatClampNeg))) 183 (l2).toNatClampNeg ((gl M 183 (l2).toNatClampNeg) ||| (gl M 183 (l1).toNatClampNeg))))) else ((narrow .boolean (.int l3) = .int l3) ∧ (Q (.inl (some (vi l3))) (sl (sl (sl (sl (si (si M 178 (s1).toNatClampNeg (vp_nar .boolean s0)) 179 (l2).toNatClampNeg (vp_nar .boolean (1 : Int32))) 180 (l2).toNatClampNeg ((gl M 180 (l2).toNatClampNeg) ||| (gl M 180 (l1).toNatClampNeg))) 181 (l2).toNatClampNeg ((gl M 181 (l2).toNatClampNeg) ||| (gl M 181 (l1).toNatClampNeg))) 182 (l2).toNatClampNeg ((gl M 182 (l2).toNatClampNeg) ||| (gl M 182 (l1).toNatClampNeg))) 183 (l2).toNatClampNeg ((gl M 183 (l2).toNatClampNeg) ||| (gl M 183 (l1).toNatClampNeg))))))) else (vp_in l1 15128 ∧ ((narrow .boolean (.int l3) = .int l3) ∧ (Q (.inl (some (vi l3))) (sl (sl (sl (sl (si (si M 178 (s1).toNatClampNeg (vp_nar .boolean s0)) 179 (l2).toNatClampNeg (vp_nar .boolean (1 : Int32))) 180 (l2).toNatClampNeg ((gl M 180 (l2).toNatClampNeg) ||| (gl M 180 (l1).toNatClampNeg))) 181 (l2).toNatClampNeg ((gl M 181 (l2).toNatClampNeg) ||| (gl M 181 (l1).toNatClampNeg))) 182 (l2).toNatClampNeg ((gl M 182 (l2).toNatClampNeg) ||| (gl M 182 (l1).toNatClampNeg))) 183 (l2).toNatClampNeg ((gl M 183 (l2).toNatClampNeg) ||| (gl M 183 (l1).toNatClampNeg))))))))) : Zm E YX8_joinLabel d M [(0, vr (some (97, 1, 0))), (1, vi l1), (2, vi l2), (3, vi l3)] 178 [vi s0, vi s1, vr (some (178, 104, 15128))] Q := by
  refine sX8_joinLabel_178 (d := d) M l1 l2 l3 s0 s1 ?_
  refine zand k (fun h7876 k => ?_)
  refine zand k (fun h7877 k => ?_)
  refine zite k (fun h7878 k => ?_) (fun h7878 k => ?_)
  · refine zand k (fun h7879 k => ?_)
    refine zite k (fun h7880 k => ?_) (fun h7880 k => ?_)
    · refine sX8_joinLabel_207 (d := d) (si M 178 (s1).toNatClampNeg (vp_nar .boolean s0)) l1 l2 l3 (0 : Int32) l2 ?_
      refine ⟨h7877, ?_⟩
      refine ⟨h7877, ?_⟩
      refine ⟨h7879, ?_⟩
      refine ⟨h7877, ?_⟩
      refine ⟨h7877, ?_⟩
      refine ⟨h7879, ?_⟩
      refine ⟨h7877, ?_⟩
      refine ⟨h7877, ?_⟩
      refine ⟨h7879, ?_⟩
      refine ⟨h7877, ?_⟩
      refine ⟨h7877, ?_⟩
      refine ⟨h7879, ?_⟩
      refine ⟨h7877, ?_⟩
      exact k
    · refine sX8_joinLabel_207 (d := d) (si M 178 (s1).toNatClampNeg (vp_nar .boolean s0)) l1 l2 l3 (1 : Int32) l2 ?_
      refine ⟨h7877, ?_⟩
      refine ⟨h7877, ?_⟩
      refine ⟨h7879, ?_⟩
      refine ⟨h7877, ?_⟩
      refine ⟨h7877, ?_⟩
      refine ⟨h7879, ?_⟩
      refine ⟨h7877, ?_⟩
      refine ⟨h7877, ?_⟩
      refine ⟨h7879, ?_⟩
      refine ⟨h7877, ?_⟩
      refine ⟨h7877, ?_⟩
      refine ⟨h7879, ?_⟩
      refine ⟨h7877, ?_⟩
      exact k
  · refine sX8_joinLabel_207 (d := d) (si M 178 (s1).toNatClampNeg (vp_nar .boolean s0)) l1 l2 l3 (1 : Int32) l2 ?_
    refine ⟨h7877, ?_⟩
    refine ⟨h7877, ?_⟩
    refine zand k (fun h7883 k => ?_)
    refine ⟨h7877, ?_⟩
    refine ⟨h7877, ?_⟩
    refine ⟨h7883, ?_⟩
    refine ⟨h7877, ?_⟩
    refine ⟨h7877, ?_⟩
    refine ⟨h7883, ?_⟩
    refine ⟨h7877, ?_⟩
    refine ⟨h7877, ?_⟩
    refine ⟨h7883, ?_⟩
    refine ⟨h7877, ?_⟩
    exact k
theorem jX8_copySet {E : zE} {d : Nat} {Q : zO → zM → Prop} (M : zM) (l1 : Int32) (l2 : Int32) (k : vp_in l1 647800 ∧ (vp_in l2 647800 ∧ (Q (.inl none) (sl (sl (sl M 165 (l2).toNatClampNeg (gl M 165 (l1).toNatClampNeg)) 166 (l2).toNatClampNeg (gl M 166 (l1).toNatClampNeg)) 167 (l2).toNatClampNeg (gl M 167 (l1).toNatClampNeg))))) : Zm E YX8_copySet d M [(0, vr (some (97, 1, 0))), (1, vi l1), (2, vi l2)] 0 [] Q := by
  refine sX8_copySet_0 (d := d) M l1 l2 ?_
  refine zand k (fun h7885 k => ?_)
  refine zand k (fun h7886 k => ?_)
  refine ⟨h7885, ?_⟩
  refine ⟨h7886, ?_⟩
  refine ⟨h7885, ?_⟩
  refine ⟨h7886, ?_⟩
  exact k
theorem iX8_joinPlain_0 {E : zE} {d : Nat} {Q : zO → zM → Prop} (M : zM) (l1 : Int32) (l2 : Int32) (k : vp_in l1 647800 ∧ (vp_in (647794 : Int32) 647800 ∧ (Zm E YX8_write (d + 1) (sl (sl (sl M 165 ((647794 : Int32)).toNatClampNeg (gl M 165 (l1).toNatClampNeg)) 166 ((647794 : Int32)).toNatClampNeg (gl M 166 (l1).toNatClampNeg)) 167 ((647794 : Int32)).toNatClampNeg (gl M 167 (l1).toNatClampNeg)) (zargs 0 [vr (some (97, 1, 0)), vi (647794 : Int32), vi ((((gl (sl M 165 ((647794 : Int32)).toNatClampNeg (gl M 165 (l1).toNatClampNeg)) 165 ((647794 : Int32)).toNatClampNeg) &&& (1023 : Int64))).toInt32 &&& (-513 : Int32)), vi (((zlr (gl (sl M 165 ((647794 : Int32)).toNatClampNeg (gl M 165 (l1).toNatClampNeg)) 165 ((647794 : Int32)).toNatClampNeg) (10 : Int32)) &&& (127 : Int64))).toInt32, vi ((zlr (gl (sl M 165 ((647794 : Int32)).toNatClampNeg (gl M 165 (l1).toNatClampNeg)) 165 ((647794 : Int32)).toNatClampNeg) (32 : Int32))).toInt32]) 0 [] (zma E YX8_joinPlain ((d + 1) + 1) [(0, vr (some (97, 1, 0))), (2, vi l2), (3, vi (647794 : Int32))] 27 3 [] Q)))) : Zm E YX8_joinPlain (d + 2) M [(0, vr (some (97, 1, 0))), (1, vi l1), (2, vi l2)] 0 [] Q := by
  refine sX8_joinPlain_0 (d := (d + 1)) M l1 l2 ?_
  refine jX8_copySet (d := (d + 1)) M l1 (647794 : Int32) ?_
  refine zand k (fun h7889 k => ?_)
  refine zand k (fun h7890 k => ?_)
  show Zm E YX8_joinPlain ((d + 1) + 1) (sl (sl (sl M 165 ((647794 : Int32)).toNatClampNeg (gl M 165 (l1).toNatClampNeg)) 166 ((647794 : Int32)).toNatClampNeg (gl M 166 (l1).toNatClampNeg)) 167 ((647794 : Int32)).toNatClampNeg (gl M 167 (l1).toNatClampNeg)) [(0, vr (some (97, 1, 0))), (2, vi l2), (3, vi (647794 : Int32))] 10 [] Q
  refine sX8_joinPlain_10 (d := (d + 1)) (sl (sl (sl M 165 ((647794 : Int32)).toNatClampNeg (gl M 165 (l1).toNatClampNeg)) 166 ((647794 : Int32)).toNatClampNeg (gl M 166 (l1).toNatClampNeg)) 167 ((647794 : Int32)).toNatClampNeg (gl M 167 (l1).toNatClampNeg)) l2 (647794 : Int32) ?_
  refine jX8_plainly (d := d) (sl (sl (sl M 165 ((647794 : Int32)).toNatClampNeg (gl M 165 (l1).toNatClampNeg)) 166 ((647794 : Int32)).toNatClampNeg (gl M 166 (l1).toNatClampNeg)) 167 ((647794 : Int32)).toNatClampNeg (gl M 167 (l1).toNatClampNeg)) (647794 : Int32) ?_
  refine ⟨h7890, ?_⟩
  show Zm E YX8_joinPlain ((d + 1) + 1) (sl (sl (sl M 165 ((647794 : Int32)).toNatClampNeg (gl M 165 (l1).toNatClampNeg)) 166 ((647794 : Int32)).toNatClampNeg (gl M 166 (l1).toNatClampNeg)) 167 ((647794 : Int32)).toNatClampNeg (gl M 167 (l1).toNatClampNeg)) [(0, vr (some (97, 1, 0))), (2, vi l2), (3, vi (647794 : Int32))] 17 [vi ((((gl (sl M 165 ((647794 : Int32)).toNatClampNeg (gl M 165 (l1).toNatClampNeg)) 165 ((647794 : Int32)).toNatClampNeg) &&& (1023 : Int64))).toInt32 &&& (-513 : Int32)), vi (647794 : Int32), vr (some (97, 1, 0))] Q
  refine sX8_joinPlain_17 (d := (d + 1)) (sl (sl (sl M 165 ((647794 : Int32)).toNatClampNeg (gl M 165 (l1).toNatClampNeg)) 166 ((647794 : Int32)).toNatClampNeg (gl M 166 (l1).toNatClampNeg)) 167 ((647794 : Int32)).toNatClampNeg (gl M 167 (l1).toNatClampNeg)) l2 (647794 : Int32) ((((gl (sl M 165 ((647794 : Int32)).toNatClampNeg (gl M 165 (l1).toNatClampNeg)) 165 ((647794 : Int32)).toNatClampNeg) &&& (1023 : Int64))).toInt32 &&& (-513 : Int32)) (647794 : Int32) ?_
  refine sX8_name_0 (d := (d + 1)) (sl (sl (sl M 165 ((647794 : Int32)).toNatClampNeg (gl M 165 (l1).toNatClampNeg)) 166 ((647794 : Int32)).toNatClampNeg (gl M 166 (l1).toNatClampNeg)) 167 ((647794 : Int32)).toNatClampNeg (gl M 167 (l1).toNatClampNeg)) (647794 : Int32) ?_
  refine ⟨h7890, ?_⟩
  show Zm E YX8_joinPlain ((d + 1) + 1) (sl (sl (sl M 165 ((647794 : Int32)).toNatClampNeg (gl M 165 (l1).toNatClampNeg)) 166 ((647794 : Int32)).toNatClampNeg (gl M 166 (l1).toNatClampNeg)) 167 ((647794 : Int32)).toNatClampNeg (gl M 167 (l1).toNatClampNeg)) [(0, vr (some (97, 1, 0))), (2, vi l2), (3, vi (647794 : Int32))] 22 [vi (((zlr (gl (sl M 165 ((647794 : Int32)).toNatClampNeg (gl M 165 (l1).toNatClampNeg)) 165 ((647794 : Int32)).toNatClampNeg) (10 : Int32)) &&& (127 : Int64))).toInt32, vi ((((gl (sl M 165 ((647794 : Int32)).toNatClampNeg (gl M 165 (l1).toNatClampNeg)) 165 ((647794 : Int32)).toNatClampNeg) &&& (1023 : Int64))).toInt32 &&& (-513 : Int32)), vi (647794 : Int32), vr (some (97, 1, 0))] Q
  refine sX8_joinPlain_22 (d := (d + 1)) (sl (sl (sl M 165 ((647794 : Int32)).toNatClampNeg (gl M 165 (l1).toNatClampNeg)) 166 ((647794 : Int32)).toNatClampNeg (gl M 166 (l1).toNatClampNeg)) 167 ((647794 : Int32)).toNatClampNeg (gl M 167 (l1).toNatClampNeg)) l2 (647794 : Int32) ((((zlr (gl (sl M 165 ((647794 : Int32)).toNatClampNeg (gl M 165 (l1).toNatClampNeg)) 165 ((647794 : Int32)).toNatClampNeg) (10 : Int32)) &&& (127 : Int64))).toInt32) ((((gl (sl M 165 ((647794 : Int32)).toNatClampNeg (gl M 165 (l1).toNatClampNeg)) 165 ((647794 : Int32)).toNatClampNeg) &&& (1023 : Int64))).toInt32 &&& (-513 : Int32)) (647794 : Int32) ?_
  refine sX8_number_0 (d := (d + 1)) (sl (sl (sl M 165 ((647794 : Int32)).toNatClampNeg (gl M 165 (l1).toNatClampNeg)) 166 ((647794 : Int32)).toNatClampNeg (gl M 166 (l1).toNatClampNeg)) 167 ((647794 : Int32)).toNatClampNeg (gl M 167 (l1).toNatClampNeg)) (647794 : Int32) ?_
  refine ⟨h7890, ?_⟩
  show Zm E YX8_joinPlain ((d + 1) + 1) (sl (sl (sl M 165 ((647794 : Int32)).toNatClampNeg (gl M 165 (l1).toNatClampNeg)) 166 ((647794 : Int32)).toNatClampNeg (gl M 166 (l1).toNatClampNeg)) 167 ((647794 : Int32)).toNatClampNeg (gl M 167 (l1).toNatClampNeg)) [(0, vr (some (97, 1, 0))), (2, vi l2), (3, vi (647794 : Int32))] 27 [vi ((zlr (gl (sl M 165 ((647794 : Int32)).toNatClampNeg (gl M 165 (l1).toNatClampNeg)) 165 ((647794 : Int32)).toNatClampNeg) (32 : Int32))).toInt32, vi (((zlr (gl (sl M 165 ((647794 : Int32)).toNatClampNeg (gl M 165 (l1).toNatClampNeg)) 165 ((647794 : Int32)).toNatClampNeg) (10 : Int32)) &&& (127 : Int64))).toInt32, vi ((((gl (sl M 165 ((647794 : Int32)).toNatClampNeg (gl M 165 (l1).toNatClampNeg)) 165 ((647794 : Int32)).toNatClampNeg) &&& (1023 : Int64))).toInt32 &&& (-513 : Int32)), vi (647794 : Int32), vr (some (97, 1, 0))] Q
  refine sX8_joinPlain_27 (d := (d + 1)) (sl (sl (sl M 165 ((647794 : Int32)).toNatClampNeg (gl M 165 (l1).toNatClampNeg)) 166 ((647794 : Int32)).toNatClampNeg (gl M 166 (l1).toNatClampNeg)) 167 ((647794 : Int32)).toNatClampNeg (gl M 167 (l1).toNatClampNeg)) l2 (647794 : Int32) (((zlr (gl (sl M 165 ((647794 : Int32)).toNatClampNeg (gl M 165 (l1).toNatClampNeg)) 165 ((647794 : Int32)).toNatClampNeg) (32 : Int32))).toInt32) ((((zlr (gl (sl M 165 ((647794 : Int32)).toNatClampNeg (gl M 165 (l1).toNatClampNeg)) 165 ((647794 : Int32)).toNatClampNeg) (10 : Int32)) &&& (127 : Int64))).toInt32) ((((gl (sl M 165 ((647794 : Int32)).toNatClampNeg (gl M 165 (l1).toNatClampNeg)) 165 ((647794 : Int32)).toNatClampNeg) &&& (1023 : Int64))).toInt32 &&& (-513 : Int32)) (647794 : Int32) ?_
  exact k
theorem iX8_keysOf_0 {E : zE} {d : Nat} {Q : zO → zM → Prop} (M : zM) (l1 : Int32) (k : Zm E YX8_has d (sl (sl M 97 143 (0 : Int64)) 97 144 (0 : Int64)) (zargs 0 [vr (some (97, 1, 0)), vi l1]) 0 [] (zma E YX8_keysOf (d + 1) [(0, vr (some (97, 1, 0))), (1, vi l1)] 6 3 [] Q)) : Zm E YX8_keysOf (d + 1) M [(0, vr (some (97, 1, 0))), (1, vi l1)] 0 [] Q := by
  refine sX8_keysOf_0 (d := d) M l1 ?_
  refine sX8_noKeys_0 (d := d) M  ?_
  show Zm E YX8_keysOf (d + 1) (sl (sl M 97 143 (0 : Int64)) 97 144 (0 : Int64)) [(0, vr (some (97, 1, 0))), (1, vi l1)] 4 [] Q
  refine sX8_keysOf_4 (d := d) (sl (sl M 97 143 (0 : Int64)) 97 144 (0 : Int64)) l1 ?_
  exact k
theorem iX8_keysOf_9 {E : zE} {d : Nat} {Q : zO → zM → Prop} (M : zM) (l1 : Int32) (s0 : Int32) (k : if (s0 &&& (1 : Int32)) = 0 then (if (s0 &&& (2 : Int32)) = 0 then (if (s0 &&& (4 : Int32)) = 0 then (if (s0 &&& (8 : Int32)) = 0 then (if (s0 &&& (16 : Int32)) = 0 then (if (s0 &&& (32 : Int32)) = 0 then (Zm E YX8_keysOf (d + 1) M [(0, vr (some (97, 1, 0))), (1, vi l1), (2, vi s0), (3, vi (0 : Int32))] 108 [] Q) else (vp_in l1 647800 ∧ (Zm E YX8_nameOfNumber d M (zargs 0 [vr (some (97, 1, 0)), vi ((zlr (gl M 165 (l1).toNatClampNeg) (32 : Int32))).toInt32]) 0 [] (zma E YX8_keysOf (d + 1) [(0, vr (some (97, 1, 0))), (1, vi l1), (2, vi s0)] 85 3 [] Q)))) else (Zm E YX8_addKey d M (zargs 0 [vr (some (97, 1, 0)), vi (28 : Int32)]) 0 [] (zma E YX8_keysOf (d + 1) [(0, vr (some (97, 1, 0))), (1, vi l1), (2, vi s0)] 69 3 [] Q))) else (Zm E YX8_addKey d M (zargs 0 [vr (some (97, 1, 0)), vi (27 : Int32)]) 0 [] (zma E YX8_keysOf (d + 1) [(0, vr (some (97, 1, 0))), (1, vi l1), (2, vi s0)] 56 3 [] Q))) else (Zm E YX8_addKey d M (zargs 0 [vr (some (97, 1, 0)), vi (26 : Int32)]) 0 [] (zma E YX8_keysOf (d + 1) [(0, vr (some (97, 1, 0))), (1, vi l1), (2, vi s0)] 43 3 [] Q))) else (Zm E YX8_addKey d M (zargs 0 [vr (some (97, 1, 0)), vi (25 : Int32)]) 0 [] (zma E YX8_keysOf (d + 1) [(0, vr (some (97, 1, 0))), (1, vi l1), (2, vi s0)] 31 3 [] Q))) else (Zm E YX8_addKey d M (zargs 0 [vr (some (97, 1, 0)), vi (19 : Int32)]) 0 [] (zma E YX8_keysOf (d + 1) [(0, vr (some (97, 1, 0))), (1, vi l1), (2, vi s0)] 19 3 [] Q))) : Zm E YX8_keysOf (d + 1) M [(0, vr (some (97, 1, 0))), (1, vi l1)] 9 [vi s0] Q := by
  refine sX8_keysOf_9 (d := d) M l1 s0 ?_
  refine zite k (fun h8140 k => ?_) (fun h8140 k => ?_)
  · refine sX8_keysOf_22 (d := d) M l1 s0 ?_
    refine zite k (fun h8141 k => ?_) (fun h8141 k => ?_)
    · refine sX8_keysOf_34 (d := d) M l1 s0 ?_
      refine zite k (fun h8142 k => ?_) (fun h8142 k => ?_)
      · refine sX8_keysOf_46 (d := d) M l1 s0 ?_
        refine zite k (fun h8143 k => ?_) (fun h8143 k => ?_)
        · refine sX8_keysOf_59 (d := d) M l1 s0 ?_
          refine zite k (fun h8144 k => ?_) (fun h8144 k => ?_)
          · refine sX8_keysOf_72 (d := d) M l1 s0 ?_
            refine zite k (fun h8145 k => ?_) (fun h8145 k => ?_)
            · refine sX8_keysOf_106 (d := d) M l1 s0 ?_
              exact k
            · refine sX8_number_0 (d := d) M l1 ?_
              refine zand k (fun h8146 k => ?_)
              show Zm E YX8_keysOf (d + 1) M [(0, vr (some (97, 1, 0))), (1, vi l1), (2, vi s0)] 85 [vi ((zlr (gl M 165 (l1).toNatClampNeg) (32 : Int32))).toInt32, vr (some (97, 1, 0))] Q
              refine sX8_keysOf_85 (d := d) M l1 s0 (((zlr (gl M 165 (l1).toNatClampNeg) (32 : Int32))).toInt32) ?_
              exact k
          · exact k
        · exact k
      · exact k
    · exact k
  · exact k
theorem iX8_keysOf_108 {E : zE} {d : Nat} {Q : zO → zM → Prop} (M : zM) (l1 : Int32) (l2 : Int32) (l3 : Int32) (k : if (gi M 97 8) < l3 then (if (l2 &&& (128 : Int32)) = 0 then (Zm E YX8_hasLabels d M (zargs 0 [vr (some (97, 1, 0)), vi l1]) 0 [] (zma E YX8_keysOf (d + 1) [(0, vr (some (97, 1, 0)))] 190 3 [] Q)) else (vp_in l1 647800 ∧ (Zm E YX8_addKey d M (zargs 0 [vr (some (97, 1, 0)), vi (((zlr (gl M 165 (l1).toNatClampNeg) (10 : Int32)) &&& (127 : Int64))).toInt32]) 0 [] (zma E YX8_keysOf (d + 1) [(0, vr (some (97, 1, 0))), (1, vi l1)] 185 3 [] Q)))) else (if (l2 &&& (256 : Int32)) = 0 then (if (l2 &&& (64 : Int32)) = 0 then (Zm E YX8_keysOf (d + 1) M [(0, vr (some (97, 1, 0))), (1, vi l1), (2, vi l2), (3, vi (l3 + (1 : Int32)))] 108 [] Q) else (if l3 = (gi M 97 8) then (Zm E YX8_addKey d M (zargs 0 [vr (some (97, 1, 0)), vi l3]) 0 [] (zma E YX8_keysOf (d + 1) [(0, vr (some (97, 1, 0))), (1, vi l1), (2, vi l2), (3, vi l3)] 162 3 [] Q)) else (vp_in l3 90 ∧ (if (gi M 184 (l3).toNatClampNeg) = 0 then (Zm E YX8_keysOf (d + 1) M [(0, vr (some (97, 1, 0))), (1, vi l1), (2, vi l2), (3, vi (l3 + (1 : Int32)))] 108 [] Q) else (Zm E YX8_addKey d M (zargs 0 [vr (some (97, 1, 0)), vi l3]) 0 [] (zma E YX8_keysOf (d + 1) [(0, vr (some (97, 1, 0))), (1, vi l1), (2, vi l2), (3, vi l3)] 162 3 [] Q)))))) else (Zm E YX8_addKey d M (zargs 0 [vr (some (97, 1, 0)), vi l3]) 0 [] (zma E YX8_keysOf (d + 1) [(0, vr (some (97, 1, 0))), (1, vi l1), (2, vi l2), (3, vi l3)] 162 3 [] Q)))) : Zm E YX8_keysOf (d + 1) M [(0, vr (some (97, 1, 0))), (1, vi l1), (2, vi l2), (3, vi l3)] 108 [] Q := by
  refine sX8_keysOf_108 (d := d) M l1 l2 l3 ?_
  refine zite k (fun h8179 k => ?_) (fun h8179 k => ?_)
  · refine zite k (fun h8180 k => ?_) (fun h8180 k => ?_)
    · refine sX8_keysOf_188 (d := d) M l1 ?_
      exact k
    · refine sX8_name_0 (d := d) M l1 ?_
      refine zand k (fun h8181 k => ?_)
      show Zm E YX8_keysOf (d + 1) M [(0, vr (some (97, 1, 0))), (1, vi l1)] 185 [vi (((zlr (gl M 165 (l1).toNatClampNeg) (10 : Int32)) &&& (127 : Int64))).toInt32, vr (some (97, 1, 0))] Q
      refine sX8_keysOf_185 (d := d) M l1 ((((zlr (gl M 165 (l1).toNatClampNeg) (10 : Int32)) &&& (127 : Int64))).toInt32) ?_
      exact k
  · refine zite k (fun h8182 k => ?_) (fun h8182 k => ?_)
    · refine zite k (fun h8183 k => ?_) (fun h8183 k => ?_)
      · refine zpos (show (0 : Int32) = 0 from by decide) ?_
        refine sX8_keysOf_165 (d := d) M l1 l2 l3 ?_
        exact k
      · refine zite k (fun h8184 k => ?_) (fun h8184 k => ?_)
        · refine sX8_keysOf_148 (d := d) M l1 l2 l3 ?_
          refine zneg (show ¬ ((1 : Int32) = 0) from by decide) ?_
          exact k
        · refine zand k (fun h8185 k => ?_)
          refine zite k (fun h8186 k => ?_) (fun h8186 k => ?_)
          · refine zpos (show (0 : Int32) = 0 from by decide) ?_
            refine sX8_keysOf_165 (d := d) M l1 l2 l3 ?_
            exact k
          · refine sX8_keysOf_148 (d := d) M l1 l2 l3 ?_
            refine zneg (show ¬ ((1 : Int32) = 0) from by decide) ?_
            exact k
    · refine sX8_keysOf_148 (d := d) M l1 l2 l3 ?_
      refine zneg (show ¬ ((1 : Int32) = 0) from by decide) ?_
      exact k
theorem iX8_keysOf_88 {E : zE} {d : Nat} {Q : zO → zM → Prop} (M : zM) (l1 : Int32) (l2 : Int32) (s0 : Int32) (k : if s0 = (-1 : Int32) then (if (64 : Int32) ≤ (gi M 97 8) then (Zm E YX8_keysOf (d + 1) (sl M 97 144 ((gl M 97 144) ||| (zls (1 : Int64) ((gi M 97 8) - (64 : Int32))))) [(0, vr (some (97, 1, 0))), (1, vi l1), (2, vi l2), (3, vi (0 : Int32))] 108 [] Q) else (Zm E YX8_keysOf (d + 1) (sl M 97 143 ((gl M 97 143) ||| (zls (1 : Int64) (gi M 97 8)))) [(0, vr (some (97, 1, 0))), (1, vi l1), (2, vi l2), (3, vi (0 : Int32))] 108 [] Q)) else (if (64 : Int32) ≤ s0 then (Zm E YX8_keysOf (d + 1) (sl M 97 144 ((gl M 97 144) ||| (zls (1 : Int64) (s0 - (64 : Int32))))) [(0, vr (some (97, 1, 0))), (1, vi l1), (2, vi l2), (3, vi (0 : Int32))] 108 [] Q) else (Zm E YX8_keysOf (d + 1) (sl M 97 143 ((gl M 97 143) ||| (zls (1 : Int64) s0))) [(0, vr (some (97, 1, 0))), (1, vi l1), (2, vi l2), (3, vi (0 : Int32))] 108 [] Q))) : Zm E YX8_keysOf (d + 1) M [(0, vr (some (97, 1, 0))), (1, vi l1), (2, vi l2)] 88 [vi s0] Q := by
  refine sX8_keysOf_88 (d := d) M l1 l2 s0 ?_
  refine zite k (fun h8187 k => ?_) (fun h8187 k => ?_)
  · refine sX8_addKey_0 (d := d) M (gi M 97 8) ?_
    refine zite k (fun h8188 k => ?_) (fun h8188 k => ?_)
    · show Zm E YX8_keysOf (d + 1) (sl M 97 144 ((gl M 97 144) ||| (zls (1 : Int64) ((gi M 97 8) - (64 : Int32))))) [(0, vr (some (97, 1, 0))), (1, vi l1), (2, vi l2)] 106 [] Q
      refine sX8_keysOf_106 (d := d) (sl M 97 144 ((gl M 97 144) ||| (zls (1 : Int64) ((gi M 97 8) - (64 : Int32))))) l1 l2 ?_
      exact k
    · show Zm E YX8_keysOf (d + 1) (sl M 97 143 ((gl M 97 143) ||| (zls (1 : Int64) (gi M 97 8)))) [(0, vr (some (97, 1, 0))), (1, vi l1), (2, vi l2)] 106 [] Q
      refine sX8_keysOf_106 (d := d) (sl M 97 143 ((gl M 97 143) ||| (zls (1 : Int64) (gi M 97 8)))) l1 l2 ?_
      exact k
  · refine sX8_addKey_0 (d := d) M s0 ?_
    refine zite k (fun h8189 k => ?_) (fun h8189 k => ?_)
    · show Zm E YX8_keysOf (d + 1) (sl M 97 144 ((gl M 97 144) ||| (zls (1 : Int64) (s0 - (64 : Int32))))) [(0, vr (some (97, 1, 0))), (1, vi l1), (2, vi l2)] 106 [] Q
      refine sX8_keysOf_106 (d := d) (sl M 97 144 ((gl M 97 144) ||| (zls (1 : Int64) (s0 - (64 : Int32))))) l1 l2 ?_
      exact k
    · show Zm E YX8_keysOf (d + 1) (sl M 97 143 ((gl M 97 143) ||| (zls (1 : Int64) s0))) [(0, vr (some (97, 1, 0))), (1, vi l1), (2, vi l2)] 106 [] Q
      refine sX8_keysOf_106 (d := d) (sl M 97 143 ((gl M 97 143) ||| (zls (1 : Int64) s0))) l1 l2 ?_
      exact k
theorem iX8_keysOf_72 {E : zE} {d : Nat} {Q : zO → zM → Prop} (M : zM) (l1 : Int32) (l2 : Int32) (k : if (l2 &&& (32 : Int32)) = 0 then (Zm E YX8_keysOf (d + 1) M [(0, vr (some (97, 1, 0))), (1, vi l1), (2, vi l2), (3, vi (0 : Int32))] 108 [] Q) else (vp_in l1 647800 ∧ (Zm E YX8_nameOfNumber d M (zargs 0 [vr (some (97, 1, 0)), vi ((zlr (gl M 165 (l1).toNatClampNeg) (32 : Int32))).toInt32]) 0 [] (zma E YX8_keysOf (d + 1) [(0, vr (some (97, 1, 0))), (1, vi l1), (2, vi l2)] 85 3 [] Q)))) : Zm E YX8_keysOf (d + 1) M [(0, vr (some (97, 1, 0))), (1, vi l1), (2, vi l2)] 72 [] Q := by
  refine sX8_keysOf_72 (d := d) M l1 l2 ?_
  refine zite k (fun h8190 k => ?_) (fun h8190 k => ?_)
  · refine sX8_keysOf_106 (d := d) M l1 l2 ?_
    exact k
  · refine sX8_number_0 (d := d) M l1 ?_
    refine zand k (fun h8191 k => ?_)
    show Zm E YX8_keysOf (d + 1) M [(0, vr (some (97, 1, 0))), (1, vi l1), (2, vi l2)] 85 [vi ((zlr (gl M 165 (l1).toNatClampNeg) (32 : Int32))).toInt32, vr (some (97, 1, 0))] Q
    refine sX8_keysOf_85 (d := d) M l1 l2 (((zlr (gl M 165 (l1).toNatClampNeg) (32 : Int32))).toInt32) ?_
    exact k
theorem iX8_keysOf_59 {E : zE} {d : Nat} {Q : zO → zM → Prop} (M : zM) (l1 : Int32) (l2 : Int32) (k : if (l2 &&& (16 : Int32)) = 0 then (if (l2 &&& (32 : Int32)) = 0 then (Zm E YX8_keysOf (d + 1) M [(0, vr (some (97, 1, 0))), (1, vi l1), (2, vi l2), (3, vi (0 : Int32))] 108 [] Q) else (vp_in l1 647800 ∧ (Zm E YX8_nameOfNumber d M (zargs 0 [vr (some (97, 1, 0)), vi ((zlr (gl M 165 (l1).toNatClampNeg) (32 : Int32))).toInt32]) 0 [] (zma E YX8_keysOf (d + 1) [(0, vr (some (97, 1, 0))), (1, vi l1), (2, vi l2)] 85 3 [] Q)))) else (if (l2 &&& (32 : Int32)) = 0 then (Zm E YX8_keysOf (d + 1) (sl M 97 143 ((gl M 97 143) ||| (zls (1 : Int64) (28 : Int32)))) [(0, vr (some (97, 1, 0))), (1, vi l1), (2, vi l2), (3, vi (0 : Int32))] 108 [] Q) else (vp_in l1 647800 ∧ (Zm E YX8_nameOfNumber d (sl M 97 143 ((gl M 97 143) ||| (zls (1 : Int64) (28 : Int32)))) (zargs 0 [vr (some (97, 1, 0)), vi ((zlr (gl M 165 (l1).toNatClampNeg) (32 : Int32))).toInt32]) 0 [] (zma E YX8_keysOf (d + 1) [(0, vr (some (97, 1, 0))), (1, vi l1), (2, vi l2)] 85 3 [] Q))))) : Zm E YX8_keysOf (d + 1) M [(0, vr (some (97, 1, 0))), (1, vi l1), (2, vi l2)] 59 [] Q := by
  refine sX8_keysOf_59 (d := d) M l1 l2 ?_
  refine zite k (fun h8192 k => ?_) (fun h8192 k => ?_)
  · refine sX8_keysOf_72 (d := d) M l1 l2 ?_
    refine zite k (fun h8193 k => ?_) (fun h8193 k => ?_)
    · refine sX8_keysOf_106 (d := d) M l1 l2 ?_
      exact k
    · refine sX8_number_0 (d := d) M l1 ?_
      refine zand k (fun h8194 k => ?_)
      show Zm E YX8_keysOf (d + 1) M [(0, vr (some (97, 1, 0))), (1, vi l1), (2, vi l2)] 85 [vi ((zlr (gl M 165 (l1).toNatClampNeg) (32 : Int32))).toInt32, vr (some (97, 1, 0))] Q
      refine sX8_keysOf_85 (d := d) M l1 l2 (((zlr (gl M 165 (l1).toNatClampNeg) (32 : Int32))).toInt32) ?_
      exact k
  · refine sX8_addKey_0 (d := d) M (28 : Int32) ?_
    refine zneg (show ¬ ((64 : Int32) ≤ (28 : Int32)) from by decide) ?_
    show Zm E YX8_keysOf (d + 1) (sl M 97 143 ((gl M 97 143) ||| (zls (1 : Int64) (28 : Int32)))) [(0, vr (some (97, 1, 0))), (1, vi l1), (2, vi l2)] 72 [] Q
    refine sX8_keysOf_72 (d := d) (sl M 97 143 ((gl M 97 143) ||| (zls (1 : Int64) (28 : Int32)))) l1 l2 ?_
    refine zite k (fun h8195 k => ?_) (fun h8195 k => ?_)
    · refine sX8_keysOf_106 (d := d) (sl M 97 143 ((gl M 97 143) ||| (zls (1 : Int64) (28 : Int32)))) l1 l2 ?_
      exact k
    · refine sX8_number_0 (d := d) (sl M 97 143 ((gl M 97 143) ||| (zls (1 : Int64) (28 : Int32)))) l1 ?_
      refine zand k (fun h8196 k => ?_)
      show Zm E YX8_keysOf (d + 1) (sl M 97 143 ((gl M 97 143) ||| (zls (1 : Int64) (28 : Int32)))) [(0, vr (some (97, 1, 0))), (1, vi l1), (2, vi l2)] 85 [vi ((zlr (gl M 165 (l1).toNatClampNeg) (32 : Int32))).toInt32, vr (some (97, 1, 0))] Q
      refine sX8_keysOf_85 (d := d) (sl M 97 143 ((gl M 97 143) ||| (zls (1 : Int64) (28 : Int32)))) l1 l2 (((zlr (gl M 165 (l1).toNatClampNeg) (32 : Int32))).toInt32) ?_
      exact k
theorem iX8_keysOf_46 {E : zE} {d : Nat} {Q : zO → zM → Prop} (M : zM) (l1 : Int32) (l2 : Int32) (k : if (l2 &&& (8 : Int32)) = 0 then (if (l2 &&& (16 : Int32)) = 0 then (if (l2 &&& (32 : Int32)) = 0 then (Zm E YX8_keysOf (d + 1) M [(0, vr (some (97, 1, 0))), (1, vi l1), (2, vi l2), (3, vi (0 : Int32))] 108 [] Q) else (vp_in l1 647800 ∧ (Zm E YX8_nameOfNumber d M (zargs 0 [vr (some (97, 1, 0)), vi ((zlr (gl M 165 (l1).toNatClampNeg) (32 : Int32))).toInt32]) 0 [] (zma E YX8_keysOf (d + 1) [(0, vr (some (97, 1, 0))), (1, vi l1), (2, vi l2)] 85 3 [] Q)))) else (if (l2 &&& (32 : Int32)) = 0 then (Zm E YX8_keysOf (d + 1) (sl M 97 143 ((gl M 97 143) ||| (zls (1 : Int64) (28 : Int32)))) [(0, vr (some (97, 1, 0))), (1, vi l1), (2, vi l2), (3, vi (0 : Int32))] 108 [] Q) else (vp_in l1 647800 ∧ (Zm E YX8_nameOfNumber d (sl M 97 143 ((gl M 97 143) ||| (zls (1 : Int64) (28 : Int32)))) (zargs 0 [vr (some (97, 1, 0)), vi ((zlr (gl M 165 (l1).toNatClampNeg) (32 : Int32))).toInt32]) 0 [] (zma E YX8_keysOf (d + 1) [(0, vr (some (97, 1, 0))), (1, vi l1), (2, vi l2)] 85 3 [] Q))))) else (if (l2 &&& (16 : Int32)) = 0 then (if (l2 &&& (32 : Int32)) = 0 then (Zm E YX8_keysOf (d + 1) (sl M 97 143 ((gl M 97 143) ||| (zls (1 : Int64) (27 : Int32)))) [(0, vr (some (97, 1, 0))), (1, vi l1), (2, vi l2), (3, vi (0 : Int32))] 108 [] Q) else (vp_in l1 647800 ∧ (Zm E YX8_nameOfNumber d (sl M 97 143 ((gl M 97 143) ||| (zls (1 : Int64) (27 : Int32)))) (zargs 0 [vr (some (97, 1, 0)), vi ((zlr (gl M 165 (l1).toNatClampNeg) (32 : Int32))).toInt32]) 0 [] (zma E YX8_keysOf (d + 1) [(0, vr (some (97, 1, 0))), (1, vi l1), (2, vi l2)] 85 3 [] Q)))) else (if (l2 &&& (32 : Int32)) = 0 then (Zm E YX8_keysOf (d + 1) (sl (sl M 97 143 ((gl M 97 143) ||| (zls (1 : Int64) (27 : Int32)))) 97 143 (((gl M 97 143) ||| (zls (1 : Int64) (27 : Int32))) ||| (zls (1 : Int64) (28 : Int32)))) [(0, vr (some (97, 1, 0))), (1, vi l1), (2, vi l2), (3, vi (0 : Int32))] 108 [] Q) else (vp_in l1 647800 ∧ (Zm E YX8_nameOfNumber d (sl (sl M 97 143 ((gl M 97 143) ||| (zls (1 : Int64) (27 : Int32)))) 97 143 (((gl M 97 143) ||| (zls (1 : Int64) (27 : Int32))) ||| (zls (1 : Int64) (28 : Int32)))) (zargs 0 [vr (some (97, 1, 0)), vi ((zlr (gl M 165 (l1).toNatClampNeg) (32 : Int32))).toInt32]) 0 [] (zma E YX8_keysOf (d + 1) [(0, vr (some (97, 1, 0))), (1, vi l1), (2, vi l2)] 85 3 [] Q)))))) : Zm E YX8_keysOf (d + 1) M [(0, vr (some (97, 1, 0))), (1, vi l1), (2, vi l2)] 46 [] Q := by
  refine sX8_keysOf_46 (d := d) M l1 l2 ?_
  refine zite k (fun h8197 k => ?_) (fun h8197 k => ?_)
  · refine sX8_keysOf_59 (d := d) M l1 l2 ?_
    refine zite k (fun h8198 k => ?_) (fun h8198 k => ?_)
    · refine sX8_keysOf_72 (d := d) M l1 l2 ?_
      refine zite k (fun h8199 k => ?_) (fun h8199 k => ?_)
      · refine sX8_keysOf_106 (d := d) M l1 l2 ?_
        exact k
      · refine sX8_number_0 (d := d) M l1 ?_
        refine zand k (fun h8200 k => ?_)
        show Zm E YX8_keysOf (d + 1) M [(0, vr (some (97, 1, 0))), (1, vi l1), (2, vi l2)] 85 [vi ((zlr (gl M 165 (l1).toNatClampNeg) (32 : Int32))).toInt32, vr (some (97, 1, 0))] Q
        refine sX8_keysOf_85 (d := d) M l1 l2 (((zlr (gl M 165 (l1).toNatClampNeg) (32 : Int32))).toInt32) ?_
        exact k
    · refine sX8_addKey_0 (d := d) M (28 : Int32) ?_
      refine zneg (show ¬ ((64 : Int32) ≤ (28 : Int32)) from by decide) ?_
      show Zm E YX8_keysOf (d + 1) (sl M 97 143 ((gl M 97 143) ||| (zls (1 : Int64) (28 : Int32)))) [(0, vr (some (97, 1, 0))), (1, vi l1), (2, vi l2)] 72 [] Q
      refine sX8_keysOf_72 (d := d) (sl M 97 143 ((gl M 97 143) ||| (zls (1 : Int64) (28 : Int32)))) l1 l2 ?_
      refine zite k (fun h8201 k => ?_) (fun h8201 k => ?_)
      · refine sX8_keysOf_106 (d := d) (sl M 97 143 ((gl M 97 143) ||| (zls (1 : Int64) (28 : Int32)))) l1 l2 ?_
        exact k
      · refine sX8_number_0 (d := d) (sl M 97 143 ((gl M 97 143) ||| (zls (1 : Int64) (28 : Int32)))) l1 ?_
        refine zand k (fun h8202 k => ?_)
        show Zm E YX8_keysOf (d + 1) (sl M 97 143 ((gl M 97 143) ||| (zls (1 : Int64) (28 : Int32)))) [(0, vr (some (97, 1, 0))), (1, vi l1), (2, vi l2)] 85 [vi ((zlr (gl M 165 (l1).toNatClampNeg) (32 : Int32))).toInt32, vr (some (97, 1, 0))] Q
        refine sX8_keysOf_85 (d := d) (sl M 97 143 ((gl M 97 143) ||| (zls (1 : Int64) (28 : Int32)))) l1 l2 (((zlr (gl M 165 (l1).toNatClampNeg) (32 : Int32))).toInt32) ?_
        exact k
  · refine sX8_addKey_0 (d := d) M (27 : Int32) ?_
    refine zneg (show ¬ ((64 : Int32) ≤ (27 : Int32)) from by decide) ?_
    show Zm E YX8_keysOf (d + 1) (sl M 97 143 ((gl M 97 143) ||| (zls (1 : Int64) (27 : Int32)))) [(0, vr (some (97, 1, 0))), (1, vi l1), (2, vi l2)] 59 [] Q
    refine sX8_keysOf_59 (d := d) (sl M 97 143 ((gl M 97 143) ||| (zls (1 : Int64) (27 : Int32)))) l1 l2 ?_
    refine zite k (fun h8203 k => ?_) (fun h8203 k => ?_)
    · refine sX8_keysOf_72 (d := d) (sl M 97 143 ((gl M 97 143) ||| (zls (1 : Int64) (27 : Int32)))) l1 l2 ?_
      refine zite k (fun h8204 k => ?_) (fun h8204 k => ?_)
      · refine sX8_keysOf_106 (d := d) (sl M 97 143 ((gl M 97 143) ||| (zls (1 : Int64) (27 : Int32)))) l1 l2 ?_
        exact k
      · refine sX8_number_0 (d := d) (sl M 97 143 ((gl M 97 143) ||| (zls (1 : Int64) (27 : Int32)))) l1 ?_
        refine zand k (fun h8205 k => ?_)
        show Zm E YX8_keysOf (d + 1) (sl M 97 143 ((gl M 97 143) ||| (zls (1 : Int64) (27 : Int32)))) [(0, vr (some (97, 1, 0))), (1, vi l1), (2, vi l2)] 85 [vi ((zlr (gl M 165 (l1).toNatClampNeg) (32 : Int32))).toInt32, vr (some (97, 1, 0))] Q
        refine sX8_keysOf_85 (d := d) (sl M 97 143 ((gl M 97 143) ||| (zls (1 : Int64) (27 : Int32)))) l1 l2 (((zlr (gl M 165 (l1).toNatClampNeg) (32 : Int32))).toInt32) ?_
        exact k
    · refine sX8_addKey_0 (d := d) (sl M 97 143 ((gl M 97 143) ||| (zls (1 : Int64) (27 : Int32)))) (28 : Int32) ?_
      refine zneg (show ¬ ((64 : Int32) ≤ (28 : Int32)) from by decide) ?_
      show Zm E YX8_keysOf (d + 1) (sl (sl M 97 143 ((gl M 97 143) ||| (zls (1 : Int64) (27 : Int32)))) 97 143 (((gl M 97 143) ||| (zls (1 : Int64) (27 : Int32))) ||| (zls (1 : Int64) (28 : Int32)))) [(0, vr (some (97, 1, 0))), (1, vi l1), (2, vi l2)] 72 [] Q
      refine sX8_keysOf_72 (d := d) (sl (sl M 97 143 ((gl M 97 143) ||| (zls (1 : Int64) (27 : Int32)))) 97 143 (((gl M 97 143) ||| (zls (1 : Int64) (27 : Int32))) ||| (zls (1 : Int64) (28 : Int32)))) l1 l2 ?_
      refine zite k (fun h8206 k => ?_) (fun h8206 k => ?_)
      · refine sX8_keysOf_106 (d := d) (sl (sl M 97 143 ((gl M 97 143) ||| (zls (1 : Int64) (27 : Int32)))) 97 143 (((gl M 97 143) ||| (zls (1 : Int64) (27 : Int32))) ||| (zls (1 : Int64) (28 : Int32)))) l1 l2 ?_
        exact k
      · refine sX8_number_0 (d := d) (sl (sl M 97 143 ((gl M 97 143) ||| (zls (1 : Int64) (27 : Int32)))) 97 143 (((gl M 97 143) ||| (zls (1 : Int64) (27 : Int32))) ||| (zls (1 : Int64) (28 : Int32)))) l1 ?_
        refine zand k (fun h8207 k => ?_)
        show Zm E YX8_keysOf (d + 1) (sl (sl M 97 143 ((gl M 97 143) ||| (zls (1 : Int64) (27 : Int32)))) 97 143 (((gl M 97 143) ||| (zls (1 : Int64) (27 : Int32))) ||| (zls (1 : Int64) (28 : Int32)))) [(0, vr (some (97, 1, 0))), (1, vi l1), (2, vi l2)] 85 [vi ((zlr (gl M 165 (l1).toNatClampNeg) (32 : Int32))).toInt32, vr (some (97, 1, 0))] Q
        refine sX8_keysOf_85 (d := d) (sl (sl M 97 143 ((gl M 97 143) ||| (zls (1 : Int64) (27 : Int32)))) 97 143 (((gl M 97 143) ||| (zls (1 : Int64) (27 : Int32))) ||| (zls (1 : Int64) (28 : Int32)))) l1 l2 (((zlr (gl M 165 (l1).toNatClampNeg) (32 : Int32))).toInt32) ?_
        exact k
theorem iX8_keysOf_34 {E : zE} {d : Nat} {Q : zO → zM → Prop} (M : zM) (l1 : Int32) (l2 : Int32) (k : if (l2 &&& (4 : Int32)) = 0 then (if (l2 &&& (8 : Int32)) = 0 then (if (l2 &&& (16 : Int32)) = 0 then (if (l2 &&& (32 : Int32)) = 0 then (Zm E YX8_keysOf (d + 1) M [(0, vr (some (97, 1, 0))), (1, vi l1), (2, vi l2), (3, vi (0 : Int32))] 108 [] Q) else (vp_in l1 647800 ∧ (Zm E YX8_nameOfNumber d M (zargs 0 [vr (some (97, 1, 0)), vi ((zlr (gl M 165 (l1).toNatClampNeg) (32 : Int32))).toInt32]) 0 [] (zma E YX8_keysOf (d + 1) [(0, vr (some (97, 1, 0))), (1, vi l1), (2, vi l2)] 85 3 [] Q)))) else (Zm E YX8_addKey d M (zargs 0 [vr (some (97, 1, 0)), vi (28 : Int32)]) 0 [] (zma E YX8_keysOf (d + 1) [(0, vr (some (97, 1, 0))), (1, vi l1), (2, vi l2)] 69 3 [] Q))) else (Zm E YX8_addKey d M (zargs 0 [vr (some (97, 1, 0)), vi (27 : Int32)]) 0 [] (zma E YX8_keysOf (d + 1) [(0, vr (some (97, 1, 0))), (1, vi l1), (2, vi l2)] 56 3 [] Q))) else (Zm E YX8_addKey d M (zargs 0 [vr (some (97, 1, 0)), vi (26 : Int32)]) 0 [] (zma E YX8_keysOf (d + 1) [(0, vr (some (97, 1, 0))), (1, vi l1), (2, vi l2)] 43 3 [] Q))) : Zm E YX8_keysOf (d + 1) M [(0, vr (some (97, 1, 0))), (1, vi l1), (2, vi l2)] 34 [] Q := by
  refine sX8_keysOf_34 (d := d) M l1 l2 ?_
  refine zite k (fun h8254 k => ?_) (fun h8254 k => ?_)
  · refine sX8_keysOf_46 (d := d) M l1 l2 ?_
    refine zite k (fun h8255 k => ?_) (fun h8255 k => ?_)
    · refine sX8_keysOf_59 (d := d) M l1 l2 ?_
      refine zite k (fun h8256 k => ?_) (fun h8256 k => ?_)
      · refine sX8_keysOf_72 (d := d) M l1 l2 ?_
        refine zite k (fun h8257 k => ?_) (fun h8257 k => ?_)
        · refine sX8_keysOf_106 (d := d) M l1 l2 ?_
          exact k
        · refine sX8_number_0 (d := d) M l1 ?_
          refine zand k (fun h8258 k => ?_)
          show Zm E YX8_keysOf (d + 1) M [(0, vr (some (97, 1, 0))), (1, vi l1), (2, vi l2)] 85 [vi ((zlr (gl M 165 (l1).toNatClampNeg) (32 : Int32))).toInt32, vr (some (97, 1, 0))] Q
          refine sX8_keysOf_85 (d := d) M l1 l2 (((zlr (gl M 165 (l1).toNatClampNeg) (32 : Int32))).toInt32) ?_
          exact k
      · exact k
    · exact k
  · exact k
theorem iX8_keysOf_22 {E : zE} {d : Nat} {Q : zO → zM → Prop} (M : zM) (l1 : Int32) (l2 : Int32) (k : if (l2 &&& (2 : Int32)) = 0 then (if (l2 &&& (4 : Int32)) = 0 then (if (l2 &&& (8 : Int32)) = 0 then (if (l2 &&& (16 : Int32)) = 0 then (if (l2 &&& (32 : Int32)) = 0 then (Zm E YX8_keysOf (d + 1) M [(0, vr (some (97, 1, 0))), (1, vi l1), (2, vi l2), (3, vi (0 : Int32))] 108 [] Q) else (vp_in l1 647800 ∧ (Zm E YX8_nameOfNumber d M (zargs 0 [vr (some (97, 1, 0)), vi ((zlr (gl M 165 (l1).toNatClampNeg) (32 : Int32))).toInt32]) 0 [] (zma E YX8_keysOf (d + 1) [(0, vr (some (97, 1, 0))), (1, vi l1), (2, vi l2)] 85 3 [] Q)))) else (Zm E YX8_addKey d M (zargs 0 [vr (some (97, 1, 0)), vi (28 : Int32)]) 0 [] (zma E YX8_keysOf (d + 1) [(0, vr (some (97, 1, 0))), (1, vi l1), (2, vi l2)] 69 3 [] Q))) else (Zm E YX8_addKey d M (zargs 0 [vr (some (97, 1, 0)), vi (27 : Int32)]) 0 [] (zma E YX8_keysOf (d + 1) [(0, vr (some (97, 1, 0))), (1, vi l1), (2, vi l2)] 56 3 [] Q))) else (Zm E YX8_addKey d M (zargs 0 [vr (some (97, 1, 0)), vi (26 : Int32)]) 0 [] (zma E YX8_keysOf (d + 1) [(0, vr (some (97, 1, 0))), (1, vi l1), (2, vi l2)] 43 3 [] Q))) else (Zm E YX8_addKey d M (zargs 0 [vr (some (97, 1, 0)), vi (25 : Int32)]) 0 [] (zma E YX8_keysOf (d + 1) [(0, vr (some (97, 1, 0))), (1, vi l1), (2, vi l2)] 31 3 [] Q))) : Zm E YX8_keysOf (d + 1) M [(0, vr (some (97, 1, 0))), (1, vi l1), (2, vi l2)] 22 [] Q := by
  refine sX8_keysOf_22 (d := d) M l1 l2 ?_
  refine zite k (fun h8353 k => ?_) (fun h8353 k => ?_)
  · refine sX8_keysOf_34 (d := d) M l1 l2 ?_
    refine zite k (fun h8354 k => ?_) (fun h8354 k => ?_)
    · refine sX8_keysOf_46 (d := d) M l1 l2 ?_
      refine zite k (fun h8355 k => ?_) (fun h8355 k => ?_)
      · refine sX8_keysOf_59 (d := d) M l1 l2 ?_
        refine zite k (fun h8356 k => ?_) (fun h8356 k => ?_)
        · refine sX8_keysOf_72 (d := d) M l1 l2 ?_
          refine zite k (fun h8357 k => ?_) (fun h8357 k => ?_)
          · refine sX8_keysOf_106 (d := d) M l1 l2 ?_
            exact k
          · refine sX8_number_0 (d := d) M l1 ?_
            refine zand k (fun h8358 k => ?_)
            show Zm E YX8_keysOf (d + 1) M [(0, vr (some (97, 1, 0))), (1, vi l1), (2, vi l2)] 85 [vi ((zlr (gl M 165 (l1).toNatClampNeg) (32 : Int32))).toInt32, vr (some (97, 1, 0))] Q
            refine sX8_keysOf_85 (d := d) M l1 l2 (((zlr (gl M 165 (l1).toNatClampNeg) (32 : Int32))).toInt32) ?_
            exact k
        · exact k
      · exact k
    · exact k
  · exact k
theorem iX8_keysOf_193 {E : zE} {d : Nat} {Q : zO → zM → Prop} (M : zM) (s0 : Int32) (k : if s0 = 0 then (Q (.inl none) M) else (Q (.inl none) (sl M 97 143 ((gl M 97 143) ||| (zls (1 : Int64) (29 : Int32)))))) : Zm E YX8_keysOf (d + 1) M [(0, vr (some (97, 1, 0)))] 193 [vi s0] Q := by
  refine sX8_keysOf_193 (d := d) M s0 ?_
  refine zite k (fun h8359 k => ?_) (fun h8359 k => ?_)
  · refine sX8_keysOf_202 (d := d) M  ?_
    exact k
  · refine sX8_addKey_0 (d := d) M (29 : Int32) ?_
    refine zneg (show ¬ ((64 : Int32) ≤ (29 : Int32)) from by decide) ?_
    show Zm E YX8_keysOf (d + 1) (sl M 97 143 ((gl M 97 143) ||| (zls (1 : Int64) (29 : Int32)))) [] 202 [] Q
    refine sX8_keysOf_202 (d := d) (sl M 97 143 ((gl M 97 143) ||| (zls (1 : Int64) (29 : Int32))))  ?_
    exact k
theorem iX8_keysOf_188 {E : zE} {d : Nat} {Q : zO → zM → Prop} (M : zM) (l1 : Int32) (k : vp_in l1 647800 ∧ (if (lg_cmp ((gl M 166 (l1).toNatClampNeg) ||| (gl M 167 (l1).toNatClampNeg)) (0 : Int64)) = 0 then (Q (.inl none) M) else (Q (.inl none) (sl M 97 143 ((gl M 97 143) ||| (zls (1 : Int64) (29 : Int32))))))) : Zm E YX8_keysOf (d + 1) M [(0, vr (some (97, 1, 0))), (1, vi l1)] 188 [] Q := by
  refine sX8_keysOf_188 (d := d) M l1 ?_
  refine jX8_hasLabels (d := d) M l1 ?_
  refine zand k (fun h8360 k => ?_)
  refine zite k (fun h8361 k => ?_) (fun h8361 k => ?_)
  · show Zm E YX8_keysOf (d + 1) M [(0, vr (some (97, 1, 0)))] 193 [vi (0 : Int32)] Q
    refine sX8_keysOf_193 (d := d) M (0 : Int32) ?_
    refine zpos (show (0 : Int32) = 0 from by decide) ?_
    refine sX8_keysOf_202 (d := d) M  ?_
    exact k
  · show Zm E YX8_keysOf (d + 1) M [(0, vr (some (97, 1, 0)))] 193 [vi (1 : Int32)] Q
    refine sX8_keysOf_193 (d := d) M (1 : Int32) ?_
    refine zneg (show ¬ ((1 : Int32) = 0) from by decide) ?_
    refine sX8_addKey_0 (d := d) M (29 : Int32) ?_
    refine zneg (show ¬ ((64 : Int32) ≤ (29 : Int32)) from by decide) ?_
    show Zm E YX8_keysOf (d + 1) (sl M 97 143 ((gl M 97 143) ||| (zls (1 : Int64) (29 : Int32)))) [] 202 [] Q
    refine sX8_keysOf_202 (d := d) (sl M 97 143 ((gl M 97 143) ||| (zls (1 : Int64) (29 : Int32))))  ?_
    exact k
theorem iX8_load_0 {E : zE} {d : Nat} {Q : zO → zM → Prop} (M : zM) (l1 : Int32) (k : if l1 = (639 : Int32) then (Zm E YX8_load (d + 1) M [(0, vr (some (97, 1, 0))), (1, vi l1), (2, vi (635640 : Int32)), (3, vi (0 : Int32))] 8 [] Q) else (Zm E YX8_load (d + 1) M [(0, vr (some (97, 1, 0))), (1, vi l1), (2, vi ((l1 * (gi M 97 71)) * ((gi M 97 8) + (1 : Int32)))), (3, vi (0 : Int32))] 8 [] Q)) : Zm E YX8_load (d + 1) M [(0, vr (some (97, 1, 0))), (1, vi l1)] 0 [] Q := by
  refine sX8_load_0 (d := d) M l1 ?_
  refine sX8_fieldsAt_0 (d := d) M l1 ?_
  refine zite k (fun h8362 k => ?_) (fun h8362 k => ?_)
  · show Zm E YX8_load (d + 1) M [(0, vr (some (97, 1, 0))), (1, vi l1)] 5 [vi (635640 : Int32)] Q
    refine sX8_load_5 (d := d) M l1 (635640 : Int32) ?_
    exact k
  · show Zm E YX8_load (d + 1) M [(0, vr (some (97, 1, 0))), (1, vi l1)] 5 [vi ((l1 * (gi M 97 71)) * ((gi M 97 8) + (1 : Int32)))] Q
    refine sX8_load_5 (d := d) M l1 ((l1 * (gi M 97 71)) * ((gi M 97 8) + (1 : Int32))) ?_
    exact k
theorem iX8_load_8 {E : zE} {d : Nat} {Q : zO → zM → Prop} (M : zM) (l1 : Int32) (l2 : Int32) (l3 : Int32) (k : if ((gi M 97 71) * ((gi M 97 8) + (1 : Int32))) ≤ l3 then (Zm E YX8_loadRest d M (zargs 0 [vr (some (97, 1, 0)), vi l1]) 0 [] (zma E YX8_load (d + 1) [(0, vr (some (97, 1, 0))), (1, vi l1)] 43 3 [] Q)) else (vp_in (l2 + l3) 647800 ∧ (vp_in ((635640 : Int32) + l3) 647800 ∧ (Zm E YX8_load (d + 1) (sl (sl (sl M 165 (((635640 : Int32) + l3)).toNatClampNeg (gl M 165 ((l2 + l3)).toNatClampNeg)) 166 (((635640 : Int32) + l3)).toNatClampNeg (gl M 166 ((l2 + l3)).toNatClampNeg)) 167 (((635640 : Int32) + l3)).toNatClampNeg (gl M 167 ((l2 + l3)).toNatClampNeg)) [(0, vr (some (97, 1, 0))), (1, vi l1), (2, vi l2), (3, vi (l3 + (1 : Int32)))] 8 [] Q)))) : Zm E YX8_load (d + 1) M [(0, vr (some (97, 1, 0))), (1, vi l1), (2, vi l2), (3, vi l3)] 8 [] Q := by
  refine sX8_load_8 (d := d) M l1 l2 l3 ?_
  refine zite k (fun h8363 k => ?_) (fun h8363 k => ?_)
  · exact k
  · refine jX8_copySet (d := d) M (l2 + l3) ((635640 : Int32) + l3) ?_
    refine zand k (fun h8364 k => ?_)
    refine zand k (fun h8365 k => ?_)
    show Zm E YX8_load (d + 1) (sl (sl (sl M 165 (((635640 : Int32) + l3)).toNatClampNeg (gl M 165 ((l2 + l3)).toNatClampNeg)) 166 (((635640 : Int32) + l3)).toNatClampNeg (gl M 166 ((l2 + l3)).toNatClampNeg)) 167 (((635640 : Int32) + l3)).toNatClampNeg (gl M 167 ((l2 + l3)).toNatClampNeg)) [(0, vr (some (97, 1, 0))), (1, vi l1), (2, vi l2), (3, vi l3)] 35 [] Q
    refine sX8_load_35 (d := d) (sl (sl (sl M 165 (((635640 : Int32) + l3)).toNatClampNeg (gl M 165 ((l2 + l3)).toNatClampNeg)) 166 (((635640 : Int32) + l3)).toNatClampNeg (gl M 166 ((l2 + l3)).toNatClampNeg)) 167 (((635640 : Int32) + l3)).toNatClampNeg (gl M 167 ((l2 + l3)).toNatClampNeg)) l1 l2 l3 ?_
    exact k
theorem iX8_load_62 {E : zE} {d : Nat} {Q : zO → zM → Prop} (M : zM) (l1 : Int32) (l3 : Int32) (k : vp_in l1 640 ∧ (if (gi M 171 (l1).toNatClampNeg) ≤ l3 then (vp_in ((635000 : Int32) + l1) 647800 ∧ (vp_in ((635000 : Int32) + (639 : Int32)) 647800 ∧ (vp_in (639 : Int32) 640 ∧ (Zm E YX8_load (d + 1) (si (sl (sl (sl (sl (sl M 165 (((635000 : Int32) + (639 : Int32))).toNatClampNeg (gl M 165 (((635000 : Int32) + l1)).toNatClampNeg)) 166 (((635000 : Int32) + (639 : Int32))).toNatClampNeg (gl M 166 (((635000 : Int32) + l1)).toNatClampNeg)) 167 (((635000 : Int32) + (639 : Int32))).toNatClampNeg (gl M 167 (((635000 : Int32) + l1)).toNatClampNeg)) 173 ((639 : Int32)).toNatClampNeg (gl M 173 (l1).toNatClampNeg)) 174 ((639 : Int32)).toNatClampNeg (gl M 174 (l1).toNatClampNeg)) 175 ((639 : Int32)).toNatClampNeg (gi M 175 (l1).toNatClampNeg)) [(0, vr (some (97, 1, 0))), (1, vi l1), (3, vi (0 : Int32))] 160 [] Q)))) else (vp_in (639 : Int32) 640 ∧ (vp_in ((gi M 172 (l1).toNatClampNeg) + l3) 647800 ∧ (vp_in ((gi M 172 ((639 : Int32)).toNatClampNeg) + l3) 647800 ∧ (Zm E YX8_load (d + 1) (sl (sl (sl M 165 (((gi M 172 ((639 : Int32)).toNatClampNeg) + l3)).toNatClampNeg (gl M 165 (((gi M 172 (l1).toNatClampNeg) + l3)).toNatClampNeg)) 166 (((gi M 172 ((639 : Int32)).toNatClampNeg) + l3)).toNatClampNeg (gl M 166 (((gi M 172 (l1).toNatClampNeg) + l3)).toNatClampNeg)) 167 (((gi M 172 ((639 : Int32)).toNatClampNeg) + l3)).toNatClampNeg (gl M 167 (((gi M 172 (l1).toNatClampNeg) + l3)).toNatClampNeg)) [(0, vr (some (97, 1, 0))), (1, vi l1), (3, vi (l3 + (1 : Int32)))] 62 [] Q)))))) : Zm E YX8_load (d + 1) M [(0, vr (some (97, 1, 0))), (1, vi l1), (3, vi l3)] 62 [] Q := by
  refine sX8_load_62 (d := d) M l1 l3 ?_
  refine zand k (fun h8368 k => ?_)
  refine zite k (fun h8369 k => ?_) (fun h8369 k => ?_)
  · refine sX8_thisAt_0 (d := d) M l1 ?_
    show Zm E YX8_load (d + 1) M [(0, vr (some (97, 1, 0))), (1, vi l1)] 106 [vi ((635000 : Int32) + l1), vr (some (97, 1, 0))] Q
    refine sX8_load_106 (d := d) M l1 ((635000 : Int32) + l1) ?_
    refine sX8_thisAt_0 (d := d) M (639 : Int32) ?_
    show Zm E YX8_load (d + 1) M [(0, vr (some (97, 1, 0))), (1, vi l1)] 113 [vi ((635000 : Int32) + (639 : Int32)), vi ((635000 : Int32) + l1), vr (some (97, 1, 0))] Q
    refine sX8_load_113 (d := d) M l1 ((635000 : Int32) + (639 : Int32)) ((635000 : Int32) + l1) ?_
    refine jX8_copySet (d := d) M ((635000 : Int32) + l1) ((635000 : Int32) + (639 : Int32)) ?_
    refine zand k (fun h8370 k => ?_)
    refine zand k (fun h8371 k => ?_)
    show Zm E YX8_load (d + 1) (sl (sl (sl M 165 (((635000 : Int32) + (639 : Int32))).toNatClampNeg (gl M 165 (((635000 : Int32) + l1)).toNatClampNeg)) 166 (((635000 : Int32) + (639 : Int32))).toNatClampNeg (gl M 166 (((635000 : Int32) + l1)).toNatClampNeg)) 167 (((635000 : Int32) + (639 : Int32))).toNatClampNeg (gl M 167 (((635000 : Int32) + l1)).toNatClampNeg)) [(0, vr (some (97, 1, 0))), (1, vi l1)] 116 [] Q
    refine sX8_load_116 (d := d) (sl (sl (sl M 165 (((635000 : Int32) + (639 : Int32))).toNatClampNeg (gl M 165 (((635000 : Int32) + l1)).toNatClampNeg)) 166 (((635000 : Int32) + (639 : Int32))).toNatClampNeg (gl M 166 (((635000 : Int32) + l1)).toNatClampNeg)) 167 (((635000 : Int32) + (639 : Int32))).toNatClampNeg (gl M 167 (((635000 : Int32) + l1)).toNatClampNeg)) l1 ?_
    refine ⟨h8368, ?_⟩
    refine zand k (fun h8372 k => ?_)
    refine ⟨h8368, ?_⟩
    refine ⟨h8372, ?_⟩
    refine ⟨h8368, ?_⟩
    refine ⟨h8372, ?_⟩
    exact k
  · refine ⟨h8368, ?_⟩
    refine zand k (fun h8373 k => ?_)
    refine jX8_copySet (d := d) M ((gi M 172 (l1).toNatClampNeg) + l3) ((gi M 172 ((639 : Int32)).toNatClampNeg) + l3) ?_
    refine zand k (fun h8374 k => ?_)
    refine zand k (fun h8375 k => ?_)
    show Zm E YX8_load (d + 1) (sl (sl (sl M 165 (((gi M 172 ((639 : Int32)).toNatClampNeg) + l3)).toNatClampNeg (gl M 165 (((gi M 172 (l1).toNatClampNeg) + l3)).toNatClampNeg)) 166 (((gi M 172 ((639 : Int32)).toNatClampNeg) + l3)).toNatClampNeg (gl M 166 (((gi M 172 (l1).toNatClampNeg) + l3)).toNatClampNeg)) 167 (((gi M 172 ((639 : Int32)).toNatClampNeg) + l3)).toNatClampNeg (gl M 167 (((gi M 172 (l1).toNatClampNeg) + l3)).toNatClampNeg)) [(0, vr (some (97, 1, 0))), (1, vi l1), (3, vi l3)] 94 [] Q
    refine sX8_load_94 (d := d) (sl (sl (sl M 165 (((gi M 172 ((639 : Int32)).toNatClampNeg) + l3)).toNatClampNeg (gl M 165 (((gi M 172 (l1).toNatClampNeg) + l3)).toNatClampNeg)) 166 (((gi M 172 ((639 : Int32)).toNatClampNeg) + l3)).toNatClampNeg (gl M 166 (((gi M 172 (l1).toNatClampNeg) + l3)).toNatClampNeg)) 167 (((gi M 172 ((639 : Int32)).toNatClampNeg) + l3)).toNatClampNeg (gl M 167 (((gi M 172 (l1).toNatClampNeg) + l3)).toNatClampNeg)) l1 l3 ?_
    exact k
theorem iX8_load_160 {E : zE} {d : Nat} {Q : zO → zM → Prop} (M : zM) (l1 : Int32) (l3 : Int32) (k : vp_in l1 640 ∧ (if (gi M 175 (l1).toNatClampNeg) ≤ l3 then (Q (.inl none) M) else (vp_in (((40 : Int32) * l1) + l3) 25600 ∧ (vp_in ((25560 : Int32) + l3) 25600 ∧ (Zm E YX8_load (d + 1) (si (si M 176 (((25560 : Int32) + l3)).toNatClampNeg (gi M 176 ((((40 : Int32) * l1) + l3)).toNatClampNeg)) 177 (((25560 : Int32) + l3)).toNatClampNeg (gi M 177 ((((40 : Int32) * l1) + l3)).toNatClampNeg)) [(0, vr (some (97, 1, 0))), (1, vi l1), (3, vi (l3 + (1 : Int32)))] 160 [] Q))))) : Zm E YX8_load (d + 1) M [(0, vr (some (97, 1, 0))), (1, vi l1), (3, vi l3)] 160 [] Q := by
  refine sX8_load_160 (d := d) M l1 l3 ?_
  refine zand k (fun h8376 k => ?_)
  refine zite k (fun h8377 k => ?_) (fun h8377 k => ?_)
  · exact k
  · refine zand k (fun h8378 k => ?_)
    refine zand k (fun h8379 k => ?_)
    refine ⟨h8378, ?_⟩
    refine ⟨h8379, ?_⟩
    exact k
theorem iX8_loadRest_2 {E : zE} {d : Nat} {Q : zO → zM → Prop} (M : zM) (l1 : Int32) (l2 : Int32) (k : if (gi M 97 71) ≤ l2 then (Q (.inl none) M) else (if l1 = (639 : Int32) then (vp_in ((15000 : Int32) + l2) 15128 ∧ (Zm E YX8_loadRest ((d + 1) + 1) (sl (sl (sl (sl (si (si M 178 (((15000 : Int32) + l2)).toNatClampNeg (vp_nar .boolean (gi M 178 (((15000 : Int32) + l2)).toNatClampNeg))) 179 (((15000 : Int32) + l2)).toNatClampNeg (vp_nar .boolean (gi M 179 (((15000 : Int32) + l2)).toNatClampNeg))) 180 (((15000 : Int32) + l2)).toNatClampNeg (gl M 180 (((15000 : Int32) + l2)).toNatClampNeg)) 181 (((15000 : Int32) + l2)).toNatClampNeg (gl M 181 (((15000 : Int32) + l2)).toNatClampNeg)) 182 (((15000 : Int32) + l2)).toNatClampNeg (gl M 182 (((15000 : Int32) + l2)).toNatClampNeg)) 183 (((15000 : Int32) + l2)).toNatClampNeg (gl M 183 (((15000 : Int32) + l2)).toNatClampNeg)) [(0, vr (some (97, 1, 0))), (1, vi l1), (2, vi (l2 + (1 : Int32)))] 2 [] Q)) else (vp_in ((l1 * (gi M 97 71)) + l2) 15128 ∧ (vp_in ((15000 : Int32) + l2) 15128 ∧ (Zm E YX8_loadRest ((d + 1) + 1) (sl (sl (sl (sl (si (si M 178 (((15000 : Int32) + l2)).toNatClampNeg (vp_nar .boolean (gi M 178 (((l1 * (gi M 97 71)) + l2)).toNatClampNeg))) 179 (((15000 : Int32) + l2)).toNatClampNeg (vp_nar .boolean (gi M 179 (((l1 * (gi M 97 71)) + l2)).toNatClampNeg))) 180 (((15000 : Int32) + l2)).toNatClampNeg (gl M 180 (((l1 * (gi M 97 71)) + l2)).toNatClampNeg)) 181 (((15000 : Int32) + l2)).toNatClampNeg (gl M 181 (((l1 * (gi M 97 71)) + l2)).toNatClampNeg)) 182 (((15000 : Int32) + l2)).toNatClampNeg (gl M 182 (((l1 * (gi M 97 71)) + l2)).toNatClampNeg)) 183 (((15000 : Int32) + l2)).toNatClampNeg (gl M 183 (((l1 * (gi M 97 71)) + l2)).toNatClampNeg)) [(0, vr (some (97, 1, 0))), (1, vi l1), (2, vi (l2 + (1 : Int32)))] 2 [] Q))))) : Zm E YX8_loadRest (d + 2) M [(0, vr (some (97, 1, 0))), (1, vi l1), (2, vi l2)] 2 [] Q := by
  refine sX8_loadRest_2 (d := (d + 1)) M l1 l2 ?_
  refine zite k (fun h8381 k => ?_) (fun h8381 k => ?_)
  · exact k
  · refine jX8_of (d := d) M l1 l2 ?_
    refine zite k (fun h8382 k => ?_) (fun h8382 k => ?_)
    · show Zm E YX8_loadRest ((d + 1) + 1) M [(0, vr (some (97, 1, 0))), (1, vi l1), (2, vi l2)] 16 [vi ((15000 : Int32) + l2)] Q
      refine sX8_loadRest_16 (d := (d + 1)) M l1 l2 ((15000 : Int32) + l2) ?_
      refine jX8_of (d := d) M (639 : Int32) l2 ?_
      refine zpos (show (639 : Int32) = (639 : Int32) from by decide) ?_
      show Zm E YX8_loadRest ((d + 1) + 1) M [(0, vr (some (97, 1, 0))), (1, vi l1), (2, vi l2), (3, vi ((15000 : Int32) + l2))] 25 [vi ((15000 : Int32) + l2)] Q
      refine sX8_loadRest_25 (d := (d + 1)) M l1 l2 ((15000 : Int32) + l2) ((15000 : Int32) + l2) ?_
      refine zand k (fun h8383 k => ?_)
      refine ⟨h8383, ?_⟩
      refine ⟨h8383, ?_⟩
      refine ⟨h8383, ?_⟩
      refine ⟨h8383, ?_⟩
      refine ⟨h8383, ?_⟩
      refine ⟨h8383, ?_⟩
      refine ⟨h8383, ?_⟩
      refine ⟨h8383, ?_⟩
      refine ⟨h8383, ?_⟩
      refine ⟨h8383, ?_⟩
      refine ⟨h8383, ?_⟩
      exact k
    · show Zm E YX8_loadRest ((d + 1) + 1) M [(0, vr (some (97, 1, 0))), (1, vi l1), (2, vi l2)] 16 [vi ((l1 * (gi M 97 71)) + l2)] Q
      refine sX8_loadRest_16 (d := (d + 1)) M l1 l2 ((l1 * (gi M 97 71)) + l2) ?_
      refine jX8_of (d := d) M (639 : Int32) l2 ?_
      refine zpos (show (639 : Int32) = (639 : Int32) from by decide) ?_
      show Zm E YX8_loadRest ((d + 1) + 1) M [(0, vr (some (97, 1, 0))), (1, vi l1), (2, vi l2), (3, vi ((l1 * (gi M 97 71)) + l2))] 25 [vi ((15000 : Int32) + l2)] Q
      refine sX8_loadRest_25 (d := (d + 1)) M l1 l2 ((l1 * (gi M 97 71)) + l2) ((15000 : Int32) + l2) ?_
      refine zand k (fun h8384 k => ?_)
      refine zand k (fun h8385 k => ?_)
      refine ⟨h8384, ?_⟩
      refine ⟨h8385, ?_⟩
      refine ⟨h8384, ?_⟩
      refine ⟨h8385, ?_⟩
      refine ⟨h8384, ?_⟩
      refine ⟨h8385, ?_⟩
      refine ⟨h8384, ?_⟩
      refine ⟨h8385, ?_⟩
      refine ⟨h8384, ?_⟩
      refine ⟨h8385, ?_⟩
      exact k
theorem iX8_make_35 {E : zE} {d : Nat} {Q : zO → zM → Prop} (M : zM) (l1 : Int32) (l2 : Int32) (l3 : Int32) (k : vp_in (639 : Int32) 640 ∧ (if (gi M 171 ((639 : Int32)).toNatClampNeg) ≤ l3 then (Zm E YX8_renameIn d M (zargs 0 [vr (some (97, 1, 0)), vi ((635000 : Int32) + (639 : Int32)), vi l1]) 0 [] (zma E YX8_make (d + 1) [(0, vr (some (97, 1, 0))), (1, vi l1), (2, vi l2)] 77 3 [] Q)) else (Zm E YX8_renameIn d M (zargs 0 [vr (some (97, 1, 0)), vi ((gi M 172 ((639 : Int32)).toNatClampNeg) + l3), vi l1]) 0 [] (zma E YX8_make (d + 1) [(0, vr (some (97, 1, 0))), (1, vi l1), (2, vi l2), (3, vi l3)] 59 3 [] Q)))) : Zm E YX8_make (d + 1) M [(0, vr (some (97, 1, 0))), (1, vi l1), (2, vi l2), (3, vi l3)] 35 [] Q := by
  refine sX8_make_35 (d := d) M l1 l2 l3 ?_
  refine zand k (fun h8393 k => ?_)
  refine zite k (fun h8394 k => ?_) (fun h8394 k => ?_)
  · refine sX8_thisAt_0 (d := d) M (639 : Int32) ?_
    show Zm E YX8_make (d + 1) M [(0, vr (some (97, 1, 0))), (1, vi l1), (2, vi l2)] 76 [vi ((635000 : Int32) + (639 : Int32)), vr (some (97, 1, 0))] Q
    refine sX8_make_76 (d := d) M l1 l2 ((635000 : Int32) + (639 : Int32)) ?_
    exact k
  · refine ⟨h8393, ?_⟩
    exact k
theorem iX8_make_82 {E : zE} {d : Nat} {Q : zO → zM → Prop} (M : zM) (l1 : Int32) (l2 : Int32) (l3 : Int32) (k : if (gi M 97 147) ≤ l3 then (vp_in (639 : Int32) 640 ∧ (vp_in (647791 : Int32) 647800 ∧ (Zm E YX8_renameIn d (sl (sl M 166 ((647791 : Int32)).toNatClampNeg (gl M 173 ((639 : Int32)).toNatClampNeg)) 167 ((647791 : Int32)).toNatClampNeg (gl M 174 ((639 : Int32)).toNatClampNeg)) (zargs 0 [vr (some (97, 1, 0)), vi (647791 : Int32), vi l1]) 0 [] (zma E YX8_make (d + 1) [(0, vr (some (97, 1, 0))), (1, vi l1), (2, vi l2), (3, vi (647791 : Int32))] 142 3 [] Q)))) else (vp_in l3 12 ∧ (Zm E YX8_renameIn d M (zargs 0 [vr (some (97, 1, 0)), vi (gi M 188 (l3).toNatClampNeg), vi l1]) 0 [] (zma E YX8_make (d + 1) [(0, vr (some (97, 1, 0))), (1, vi l1), (2, vi l2), (3, vi l3)] 98 3 [] Q)))) : Zm E YX8_make (d + 1) M [(0, vr (some (97, 1, 0))), (1, vi l1), (2, vi l2), (3, vi l3)] 82 [] Q := by
  refine sX8_make_82 (d := d) M l1 l2 l3 ?_
  refine zite k (fun h8395 k => ?_) (fun h8395 k => ?_)
  · refine zand k (fun h8396 k => ?_)
    refine zand k (fun h8397 k => ?_)
    refine ⟨h8396, ?_⟩
    refine ⟨h8397, ?_⟩
    exact k
  · exact k
theorem iX8_make_145 {E : zE} {d : Nat} {Q : zO → zM → Prop} (M : zM) (l1 : Int32) (l2 : Int32) (l3 : Int32) (k : vp_in l3 647800 ∧ (vp_in (639 : Int32) 640 ∧ (Zm E YX8_make (d + 1) (sl (sl M 173 ((639 : Int32)).toNatClampNeg (gl M 166 (l3).toNatClampNeg)) 174 ((639 : Int32)).toNatClampNeg (gl M 167 (l3).toNatClampNeg)) [(0, vr (some (97, 1, 0))), (1, vi l1), (2, vi l2), (3, vi l3), (4, vi (0 : Int32))] 176 [] Q))) : Zm E YX8_make (d + 1) M [(0, vr (some (97, 1, 0))), (1, vi l1), (2, vi l2), (3, vi l3)] 145 [] Q := by
  refine sX8_make_145 (d := d) M l1 l2 l3 ?_
  refine zand k (fun h8399 k => ?_)
  refine zand k (fun h8400 k => ?_)
  refine ⟨h8399, ?_⟩
  refine ⟨h8400, ?_⟩
  exact k
theorem iX8_make_176 {E : zE} {d : Nat} {Q : zO → zM → Prop} (M : zM) (l1 : Int32) (l2 : Int32) (l3 : Int32) (l4 : Int32) (k : if (gi M 97 71) ≤ l4 then (Zm E YX8_joinLabel (d + 1) M (zargs 0 [vr (some (97, 1, 0)), vi ((15000 : Int32) + l1), vi ((15000 : Int32) + (l1 + (1 : Int32)))]) 0 [] (zma E YX8_make ((d + 1) + 1) [(0, vr (some (97, 1, 0))), (1, vi l1), (2, vi l2)] 337 3 [] Q)) else (vp_in ((15000 : Int32) + l4) 15128 ∧ (vp_in l3 647800 ∧ (Zm E YX8_renameIn (d + 1) (sl (sl M 166 (l3).toNatClampNeg (gl M 180 (((15000 : Int32) + l4)).toNatClampNeg)) 167 (l3).toNatClampNeg (gl M 181 (((15000 : Int32) + l4)).toNatClampNeg)) (zargs 0 [vr (some (97, 1, 0)), vi l3, vi l1]) 0 [] (zma E YX8_make ((d + 1) + 1) [(0, vr (some (97, 1, 0))), (1, vi l1), (2, vi l2), (3, vi l3), (4, vi l4), (5, vi ((15000 : Int32) + l4))] 225 3 [] Q))))) : Zm E YX8_make (d + 2) M [(0, vr (some (97, 1, 0))), (1, vi l1), (2, vi l2), (3, vi l3), (4, vi l4)] 176 [] Q := by
  refine sX8_make_176 (d := (d + 1)) M l1 l2 l3 l4 ?_
  refine zite k (fun h8402 k => ?_) (fun h8402 k => ?_)
  · refine jX8_of (d := d) M (639 : Int32) l1 ?_
    refine zpos (show (639 : Int32) = (639 : Int32) from by decide) ?_
    show Zm E YX8_make ((d + 1) + 1) M [(0, vr (some (97, 1, 0))), (1, vi l1), (2, vi l2)] 327 [vi ((15000 : Int32) + l1), vr (some (97, 1, 0))] Q
    refine sX8_make_327 (d := (d + 1)) M l1 l2 ((15000 : Int32) + l1) ?_
    refine jX8_of (d := d) M (639 : Int32) (l1 + (1 : Int32)) ?_
    refine zpos (show (639 : Int32) = (639 : Int32) from by decide) ?_
    show Zm E YX8_make ((d + 1) + 1) M [(0, vr (some (97, 1, 0))), (1, vi l1), (2, vi l2)] 337 [vi ((15000 : Int32) + (l1 + (1 : Int32))), vi ((15000 : Int32) + l1), vr (some (97, 1, 0))] Q
    refine sX8_make_337 (d := (d + 1)) M l1 l2 ((15000 : Int32) + (l1 + (1 : Int32))) ((15000 : Int32) + l1) ?_
    exact k
  · refine jX8_of (d := d) M (639 : Int32) l4 ?_
    refine zpos (show (639 : Int32) = (639 : Int32) from by decide) ?_
    show Zm E YX8_make ((d + 1) + 1) M [(0, vr (some (97, 1, 0))), (1, vi l1), (2, vi l2), (3, vi l3), (4, vi l4)] 194 [vi ((15000 : Int32) + l4)] Q
    refine sX8_make_194 (d := (d + 1)) M l1 l2 l3 l4 ((15000 : Int32) + l4) ?_
    refine zand k (fun h8403 k => ?_)
    refine zand k (fun h8404 k => ?_)
    refine ⟨h8403, ?_⟩
    refine ⟨h8404, ?_⟩
    exact k
theorem iX8_make_228 {E : zE} {d : Nat} {Q : zO → zM → Prop} (M : zM) (l1 : Int32) (l2 : Int32) (l3 : Int32) (l4 : Int32) (l5 : Int32) (k : vp_in l3 647800 ∧ (vp_in l5 15128 ∧ (Zm E YX8_renameIn d (sl (sl (sl (sl M 180 (l5).toNatClampNeg (gl M 166 (l3).toNatClampNeg)) 181 (l5).toNatClampNeg (gl M 167 (l3).toNatClampNeg)) 166 (l3).toNatClampNeg (gl M 182 (l5).toNatClampNeg)) 167 (l3).toNatClampNeg (gl M 183 (l5).toNatClampNeg)) (zargs 0 [vr (some (97, 1, 0)), vi l3, vi l1]) 0 [] (zma E YX8_make (d + 1) [(0, vr (some (97, 1, 0))), (1, vi l1), (2, vi l2), (3, vi l3), (4, vi l4), (5, vi l5)] 283 3 [] Q)))) : Zm E YX8_make (d + 1) M [(0, vr (some (97, 1, 0))), (1, vi l1), (2, vi l2), (3, vi l3), (4, vi l4), (5, vi l5)] 228 [] Q := by
  refine sX8_make_228 (d := d) M l1 l2 l3 l4 l5 ?_
  refine zand k (fun h8405 k => ?_)
  refine zand k (fun h8406 k => ?_)
  refine ⟨h8405, ?_⟩
  refine ⟨h8406, ?_⟩
  refine ⟨h8406, ?_⟩
  refine ⟨h8405, ?_⟩
  refine ⟨h8406, ?_⟩
  refine ⟨h8405, ?_⟩
  exact k
theorem iX8_make_345 {E : zE} {d : Nat} {Q : zO → zM → Prop} (M : zM) (l1 : Int32) (l2 : Int32) (l5 : Int32) (k : if (gi M 97 8) < l5 then (Zm E YX8_newLabel (d + 1) M (zargs 0 [vr (some (97, 1, 0)), vi l1, vi l2]) 0 [] (zma E YX8_make ((d + 1) + 1) [] 391 3 [] Q)) else (Zm E YX8_join (d + 1) M (zargs 0 [vr (some (97, 1, 0)), vi (((635640 : Int32) + (l1 * ((gi M 97 8) + (1 : Int32)))) + l5), vi (((635640 : Int32) + ((l1 + (1 : Int32)) * ((gi M 97 8) + (1 : Int32)))) + l5)]) 0 [] (zma E YX8_make ((d + 1) + 1) [(0, vr (some (97, 1, 0))), (1, vi l1), (2, vi l2), (5, vi l5)] 377 3 [] Q))) : Zm E YX8_make (d + 2) M [(0, vr (some (97, 1, 0))), (1, vi l1), (2, vi l2), (5, vi l5)] 345 [] Q := by
  refine sX8_make_345 (d := (d + 1)) M l1 l2 l5 ?_
  refine zite k (fun h8408 k => ?_) (fun h8408 k => ?_)
  · exact k
  · refine jX8_field (d := d) M (639 : Int32) l1 l5 ?_
    refine zpos (show (639 : Int32) = (639 : Int32) from by decide) ?_
    show Zm E YX8_make ((d + 1) + 1) M [(0, vr (some (97, 1, 0))), (1, vi l1), (2, vi l2), (5, vi l5)] 365 [vi (((635640 : Int32) + (l1 * ((gi M 97 8) + (1 : Int32)))) + l5), vr (some (97, 1, 0))] Q
    refine sX8_make_365 (d := (d + 1)) M l1 l2 l5 (((635640 : Int32) + (l1 * ((gi M 97 8) + (1 : Int32)))) + l5) ?_
    refine jX8_field (d := d) M (639 : Int32) (l1 + (1 : Int32)) l5 ?_
    refine zpos (show (639 : Int32) = (639 : Int32) from by decide) ?_
    show Zm E YX8_make ((d + 1) + 1) M [(0, vr (some (97, 1, 0))), (1, vi l1), (2, vi l2), (5, vi l5)] 377 [vi (((635640 : Int32) + ((l1 + (1 : Int32)) * ((gi M 97 8) + (1 : Int32)))) + l5), vi (((635640 : Int32) + (l1 * ((gi M 97 8) + (1 : Int32)))) + l5), vr (some (97, 1, 0))] Q
    refine sX8_make_377 (d := (d + 1)) M l1 l2 l5 (((635640 : Int32) + ((l1 + (1 : Int32)) * ((gi M 97 8) + (1 : Int32)))) + l5) (((635640 : Int32) + (l1 * ((gi M 97 8) + (1 : Int32)))) + l5) ?_
    exact k
theorem iX8_make_286 {E : zE} {d : Nat} {Q : zO → zM → Prop} (M : zM) (l1 : Int32) (l2 : Int32) (l3 : Int32) (l4 : Int32) (l5 : Int32) (k : vp_in l3 647800 ∧ (vp_in l5 15128 ∧ (Zm E YX8_make (d + 1) (sl (sl M 182 (l5).toNatClampNeg (gl M 166 (l3).toNatClampNeg)) 183 (l5).toNatClampNeg (gl M 167 (l3).toNatClampNeg)) [(0, vr (some (97, 1, 0))), (1, vi l1), (2, vi l2), (3, vi l3), (4, vi (l4 + (1 : Int32)))] 176 [] Q))) : Zm E YX8_make (d + 1) M [(0, vr (some (97, 1, 0))), (1, vi l1), (2, vi l2), (3, vi l3), (4, vi l4), (5, vi l5)] 286 [] Q := by
  refine sX8_make_286 (d := d) M l1 l2 l3 l4 l5 ?_
  refine zand k (fun h8409 k => ?_)
  refine zand k (fun h8410 k => ?_)
  refine ⟨h8409, ?_⟩
  refine ⟨h8410, ?_⟩
  exact k
theorem iX8_plainly_0 {E : zE} {d : Nat} {Q : zO → zM → Prop} (M : zM) (l1 : Int32) (k : vp_in l1 647800 ∧ (Q (.inl (some (vi ((((gl M 165 (l1).toNatClampNeg) &&& (1023 : Int64))).toInt32 &&& (-513 : Int32))))) M)) : Zm E YX8_plainly (d + 1) M [(0, vr (some (97, 1, 0))), (1, vi l1)] 0 [] Q := by
  refine sX8_plainly_0 (d := d) M l1 ?_
  refine sX8_has_0 (d := d) M l1 ?_
  refine zand k (fun h8411 k => ?_)
  show Zm E YX8_plainly (d + 1) M [] 5 [vi (((gl M 165 (l1).toNatClampNeg) &&& (1023 : Int64))).toInt32] Q
  refine sX8_plainly_5 (d := d) M ((((gl M 165 (l1).toNatClampNeg) &&& (1023 : Int64))).toInt32) ?_
  exact k
theorem iX8_pushSet_0 {E : zE} {d : Nat} {Q : zO → zM → Prop} (M : zM)  (k : vp_in (639 : Int32) 640 ∧ (vp_in ((gi M 172 ((639 : Int32)).toNatClampNeg) + (gi M 171 ((639 : Int32)).toNatClampNeg)) 647800 ∧ (Q (.inl (some (vi ((gi M 172 ((639 : Int32)).toNatClampNeg) + (gi M 171 ((639 : Int32)).toNatClampNeg))))) (si (sl (sl (sl M 165 (((gi M 172 ((639 : Int32)).toNatClampNeg) + (gi M 171 ((639 : Int32)).toNatClampNeg))).toNatClampNeg (0 : Int64)) 166 (((gi M 172 ((639 : Int32)).toNatClampNeg) + (gi M 171 ((639 : Int32)).toNatClampNeg))).toNatClampNeg (0 : Int64)) 167 (((gi M 172 ((639 : Int32)).toNatClampNeg) + (gi M 171 ((639 : Int32)).toNatClampNeg))).toNatClampNeg (0 : Int64)) 171 ((639 : Int32)).toNatClampNeg ((gi M 171 ((639 : Int32)).toNatClampNeg) + (1 : Int32)))))) : Zm E YX8_pushSet (d + 1) M [(0, vr (some (97, 1, 0)))] 0 [] Q := by
  refine sX8_pushSet_0 (d := d) M  ?_
  refine zand k (fun h8412 k => ?_)
  refine ⟨h8412, ?_⟩
  refine jX8_empty (d := d) M ((gi M 172 ((639 : Int32)).toNatClampNeg) + (gi M 171 ((639 : Int32)).toNatClampNeg)) ?_
  refine zand k (fun h8413 k => ?_)
  show Zm E YX8_pushSet (d + 1) (sl (sl (sl M 165 (((gi M 172 ((639 : Int32)).toNatClampNeg) + (gi M 171 ((639 : Int32)).toNatClampNeg))).toNatClampNeg (0 : Int64)) 166 (((gi M 172 ((639 : Int32)).toNatClampNeg) + (gi M 171 ((639 : Int32)).toNatClampNeg))).toNatClampNeg (0 : Int64)) 167 (((gi M 172 ((639 : Int32)).toNatClampNeg) + (gi M 171 ((639 : Int32)).toNatClampNeg))).toNatClampNeg (0 : Int64)) [(0, vr (some (97, 1, 0))), (1, vi ((gi M 172 ((639 : Int32)).toNatClampNeg) + (gi M 171 ((639 : Int32)).toNatClampNeg)))] 23 [] Q
  refine sX8_pushSet_23 (d := d) (sl (sl (sl M 165 (((gi M 172 ((639 : Int32)).toNatClampNeg) + (gi M 171 ((639 : Int32)).toNatClampNeg))).toNatClampNeg (0 : Int64)) 166 (((gi M 172 ((639 : Int32)).toNatClampNeg) + (gi M 171 ((639 : Int32)).toNatClampNeg))).toNatClampNeg (0 : Int64)) 167 (((gi M 172 ((639 : Int32)).toNatClampNeg) + (gi M 171 ((639 : Int32)).toNatClampNeg))).toNatClampNeg (0 : Int64)) ((gi M 172 ((639 : Int32)).toNatClampNeg) + (gi M 171 ((639 : Int32)).toNatClampNeg)) ?_
  refine ⟨h8412, ?_⟩
  refine ⟨h8412, ?_⟩
  exact k
theorem jX8_isEmpty {E : zE} {d : Nat} {Q : zO → zM → Prop} (M : zM) (l1 : Int32) (k : vp_in l1 647800 ∧ (if ((((gl M 165 (l1).toNatClampNeg) &&& (1023 : Int64))).toInt32 &&& (-513 : Int32)) = 0 then (if (lg_cmp ((gl M 166 (l1).toNatClampNeg) ||| (gl M 167 (l1).toNatClampNeg)) (0 : Int64)) = 0 then (Q (.inl (some (vi (1 : Int32)))) M) else (Q (.inl (some (vi (0 : Int32)))) M)) else (Q (.inl (some (vi (0 : Int32)))) M))) : Zm E YX8_isEmpty (d + 2) M [(0, vr (some (97, 1, 0))), (1, vi l1)] 0 [] Q := by
  refine sX8_isEmpty_0 (d := (d + 1)) M l1 ?_
  refine jX8_plainly (d := d) M l1 ?_
  refine zand k (fun h8417 k => ?_)
  show Zm E YX8_isEmpty ((d + 1) + 1) M [(0, vr (some (97, 1, 0))), (1, vi l1)] 5 [vi ((((gl M 165 (l1).toNatClampNeg) &&& (1023 : Int64))).toInt32 &&& (-513 : Int32))] Q
  refine sX8_isEmpty_5 (d := (d + 1)) M l1 ((((gl M 165 (l1).toNatClampNeg) &&& (1023 : Int64))).toInt32 &&& (-513 : Int32)) ?_
  refine zite k (fun h8418 k => ?_) (fun h8418 k => ?_)
  · refine jX8_hasLabels (d := (d + 1)) M l1 ?_
    refine ⟨h8417, ?_⟩
    refine zite k (fun h8419 k => ?_) (fun h8419 k => ?_)
    · show Zm E YX8_isEmpty ((d + 1) + 1) M [] 13 [vi (0 : Int32)] Q
      refine sX8_isEmpty_13 (d := (d + 1)) M (0 : Int32) ?_
      refine zpos (show (0 : Int32) = 0 from by decide) ?_
      exact k
    · show Zm E YX8_isEmpty ((d + 1) + 1) M [] 13 [vi (1 : Int32)] Q
      refine sX8_isEmpty_13 (d := (d + 1)) M (1 : Int32) ?_
      refine zneg (show ¬ ((1 : Int32) = 0) from by decide) ?_
      exact k
  · exact k
theorem iX8_replace_0 {E : zE} {d : Nat} {Q : zO → zM → Prop} (M : zM) (l1 : Int32) (l2 : Int32) (k : vp_in (639 : Int32) 640 ∧ (Zm E YX8_pushSet d (si M 171 ((639 : Int32)).toNatClampNeg ((gi M 171 ((639 : Int32)).toNatClampNeg) - l1)) (zargs 0 [vr (some (97, 1, 0))]) 0 [] (zma E YX8_replace (d + 1) [(0, vr (some (97, 1, 0))), (2, vi l2)] 15 3 [vi l2, vr (some (97, 1, 0))] Q))) : Zm E YX8_replace (d + 1) M [(0, vr (some (97, 1, 0))), (1, vi l1), (2, vi l2)] 0 [] Q := by
  refine sX8_replace_0 (d := d) M l1 l2 ?_
  refine zand k (fun h8414 k => ?_)
  refine ⟨h8414, ?_⟩
  exact k
theorem iX8_replace_18 {E : zE} {d : Nat} {Q : zO → zM → Prop} (M : zM) (l2 : Int32) (s0 : Int32) (s1 : Int32) (k : vp_in s1 647800 ∧ (vp_in s0 647800 ∧ (vp_in l2 647800 ∧ (if ((((gl (sl M 165 (s0).toNatClampNeg (gl M 165 (s1).toNatClampNeg)) 165 (l2).toNatClampNeg) &&& (1023 : Int64))).toInt32 &&& (-513 : Int32)) = 0 then (if (lg_cmp ((gl (sl (sl M 165 (s0).toNatClampNeg (gl M 165 (s1).toNatClampNeg)) 166 (s0).toNatClampNeg (gl M 166 (s1).toNatClampNeg)) 166 (l2).toNatClampNeg) ||| (gl (sl (sl (sl M 165 (s0).toNatClampNeg (gl M 165 (s1).toNatClampNeg)) 166 (s0).toNatClampNeg (gl M 166 (s1).toNatClampNeg)) 167 (s0).toNatClampNeg (gl M 167 (s1).toNatClampNeg)) 167 (l2).toNatClampNeg)) (0 : Int64)) = 0 then (Q (.inl none) (sl (sl (sl M 165 (s0).toNatClampNeg (gl M 165 (s1).toNatClampNeg)) 166 (s0).toNatClampNeg (gl M 166 (s1).toNatClampNeg)) 167 (s0).toNatClampNeg (gl M 167 (s1).toNatClampNeg))) else (Zm E YX8_on (d + 2) (sl (sl (sl M 165 (s0).toNatClampNeg (gl M 165 (s1).toNatClampNeg)) 166 (s0).toNatClampNeg (gl M 166 (s1).toNatClampNeg)) 167 (s0).toNatClampNeg (gl M 167 (s1).toNatClampNeg)) (zargs 0 [vr (some (97, 1, 0))]) 0 [] (zma E YX8_replace ((d + 2) + 1) [] 30 3 [] Q))) else (Zm E YX8_on (d + 2) (sl (sl (sl M 165 (s0).toNatClampNeg (gl M 165 (s1).toNatClampNeg)) 166 (s0).toNatClampNeg (gl M 166 (s1).toNatClampNeg)) 167 (s0).toNatClampNeg (gl M 167 (s1).toNatClampNeg)) (zargs 0 [vr (some (97, 1, 0))]) 0 [] (zma E YX8_replace ((d + 2) + 1) [] 30 3 [] Q)))))) : Zm E YX8_replace (d + 3) M [(0, vr (some (97, 1, 0))), (2, vi l2)] 18 [vi s0, vi s1, vr (some (97, 1, 0))] Q := by
  refine sX8_replace_18 (d := (d + 2)) M l2 s0 s1 ?_
  refine jX8_copySet (d := (d + 2)) M s1 s0 ?_
  refine zand k (fun h8420 k => ?_)
  refine zand k (fun h8421 k => ?_)
  show Zm E YX8_replace ((d + 2) + 1) (sl (sl (sl M 165 (s0).toNatClampNeg (gl M 165 (s1).toNatClampNeg)) 166 (s0).toNatClampNeg (gl M 166 (s1).toNatClampNeg)) 167 (s0).toNatClampNeg (gl M 167 (s1).toNatClampNeg)) [(0, vr (some (97, 1, 0))), (2, vi l2)] 21 [] Q
  refine sX8_replace_21 (d := (d + 2)) (sl (sl (sl M 165 (s0).toNatClampNeg (gl M 165 (s1).toNatClampNeg)) 166 (s0).toNatClampNeg (gl M 166 (s1).toNatClampNeg)) 167 (s0).toNatClampNeg (gl M 167 (s1).toNatClampNeg)) l2 ?_
  refine jX8_isEmpty (d := d) (sl (sl (sl M 165 (s0).toNatClampNeg (gl M 165 (s1).toNatClampNeg)) 166 (s0).toNatClampNeg (gl M 166 (s1).toNatClampNeg)) 167 (s0).toNatClampNeg (gl M 167 (s1).toNatClampNeg)) l2 ?_
  refine zand k (fun h8422 k => ?_)
  refine zite k (fun h8423 k => ?_) (fun h8423 k => ?_)
  · refine zite k (fun h8424 k => ?_) (fun h8424 k => ?_)
    · show Zm E YX8_replace ((d + 2) + 1) (sl (sl (sl M 165 (s0).toNatClampNeg (gl M 165 (s1).toNatClampNeg)) 166 (s0).toNatClampNeg (gl M 166 (s1).toNatClampNeg)) 167 (s0).toNatClampNeg (gl M 167 (s1).toNatClampNeg)) [(0, vr (some (97, 1, 0)))] 26 [vi (1 : Int32)] Q
      refine sX8_replace_26 (d := (d + 2)) (sl (sl (sl M 165 (s0).toNatClampNeg (gl M 165 (s1).toNatClampNeg)) 166 (s0).toNatClampNeg (gl M 166 (s1).toNatClampNeg)) 167 (s0).toNatClampNeg (gl M 167 (s1).toNatClampNeg)) (1 : Int32) ?_
      refine zneg (show ¬ ((1 : Int32) = 0) from by decide) ?_
      refine sX8_replace_33 (d := (d + 2)) (sl (sl (sl M 165 (s0).toNatClampNeg (gl M 165 (s1).toNatClampNeg)) 166 (s0).toNatClampNeg (gl M 166 (s1).toNatClampNeg)) 167 (s0).toNatClampNeg (gl M 167 (s1).toNatClampNeg))  ?_
      exact k
    · show Zm E YX8_replace ((d + 2) + 1) (sl (sl (sl M 165 (s0).toNatClampNeg (gl M 165 (s1).toNatClampNeg)) 166 (s0).toNatClampNeg (gl M 166 (s1).toNatClampNeg)) 167 (s0).toNatClampNeg (gl M 167 (s1).toNatClampNeg)) [(0, vr (some (97, 1, 0)))] 26 [vi (0 : Int32)] Q
      refine sX8_replace_26 (d := (d + 2)) (sl (sl (sl M 165 (s0).toNatClampNeg (gl M 165 (s1).toNatClampNeg)) 166 (s0).toNatClampNeg (gl M 166 (s1).toNatClampNeg)) 167 (s0).toNatClampNeg (gl M 167 (s1).toNatClampNeg)) (0 : Int32) ?_
      refine zpos (show (0 : Int32) = 0 from by decide) ?_
      exact k
  · show Zm E YX8_replace ((d + 2) + 1) (sl (sl (sl M 165 (s0).toNatClampNeg (gl M 165 (s1).toNatClampNeg)) 166 (s0).toNatClampNeg (gl M 166 (s1).toNatClampNeg)) 167 (s0).toNatClampNeg (gl M 167 (s1).toNatClampNeg)) [(0, vr (some (97, 1, 0)))] 26 [vi (0 : Int32)] Q
    refine sX8_replace_26 (d := (d + 2)) (sl (sl (sl M 165 (s0).toNatClampNeg (gl M 165 (s1).toNatClampNeg)) 166 (s0).toNatClampNeg (gl M 166 (s1).toNatClampNeg)) 167 (s0).toNatClampNeg (gl M 167 (s1).toNatClampNeg)) (0 : Int32) ?_
    refine zpos (show (0 : Int32) = 0 from by decide) ?_
    exact k
theorem iX8_scopesAt_0 {E : zE} {d : Nat} {Q : zO → zM → Prop} (M : zM) (l1 : Int32) (l2 : Int32) (k : vp_in l2 647800 ∧ (vp_in (639 : Int32) 640 ∧ (Zm E YX8_scopesAt (d + 1) (sl (sl (sl (sl (sl M 165 (l2).toNatClampNeg (0 : Int64)) 166 (l2).toNatClampNeg (0 : Int64)) 167 (l2).toNatClampNeg (0 : Int64)) 166 (l2).toNatClampNeg (gl M 173 ((639 : Int32)).toNatClampNeg)) 167 (l2).toNatClampNeg (gl M 174 ((639 : Int32)).toNatClampNeg)) [(0, vr (some (97, 1, 0))), (1, vi l1), (2, vi l2), (3, vi (647793 : Int32)), (4, vi (0 : Int32))] 40 [] Q))) : Zm E YX8_scopesAt (d + 1) M [(0, vr (some (97, 1, 0))), (1, vi l1), (2, vi l2)] 0 [] Q := by
  refine sX8_scopesAt_0 (d := d) M l1 l2 ?_
  refine jX8_empty (d := d) M l2 ?_
  refine zand k (fun h8425 k => ?_)
  show Zm E YX8_scopesAt (d + 1) (sl (sl (sl M 165 (l2).toNatClampNeg (0 : Int64)) 166 (l2).toNatClampNeg (0 : Int64)) 167 (l2).toNatClampNeg (0 : Int64)) [(0, vr (some (97, 1, 0))), (1, vi l1), (2, vi l2)] 5 [] Q
  refine sX8_scopesAt_5 (d := d) (sl (sl (sl M 165 (l2).toNatClampNeg (0 : Int64)) 166 (l2).toNatClampNeg (0 : Int64)) 167 (l2).toNatClampNeg (0 : Int64)) l1 l2 ?_
  refine zand k (fun h8426 k => ?_)
  refine ⟨h8425, ?_⟩
  refine ⟨h8426, ?_⟩
  refine ⟨h8425, ?_⟩
  exact k
theorem iX8_scopesAt_40 {E : zE} {d : Nat} {Q : zO → zM → Prop} (M : zM) (l1 : Int32) (l2 : Int32) (l3 : Int32) (l4 : Int32) (k : if l1 ≤ l4 then (Q (.inl none) M) else (vp_in l3 647800 ∧ (Zm E YX8_scopesAt (d + 1) (sl (sl (sl M 165 (l3).toNatClampNeg (0 : Int64)) 166 (l3).toNatClampNeg (0 : Int64)) 167 (l3).toNatClampNeg (0 : Int64)) [(0, vr (some (97, 1, 0))), (1, vi l1), (2, vi l2), (3, vi l3), (4, vi l4), (5, vi (0 : Int32))] 54 [] Q))) : Zm E YX8_scopesAt (d + 1) M [(0, vr (some (97, 1, 0))), (1, vi l1), (2, vi l2), (3, vi l3), (4, vi l4)] 40 [] Q := by
  refine sX8_scopesAt_40 (d := d) M l1 l2 l3 l4 ?_
  refine zite k (fun h8427 k => ?_) (fun h8427 k => ?_)
  · exact k
  · refine jX8_empty (d := d) M l3 ?_
    refine zand k (fun h8428 k => ?_)
    show Zm E YX8_scopesAt (d + 1) (sl (sl (sl M 165 (l3).toNatClampNeg (0 : Int64)) 166 (l3).toNatClampNeg (0 : Int64)) 167 (l3).toNatClampNeg (0 : Int64)) [(0, vr (some (97, 1, 0))), (1, vi l1), (2, vi l2), (3, vi l3), (4, vi l4)] 51 [] Q
    refine sX8_scopesAt_51 (d := d) (sl (sl (sl M 165 (l3).toNatClampNeg (0 : Int64)) 166 (l3).toNatClampNeg (0 : Int64)) 167 (l3).toNatClampNeg (0 : Int64)) l1 l2 l3 l4 ?_
    exact k
theorem iX8_scopesAt_54 {E : zE} {d : Nat} {Q : zO → zM → Prop} (M : zM) (l1 : Int32) (l2 : Int32) (l3 : Int32) (l4 : Int32) (l5 : Int32) (k : if (gi M 97 71) ≤ l5 then (vp_in l3 647800 ∧ (vp_in l2 647800 ∧ (Zm E YX8_scopesAt ((d + 1) + 1) (sl (sl (sl M 165 (l2).toNatClampNeg (gl M 165 (l3).toNatClampNeg)) 166 (l2).toNatClampNeg (gl M 166 (l3).toNatClampNeg)) 167 (l2).toNatClampNeg (gl M 167 (l3).toNatClampNeg)) [(0, vr (some (97, 1, 0))), (1, vi l1), (2, vi l2), (3, vi l3), (4, vi (l4 + (1 : Int32)))] 40 [] Q))) else (vp_in l2 647800 ∧ (if (64 : Int32) ≤ l5 then (if (lg_cmp ((zlr (gl M 167 (l2).toNatClampNeg) (l5 - (64 : Int32))) &&& (1 : Int64)) (1 : Int64)) = 0 then (vp_in l3 647800 ∧ (vp_in ((15000 : Int32) + l5) 15128 ∧ (Zm E YX8_scopesAt ((d + 1) + 1) (sl (sl M 166 (l3).toNatClampNeg ((gl M 166 (l3).toNatClampNeg) ||| (gl M 182 (((15000 : Int32) + l5)).toNatClampNeg))) 167 (l3).toNatClampNeg ((gl M 167 (l3).toNatClampNeg) ||| (gl M 183 (((15000 : Int32) + l5)).toNatClampNeg))) [(0, vr (some (97, 1, 0))), (1, vi l1), (2, vi l2), (3, vi l3), (4, vi l4), (5, vi (l5 + (1 : Int32)))] 54 [] Q))) else (Zm E YX8_scopesAt ((d + 1) + 1) M [(0, vr (some (97, 1, 0))), (1, vi l1), (2, vi l2), (3, vi l3), (4, vi l4), (5, vi (l5 + (1 : Int32)))] 54 [] Q)) else (if (lg_cmp ((zlr (gl M 166 (l2).toNatClampNeg) l5) &&& (1 : Int64)) (1 : Int64)) = 0 then (vp_in l3 647800 ∧ (vp_in ((15000 : Int32) + l5) 15128 ∧ (Zm E YX8_scopesAt ((d + 1) + 1) (sl (sl M 166 (l3).toNatClampNeg ((gl M 166 (l3).toNatClampNeg) ||| (gl M 182 (((15000 : Int32) + l5)).toNatClampNeg))) 167 (l3).toNatClampNeg ((gl M 167 (l3).toNatClampNeg) ||| (gl M 183 (((15000 : Int32) + l5)).toNatClampNeg))) [(0, vr (some (97, 1, 0))), (1, vi l1), (2, vi l2), (3, vi l3), (4, vi l4), (5, vi (l5 + (1 : Int32)))] 54 [] Q))) else (Zm E YX8_scopesAt ((d + 1) + 1) M [(0, vr (some (97, 1, 0))), (1, vi l1), (2, vi l2), (3, vi l3), (4, vi l4), (5, vi (l5 + (1 : Int32)))] 54 [] Q))))) : Zm E YX8_scopesAt (d + 2) M [(0, vr (some (97, 1, 0))), (1, vi l1), (2, vi l2), (3, vi l3), (4, vi l4), (5, vi l5)] 54 [] Q := by
  refine sX8_scopesAt_54 (d := (d + 1)) M l1 l2 l3 l4 l5 ?_
  refine zite k (fun h8436 k => ?_) (fun h8436 k => ?_)
  · refine jX8_copySet (d := (d + 1)) M l3 l2 ?_
    refine zand k (fun h8437 k => ?_)
    refine zand k (fun h8438 k => ?_)
    show Zm E YX8_scopesAt ((d + 1) + 1) (sl (sl (sl M 165 (l2).toNatClampNeg (gl M 165 (l3).toNatClampNeg)) 166 (l2).toNatClampNeg (gl M 166 (l3).toNatClampNeg)) 167 (l2).toNatClampNeg (gl M 167 (l3).toNatClampNeg)) [(0, vr (some (97, 1, 0))), (1, vi l1), (2, vi l2), (3, vi l3), (4, vi l4)] 152 [] Q
    refine sX8_scopesAt_152 (d := (d + 1)) (sl (sl (sl M 165 (l2).toNatClampNeg (gl M 165 (l3).toNatClampNeg)) 166 (l2).toNatClampNeg (gl M 166 (l3).toNatClampNeg)) 167 (l2).toNatClampNeg (gl M 167 (l3).toNatClampNeg)) l1 l2 l3 l4 ?_
    exact k
  · refine zand k (fun h8439 k => ?_)
    refine ⟨h8439, ?_⟩
    refine jX8_isIn (d := (d + 1)) M (gl M 166 (l2).toNatClampNeg) (gl M 167 (l2).toNatClampNeg) l5 ?_
    refine zite k (fun h8440 k => ?_) (fun h8440 k => ?_)
    · refine zite k (fun h8441 k => ?_) (fun h8441 k => ?_)
      · show Zm E YX8_scopesAt ((d + 1) + 1) M [(0, vr (some (97, 1, 0))), (1, vi l1), (2, vi l2), (3, vi l3), (4, vi l4), (5, vi l5)] 80 [vi (1 : Int32)] Q
        refine sX8_scopesAt_80 (d := (d + 1)) M l1 l2 l3 l4 l5 (1 : Int32) ?_
        refine zneg (show ¬ ((1 : Int32) = 0) from by decide) ?_
        refine zand k (fun h8442 k => ?_)
        refine jX8_of (d := d) M (639 : Int32) l5 ?_
        refine zpos (show (639 : Int32) = (639 : Int32) from by decide) ?_
        show Zm E YX8_scopesAt ((d + 1) + 1) M [(0, vr (some (97, 1, 0))), (1, vi l1), (2, vi l2), (3, vi l3), (4, vi l4), (5, vi l5)] 110 [vi ((15000 : Int32) + l5), vr (some (182, 105, 15128)), vl (gl M 166 (l3).toNatClampNeg), vi l3, vr (some (166, 105, 647800))] Q
        refine sX8_scopesAt_110 (d := (d + 1)) M l1 l2 l3 l4 l5 ((15000 : Int32) + l5) (gl M 166 (l3).toNatClampNeg) l3 ?_
        refine zand k (fun h8443 k => ?_)
        refine ⟨h8442, ?_⟩
        refine ⟨h8442, ?_⟩
        refine jX8_of (d := d) (sl M 166 (l3).toNatClampNeg ((gl M 166 (l3).toNatClampNeg) ||| (gl M 182 (((15000 : Int32) + l5)).toNatClampNeg))) (639 : Int32) l5 ?_
        refine zpos (show (639 : Int32) = (639 : Int32) from by decide) ?_
        show Zm E YX8_scopesAt ((d + 1) + 1) (sl M 166 (l3).toNatClampNeg ((gl M 166 (l3).toNatClampNeg) ||| (gl M 182 (((15000 : Int32) + l5)).toNatClampNeg))) [(0, vr (some (97, 1, 0))), (1, vi l1), (2, vi l2), (3, vi l3), (4, vi l4), (5, vi l5)] 137 [vi ((15000 : Int32) + l5), vr (some (183, 105, 15128)), vl (gl M 167 (l3).toNatClampNeg), vi l3, vr (some (167, 105, 647800))] Q
        refine sX8_scopesAt_137 (d := (d + 1)) (sl M 166 (l3).toNatClampNeg ((gl M 166 (l3).toNatClampNeg) ||| (gl M 182 (((15000 : Int32) + l5)).toNatClampNeg))) l1 l2 l3 l4 l5 ((15000 : Int32) + l5) (gl M 167 (l3).toNatClampNeg) l3 ?_
        refine ⟨h8443, ?_⟩
        refine ⟨h8442, ?_⟩
        exact k
      · show Zm E YX8_scopesAt ((d + 1) + 1) M [(0, vr (some (97, 1, 0))), (1, vi l1), (2, vi l2), (3, vi l3), (4, vi l4), (5, vi l5)] 80 [vi (0 : Int32)] Q
        refine sX8_scopesAt_80 (d := (d + 1)) M l1 l2 l3 l4 l5 (0 : Int32) ?_
        refine zpos (show (0 : Int32) = 0 from by decide) ?_
        exact k
    · refine zite k (fun h8444 k => ?_) (fun h8444 k => ?_)
      · show Zm E YX8_scopesAt ((d + 1) + 1) M [(0, vr (some (97, 1, 0))), (1, vi l1), (2, vi l2), (3, vi l3), (4, vi l4), (5, vi l5)] 80 [vi (1 : Int32)] Q
        refine sX8_scopesAt_80 (d := (d + 1)) M l1 l2 l3 l4 l5 (1 : Int32) ?_
        refine zneg (show ¬ ((1 : Int32) = 0) from by decide) ?_
        refine zand k (fun h8445 k => ?_)
        refine jX8_of (d := d) M (639 : Int32) l5 ?_
        refine zpos (show (639 : Int32) = (639 : Int32) from by decide) ?_
        show Zm E YX8_scopesAt ((d + 1) + 1) M [(0, vr (some (97, 1, 0))), (1, vi l1), (2, vi l2), (3, vi l3), (4, vi l4), (5, vi l5)] 110 [vi ((15000 : Int32) + l5), vr (some (182, 105, 15128)), vl (gl M 166 (l3).toNatClampNeg), vi l3, vr (some (166, 105, 647800))] Q
        refine sX8_scopesAt_110 (d := (d + 1)) M l1 l2 l3 l4 l5 ((15000 : Int32) + l5) (gl M 166 (l3).toNatClampNeg) l3 ?_
        refine zand k (fun h8446 k => ?_)
        refine ⟨h8445, ?_⟩
        refine ⟨h8445, ?_⟩
        refine jX8_of (d := d) (sl M 166 (l3).toNatClampNeg ((gl M 166 (l3).toNatClampNeg) ||| (gl M 182 (((15000 : Int32) + l5)).toNatClampNeg))) (639 : Int32) l5 ?_
        refine zpos (show (639 : Int32) = (639 : Int32) from by decide) ?_
        show Zm E YX8_scopesAt ((d + 1) + 1) (sl M 166 (l3).toNatClampNeg ((gl M 166 (l3).toNatClampNeg) ||| (gl M 182 (((15000 : Int32) + l5)).toNatClampNeg))) [(0, vr (some (97, 1, 0))), (1, vi l1), (2, vi l2), (3, vi l3), (4, vi l4), (5, vi l5)] 137 [vi ((15000 : Int32) + l5), vr (some (183, 105, 15128)), vl (gl M 167 (l3).toNatClampNeg), vi l3, vr (some (167, 105, 647800))] Q
        refine sX8_scopesAt_137 (d := (d + 1)) (sl M 166 (l3).toNatClampNeg ((gl M 166 (l3).toNatClampNeg) ||| (gl M 182 (((15000 : Int32) + l5)).toNatClampNeg))) l1 l2 l3 l4 l5 ((15000 : Int32) + l5) (gl M 167 (l3).toNatClampNeg) l3 ?_
        refine ⟨h8446, ?_⟩
        refine ⟨h8445, ?_⟩
        exact k
      · show Zm E YX8_scopesAt ((d + 1) + 1) M [(0, vr (some (97, 1, 0))), (1, vi l1), (2, vi l2), (3, vi l3), (4, vi l4), (5, vi l5)] 80 [vi (0 : Int32)] Q
        refine sX8_scopesAt_80 (d := (d + 1)) M l1 l2 l3 l4 l5 (0 : Int32) ?_
        refine zpos (show (0 : Int32) = 0 from by decide) ?_
        exact k
theorem iX8_tossSet_0 {E : zE} {d : Nat} {Q : zO → zM → Prop} (M : zM) (l1 : Int32) (k : vp_in (639 : Int32) 640 ∧ (if (gi M 175 ((639 : Int32)).toNatClampNeg) = 0 then (Zm E YX8_pushSet d (si M 171 ((639 : Int32)).toNatClampNeg (0 : Int32)) (zargs 0 [vr (some (97, 1, 0))]) 0 [] (zma E YX8_tossSet (d + 1) [(0, vr (some (97, 1, 0)))] 23 3 [vi l1, vr (some (97, 1, 0))] Q)) else (vp_in ((25560 : Int32) + (gi (si M 175 ((639 : Int32)).toNatClampNeg ((gi M 175 ((639 : Int32)).toNatClampNeg) - (1 : Int32))) 175 ((639 : Int32)).toNatClampNeg)) 25600 ∧ (Zm E YX8_pushSet d (si (si M 175 ((639 : Int32)).toNatClampNeg ((gi M 175 ((639 : Int32)).toNatClampNeg) - (1 : Int32))) 171 ((639 : Int32)).toNatClampNeg (gi M 177 (((25560 : Int32) + (gi (si M 175 ((639 : Int32)).toNatClampNeg ((gi M 175 ((639 : Int32)).toNatClampNeg) - (1 : Int32))) 175 ((639 : Int32)).toNatClampNeg))).toNatClampNeg)) (zargs 0 [vr (some (97, 1, 0))]) 0 [] (zma E YX8_tossSet (d + 1) [(0, vr (some (97, 1, 0))), (2, vi ((25560 : Int32) + (gi (si M 175 ((639 : Int32)).toNatClampNeg ((gi M 175 ((639 : Int32)).toNatClampNeg) - (1 : Int32))) 175 ((639 : Int32)).toNatClampNeg)))] 94 3 [vi l1, vr (some (97, 1, 0))] Q))))) : Zm E YX8_tossSet (d + 1) M [(0, vr (some (97, 1, 0))), (1, vi l1)] 0 [] Q := by
  refine sX8_tossSet_0 (d := d) M l1 ?_
  refine zand k (fun h8447 k => ?_)
  refine zite k (fun h8448 k => ?_) (fun h8448 k => ?_)
  · refine ⟨h8447, ?_⟩
    exact k
  · refine ⟨h8447, ?_⟩
    refine ⟨h8447, ?_⟩
    refine ⟨h8447, ?_⟩
    refine zand k (fun h8449 k => ?_)
    refine ⟨h8447, ?_⟩
    exact k
theorem iX8_tossSet_26 {E : zE} {d : Nat} {Q : zO → zM → Prop} (M : zM) (s0 : Int32) (s1 : Int32) (k : vp_in s1 647800 ∧ (vp_in s0 647800 ∧ (vp_in (gi M 97 148) 600 ∧ (Zm E YX8_flow d (sl (sl (sl M 165 (s0).toNatClampNeg (gl M 165 (s1).toNatClampNeg)) 166 (s0).toNatClampNeg (gl M 166 (s1).toNatClampNeg)) 167 (s0).toNatClampNeg (gl M 167 (s1).toNatClampNeg)) (zargs 0 [vr (some (97, 1, 0)), vi (((gi M 97 46) + ((2 : Int32) * (gi M 126 ((gi M 97 148)).toNatClampNeg))) + (1 : Int32))]) 0 [] (zma E YX8_tossSet (d + 1) [] 48 3 [] Q))))) : Zm E YX8_tossSet (d + 1) M [(0, vr (some (97, 1, 0)))] 26 [vi s0, vi s1, vr (some (97, 1, 0))] Q := by
  refine sX8_tossSet_26 (d := d) M s0 s1 ?_
  refine jX8_copySet (d := d) M s1 s0 ?_
  refine zand k (fun h8450 k => ?_)
  refine zand k (fun h8451 k => ?_)
  show Zm E YX8_tossSet (d + 1) (sl (sl (sl M 165 (s0).toNatClampNeg (gl M 165 (s1).toNatClampNeg)) 166 (s0).toNatClampNeg (gl M 166 (s1).toNatClampNeg)) 167 (s0).toNatClampNeg (gl M 167 (s1).toNatClampNeg)) [(0, vr (some (97, 1, 0)))] 29 [] Q
  refine sX8_tossSet_29 (d := d) (sl (sl (sl M 165 (s0).toNatClampNeg (gl M 165 (s1).toNatClampNeg)) 166 (s0).toNatClampNeg (gl M 166 (s1).toNatClampNeg)) 167 (s0).toNatClampNeg (gl M 167 (s1).toNatClampNeg))  ?_
  exact k
theorem iX8_tossSet_97 {E : zE} {d : Nat} {Q : zO → zM → Prop} (M : zM) (l2 : Int32) (s0 : Int32) (s1 : Int32) (k : vp_in s1 647800 ∧ (vp_in s0 647800 ∧ (vp_in l2 25600 ∧ (Zm E YX8_flow d (sl (sl (sl M 165 (s0).toNatClampNeg (gl M 165 (s1).toNatClampNeg)) 166 (s0).toNatClampNeg (gl M 166 (s1).toNatClampNeg)) 167 (s0).toNatClampNeg (gl M 167 (s1).toNatClampNeg)) (zargs 0 [vr (some (97, 1, 0)), vi (gi M 176 (l2).toNatClampNeg)]) 0 [] (zma E YX8_tossSet (d + 1) [] 107 3 [] Q))))) : Zm E YX8_tossSet (d + 1) M [(0, vr (some (97, 1, 0))), (2, vi l2)] 97 [vi s0, vi s1, vr (some (97, 1, 0))] Q := by
  refine sX8_tossSet_97 (d := d) M l2 s0 s1 ?_
  refine jX8_copySet (d := d) M s1 s0 ?_
  refine zand k (fun h8453 k => ?_)
  refine zand k (fun h8454 k => ?_)
  show Zm E YX8_tossSet (d + 1) (sl (sl (sl M 165 (s0).toNatClampNeg (gl M 165 (s1).toNatClampNeg)) 166 (s0).toNatClampNeg (gl M 166 (s1).toNatClampNeg)) 167 (s0).toNatClampNeg (gl M 167 (s1).toNatClampNeg)) [(0, vr (some (97, 1, 0))), (2, vi l2)] 100 [] Q
  refine sX8_tossSet_100 (d := d) (sl (sl (sl M 165 (s0).toNatClampNeg (gl M 165 (s1).toNatClampNeg)) 166 (s0).toNatClampNeg (gl M 166 (s1).toNatClampNeg)) 167 (s0).toNatClampNeg (gl M 167 (s1).toNatClampNeg)) l2 ?_
  exact k
theorem iX8_typesOf_0 {E : zE} {d : Nat} {Q : zO → zM → Prop} (M : zM) (l1 : Int32) (l2 : Int32) (k : vp_in l1 647800 ∧ (if ((((gl M 165 (l1).toNatClampNeg) &&& (1023 : Int64))).toInt32 &&& (1 : Int32)) = 0 then (if ((((gl M 165 (l1).toNatClampNeg) &&& (1023 : Int64))).toInt32 &&& (2 : Int32)) = 0 then (if ((((gl M 165 (l1).toNatClampNeg) &&& (1023 : Int64))).toInt32 &&& (12 : Int32)) = 0 then (if ((((gl M 165 (l1).toNatClampNeg) &&& (1023 : Int64))).toInt32 &&& (112 : Int32)) = 0 then (if ((((gl M 165 (l1).toNatClampNeg) &&& (1023 : Int64))).toInt32 &&& (384 : Int32)) = 0 then (Zm E YX8_typesOf (d + 1) M [(0, vr (some (97, 1, 0))), (1, vi l1), (2, vi l2), (4, vi (0 : Int32))] 78 [] Q) else (Zm E YX8_addString d M (zargs 0 [vr (some (97, 1, 0)), vi l2, vi (23 : Int32)]) 0 [] (zma E YX8_typesOf (d + 1) [(0, vr (some (97, 1, 0))), (1, vi l1), (2, vi l2)] 72 3 [] Q))) else (Zm E YX8_addString d M (zargs 0 [vr (some (97, 1, 0)), vi l2, vi (22 : Int32)]) 0 [] (zma E YX8_typesOf (d + 1) [(0, vr (some (97, 1, 0))), (1, vi l1), (2, vi l2), (3, vi (((gl M 165 (l1).toNatClampNeg) &&& (1023 : Int64))).toInt32)] 57 3 [] Q))) else (Zm E YX8_addString d M (zargs 0 [vr (some (97, 1, 0)), vi l2, vi (21 : Int32)]) 0 [] (zma E YX8_typesOf (d + 1) [(0, vr (some (97, 1, 0))), (1, vi l1), (2, vi l2), (3, vi (((gl M 165 (l1).toNatClampNeg) &&& (1023 : Int64))).toInt32)] 43 3 [] Q))) else (Zm E YX8_addString d M (zargs 0 [vr (some (97, 1, 0)), vi l2, vi (20 : Int32)]) 0 [] (zma E YX8_typesOf (d + 1) [(0, vr (some (97, 1, 0))), (1, vi l1), (2, vi l2), (3, vi (((gl M 165 (l1).toNatClampNeg) &&& (1023 : Int64))).toInt32)] 29 3 [] Q))) else (Zm E YX8_addString d M (zargs 0 [vr (some (97, 1, 0)), vi l2, vi (19 : Int32)]) 0 [] (zma E YX8_typesOf (d + 1) [(0, vr (some (97, 1, 0))), (1, vi l1), (2, vi l2), (3, vi (((gl M 165 (l1).toNatClampNeg) &&& (1023 : Int64))).toInt32)] 16 3 [] Q)))) : Zm E YX8_typesOf (d + 1) M [(0, vr (some (97, 1, 0))), (1, vi l1), (2, vi l2)] 0 [] Q := by
  refine sX8_typesOf_0 (d := d) M l1 l2 ?_
  refine sX8_has_0 (d := d) M l1 ?_
  refine zand k (fun h8456 k => ?_)
  show Zm E YX8_typesOf (d + 1) M [(0, vr (some (97, 1, 0))), (1, vi l1), (2, vi l2)] 5 [vi (((gl M 165 (l1).toNatClampNeg) &&& (1023 : Int64))).toInt32] Q
  refine sX8_typesOf_5 (d := d) M l1 l2 ((((gl M 165 (l1).toNatClampNeg) &&& (1023 : Int64))).toInt32) ?_
  refine zite k (fun h8457 k => ?_) (fun h8457 k => ?_)
  · refine sX8_typesOf_19 (d := d) M l1 l2 ((((gl M 165 (l1).toNatClampNeg) &&& (1023 : Int64))).toInt32) ?_
    refine zite k (fun h8458 k => ?_) (fun h8458 k => ?_)
    · refine sX8_typesOf_32 (d := d) M l1 l2 ((((gl M 165 (l1).toNatClampNeg) &&& (1023 : Int64))).toInt32) ?_
      refine zite k (fun h8459 k => ?_) (fun h8459 k => ?_)
      · refine sX8_typesOf_46 (d := d) M l1 l2 ((((gl M 165 (l1).toNatClampNeg) &&& (1023 : Int64))).toInt32) ?_
        refine zite k (fun h8460 k => ?_) (fun h8460 k => ?_)
        · refine sX8_typesOf_60 (d := d) M l1 l2 ((((gl M 165 (l1).toNatClampNeg) &&& (1023 : Int64))).toInt32) ?_
          refine zite k (fun h8461 k => ?_) (fun h8461 k => ?_)
          · refine sX8_typesOf_75 (d := d) M l1 l2 ?_
            exact k
          · exact k
        · exact k
      · exact k
    · exact k
  · exact k
theorem iX8_typesOf_78 {E : zE} {d : Nat} {Q : zO → zM → Prop} (M : zM) (l1 : Int32) (l2 : Int32) (l4 : Int32) (k : if (gi M 97 71) ≤ l4 then (Q (.inl none) M) else (vp_in l1 647800 ∧ (if (64 : Int32) ≤ l4 then (if (lg_cmp ((zlr (gl M 167 (l1).toNatClampNeg) (l4 - (64 : Int32))) &&& (1 : Int64)) (1 : Int64)) = 0 then (Zm E YX8_isFunctionLabel d M (zargs 0 [vr (some (97, 1, 0)), vi l4]) 0 [] (zma E YX8_typesOf (d + 1) [(0, vr (some (97, 1, 0))), (1, vi l1), (2, vi l2), (4, vi l4)] 112 3 [vi l2, vr (some (97, 1, 0))] Q)) else (Zm E YX8_typesOf (d + 1) M [(0, vr (some (97, 1, 0))), (1, vi l1), (2, vi l2), (4, vi (l4 + (1 : Int32)))] 78 [] Q)) else (if (lg_cmp ((zlr (gl M 166 (l1).toNatClampNeg) l4) &&& (1 : Int64)) (1 : Int64)) = 0 then (Zm E YX8_isFunctionLabel d M (zargs 0 [vr (some (97, 1, 0)), vi l4]) 0 [] (zma E YX8_typesOf (d + 1) [(0, vr (some (97, 1, 0))), (1, vi l1), (2, vi l2), (4, vi l4)] 112 3 [vi l2, vr (some (97, 1, 0))] Q)) else (Zm E YX8_typesOf (d + 1) M [(0, vr (some (97, 1, 0))), (1, vi l1), (2, vi l2), (4, vi (l4 + (1 : Int32)))] 78 [] Q))))) : Zm E YX8_typesOf (d + 1) M [(0, vr (some (97, 1, 0))), (1, vi l1), (2, vi l2), (4, vi l4)] 78 [] Q := by
  refine sX8_typesOf_78 (d := d) M l1 l2 l4 ?_
  refine zite k (fun h8462 k => ?_) (fun h8462 k => ?_)
  · exact k
  · refine zand k (fun h8463 k => ?_)
    refine ⟨h8463, ?_⟩
    refine jX8_isIn (d := d) M (gl M 166 (l1).toNatClampNeg) (gl M 167 (l1).toNatClampNeg) l4 ?_
    refine zite k (fun h8464 k => ?_) (fun h8464 k => ?_)
    · refine zite k (fun h8465 k => ?_) (fun h8465 k => ?_)
      · show Zm E YX8_typesOf (d + 1) M [(0, vr (some (97, 1, 0))), (1, vi l1), (2, vi l2), (4, vi l4)] 104 [vi (1 : Int32)] Q
        refine sX8_typesOf_104 (d := d) M l1 l2 l4 (1 : Int32) ?_
        refine zneg (show ¬ ((1 : Int32) = 0) from by decide) ?_
        exact k
      · show Zm E YX8_typesOf (d + 1) M [(0, vr (some (97, 1, 0))), (1, vi l1), (2, vi l2), (4, vi l4)] 104 [vi (0 : Int32)] Q
        refine sX8_typesOf_104 (d := d) M l1 l2 l4 (0 : Int32) ?_
        refine zpos (show (0 : Int32) = 0 from by decide) ?_
        refine sX8_typesOf_128 (d := d) M l1 l2 l4 ?_
        exact k
    · refine zite k (fun h8476 k => ?_) (fun h8476 k => ?_)
      · show Zm E YX8_typesOf (d + 1) M [(0, vr (some (97, 1, 0))), (1, vi l1), (2, vi l2), (4, vi l4)] 104 [vi (1 : Int32)] Q
        refine sX8_typesOf_104 (d := d) M l1 l2 l4 (1 : Int32) ?_
        refine zneg (show ¬ ((1 : Int32) = 0) from by decide) ?_
        exact k
      · show Zm E YX8_typesOf (d + 1) M [(0, vr (some (97, 1, 0))), (1, vi l1), (2, vi l2), (4, vi l4)] 104 [vi (0 : Int32)] Q
        refine sX8_typesOf_104 (d := d) M l1 l2 l4 (0 : Int32) ?_
        refine zpos (show (0 : Int32) = 0 from by decide) ?_
        refine sX8_typesOf_128 (d := d) M l1 l2 l4 ?_
        exact k
theorem iX8_typesOf_60 {E : zE} {d : Nat} {Q : zO → zM → Prop} (M : zM) (l1 : Int32) (l2 : Int32) (l3 : Int32) (k : if (l3 &&& (384 : Int32)) = 0 then (Zm E YX8_typesOf (d + 1) M [(0, vr (some (97, 1, 0))), (1, vi l1), (2, vi l2), (4, vi (0 : Int32))] 78 [] Q) else (Zm E YX8_addString d M (zargs 0 [vr (some (97, 1, 0)), vi l2, vi (23 : Int32)]) 0 [] (zma E YX8_typesOf (d + 1) [(0, vr (some (97, 1, 0))), (1, vi l1), (2, vi l2)] 72 3 [] Q))) : Zm E YX8_typesOf (d + 1) M [(0, vr (some (97, 1, 0))), (1, vi l1), (2, vi l2), (3, vi l3)] 60 [] Q := by
  refine sX8_typesOf_60 (d := d) M l1 l2 l3 ?_
  refine zite k (fun h8477 k => ?_) (fun h8477 k => ?_)
  · refine sX8_typesOf_75 (d := d) M l1 l2 ?_
    exact k
  · exact k
theorem iX8_typesOf_46 {E : zE} {d : Nat} {Q : zO → zM → Prop} (M : zM) (l1 : Int32) (l2 : Int32) (l3 : Int32) (k : if (l3 &&& (112 : Int32)) = 0 then (if (l3 &&& (384 : Int32)) = 0 then (Zm E YX8_typesOf (d + 1) M [(0, vr (some (97, 1, 0))), (1, vi l1), (2, vi l2), (4, vi (0 : Int32))] 78 [] Q) else (Zm E YX8_addString d M (zargs 0 [vr (some (97, 1, 0)), vi l2, vi (23 : Int32)]) 0 [] (zma E YX8_typesOf (d + 1) [(0, vr (some (97, 1, 0))), (1, vi l1), (2, vi l2)] 72 3 [] Q))) else (Zm E YX8_addString d M (zargs 0 [vr (some (97, 1, 0)), vi l2, vi (22 : Int32)]) 0 [] (zma E YX8_typesOf (d + 1) [(0, vr (some (97, 1, 0))), (1, vi l1), (2, vi l2), (3, vi l3)] 57 3 [] Q))) : Zm E YX8_typesOf (d + 1) M [(0, vr (some (97, 1, 0))), (1, vi l1), (2, vi l2), (3, vi l3)] 46 [] Q := by
  refine sX8_typesOf_46 (d := d) M l1 l2 l3 ?_
  refine zite k (fun h8478 k => ?_) (fun h8478 k => ?_)
  · refine sX8_typesOf_60 (d := d) M l1 l2 l3 ?_
    refine zite k (fun h8479 k => ?_) (fun h8479 k => ?_)
    · refine sX8_typesOf_75 (d := d) M l1 l2 ?_
      exact k
    · exact k
  · exact k
theorem iX8_typesOf_32 {E : zE} {d : Nat} {Q : zO → zM → Prop} (M : zM) (l1 : Int32) (l2 : Int32) (l3 : Int32) (k : if (l3 &&& (12 : Int32)) = 0 then (if (l3 &&& (112 : Int32)) = 0 then (if (l3 &&& (384 : Int32)) = 0 then (Zm E YX8_typesOf (d + 1) M [(0, vr (some (97, 1, 0))), (1, vi l1), (2, vi l2), (4, vi (0 : Int32))] 78 [] Q) else (Zm E YX8_addString d M (zargs 0 [vr (some (97, 1, 0)), vi l2, vi (23 : Int32)]) 0 [] (zma E YX8_typesOf (d + 1) [(0, vr (some (97, 1, 0))), (1, vi l1), (2, vi l2)] 72 3 [] Q))) else (Zm E YX8_addString d M (zargs 0 [vr (some (97, 1, 0)), vi l2, vi (22 : Int32)]) 0 [] (zma E YX8_typesOf (d + 1) [(0, vr (some (97, 1, 0))), (1, vi l1), (2, vi l2), (3, vi l3)] 57 3 [] Q))) else (Zm E YX8_addString d M (zargs 0 [vr (some (97, 1, 0)), vi l2, vi (21 : Int32)]) 0 [] (zma E YX8_typesOf (d + 1) [(0, vr (some (97, 1, 0))), (1, vi l1), (2, vi l2), (3, vi l3)] 43 3 [] Q))) : Zm E YX8_typesOf (d + 1) M [(0, vr (some (97, 1, 0))), (1, vi l1), (2, vi l2), (3, vi l3)] 32 [] Q := by
  refine sX8_typesOf_32 (d := d) M l1 l2 l3 ?_
  refine zite k (fun h8480 k => ?_) (fun h8480 k => ?_)
  · refine sX8_typesOf_46 (d := d) M l1 l2 l3 ?_
    refine zite k (fun h8481 k => ?_) (fun h8481 k => ?_)
    · refine sX8_typesOf_60 (d := d) M l1 l2 l3 ?_
      refine zite k (fun h8482 k => ?_) (fun h8482 k => ?_)
      · refine sX8_typesOf_75 (d := d) M l1 l2 ?_
        exact k
      · exact k
    · exact k
  · exact k
theorem iX8_typesOf_19 {E : zE} {d : Nat} {Q : zO → zM → Prop} (M : zM) (l1 : Int32) (l2 : Int32) (l3 : Int32) (k : if (l3 &&& (2 : Int32)) = 0 then (if (l3 &&& (12 : Int32)) = 0 then (if (l3 &&& (112 : Int32)) = 0 then (if (l3 &&& (384 : Int32)) = 0 then (Zm E YX8_typesOf (d + 1) M [(0, vr (some (97, 1, 0))), (1, vi l1), (2, vi l2), (4, vi (0 : Int32))] 78 [] Q) else (Zm E YX8_addString d M (zargs 0 [vr (some (97, 1, 0)), vi l2, vi (23 : Int32)]) 0 [] (zma E YX8_typesOf (d + 1) [(0, vr (some (97, 1, 0))), (1, vi l1), (2, vi l2)] 72 3 [] Q))) else (Zm E YX8_addString d M (zargs 0 [vr (some (97, 1, 0)), vi l2, vi (22 : Int32)]) 0 [] (zma E YX8_typesOf (d + 1) [(0, vr (some (97, 1, 0))), (1, vi l1), (2, vi l2), (3, vi l3)] 57 3 [] Q))) else (Zm E YX8_addString d M (zargs 0 [vr (some (97, 1, 0)), vi l2, vi (21 : Int32)]) 0 [] (zma E YX8_typesOf (d + 1) [(0, vr (some (97, 1, 0))), (1, vi l1), (2, vi l2), (3, vi l3)] 43 3 [] Q))) else (Zm E YX8_addString d M (zargs 0 [vr (some (97, 1, 0)), vi l2, vi (20 : Int32)]) 0 [] (zma E YX8_typesOf (d + 1) [(0, vr (some (97, 1, 0))), (1, vi l1), (2, vi l2), (3, vi l3)] 29 3 [] Q))) : Zm E YX8_typesOf (d + 1) M [(0, vr (some (97, 1, 0))), (1, vi l1), (2, vi l2), (3, vi l3)] 19 [] Q := by
  refine sX8_typesOf_19 (d := d) M l1 l2 l3 ?_
  refine zite k (fun h8483 k => ?_) (fun h8483 k => ?_)
  · refine sX8_typesOf_32 (d := d) M l1 l2 l3 ?_
    refine zite k (fun h8484 k => ?_) (fun h8484 k => ?_)
    · refine sX8_typesOf_46 (d := d) M l1 l2 l3 ?_
      refine zite k (fun h8485 k => ?_) (fun h8485 k => ?_)
      · refine sX8_typesOf_60 (d := d) M l1 l2 l3 ?_
        refine zite k (fun h8486 k => ?_) (fun h8486 k => ?_)
        · refine sX8_typesOf_75 (d := d) M l1 l2 ?_
          exact k
        · exact k
      · exact k
    · exact k
  · exact k
theorem jX8_fromTop {E : zE} {d : Nat} {Q : zO → zM → Prop} (M : zM) (l1 : Int32) (k : vp_in (639 : Int32) 640 ∧ (Q (.inl (some (vi ((((gi M 172 ((639 : Int32)).toNatClampNeg) + (gi M 171 ((639 : Int32)).toNatClampNeg)) - (1 : Int32)) - l1)))) M)) : Zm E YX8_fromTop d M [(0, vr (some (97, 1, 0))), (1, vi l1)] 0 [] Q := by
  refine sX8_fromTop_0 (d := d) M l1 ?_
  refine zand k (fun h8511 k => ?_)
  refine ⟨h8511, ?_⟩
  exact k
theorem iX8_ways_170 {E : zE} {d : Nat} {Q : zO → zM → Prop} (M : zM) (l1 : Int32) (l3 : Int32) (l4 : Int32) (k : if (64 : Int32) ≤ l3 then (vp_in (l4 + (1 : Int32)) 647800 ∧ (Zm E YX8_ways (d + 1) (sl (sl (sl (sl (sl (sl M 97 143 (0 : Int64)) 97 144 (0 : Int64)) 97 144 ((0 : Int64) ||| (zls (1 : Int64) (l3 - (64 : Int32))))) 165 ((l4 + (1 : Int32))).toNatClampNeg (0 : Int64)) 166 ((l4 + (1 : Int32))).toNatClampNeg (0 : Int64)) 167 ((l4 + (1 : Int32))).toNatClampNeg (0 : Int64)) [(0, vr (some (97, 1, 0))), (1, vi l1), (3, vi l3), (4, vi l4), (5, vi (0 : Int32))] 190 [] Q)) else (vp_in (l4 + (1 : Int32)) 647800 ∧ (Zm E YX8_ways (d + 1) (sl (sl (sl (sl (sl (sl M 97 143 (0 : Int64)) 97 144 (0 : Int64)) 97 143 ((0 : Int64) ||| (zls (1 : Int64) l3))) 165 ((l4 + (1 : Int32))).toNatClampNeg (0 : Int64)) 166 ((l4 + (1 : Int32))).toNatClampNeg (0 : Int64)) 167 ((l4 + (1 : Int32))).toNatClampNeg (0 : Int64)) [(0, vr (some (97, 1, 0))), (1, vi l1), (3, vi l3), (4, vi l4), (5, vi (0 : Int32))] 190 [] Q))) : Zm E YX8_ways (d + 1) M [(0, vr (some (97, 1, 0))), (1, vi l1), (3, vi l3), (4, vi l4)] 170 [] Q := by
  refine sX8_ways_170 (d := d) M l1 l3 l4 ?_
  refine sX8_noKeys_0 (d := d) M  ?_
  show Zm E YX8_ways (d + 1) (sl (sl M 97 143 (0 : Int64)) 97 144 (0 : Int64)) [(0, vr (some (97, 1, 0))), (1, vi l1), (3, vi l3), (4, vi l4)] 174 [] Q
  refine sX8_ways_174 (d := d) (sl (sl M 97 143 (0 : Int64)) 97 144 (0 : Int64)) l1 l3 l4 ?_
  refine sX8_addKey_0 (d := d) (sl (sl M 97 143 (0 : Int64)) 97 144 (0 : Int64)) l3 ?_
  refine zite k (fun h8620 k => ?_) (fun h8620 k => ?_)
  · show Zm E YX8_ways (d + 1) (sl (sl (sl M 97 143 (0 : Int64)) 97 144 (0 : Int64)) 97 144 ((0 : Int64) ||| (zls (1 : Int64) (l3 - (64 : Int32))))) [(0, vr (some (97, 1, 0))), (1, vi l1), (3, vi l3), (4, vi l4)] 179 [] Q
    refine sX8_ways_179 (d := d) (sl (sl (sl M 97 143 (0 : Int64)) 97 144 (0 : Int64)) 97 144 ((0 : Int64) ||| (zls (1 : Int64) (l3 - (64 : Int32))))) l1 l3 l4 ?_
    refine jX8_empty (d := d) (sl (sl (sl M 97 143 (0 : Int64)) 97 144 (0 : Int64)) 97 144 ((0 : Int64) ||| (zls (1 : Int64) (l3 - (64 : Int32))))) (l4 + (1 : Int32)) ?_
    refine zand k (fun h8621 k => ?_)
    show Zm E YX8_ways (d + 1) (sl (sl (sl (sl (sl (sl M 97 143 (0 : Int64)) 97 144 (0 : Int64)) 97 144 ((0 : Int64) ||| (zls (1 : Int64) (l3 - (64 : Int32))))) 165 ((l4 + (1 : Int32))).toNatClampNeg (0 : Int64)) 166 ((l4 + (1 : Int32))).toNatClampNeg (0 : Int64)) 167 ((l4 + (1 : Int32))).toNatClampNeg (0 : Int64)) [(0, vr (some (97, 1, 0))), (1, vi l1), (3, vi l3), (4, vi l4)] 187 [] Q
    refine sX8_ways_187 (d := d) (sl (sl (sl (sl (sl (sl M 97 143 (0 : Int64)) 97 144 (0 : Int64)) 97 144 ((0 : Int64) ||| (zls (1 : Int64) (l3 - (64 : Int32))))) 165 ((l4 + (1 : Int32))).toNatClampNeg (0 : Int64)) 166 ((l4 + (1 : Int32))).toNatClampNeg (0 : Int64)) 167 ((l4 + (1 : Int32))).toNatClampNeg (0 : Int64)) l1 l3 l4 ?_
    exact k
  · show Zm E YX8_ways (d + 1) (sl (sl (sl M 97 143 (0 : Int64)) 97 144 (0 : Int64)) 97 143 ((0 : Int64) ||| (zls (1 : Int64) l3))) [(0, vr (some (97, 1, 0))), (1, vi l1), (3, vi l3), (4, vi l4)] 179 [] Q
    refine sX8_ways_179 (d := d) (sl (sl (sl M 97 143 (0 : Int64)) 97 144 (0 : Int64)) 97 143 ((0 : Int64) ||| (zls (1 : Int64) l3))) l1 l3 l4 ?_
    refine jX8_empty (d := d) (sl (sl (sl M 97 143 (0 : Int64)) 97 144 (0 : Int64)) 97 143 ((0 : Int64) ||| (zls (1 : Int64) l3))) (l4 + (1 : Int32)) ?_
    refine zand k (fun h8622 k => ?_)
    show Zm E YX8_ways (d + 1) (sl (sl (sl (sl (sl (sl M 97 143 (0 : Int64)) 97 144 (0 : Int64)) 97 143 ((0 : Int64) ||| (zls (1 : Int64) l3))) 165 ((l4 + (1 : Int32))).toNatClampNeg (0 : Int64)) 166 ((l4 + (1 : Int32))).toNatClampNeg (0 : Int64)) 167 ((l4 + (1 : Int32))).toNatClampNeg (0 : Int64)) [(0, vr (some (97, 1, 0))), (1, vi l1), (3, vi l3), (4, vi l4)] 187 [] Q
    refine sX8_ways_187 (d := d) (sl (sl (sl (sl (sl (sl M 97 143 (0 : Int64)) 97 144 (0 : Int64)) 97 143 ((0 : Int64) ||| (zls (1 : Int64) l3))) 165 ((l4 + (1 : Int32))).toNatClampNeg (0 : Int64)) 166 ((l4 + (1 : Int32))).toNatClampNeg (0 : Int64)) 167 ((l4 + (1 : Int32))).toNatClampNeg (0 : Int64)) l1 l3 l4 ?_
    exact k
theorem iX8_ways_282 {E : zE} {d : Nat} {Q : zO → zM → Prop} (M : zM) (l1 : Int32) (l3 : Int32) (l4 : Int32) (k : if (64 : Int32) ≤ l3 then (vp_in l4 647800 ∧ (vp_in (639 : Int32) 640 ∧ (Zm E YX8_writeTo d (sl (sl (sl M 97 143 (0 : Int64)) 97 144 (0 : Int64)) 97 144 ((0 : Int64) ||| (zls (1 : Int64) (l3 - (64 : Int32))))) (zargs 0 [vr (some (97, 1, 0)), vl (gl M 166 (l4).toNatClampNeg), vl (gl M 167 (l4).toNatClampNeg), vi ((((gi M 172 ((639 : Int32)).toNatClampNeg) + (gi M 171 ((639 : Int32)).toNatClampNeg)) - (1 : Int32)) - (0 : Int32)), vi (1 : Int32), vi (0 : Int32)]) 0 [] (zma E YX8_ways (d + 1) [(0, vr (some (97, 1, 0))), (1, vi l1)] 313 3 [] Q)))) else (vp_in l4 647800 ∧ (vp_in (639 : Int32) 640 ∧ (Zm E YX8_writeTo d (sl (sl (sl M 97 143 (0 : Int64)) 97 144 (0 : Int64)) 97 143 ((0 : Int64) ||| (zls (1 : Int64) l3))) (zargs 0 [vr (some (97, 1, 0)), vl (gl M 166 (l4).toNatClampNeg), vl (gl M 167 (l4).toNatClampNeg), vi ((((gi M 172 ((639 : Int32)).toNatClampNeg) + (gi M 171 ((639 : Int32)).toNatClampNeg)) - (1 : Int32)) - (0 : Int32)), vi (1 : Int32), vi (0 : Int32)]) 0 [] (zma E YX8_ways (d + 1) [(0, vr (some (97, 1, 0))), (1, vi l1)] 313 3 [] Q))))) : Zm E YX8_ways (d + 1) M [(0, vr (some (97, 1, 0))), (1, vi l1), (3, vi l3), (4, vi l4)] 282 [] Q := by
  refine sX8_ways_282 (d := d) M l1 l3 l4 ?_
  refine sX8_noKeys_0 (d := d) M  ?_
  show Zm E YX8_ways (d + 1) (sl (sl M 97 143 (0 : Int64)) 97 144 (0 : Int64)) [(0, vr (some (97, 1, 0))), (1, vi l1), (3, vi l3), (4, vi l4)] 286 [] Q
  refine sX8_ways_286 (d := d) (sl (sl M 97 143 (0 : Int64)) 97 144 (0 : Int64)) l1 l3 l4 ?_
  refine sX8_addKey_0 (d := d) (sl (sl M 97 143 (0 : Int64)) 97 144 (0 : Int64)) l3 ?_
  refine zite k (fun h8623 k => ?_) (fun h8623 k => ?_)
  · show Zm E YX8_ways (d + 1) (sl (sl (sl M 97 143 (0 : Int64)) 97 144 (0 : Int64)) 97 144 ((0 : Int64) ||| (zls (1 : Int64) (l3 - (64 : Int32))))) [(0, vr (some (97, 1, 0))), (1, vi l1), (4, vi l4)] 291 [] Q
    refine sX8_ways_291 (d := d) (sl (sl (sl M 97 143 (0 : Int64)) 97 144 (0 : Int64)) 97 144 ((0 : Int64) ||| (zls (1 : Int64) (l3 - (64 : Int32))))) l1 l4 ?_
    refine zand k (fun h8624 k => ?_)
    refine ⟨h8624, ?_⟩
    refine jX8_fromTop (d := d) (sl (sl (sl M 97 143 (0 : Int64)) 97 144 (0 : Int64)) 97 144 ((0 : Int64) ||| (zls (1 : Int64) (l3 - (64 : Int32))))) (0 : Int32) ?_
    refine zand k (fun h8625 k => ?_)
    show Zm E YX8_ways (d + 1) (sl (sl (sl M 97 143 (0 : Int64)) 97 144 (0 : Int64)) 97 144 ((0 : Int64) ||| (zls (1 : Int64) (l3 - (64 : Int32))))) [(0, vr (some (97, 1, 0))), (1, vi l1)] 311 [vi ((((gi M 172 ((639 : Int32)).toNatClampNeg) + (gi M 171 ((639 : Int32)).toNatClampNeg)) - (1 : Int32)) - (0 : Int32)), vl (gl M 167 (l4).toNatClampNeg), vl (gl M 166 (l4).toNatClampNeg), vr (some (97, 1, 0))] Q
    refine sX8_ways_311 (d := d) (sl (sl (sl M 97 143 (0 : Int64)) 97 144 (0 : Int64)) 97 144 ((0 : Int64) ||| (zls (1 : Int64) (l3 - (64 : Int32))))) l1 ((((gi M 172 ((639 : Int32)).toNatClampNeg) + (gi M 171 ((639 : Int32)).toNatClampNeg)) - (1 : Int32)) - (0 : Int32)) (gl M 167 (l4).toNatClampNeg) (gl M 166 (l4).toNatClampNeg) ?_
    exact k
  · show Zm E YX8_ways (d + 1) (sl (sl (sl M 97 143 (0 : Int64)) 97 144 (0 : Int64)) 97 143 ((0 : Int64) ||| (zls (1 : Int64) l3))) [(0, vr (some (97, 1, 0))), (1, vi l1), (4, vi l4)] 291 [] Q
    refine sX8_ways_291 (d := d) (sl (sl (sl M 97 143 (0 : Int64)) 97 144 (0 : Int64)) 97 143 ((0 : Int64) ||| (zls (1 : Int64) l3))) l1 l4 ?_
    refine zand k (fun h8626 k => ?_)
    refine ⟨h8626, ?_⟩
    refine jX8_fromTop (d := d) (sl (sl (sl M 97 143 (0 : Int64)) 97 144 (0 : Int64)) 97 143 ((0 : Int64) ||| (zls (1 : Int64) l3))) (0 : Int32) ?_
    refine zand k (fun h8627 k => ?_)
    show Zm E YX8_ways (d + 1) (sl (sl (sl M 97 143 (0 : Int64)) 97 144 (0 : Int64)) 97 143 ((0 : Int64) ||| (zls (1 : Int64) l3))) [(0, vr (some (97, 1, 0))), (1, vi l1)] 311 [vi ((((gi M 172 ((639 : Int32)).toNatClampNeg) + (gi M 171 ((639 : Int32)).toNatClampNeg)) - (1 : Int32)) - (0 : Int32)), vl (gl M 167 (l4).toNatClampNeg), vl (gl M 166 (l4).toNatClampNeg), vr (some (97, 1, 0))] Q
    refine sX8_ways_311 (d := d) (sl (sl (sl M 97 143 (0 : Int64)) 97 144 (0 : Int64)) 97 143 ((0 : Int64) ||| (zls (1 : Int64) l3))) l1 ((((gi M 172 ((639 : Int32)).toNatClampNeg) + (gi M 171 ((639 : Int32)).toNatClampNeg)) - (1 : Int32)) - (0 : Int32)) (gl M 167 (l4).toNatClampNeg) (gl M 166 (l4).toNatClampNeg) ?_
    exact k
theorem iX8_ways_350 {E : zE} {d : Nat} {Q : zO → zM → Prop} (M : zM) (l1 : Int32) (l3 : Int32) (k : if (64 : Int32) ≤ l3 then (vp_in (639 : Int32) 640 ∧ (Zm E YX8_writeTo d (sl M 97 144 ((gl M 97 144) ||| (zls (1 : Int64) (l3 - (64 : Int32))))) (zargs 0 [vr (some (97, 1, 0)), vl (1 : Int64), vl (0 : Int64), vi ((((gi M 172 ((639 : Int32)).toNatClampNeg) + (gi M 171 ((639 : Int32)).toNatClampNeg)) - (1 : Int32)) - (0 : Int32)), vi (1 : Int32), vi (0 : Int32)]) 0 [] (zma E YX8_ways (d + 1) [(0, vr (some (97, 1, 0))), (1, vi l1)] 365 3 [] Q))) else (vp_in (639 : Int32) 640 ∧ (Zm E YX8_writeTo d (sl M 97 143 ((gl M 97 143) ||| (zls (1 : Int64) l3))) (zargs 0 [vr (some (97, 1, 0)), vl (1 : Int64), vl (0 : Int64), vi ((((gi M 172 ((639 : Int32)).toNatClampNeg) + (gi M 171 ((639 : Int32)).toNatClampNeg)) - (1 : Int32)) - (0 : Int32)), vi (1 : Int32), vi (0 : Int32)]) 0 [] (zma E YX8_ways (d + 1) [(0, vr (some (97, 1, 0))), (1, vi l1)] 365 3 [] Q)))) : Zm E YX8_ways (d + 1) M [(0, vr (some (97, 1, 0))), (1, vi l1), (3, vi l3)] 350 [] Q := by
  refine sX8_ways_350 (d := d) M l1 l3 ?_
  refine sX8_addKey_0 (d := d) M l3 ?_
  refine zite k (fun h8628 k => ?_) (fun h8628 k => ?_)
  · show Zm E YX8_ways (d + 1) (sl M 97 144 ((gl M 97 144) ||| (zls (1 : Int64) (l3 - (64 : Int32))))) [(0, vr (some (97, 1, 0))), (1, vi l1)] 355 [] Q
    refine sX8_ways_355 (d := d) (sl M 97 144 ((gl M 97 144) ||| (zls (1 : Int64) (l3 - (64 : Int32))))) l1 ?_
    refine jX8_fromTop (d := d) (sl M 97 144 ((gl M 97 144) ||| (zls (1 : Int64) (l3 - (64 : Int32))))) (0 : Int32) ?_
    refine zand k (fun h8629 k => ?_)
    show Zm E YX8_ways (d + 1) (sl M 97 144 ((gl M 97 144) ||| (zls (1 : Int64) (l3 - (64 : Int32))))) [(0, vr (some (97, 1, 0))), (1, vi l1)] 363 [vi ((((gi M 172 ((639 : Int32)).toNatClampNeg) + (gi M 171 ((639 : Int32)).toNatClampNeg)) - (1 : Int32)) - (0 : Int32)), vl (0 : Int64), vl (1 : Int64), vr (some (97, 1, 0))] Q
    refine sX8_ways_363 (d := d) (sl M 97 144 ((gl M 97 144) ||| (zls (1 : Int64) (l3 - (64 : Int32))))) l1 ((((gi M 172 ((639 : Int32)).toNatClampNeg) + (gi M 171 ((639 : Int32)).toNatClampNeg)) - (1 : Int32)) - (0 : Int32)) (0 : Int64) (1 : Int64) ?_
    exact k
  · show Zm E YX8_ways (d + 1) (sl M 97 143 ((gl M 97 143) ||| (zls (1 : Int64) l3))) [(0, vr (some (97, 1, 0))), (1, vi l1)] 355 [] Q
    refine sX8_ways_355 (d := d) (sl M 97 143 ((gl M 97 143) ||| (zls (1 : Int64) l3))) l1 ?_
    refine jX8_fromTop (d := d) (sl M 97 143 ((gl M 97 143) ||| (zls (1 : Int64) l3))) (0 : Int32) ?_
    refine zand k (fun h8630 k => ?_)
    show Zm E YX8_ways (d + 1) (sl M 97 143 ((gl M 97 143) ||| (zls (1 : Int64) l3))) [(0, vr (some (97, 1, 0))), (1, vi l1)] 363 [vi ((((gi M 172 ((639 : Int32)).toNatClampNeg) + (gi M 171 ((639 : Int32)).toNatClampNeg)) - (1 : Int32)) - (0 : Int32)), vl (0 : Int64), vl (1 : Int64), vr (some (97, 1, 0))] Q
    refine sX8_ways_363 (d := d) (sl M 97 143 ((gl M 97 143) ||| (zls (1 : Int64) l3))) l1 ((((gi M 172 ((639 : Int32)).toNatClampNeg) + (gi M 171 ((639 : Int32)).toNatClampNeg)) - (1 : Int32)) - (0 : Int32)) (0 : Int64) (1 : Int64) ?_
    exact k
theorem iX8_ways_190 {E : zE} {d : Nat} {Q : zO → zM → Prop} (M : zM) (l1 : Int32) (l3 : Int32) (l4 : Int32) (l5 : Int32) (k : if (gi M 97 71) ≤ l5 then (Zm E YX8_pushSet (d + 1) M (zargs 0 [vr (some (97, 1, 0))]) 0 [] (zma E YX8_ways ((d + 1) + 1) [(0, vr (some (97, 1, 0))), (1, vi l1), (4, vi l4)] 251 3 [vi (l4 + (1 : Int32)), vr (some (97, 1, 0))] Q)) else (vp_in l4 647800 ∧ (if (64 : Int32) ≤ l5 then (if (lg_cmp ((zlr (gl M 167 (l4).toNatClampNeg) (l5 - (64 : Int32))) &&& (1 : Int64)) (1 : Int64)) = 0 then (Zm E YX8_joinPlain (d + 1) M (zargs 0 [vr (some (97, 1, 0)), vi (((635640 : Int32) + (l5 * ((gi M 97 8) + (1 : Int32)))) + l3), vi (l4 + (1 : Int32))]) 0 [] (zma E YX8_ways ((d + 1) + 1) [(0, vr (some (97, 1, 0))), (1, vi l1), (3, vi l3), (4, vi l4), (5, vi l5)] 236 3 [] Q)) else (Zm E YX8_ways ((d + 1) + 1) M [(0, vr (some (97, 1, 0))), (1, vi l1), (3, vi l3), (4, vi l4), (5, vi (l5 + (1 : Int32)))] 190 [] Q)) else (if (lg_cmp ((zlr (gl M 166 (l4).toNatClampNeg) l5) &&& (1 : Int64)) (1 : Int64)) = 0 then (Zm E YX8_joinPlain (d + 1) M (zargs 0 [vr (some (97, 1, 0)), vi (((635640 : Int32) + (l5 * ((gi M 97 8) + (1 : Int32)))) + l3), vi (l4 + (1 : Int32))]) 0 [] (zma E YX8_ways ((d + 1) + 1) [(0, vr (some (97, 1, 0))), (1, vi l1), (3, vi l3), (4, vi l4), (5, vi l5)] 236 3 [] Q)) else (Zm E YX8_ways ((d + 1) + 1) M [(0, vr (some (97, 1, 0))), (1, vi l1), (3, vi l3), (4, vi l4), (5, vi (l5 + (1 : Int32)))] 190 [] Q))))) : Zm E YX8_ways (d + 2) M [(0, vr (some (97, 1, 0))), (1, vi l1), (3, vi l3), (4, vi l4), (5, vi l5)] 190 [] Q := by
  refine sX8_ways_190 (d := (d + 1)) M l1 l3 l4 l5 ?_
  refine zite k (fun h8643 k => ?_) (fun h8643 k => ?_)
  · exact k
  · refine zand k (fun h8644 k => ?_)
    refine ⟨h8644, ?_⟩
    refine jX8_isIn (d := (d + 1)) M (gl M 166 (l4).toNatClampNeg) (gl M 167 (l4).toNatClampNeg) l5 ?_
    refine zite k (fun h8645 k => ?_) (fun h8645 k => ?_)
    · refine zite k (fun h8646 k => ?_) (fun h8646 k => ?_)
      · show Zm E YX8_ways ((d + 1) + 1) M [(0, vr (some (97, 1, 0))), (1, vi l1), (3, vi l3), (4, vi l4), (5, vi l5)] 218 [vi (1 : Int32)] Q
        refine sX8_ways_218 (d := (d + 1)) M l1 l3 l4 l5 (1 : Int32) ?_
        refine zneg (show ¬ ((1 : Int32) = 0) from by decide) ?_
        refine jX8_field (d := d) M (639 : Int32) l5 l3 ?_
        refine zpos (show (639 : Int32) = (639 : Int32) from by decide) ?_
        show Zm E YX8_ways ((d + 1) + 1) M [(0, vr (some (97, 1, 0))), (1, vi l1), (3, vi l3), (4, vi l4), (5, vi l5)] 232 [vi (((635640 : Int32) + (l5 * ((gi M 97 8) + (1 : Int32)))) + l3), vr (some (97, 1, 0))] Q
        refine sX8_ways_232 (d := (d + 1)) M l1 l3 l4 l5 (((635640 : Int32) + (l5 * ((gi M 97 8) + (1 : Int32)))) + l3) ?_
        exact k
      · show Zm E YX8_ways ((d + 1) + 1) M [(0, vr (some (97, 1, 0))), (1, vi l1), (3, vi l3), (4, vi l4), (5, vi l5)] 218 [vi (0 : Int32)] Q
        refine sX8_ways_218 (d := (d + 1)) M l1 l3 l4 l5 (0 : Int32) ?_
        refine zpos (show (0 : Int32) = 0 from by decide) ?_
        refine sX8_ways_239 (d := (d + 1)) M l1 l3 l4 l5 ?_
        exact k
    · refine zite k (fun h8647 k => ?_) (fun h8647 k => ?_)
      · show Zm E YX8_ways ((d + 1) + 1) M [(0, vr (some (97, 1, 0))), (1, vi l1), (3, vi l3), (4, vi l4), (5, vi l5)] 218 [vi (1 : Int32)] Q
        refine sX8_ways_218 (d := (d + 1)) M l1 l3 l4 l5 (1 : Int32) ?_
        refine zneg (show ¬ ((1 : Int32) = 0) from by decide) ?_
        refine jX8_field (d := d) M (639 : Int32) l5 l3 ?_
        refine zpos (show (639 : Int32) = (639 : Int32) from by decide) ?_
        show Zm E YX8_ways ((d + 1) + 1) M [(0, vr (some (97, 1, 0))), (1, vi l1), (3, vi l3), (4, vi l4), (5, vi l5)] 232 [vi (((635640 : Int32) + (l5 * ((gi M 97 8) + (1 : Int32)))) + l3), vr (some (97, 1, 0))] Q
        refine sX8_ways_232 (d := (d + 1)) M l1 l3 l4 l5 (((635640 : Int32) + (l5 * ((gi M 97 8) + (1 : Int32)))) + l3) ?_
        exact k
      · show Zm E YX8_ways ((d + 1) + 1) M [(0, vr (some (97, 1, 0))), (1, vi l1), (3, vi l3), (4, vi l4), (5, vi l5)] 218 [vi (0 : Int32)] Q
        refine sX8_ways_218 (d := (d + 1)) M l1 l3 l4 l5 (0 : Int32) ?_
        refine zpos (show (0 : Int32) = 0 from by decide) ?_
        refine sX8_ways_239 (d := (d + 1)) M l1 l3 l4 l5 ?_
        exact k
theorem iX8_ways_387 {E : zE} {d : Nat} {Q : zO → zM → Prop} (M : zM) (l1 : Int32) (s0 : Int32) (s1 : Int32) (k : vp_in s1 647800 ∧ (vp_in s0 647800 ∧ (Zm E YX8_on d (sl (sl (sl M 165 (s0).toNatClampNeg (gl M 165 (s1).toNatClampNeg)) 166 (s0).toNatClampNeg (gl M 166 (s1).toNatClampNeg)) 167 (s0).toNatClampNeg (gl M 167 (s1).toNatClampNeg)) (zargs 0 [vr (some (97, 1, 0))]) 0 [] (zma E YX8_ways (d + 1) [(0, vr (some (97, 1, 0))), (1, vi l1)] 391 3 [] Q)))) : Zm E YX8_ways (d + 1) M [(0, vr (some (97, 1, 0))), (1, vi l1)] 387 [vi s0, vi s1, vr (some (97, 1, 0))] Q := by
  refine sX8_ways_387 (d := d) M l1 s0 s1 ?_
  refine jX8_copySet (d := d) M s1 s0 ?_
  refine zand k (fun h8648 k => ?_)
  refine zand k (fun h8649 k => ?_)
  show Zm E YX8_ways (d + 1) (sl (sl (sl M 165 (s0).toNatClampNeg (gl M 165 (s1).toNatClampNeg)) 166 (s0).toNatClampNeg (gl M 166 (s1).toNatClampNeg)) 167 (s0).toNatClampNeg (gl M 167 (s1).toNatClampNeg)) [(0, vr (some (97, 1, 0))), (1, vi l1)] 390 [] Q
  refine sX8_ways_390 (d := d) (sl (sl (sl M 165 (s0).toNatClampNeg (gl M 165 (s1).toNatClampNeg)) 166 (s0).toNatClampNeg (gl M 166 (s1).toNatClampNeg)) 167 (s0).toNatClampNeg (gl M 167 (s1).toNatClampNeg)) l1 ?_
  exact k
theorem iX8_ways_426 {E : zE} {d : Nat} {Q : zO → zM → Prop} (M : zM) (l1 : Int32) (l5 : Int32) (k : vp_in l1 600 ∧ (if (gi M 123 (l1).toNatClampNeg) = (8 : Int32) then (vp_in (((635640 : Int32) + (l5 * ((gi M 97 8) + (1 : Int32)))) + (0 : Int32)) 647800 ∧ (Zm E YX8_addNumber (d + 2) (sl (sl (sl M 165 ((((635640 : Int32) + (l5 * ((gi M 97 8) + (1 : Int32)))) + (0 : Int32))).toNatClampNeg (0 : Int64)) 166 ((((635640 : Int32) + (l5 * ((gi M 97 8) + (1 : Int32)))) + (0 : Int32))).toNatClampNeg (0 : Int64)) 167 ((((635640 : Int32) + (l5 * ((gi M 97 8) + (1 : Int32)))) + (0 : Int32))).toNatClampNeg (0 : Int64)) (zargs 0 [vr (some (97, 1, 0)), vi (((635640 : Int32) + (l5 * ((gi M 97 8) + (1 : Int32)))) + (0 : Int32)), vi (0 : Int32)]) 0 [] (zma E YX8_ways ((d + 2) + 1) [(0, vr (some (97, 1, 0))), (1, vi l1), (5, vi l5)] 446 3 [] Q))) else (Zm E YX8_pushSet (d + 2) M (zargs 0 [vr (some (97, 1, 0))]) 0 [] (zma E YX8_ways ((d + 2) + 1) [(0, vr (some (97, 1, 0))), (1, vi l1), (5, vi l5)] 451 3 [vr (some (97, 1, 0))] Q)))) : Zm E YX8_ways (d + 3) M [(0, vr (some (97, 1, 0))), (1, vi l1), (5, vi l5)] 426 [] Q := by
  refine sX8_ways_426 (d := (d + 2)) M l1 l5 ?_
  refine zand k (fun h8652 k => ?_)
  refine zite k (fun h8653 k => ?_) (fun h8653 k => ?_)
  · refine jX8_fresh_2 (d := d) M l5 (0 : Int32) ?_
    refine zand k (fun h8654 k => ?_)
    show Zm E YX8_ways ((d + 2) + 1) (sl (sl (sl M 165 ((((635640 : Int32) + (l5 * ((gi M 97 8) + (1 : Int32)))) + (0 : Int32))).toNatClampNeg (0 : Int64)) 166 ((((635640 : Int32) + (l5 * ((gi M 97 8) + (1 : Int32)))) + (0 : Int32))).toNatClampNeg (0 : Int64)) 167 ((((635640 : Int32) + (l5 * ((gi M 97 8) + (1 : Int32)))) + (0 : Int32))).toNatClampNeg (0 : Int64)) [(0, vr (some (97, 1, 0))), (1, vi l1), (5, vi l5)] 445 [vi (((635640 : Int32) + (l5 * ((gi M 97 8) + (1 : Int32)))) + (0 : Int32)), vr (some (97, 1, 0))] Q
    refine sX8_ways_445 (d := (d + 2)) (sl (sl (sl M 165 ((((635640 : Int32) + (l5 * ((gi M 97 8) + (1 : Int32)))) + (0 : Int32))).toNatClampNeg (0 : Int64)) 166 ((((635640 : Int32) + (l5 * ((gi M 97 8) + (1 : Int32)))) + (0 : Int32))).toNatClampNeg (0 : Int64)) 167 ((((635640 : Int32) + (l5 * ((gi M 97 8) + (1 : Int32)))) + (0 : Int32))).toNatClampNeg (0 : Int64)) l1 l5 (((635640 : Int32) + (l5 * ((gi M 97 8) + (1 : Int32)))) + (0 : Int32)) ?_
    exact k
  · refine sX8_ways_449 (d := (d + 2)) M l1 l5 ?_
    exact k
theorem iX8_ways_495 {E : zE} {d : Nat} {Q : zO → zM → Prop} (M : zM) (l1 : Int32) (l5 : Int32) (k : vp_in (639 : Int32) 640 ∧ (vp_in ((15000 : Int32) + l5) 15128 ∧ (vp_in (((635640 : Int32) + (l5 * ((gi M 97 8) + (1 : Int32)))) + (1 : Int32)) 647800 ∧ (Zm E YX8_addLabel (d + 2) (sl (sl (sl (sl (sl M 182 (((15000 : Int32) + l5)).toNatClampNeg (gl M 173 ((639 : Int32)).toNatClampNeg)) 183 (((15000 : Int32) + l5)).toNatClampNeg (gl M 174 ((639 : Int32)).toNatClampNeg)) 165 ((((635640 : Int32) + (l5 * ((gi M 97 8) + (1 : Int32)))) + (1 : Int32))).toNatClampNeg (0 : Int64)) 166 ((((635640 : Int32) + (l5 * ((gi M 97 8) + (1 : Int32)))) + (1 : Int32))).toNatClampNeg (0 : Int64)) 167 ((((635640 : Int32) + (l5 * ((gi M 97 8) + (1 : Int32)))) + (1 : Int32))).toNatClampNeg (0 : Int64)) (zargs 0 [vr (some (97, 1, 0)), vi (((635640 : Int32) + (l5 * ((gi M 97 8) + (1 : Int32)))) + (1 : Int32)), vi (l5 + (2 : Int32))]) 0 [] (zma E YX8_ways ((d + 2) + 1) [(0, vr (some (97, 1, 0))), (1, vi l1), (5, vi l5)] 551 3 [] Q))))) : Zm E YX8_ways (d + 3) M [(0, vr (some (97, 1, 0))), (1, vi l1), (5, vi l5)] 495 [] Q := by
  refine sX8_ways_495 (d := (d + 2)) M l1 l5 ?_
  refine jX8_of (d := (d + 1)) M (639 : Int32) l5 ?_
  refine zpos (show (639 : Int32) = (639 : Int32) from by decide) ?_
  show Zm E YX8_ways ((d + 2) + 1) M [(0, vr (some (97, 1, 0))), (1, vi l1), (5, vi l5)] 508 [vi ((15000 : Int32) + l5), vr (some (182, 105, 15128))] Q
  refine sX8_ways_508 (d := (d + 2)) M l1 l5 ((15000 : Int32) + l5) ?_
  refine zand k (fun h8657 k => ?_)
  refine zand k (fun h8658 k => ?_)
  refine jX8_of (d := (d + 1)) (sl M 182 (((15000 : Int32) + l5)).toNatClampNeg (gl M 173 ((639 : Int32)).toNatClampNeg)) (639 : Int32) l5 ?_
  refine zpos (show (639 : Int32) = (639 : Int32) from by decide) ?_
  show Zm E YX8_ways ((d + 2) + 1) (sl M 182 (((15000 : Int32) + l5)).toNatClampNeg (gl M 173 ((639 : Int32)).toNatClampNeg)) [(0, vr (some (97, 1, 0))), (1, vi l1), (5, vi l5)] 530 [vi ((15000 : Int32) + l5), vr (some (183, 105, 15128))] Q
  refine sX8_ways_530 (d := (d + 2)) (sl M 182 (((15000 : Int32) + l5)).toNatClampNeg (gl M 173 ((639 : Int32)).toNatClampNeg)) l1 l5 ((15000 : Int32) + l5) ?_
  refine ⟨h8657, ?_⟩
  refine ⟨h8658, ?_⟩
  refine jX8_fresh_2 (d := d) (sl (sl M 182 (((15000 : Int32) + l5)).toNatClampNeg (gl M 173 ((639 : Int32)).toNatClampNeg)) 183 (((15000 : Int32) + l5)).toNatClampNeg (gl M 174 ((639 : Int32)).toNatClampNeg)) l5 (1 : Int32) ?_
  refine zand k (fun h8659 k => ?_)
  show Zm E YX8_ways ((d + 2) + 1) (sl (sl (sl (sl (sl M 182 (((15000 : Int32) + l5)).toNatClampNeg (gl M 173 ((639 : Int32)).toNatClampNeg)) 183 (((15000 : Int32) + l5)).toNatClampNeg (gl M 174 ((639 : Int32)).toNatClampNeg)) 165 ((((635640 : Int32) + (l5 * ((gi M 97 8) + (1 : Int32)))) + (1 : Int32))).toNatClampNeg (0 : Int64)) 166 ((((635640 : Int32) + (l5 * ((gi M 97 8) + (1 : Int32)))) + (1 : Int32))).toNatClampNeg (0 : Int64)) 167 ((((635640 : Int32) + (l5 * ((gi M 97 8) + (1 : Int32)))) + (1 : Int32))).toNatClampNeg (0 : Int64)) [(0, vr (some (97, 1, 0))), (1, vi l1), (5, vi l5)] 547 [vi (((635640 : Int32) + (l5 * ((gi M 97 8) + (1 : Int32)))) + (1 : Int32)), vr (some (97, 1, 0))] Q
  refine sX8_ways_547 (d := (d + 2)) (sl (sl (sl (sl (sl M 182 (((15000 : Int32) + l5)).toNatClampNeg (gl M 173 ((639 : Int32)).toNatClampNeg)) 183 (((15000 : Int32) + l5)).toNatClampNeg (gl M 174 ((639 : Int32)).toNatClampNeg)) 165 ((((635640 : Int32) + (l5 * ((gi M 97 8) + (1 : Int32)))) + (1 : Int32))).toNatClampNeg (0 : Int64)) 166 ((((635640 : Int32) + (l5 * ((gi M 97 8) + (1 : Int32)))) + (1 : Int32))).toNatClampNeg (0 : Int64)) 167 ((((635640 : Int32) + (l5 * ((gi M 97 8) + (1 : Int32)))) + (1 : Int32))).toNatClampNeg (0 : Int64)) l1 l5 (((635640 : Int32) + (l5 * ((gi M 97 8) + (1 : Int32)))) + (1 : Int32)) ?_
  exact k
theorem iX8_ways_153 {E : zE} {d : Nat} {Q : zO → zM → Prop} (M : zM) (l1 : Int32) (s0 : Int32) (s1 : Int32) (k : vp_in s1 647800 ∧ (vp_in s0 647800 ∧ (Zm E YX8_on d (sl (sl (sl M 165 (s0).toNatClampNeg (gl M 165 (s1).toNatClampNeg)) 166 (s0).toNatClampNeg (gl M 166 (s1).toNatClampNeg)) 167 (s0).toNatClampNeg (gl M 167 (s1).toNatClampNeg)) (zargs 0 [vr (some (97, 1, 0))]) 0 [] (zma E YX8_ways (d + 1) [(0, vr (some (97, 1, 0))), (1, vi l1)] 157 3 [] Q)))) : Zm E YX8_ways (d + 1) M [(0, vr (some (97, 1, 0))), (1, vi l1)] 153 [vi s0, vi s1, vr (some (97, 1, 0))] Q := by
  refine sX8_ways_153 (d := d) M l1 s0 s1 ?_
  refine jX8_copySet (d := d) M s1 s0 ?_
  refine zand k (fun h8662 k => ?_)
  refine zand k (fun h8663 k => ?_)
  show Zm E YX8_ways (d + 1) (sl (sl (sl M 165 (s0).toNatClampNeg (gl M 165 (s1).toNatClampNeg)) 166 (s0).toNatClampNeg (gl M 166 (s1).toNatClampNeg)) 167 (s0).toNatClampNeg (gl M 167 (s1).toNatClampNeg)) [(0, vr (some (97, 1, 0))), (1, vi l1)] 156 [] Q
  refine sX8_ways_156 (d := d) (sl (sl (sl M 165 (s0).toNatClampNeg (gl M 165 (s1).toNatClampNeg)) 166 (s0).toNatClampNeg (gl M 166 (s1).toNatClampNeg)) 167 (s0).toNatClampNeg (gl M 167 (s1).toNatClampNeg)) l1 ?_
  exact k
theorem iX8_ways_254 {E : zE} {d : Nat} {Q : zO → zM → Prop} (M : zM) (l1 : Int32) (l4 : Int32) (s0 : Int32) (s1 : Int32) (k : vp_in s1 647800 ∧ (vp_in s0 647800 ∧ (vp_in (l4 + (1 : Int32)) 647800 ∧ (if ((((gl (sl M 165 (s0).toNatClampNeg (gl M 165 (s1).toNatClampNeg)) 165 ((l4 + (1 : Int32))).toNatClampNeg) &&& (1023 : Int64))).toInt32 &&& (-513 : Int32)) = 0 then (if (lg_cmp ((gl (sl (sl M 165 (s0).toNatClampNeg (gl M 165 (s1).toNatClampNeg)) 166 (s0).toNatClampNeg (gl M 166 (s1).toNatClampNeg)) 166 ((l4 + (1 : Int32))).toNatClampNeg) ||| (gl (sl (sl (sl M 165 (s0).toNatClampNeg (gl M 165 (s1).toNatClampNeg)) 166 (s0).toNatClampNeg (gl M 166 (s1).toNatClampNeg)) 167 (s0).toNatClampNeg (gl M 167 (s1).toNatClampNeg)) 167 ((l4 + (1 : Int32))).toNatClampNeg)) (0 : Int64)) = 0 then (Zm E YX8_ways ((d + 2) + 1) (sl (sl (sl M 165 (s0).toNatClampNeg (gl M 165 (s1).toNatClampNeg)) 166 (s0).toNatClampNeg (gl M 166 (s1).toNatClampNeg)) 167 (s0).toNatClampNeg (gl M 167 (s1).toNatClampNeg)) [(0, vr (some (97, 1, 0))), (1, vi l1)] 665 [] Q) else (Zm E YX8_on (d + 2) (sl (sl (sl M 165 (s0).toNatClampNeg (gl M 165 (s1).toNatClampNeg)) 166 (s0).toNatClampNeg (gl M 166 (s1).toNatClampNeg)) 167 (s0).toNatClampNeg (gl M 167 (s1).toNatClampNeg)) (zargs 0 [vr (some (97, 1, 0))]) 0 [] (zma E YX8_ways ((d + 2) + 1) [(0, vr (some (97, 1, 0))), (1, vi l1)] 269 3 [] Q))) else (Zm E YX8_on (d + 2) (sl (sl (sl M 165 (s0).toNatClampNeg (gl M 165 (s1).toNatClampNeg)) 166 (s0).toNatClampNeg (gl M 166 (s1).toNatClampNeg)) 167 (s0).toNatClampNeg (gl M 167 (s1).toNatClampNeg)) (zargs 0 [vr (some (97, 1, 0))]) 0 [] (zma E YX8_ways ((d + 2) + 1) [(0, vr (some (97, 1, 0))), (1, vi l1)] 269 3 [] Q)))))) : Zm E YX8_ways (d + 3) M [(0, vr (some (97, 1, 0))), (1, vi l1), (4, vi l4)] 254 [vi s0, vi s1, vr (some (97, 1, 0))] Q := by
  refine sX8_ways_254 (d := (d + 2)) M l1 l4 s0 s1 ?_
  refine jX8_copySet (d := (d + 2)) M s1 s0 ?_
  refine zand k (fun h8666 k => ?_)
  refine zand k (fun h8667 k => ?_)
  show Zm E YX8_ways ((d + 2) + 1) (sl (sl (sl M 165 (s0).toNatClampNeg (gl M 165 (s1).toNatClampNeg)) 166 (s0).toNatClampNeg (gl M 166 (s1).toNatClampNeg)) 167 (s0).toNatClampNeg (gl M 167 (s1).toNatClampNeg)) [(0, vr (some (97, 1, 0))), (1, vi l1), (4, vi l4)] 257 [] Q
  refine sX8_ways_257 (d := (d + 2)) (sl (sl (sl M 165 (s0).toNatClampNeg (gl M 165 (s1).toNatClampNeg)) 166 (s0).toNatClampNeg (gl M 166 (s1).toNatClampNeg)) 167 (s0).toNatClampNeg (gl M 167 (s1).toNatClampNeg)) l1 l4 ?_
  refine jX8_isEmpty (d := d) (sl (sl (sl M 165 (s0).toNatClampNeg (gl M 165 (s1).toNatClampNeg)) 166 (s0).toNatClampNeg (gl M 166 (s1).toNatClampNeg)) 167 (s0).toNatClampNeg (gl M 167 (s1).toNatClampNeg)) (l4 + (1 : Int32)) ?_
  refine zand k (fun h8668 k => ?_)
  refine zite k (fun h8669 k => ?_) (fun h8669 k => ?_)
  · refine zite k (fun h8670 k => ?_) (fun h8670 k => ?_)
    · show Zm E YX8_ways ((d + 2) + 1) (sl (sl (sl M 165 (s0).toNatClampNeg (gl M 165 (s1).toNatClampNeg)) 166 (s0).toNatClampNeg (gl M 166 (s1).toNatClampNeg)) 167 (s0).toNatClampNeg (gl M 167 (s1).toNatClampNeg)) [(0, vr (some (97, 1, 0))), (1, vi l1)] 265 [vi (1 : Int32)] Q
      refine sX8_ways_265 (d := (d + 2)) (sl (sl (sl M 165 (s0).toNatClampNeg (gl M 165 (s1).toNatClampNeg)) 166 (s0).toNatClampNeg (gl M 166 (s1).toNatClampNeg)) 167 (s0).toNatClampNeg (gl M 167 (s1).toNatClampNeg)) l1 (1 : Int32) ?_
      refine zneg (show ¬ ((1 : Int32) = 0) from by decide) ?_
      exact k
    · show Zm E YX8_ways ((d + 2) + 1) (sl (sl (sl M 165 (s0).toNatClampNeg (gl M 165 (s1).toNatClampNeg)) 166 (s0).toNatClampNeg (gl M 166 (s1).toNatClampNeg)) 167 (s0).toNatClampNeg (gl M 167 (s1).toNatClampNeg)) [(0, vr (some (97, 1, 0))), (1, vi l1)] 265 [vi (0 : Int32)] Q
      refine sX8_ways_265 (d := (d + 2)) (sl (sl (sl M 165 (s0).toNatClampNeg (gl M 165 (s1).toNatClampNeg)) 166 (s0).toNatClampNeg (gl M 166 (s1).toNatClampNeg)) 167 (s0).toNatClampNeg (gl M 167 (s1).toNatClampNeg)) l1 (0 : Int32) ?_
      refine zpos (show (0 : Int32) = 0 from by decide) ?_
      exact k
  · show Zm E YX8_ways ((d + 2) + 1) (sl (sl (sl M 165 (s0).toNatClampNeg (gl M 165 (s1).toNatClampNeg)) 166 (s0).toNatClampNeg (gl M 166 (s1).toNatClampNeg)) 167 (s0).toNatClampNeg (gl M 167 (s1).toNatClampNeg)) [(0, vr (some (97, 1, 0))), (1, vi l1)] 265 [vi (0 : Int32)] Q
    refine sX8_ways_265 (d := (d + 2)) (sl (sl (sl M 165 (s0).toNatClampNeg (gl M 165 (s1).toNatClampNeg)) 166 (s0).toNatClampNeg (gl M 166 (s1).toNatClampNeg)) 167 (s0).toNatClampNeg (gl M 167 (s1).toNatClampNeg)) l1 (0 : Int32) ?_
    refine zpos (show (0 : Int32) = 0 from by decide) ?_
    exact k
theorem iX8_ways_454 {E : zE} {d : Nat} {Q : zO → zM → Prop} (M : zM) (l1 : Int32) (l5 : Int32) (s0 : Int32) (k : if (64 : Int32) ≤ l5 then (vp_in s0 647800 ∧ (Zm E YX8_on d (sl M 167 (s0).toNatClampNeg ((gl M 167 (s0).toNatClampNeg) ||| (zls (1 : Int64) (l5 - (64 : Int32))))) (zargs 0 [vr (some (97, 1, 0))]) 0 [] (zma E YX8_ways (d + 1) [(0, vr (some (97, 1, 0))), (1, vi l1)] 460 3 [] Q))) else (vp_in s0 647800 ∧ (Zm E YX8_on d (sl M 166 (s0).toNatClampNeg ((gl M 166 (s0).toNatClampNeg) ||| (zls (1 : Int64) l5))) (zargs 0 [vr (some (97, 1, 0))]) 0 [] (zma E YX8_ways (d + 1) [(0, vr (some (97, 1, 0))), (1, vi l1)] 460 3 [] Q)))) : Zm E YX8_ways (d + 1) M [(0, vr (some (97, 1, 0))), (1, vi l1), (5, vi l5)] 454 [vi s0, vr (some (97, 1, 0))] Q := by
  refine sX8_ways_454 (d := d) M l1 l5 s0 ?_
  refine jX8_addLabel (d := d) M s0 l5 ?_
  refine zite k (fun h8671 k => ?_) (fun h8671 k => ?_)
  · refine zand k (fun h8672 k => ?_)
    show Zm E YX8_ways (d + 1) (sl M 167 (s0).toNatClampNeg ((gl M 167 (s0).toNatClampNeg) ||| (zls (1 : Int64) (l5 - (64 : Int32))))) [(0, vr (some (97, 1, 0))), (1, vi l1)] 459 [] Q
    refine sX8_ways_459 (d := d) (sl M 167 (s0).toNatClampNeg ((gl M 167 (s0).toNatClampNeg) ||| (zls (1 : Int64) (l5 - (64 : Int32))))) l1 ?_
    exact k
  · refine zand k (fun h8673 k => ?_)
    show Zm E YX8_ways (d + 1) (sl M 166 (s0).toNatClampNeg ((gl M 166 (s0).toNatClampNeg) ||| (zls (1 : Int64) l5))) [(0, vr (some (97, 1, 0))), (1, vi l1)] 459 [] Q
    refine sX8_ways_459 (d := d) (sl M 166 (s0).toNatClampNeg ((gl M 166 (s0).toNatClampNeg) ||| (zls (1 : Int64) l5))) l1 ?_
    exact k
theorem iX8_ways_554 {E : zE} {d : Nat} {Q : zO → zM → Prop} (M : zM) (l1 : Int32) (l5 : Int32) (k : vp_in (((635640 : Int32) + ((l5 + (2 : Int32)) * ((gi M 97 8) + (1 : Int32)))) + (2 : Int32)) 647800 ∧ (Zm E YX8_addLabel (d + 2) (sl (sl (sl M 165 ((((635640 : Int32) + ((l5 + (2 : Int32)) * ((gi M 97 8) + (1 : Int32)))) + (2 : Int32))).toNatClampNeg (0 : Int64)) 166 ((((635640 : Int32) + ((l5 + (2 : Int32)) * ((gi M 97 8) + (1 : Int32)))) + (2 : Int32))).toNatClampNeg (0 : Int64)) 167 ((((635640 : Int32) + ((l5 + (2 : Int32)) * ((gi M 97 8) + (1 : Int32)))) + (2 : Int32))).toNatClampNeg (0 : Int64)) (zargs 0 [vr (some (97, 1, 0)), vi (((635640 : Int32) + ((l5 + (2 : Int32)) * ((gi M 97 8) + (1 : Int32)))) + (2 : Int32)), vi l5]) 0 [] (zma E YX8_ways ((d + 2) + 1) [(0, vr (some (97, 1, 0))), (1, vi l1), (5, vi l5)] 566 3 [] Q))) : Zm E YX8_ways (d + 3) M [(0, vr (some (97, 1, 0))), (1, vi l1), (5, vi l5)] 554 [] Q := by
  refine sX8_ways_554 (d := (d + 2)) M l1 l5 ?_
  refine jX8_fresh_2 (d := d) M (l5 + (2 : Int32)) (2 : Int32) ?_
  refine zand k (fun h8674 k => ?_)
  show Zm E YX8_ways ((d + 2) + 1) (sl (sl (sl M 165 ((((635640 : Int32) + ((l5 + (2 : Int32)) * ((gi M 97 8) + (1 : Int32)))) + (2 : Int32))).toNatClampNeg (0 : Int64)) 166 ((((635640 : Int32) + ((l5 + (2 : Int32)) * ((gi M 97 8) + (1 : Int32)))) + (2 : Int32))).toNatClampNeg (0 : Int64)) 167 ((((635640 : Int32) + ((l5 + (2 : Int32)) * ((gi M 97 8) + (1 : Int32)))) + (2 : Int32))).toNatClampNeg (0 : Int64)) [(0, vr (some (97, 1, 0))), (1, vi l1), (5, vi l5)] 564 [vi (((635640 : Int32) + ((l5 + (2 : Int32)) * ((gi M 97 8) + (1 : Int32)))) + (2 : Int32)), vr (some (97, 1, 0))] Q
  refine sX8_ways_564 (d := (d + 2)) (sl (sl (sl M 165 ((((635640 : Int32) + ((l5 + (2 : Int32)) * ((gi M 97 8) + (1 : Int32)))) + (2 : Int32))).toNatClampNeg (0 : Int64)) 166 ((((635640 : Int32) + ((l5 + (2 : Int32)) * ((gi M 97 8) + (1 : Int32)))) + (2 : Int32))).toNatClampNeg (0 : Int64)) 167 ((((635640 : Int32) + ((l5 + (2 : Int32)) * ((gi M 97 8) + (1 : Int32)))) + (2 : Int32))).toNatClampNeg (0 : Int64)) l1 l5 (((635640 : Int32) + ((l5 + (2 : Int32)) * ((gi M 97 8) + (1 : Int32)))) + (2 : Int32)) ?_
  exact k
theorem iX8_ways_574 {E : zE} {d : Nat} {Q : zO → zM → Prop} (M : zM) (l1 : Int32) (l5 : Int32) (s0 : Int32) (k : if (64 : Int32) ≤ l5 then (vp_in s0 647800 ∧ (Zm E YX8_on d (sl M 167 (s0).toNatClampNeg ((gl M 167 (s0).toNatClampNeg) ||| (zls (1 : Int64) (l5 - (64 : Int32))))) (zargs 0 [vr (some (97, 1, 0))]) 0 [] (zma E YX8_ways (d + 1) [(0, vr (some (97, 1, 0))), (1, vi l1)] 580 3 [] Q))) else (vp_in s0 647800 ∧ (Zm E YX8_on d (sl M 166 (s0).toNatClampNeg ((gl M 166 (s0).toNatClampNeg) ||| (zls (1 : Int64) l5))) (zargs 0 [vr (some (97, 1, 0))]) 0 [] (zma E YX8_ways (d + 1) [(0, vr (some (97, 1, 0))), (1, vi l1)] 580 3 [] Q)))) : Zm E YX8_ways (d + 1) M [(0, vr (some (97, 1, 0))), (1, vi l1), (5, vi l5)] 574 [vi s0, vr (some (97, 1, 0))] Q := by
  refine sX8_ways_574 (d := d) M l1 l5 s0 ?_
  refine jX8_addLabel (d := d) M s0 l5 ?_
  refine zite k (fun h8676 k => ?_) (fun h8676 k => ?_)
  · refine zand k (fun h8677 k => ?_)
    show Zm E YX8_ways (d + 1) (sl M 167 (s0).toNatClampNeg ((gl M 167 (s0).toNatClampNeg) ||| (zls (1 : Int64) (l5 - (64 : Int32))))) [(0, vr (some (97, 1, 0))), (1, vi l1)] 579 [] Q
    refine sX8_ways_579 (d := d) (sl M 167 (s0).toNatClampNeg ((gl M 167 (s0).toNatClampNeg) ||| (zls (1 : Int64) (l5 - (64 : Int32))))) l1 ?_
    exact k
  · refine zand k (fun h8678 k => ?_)
    show Zm E YX8_ways (d + 1) (sl M 166 (s0).toNatClampNeg ((gl M 166 (s0).toNatClampNeg) ||| (zls (1 : Int64) l5))) [(0, vr (some (97, 1, 0))), (1, vi l1)] 579 [] Q
    refine sX8_ways_579 (d := d) (sl M 166 (s0).toNatClampNeg ((gl M 166 (s0).toNatClampNeg) ||| (zls (1 : Int64) l5))) l1 ?_
    exact k
theorem iX8_waysOfGlobal_0 {E : zE} {d : Nat} {Q : zO → zM → Prop} (M : zM) (l1 : Int32) (l2 : Int32) (k : vp_in (((635640 : Int32) + ((0 : Int32) * ((gi M 97 8) + (1 : Int32)))) + l1) 647800 ∧ (if ((((gl M 165 ((((635640 : Int32) + ((0 : Int32) * ((gi M 97 8) + (1 : Int32)))) + l1)).toNatClampNeg) &&& (1023 : Int64))).toInt32 &&& (512 : Int32)) = 0 then (vp_in (647740 : Int32) 647800 ∧ (Zm E YX8_joinPlain (d + 1) (sl (sl (sl M 165 ((647740 : Int32)).toNatClampNeg (0 : Int64)) 166 ((647740 : Int32)).toNatClampNeg (0 : Int64)) 167 ((647740 : Int32)).toNatClampNeg (0 : Int64)) (zargs 0 [vr (some (97, 1, 0)), vi (((635640 : Int32) + ((0 : Int32) * ((gi M 97 8) + (1 : Int32)))) + l1), vi (647740 : Int32)]) 0 [] (zma E YX8_waysOfGlobal ((d + 1) + 1) [(0, vr (some (97, 1, 0))), (2, vi l2), (4, vi (0 : Int32)), (5, vi (647740 : Int32))] 44 3 [] Q))) else (vp_in (647740 : Int32) 647800 ∧ (Zm E YX8_joinPlain (d + 1) (sl (sl (sl M 165 ((647740 : Int32)).toNatClampNeg (0 : Int64)) 166 ((647740 : Int32)).toNatClampNeg (0 : Int64)) 167 ((647740 : Int32)).toNatClampNeg (0 : Int64)) (zargs 0 [vr (some (97, 1, 0)), vi (((635640 : Int32) + ((0 : Int32) * ((gi M 97 8) + (1 : Int32)))) + l1), vi (647740 : Int32)]) 0 [] (zma E YX8_waysOfGlobal ((d + 1) + 1) [(0, vr (some (97, 1, 0))), (2, vi l2), (4, vi (1 : Int32)), (5, vi (647740 : Int32))] 44 3 [] Q))))) : Zm E YX8_waysOfGlobal (d + 2) M [(0, vr (some (97, 1, 0))), (1, vi l1), (2, vi l2)] 0 [] Q := by
  refine sX8_waysOfGlobal_0 (d := (d + 1)) M l1 l2 ?_
  refine jX8_field (d := d) M (639 : Int32) (0 : Int32) l1 ?_
  refine zpos (show (639 : Int32) = (639 : Int32) from by decide) ?_
  show Zm E YX8_waysOfGlobal ((d + 1) + 1) M [(0, vr (some (97, 1, 0))), (2, vi l2)] 9 [vi (((635640 : Int32) + ((0 : Int32) * ((gi M 97 8) + (1 : Int32)))) + l1)] Q
  refine sX8_waysOfGlobal_9 (d := (d + 1)) M l2 (((635640 : Int32) + ((0 : Int32) * ((gi M 97 8) + (1 : Int32)))) + l1) ?_
  refine sX8_has_0 (d := (d + 1)) M (((635640 : Int32) + ((0 : Int32) * ((gi M 97 8) + (1 : Int32)))) + l1) ?_
  refine zand k (fun h8679 k => ?_)
  show Zm E YX8_waysOfGlobal ((d + 1) + 1) M [(0, vr (some (97, 1, 0))), (2, vi l2), (3, vi (((635640 : Int32) + ((0 : Int32) * ((gi M 97 8) + (1 : Int32)))) + l1))] 15 [vi (((gl M 165 ((((635640 : Int32) + ((0 : Int32) * ((gi M 97 8) + (1 : Int32)))) + l1)).toNatClampNeg) &&& (1023 : Int64))).toInt32] Q
  refine sX8_waysOfGlobal_15 (d := (d + 1)) M l2 (((635640 : Int32) + ((0 : Int32) * ((gi M 97 8) + (1 : Int32)))) + l1) ((((gl M 165 ((((635640 : Int32) + ((0 : Int32) * ((gi M 97 8) + (1 : Int32)))) + l1)).toNatClampNeg) &&& (1023 : Int64))).toInt32) ?_
  refine zite k (fun h8680 k => ?_) (fun h8680 k => ?_)
  · refine jX8_empty (d := (d + 1)) M (647740 : Int32) ?_
    refine zand k (fun h8681 k => ?_)
    show Zm E YX8_waysOfGlobal ((d + 1) + 1) (sl (sl (sl M 165 ((647740 : Int32)).toNatClampNeg (0 : Int64)) 166 ((647740 : Int32)).toNatClampNeg (0 : Int64)) 167 ((647740 : Int32)).toNatClampNeg (0 : Int64)) [(0, vr (some (97, 1, 0))), (2, vi l2), (3, vi (((635640 : Int32) + ((0 : Int32) * ((gi M 97 8) + (1 : Int32)))) + l1)), (4, vi (0 : Int32)), (5, vi (647740 : Int32))] 40 [] Q
    refine sX8_waysOfGlobal_40 (d := (d + 1)) (sl (sl (sl M 165 ((647740 : Int32)).toNatClampNeg (0 : Int64)) 166 ((647740 : Int32)).toNatClampNeg (0 : Int64)) 167 ((647740 : Int32)).toNatClampNeg (0 : Int64)) l2 (((635640 : Int32) + ((0 : Int32) * ((gi M 97 8) + (1 : Int32)))) + l1) (0 : Int32) (647740 : Int32) ?_
    exact k
  · refine jX8_empty (d := (d + 1)) M (647740 : Int32) ?_
    refine zand k (fun h8682 k => ?_)
    show Zm E YX8_waysOfGlobal ((d + 1) + 1) (sl (sl (sl M 165 ((647740 : Int32)).toNatClampNeg (0 : Int64)) 166 ((647740 : Int32)).toNatClampNeg (0 : Int64)) 167 ((647740 : Int32)).toNatClampNeg (0 : Int64)) [(0, vr (some (97, 1, 0))), (2, vi l2), (3, vi (((635640 : Int32) + ((0 : Int32) * ((gi M 97 8) + (1 : Int32)))) + l1)), (4, vi (1 : Int32)), (5, vi (647740 : Int32))] 40 [] Q
    refine sX8_waysOfGlobal_40 (d := (d + 1)) (sl (sl (sl M 165 ((647740 : Int32)).toNatClampNeg (0 : Int64)) 166 ((647740 : Int32)).toNatClampNeg (0 : Int64)) 167 ((647740 : Int32)).toNatClampNeg (0 : Int64)) l2 (((635640 : Int32) + ((0 : Int32) * ((gi M 97 8) + (1 : Int32)))) + l1) (1 : Int32) (647740 : Int32) ?_
    exact k
theorem iX8_waysOfGlobal_47 {E : zE} {d : Nat} {Q : zO → zM → Prop} (M : zM) (l2 : Int32) (l4 : Int32) (l5 : Int32) (k : if l2 = 0 then (vp_in (l5 + (1 : Int32)) 647800 ∧ (Zm E YX8_typesOf d (sl (sl (sl M 165 ((l5 + (1 : Int32))).toNatClampNeg (0 : Int64)) 166 ((l5 + (1 : Int32))).toNatClampNeg (0 : Int64)) 167 ((l5 + (1 : Int32))).toNatClampNeg (0 : Int64)) (zargs 0 [vr (some (97, 1, 0)), vi l5, vi (l5 + (1 : Int32))]) 0 [] (zma E YX8_waysOfGlobal (d + 1) [(0, vr (some (97, 1, 0))), (2, vi l2), (4, vi l4), (6, vi (l5 + (1 : Int32)))] 79 3 [] Q))) else (vp_in l5 647800 ∧ (vp_in (l5 + (1 : Int32)) 647800 ∧ (Zm E YX8_replace d (sl (sl (sl M 165 ((l5 + (1 : Int32))).toNatClampNeg (gl M 165 (l5).toNatClampNeg)) 166 ((l5 + (1 : Int32))).toNatClampNeg (gl M 166 (l5).toNatClampNeg)) 167 ((l5 + (1 : Int32))).toNatClampNeg (gl M 167 (l5).toNatClampNeg)) (zargs 0 [vr (some (97, 1, 0)), vi (0 : Int32), vi (l5 + (1 : Int32))]) 0 [] (zma E YX8_waysOfGlobal (d + 1) [(0, vr (some (97, 1, 0))), (2, vi l2), (4, vi l4)] 99 3 [] Q))))) : Zm E YX8_waysOfGlobal (d + 1) M [(0, vr (some (97, 1, 0))), (2, vi l2), (4, vi l4), (5, vi l5)] 47 [] Q := by
  refine sX8_waysOfGlobal_47 (d := d) M l2 l4 l5 ?_
  refine zite k (fun h8683 k => ?_) (fun h8683 k => ?_)
  · refine jX8_empty (d := d) M (l5 + (1 : Int32)) ?_
    refine zand k (fun h8684 k => ?_)
    show Zm E YX8_waysOfGlobal (d + 1) (sl (sl (sl M 165 ((l5 + (1 : Int32))).toNatClampNeg (0 : Int64)) 166 ((l5 + (1 : Int32))).toNatClampNeg (0 : Int64)) 167 ((l5 + (1 : Int32))).toNatClampNeg (0 : Int64)) [(0, vr (some (97, 1, 0))), (2, vi l2), (4, vi l4), (5, vi l5), (6, vi (l5 + (1 : Int32)))] 74 [] Q
    refine sX8_waysOfGlobal_74 (d := d) (sl (sl (sl M 165 ((l5 + (1 : Int32))).toNatClampNeg (0 : Int64)) 166 ((l5 + (1 : Int32))).toNatClampNeg (0 : Int64)) 167 ((l5 + (1 : Int32))).toNatClampNeg (0 : Int64)) l2 l4 l5 (l5 + (1 : Int32)) ?_
    exact k
  · refine jX8_copySet (d := d) M l5 (l5 + (1 : Int32)) ?_
    refine zand k (fun h8685 k => ?_)
    refine zand k (fun h8686 k => ?_)
    show Zm E YX8_waysOfGlobal (d + 1) (sl (sl (sl M 165 ((l5 + (1 : Int32))).toNatClampNeg (gl M 165 (l5).toNatClampNeg)) 166 ((l5 + (1 : Int32))).toNatClampNeg (gl M 166 (l5).toNatClampNeg)) 167 ((l5 + (1 : Int32))).toNatClampNeg (gl M 167 (l5).toNatClampNeg)) [(0, vr (some (97, 1, 0))), (2, vi l2), (4, vi l4), (6, vi (l5 + (1 : Int32)))] 65 [] Q
    refine sX8_waysOfGlobal_65 (d := d) (sl (sl (sl M 165 ((l5 + (1 : Int32))).toNatClampNeg (gl M 165 (l5).toNatClampNeg)) 166 ((l5 + (1 : Int32))).toNatClampNeg (gl M 166 (l5).toNatClampNeg)) 167 ((l5 + (1 : Int32))).toNatClampNeg (gl M 167 (l5).toNatClampNeg)) l2 l4 (l5 + (1 : Int32)) ?_
    refine sX8_waysOfGlobal_95 (d := d) (sl (sl (sl M 165 ((l5 + (1 : Int32))).toNatClampNeg (gl M 165 (l5).toNatClampNeg)) 166 ((l5 + (1 : Int32))).toNatClampNeg (gl M 166 (l5).toNatClampNeg)) 167 ((l5 + (1 : Int32))).toNatClampNeg (gl M 167 (l5).toNatClampNeg)) l2 l4 (l5 + (1 : Int32)) ?_
    exact k
theorem iX8_waysOfGlobal_82 {E : zE} {d : Nat} {Q : zO → zM → Prop} (M : zM) (l2 : Int32) (l4 : Int32) (l6 : Int32) (k : if l4 = 0 then (Zm E YX8_replace d M (zargs 0 [vr (some (97, 1, 0)), vi (0 : Int32), vi l6]) 0 [] (zma E YX8_waysOfGlobal (d + 1) [(0, vr (some (97, 1, 0))), (2, vi l2), (4, vi l4)] 99 3 [] Q)) else (Zm E YX8_addString d M (zargs 0 [vr (some (97, 1, 0)), vi l6, vi (19 : Int32)]) 0 [] (zma E YX8_waysOfGlobal (d + 1) [(0, vr (some (97, 1, 0))), (2, vi l2), (4, vi l4), (6, vi l6)] 92 3 [] Q))) : Zm E YX8_waysOfGlobal (d + 1) M [(0, vr (some (97, 1, 0))), (2, vi l2), (4, vi l4), (6, vi l6)] 82 [] Q := by
  refine sX8_waysOfGlobal_82 (d := d) M l2 l4 l6 ?_
  refine zite k (fun h8687 k => ?_) (fun h8687 k => ?_)
  · refine sX8_waysOfGlobal_95 (d := d) M l2 l4 l6 ?_
    exact k
  · exact k
theorem iX8_waysOfGlobal_102 {E : zE} {d : Nat} {Q : zO → zM → Prop} (M : zM) (l2 : Int32) (l4 : Int32) (k : if l2 = 0 then (Q (.inl none) M) else (if l4 = 0 then (Q (.inl none) M) else (Zm E YX8_error_2 d M (zargs 0 [vr (some (97, 1, 0)), vi (gi M 97 148), vi (7 : Int32)]) 0 [] (zma E YX8_waysOfGlobal (d + 1) [] 118 3 [] Q)))) : Zm E YX8_waysOfGlobal (d + 1) M [(0, vr (some (97, 1, 0))), (2, vi l2), (4, vi l4)] 102 [] Q := by
  refine sX8_waysOfGlobal_102 (d := d) M l2 l4 ?_
  refine zite k (fun h8688 k => ?_) (fun h8688 k => ?_)
  · refine sX8_waysOfGlobal_121 (d := d) M  ?_
    exact k
  · refine zite k (fun h8689 k => ?_) (fun h8689 k => ?_)
    · refine sX8_waysOfGlobal_121 (d := d) M  ?_
      exact k
    · exact k
theorem iX8_writeTo_30 {E : zE} {d : Nat} {Q : zO → zM → Prop} (M : zM) (l1 : Int64) (l3 : Int64) (l5 : Int32) (l6 : Int32) (l7 : Int32) (l8 : Int32) (l9 : Int32) (s0 : Int32) (k : if s0 = 0 then (Zm E YX8_writeTo ((d + 1) + 1) M [(0, vr (some (97, 1, 0))), (1, vl l1), (3, vl l3), (5, vi l5), (6, vi l6), (7, vi l7), (8, vi l8), (9, vi (l9 + (1 : Int32)))] 14 [] Q) else (vp_in ((15000 : Int32) + l9) 15128 ∧ (if (gi M 178 (((15000 : Int32) + l9)).toNatClampNeg) = 0 then (Zm E YX8_writeTo ((d + 1) + 1) M [(0, vr (some (97, 1, 0))), (1, vl l1), (3, vl l3), (5, vi l5), (6, vi l6), (7, vi l7), (8, vi l8), (9, vi (l9 + (1 : Int32)))] 14 [] Q) else (if l6 = 0 then (Zm E YX8_writeTo ((d + 1) + 1) M [(0, vr (some (97, 1, 0))), (1, vl l1), (3, vl l3), (5, vi l5), (6, vi l6), (7, vi l7), (8, vi l8), (9, vi l9), (10, vi (0 : Int32)), (11, vi (0 : Int32))] 101 [] Q) else (if l8 = (1 : Int32) then (if l9 < (23 : Int32) then (Zm E YX8_manyKeys (d + 1) M (zargs 0 [vr (some (97, 1, 0))]) 0 [] (zma E YX8_writeTo ((d + 1) + 1) [(0, vr (some (97, 1, 0))), (1, vl l1), (3, vl l3), (5, vi l5), (6, vi l6), (7, vi l7), (8, vi l8), (9, vi l9)] 73 3 [] Q)) else (if l9 < (29 : Int32) then (Zm E YX8_writeTo ((d + 1) + 1) M [(0, vr (some (97, 1, 0))), (1, vl l1), (3, vl l3), (5, vi l5), (6, vi l6), (7, vi l7), (8, vi l8), (9, vi l9), (10, vi (0 : Int32)), (11, vi (0 : Int32))] 101 [] Q) else (if ((l9 - (29 : Int32)) - (l9 - (29 : Int32)) / (2 : Int32) * (2 : Int32)) = 0 then (Zm E YX8_manyKeys (d + 1) M (zargs 0 [vr (some (97, 1, 0))]) 0 [] (zma E YX8_writeTo ((d + 1) + 1) [(0, vr (some (97, 1, 0))), (1, vl l1), (3, vl l3), (5, vi l5), (6, vi l6), (7, vi l7), (8, vi l8), (9, vi l9)] 73 3 [] Q)) else (Zm E YX8_writeTo ((d + 1) + 1) M [(0, vr (some (97, 1, 0))), (1, vl l1), (3, vl l3), (5, vi l5), (6, vi l6), (7, vi l7), (8, vi l8), (9, vi l9), (10, vi (0 : Int32)), (11, vi (0 : Int32))] 101 [] Q)))) else (Zm E YX8_writeTo ((d + 1) + 1) M [(0, vr (some (97, 1, 0))), (1, vl l1), (3, vl l3), (5, vi l5), (6, vi l6), (7, vi l7), (8, vi l8), (9, vi l9), (10, vi (0 : Int32)), (11, vi (0 : Int32))] 101 [] Q)))))) : Zm E YX8_writeTo (d + 2) M [(0, vr (some (97, 1, 0))), (1, vl l1), (3, vl l3), (5, vi l5), (6, vi l6), (7, vi l7), (8, vi l8), (9, vi l9)] 30 [vi s0] Q := by
  refine sX8_writeTo_30 (d := (d + 1)) M l1 l3 l5 l6 l7 l8 l9 s0 ?_
  refine zite k (fun h8716 k => ?_) (fun h8716 k => ?_)
  · exact k
  · refine jX8_of (d := d) M (639 : Int32) l9 ?_
    refine zpos (show (639 : Int32) = (639 : Int32) from by decide) ?_
    show Zm E YX8_writeTo ((d + 1) + 1) M [(0, vr (some (97, 1, 0))), (1, vl l1), (3, vl l3), (5, vi l5), (6, vi l6), (7, vi l7), (8, vi l8), (9, vi l9)] 46 [vi ((15000 : Int32) + l9), vr (some (178, 104, 15128))] Q
    refine sX8_writeTo_46 (d := (d + 1)) M l1 l3 l5 l6 l7 l8 l9 ((15000 : Int32) + l9) ?_
    refine zand k (fun h8717 k => ?_)
    refine zite k (fun h8718 k => ?_) (fun h8718 k => ?_)
    · exact k
    · refine zite k (fun h8719 k => ?_) (fun h8719 k => ?_)
      · exact k
      · refine zite k (fun h8720 k => ?_) (fun h8720 k => ?_)
        · refine sX8_isSingle_0 (d := (d + 1)) M l9 ?_
          refine zite k (fun h8721 k => ?_) (fun h8721 k => ?_)
          · show Zm E YX8_writeTo ((d + 1) + 1) M [(0, vr (some (97, 1, 0))), (1, vl l1), (3, vl l3), (5, vi l5), (6, vi l6), (7, vi l7), (8, vi l8), (9, vi l9)] 69 [vi (1 : Int32)] Q
            refine sX8_writeTo_69 (d := (d + 1)) M l1 l3 l5 l6 l7 l8 l9 (1 : Int32) ?_
            refine zneg (show ¬ ((1 : Int32) = 0) from by decide) ?_
            exact k
          · refine zite k (fun h8722 k => ?_) (fun h8722 k => ?_)
            · show Zm E YX8_writeTo ((d + 1) + 1) M [(0, vr (some (97, 1, 0))), (1, vl l1), (3, vl l3), (5, vi l5), (6, vi l6), (7, vi l7), (8, vi l8), (9, vi l9)] 69 [vi (0 : Int32)] Q
              refine sX8_writeTo_69 (d := (d + 1)) M l1 l3 l5 l6 l7 l8 l9 (0 : Int32) ?_
              refine zpos (show (0 : Int32) = 0 from by decide) ?_
              exact k
            · refine zite k (fun h8723 k => ?_) (fun h8723 k => ?_)
              · show Zm E YX8_writeTo ((d + 1) + 1) M [(0, vr (some (97, 1, 0))), (1, vl l1), (3, vl l3), (5, vi l5), (6, vi l6), (7, vi l7), (8, vi l8), (9, vi l9)] 69 [vi (1 : Int32)] Q
                refine sX8_writeTo_69 (d := (d + 1)) M l1 l3 l5 l6 l7 l8 l9 (1 : Int32) ?_
                refine zneg (show ¬ ((1 : Int32) = 0) from by decide) ?_
                exact k
              · show Zm E YX8_writeTo ((d + 1) + 1) M [(0, vr (some (97, 1, 0))), (1, vl l1), (3, vl l3), (5, vi l5), (6, vi l6), (7, vi l7), (8, vi l8), (9, vi l9)] 69 [vi (0 : Int32)] Q
                refine sX8_writeTo_69 (d := (d + 1)) M l1 l3 l5 l6 l7 l8 l9 (0 : Int32) ?_
                refine zpos (show (0 : Int32) = 0 from by decide) ?_
                exact k
        · exact k
theorem iX8_writeTo_76 {E : zE} {d : Nat} {Q : zO → zM → Prop} (M : zM) (l1 : Int64) (l3 : Int64) (l5 : Int32) (l6 : Int32) (l7 : Int32) (l8 : Int32) (l9 : Int32) (s0 : Int32) (k : if s0 = (1 : Int32) then (if (64 : Int32) ≤ (gi M 97 8) then (if (lg_cmp ((zlr (gl M 97 144) ((gi M 97 8) - (64 : Int32))) &&& (1 : Int64)) (1 : Int64)) = 0 then ((narrow .boolean (.int (1 : Int32)) = .int (1 : Int32)) ∧ (Zm E YX8_writeTo ((d + 1) + 1) M [(0, vr (some (97, 1, 0))), (1, vl l1), (3, vl l3), (5, vi l5), (6, vi l6), (7, vi l7), (8, vi l8), (9, vi l9), (10, vi (0 : Int32)), (11, vi (0 : Int32))] 101 [] Q)) else ((narrow .boolean (.int (0 : Int32)) = .int (0 : Int32)) ∧ (Zm E YX8_writeTo ((d + 1) + 1) M [(0, vr (some (97, 1, 0))), (1, vl l1), (3, vl l3), (5, vi l5), (6, vi l6), (7, vi l7), (8, vi l8), (9, vi l9), (10, vi (1 : Int32)), (11, vi (0 : Int32))] 101 [] Q))) else (if (lg_cmp ((zlr (gl M 97 143) (gi M 97 8)) &&& (1 : Int64)) (1 : Int64)) = 0 then ((narrow .boolean (.int (1 : Int32)) = .int (1 : Int32)) ∧ (Zm E YX8_writeTo ((d + 1) + 1) M [(0, vr (some (97, 1, 0))), (1, vl l1), (3, vl l3), (5, vi l5), (6, vi l6), (7, vi l7), (8, vi l8), (9, vi l9), (10, vi (0 : Int32)), (11, vi (0 : Int32))] 101 [] Q)) else ((narrow .boolean (.int (0 : Int32)) = .int (0 : Int32)) ∧ (Zm E YX8_writeTo ((d + 1) + 1) M [(0, vr (some (97, 1, 0))), (1, vl l1), (3, vl l3), (5, vi l5), (6, vi l6), (7, vi l7), (8, vi l8), (9, vi l9), (10, vi (1 : Int32)), (11, vi (0 : Int32))] 101 [] Q)))) else (Zm E YX8_writeTo ((d + 1) + 1) M [(0, vr (some (97, 1, 0))), (1, vl l1), (3, vl l3), (5, vi l5), (6, vi l6), (7, vi l7), (8, vi l8), (9, vi l9), (10, vi (0 : Int32)), (11, vi (0 : Int32))] 101 [] Q)) : Zm E YX8_writeTo (d + 2) M [(0, vr (some (97, 1, 0))), (1, vl l1), (3, vl l3), (5, vi l5), (6, vi l6), (7, vi l7), (8, vi l8), (9, vi l9)] 76 [vi s0] Q := by
  refine sX8_writeTo_76 (d := (d + 1)) M l1 l3 l5 l6 l7 l8 l9 s0 ?_
  refine zite k (fun h8767 k => ?_) (fun h8767 k => ?_)
  · refine jX8_hasKey (d := d) M (gi M 97 8) ?_
    refine zite k (fun h8768 k => ?_) (fun h8768 k => ?_)
    · refine zite k (fun h8769 k => ?_) (fun h8769 k => ?_)
      · refine zand k (fun h8770 k => ?_)
        show Zm E YX8_writeTo ((d + 1) + 1) M [(0, vr (some (97, 1, 0))), (1, vl l1), (3, vl l3), (5, vi l5), (6, vi l6), (7, vi l7), (8, vi l8), (9, vi l9)] 88 [vi (1 : Int32)] Q
        refine sX8_writeTo_88 (d := (d + 1)) M l1 l3 l5 l6 l7 l8 l9 (1 : Int32) ?_
        refine zneg (show ¬ ((1 : Int32) = 0) from by decide) ?_
        exact k
      · refine zand k (fun h8771 k => ?_)
        show Zm E YX8_writeTo ((d + 1) + 1) M [(0, vr (some (97, 1, 0))), (1, vl l1), (3, vl l3), (5, vi l5), (6, vi l6), (7, vi l7), (8, vi l8), (9, vi l9)] 88 [vi (0 : Int32)] Q
        refine sX8_writeTo_88 (d := (d + 1)) M l1 l3 l5 l6 l7 l8 l9 (0 : Int32) ?_
        refine zpos (show (0 : Int32) = 0 from by decide) ?_
        exact k
    · refine zite k (fun h8772 k => ?_) (fun h8772 k => ?_)
      · refine zand k (fun h8773 k => ?_)
        show Zm E YX8_writeTo ((d + 1) + 1) M [(0, vr (some (97, 1, 0))), (1, vl l1), (3, vl l3), (5, vi l5), (6, vi l6), (7, vi l7), (8, vi l8), (9, vi l9)] 88 [vi (1 : Int32)] Q
        refine sX8_writeTo_88 (d := (d + 1)) M l1 l3 l5 l6 l7 l8 l9 (1 : Int32) ?_
        refine zneg (show ¬ ((1 : Int32) = 0) from by decide) ?_
        exact k
      · refine zand k (fun h8774 k => ?_)
        show Zm E YX8_writeTo ((d + 1) + 1) M [(0, vr (some (97, 1, 0))), (1, vl l1), (3, vl l3), (5, vi l5), (6, vi l6), (7, vi l7), (8, vi l8), (9, vi l9)] 88 [vi (0 : Int32)] Q
        refine sX8_writeTo_88 (d := (d + 1)) M l1 l3 l5 l6 l7 l8 l9 (0 : Int32) ?_
        refine zpos (show (0 : Int32) = 0 from by decide) ?_
        exact k
  · exact k
theorem iX8_writeTo_116 {E : zE} {d : Nat} {Q : zO → zM → Prop} (M : zM) (l1 : Int64) (l3 : Int64) (l5 : Int32) (l6 : Int32) (l7 : Int32) (l8 : Int32) (l9 : Int32) (l10 : Int32) (l11 : Int32) (s0 : Int32) (k : if s0 = 0 then (Zm E YX8_writeTo ((d + 1) + 1) M [(0, vr (some (97, 1, 0))), (1, vl l1), (3, vl l3), (5, vi l5), (6, vi l6), (7, vi l7), (8, vi l8), (9, vi l9), (10, vi l10), (11, vi (l11 + (1 : Int32)))] 101 [] Q) else (if l7 = 0 then (if l10 = 0 then (Zm E YX8_join (d + 1) M (zargs 0 [vr (some (97, 1, 0)), vi l5, vi (((635640 : Int32) + (l9 * ((gi M 97 8) + (1 : Int32)))) + l11)]) 0 [] (zma E YX8_writeTo ((d + 1) + 1) [(0, vr (some (97, 1, 0))), (1, vl l1), (3, vl l3), (5, vi l5), (6, vi l6), (7, vi l7), (8, vi l8), (9, vi l9), (10, vi l10), (11, vi l11)] 170 3 [] Q)) else (vp_in (((635640 : Int32) + (l9 * ((gi M 97 8) + (1 : Int32)))) + l11) 647800 ∧ (Zm E YX8_join (d + 1) (sl (sl (sl M 165 ((((635640 : Int32) + (l9 * ((gi M 97 8) + (1 : Int32)))) + l11)).toNatClampNeg (0 : Int64)) 166 ((((635640 : Int32) + (l9 * ((gi M 97 8) + (1 : Int32)))) + l11)).toNatClampNeg (0 : Int64)) 167 ((((635640 : Int32) + (l9 * ((gi M 97 8) + (1 : Int32)))) + l11)).toNatClampNeg (0 : Int64)) (zargs 0 [vr (some (97, 1, 0)), vi l5, vi (((635640 : Int32) + (l9 * ((gi M 97 8) + (1 : Int32)))) + l11)]) 0 [] (zma E YX8_writeTo ((d + 1) + 1) [(0, vr (some (97, 1, 0))), (1, vl l1), (3, vl l3), (5, vi l5), (6, vi l6), (7, vi l7), (8, vi l8), (9, vi l9), (10, vi l10), (11, vi l11)] 170 3 [] Q)))) else (if l11 = 0 then (Zm E YX8_isArrayLabel (d + 1) M (zargs 0 [vr (some (97, 1, 0)), vi l9]) 0 [] (zma E YX8_writeTo ((d + 1) + 1) [(0, vr (some (97, 1, 0))), (1, vl l1), (3, vl l3), (5, vi l5), (6, vi l6), (7, vi l7), (8, vi l8), (9, vi l9), (10, vi l10), (11, vi l11)] 132 3 [] Q)) else (if l10 = 0 then (Zm E YX8_join (d + 1) M (zargs 0 [vr (some (97, 1, 0)), vi l5, vi (((635640 : Int32) + (l9 * ((gi M 97 8) + (1 : Int32)))) + l11)]) 0 [] (zma E YX8_writeTo ((d + 1) + 1) [(0, vr (some (97, 1, 0))), (1, vl l1), (3, vl l3), (5, vi l5), (6, vi l6), (7, vi l7), (8, vi l8), (9, vi l9), (10, vi l10), (11, vi l11)] 170 3 [] Q)) else (vp_in (((635640 : Int32) + (l9 * ((gi M 97 8) + (1 : Int32)))) + l11) 647800 ∧ (Zm E YX8_join (d + 1) (sl (sl (sl M 165 ((((635640 : Int32) + (l9 * ((gi M 97 8) + (1 : Int32)))) + l11)).toNatClampNeg (0 : Int64)) 166 ((((635640 : Int32) + (l9 * ((gi M 97 8) + (1 : Int32)))) + l11)).toNatClampNeg (0 : Int64)) 167 ((((635640 : Int32) + (l9 * ((gi M 97 8) + (1 : Int32)))) + l11)).toNatClampNeg (0 : Int64)) (zargs 0 [vr (some (97, 1, 0)), vi l5, vi (((635640 : Int32) + (l9 * ((gi M 97 8) + (1 : Int32)))) + l11)]) 0 [] (zma E YX8_writeTo ((d + 1) + 1) [(0, vr (some (97, 1, 0))), (1, vl l1), (3, vl l3), (5, vi l5), (6, vi l6), (7, vi l7), (8, vi l8), (9, vi l9), (10, vi l10), (11, vi l11)] 170 3 [] Q))))))) : Zm E YX8_writeTo (d + 2) M [(0, vr (some (97, 1, 0))), (1, vl l1), (3, vl l3), (5, vi l5), (6, vi l6), (7, vi l7), (8, vi l8), (9, vi l9), (10, vi l10), (11, vi l11)] 116 [vi s0] Q := by
  refine sX8_writeTo_116 (d := (d + 1)) M l1 l3 l5 l6 l7 l8 l9 l10 l11 s0 ?_
  refine zite k (fun h8794 k => ?_) (fun h8794 k => ?_)
  · exact k
  · refine zite k (fun h8795 k => ?_) (fun h8795 k => ?_)
    · refine jX8_field (d := d) M (639 : Int32) l9 l11 ?_
      refine zpos (show (639 : Int32) = (639 : Int32) from by decide) ?_
      show Zm E YX8_writeTo ((d + 1) + 1) M [(0, vr (some (97, 1, 0))), (1, vl l1), (3, vl l3), (5, vi l5), (6, vi l6), (7, vi l7), (8, vi l8), (9, vi l9), (10, vi l10), (11, vi l11)] 152 [vi (((635640 : Int32) + (l9 * ((gi M 97 8) + (1 : Int32)))) + l11)] Q
      refine sX8_writeTo_152 (d := (d + 1)) M l1 l3 l5 l6 l7 l8 l9 l10 l11 (((635640 : Int32) + (l9 * ((gi M 97 8) + (1 : Int32)))) + l11) ?_
      refine zite k (fun h8796 k => ?_) (fun h8796 k => ?_)
      · refine sX8_writeTo_165 (d := (d + 1)) M l1 l3 l5 l6 l7 l8 l9 l10 l11 (((635640 : Int32) + (l9 * ((gi M 97 8) + (1 : Int32)))) + l11) ?_
        exact k
      · refine jX8_empty (d := (d + 1)) M (((635640 : Int32) + (l9 * ((gi M 97 8) + (1 : Int32)))) + l11) ?_
        refine zand k (fun h8797 k => ?_)
        show Zm E YX8_writeTo ((d + 1) + 1) (sl (sl (sl M 165 ((((635640 : Int32) + (l9 * ((gi M 97 8) + (1 : Int32)))) + l11)).toNatClampNeg (0 : Int64)) 166 ((((635640 : Int32) + (l9 * ((gi M 97 8) + (1 : Int32)))) + l11)).toNatClampNeg (0 : Int64)) 167 ((((635640 : Int32) + (l9 * ((gi M 97 8) + (1 : Int32)))) + l11)).toNatClampNeg (0 : Int64)) [(0, vr (some (97, 1, 0))), (1, vl l1), (3, vl l3), (5, vi l5), (6, vi l6), (7, vi l7), (8, vi l8), (9, vi l9), (10, vi l10), (11, vi l11), (12, vi (((635640 : Int32) + (l9 * ((gi M 97 8) + (1 : Int32)))) + l11))] 165 [] Q
        refine sX8_writeTo_165 (d := (d + 1)) (sl (sl (sl M 165 ((((635640 : Int32) + (l9 * ((gi M 97 8) + (1 : Int32)))) + l11)).toNatClampNeg (0 : Int64)) 166 ((((635640 : Int32) + (l9 * ((gi M 97 8) + (1 : Int32)))) + l11)).toNatClampNeg (0 : Int64)) 167 ((((635640 : Int32) + (l9 * ((gi M 97 8) + (1 : Int32)))) + l11)).toNatClampNeg (0 : Int64)) l1 l3 l5 l6 l7 l8 l9 l10 l11 (((635640 : Int32) + (l9 * ((gi M 97 8) + (1 : Int32)))) + l11) ?_
        exact k
    · refine zite k (fun h8798 k => ?_) (fun h8798 k => ?_)
      · exact k
      · refine jX8_field (d := d) M (639 : Int32) l9 l11 ?_
        refine zpos (show (639 : Int32) = (639 : Int32) from by decide) ?_
        show Zm E YX8_writeTo ((d + 1) + 1) M [(0, vr (some (97, 1, 0))), (1, vl l1), (3, vl l3), (5, vi l5), (6, vi l6), (7, vi l7), (8, vi l8), (9, vi l9), (10, vi l10), (11, vi l11)] 152 [vi (((635640 : Int32) + (l9 * ((gi M 97 8) + (1 : Int32)))) + l11)] Q
        refine sX8_writeTo_152 (d := (d + 1)) M l1 l3 l5 l6 l7 l8 l9 l10 l11 (((635640 : Int32) + (l9 * ((gi M 97 8) + (1 : Int32)))) + l11) ?_
        refine zite k (fun h8799 k => ?_) (fun h8799 k => ?_)
        · refine sX8_writeTo_165 (d := (d + 1)) M l1 l3 l5 l6 l7 l8 l9 l10 l11 (((635640 : Int32) + (l9 * ((gi M 97 8) + (1 : Int32)))) + l11) ?_
          exact k
        · refine jX8_empty (d := (d + 1)) M (((635640 : Int32) + (l9 * ((gi M 97 8) + (1 : Int32)))) + l11) ?_
          refine zand k (fun h8800 k => ?_)
          show Zm E YX8_writeTo ((d + 1) + 1) (sl (sl (sl M 165 ((((635640 : Int32) + (l9 * ((gi M 97 8) + (1 : Int32)))) + l11)).toNatClampNeg (0 : Int64)) 166 ((((635640 : Int32) + (l9 * ((gi M 97 8) + (1 : Int32)))) + l11)).toNatClampNeg (0 : Int64)) 167 ((((635640 : Int32) + (l9 * ((gi M 97 8) + (1 : Int32)))) + l11)).toNatClampNeg (0 : Int64)) [(0, vr (some (97, 1, 0))), (1, vl l1), (3, vl l3), (5, vi l5), (6, vi l6), (7, vi l7), (8, vi l8), (9, vi l9), (10, vi l10), (11, vi l11), (12, vi (((635640 : Int32) + (l9 * ((gi M 97 8) + (1 : Int32)))) + l11))] 165 [] Q
          refine sX8_writeTo_165 (d := (d + 1)) (sl (sl (sl M 165 ((((635640 : Int32) + (l9 * ((gi M 97 8) + (1 : Int32)))) + l11)).toNatClampNeg (0 : Int64)) 166 ((((635640 : Int32) + (l9 * ((gi M 97 8) + (1 : Int32)))) + l11)).toNatClampNeg (0 : Int64)) 167 ((((635640 : Int32) + (l9 * ((gi M 97 8) + (1 : Int32)))) + l11)).toNatClampNeg (0 : Int64)) l1 l3 l5 l6 l7 l8 l9 l10 l11 (((635640 : Int32) + (l9 * ((gi M 97 8) + (1 : Int32)))) + l11) ?_
          exact k
theorem iX8_writeTo_135 {E : zE} {d : Nat} {Q : zO → zM → Prop} (M : zM) (l1 : Int64) (l3 : Int64) (l5 : Int32) (l6 : Int32) (l7 : Int32) (l8 : Int32) (l9 : Int32) (l10 : Int32) (l11 : Int32) (s0 : Int32) (k : if s0 = 0 then (if l10 = 0 then (Zm E YX8_join (d + 1) M (zargs 0 [vr (some (97, 1, 0)), vi l5, vi (((635640 : Int32) + (l9 * ((gi M 97 8) + (1 : Int32)))) + l11)]) 0 [] (zma E YX8_writeTo ((d + 1) + 1) [(0, vr (some (97, 1, 0))), (1, vl l1), (3, vl l3), (5, vi l5), (6, vi l6), (7, vi l7), (8, vi l8), (9, vi l9), (10, vi l10), (11, vi l11)] 170 3 [] Q)) else (vp_in (((635640 : Int32) + (l9 * ((gi M 97 8) + (1 : Int32)))) + l11) 647800 ∧ (Zm E YX8_join (d + 1) (sl (sl (sl M 165 ((((635640 : Int32) + (l9 * ((gi M 97 8) + (1 : Int32)))) + l11)).toNatClampNeg (0 : Int64)) 166 ((((635640 : Int32) + (l9 * ((gi M 97 8) + (1 : Int32)))) + l11)).toNatClampNeg (0 : Int64)) 167 ((((635640 : Int32) + (l9 * ((gi M 97 8) + (1 : Int32)))) + l11)).toNatClampNeg (0 : Int64)) (zargs 0 [vr (some (97, 1, 0)), vi l5, vi (((635640 : Int32) + (l9 * ((gi M 97 8) + (1 : Int32)))) + l11)]) 0 [] (zma E YX8_writeTo ((d + 1) + 1) [(0, vr (some (97, 1, 0))), (1, vl l1), (3, vl l3), (5, vi l5), (6, vi l6), (7, vi l7), (8, vi l8), (9, vi l9), (10, vi l10), (11, vi l11)] 170 3 [] Q)))) else (Zm E YX8_writeTo ((d + 1) + 1) M [(0, vr (some (97, 1, 0))), (1, vl l1), (3, vl l3), (5, vi l5), (6, vi l6), (7, vi l7), (8, vi l8), (9, vi l9), (10, vi l10), (11, vi (l11 + (1 : Int32)))] 101 [] Q)) : Zm E YX8_writeTo (d + 2) M [(0, vr (some (97, 1, 0))), (1, vl l1), (3, vl l3), (5, vi l5), (6, vi l6), (7, vi l7), (8, vi l8), (9, vi l9), (10, vi l10), (11, vi l11)] 135 [vi s0] Q := by
  refine sX8_writeTo_135 (d := (d + 1)) M l1 l3 l5 l6 l7 l8 l9 l10 l11 s0 ?_
  refine zite k (fun h8802 k => ?_) (fun h8802 k => ?_)
  · refine jX8_field (d := d) M (639 : Int32) l9 l11 ?_
    refine zpos (show (639 : Int32) = (639 : Int32) from by decide) ?_
    show Zm E YX8_writeTo ((d + 1) + 1) M [(0, vr (some (97, 1, 0))), (1, vl l1), (3, vl l3), (5, vi l5), (6, vi l6), (7, vi l7), (8, vi l8), (9, vi l9), (10, vi l10), (11, vi l11)] 152 [vi (((635640 : Int32) + (l9 * ((gi M 97 8) + (1 : Int32)))) + l11)] Q
    refine sX8_writeTo_152 (d := (d + 1)) M l1 l3 l5 l6 l7 l8 l9 l10 l11 (((635640 : Int32) + (l9 * ((gi M 97 8) + (1 : Int32)))) + l11) ?_
    refine zite k (fun h8803 k => ?_) (fun h8803 k => ?_)
    · refine sX8_writeTo_165 (d := (d + 1)) M l1 l3 l5 l6 l7 l8 l9 l10 l11 (((635640 : Int32) + (l9 * ((gi M 97 8) + (1 : Int32)))) + l11) ?_
      exact k
    · refine jX8_empty (d := (d + 1)) M (((635640 : Int32) + (l9 * ((gi M 97 8) + (1 : Int32)))) + l11) ?_
      refine zand k (fun h8804 k => ?_)
      show Zm E YX8_writeTo ((d + 1) + 1) (sl (sl (sl M 165 ((((635640 : Int32) + (l9 * ((gi M 97 8) + (1 : Int32)))) + l11)).toNatClampNeg (0 : Int64)) 166 ((((635640 : Int32) + (l9 * ((gi M 97 8) + (1 : Int32)))) + l11)).toNatClampNeg (0 : Int64)) 167 ((((635640 : Int32) + (l9 * ((gi M 97 8) + (1 : Int32)))) + l11)).toNatClampNeg (0 : Int64)) [(0, vr (some (97, 1, 0))), (1, vl l1), (3, vl l3), (5, vi l5), (6, vi l6), (7, vi l7), (8, vi l8), (9, vi l9), (10, vi l10), (11, vi l11), (12, vi (((635640 : Int32) + (l9 * ((gi M 97 8) + (1 : Int32)))) + l11))] 165 [] Q
      refine sX8_writeTo_165 (d := (d + 1)) (sl (sl (sl M 165 ((((635640 : Int32) + (l9 * ((gi M 97 8) + (1 : Int32)))) + l11)).toNatClampNeg (0 : Int64)) 166 ((((635640 : Int32) + (l9 * ((gi M 97 8) + (1 : Int32)))) + l11)).toNatClampNeg (0 : Int64)) 167 ((((635640 : Int32) + (l9 * ((gi M 97 8) + (1 : Int32)))) + l11)).toNatClampNeg (0 : Int64)) l1 l3 l5 l6 l7 l8 l9 l10 l11 (((635640 : Int32) + (l9 * ((gi M 97 8) + (1 : Int32)))) + l11) ?_
      exact k
  · exact k
theorem jX8_valueOfAlone {E : zE} {d : Nat} {Q : zO → zM → Prop} (M : zM) (l1 : Int32) (k : vp_in l1 647800 ∧ (if ((((gl M 165 (l1).toNatClampNeg) &&& (1023 : Int64))).toInt32 &&& (-513 : Int32)) = (32 : Int32) then (Q (.inl (some (vi ((zlr (gl M 165 (l1).toNatClampNeg) (32 : Int32))).toInt32))) M) else (if ((((gl M 165 (l1).toNatClampNeg) &&& (1023 : Int64))).toInt32 &&& (-513 : Int32)) = (128 : Int32) then (Q (.inl (some (vi (((zlr (gl M 165 (l1).toNatClampNeg) (10 : Int32)) &&& (127 : Int64))).toInt32))) M) else (Q (.inl (some (vi (0 : Int32)))) M)))) : Zm E YX8_valueOfAlone (d + 2) M [(0, vr (some (97, 1, 0))), (1, vi l1)] 0 [] Q := by
  refine sX8_valueOfAlone_0 (d := (d + 1)) M l1 ?_
  refine jX8_plainly (d := d) M l1 ?_
  refine zand k (fun h8844 k => ?_)
  show Zm E YX8_valueOfAlone ((d + 1) + 1) M [(0, vr (some (97, 1, 0))), (1, vi l1)] 5 [vi ((((gl M 165 (l1).toNatClampNeg) &&& (1023 : Int64))).toInt32 &&& (-513 : Int32))] Q
  refine sX8_valueOfAlone_5 (d := (d + 1)) M l1 ((((gl M 165 (l1).toNatClampNeg) &&& (1023 : Int64))).toInt32 &&& (-513 : Int32)) ?_
  refine zite k (fun h8845 k => ?_) (fun h8845 k => ?_)
  · refine sX8_number_0 (d := (d + 1)) M l1 ?_
    refine ⟨h8844, ?_⟩
    show Zm E YX8_valueOfAlone ((d + 1) + 1) M [] 15 [vi ((zlr (gl M 165 (l1).toNatClampNeg) (32 : Int32))).toInt32] Q
    refine sX8_valueOfAlone_15 (d := (d + 1)) M (((zlr (gl M 165 (l1).toNatClampNeg) (32 : Int32))).toInt32) ?_
    exact k
  · refine jX8_plainly (d := d) M l1 ?_
    refine ⟨h8844, ?_⟩
    show Zm E YX8_valueOfAlone ((d + 1) + 1) M [(0, vr (some (97, 1, 0))), (1, vi l1)] 23 [vi ((((gl M 165 (l1).toNatClampNeg) &&& (1023 : Int64))).toInt32 &&& (-513 : Int32))] Q
    refine sX8_valueOfAlone_23 (d := (d + 1)) M l1 ((((gl M 165 (l1).toNatClampNeg) &&& (1023 : Int64))).toInt32 &&& (-513 : Int32)) ?_
    refine zite k (fun h8846 k => ?_) (fun h8846 k => ?_)
    · refine sX8_name_0 (d := (d + 1)) M l1 ?_
      refine ⟨h8844, ?_⟩
      show Zm E YX8_valueOfAlone ((d + 1) + 1) M [] 34 [vi (((zlr (gl M 165 (l1).toNatClampNeg) (10 : Int32)) &&& (127 : Int64))).toInt32] Q
      refine sX8_valueOfAlone_34 (d := (d + 1)) M ((((zlr (gl M 165 (l1).toNatClampNeg) (10 : Int32)) &&& (127 : Int64))).toInt32) ?_
      exact k
    · exact k
theorem iX8_binarySet_0 {E : zE} {d : Nat} {Q : zO → zM → Prop} (M : zM) (l1 : Int32) (l2 : Int32) (l3 : Int32) (l4 : Int32) (k : vp_in l4 647800 ∧ (Zm E YX8_isAlone d (sl (sl (sl M 165 (l4).toNatClampNeg (0 : Int64)) 166 (l4).toNatClampNeg (0 : Int64)) 167 (l4).toNatClampNeg (0 : Int64)) (zargs 0 [vr (some (97, 1, 0)), vi l2]) 0 [] (zma E YX8_binarySet (d + 1) [(0, vr (some (97, 1, 0))), (1, vi l1), (2, vi l2), (3, vi l3), (4, vi l4)] 8 3 [] Q))) : Zm E YX8_binarySet (d + 1) M [(0, vr (some (97, 1, 0))), (1, vi l1), (2, vi l2), (3, vi l3), (4, vi l4)] 0 [] Q := by
  refine sX8_binarySet_0 (d := d) M l1 l2 l3 l4 ?_
  refine jX8_empty (d := d) M l4 ?_
  refine zand k (fun h8805 k => ?_)
  show Zm E YX8_binarySet (d + 1) (sl (sl (sl M 165 (l4).toNatClampNeg (0 : Int64)) 166 (l4).toNatClampNeg (0 : Int64)) 167 (l4).toNatClampNeg (0 : Int64)) [(0, vr (some (97, 1, 0))), (1, vi l1), (2, vi l2), (3, vi l3), (4, vi l4)] 6 [] Q
  refine sX8_binarySet_6 (d := d) (sl (sl (sl M 165 (l4).toNatClampNeg (0 : Int64)) 166 (l4).toNatClampNeg (0 : Int64)) 167 (l4).toNatClampNeg (0 : Int64)) l1 l2 l3 l4 ?_
  exact k
theorem iX8_binarySet_119 {E : zE} {d : Nat} {Q : zO → zM → Prop} (M : zM) (l1 : Int32) (l2 : Int32) (l3 : Int32) (l4 : Int32) (k : if l1 = 0 then (vp_in l2 647800 ∧ (vp_in l3 647800 ∧ (if (((((gl M 165 (l2).toNatClampNeg) &&& (1023 : Int64))).toInt32 ||| (((gl M 165 (l3).toNatClampNeg) &&& (1023 : Int64))).toInt32) &&& (384 : Int32)) = 0 then (if (lg_cmp ((gl M 166 (l2).toNatClampNeg) ||| (gl M 167 (l2).toNatClampNeg)) (0 : Int64)) = 0 then (if (lg_cmp ((gl M 166 (l3).toNatClampNeg) ||| (gl M 167 (l3).toNatClampNeg)) (0 : Int64)) = 0 then (if (((((gl M 165 (l2).toNatClampNeg) &&& (1023 : Int64))).toInt32 &&& (-513 : Int32)) &&& ((384 : Int32) ^^^ (-1 : Int32))) = 0 then (Q (.inl none) M) else (if (((((gl M 165 (l3).toNatClampNeg) &&& (1023 : Int64))).toInt32 &&& (-513 : Int32)) &&& ((384 : Int32) ^^^ (-1 : Int32))) = 0 then (Q (.inl none) M) else (Zm E YX8_addSort (d + 1) M (zargs 0 [vr (some (97, 1, 0)), vi l4, vi (80 : Int32)]) 0 [] (zma E YX8_binarySet ((d + 1) + 1) [] 199 3 [] Q)))) else (Zm E YX8_addString (d + 1) M (zargs 0 [vr (some (97, 1, 0)), vi l4, vi (-1 : Int32)]) 0 [] (zma E YX8_binarySet ((d + 1) + 1) [(0, vr (some (97, 1, 0))), (2, vi l2), (3, vi l3), (4, vi l4), (5, vi (384 : Int32))] 165 3 [] Q))) else (Zm E YX8_addString (d + 1) M (zargs 0 [vr (some (97, 1, 0)), vi l4, vi (-1 : Int32)]) 0 [] (zma E YX8_binarySet ((d + 1) + 1) [(0, vr (some (97, 1, 0))), (2, vi l2), (3, vi l3), (4, vi l4), (5, vi (384 : Int32))] 165 3 [] Q))) else (Zm E YX8_addString (d + 1) M (zargs 0 [vr (some (97, 1, 0)), vi l4, vi (-1 : Int32)]) 0 [] (zma E YX8_binarySet ((d + 1) + 1) [(0, vr (some (97, 1, 0))), (2, vi l2), (3, vi l3), (4, vi l4), (5, vi (384 : Int32))] 165 3 [] Q))))) else (if (5 : Int32) ≤ l1 then (if (11 : Int32) ≤ l1 then (Zm E YX8_addSort (d + 1) M (zargs 0 [vr (some (97, 1, 0)), vi l4, vi (12 : Int32)]) 0 [] (zma E YX8_binarySet ((d + 1) + 1) [] 231 3 [] Q)) else (Zm E YX8_addSort (d + 1) M (zargs 0 [vr (some (97, 1, 0)), vi l4, vi (64 : Int32)]) 0 [] (zma E YX8_binarySet ((d + 1) + 1) [] 231 3 [] Q))) else (Zm E YX8_addSort (d + 1) M (zargs 0 [vr (some (97, 1, 0)), vi l4, vi (80 : Int32)]) 0 [] (zma E YX8_binarySet ((d + 1) + 1) [] 231 3 [] Q)))) : Zm E YX8_binarySet (d + 2) M [(0, vr (some (97, 1, 0))), (1, vi l1), (2, vi l2), (3, vi l3), (4, vi l4)] 119 [] Q := by
  refine sX8_binarySet_119 (d := (d + 1)) M l1 l2 l3 l4 ?_
  refine zite k (fun h8822 k => ?_) (fun h8822 k => ?_)
  · refine sX8_has_0 (d := (d + 1)) M l2 ?_
    refine zand k (fun h8823 k => ?_)
    show Zm E YX8_binarySet ((d + 1) + 1) M [(0, vr (some (97, 1, 0))), (2, vi l2), (3, vi l3), (4, vi l4), (5, vi (384 : Int32))] 133 [vi (((gl M 165 (l2).toNatClampNeg) &&& (1023 : Int64))).toInt32] Q
    refine sX8_binarySet_133 (d := (d + 1)) M l2 l3 l4 (384 : Int32) ((((gl M 165 (l2).toNatClampNeg) &&& (1023 : Int64))).toInt32) ?_
    refine sX8_has_0 (d := (d + 1)) M l3 ?_
    refine zand k (fun h8824 k => ?_)
    show Zm E YX8_binarySet ((d + 1) + 1) M [(0, vr (some (97, 1, 0))), (2, vi l2), (3, vi l3), (4, vi l4), (5, vi (384 : Int32))] 138 [vi (((gl M 165 (l3).toNatClampNeg) &&& (1023 : Int64))).toInt32, vi (((gl M 165 (l2).toNatClampNeg) &&& (1023 : Int64))).toInt32] Q
    refine sX8_binarySet_138 (d := (d + 1)) M l2 l3 l4 (384 : Int32) ((((gl M 165 (l3).toNatClampNeg) &&& (1023 : Int64))).toInt32) ((((gl M 165 (l2).toNatClampNeg) &&& (1023 : Int64))).toInt32) ?_
    refine zite k (fun h8825 k => ?_) (fun h8825 k => ?_)
    · refine jX8_hasLabels (d := (d + 1)) M l2 ?_
      refine ⟨h8823, ?_⟩
      refine zite k (fun h8826 k => ?_) (fun h8826 k => ?_)
      · show Zm E YX8_binarySet ((d + 1) + 1) M [(0, vr (some (97, 1, 0))), (2, vi l2), (3, vi l3), (4, vi l4), (5, vi (384 : Int32))] 150 [vi (0 : Int32)] Q
        refine sX8_binarySet_150 (d := (d + 1)) M l2 l3 l4 (384 : Int32) (0 : Int32) ?_
        refine zpos (show (0 : Int32) = 0 from by decide) ?_
        refine jX8_hasLabels (d := (d + 1)) M l3 ?_
        refine ⟨h8824, ?_⟩
        refine zite k (fun h8827 k => ?_) (fun h8827 k => ?_)
        · show Zm E YX8_binarySet ((d + 1) + 1) M [(0, vr (some (97, 1, 0))), (2, vi l2), (3, vi l3), (4, vi l4), (5, vi (384 : Int32))] 158 [vi (0 : Int32)] Q
          refine sX8_binarySet_158 (d := (d + 1)) M l2 l3 l4 (384 : Int32) (0 : Int32) ?_
          refine zpos (show (0 : Int32) = 0 from by decide) ?_
          refine sX8_binarySet_168 (d := (d + 1)) M l2 l3 l4 (384 : Int32) ?_
          refine jX8_plainly (d := d) M l2 ?_
          refine ⟨h8823, ?_⟩
          show Zm E YX8_binarySet ((d + 1) + 1) M [(0, vr (some (97, 1, 0))), (3, vi l3), (4, vi l4), (5, vi (384 : Int32))] 173 [vi ((((gl M 165 (l2).toNatClampNeg) &&& (1023 : Int64))).toInt32 &&& (-513 : Int32))] Q
          refine sX8_binarySet_173 (d := (d + 1)) M l3 l4 (384 : Int32) ((((gl M 165 (l2).toNatClampNeg) &&& (1023 : Int64))).toInt32 &&& (-513 : Int32)) ?_
          refine zite k (fun h8828 k => ?_) (fun h8828 k => ?_)
          · refine sX8_binarySet_202 (d := (d + 1)) M  ?_
            refine sX8_binarySet_234 (d := (d + 1)) M  ?_
            exact k
          · refine jX8_plainly (d := d) M l3 ?_
            refine ⟨h8824, ?_⟩
            show Zm E YX8_binarySet ((d + 1) + 1) M [(0, vr (some (97, 1, 0))), (4, vi l4), (5, vi (384 : Int32))] 186 [vi ((((gl M 165 (l3).toNatClampNeg) &&& (1023 : Int64))).toInt32 &&& (-513 : Int32))] Q
            refine sX8_binarySet_186 (d := (d + 1)) M l4 (384 : Int32) ((((gl M 165 (l3).toNatClampNeg) &&& (1023 : Int64))).toInt32 &&& (-513 : Int32)) ?_
            refine zite k (fun h8829 k => ?_) (fun h8829 k => ?_)
            · refine sX8_binarySet_202 (d := (d + 1)) M  ?_
              refine sX8_binarySet_234 (d := (d + 1)) M  ?_
              exact k
            · exact k
        · show Zm E YX8_binarySet ((d + 1) + 1) M [(0, vr (some (97, 1, 0))), (2, vi l2), (3, vi l3), (4, vi l4), (5, vi (384 : Int32))] 158 [vi (1 : Int32)] Q
          refine sX8_binarySet_158 (d := (d + 1)) M l2 l3 l4 (384 : Int32) (1 : Int32) ?_
          refine zneg (show ¬ ((1 : Int32) = 0) from by decide) ?_
          exact k
      · show Zm E YX8_binarySet ((d + 1) + 1) M [(0, vr (some (97, 1, 0))), (2, vi l2), (3, vi l3), (4, vi l4), (5, vi (384 : Int32))] 150 [vi (1 : Int32)] Q
        refine sX8_binarySet_150 (d := (d + 1)) M l2 l3 l4 (384 : Int32) (1 : Int32) ?_
        refine zneg (show ¬ ((1 : Int32) = 0) from by decide) ?_
        exact k
    · exact k
  · exact k
theorem iX8_binarySet_202 {E : zE} {d : Nat} {Q : zO → zM → Prop} (M : zM)  (k : Q (.inl none) M) : Zm E YX8_binarySet (d + 1) M [] 202 [] Q := by
  refine sX8_binarySet_202 (d := d) M  ?_
  refine sX8_binarySet_234 (d := d) M  ?_
  exact k
theorem iX8_binarySet_168 {E : zE} {d : Nat} {Q : zO → zM → Prop} (M : zM) (l2 : Int32) (l3 : Int32) (l4 : Int32) (l5 : Int32) (k : vp_in l2 647800 ∧ (if (((((gl M 165 (l2).toNatClampNeg) &&& (1023 : Int64))).toInt32 &&& (-513 : Int32)) &&& (l5 ^^^ (-1 : Int32))) = 0 then (Q (.inl none) M) else (vp_in l3 647800 ∧ (if (((((gl M 165 (l3).toNatClampNeg) &&& (1023 : Int64))).toInt32 &&& (-513 : Int32)) &&& (l5 ^^^ (-1 : Int32))) = 0 then (Q (.inl none) M) else (Zm E YX8_addSort (d + 1) M (zargs 0 [vr (some (97, 1, 0)), vi l4, vi (80 : Int32)]) 0 [] (zma E YX8_binarySet ((d + 1) + 1) [] 199 3 [] Q)))))) : Zm E YX8_binarySet (d + 2) M [(0, vr (some (97, 1, 0))), (2, vi l2), (3, vi l3), (4, vi l4), (5, vi l5)] 168 [] Q := by
  refine sX8_binarySet_168 (d := (d + 1)) M l2 l3 l4 l5 ?_
  refine jX8_plainly (d := d) M l2 ?_
  refine zand k (fun h8840 k => ?_)
  show Zm E YX8_binarySet ((d + 1) + 1) M [(0, vr (some (97, 1, 0))), (3, vi l3), (4, vi l4), (5, vi l5)] 173 [vi ((((gl M 165 (l2).toNatClampNeg) &&& (1023 : Int64))).toInt32 &&& (-513 : Int32))] Q
  refine sX8_binarySet_173 (d := (d + 1)) M l3 l4 l5 ((((gl M 165 (l2).toNatClampNeg) &&& (1023 : Int64))).toInt32 &&& (-513 : Int32)) ?_
  refine zite k (fun h8841 k => ?_) (fun h8841 k => ?_)
  · refine sX8_binarySet_202 (d := (d + 1)) M  ?_
    refine sX8_binarySet_234 (d := (d + 1)) M  ?_
    exact k
  · refine jX8_plainly (d := d) M l3 ?_
    refine zand k (fun h8842 k => ?_)
    show Zm E YX8_binarySet ((d + 1) + 1) M [(0, vr (some (97, 1, 0))), (4, vi l4), (5, vi l5)] 186 [vi ((((gl M 165 (l3).toNatClampNeg) &&& (1023 : Int64))).toInt32 &&& (-513 : Int32))] Q
    refine sX8_binarySet_186 (d := (d + 1)) M l4 l5 ((((gl M 165 (l3).toNatClampNeg) &&& (1023 : Int64))).toInt32 &&& (-513 : Int32)) ?_
    refine zite k (fun h8843 k => ?_) (fun h8843 k => ?_)
    · refine sX8_binarySet_202 (d := (d + 1)) M  ?_
      refine sX8_binarySet_234 (d := (d + 1)) M  ?_
      exact k
    · exact k
theorem iX8_binarySet_45 {E : zE} {d : Nat} {Q : zO → zM → Prop} (M : zM) (l1 : Int32) (l3 : Int32) (l4 : Int32) (l5 : Int32) (l6 : Int32) (s0 : Int32) (s1 : Int32) (s2 : Int32) (k : vp_in l3 647800 ∧ (if ((((gl M 165 (l3).toNatClampNeg) &&& (1023 : Int64))).toInt32 &&& (-513 : Int32)) = (32 : Int32) then (Zm E YX8_binaryOf_2 (d + 2) M (zargs 0 [vr (some (97, 1, 0)), vi s2, vi s1, vi s0, vi l6, vi ((zlr (gl M 165 (l3).toNatClampNeg) (32 : Int32))).toInt32]) 0 [] (zma E YX8_binarySet ((d + 2) + 1) [(0, vr (some (97, 1, 0))), (1, vi l1), (4, vi l4), (5, vi l5), (6, vi l6)] 52 3 [] Q)) else (if ((((gl M 165 (l3).toNatClampNeg) &&& (1023 : Int64))).toInt32 &&& (-513 : Int32)) = (128 : Int32) then (Zm E YX8_binaryOf_2 (d + 2) M (zargs 0 [vr (some (97, 1, 0)), vi s2, vi s1, vi s0, vi l6, vi (((zlr (gl M 165 (l3).toNatClampNeg) (10 : Int32)) &&& (127 : Int64))).toInt32]) 0 [] (zma E YX8_binarySet ((d + 2) + 1) [(0, vr (some (97, 1, 0))), (1, vi l1), (4, vi l4), (5, vi l5), (6, vi l6)] 52 3 [] Q)) else (Zm E YX8_binaryOf_2 (d + 2) M (zargs 0 [vr (some (97, 1, 0)), vi s2, vi s1, vi s0, vi l6, vi (0 : Int32)]) 0 [] (zma E YX8_binarySet ((d + 2) + 1) [(0, vr (some (97, 1, 0))), (1, vi l1), (4, vi l4), (5, vi l5), (6, vi l6)] 52 3 [] Q))))) : Zm E YX8_binarySet (d + 3) M [(0, vr (some (97, 1, 0))), (1, vi l1), (3, vi l3), (4, vi l4), (5, vi l5), (6, vi l6)] 45 [vi s0, vi s1, vi s2, vr (some (97, 1, 0))] Q := by
  refine sX8_binarySet_45 (d := (d + 2)) M l1 l3 l4 l5 l6 s0 s1 s2 ?_
  refine jX8_valueOfAlone (d := d) M l3 ?_
  refine zand k (fun h8859 k => ?_)
  refine zite k (fun h8860 k => ?_) (fun h8860 k => ?_)
  · show Zm E YX8_binarySet ((d + 2) + 1) M [(0, vr (some (97, 1, 0))), (1, vi l1), (4, vi l4), (5, vi l5), (6, vi l6)] 52 [vi ((zlr (gl M 165 (l3).toNatClampNeg) (32 : Int32))).toInt32, vi l6, vi s0, vi s1, vi s2, vr (some (97, 1, 0))] Q
    refine sX8_binarySet_52 (d := (d + 2)) M l1 l4 l5 l6 (((zlr (gl M 165 (l3).toNatClampNeg) (32 : Int32))).toInt32) l6 s0 s1 s2 ?_
    exact k
  · refine zite k (fun h8861 k => ?_) (fun h8861 k => ?_)
    · show Zm E YX8_binarySet ((d + 2) + 1) M [(0, vr (some (97, 1, 0))), (1, vi l1), (4, vi l4), (5, vi l5), (6, vi l6)] 52 [vi (((zlr (gl M 165 (l3).toNatClampNeg) (10 : Int32)) &&& (127 : Int64))).toInt32, vi l6, vi s0, vi s1, vi s2, vr (some (97, 1, 0))] Q
      refine sX8_binarySet_52 (d := (d + 2)) M l1 l4 l5 l6 ((((zlr (gl M 165 (l3).toNatClampNeg) (10 : Int32)) &&& (127 : Int64))).toInt32) l6 s0 s1 s2 ?_
      exact k
    · show Zm E YX8_binarySet ((d + 2) + 1) M [(0, vr (some (97, 1, 0))), (1, vi l1), (4, vi l4), (5, vi l5), (6, vi l6)] 52 [vi (0 : Int32), vi l6, vi s0, vi s1, vi s2, vr (some (97, 1, 0))] Q
      refine sX8_binarySet_52 (d := (d + 2)) M l1 l4 l5 l6 (0 : Int32) l6 s0 s1 s2 ?_
      exact k
theorem iX8_binarySet_55 {E : zE} {d : Nat} {Q : zO → zM → Prop} (M : zM) (l1 : Int32) (l4 : Int32) (l5 : Int32) (l6 : Int32) (k : if l1 = 0 then (if (6 : Int32) ≤ l5 then (if (gi M 97 11) ≤ (60 : Int32) then (Zm E YX8_findName d (si M 97 11 (gi M 97 11)) (zargs 0 [vr (some (97, 1, 0))]) 0 [] (zma E YX8_binarySet (d + 1) [] 93 3 [vi l4, vr (some (97, 1, 0))] Q)) else (Zm E YX8_findName d (si M 97 11 (60 : Int32)) (zargs 0 [vr (some (97, 1, 0))]) 0 [] (zma E YX8_binarySet (d + 1) [] 93 3 [vi l4, vr (some (97, 1, 0))] Q))) else (if l6 < (6 : Int32) then (Zm E YX8_addValue d M (zargs 0 [vr (some (97, 1, 0)), vi l4, vi (gi M 97 111), vi (gi M 97 112)]) 0 [] (zma E YX8_binarySet (d + 1) [] 113 3 [] Q)) else (if (gi M 97 11) ≤ (60 : Int32) then (Zm E YX8_findName d (si M 97 11 (gi M 97 11)) (zargs 0 [vr (some (97, 1, 0))]) 0 [] (zma E YX8_binarySet (d + 1) [] 93 3 [vi l4, vr (some (97, 1, 0))] Q)) else (Zm E YX8_findName d (si M 97 11 (60 : Int32)) (zargs 0 [vr (some (97, 1, 0))]) 0 [] (zma E YX8_binarySet (d + 1) [] 93 3 [vi l4, vr (some (97, 1, 0))] Q))))) else (Zm E YX8_addValue d M (zargs 0 [vr (some (97, 1, 0)), vi l4, vi (gi M 97 111), vi (gi M 97 112)]) 0 [] (zma E YX8_binarySet (d + 1) [] 113 3 [] Q))) : Zm E YX8_binarySet (d + 1) M [(0, vr (some (97, 1, 0))), (1, vi l1), (4, vi l4), (5, vi l5), (6, vi l6)] 55 [] Q := by
  refine sX8_binarySet_55 (d := d) M l1 l4 l5 l6 ?_
  refine sX8_joinsTexts_0 (d := d) M l1 l5 l6 ?_
  refine zite k (fun h8862 k => ?_) (fun h8862 k => ?_)
  · refine zite k (fun h8863 k => ?_) (fun h8863 k => ?_)
    · show Zm E YX8_binarySet (d + 1) M [(0, vr (some (97, 1, 0))), (4, vi l4)] 64 [vi (1 : Int32)] Q
      refine sX8_binarySet_64 (d := d) M l4 (1 : Int32) ?_
      refine zneg (show ¬ ((1 : Int32) = 0) from by decide) ?_
      exact k
    · refine zite k (fun h8865 k => ?_) (fun h8865 k => ?_)
      · show Zm E YX8_binarySet (d + 1) M [(0, vr (some (97, 1, 0))), (4, vi l4)] 64 [vi (0 : Int32)] Q
        refine sX8_binarySet_64 (d := d) M l4 (0 : Int32) ?_
        refine zpos (show (0 : Int32) = 0 from by decide) ?_
        exact k
      · show Zm E YX8_binarySet (d + 1) M [(0, vr (some (97, 1, 0))), (4, vi l4)] 64 [vi (1 : Int32)] Q
        refine sX8_binarySet_64 (d := d) M l4 (1 : Int32) ?_
        refine zneg (show ¬ ((1 : Int32) = 0) from by decide) ?_
        exact k
  · show Zm E YX8_binarySet (d + 1) M [(0, vr (some (97, 1, 0))), (4, vi l4)] 64 [vi (0 : Int32)] Q
    refine sX8_binarySet_64 (d := d) M l4 (0 : Int32) ?_
    refine zpos (show (0 : Int32) = 0 from by decide) ?_
    exact k
theorem iX8_binarySet_116 {E : zE} {d : Nat} {Q : zO → zM → Prop} (M : zM)  (k : Q (.inl none) M) : Zm E YX8_binarySet (d + 1) M [] 116 [] Q := by
  refine sX8_binarySet_116 (d := d) M  ?_
  refine sX8_binarySet_234 (d := d) M  ?_
  exact k
theorem iX8_binarySet_99 {E : zE} {d : Nat} {Q : zO → zM → Prop} (M : zM)  (k : Q (.inl none) M) : Zm E YX8_binarySet (d + 1) M [] 99 [] Q := by
  refine sX8_binarySet_99 (d := d) M  ?_
  refine sX8_binarySet_116 (d := d) M  ?_
  refine sX8_binarySet_234 (d := d) M  ?_
  exact k
theorem iX8_callWays_24 {E : zE} {d : Nat} {Q : zO → zM → Prop} (M : zM) (l1 : Int32) (l2 : Int32) (l3 : Int32) (l4 : Int32) (l5 : Int32) (k : vp_in (639 : Int32) 640 ∧ (vp_in ((gi M 172 ((639 : Int32)).toNatClampNeg) + l1) 647800 ∧ (if ((((gl M 165 (((gi M 172 ((639 : Int32)).toNatClampNeg) + l1)).toNatClampNeg) &&& (1023 : Int64))).toInt32 &&& (-513 : Int32)) = 0 then (Zm E YX8_callWays ((d + 1) + 1) M [(0, vr (some (97, 1, 0))), (2, vi l2), (3, vi l3), (4, vi l4), (5, vi l5), (7, vl (gl M 166 (((gi M 172 ((639 : Int32)).toNatClampNeg) + l1)).toNatClampNeg)), (9, vl (gl M 167 (((gi M 172 ((639 : Int32)).toNatClampNeg) + l1)).toNatClampNeg)), (11, vi (0 : Int32)), (12, vi (0 : Int32)), (13, vi (0 : Int32))] 74 [] Q) else (Zm E YX8_callWays ((d + 1) + 1) M [(0, vr (some (97, 1, 0))), (2, vi l2), (3, vi l3), (4, vi l4), (5, vi l5), (7, vl (gl M 166 (((gi M 172 ((639 : Int32)).toNatClampNeg) + l1)).toNatClampNeg)), (9, vl (gl M 167 (((gi M 172 ((639 : Int32)).toNatClampNeg) + l1)).toNatClampNeg)), (11, vi (1 : Int32)), (12, vi (0 : Int32)), (13, vi (0 : Int32))] 74 [] Q)))) : Zm E YX8_callWays (d + 2) M [(0, vr (some (97, 1, 0))), (1, vi l1), (2, vi l2), (3, vi l3), (4, vi l4), (5, vi l5)] 24 [] Q := by
  refine sX8_callWays_24 (d := (d + 1)) M l1 l2 l3 l4 l5 ?_
  refine sX8_onStack_0 (d := (d + 1)) M (639 : Int32) l1 ?_
  refine zand k (fun h8871 k => ?_)
  show Zm E YX8_callWays ((d + 1) + 1) M [(0, vr (some (97, 1, 0))), (2, vi l2), (3, vi l3), (4, vi l4), (5, vi l5)] 32 [vi ((gi M 172 ((639 : Int32)).toNatClampNeg) + l1)] Q
  refine sX8_callWays_32 (d := (d + 1)) M l2 l3 l4 l5 ((gi M 172 ((639 : Int32)).toNatClampNeg) + l1) ?_
  refine zand k (fun h8872 k => ?_)
  refine ⟨h8872, ?_⟩
  refine jX8_plainly (d := d) M ((gi M 172 ((639 : Int32)).toNatClampNeg) + l1) ?_
  refine ⟨h8872, ?_⟩
  show Zm E YX8_callWays ((d + 1) + 1) M [(0, vr (some (97, 1, 0))), (2, vi l2), (3, vi l3), (4, vi l4), (5, vi l5), (7, vl (gl M 166 (((gi M 172 ((639 : Int32)).toNatClampNeg) + l1)).toNatClampNeg)), (9, vl (gl M 167 (((gi M 172 ((639 : Int32)).toNatClampNeg) + l1)).toNatClampNeg))] 58 [vi ((((gl M 165 (((gi M 172 ((639 : Int32)).toNatClampNeg) + l1)).toNatClampNeg) &&& (1023 : Int64))).toInt32 &&& (-513 : Int32))] Q
  refine sX8_callWays_58 (d := (d + 1)) M l2 l3 l4 l5 (gl M 166 (((gi M 172 ((639 : Int32)).toNatClampNeg) + l1)).toNatClampNeg) (gl M 167 (((gi M 172 ((639 : Int32)).toNatClampNeg) + l1)).toNatClampNeg) ((((gl M 165 (((gi M 172 ((639 : Int32)).toNatClampNeg) + l1)).toNatClampNeg) &&& (1023 : Int64))).toInt32 &&& (-513 : Int32)) ?_
  exact k
theorem iX8_callWays_74 {E : zE} {d : Nat} {Q : zO → zM → Prop} (M : zM) (l2 : Int32) (l3 : Int32) (l4 : Int32) (l5 : Int32) (l7 : Int64) (l9 : Int64) (l11 : Int32) (l12 : Int32) (l13 : Int32) (k : if (gi M 97 71) ≤ l13 then (if l11 = 0 then (if l12 = 0 then (Zm E YX8_callWays (d + 1) M [(0, vr (some (97, 1, 0))), (2, vi l2), (3, vi l3), (4, vi l4), (5, vi l5), (7, vl l7), (9, vl l9), (13, vi (9 : Int32))] 180 [] Q) else (Zm E YX8_error_2 d M (zargs 0 [vr (some (97, 1, 0)), vi (gi M 97 148), vi (8 : Int32)]) 0 [] (zma E YX8_callWays (d + 1) [(0, vr (some (97, 1, 0))), (2, vi l2), (3, vi l3), (4, vi l4), (5, vi l5), (7, vl l7), (9, vl l9)] 173 3 [] Q))) else (Zm E YX8_error_2 d M (zargs 0 [vr (some (97, 1, 0)), vi (gi M 97 148), vi (6 : Int32)]) 0 [] (zma E YX8_callWays (d + 1) [(0, vr (some (97, 1, 0))), (2, vi l2), (3, vi l3), (4, vi l4), (5, vi l5), (7, vl l7), (9, vl l9), (12, vi l12)] 158 3 [] Q))) else (if (64 : Int32) ≤ l13 then (if (lg_cmp ((zlr l9 (l13 - (64 : Int32))) &&& (1 : Int64)) (1 : Int64)) = 0 then (if l11 = 0 then (Zm E YX8_isFunctionLabel d M (zargs 0 [vr (some (97, 1, 0)), vi l13]) 0 [] (zma E YX8_callWays (d + 1) [(0, vr (some (97, 1, 0))), (2, vi l2), (3, vi l3), (4, vi l4), (5, vi l5), (7, vl l7), (9, vl l9), (12, vi l12), (13, vi l13)] 106 3 [] Q)) else (if l12 = 0 then (Zm E YX8_codeOfLabel d M (zargs 0 [vr (some (97, 1, 0)), vi l13]) 0 [] (zma E YX8_callWays (d + 1) [(0, vr (some (97, 1, 0))), (2, vi l2), (3, vi l3), (4, vi l4), (5, vi l5), (7, vl l7), (9, vl l9), (11, vi (1 : Int32)), (13, vi l13)] 127 3 [] Q)) else (Zm E YX8_callWays (d + 1) M [(0, vr (some (97, 1, 0))), (2, vi l2), (3, vi l3), (4, vi l4), (5, vi l5), (7, vl l7), (9, vl l9), (11, vi (1 : Int32)), (12, vi (1 : Int32)), (13, vi (l13 + (1 : Int32)))] 74 [] Q))) else (Zm E YX8_callWays (d + 1) M [(0, vr (some (97, 1, 0))), (2, vi l2), (3, vi l3), (4, vi l4), (5, vi l5), (7, vl l7), (9, vl l9), (11, vi l11), (12, vi l12), (13, vi (l13 + (1 : Int32)))] 74 [] Q)) else (if (lg_cmp ((zlr l7 l13) &&& (1 : Int64)) (1 : Int64)) = 0 then (if l11 = 0 then (Zm E YX8_isFunctionLabel d M (zargs 0 [vr (some (97, 1, 0)), vi l13]) 0 [] (zma E YX8_callWays (d + 1) [(0, vr (some (97, 1, 0))), (2, vi l2), (3, vi l3), (4, vi l4), (5, vi l5), (7, vl l7), (9, vl l9), (12, vi l12), (13, vi l13)] 106 3 [] Q)) else (if l12 = 0 then (Zm E YX8_codeOfLabel d M (zargs 0 [vr (some (97, 1, 0)), vi l13]) 0 [] (zma E YX8_callWays (d + 1) [(0, vr (some (97, 1, 0))), (2, vi l2), (3, vi l3), (4, vi l4), (5, vi l5), (7, vl l7), (9, vl l9), (11, vi (1 : Int32)), (13, vi l13)] 127 3 [] Q)) else (Zm E YX8_callWays (d + 1) M [(0, vr (some (97, 1, 0))), (2, vi l2), (3, vi l3), (4, vi l4), (5, vi l5), (7, vl l7), (9, vl l9), (11, vi (1 : Int32)), (12, vi (1 : Int32)), (13, vi (l13 + (1 : Int32)))] 74 [] Q))) else (Zm E YX8_callWays (d + 1) M [(0, vr (some (97, 1, 0))), (2, vi l2), (3, vi l3), (4, vi l4), (5, vi l5), (7, vl l7), (9, vl l9), (11, vi l11), (12, vi l12), (13, vi (l13 + (1 : Int32)))] 74 [] Q)))) : Zm E YX8_callWays (d + 1) M [(0, vr (some (97, 1, 0))), (2, vi l2), (3, vi l3), (4, vi l4), (5, vi l5), (7, vl l7), (9, vl l9), (11, vi l11), (12, vi l12), (13, vi l13)] 74 [] Q := by
  refine sX8_callWays_74 (d := d) M l2 l3 l4 l5 l7 l9 l11 l12 l13 ?_
  refine zite k (fun h8874 k => ?_) (fun h8874 k => ?_)
  · refine zite k (fun h8875 k => ?_) (fun h8875 k => ?_)
    · refine sX8_callWays_161 (d := d) M l2 l3 l4 l5 l7 l9 l12 ?_
      refine zite k (fun h8876 k => ?_) (fun h8876 k => ?_)
      · refine sX8_callWays_176 (d := d) M l2 l3 l4 l5 l7 l9 ?_
        exact k
      · exact k
    · exact k
  · refine jX8_isIn (d := d) M l7 l9 l13 ?_
    refine zite k (fun h8877 k => ?_) (fun h8877 k => ?_)
    · refine zite k (fun h8878 k => ?_) (fun h8878 k => ?_)
      · show Zm E YX8_callWays (d + 1) M [(0, vr (some (97, 1, 0))), (2, vi l2), (3, vi l3), (4, vi l4), (5, vi l5), (7, vl l7), (9, vl l9), (11, vi l11), (12, vi l12), (13, vi l13)] 92 [vi (1 : Int32)] Q
        refine sX8_callWays_92 (d := d) M l2 l3 l4 l5 l7 l9 l11 l12 l13 (1 : Int32) ?_
        refine zneg (show ¬ ((1 : Int32) = 0) from by decide) ?_
        refine zite k (fun h8879 k => ?_) (fun h8879 k => ?_)
        · exact k
        · refine sX8_callWays_117 (d := d) M l2 l3 l4 l5 l7 l9 l12 l13 (1 : Int32) ?_
          exact k
      · show Zm E YX8_callWays (d + 1) M [(0, vr (some (97, 1, 0))), (2, vi l2), (3, vi l3), (4, vi l4), (5, vi l5), (7, vl l7), (9, vl l9), (11, vi l11), (12, vi l12), (13, vi l13)] 92 [vi (0 : Int32)] Q
        refine sX8_callWays_92 (d := d) M l2 l3 l4 l5 l7 l9 l11 l12 l13 (0 : Int32) ?_
        refine zpos (show (0 : Int32) = 0 from by decide) ?_
        exact k
    · refine zite k (fun h8882 k => ?_) (fun h8882 k => ?_)
      · show Zm E YX8_callWays (d + 1) M [(0, vr (some (97, 1, 0))), (2, vi l2), (3, vi l3), (4, vi l4), (5, vi l5), (7, vl l7), (9, vl l9), (11, vi l11), (12, vi l12), (13, vi l13)] 92 [vi (1 : Int32)] Q
        refine sX8_callWays_92 (d := d) M l2 l3 l4 l5 l7 l9 l11 l12 l13 (1 : Int32) ?_
        refine zneg (show ¬ ((1 : Int32) = 0) from by decide) ?_
        refine zite k (fun h8883 k => ?_) (fun h8883 k => ?_)
        · exact k
        · refine sX8_callWays_117 (d := d) M l2 l3 l4 l5 l7 l9 l12 l13 (1 : Int32) ?_
          exact k
      · show Zm E YX8_callWays (d + 1) M [(0, vr (some (97, 1, 0))), (2, vi l2), (3, vi l3), (4, vi l4), (5, vi l5), (7, vl l7), (9, vl l9), (11, vi l11), (12, vi l12), (13, vi l13)] 92 [vi (0 : Int32)] Q
        refine sX8_callWays_92 (d := d) M l2 l3 l4 l5 l7 l9 l11 l12 l13 (0 : Int32) ?_
        refine zpos (show (0 : Int32) = 0 from by decide) ?_
        exact k
theorem iX8_callWays_180 {E : zE} {d : Nat} {Q : zO → zM → Prop} (M : zM) (l2 : Int32) (l3 : Int32) (l4 : Int32) (l5 : Int32) (l7 : Int64) (l9 : Int64) (l13 : Int32) (k : if (23 : Int32) ≤ l13 then (Zm E YX8_callWays (d + 1) M [(0, vr (some (97, 1, 0))), (2, vi l2), (3, vi l3), (4, vi l4), (5, vi l5), (7, vl l7), (9, vl l9), (13, vi (1 : Int32))] 266 [] Q) else (if (64 : Int32) ≤ l13 then (if (lg_cmp ((zlr l9 (l13 - (64 : Int32))) &&& (1 : Int64)) (1 : Int64)) = 0 then (if l13 = (20 : Int32) then (if l4 ≤ 0 then (Zm E YX8_callWays d M (zargs 0 [vr (some (97, 1, 0)), vi l2, vi (-1 : Int32), vi (l3 + (1 : Int32)), vi (0 : Int32), vi l5]) 0 [] (zma E YX8_callWays (d + 1) [(0, vr (some (97, 1, 0))), (2, vi l2), (3, vi l3), (4, vi l4), (5, vi l5), (7, vl l7), (9, vl l9), (13, vi l13)] 239 3 [] Q)) else (Zm E YX8_callWays d M (zargs 0 [vr (some (97, 1, 0)), vi l2, vi l3, vi (l3 + (1 : Int32)), vi (l4 - (1 : Int32)), vi l5]) 0 [] (zma E YX8_callWays (d + 1) [(0, vr (some (97, 1, 0))), (2, vi l2), (3, vi l3), (4, vi l4), (5, vi l5), (7, vl l7), (9, vl l9), (13, vi l13)] 239 3 [] Q))) else (Zm E YX8_nativeWays d M (zargs 0 [vr (some (97, 1, 0)), vi l13, vi l2, vi l3, vi l4, vi l5]) 0 [] (zma E YX8_callWays (d + 1) [(0, vr (some (97, 1, 0))), (2, vi l2), (3, vi l3), (4, vi l4), (5, vi l5), (7, vl l7), (9, vl l9), (13, vi l13)] 254 3 [] Q))) else (Zm E YX8_callWays (d + 1) M [(0, vr (some (97, 1, 0))), (2, vi l2), (3, vi l3), (4, vi l4), (5, vi l5), (7, vl l7), (9, vl l9), (13, vi (l13 + (1 : Int32)))] 180 [] Q)) else (if (lg_cmp ((zlr l7 l13) &&& (1 : Int64)) (1 : Int64)) = 0 then (if l13 = (20 : Int32) then (if l4 ≤ 0 then (Zm E YX8_callWays d M (zargs 0 [vr (some (97, 1, 0)), vi l2, vi (-1 : Int32), vi (l3 + (1 : Int32)), vi (0 : Int32), vi l5]) 0 [] (zma E YX8_callWays (d + 1) [(0, vr (some (97, 1, 0))), (2, vi l2), (3, vi l3), (4, vi l4), (5, vi l5), (7, vl l7), (9, vl l9), (13, vi l13)] 239 3 [] Q)) else (Zm E YX8_callWays d M (zargs 0 [vr (some (97, 1, 0)), vi l2, vi l3, vi (l3 + (1 : Int32)), vi (l4 - (1 : Int32)), vi l5]) 0 [] (zma E YX8_callWays (d + 1) [(0, vr (some (97, 1, 0))), (2, vi l2), (3, vi l3), (4, vi l4), (5, vi l5), (7, vl l7), (9, vl l9), (13, vi l13)] 239 3 [] Q))) else (Zm E YX8_nativeWays d M (zargs 0 [vr (some (97, 1, 0)), vi l13, vi l2, vi l3, vi l4, vi l5]) 0 [] (zma E YX8_callWays (d + 1) [(0, vr (some (97, 1, 0))), (2, vi l2), (3, vi l3), (4, vi l4), (5, vi l5), (7, vl l7), (9, vl l9), (13, vi l13)] 254 3 [] Q))) else (Zm E YX8_callWays (d + 1) M [(0, vr (some (97, 1, 0))), (2, vi l2), (3, vi l3), (4, vi l4), (5, vi l5), (7, vl l7), (9, vl l9), (13, vi (l13 + (1 : Int32)))] 180 [] Q)))) : Zm E YX8_callWays (d + 1) M [(0, vr (some (97, 1, 0))), (2, vi l2), (3, vi l3), (4, vi l4), (5, vi l5), (7, vl l7), (9, vl l9), (13, vi l13)] 180 [] Q := by
  refine sX8_callWays_180 (d := d) M l2 l3 l4 l5 l7 l9 l13 ?_
  refine zite k (fun h8885 k => ?_) (fun h8885 k => ?_)
  · exact k
  · refine jX8_isIn (d := d) M l7 l9 l13 ?_
    refine zite k (fun h8886 k => ?_) (fun h8886 k => ?_)
    · refine zite k (fun h8887 k => ?_) (fun h8887 k => ?_)
      · show Zm E YX8_callWays (d + 1) M [(0, vr (some (97, 1, 0))), (2, vi l2), (3, vi l3), (4, vi l4), (5, vi l5), (7, vl l7), (9, vl l9), (13, vi l13)] 196 [vi (1 : Int32)] Q
        refine sX8_callWays_196 (d := d) M l2 l3 l4 l5 l7 l9 l13 (1 : Int32) ?_
        refine zneg (show ¬ ((1 : Int32) = 0) from by decide) ?_
        refine zite k (fun h8888 k => ?_) (fun h8888 k => ?_)
        · refine zite k (fun h8889 k => ?_) (fun h8889 k => ?_)
          · refine sX8_callWays_221 (d := d) M l2 l3 l4 l5 l7 l9 l13 (-1 : Int32) l2 ?_
            refine zpos h8889 ?_
            exact k
          · refine sX8_callWays_221 (d := d) M l2 l3 l4 l5 l7 l9 l13 l3 l2 ?_
            refine zneg h8889 ?_
            exact k
        · exact k
      · show Zm E YX8_callWays (d + 1) M [(0, vr (some (97, 1, 0))), (2, vi l2), (3, vi l3), (4, vi l4), (5, vi l5), (7, vl l7), (9, vl l9), (13, vi l13)] 196 [vi (0 : Int32)] Q
        refine sX8_callWays_196 (d := d) M l2 l3 l4 l5 l7 l9 l13 (0 : Int32) ?_
        refine zpos (show (0 : Int32) = 0 from by decide) ?_
        refine sX8_callWays_257 (d := d) M l2 l3 l4 l5 l7 l9 l13 ?_
        exact k
    · refine zite k (fun h8890 k => ?_) (fun h8890 k => ?_)
      · show Zm E YX8_callWays (d + 1) M [(0, vr (some (97, 1, 0))), (2, vi l2), (3, vi l3), (4, vi l4), (5, vi l5), (7, vl l7), (9, vl l9), (13, vi l13)] 196 [vi (1 : Int32)] Q
        refine sX8_callWays_196 (d := d) M l2 l3 l4 l5 l7 l9 l13 (1 : Int32) ?_
        refine zneg (show ¬ ((1 : Int32) = 0) from by decide) ?_
        refine zite k (fun h8891 k => ?_) (fun h8891 k => ?_)
        · refine zite k (fun h8892 k => ?_) (fun h8892 k => ?_)
          · refine sX8_callWays_221 (d := d) M l2 l3 l4 l5 l7 l9 l13 (-1 : Int32) l2 ?_
            refine zpos h8892 ?_
            exact k
          · refine sX8_callWays_221 (d := d) M l2 l3 l4 l5 l7 l9 l13 l3 l2 ?_
            refine zneg h8892 ?_
            exact k
        · exact k
      · show Zm E YX8_callWays (d + 1) M [(0, vr (some (97, 1, 0))), (2, vi l2), (3, vi l3), (4, vi l4), (5, vi l5), (7, vl l7), (9, vl l9), (13, vi l13)] 196 [vi (0 : Int32)] Q
        refine sX8_callWays_196 (d := d) M l2 l3 l4 l5 l7 l9 l13 (0 : Int32) ?_
        refine zpos (show (0 : Int32) = 0 from by decide) ?_
        refine sX8_callWays_257 (d := d) M l2 l3 l4 l5 l7 l9 l13 ?_
        exact k
theorem iX8_callWays_161 {E : zE} {d : Nat} {Q : zO → zM → Prop} (M : zM) (l2 : Int32) (l3 : Int32) (l4 : Int32) (l5 : Int32) (l7 : Int64) (l9 : Int64) (l12 : Int32) (k : if l12 = 0 then (Zm E YX8_callWays (d + 1) M [(0, vr (some (97, 1, 0))), (2, vi l2), (3, vi l3), (4, vi l4), (5, vi l5), (7, vl l7), (9, vl l9), (13, vi (9 : Int32))] 180 [] Q) else (Zm E YX8_error_2 d M (zargs 0 [vr (some (97, 1, 0)), vi (gi M 97 148), vi (8 : Int32)]) 0 [] (zma E YX8_callWays (d + 1) [(0, vr (some (97, 1, 0))), (2, vi l2), (3, vi l3), (4, vi l4), (5, vi l5), (7, vl l7), (9, vl l9)] 173 3 [] Q))) : Zm E YX8_callWays (d + 1) M [(0, vr (some (97, 1, 0))), (2, vi l2), (3, vi l3), (4, vi l4), (5, vi l5), (7, vl l7), (9, vl l9), (12, vi l12)] 161 [] Q := by
  refine sX8_callWays_161 (d := d) M l2 l3 l4 l5 l7 l9 l12 ?_
  refine zite k (fun h8893 k => ?_) (fun h8893 k => ?_)
  · refine sX8_callWays_176 (d := d) M l2 l3 l4 l5 l7 l9 ?_
    exact k
  · exact k
theorem iX8_callWays_109 {E : zE} {d : Nat} {Q : zO → zM → Prop} (M : zM) (l2 : Int32) (l3 : Int32) (l4 : Int32) (l5 : Int32) (l7 : Int64) (l9 : Int64) (l12 : Int32) (l13 : Int32) (s0 : Int32) (k : if s0 = 0 then (if l12 = 0 then (Zm E YX8_codeOfLabel d M (zargs 0 [vr (some (97, 1, 0)), vi l13]) 0 [] (zma E YX8_callWays (d + 1) [(0, vr (some (97, 1, 0))), (2, vi l2), (3, vi l3), (4, vi l4), (5, vi l5), (7, vl l7), (9, vl l9), (11, vi (1 : Int32)), (13, vi l13)] 127 3 [] Q)) else (Zm E YX8_callWays (d + 1) M [(0, vr (some (97, 1, 0))), (2, vi l2), (3, vi l3), (4, vi l4), (5, vi l5), (7, vl l7), (9, vl l9), (11, vi (1 : Int32)), (12, vi (1 : Int32)), (13, vi (l13 + (1 : Int32)))] 74 [] Q)) else (if l12 = 0 then (Zm E YX8_codeOfLabel d M (zargs 0 [vr (some (97, 1, 0)), vi l13]) 0 [] (zma E YX8_callWays (d + 1) [(0, vr (some (97, 1, 0))), (2, vi l2), (3, vi l3), (4, vi l4), (5, vi l5), (7, vl l7), (9, vl l9), (11, vi (0 : Int32)), (13, vi l13)] 127 3 [] Q)) else (Zm E YX8_callWays (d + 1) M [(0, vr (some (97, 1, 0))), (2, vi l2), (3, vi l3), (4, vi l4), (5, vi l5), (7, vl l7), (9, vl l9), (11, vi (0 : Int32)), (12, vi (1 : Int32)), (13, vi (l13 + (1 : Int32)))] 74 [] Q))) : Zm E YX8_callWays (d + 1) M [(0, vr (some (97, 1, 0))), (2, vi l2), (3, vi l3), (4, vi l4), (5, vi l5), (7, vl l7), (9, vl l9), (12, vi l12), (13, vi l13)] 109 [vi s0] Q := by
  refine sX8_callWays_109 (d := d) M l2 l3 l4 l5 l7 l9 l12 l13 s0 ?_
  refine zite k (fun h8894 k => ?_) (fun h8894 k => ?_)
  · refine sX8_callWays_117 (d := d) M l2 l3 l4 l5 l7 l9 l12 l13 (1 : Int32) ?_
    exact k
  · refine sX8_callWays_117 (d := d) M l2 l3 l4 l5 l7 l9 l12 l13 (0 : Int32) ?_
    exact k
theorem iX8_callWays_242 {E : zE} {d : Nat} {Q : zO → zM → Prop} (M : zM) (l2 : Int32) (l3 : Int32) (l4 : Int32) (l5 : Int32) (l7 : Int64) (l9 : Int64) (l13 : Int32) (k : Zm E YX8_callWays (d + 1) M [(0, vr (some (97, 1, 0))), (2, vi l2), (3, vi l3), (4, vi l4), (5, vi l5), (7, vl l7), (9, vl l9), (13, vi (l13 + (1 : Int32)))] 180 [] Q) : Zm E YX8_callWays (d + 1) M [(0, vr (some (97, 1, 0))), (2, vi l2), (3, vi l3), (4, vi l4), (5, vi l5), (7, vl l7), (9, vl l9), (13, vi l13)] 242 [] Q := by
  refine sX8_callWays_242 (d := d) M l2 l3 l4 l5 l7 l9 l13 ?_
  refine sX8_callWays_257 (d := d) M l2 l3 l4 l5 l7 l9 l13 ?_
  exact k
theorem iX8_codeWays_21 {E : zE} {d : Nat} {Q : zO → zM → Prop} (M : zM) (l1 : Int32) (l2 : Int64) (l4 : Int64) (l6 : Int32) (l7 : Int32) (l8 : Int32) (l9 : Int32) (l10 : Int32) (l11 : Int32) (s0 : Int32) (k : if (64 : Int32) ≤ (l11 + (1 : Int32)) then (if (lg_cmp ((zlr l4 ((l11 + (1 : Int32)) - (64 : Int32))) &&& (1 : Int64)) (1 : Int64)) = 0 then (if s0 = 0 then (Zm E YX8_prepare d M (zargs 0 [vr (some (97, 1, 0)), vl l2, vl l4, vi l10]) 0 [] (zma E YX8_codeWays (d + 1) [(0, vr (some (97, 1, 0))), (1, vi l1), (2, vl l2), (4, vl l4), (6, vi l6), (7, vi l7), (8, vi l8), (9, vi l9), (10, vi l10), (12, vi s0), (13, vi (1 : Int32))] 52 3 [] Q)) else (Zm E YX8_prepare d M (zargs 0 [vr (some (97, 1, 0)), vl l2, vl l4, vi l10]) 0 [] (zma E YX8_codeWays (d + 1) [(0, vr (some (97, 1, 0))), (1, vi l1), (2, vl l2), (4, vl l4), (6, vi l6), (7, vi l7), (8, vi l8), (9, vi l9), (10, vi l10), (12, vi s0), (13, vi (1 : Int32))] 52 3 [] Q))) else (if s0 = 0 then (Q (.inl none) M) else (Zm E YX8_prepare d M (zargs 0 [vr (some (97, 1, 0)), vl l2, vl l4, vi l10]) 0 [] (zma E YX8_codeWays (d + 1) [(0, vr (some (97, 1, 0))), (1, vi l1), (2, vl l2), (4, vl l4), (6, vi l6), (7, vi l7), (8, vi l8), (9, vi l9), (10, vi l10), (12, vi s0), (13, vi (0 : Int32))] 52 3 [] Q)))) else (if (lg_cmp ((zlr l2 (l11 + (1 : Int32))) &&& (1 : Int64)) (1 : Int64)) = 0 then (if s0 = 0 then (Zm E YX8_prepare d M (zargs 0 [vr (some (97, 1, 0)), vl l2, vl l4, vi l10]) 0 [] (zma E YX8_codeWays (d + 1) [(0, vr (some (97, 1, 0))), (1, vi l1), (2, vl l2), (4, vl l4), (6, vi l6), (7, vi l7), (8, vi l8), (9, vi l9), (10, vi l10), (12, vi s0), (13, vi (1 : Int32))] 52 3 [] Q)) else (Zm E YX8_prepare d M (zargs 0 [vr (some (97, 1, 0)), vl l2, vl l4, vi l10]) 0 [] (zma E YX8_codeWays (d + 1) [(0, vr (some (97, 1, 0))), (1, vi l1), (2, vl l2), (4, vl l4), (6, vi l6), (7, vi l7), (8, vi l8), (9, vi l9), (10, vi l10), (12, vi s0), (13, vi (1 : Int32))] 52 3 [] Q))) else (if s0 = 0 then (Q (.inl none) M) else (Zm E YX8_prepare d M (zargs 0 [vr (some (97, 1, 0)), vl l2, vl l4, vi l10]) 0 [] (zma E YX8_codeWays (d + 1) [(0, vr (some (97, 1, 0))), (1, vi l1), (2, vl l2), (4, vl l4), (6, vi l6), (7, vi l7), (8, vi l8), (9, vi l9), (10, vi l10), (12, vi s0), (13, vi (0 : Int32))] 52 3 [] Q))))) : Zm E YX8_codeWays (d + 1) M [(0, vr (some (97, 1, 0))), (1, vi l1), (2, vl l2), (4, vl l4), (6, vi l6), (7, vi l7), (8, vi l8), (9, vi l9), (10, vi l10), (11, vi l11)] 21 [vi s0] Q := by
  refine sX8_codeWays_21 (d := d) M l1 l2 l4 l6 l7 l8 l9 l10 l11 s0 ?_
  refine jX8_isIn (d := d) M l2 l4 (l11 + (1 : Int32)) ?_
  refine zite k (fun h8920 k => ?_) (fun h8920 k => ?_)
  · refine zite k (fun h8921 k => ?_) (fun h8921 k => ?_)
    · show Zm E YX8_codeWays (d + 1) M [(0, vr (some (97, 1, 0))), (1, vi l1), (2, vl l2), (4, vl l4), (6, vi l6), (7, vi l7), (8, vi l8), (9, vi l9), (10, vi l10), (12, vi s0)] 33 [vi (1 : Int32)] Q
      refine sX8_codeWays_33 (d := d) M l1 l2 l4 l6 l7 l8 l9 l10 s0 (1 : Int32) ?_
      refine zite k (fun h8922 k => ?_) (fun h8922 k => ?_)
      · refine zneg (show ¬ ((1 : Int32) = 0) from by decide) ?_
        exact k
      · exact k
    · show Zm E YX8_codeWays (d + 1) M [(0, vr (some (97, 1, 0))), (1, vi l1), (2, vl l2), (4, vl l4), (6, vi l6), (7, vi l7), (8, vi l8), (9, vi l9), (10, vi l10), (12, vi s0)] 33 [vi (0 : Int32)] Q
      refine sX8_codeWays_33 (d := d) M l1 l2 l4 l6 l7 l8 l9 l10 s0 (0 : Int32) ?_
      refine zite k (fun h8923 k => ?_) (fun h8923 k => ?_)
      · refine zpos (show (0 : Int32) = 0 from by decide) ?_
        exact k
      · exact k
  · refine zite k (fun h8924 k => ?_) (fun h8924 k => ?_)
    · show Zm E YX8_codeWays (d + 1) M [(0, vr (some (97, 1, 0))), (1, vi l1), (2, vl l2), (4, vl l4), (6, vi l6), (7, vi l7), (8, vi l8), (9, vi l9), (10, vi l10), (12, vi s0)] 33 [vi (1 : Int32)] Q
      refine sX8_codeWays_33 (d := d) M l1 l2 l4 l6 l7 l8 l9 l10 s0 (1 : Int32) ?_
      refine zite k (fun h8925 k => ?_) (fun h8925 k => ?_)
      · refine zneg (show ¬ ((1 : Int32) = 0) from by decide) ?_
        exact k
      · exact k
    · show Zm E YX8_codeWays (d + 1) M [(0, vr (some (97, 1, 0))), (1, vi l1), (2, vl l2), (4, vl l4), (6, vi l6), (7, vi l7), (8, vi l8), (9, vi l9), (10, vi l10), (12, vi s0)] 33 [vi (0 : Int32)] Q
      refine sX8_codeWays_33 (d := d) M l1 l2 l4 l6 l7 l8 l9 l10 s0 (0 : Int32) ?_
      refine zite k (fun h8926 k => ?_) (fun h8926 k => ?_)
      · refine zpos (show (0 : Int32) = 0 from by decide) ?_
        exact k
      · exact k
theorem iX8_codeWays_72 {E : zE} {d : Nat} {Q : zO → zM → Prop} (M : zM) (l1 : Int32) (l2 : Int64) (l4 : Int64) (l9 : Int32) (l10 : Int32) (k : vp_in ((gi M 97 46) + ((2 : Int32) * l1)) 640 ∧ (if (gi M 168 (((gi M 97 46) + ((2 : Int32) * l1))).toNatClampNeg) = 0 then (vp_in (((gi M 97 46) + ((2 : Int32) * l1)) + (1 : Int32)) 640 ∧ (if (gi M 168 ((((gi M 97 46) + ((2 : Int32) * l1)) + (1 : Int32))).toNatClampNeg) = 0 then (Q (.inl none) M) else (Zm E YX8_prepare d M (zargs 0 [vr (some (97, 1, 0)), vl l2, vl l4, vi l10]) 0 [] (zma E YX8_codeWays (d + 1) [(0, vr (some (97, 1, 0))), (14, vi ((gi M 97 46) + ((2 : Int32) * l1)))] 207 3 [] Q)))) else (Zm E YX8_prepare d M (zargs 0 [vr (some (97, 1, 0)), vl l2, vl l4, vi l10]) 0 [] (zma E YX8_codeWays (d + 1) [(0, vr (some (97, 1, 0))), (2, vl l2), (4, vl l4), (9, vi l9), (10, vi l10), (14, vi ((gi M 97 46) + ((2 : Int32) * l1)))] 98 3 [] Q)))) : Zm E YX8_codeWays (d + 1) M [(0, vr (some (97, 1, 0))), (1, vi l1), (2, vl l2), (4, vl l4), (9, vi l9), (10, vi l10)] 72 [] Q := by
  refine sX8_codeWays_72 (d := d) M l1 l2 l4 l9 l10 ?_
  refine zand k (fun h8927 k => ?_)
  refine zite k (fun h8928 k => ?_) (fun h8928 k => ?_)
  · refine sX8_codeWays_189 (d := d) M l2 l4 l10 ((gi M 97 46) + ((2 : Int32) * l1)) ?_
    refine zand k (fun h8929 k => ?_)
    refine zite k (fun h8930 k => ?_) (fun h8930 k => ?_)
    · refine sX8_codeWays_244 (d := d) M  ?_
      exact k
    · exact k
  · exact k
theorem iX8_codeWays_218 {E : zE} {d : Nat} {Q : zO → zM → Prop} (M : zM) (l14 : Int32) (k : vp_in (l14 + (1 : Int32)) 640 ∧ (vp_in (gi M 172 ((l14 + (1 : Int32))).toNatClampNeg) 647800 ∧ (vp_in (647751 : Int32) 647800 ∧ (Zm E YX8_tossSet d (sl (sl (sl M 165 ((647751 : Int32)).toNatClampNeg (gl M 165 ((gi M 172 ((l14 + (1 : Int32))).toNatClampNeg)).toNatClampNeg)) 166 ((647751 : Int32)).toNatClampNeg (gl M 166 ((gi M 172 ((l14 + (1 : Int32))).toNatClampNeg)).toNatClampNeg)) 167 ((647751 : Int32)).toNatClampNeg (gl M 167 ((gi M 172 ((l14 + (1 : Int32))).toNatClampNeg)).toNatClampNeg)) (zargs 0 [vr (some (97, 1, 0)), vi (647751 : Int32)]) 0 [] (zma E YX8_codeWays (d + 1) [] 241 3 [] Q))))) : Zm E YX8_codeWays (d + 1) M [(0, vr (some (97, 1, 0))), (14, vi l14)] 218 [] Q := by
  refine sX8_codeWays_218 (d := d) M l14 ?_
  refine zand k (fun h8938 k => ?_)
  refine jX8_copySet (d := d) M (gi M 172 ((l14 + (1 : Int32))).toNatClampNeg) (647751 : Int32) ?_
  refine zand k (fun h8939 k => ?_)
  refine zand k (fun h8940 k => ?_)
  show Zm E YX8_codeWays (d + 1) (sl (sl (sl M 165 ((647751 : Int32)).toNatClampNeg (gl M 165 ((gi M 172 ((l14 + (1 : Int32))).toNatClampNeg)).toNatClampNeg)) 166 ((647751 : Int32)).toNatClampNeg (gl M 166 ((gi M 172 ((l14 + (1 : Int32))).toNatClampNeg)).toNatClampNeg)) 167 ((647751 : Int32)).toNatClampNeg (gl M 167 ((gi M 172 ((l14 + (1 : Int32))).toNatClampNeg)).toNatClampNeg)) [(0, vr (some (97, 1, 0))), (15, vi (647751 : Int32))] 238 [] Q
  refine sX8_codeWays_238 (d := d) (sl (sl (sl M 165 ((647751 : Int32)).toNatClampNeg (gl M 165 ((gi M 172 ((l14 + (1 : Int32))).toNatClampNeg)).toNatClampNeg)) 166 ((647751 : Int32)).toNatClampNeg (gl M 166 ((gi M 172 ((l14 + (1 : Int32))).toNatClampNeg)).toNatClampNeg)) 167 ((647751 : Int32)).toNatClampNeg (gl M 167 ((gi M 172 ((l14 + (1 : Int32))).toNatClampNeg)).toNatClampNeg)) (647751 : Int32) ?_
  exact k
theorem iX8_codeWays_125 {E : zE} {d : Nat} {Q : zO → zM → Prop} (M : zM) (l2 : Int64) (l4 : Int64) (l9 : Int32) (l10 : Int32) (l14 : Int32) (l15 : Int32) (k : if l10 = (-1 : Int32) then (Zm E YX8_replace (d + 1) M (zargs 0 [vr (some (97, 1, 0)), vi l9, vi l15]) 0 [] (zma E YX8_codeWays ((d + 1) + 1) [(0, vr (some (97, 1, 0))), (2, vl l2), (4, vl l4), (10, vi l10), (14, vi l14)] 186 3 [] Q)) else (vp_in l15 647800 ∧ (if ((((gl M 165 (l15).toNatClampNeg) &&& (1023 : Int64))).toInt32 &&& (-513 : Int32)) = 0 then (Zm E YX8_replace (d + 1) (sl M 165 (l15).toNatClampNeg (((zls ((0 : Int32)).toInt64 (32 : Int32)) ||| (zls ((0 : Int32)).toInt64 (10 : Int32))) ||| ((0 : Int32)).toInt64)) (zargs 0 [vr (some (97, 1, 0)), vi l9, vi l15]) 0 [] (zma E YX8_codeWays ((d + 1) + 1) [(0, vr (some (97, 1, 0))), (2, vl l2), (4, vl l4), (10, vi l10), (14, vi l14)] 186 3 [] Q)) else (Zm E YX8_addLabel (d + 1) M (zargs 0 [vr (some (97, 1, 0)), vi l15, vi (((29 : Int32) + ((6 : Int32) * ((gi M 97 32) - (1 : Int32)))) + ((2 : Int32) * l10))]) 0 [] (zma E YX8_codeWays ((d + 1) + 1) [(0, vr (some (97, 1, 0))), (2, vl l2), (4, vl l4), (9, vi l9), (10, vi l10), (14, vi l14), (15, vi l15)] 149 3 [] Q))))) : Zm E YX8_codeWays (d + 2) M [(0, vr (some (97, 1, 0))), (2, vl l2), (4, vl l4), (9, vi l9), (10, vi l10), (14, vi l14), (15, vi l15)] 125 [] Q := by
  refine sX8_codeWays_125 (d := (d + 1)) M l2 l4 l9 l10 l14 l15 ?_
  refine zite k (fun h8985 k => ?_) (fun h8985 k => ?_)
  · refine sX8_codeWays_166 (d := (d + 1)) M l2 l4 l9 l10 l14 l15 ?_
    refine zpos h8985 ?_
    refine sX8_codeWays_181 (d := (d + 1)) M l2 l4 l9 l10 l14 l15 ?_
    exact k
  · refine jX8_plainly (d := d) M l15 ?_
    refine zand k (fun h8986 k => ?_)
    show Zm E YX8_codeWays ((d + 1) + 1) M [(0, vr (some (97, 1, 0))), (2, vl l2), (4, vl l4), (9, vi l9), (10, vi l10), (14, vi l14), (15, vi l15)] 137 [vi ((((gl M 165 (l15).toNatClampNeg) &&& (1023 : Int64))).toInt32 &&& (-513 : Int32))] Q
    refine sX8_codeWays_137 (d := (d + 1)) M l2 l4 l9 l10 l14 l15 ((((gl M 165 (l15).toNatClampNeg) &&& (1023 : Int64))).toInt32 &&& (-513 : Int32)) ?_
    refine zite k (fun h8987 k => ?_) (fun h8987 k => ?_)
    · refine sX8_codeWays_166 (d := (d + 1)) M l2 l4 l9 l10 l14 l15 ?_
      refine zneg h8985 ?_
      refine sX8_write_0 (d := (d + 1)) M l15 (0 : Int32) (0 : Int32) (0 : Int32) ?_
      refine ⟨h8986, ?_⟩
      show Zm E YX8_codeWays ((d + 1) + 1) (sl M 165 (l15).toNatClampNeg (((zls ((0 : Int32)).toInt64 (32 : Int32)) ||| (zls ((0 : Int32)).toInt64 (10 : Int32))) ||| ((0 : Int32)).toInt64)) [(0, vr (some (97, 1, 0))), (2, vl l2), (4, vl l4), (9, vi l9), (10, vi l10), (14, vi l14), (15, vi l15)] 181 [] Q
      refine sX8_codeWays_181 (d := (d + 1)) (sl M 165 (l15).toNatClampNeg (((zls ((0 : Int32)).toInt64 (32 : Int32)) ||| (zls ((0 : Int32)).toInt64 (10 : Int32))) ||| ((0 : Int32)).toInt64)) l2 l4 l9 l10 l14 l15 ?_
      exact k
    · refine sX8_siteLabel_0 (d := (d + 1)) M l10 ?_
      show Zm E YX8_codeWays ((d + 1) + 1) M [(0, vr (some (97, 1, 0))), (2, vl l2), (4, vl l4), (9, vi l9), (10, vi l10), (14, vi l14), (15, vi l15)] 149 [vi (((29 : Int32) + ((6 : Int32) * ((gi M 97 32) - (1 : Int32)))) + ((2 : Int32) * l10)), vi l15, vr (some (97, 1, 0))] Q
      refine sX8_codeWays_149 (d := (d + 1)) M l2 l4 l9 l10 l14 l15 (((29 : Int32) + ((6 : Int32) * ((gi M 97 32) - (1 : Int32)))) + ((2 : Int32) * l10)) l15 ?_
      exact k
theorem iX8_codeWays_189 {E : zE} {d : Nat} {Q : zO → zM → Prop} (M : zM) (l2 : Int64) (l4 : Int64) (l10 : Int32) (l14 : Int32) (k : vp_in (l14 + (1 : Int32)) 640 ∧ (if (gi M 168 ((l14 + (1 : Int32))).toNatClampNeg) = 0 then (Q (.inl none) M) else (Zm E YX8_prepare d M (zargs 0 [vr (some (97, 1, 0)), vl l2, vl l4, vi l10]) 0 [] (zma E YX8_codeWays (d + 1) [(0, vr (some (97, 1, 0))), (14, vi l14)] 207 3 [] Q)))) : Zm E YX8_codeWays (d + 1) M [(0, vr (some (97, 1, 0))), (2, vl l2), (4, vl l4), (10, vi l10), (14, vi l14)] 189 [] Q := by
  refine sX8_codeWays_189 (d := d) M l2 l4 l10 l14 ?_
  refine zand k (fun h8988 k => ?_)
  refine zite k (fun h8989 k => ?_) (fun h8989 k => ?_)
  · refine sX8_codeWays_244 (d := d) M  ?_
    exact k
  · exact k
theorem iX8_codeWays_152 {E : zE} {d : Nat} {Q : zO → zM → Prop} (M : zM) (l2 : Int64) (l4 : Int64) (l9 : Int32) (l10 : Int32) (l14 : Int32) (l15 : Int32) (k : if (64 : Int32) ≤ ((((29 : Int32) + ((6 : Int32) * ((gi M 97 32) - (1 : Int32)))) + ((2 : Int32) * l10)) + (1 : Int32)) then (vp_in l15 647800 ∧ (if l10 = (-1 : Int32) then (Zm E YX8_replace d (sl M 167 (l15).toNatClampNeg ((gl M 167 (l15).toNatClampNeg) ||| (zls (1 : Int64) (((((29 : Int32) + ((6 : Int32) * ((gi M 97 32) - (1 : Int32)))) + ((2 : Int32) * l10)) + (1 : Int32)) - (64 : Int32))))) (zargs 0 [vr (some (97, 1, 0)), vi l9, vi l15]) 0 [] (zma E YX8_codeWays (d + 1) [(0, vr (some (97, 1, 0))), (2, vl l2), (4, vl l4), (10, vi l10), (14, vi l14)] 186 3 [] Q)) else (Zm E YX8_replace d (sl (sl M 167 (l15).toNatClampNeg ((gl M 167 (l15).toNatClampNeg) ||| (zls (1 : Int64) (((((29 : Int32) + ((6 : Int32) * ((gi M 97 32) - (1 : Int32)))) + ((2 : Int32) * l10)) + (1 : Int32)) - (64 : Int32))))) 165 (l15).toNatClampNeg (((zls ((0 : Int32)).toInt64 (32 : Int32)) ||| (zls ((0 : Int32)).toInt64 (10 : Int32))) ||| ((0 : Int32)).toInt64)) (zargs 0 [vr (some (97, 1, 0)), vi l9, vi l15]) 0 [] (zma E YX8_codeWays (d + 1) [(0, vr (some (97, 1, 0))), (2, vl l2), (4, vl l4), (10, vi l10), (14, vi l14)] 186 3 [] Q)))) else (vp_in l15 647800 ∧ (if l10 = (-1 : Int32) then (Zm E YX8_replace d (sl M 166 (l15).toNatClampNeg ((gl M 166 (l15).toNatClampNeg) ||| (zls (1 : Int64) ((((29 : Int32) + ((6 : Int32) * ((gi M 97 32) - (1 : Int32)))) + ((2 : Int32) * l10)) + (1 : Int32))))) (zargs 0 [vr (some (97, 1, 0)), vi l9, vi l15]) 0 [] (zma E YX8_codeWays (d + 1) [(0, vr (some (97, 1, 0))), (2, vl l2), (4, vl l4), (10, vi l10), (14, vi l14)] 186 3 [] Q)) else (Zm E YX8_replace d (sl (sl M 166 (l15).toNatClampNeg ((gl M 166 (l15).toNatClampNeg) ||| (zls (1 : Int64) ((((29 : Int32) + ((6 : Int32) * ((gi M 97 32) - (1 : Int32)))) + ((2 : Int32) * l10)) + (1 : Int32))))) 165 (l15).toNatClampNeg (((zls ((0 : Int32)).toInt64 (32 : Int32)) ||| (zls ((0 : Int32)).toInt64 (10 : Int32))) ||| ((0 : Int32)).toInt64)) (zargs 0 [vr (some (97, 1, 0)), vi l9, vi l15]) 0 [] (zma E YX8_codeWays (d + 1) [(0, vr (some (97, 1, 0))), (2, vl l2), (4, vl l4), (10, vi l10), (14, vi l14)] 186 3 [] Q))))) : Zm E YX8_codeWays (d + 1) M [(0, vr (some (97, 1, 0))), (2, vl l2), (4, vl l4), (9, vi l9), (10, vi l10), (14, vi l14), (15, vi l15)] 152 [] Q := by
  refine sX8_codeWays_152 (d := d) M l2 l4 l9 l10 l14 l15 ?_
  refine sX8_siteLabel_0 (d := d) M l10 ?_
  show Zm E YX8_codeWays (d + 1) M [(0, vr (some (97, 1, 0))), (2, vl l2), (4, vl l4), (9, vi l9), (10, vi l10), (14, vi l14), (15, vi l15)] 161 [vi (((29 : Int32) + ((6 : Int32) * ((gi M 97 32) - (1 : Int32)))) + ((2 : Int32) * l10)), vi l15, vr (some (97, 1, 0))] Q
  refine sX8_codeWays_161 (d := d) M l2 l4 l9 l10 l14 l15 (((29 : Int32) + ((6 : Int32) * ((gi M 97 32) - (1 : Int32)))) + ((2 : Int32) * l10)) l15 ?_
  refine jX8_addLabel (d := d) M l15 ((((29 : Int32) + ((6 : Int32) * ((gi M 97 32) - (1 : Int32)))) + ((2 : Int32) * l10)) + (1 : Int32)) ?_
  refine zite k (fun h8990 k => ?_) (fun h8990 k => ?_)
  · refine zand k (fun h8991 k => ?_)
    show Zm E YX8_codeWays (d + 1) (sl M 167 (l15).toNatClampNeg ((gl M 167 (l15).toNatClampNeg) ||| (zls (1 : Int64) (((((29 : Int32) + ((6 : Int32) * ((gi M 97 32) - (1 : Int32)))) + ((2 : Int32) * l10)) + (1 : Int32)) - (64 : Int32))))) [(0, vr (some (97, 1, 0))), (2, vl l2), (4, vl l4), (9, vi l9), (10, vi l10), (14, vi l14), (15, vi l15)] 166 [] Q
    refine sX8_codeWays_166 (d := d) (sl M 167 (l15).toNatClampNeg ((gl M 167 (l15).toNatClampNeg) ||| (zls (1 : Int64) (((((29 : Int32) + ((6 : Int32) * ((gi M 97 32) - (1 : Int32)))) + ((2 : Int32) * l10)) + (1 : Int32)) - (64 : Int32))))) l2 l4 l9 l10 l14 l15 ?_
    refine zite k (fun h8992 k => ?_) (fun h8992 k => ?_)
    · refine sX8_codeWays_181 (d := d) (sl M 167 (l15).toNatClampNeg ((gl M 167 (l15).toNatClampNeg) ||| (zls (1 : Int64) (((((29 : Int32) + ((6 : Int32) * ((gi M 97 32) - (1 : Int32)))) + ((2 : Int32) * l10)) + (1 : Int32)) - (64 : Int32))))) l2 l4 l9 l10 l14 l15 ?_
      exact k
    · refine sX8_write_0 (d := d) (sl M 167 (l15).toNatClampNeg ((gl M 167 (l15).toNatClampNeg) ||| (zls (1 : Int64) (((((29 : Int32) + ((6 : Int32) * ((gi M 97 32) - (1 : Int32)))) + ((2 : Int32) * l10)) + (1 : Int32)) - (64 : Int32))))) l15 (0 : Int32) (0 : Int32) (0 : Int32) ?_
      refine ⟨h8991, ?_⟩
      show Zm E YX8_codeWays (d + 1) (sl (sl M 167 (l15).toNatClampNeg ((gl M 167 (l15).toNatClampNeg) ||| (zls (1 : Int64) (((((29 : Int32) + ((6 : Int32) * ((gi M 97 32) - (1 : Int32)))) + ((2 : Int32) * l10)) + (1 : Int32)) - (64 : Int32))))) 165 (l15).toNatClampNeg (((zls ((0 : Int32)).toInt64 (32 : Int32)) ||| (zls ((0 : Int32)).toInt64 (10 : Int32))) ||| ((0 : Int32)).toInt64)) [(0, vr (some (97, 1, 0))), (2, vl l2), (4, vl l4), (9, vi l9), (10, vi l10), (14, vi l14), (15, vi l15)] 181 [] Q
      refine sX8_codeWays_181 (d := d) (sl (sl M 167 (l15).toNatClampNeg ((gl M 167 (l15).toNatClampNeg) ||| (zls (1 : Int64) (((((29 : Int32) + ((6 : Int32) * ((gi M 97 32) - (1 : Int32)))) + ((2 : Int32) * l10)) + (1 : Int32)) - (64 : Int32))))) 165 (l15).toNatClampNeg (((zls ((0 : Int32)).toInt64 (32 : Int32)) ||| (zls ((0 : Int32)).toInt64 (10 : Int32))) ||| ((0 : Int32)).toInt64)) l2 l4 l9 l10 l14 l15 ?_
      exact k
  · refine zand k (fun h8993 k => ?_)
    show Zm E YX8_codeWays (d + 1) (sl M 166 (l15).toNatClampNeg ((gl M 166 (l15).toNatClampNeg) ||| (zls (1 : Int64) ((((29 : Int32) + ((6 : Int32) * ((gi M 97 32) - (1 : Int32)))) + ((2 : Int32) * l10)) + (1 : Int32))))) [(0, vr (some (97, 1, 0))), (2, vl l2), (4, vl l4), (9, vi l9), (10, vi l10), (14, vi l14), (15, vi l15)] 166 [] Q
    refine sX8_codeWays_166 (d := d) (sl M 166 (l15).toNatClampNeg ((gl M 166 (l15).toNatClampNeg) ||| (zls (1 : Int64) ((((29 : Int32) + ((6 : Int32) * ((gi M 97 32) - (1 : Int32)))) + ((2 : Int32) * l10)) + (1 : Int32))))) l2 l4 l9 l10 l14 l15 ?_
    refine zite k (fun h8994 k => ?_) (fun h8994 k => ?_)
    · refine sX8_codeWays_181 (d := d) (sl M 166 (l15).toNatClampNeg ((gl M 166 (l15).toNatClampNeg) ||| (zls (1 : Int64) ((((29 : Int32) + ((6 : Int32) * ((gi M 97 32) - (1 : Int32)))) + ((2 : Int32) * l10)) + (1 : Int32))))) l2 l4 l9 l10 l14 l15 ?_
      exact k
    · refine sX8_write_0 (d := d) (sl M 166 (l15).toNatClampNeg ((gl M 166 (l15).toNatClampNeg) ||| (zls (1 : Int64) ((((29 : Int32) + ((6 : Int32) * ((gi M 97 32) - (1 : Int32)))) + ((2 : Int32) * l10)) + (1 : Int32))))) l15 (0 : Int32) (0 : Int32) (0 : Int32) ?_
      refine ⟨h8993, ?_⟩
      show Zm E YX8_codeWays (d + 1) (sl (sl M 166 (l15).toNatClampNeg ((gl M 166 (l15).toNatClampNeg) ||| (zls (1 : Int64) ((((29 : Int32) + ((6 : Int32) * ((gi M 97 32) - (1 : Int32)))) + ((2 : Int32) * l10)) + (1 : Int32))))) 165 (l15).toNatClampNeg (((zls ((0 : Int32)).toInt64 (32 : Int32)) ||| (zls ((0 : Int32)).toInt64 (10 : Int32))) ||| ((0 : Int32)).toInt64)) [(0, vr (some (97, 1, 0))), (2, vl l2), (4, vl l4), (9, vi l9), (10, vi l10), (14, vi l14), (15, vi l15)] 181 [] Q
      refine sX8_codeWays_181 (d := d) (sl (sl M 166 (l15).toNatClampNeg ((gl M 166 (l15).toNatClampNeg) ||| (zls (1 : Int64) ((((29 : Int32) + ((6 : Int32) * ((gi M 97 32) - (1 : Int32)))) + ((2 : Int32) * l10)) + (1 : Int32))))) 165 (l15).toNatClampNeg (((zls ((0 : Int32)).toInt64 (32 : Int32)) ||| (zls ((0 : Int32)).toInt64 (10 : Int32))) ||| ((0 : Int32)).toInt64)) l2 l4 l9 l10 l14 l15 ?_
      exact k
theorem iX8_getOfString_0 {E : zE} {d : Nat} {Q : zO → zM → Prop} (M : zM) (l1 : Int32) (l2 : Int32) (k : if (lg_cmp ((zlr (gl M 97 143) (0 : Int32)) &&& (1 : Int64)) (1 : Int64)) = 0 then ((narrow .boolean (.int (1 : Int32)) = .int (1 : Int32)) ∧ (Zm E YX8_isAlone (d + 1) M (zargs 0 [vr (some (97, 1, 0)), vi l1]) 0 [] (zma E YX8_getOfString ((d + 1) + 1) [(0, vr (some (97, 1, 0))), (1, vi l1), (2, vi l2)] 10 3 [] Q))) else ((narrow .boolean (.int (0 : Int32)) = .int (0 : Int32)) ∧ (Zm E YX8_readFrom (d + 1) (sl M 97 143 ((gl M 97 143) &&& (-2 : Int64))) (zargs 0 [vr (some (97, 1, 0)), vl (16 : Int64), vl (0 : Int64), vi (l2 + (1 : Int32))]) 0 [] (zma E YX8_getOfString ((d + 1) + 1) [(0, vr (some (97, 1, 0))), (2, vi l2)] 61 3 [] Q)))) : Zm E YX8_getOfString (d + 2) M [(0, vr (some (97, 1, 0))), (1, vi l1), (2, vi l2)] 0 [] Q := by
  refine sX8_getOfString_0 (d := (d + 1)) M l1 l2 ?_
  refine jX8_hasKey (d := d) M (0 : Int32) ?_
  refine zneg (show ¬ ((64 : Int32) ≤ (0 : Int32)) from by decide) ?_
  refine zite k (fun h8995 k => ?_) (fun h8995 k => ?_)
  · refine zand k (fun h8996 k => ?_)
    show Zm E YX8_getOfString ((d + 1) + 1) M [(0, vr (some (97, 1, 0))), (1, vi l1), (2, vi l2)] 5 [vi (1 : Int32)] Q
    refine sX8_getOfString_5 (d := (d + 1)) M l1 l2 (1 : Int32) ?_
    refine zneg (show ¬ ((1 : Int32) = 0) from by decide) ?_
    exact k
  · refine zand k (fun h8997 k => ?_)
    show Zm E YX8_getOfString ((d + 1) + 1) M [(0, vr (some (97, 1, 0))), (1, vi l1), (2, vi l2)] 5 [vi (0 : Int32)] Q
    refine sX8_getOfString_5 (d := (d + 1)) M l1 l2 (0 : Int32) ?_
    refine zpos (show (0 : Int32) = 0 from by decide) ?_
    refine sX8_getOfString_41 (d := (d + 1)) M l2 ?_
    exact k
theorem iX8_getOfString_13 {E : zE} {d : Nat} {Q : zO → zM → Prop} (M : zM) (l1 : Int32) (l2 : Int32) (s0 : Int32) (k : if s0 = 0 then (Zm E YX8_addSort d M (zargs 0 [vr (some (97, 1, 0)), vi l2, vi (64 : Int32)]) 0 [] (zma E YX8_getOfString (d + 1) [(0, vr (some (97, 1, 0))), (2, vi l2)] 38 3 [] Q)) else (vp_in l1 647800 ∧ (vp_in (((zlr (gl M 165 (l1).toNatClampNeg) (10 : Int32)) &&& (127 : Int64))).toInt32 400 ∧ (Zm E YX8_addNumber d M (zargs 0 [vr (some (97, 1, 0)), vi l2, vi (gi M 101 ((((zlr (gl M 165 (l1).toNatClampNeg) (10 : Int32)) &&& (127 : Int64))).toInt32).toNatClampNeg)]) 0 [] (zma E YX8_getOfString (d + 1) [(0, vr (some (97, 1, 0))), (2, vi l2)] 28 3 [] Q))))) : Zm E YX8_getOfString (d + 1) M [(0, vr (some (97, 1, 0))), (1, vi l1), (2, vi l2)] 13 [vi s0] Q := by
  refine sX8_getOfString_13 (d := d) M l1 l2 s0 ?_
  refine zite k (fun h9010 k => ?_) (fun h9010 k => ?_)
  · exact k
  · refine sX8_name_0 (d := d) M l1 ?_
    refine zand k (fun h9011 k => ?_)
    show Zm E YX8_getOfString (d + 1) M [(0, vr (some (97, 1, 0))), (2, vi l2)] 27 [vi (((zlr (gl M 165 (l1).toNatClampNeg) (10 : Int32)) &&& (127 : Int64))).toInt32, vr (some (101, 100, 400)), vi l2, vr (some (97, 1, 0))] Q
    refine sX8_getOfString_27 (d := d) M l2 ((((zlr (gl M 165 (l1).toNatClampNeg) (10 : Int32)) &&& (127 : Int64))).toInt32) l2 ?_
    exact k
theorem iX8_getOfString_31 {E : zE} {d : Nat} {Q : zO → zM → Prop} (M : zM) (l2 : Int32) (k : Zm E YX8_readFrom d (sl M 97 143 ((gl M 97 143) &&& (-2 : Int64))) (zargs 0 [vr (some (97, 1, 0)), vl (16 : Int64), vl (0 : Int64), vi (l2 + (1 : Int32))]) 0 [] (zma E YX8_getOfString (d + 1) [(0, vr (some (97, 1, 0))), (2, vi l2)] 61 3 [] Q)) : Zm E YX8_getOfString (d + 1) M [(0, vr (some (97, 1, 0))), (2, vi l2)] 31 [] Q := by
  refine sX8_getOfString_31 (d := d) M l2 ?_
  refine sX8_getOfString_41 (d := d) M l2 ?_
  exact k
theorem iX8_getOfString_72 {E : zE} {d : Nat} {Q : zO → zM → Prop} (M : zM) (l2 : Int32) (s0 : Int32) (k : if (gi M 97 145) = 0 then (Q (.inl none) M) else (Zm E YX8_addSort d M (zargs 0 [vr (some (97, 1, 0)), vi l2, vi (1 : Int32)]) 0 [] (zma E YX8_getOfString (d + 1) [] 83 3 [] Q))) : Zm E YX8_getOfString (d + 1) M [(0, vr (some (97, 1, 0))), (2, vi l2)] 72 [vi s0] Q := by
  refine sX8_getOfString_72 (d := d) M l2 s0 ?_
  refine zite k (fun h9013 k => ?_) (fun h9013 k => ?_)
  · refine sX8_getOfString_86 (d := d) M  ?_
    exact k
  · exact k
theorem iX8_isAlone_0 {E : zE} {d : Nat} {Q : zO → zM → Prop} (M : zM) (l1 : Int32) (k : vp_in l1 647800 ∧ (if (lg_cmp ((gl M 166 (l1).toNatClampNeg) ||| (gl M 167 (l1).toNatClampNeg)) (0 : Int64)) = 0 then (if ((((gl M 165 (l1).toNatClampNeg) &&& (1023 : Int64))).toInt32 &&& (-513 : Int32)) = (1 : Int32) then (Q (.inl (some (vi (1 : Int32)))) M) else (if ((((gl M 165 (l1).toNatClampNeg) &&& (1023 : Int64))).toInt32 &&& (-513 : Int32)) = (2 : Int32) then (Q (.inl (some (vi (1 : Int32)))) M) else (if ((((gl M 165 (l1).toNatClampNeg) &&& (1023 : Int64))).toInt32 &&& (-513 : Int32)) = (4 : Int32) then (Q (.inl (some (vi (1 : Int32)))) M) else (if ((((gl M 165 (l1).toNatClampNeg) &&& (1023 : Int64))).toInt32 &&& (-513 : Int32)) = (8 : Int32) then (Q (.inl (some (vi (1 : Int32)))) M) else (if ((((gl M 165 (l1).toNatClampNeg) &&& (1023 : Int64))).toInt32 &&& (-513 : Int32)) = (16 : Int32) then (Q (.inl (some (vi (1 : Int32)))) M) else (if ((((gl M 165 (l1).toNatClampNeg) &&& (1023 : Int64))).toInt32 &&& (-513 : Int32)) = (32 : Int32) then (Q (.inl (some (vi (1 : Int32)))) M) else (if ((((gl M 165 (l1).toNatClampNeg) &&& (1023 : Int64))).toInt32 &&& (-513 : Int32)) = (128 : Int32) then (Q (.inl (some (vi (1 : Int32)))) M) else (Q (.inl (some (vi (0 : Int32)))) M)))))))) else (Q (.inl (some (vi (0 : Int32)))) M))) : Zm E YX8_isAlone (d + 2) M [(0, vr (some (97, 1, 0))), (1, vi l1)] 0 [] Q := by
  refine sX8_isAlone_0 (d := (d + 1)) M l1 ?_
  refine jX8_plainly (d := d) M l1 ?_
  refine zand k (fun h9014 k => ?_)
  show Zm E YX8_isAlone ((d + 1) + 1) M [(0, vr (some (97, 1, 0))), (1, vi l1)] 5 [vi ((((gl M 165 (l1).toNatClampNeg) &&& (1023 : Int64))).toInt32 &&& (-513 : Int32))] Q
  refine sX8_isAlone_5 (d := (d + 1)) M l1 ((((gl M 165 (l1).toNatClampNeg) &&& (1023 : Int64))).toInt32 &&& (-513 : Int32)) ?_
  refine jX8_hasLabels (d := (d + 1)) M l1 ?_
  refine ⟨h9014, ?_⟩
  refine zite k (fun h9015 k => ?_) (fun h9015 k => ?_)
  · show Zm E YX8_isAlone ((d + 1) + 1) M [(2, vi ((((gl M 165 (l1).toNatClampNeg) &&& (1023 : Int64))).toInt32 &&& (-513 : Int32)))] 11 [vi (0 : Int32)] Q
    refine sX8_isAlone_11 (d := (d + 1)) M ((((gl M 165 (l1).toNatClampNeg) &&& (1023 : Int64))).toInt32 &&& (-513 : Int32)) (0 : Int32) ?_
    refine zpos (show (0 : Int32) = 0 from by decide) ?_
    exact k
  · show Zm E YX8_isAlone ((d + 1) + 1) M [(2, vi ((((gl M 165 (l1).toNatClampNeg) &&& (1023 : Int64))).toInt32 &&& (-513 : Int32)))] 11 [vi (1 : Int32)] Q
    refine sX8_isAlone_11 (d := (d + 1)) M ((((gl M 165 (l1).toNatClampNeg) &&& (1023 : Int64))).toInt32 &&& (-513 : Int32)) (1 : Int32) ?_
    refine zneg (show ¬ ((1 : Int32) = 0) from by decide) ?_
    exact k
theorem iX8_isMadeBySet_0 {E : zE} {d : Nat} {Q : zO → zM → Prop} (M : zM) (l1 : Int32) (l2 : Int32) (l3 : Int32) (k : vp_in l2 647800 ∧ (if ((((gl M 165 (l2).toNatClampNeg) &&& (1023 : Int64))).toInt32 &&& (-513 : Int32)) = 0 then (Zm E YX8_isMadeBySet ((d + 1) + 1) M [(0, vr (some (97, 1, 0))), (1, vi l1), (2, vi l2), (3, vi l3), (4, vl (0 : Int64)), (6, vl (0 : Int64)), (8, vi (0 : Int32)), (9, vi (0 : Int32))] 24 [] Q) else (Zm E YX8_isMadeBySet ((d + 1) + 1) M [(0, vr (some (97, 1, 0))), (1, vi l1), (2, vi l2), (3, vi l3), (4, vl (0 : Int64)), (6, vl (0 : Int64)), (8, vi (1 : Int32)), (9, vi (0 : Int32))] 24 [] Q))) : Zm E YX8_isMadeBySet (d + 2) M [(0, vr (some (97, 1, 0))), (1, vi l1), (2, vi l2), (3, vi l3)] 0 [] Q := by
  refine sX8_isMadeBySet_0 (d := (d + 1)) M l1 l2 l3 ?_
  refine jX8_plainly (d := d) M l2 ?_
  refine zand k (fun h9023 k => ?_)
  show Zm E YX8_isMadeBySet ((d + 1) + 1) M [(0, vr (some (97, 1, 0))), (1, vi l1), (2, vi l2), (3, vi l3), (4, vl (0 : Int64)), (6, vl (0 : Int64))] 11 [vi ((((gl M 165 (l2).toNatClampNeg) &&& (1023 : Int64))).toInt32 &&& (-513 : Int32))] Q
  refine sX8_isMadeBySet_11 (d := (d + 1)) M l1 l2 l3 (0 : Int64) (0 : Int64) ((((gl M 165 (l2).toNatClampNeg) &&& (1023 : Int64))).toInt32 &&& (-513 : Int32)) ?_
  exact k
theorem iX8_isMadeBySet_24 {E : zE} {d : Nat} {Q : zO → zM → Prop} (M : zM) (l1 : Int32) (l2 : Int32) (l3 : Int32) (l4 : Int64) (l6 : Int64) (l8 : Int32) (l9 : Int32) (k : if (gi M 97 71) ≤ l9 then (Zm E YX8_readFrom d (sl (sl (sl M 97 143 (0 : Int64)) 97 144 (0 : Int64)) 97 143 ((0 : Int64) ||| (zls (1 : Int64) (1 : Int32)))) (zargs 0 [vr (some (97, 1, 0)), vl l4, vl l6, vi (l3 + (1 : Int32))]) 0 [] (zma E YX8_isMadeBySet (d + 1) [(0, vr (some (97, 1, 0))), (1, vi l1), (3, vi l3), (8, vi l8)] 143 3 [] Q)) else (vp_in l2 647800 ∧ (if (64 : Int32) ≤ l9 then (if (lg_cmp ((zlr (gl M 167 (l2).toNatClampNeg) (l9 - (64 : Int32))) &&& (1 : Int64)) (1 : Int64)) = 0 then (if l8 = 0 then (Zm E YX8_isFunctionLabel d M (zargs 0 [vr (some (97, 1, 0)), vi l9]) 0 [] (zma E YX8_isMadeBySet (d + 1) [(0, vr (some (97, 1, 0))), (1, vi l1), (2, vi l2), (3, vi l3), (4, vl l4), (6, vl l6), (9, vi l9)] 64 3 [] Q)) else (Zm E YX8_isFunctionLabel d M (zargs 0 [vr (some (97, 1, 0)), vi l9]) 0 [] (zma E YX8_isMadeBySet (d + 1) [(0, vr (some (97, 1, 0))), (1, vi l1), (2, vi l2), (3, vi l3), (4, vl l4), (6, vl l6), (8, vi (1 : Int32)), (9, vi l9)] 80 3 [] Q))) else (Zm E YX8_isMadeBySet (d + 1) M [(0, vr (some (97, 1, 0))), (1, vi l1), (2, vi l2), (3, vi l3), (4, vl l4), (6, vl l6), (8, vi l8), (9, vi (l9 + (1 : Int32)))] 24 [] Q)) else (if (lg_cmp ((zlr (gl M 166 (l2).toNatClampNeg) l9) &&& (1 : Int64)) (1 : Int64)) = 0 then (if l8 = 0 then (Zm E YX8_isFunctionLabel d M (zargs 0 [vr (some (97, 1, 0)), vi l9]) 0 [] (zma E YX8_isMadeBySet (d + 1) [(0, vr (some (97, 1, 0))), (1, vi l1), (2, vi l2), (3, vi l3), (4, vl l4), (6, vl l6), (9, vi l9)] 64 3 [] Q)) else (Zm E YX8_isFunctionLabel d M (zargs 0 [vr (some (97, 1, 0)), vi l9]) 0 [] (zma E YX8_isMadeBySet (d + 1) [(0, vr (some (97, 1, 0))), (1, vi l1), (2, vi l2), (3, vi l3), (4, vl l4), (6, vl l6), (8, vi (1 : Int32)), (9, vi l9)] 80 3 [] Q))) else (Zm E YX8_isMadeBySet (d + 1) M [(0, vr (some (97, 1, 0))), (1, vi l1), (2, vi l2), (3, vi l3), (4, vl l4), (6, vl l6), (8, vi l8), (9, vi (l9 + (1 : Int32)))] 24 [] Q))))) : Zm E YX8_isMadeBySet (d + 1) M [(0, vr (some (97, 1, 0))), (1, vi l1), (2, vi l2), (3, vi l3), (4, vl l4), (6, vl l6), (8, vi l8), (9, vi l9)] 24 [] Q := by
  refine sX8_isMadeBySet_24 (d := d) M l1 l2 l3 l4 l6 l8 l9 ?_
  refine zite k (fun h9025 k => ?_) (fun h9025 k => ?_)
  · refine sX8_noKeys_0 (d := d) M  ?_
    show Zm E YX8_isMadeBySet (d + 1) (sl (sl M 97 143 (0 : Int64)) 97 144 (0 : Int64)) [(0, vr (some (97, 1, 0))), (1, vi l1), (3, vi l3), (4, vl l4), (6, vl l6), (8, vi l8)] 130 [] Q
    refine sX8_isMadeBySet_130 (d := d) (sl (sl M 97 143 (0 : Int64)) 97 144 (0 : Int64)) l1 l3 l4 l6 l8 ?_
    refine sX8_addKey_0 (d := d) (sl (sl M 97 143 (0 : Int64)) 97 144 (0 : Int64)) (1 : Int32) ?_
    refine zneg (show ¬ ((64 : Int32) ≤ (1 : Int32)) from by decide) ?_
    show Zm E YX8_isMadeBySet (d + 1) (sl (sl (sl M 97 143 (0 : Int64)) 97 144 (0 : Int64)) 97 143 ((0 : Int64) ||| (zls (1 : Int64) (1 : Int32)))) [(0, vr (some (97, 1, 0))), (1, vi l1), (3, vi l3), (4, vl l4), (6, vl l6), (8, vi l8)] 135 [] Q
    refine sX8_isMadeBySet_135 (d := d) (sl (sl (sl M 97 143 (0 : Int64)) 97 144 (0 : Int64)) 97 143 ((0 : Int64) ||| (zls (1 : Int64) (1 : Int32)))) l1 l3 l4 l6 l8 ?_
    exact k
  · refine zand k (fun h9026 k => ?_)
    refine ⟨h9026, ?_⟩
    refine jX8_isIn (d := d) M (gl M 166 (l2).toNatClampNeg) (gl M 167 (l2).toNatClampNeg) l9 ?_
    refine zite k (fun h9027 k => ?_) (fun h9027 k => ?_)
    · refine zite k (fun h9028 k => ?_) (fun h9028 k => ?_)
      · show Zm E YX8_isMadeBySet (d + 1) M [(0, vr (some (97, 1, 0))), (1, vi l1), (2, vi l2), (3, vi l3), (4, vl l4), (6, vl l6), (8, vi l8), (9, vi l9)] 50 [vi (1 : Int32)] Q
        refine sX8_isMadeBySet_50 (d := d) M l1 l2 l3 l4 l6 l8 l9 (1 : Int32) ?_
        refine zneg (show ¬ ((1 : Int32) = 0) from by decide) ?_
        exact k
      · show Zm E YX8_isMadeBySet (d + 1) M [(0, vr (some (97, 1, 0))), (1, vi l1), (2, vi l2), (3, vi l3), (4, vl l4), (6, vl l6), (8, vi l8), (9, vi l9)] 50 [vi (0 : Int32)] Q
        refine sX8_isMadeBySet_50 (d := d) M l1 l2 l3 l4 l6 l8 l9 (0 : Int32) ?_
        refine zpos (show (0 : Int32) = 0 from by decide) ?_
        exact k
    · refine zite k (fun h9030 k => ?_) (fun h9030 k => ?_)
      · show Zm E YX8_isMadeBySet (d + 1) M [(0, vr (some (97, 1, 0))), (1, vi l1), (2, vi l2), (3, vi l3), (4, vl l4), (6, vl l6), (8, vi l8), (9, vi l9)] 50 [vi (1 : Int32)] Q
        refine sX8_isMadeBySet_50 (d := d) M l1 l2 l3 l4 l6 l8 l9 (1 : Int32) ?_
        refine zneg (show ¬ ((1 : Int32) = 0) from by decide) ?_
        exact k
      · show Zm E YX8_isMadeBySet (d + 1) M [(0, vr (some (97, 1, 0))), (1, vi l1), (2, vi l2), (3, vi l3), (4, vl l4), (6, vl l6), (8, vi l8), (9, vi l9)] 50 [vi (0 : Int32)] Q
        refine sX8_isMadeBySet_50 (d := d) M l1 l2 l3 l4 l6 l8 l9 (0 : Int32) ?_
        refine zpos (show (0 : Int32) = 0 from by decide) ?_
        exact k
theorem iX8_isMadeBySet_146 {E : zE} {d : Nat} {Q : zO → zM → Prop} (M : zM) (l1 : Int32) (l3 : Int32) (l8 : Int32) (k : vp_in (l3 + (1 : Int32)) 647800 ∧ (if (lg_cmp ((gl M 166 ((l3 + (1 : Int32))).toNatClampNeg) ||| (gl M 167 ((l3 + (1 : Int32))).toNatClampNeg)) (0 : Int64)) = 0 then (if l8 = 0 then (if ((((gl M 165 ((l3 + (1 : Int32))).toNatClampNeg) &&& (1023 : Int64))).toInt32 &&& (-513 : Int32)) = 0 then (if (gi M 97 145) = 0 then (Q (.inl (some (vi (0 : Int32)))) M) else (Q (.inl (some (vi (1 : Int32)))) M)) else (Q (.inl (some (vi (1 : Int32)))) M)) else (Q (.inl (some (vi (1 : Int32)))) M)) else (vp_in l1 647800 ∧ (if (lg_cmp ((gl M 166 (l1).toNatClampNeg) ||| (gl M 167 (l1).toNatClampNeg)) (0 : Int64)) = 0 then (Zm E YX8_addSort (d + 1) M (zargs 0 [vr (some (97, 1, 0)), vi l3, vi (8 : Int32)]) 0 [] (zma E YX8_isMadeBySet ((d + 1) + 1) [(0, vr (some (97, 1, 0))), (3, vi l3), (8, vi l8)] 173 3 [] Q)) else (Zm E YX8_addSort (d + 1) M (zargs 0 [vr (some (97, 1, 0)), vi l3, vi (12 : Int32)]) 0 [] (zma E YX8_isMadeBySet ((d + 1) + 1) [(0, vr (some (97, 1, 0))), (3, vi l3), (8, vi l8)] 173 3 [] Q)))))) : Zm E YX8_isMadeBySet (d + 2) M [(0, vr (some (97, 1, 0))), (1, vi l1), (3, vi l3), (8, vi l8)] 146 [] Q := by
  refine sX8_isMadeBySet_146 (d := (d + 1)) M l1 l3 l8 ?_
  refine jX8_hasLabels (d := (d + 1)) M (l3 + (1 : Int32)) ?_
  refine zand k (fun h9035 k => ?_)
  refine zite k (fun h9036 k => ?_) (fun h9036 k => ?_)
  · show Zm E YX8_isMadeBySet ((d + 1) + 1) M [(0, vr (some (97, 1, 0))), (1, vi l1), (3, vi l3), (8, vi l8)] 153 [vi (0 : Int32)] Q
    refine sX8_isMadeBySet_153 (d := (d + 1)) M l1 l3 l8 (0 : Int32) ?_
    refine zpos (show (0 : Int32) = 0 from by decide) ?_
    refine sX8_isMadeBySet_176 (d := (d + 1)) M l3 l8 ?_
    refine zite k (fun h9037 k => ?_) (fun h9037 k => ?_)
    · refine jX8_plainly (d := d) M (l3 + (1 : Int32)) ?_
      refine ⟨h9035, ?_⟩
      show Zm E YX8_isMadeBySet ((d + 1) + 1) M [(0, vr (some (97, 1, 0)))] 188 [vi ((((gl M 165 ((l3 + (1 : Int32))).toNatClampNeg) &&& (1023 : Int64))).toInt32 &&& (-513 : Int32))] Q
      refine sX8_isMadeBySet_188 (d := (d + 1)) M ((((gl M 165 ((l3 + (1 : Int32))).toNatClampNeg) &&& (1023 : Int64))).toInt32 &&& (-513 : Int32)) ?_
      exact k
    · exact k
  · show Zm E YX8_isMadeBySet ((d + 1) + 1) M [(0, vr (some (97, 1, 0))), (1, vi l1), (3, vi l3), (8, vi l8)] 153 [vi (1 : Int32)] Q
    refine sX8_isMadeBySet_153 (d := (d + 1)) M l1 l3 l8 (1 : Int32) ?_
    refine zneg (show ¬ ((1 : Int32) = 0) from by decide) ?_
    refine jX8_hasLabels (d := (d + 1)) M l1 ?_
    refine zand k (fun h9040 k => ?_)
    refine zite k (fun h9041 k => ?_) (fun h9041 k => ?_)
    · show Zm E YX8_isMadeBySet ((d + 1) + 1) M [(0, vr (some (97, 1, 0))), (3, vi l3), (8, vi l8)] 163 [vi (0 : Int32), vi l3, vr (some (97, 1, 0))] Q
      refine sX8_isMadeBySet_163 (d := (d + 1)) M l3 l8 (0 : Int32) l3 ?_
      refine zpos (show (0 : Int32) = 0 from by decide) ?_
      exact k
    · show Zm E YX8_isMadeBySet ((d + 1) + 1) M [(0, vr (some (97, 1, 0))), (3, vi l3), (8, vi l8)] 163 [vi (1 : Int32), vi l3, vr (some (97, 1, 0))] Q
      refine sX8_isMadeBySet_163 (d := (d + 1)) M l3 l8 (1 : Int32) l3 ?_
      refine zneg (show ¬ ((1 : Int32) = 0) from by decide) ?_
      exact k
theorem iX8_isMadeBySet_176 {E : zE} {d : Nat} {Q : zO → zM → Prop} (M : zM) (l3 : Int32) (l8 : Int32) (k : if l8 = 0 then (vp_in (l3 + (1 : Int32)) 647800 ∧ (if ((((gl M 165 ((l3 + (1 : Int32))).toNatClampNeg) &&& (1023 : Int64))).toInt32 &&& (-513 : Int32)) = 0 then (if (gi M 97 145) = 0 then (Q (.inl (some (vi (0 : Int32)))) M) else (Q (.inl (some (vi (1 : Int32)))) M)) else (Q (.inl (some (vi (1 : Int32)))) M))) else (Q (.inl (some (vi (1 : Int32)))) M)) : Zm E YX8_isMadeBySet (d + 2) M [(0, vr (some (97, 1, 0))), (3, vi l3), (8, vi l8)] 176 [] Q := by
  refine sX8_isMadeBySet_176 (d := (d + 1)) M l3 l8 ?_
  refine zite k (fun h9046 k => ?_) (fun h9046 k => ?_)
  · refine jX8_plainly (d := d) M (l3 + (1 : Int32)) ?_
    refine zand k (fun h9047 k => ?_)
    show Zm E YX8_isMadeBySet ((d + 1) + 1) M [(0, vr (some (97, 1, 0)))] 188 [vi ((((gl M 165 ((l3 + (1 : Int32))).toNatClampNeg) &&& (1023 : Int64))).toInt32 &&& (-513 : Int32))] Q
    refine sX8_isMadeBySet_188 (d := (d + 1)) M ((((gl M 165 ((l3 + (1 : Int32))).toNatClampNeg) &&& (1023 : Int64))).toInt32 &&& (-513 : Int32)) ?_
    exact k
  · exact k
theorem iX8_isNaNOf_22 {E : zE} {d : Nat} {Q : zO → zM → Prop} (M : zM) (l1 : Int32) (l2 : Int32) (s0 : Int32) (k : vp_in l1 647800 ∧ (if ((((gl M 165 (l1).toNatClampNeg) &&& (1023 : Int64))).toInt32 &&& (-513 : Int32)) = (32 : Int32) then (Zm E YX8_numberOf (d + 2) M (zargs 0 [vr (some (97, 1, 0)), vi s0, vi ((zlr (gl M 165 (l1).toNatClampNeg) (32 : Int32))).toInt32]) 0 [] (zma E YX8_isNaNOf ((d + 2) + 1) [(0, vr (some (97, 1, 0))), (2, vi l2)] 27 3 [] Q)) else (if ((((gl M 165 (l1).toNatClampNeg) &&& (1023 : Int64))).toInt32 &&& (-513 : Int32)) = (128 : Int32) then (Zm E YX8_numberOf (d + 2) M (zargs 0 [vr (some (97, 1, 0)), vi s0, vi (((zlr (gl M 165 (l1).toNatClampNeg) (10 : Int32)) &&& (127 : Int64))).toInt32]) 0 [] (zma E YX8_isNaNOf ((d + 2) + 1) [(0, vr (some (97, 1, 0))), (2, vi l2)] 27 3 [] Q)) else (Zm E YX8_numberOf (d + 2) M (zargs 0 [vr (some (97, 1, 0)), vi s0, vi (0 : Int32)]) 0 [] (zma E YX8_isNaNOf ((d + 2) + 1) [(0, vr (some (97, 1, 0))), (2, vi l2)] 27 3 [] Q))))) : Zm E YX8_isNaNOf (d + 3) M [(0, vr (some (97, 1, 0))), (1, vi l1), (2, vi l2)] 22 [vi s0, vr (some (97, 1, 0))] Q := by
  refine sX8_isNaNOf_22 (d := (d + 2)) M l1 l2 s0 ?_
  refine jX8_valueOfAlone (d := d) M l1 ?_
  refine zand k (fun h9051 k => ?_)
  refine zite k (fun h9052 k => ?_) (fun h9052 k => ?_)
  · show Zm E YX8_isNaNOf ((d + 2) + 1) M [(0, vr (some (97, 1, 0))), (2, vi l2)] 27 [vi ((zlr (gl M 165 (l1).toNatClampNeg) (32 : Int32))).toInt32, vi s0, vr (some (97, 1, 0))] Q
    refine sX8_isNaNOf_27 (d := (d + 2)) M l2 (((zlr (gl M 165 (l1).toNatClampNeg) (32 : Int32))).toInt32) s0 ?_
    exact k
  · refine zite k (fun h9053 k => ?_) (fun h9053 k => ?_)
    · show Zm E YX8_isNaNOf ((d + 2) + 1) M [(0, vr (some (97, 1, 0))), (2, vi l2)] 27 [vi (((zlr (gl M 165 (l1).toNatClampNeg) (10 : Int32)) &&& (127 : Int64))).toInt32, vi s0, vr (some (97, 1, 0))] Q
      refine sX8_isNaNOf_27 (d := (d + 2)) M l2 ((((zlr (gl M 165 (l1).toNatClampNeg) (10 : Int32)) &&& (127 : Int64))).toInt32) s0 ?_
      exact k
    · show Zm E YX8_isNaNOf ((d + 2) + 1) M [(0, vr (some (97, 1, 0))), (2, vi l2)] 27 [vi (0 : Int32), vi s0, vr (some (97, 1, 0))] Q
      refine sX8_isNaNOf_27 (d := (d + 2)) M l2 (0 : Int32) s0 ?_
      exact k
theorem iX8_mayBeFalse_0 {E : zE} {d : Nat} {Q : zO → zM → Prop} (M : zM) (l1 : Int32) (k : vp_in l1 647800 ∧ (if ((((gl M 165 (l1).toNatClampNeg) &&& (1023 : Int64))).toInt32 &&& (347 : Int32)) = 0 then (if ((((gl M 165 (l1).toNatClampNeg) &&& (1023 : Int64))).toInt32 &&& (32 : Int32)) = 0 then (if ((((gl M 165 (l1).toNatClampNeg) &&& (1023 : Int64))).toInt32 &&& (128 : Int32)) = 0 then (Q (.inl (some (vi (0 : Int32)))) M) else (if (((zlr (gl M 165 (l1).toNatClampNeg) (10 : Int32)) &&& (127 : Int64))).toInt32 = (30 : Int32) then (Q (.inl (some (vi (1 : Int32)))) M) else (Q (.inl (some (vi (0 : Int32)))) M))) else (if ((zlr (gl M 165 (l1).toNatClampNeg) (32 : Int32))).toInt32 = 0 then (Q (.inl (some (vi (1 : Int32)))) M) else (if ((((gl M 165 (l1).toNatClampNeg) &&& (1023 : Int64))).toInt32 &&& (128 : Int32)) = 0 then (Q (.inl (some (vi (0 : Int32)))) M) else (if (((zlr (gl M 165 (l1).toNatClampNeg) (10 : Int32)) &&& (127 : Int64))).toInt32 = (30 : Int32) then (Q (.inl (some (vi (1 : Int32)))) M) else (Q (.inl (some (vi (0 : Int32)))) M))))) else (Q (.inl (some (vi (1 : Int32)))) M))) : Zm E YX8_mayBeFalse (d + 1) M [(0, vr (some (97, 1, 0))), (1, vi l1)] 0 [] Q := by
  refine sX8_mayBeFalse_0 (d := d) M l1 ?_
  refine sX8_has_0 (d := d) M l1 ?_
  refine zand k (fun h9055 k => ?_)
  show Zm E YX8_mayBeFalse (d + 1) M [(0, vr (some (97, 1, 0))), (1, vi l1)] 5 [vi (((gl M 165 (l1).toNatClampNeg) &&& (1023 : Int64))).toInt32] Q
  refine sX8_mayBeFalse_5 (d := d) M l1 ((((gl M 165 (l1).toNatClampNeg) &&& (1023 : Int64))).toInt32) ?_
  refine zite k (fun h9056 k => ?_) (fun h9056 k => ?_)
  · refine zite k (fun h9057 k => ?_) (fun h9057 k => ?_)
    · refine sX8_mayBeFalse_29 (d := d) M l1 ((((gl M 165 (l1).toNatClampNeg) &&& (1023 : Int64))).toInt32) ?_
      refine zite k (fun h9058 k => ?_) (fun h9058 k => ?_)
      · exact k
      · refine sX8_name_0 (d := d) M l1 ?_
        refine ⟨h9055, ?_⟩
        show Zm E YX8_mayBeFalse (d + 1) M [] 42 [vi (((zlr (gl M 165 (l1).toNatClampNeg) (10 : Int32)) &&& (127 : Int64))).toInt32] Q
        refine sX8_mayBeFalse_42 (d := d) M ((((zlr (gl M 165 (l1).toNatClampNeg) (10 : Int32)) &&& (127 : Int64))).toInt32) ?_
        exact k
    · refine sX8_number_0 (d := d) M l1 ?_
      refine ⟨h9055, ?_⟩
      show Zm E YX8_mayBeFalse (d + 1) M [(0, vr (some (97, 1, 0))), (1, vi l1), (2, vi (((gl M 165 (l1).toNatClampNeg) &&& (1023 : Int64))).toInt32)] 26 [vi ((zlr (gl M 165 (l1).toNatClampNeg) (32 : Int32))).toInt32] Q
      refine sX8_mayBeFalse_26 (d := d) M l1 ((((gl M 165 (l1).toNatClampNeg) &&& (1023 : Int64))).toInt32) (((zlr (gl M 165 (l1).toNatClampNeg) (32 : Int32))).toInt32) ?_
      refine zite k (fun h9060 k => ?_) (fun h9060 k => ?_)
      · exact k
      · refine sX8_mayBeFalse_29 (d := d) M l1 ((((gl M 165 (l1).toNatClampNeg) &&& (1023 : Int64))).toInt32) ?_
        refine zite k (fun h9061 k => ?_) (fun h9061 k => ?_)
        · exact k
        · refine sX8_name_0 (d := d) M l1 ?_
          refine ⟨h9055, ?_⟩
          show Zm E YX8_mayBeFalse (d + 1) M [] 42 [vi (((zlr (gl M 165 (l1).toNatClampNeg) (10 : Int32)) &&& (127 : Int64))).toInt32] Q
          refine sX8_mayBeFalse_42 (d := d) M ((((zlr (gl M 165 (l1).toNatClampNeg) (10 : Int32)) &&& (127 : Int64))).toInt32) ?_
          exact k
  · exact k
theorem iX8_mayBeTrue_0 {E : zE} {d : Nat} {Q : zO → zM → Prop} (M : zM) (l1 : Int32) (k : vp_in l1 647800 ∧ (if ((((gl M 165 (l1).toNatClampNeg) &&& (1023 : Int64))).toInt32 &&& (324 : Int32)) = 0 then (if ((((gl M 165 (l1).toNatClampNeg) &&& (1023 : Int64))).toInt32 &&& (32 : Int32)) = 0 then (if ((((gl M 165 (l1).toNatClampNeg) &&& (1023 : Int64))).toInt32 &&& (128 : Int32)) = 0 then (if (lg_cmp ((gl M 166 (l1).toNatClampNeg) ||| (gl M 167 (l1).toNatClampNeg)) (0 : Int64)) = 0 then (Q (.inl (some (vi (0 : Int32)))) M) else (Q (.inl (some (vi (1 : Int32)))) M)) else (if (((zlr (gl M 165 (l1).toNatClampNeg) (10 : Int32)) &&& (127 : Int64))).toInt32 = (30 : Int32) then (if (lg_cmp ((gl M 166 (l1).toNatClampNeg) ||| (gl M 167 (l1).toNatClampNeg)) (0 : Int64)) = 0 then (Q (.inl (some (vi (0 : Int32)))) M) else (Q (.inl (some (vi (1 : Int32)))) M)) else (Q (.inl (some (vi (1 : Int32)))) M))) else (if ((zlr (gl M 165 (l1).toNatClampNeg) (32 : Int32))).toInt32 = 0 then (if ((((gl M 165 (l1).toNatClampNeg) &&& (1023 : Int64))).toInt32 &&& (128 : Int32)) = 0 then (if (lg_cmp ((gl M 166 (l1).toNatClampNeg) ||| (gl M 167 (l1).toNatClampNeg)) (0 : Int64)) = 0 then (Q (.inl (some (vi (0 : Int32)))) M) else (Q (.inl (some (vi (1 : Int32)))) M)) else (if (((zlr (gl M 165 (l1).toNatClampNeg) (10 : Int32)) &&& (127 : Int64))).toInt32 = (30 : Int32) then (if (lg_cmp ((gl M 166 (l1).toNatClampNeg) ||| (gl M 167 (l1).toNatClampNeg)) (0 : Int64)) = 0 then (Q (.inl (some (vi (0 : Int32)))) M) else (Q (.inl (some (vi (1 : Int32)))) M)) else (Q (.inl (some (vi (1 : Int32)))) M))) else (Q (.inl (some (vi (1 : Int32)))) M))) else (Q (.inl (some (vi (1 : Int32)))) M))) : Zm E YX8_mayBeTrue (d + 1) M [(0, vr (some (97, 1, 0))), (1, vi l1)] 0 [] Q := by
  refine sX8_mayBeTrue_0 (d := d) M l1 ?_
  refine sX8_has_0 (d := d) M l1 ?_
  refine zand k (fun h9063 k => ?_)
  show Zm E YX8_mayBeTrue (d + 1) M [(0, vr (some (97, 1, 0))), (1, vi l1)] 5 [vi (((gl M 165 (l1).toNatClampNeg) &&& (1023 : Int64))).toInt32] Q
  refine sX8_mayBeTrue_5 (d := d) M l1 ((((gl M 165 (l1).toNatClampNeg) &&& (1023 : Int64))).toInt32) ?_
  refine zite k (fun h9064 k => ?_) (fun h9064 k => ?_)
  · refine zite k (fun h9065 k => ?_) (fun h9065 k => ?_)
    · refine sX8_mayBeTrue_29 (d := d) M l1 ((((gl M 165 (l1).toNatClampNeg) &&& (1023 : Int64))).toInt32) ?_
      refine zite k (fun h9066 k => ?_) (fun h9066 k => ?_)
      · refine jX8_hasLabels (d := d) M l1 ?_
        refine ⟨h9063, ?_⟩
        refine zite k (fun h9067 k => ?_) (fun h9067 k => ?_)
        · show Zm E YX8_mayBeTrue (d + 1) M [] 52 [vi (0 : Int32)] Q
          refine sX8_mayBeTrue_52 (d := d) M (0 : Int32) ?_
          refine zpos (show (0 : Int32) = 0 from by decide) ?_
          exact k
        · show Zm E YX8_mayBeTrue (d + 1) M [] 52 [vi (1 : Int32)] Q
          refine sX8_mayBeTrue_52 (d := d) M (1 : Int32) ?_
          refine zneg (show ¬ ((1 : Int32) = 0) from by decide) ?_
          exact k
      · refine sX8_name_0 (d := d) M l1 ?_
        refine ⟨h9063, ?_⟩
        show Zm E YX8_mayBeTrue (d + 1) M [(0, vr (some (97, 1, 0))), (1, vi l1)] 42 [vi (((zlr (gl M 165 (l1).toNatClampNeg) (10 : Int32)) &&& (127 : Int64))).toInt32] Q
        refine sX8_mayBeTrue_42 (d := d) M l1 ((((zlr (gl M 165 (l1).toNatClampNeg) (10 : Int32)) &&& (127 : Int64))).toInt32) ?_
        refine zite k (fun h9068 k => ?_) (fun h9068 k => ?_)
        · refine jX8_hasLabels (d := d) M l1 ?_
          refine ⟨h9063, ?_⟩
          refine zite k (fun h9069 k => ?_) (fun h9069 k => ?_)
          · show Zm E YX8_mayBeTrue (d + 1) M [] 52 [vi (0 : Int32)] Q
            refine sX8_mayBeTrue_52 (d := d) M (0 : Int32) ?_
            refine zpos (show (0 : Int32) = 0 from by decide) ?_
            exact k
          · show Zm E YX8_mayBeTrue (d + 1) M [] 52 [vi (1 : Int32)] Q
            refine sX8_mayBeTrue_52 (d := d) M (1 : Int32) ?_
            refine zneg (show ¬ ((1 : Int32) = 0) from by decide) ?_
            exact k
        · exact k
    · refine sX8_number_0 (d := d) M l1 ?_
      refine ⟨h9063, ?_⟩
      show Zm E YX8_mayBeTrue (d + 1) M [(0, vr (some (97, 1, 0))), (1, vi l1), (2, vi (((gl M 165 (l1).toNatClampNeg) &&& (1023 : Int64))).toInt32)] 26 [vi ((zlr (gl M 165 (l1).toNatClampNeg) (32 : Int32))).toInt32] Q
      refine sX8_mayBeTrue_26 (d := d) M l1 ((((gl M 165 (l1).toNatClampNeg) &&& (1023 : Int64))).toInt32) (((zlr (gl M 165 (l1).toNatClampNeg) (32 : Int32))).toInt32) ?_
      refine zite k (fun h9070 k => ?_) (fun h9070 k => ?_)
      · refine sX8_mayBeTrue_29 (d := d) M l1 ((((gl M 165 (l1).toNatClampNeg) &&& (1023 : Int64))).toInt32) ?_
        refine zite k (fun h9071 k => ?_) (fun h9071 k => ?_)
        · refine jX8_hasLabels (d := d) M l1 ?_
          refine ⟨h9063, ?_⟩
          refine zite k (fun h9072 k => ?_) (fun h9072 k => ?_)
          · show Zm E YX8_mayBeTrue (d + 1) M [] 52 [vi (0 : Int32)] Q
            refine sX8_mayBeTrue_52 (d := d) M (0 : Int32) ?_
            refine zpos (show (0 : Int32) = 0 from by decide) ?_
            exact k
          · show Zm E YX8_mayBeTrue (d + 1) M [] 52 [vi (1 : Int32)] Q
            refine sX8_mayBeTrue_52 (d := d) M (1 : Int32) ?_
            refine zneg (show ¬ ((1 : Int32) = 0) from by decide) ?_
            exact k
        · refine sX8_name_0 (d := d) M l1 ?_
          refine ⟨h9063, ?_⟩
          show Zm E YX8_mayBeTrue (d + 1) M [(0, vr (some (97, 1, 0))), (1, vi l1)] 42 [vi (((zlr (gl M 165 (l1).toNatClampNeg) (10 : Int32)) &&& (127 : Int64))).toInt32] Q
          refine sX8_mayBeTrue_42 (d := d) M l1 ((((zlr (gl M 165 (l1).toNatClampNeg) (10 : Int32)) &&& (127 : Int64))).toInt32) ?_
          refine zite k (fun h9073 k => ?_) (fun h9073 k => ?_)
          · refine jX8_hasLabels (d := d) M l1 ?_
            refine ⟨h9063, ?_⟩
            refine zite k (fun h9074 k => ?_) (fun h9074 k => ?_)
            · show Zm E YX8_mayBeTrue (d + 1) M [] 52 [vi (0 : Int32)] Q
              refine sX8_mayBeTrue_52 (d := d) M (0 : Int32) ?_
              refine zpos (show (0 : Int32) = 0 from by decide) ?_
              exact k
            · show Zm E YX8_mayBeTrue (d + 1) M [] 52 [vi (1 : Int32)] Q
              refine sX8_mayBeTrue_52 (d := d) M (1 : Int32) ?_
              refine zneg (show ¬ ((1 : Int32) = 0) from by decide) ?_
              exact k
          · exact k
      · exact k
  · exact k
theorem iX8_nativeWays_8 {E : zE} {d : Nat} {Q : zO → zM → Prop} (M : zM) (l1 : Int32) (l2 : Int32) (l3 : Int32) (l4 : Int32) (l5 : Int32) (k : vp_in (647760 : Int32) 647800 ∧ (vp_in (647761 : Int32) 647800 ∧ (vp_in (647762 : Int32) 647800 ∧ (if l4 ≤ 0 then (Zm E YX8_addSort d (sl (sl (sl (sl (sl (sl (sl (sl (sl M 165 ((647760 : Int32)).toNatClampNeg (0 : Int64)) 166 ((647760 : Int32)).toNatClampNeg (0 : Int64)) 167 ((647760 : Int32)).toNatClampNeg (0 : Int64)) 165 ((647761 : Int32)).toNatClampNeg (0 : Int64)) 166 ((647761 : Int32)).toNatClampNeg (0 : Int64)) 167 ((647761 : Int32)).toNatClampNeg (0 : Int64)) 165 ((647762 : Int32)).toNatClampNeg (0 : Int64)) 166 ((647762 : Int32)).toNatClampNeg (0 : Int64)) 167 ((647762 : Int32)).toNatClampNeg (0 : Int64)) (zargs 0 [vr (some (97, 1, 0)), vi (647761 : Int32), vi (1 : Int32)]) 0 [] (zma E YX8_nativeWays (d + 1) [(0, vr (some (97, 1, 0))), (1, vi l1), (2, vi l2), (4, vi l4), (5, vi l5), (6, vi (647760 : Int32)), (7, vi (647761 : Int32)), (8, vi (647762 : Int32))] 67 3 [] Q)) else (vp_in (639 : Int32) 640 ∧ (Zm E YX8_copySet d (sl (sl (sl (sl (sl (sl (sl (sl (sl M 165 ((647760 : Int32)).toNatClampNeg (0 : Int64)) 166 ((647760 : Int32)).toNatClampNeg (0 : Int64)) 167 ((647760 : Int32)).toNatClampNeg (0 : Int64)) 165 ((647761 : Int32)).toNatClampNeg (0 : Int64)) 166 ((647761 : Int32)).toNatClampNeg (0 : Int64)) 167 ((647761 : Int32)).toNatClampNeg (0 : Int64)) 165 ((647762 : Int32)).toNatClampNeg (0 : Int64)) 166 ((647762 : Int32)).toNatClampNeg (0 : Int64)) 167 ((647762 : Int32)).toNatClampNeg (0 : Int64)) (zargs 0 [vr (some (97, 1, 0)), vi ((gi M 172 ((639 : Int32)).toNatClampNeg) + l3), vi (647761 : Int32)]) 0 [] (zma E YX8_nativeWays (d + 1) [(0, vr (some (97, 1, 0))), (1, vi l1), (2, vi l2), (4, vi l4), (5, vi l5), (6, vi (647760 : Int32)), (7, vi (647761 : Int32)), (8, vi (647762 : Int32))] 57 3 [] Q))))))) : Zm E YX8_nativeWays (d + 1) M [(0, vr (some (97, 1, 0))), (1, vi l1), (2, vi l2), (3, vi l3), (4, vi l4), (5, vi l5)] 8 [] Q := by
  refine sX8_nativeWays_8 (d := d) M l1 l2 l3 l4 l5 ?_
  refine jX8_empty (d := d) M (647760 : Int32) ?_
  refine zand k (fun h9075 k => ?_)
  show Zm E YX8_nativeWays (d + 1) (sl (sl (sl M 165 ((647760 : Int32)).toNatClampNeg (0 : Int64)) 166 ((647760 : Int32)).toNatClampNeg (0 : Int64)) 167 ((647760 : Int32)).toNatClampNeg (0 : Int64)) [(0, vr (some (97, 1, 0))), (1, vi l1), (2, vi l2), (3, vi l3), (4, vi l4), (5, vi l5), (6, vi (647760 : Int32)), (7, vi (647761 : Int32)), (8, vi (647762 : Int32))] 29 [] Q
  refine sX8_nativeWays_29 (d := d) (sl (sl (sl M 165 ((647760 : Int32)).toNatClampNeg (0 : Int64)) 166 ((647760 : Int32)).toNatClampNeg (0 : Int64)) 167 ((647760 : Int32)).toNatClampNeg (0 : Int64)) l1 l2 l3 l4 l5 (647760 : Int32) (647761 : Int32) (647762 : Int32) ?_
  refine jX8_empty (d := d) (sl (sl (sl M 165 ((647760 : Int32)).toNatClampNeg (0 : Int64)) 166 ((647760 : Int32)).toNatClampNeg (0 : Int64)) 167 ((647760 : Int32)).toNatClampNeg (0 : Int64)) (647761 : Int32) ?_
  refine zand k (fun h9076 k => ?_)
  show Zm E YX8_nativeWays (d + 1) (sl (sl (sl (sl (sl (sl M 165 ((647760 : Int32)).toNatClampNeg (0 : Int64)) 166 ((647760 : Int32)).toNatClampNeg (0 : Int64)) 167 ((647760 : Int32)).toNatClampNeg (0 : Int64)) 165 ((647761 : Int32)).toNatClampNeg (0 : Int64)) 166 ((647761 : Int32)).toNatClampNeg (0 : Int64)) 167 ((647761 : Int32)).toNatClampNeg (0 : Int64)) [(0, vr (some (97, 1, 0))), (1, vi l1), (2, vi l2), (3, vi l3), (4, vi l4), (5, vi l5), (6, vi (647760 : Int32)), (7, vi (647761 : Int32)), (8, vi (647762 : Int32))] 35 [] Q
  refine sX8_nativeWays_35 (d := d) (sl (sl (sl (sl (sl (sl M 165 ((647760 : Int32)).toNatClampNeg (0 : Int64)) 166 ((647760 : Int32)).toNatClampNeg (0 : Int64)) 167 ((647760 : Int32)).toNatClampNeg (0 : Int64)) 165 ((647761 : Int32)).toNatClampNeg (0 : Int64)) 166 ((647761 : Int32)).toNatClampNeg (0 : Int64)) 167 ((647761 : Int32)).toNatClampNeg (0 : Int64)) l1 l2 l3 l4 l5 (647760 : Int32) (647761 : Int32) (647762 : Int32) ?_
  refine jX8_empty (d := d) (sl (sl (sl (sl (sl (sl M 165 ((647760 : Int32)).toNatClampNeg (0 : Int64)) 166 ((647760 : Int32)).toNatClampNeg (0 : Int64)) 167 ((647760 : Int32)).toNatClampNeg (0 : Int64)) 165 ((647761 : Int32)).toNatClampNeg (0 : Int64)) 166 ((647761 : Int32)).toNatClampNeg (0 : Int64)) 167 ((647761 : Int32)).toNatClampNeg (0 : Int64)) (647762 : Int32) ?_
  refine zand k (fun h9077 k => ?_)
  show Zm E YX8_nativeWays (d + 1) (sl (sl (sl (sl (sl (sl (sl (sl (sl M 165 ((647760 : Int32)).toNatClampNeg (0 : Int64)) 166 ((647760 : Int32)).toNatClampNeg (0 : Int64)) 167 ((647760 : Int32)).toNatClampNeg (0 : Int64)) 165 ((647761 : Int32)).toNatClampNeg (0 : Int64)) 166 ((647761 : Int32)).toNatClampNeg (0 : Int64)) 167 ((647761 : Int32)).toNatClampNeg (0 : Int64)) 165 ((647762 : Int32)).toNatClampNeg (0 : Int64)) 166 ((647762 : Int32)).toNatClampNeg (0 : Int64)) 167 ((647762 : Int32)).toNatClampNeg (0 : Int64)) [(0, vr (some (97, 1, 0))), (1, vi l1), (2, vi l2), (3, vi l3), (4, vi l4), (5, vi l5), (6, vi (647760 : Int32)), (7, vi (647761 : Int32)), (8, vi (647762 : Int32))] 41 [] Q
  refine sX8_nativeWays_41 (d := d) (sl (sl (sl (sl (sl (sl (sl (sl (sl M 165 ((647760 : Int32)).toNatClampNeg (0 : Int64)) 166 ((647760 : Int32)).toNatClampNeg (0 : Int64)) 167 ((647760 : Int32)).toNatClampNeg (0 : Int64)) 165 ((647761 : Int32)).toNatClampNeg (0 : Int64)) 166 ((647761 : Int32)).toNatClampNeg (0 : Int64)) 167 ((647761 : Int32)).toNatClampNeg (0 : Int64)) 165 ((647762 : Int32)).toNatClampNeg (0 : Int64)) 166 ((647762 : Int32)).toNatClampNeg (0 : Int64)) 167 ((647762 : Int32)).toNatClampNeg (0 : Int64)) l1 l2 l3 l4 l5 (647760 : Int32) (647761 : Int32) (647762 : Int32) ?_
  refine zite k (fun h9078 k => ?_) (fun h9078 k => ?_)
  · exact k
  · refine sX8_onStack_0 (d := d) (sl (sl (sl (sl (sl (sl (sl (sl (sl M 165 ((647760 : Int32)).toNatClampNeg (0 : Int64)) 166 ((647760 : Int32)).toNatClampNeg (0 : Int64)) 167 ((647760 : Int32)).toNatClampNeg (0 : Int64)) 165 ((647761 : Int32)).toNatClampNeg (0 : Int64)) 166 ((647761 : Int32)).toNatClampNeg (0 : Int64)) 167 ((647761 : Int32)).toNatClampNeg (0 : Int64)) 165 ((647762 : Int32)).toNatClampNeg (0 : Int64)) 166 ((647762 : Int32)).toNatClampNeg (0 : Int64)) 167 ((647762 : Int32)).toNatClampNeg (0 : Int64)) (639 : Int32) l3 ?_
    refine zand k (fun h9079 k => ?_)
    show Zm E YX8_nativeWays (d + 1) (sl (sl (sl (sl (sl (sl (sl (sl (sl M 165 ((647760 : Int32)).toNatClampNeg (0 : Int64)) 166 ((647760 : Int32)).toNatClampNeg (0 : Int64)) 167 ((647760 : Int32)).toNatClampNeg (0 : Int64)) 165 ((647761 : Int32)).toNatClampNeg (0 : Int64)) 166 ((647761 : Int32)).toNatClampNeg (0 : Int64)) 167 ((647761 : Int32)).toNatClampNeg (0 : Int64)) 165 ((647762 : Int32)).toNatClampNeg (0 : Int64)) 166 ((647762 : Int32)).toNatClampNeg (0 : Int64)) 167 ((647762 : Int32)).toNatClampNeg (0 : Int64)) [(0, vr (some (97, 1, 0))), (1, vi l1), (2, vi l2), (4, vi l4), (5, vi l5), (6, vi (647760 : Int32)), (7, vi (647761 : Int32)), (8, vi (647762 : Int32))] 55 [vi ((gi M 172 ((639 : Int32)).toNatClampNeg) + l3), vr (some (97, 1, 0))] Q
    refine sX8_nativeWays_55 (d := d) (sl (sl (sl (sl (sl (sl (sl (sl (sl M 165 ((647760 : Int32)).toNatClampNeg (0 : Int64)) 166 ((647760 : Int32)).toNatClampNeg (0 : Int64)) 167 ((647760 : Int32)).toNatClampNeg (0 : Int64)) 165 ((647761 : Int32)).toNatClampNeg (0 : Int64)) 166 ((647761 : Int32)).toNatClampNeg (0 : Int64)) 167 ((647761 : Int32)).toNatClampNeg (0 : Int64)) 165 ((647762 : Int32)).toNatClampNeg (0 : Int64)) 166 ((647762 : Int32)).toNatClampNeg (0 : Int64)) 167 ((647762 : Int32)).toNatClampNeg (0 : Int64)) l1 l2 l4 l5 (647760 : Int32) (647761 : Int32) (647762 : Int32) ((gi M 172 ((639 : Int32)).toNatClampNeg) + l3) ?_
    exact k
theorem iX8_nativeWays_179 {E : zE} {d : Nat} {Q : zO → zM → Prop} (M : zM) (l5 : Int32) (l6 : Int32) (l9 : Int32) (k : Zm E YX8_replace d M (zargs 0 [vr (some (97, 1, 0)), vi l5, vi l6]) 0 [] (zma E YX8_nativeWays (d + 1) [(0, vr (some (97, 1, 0))), (9, vi l9)] 382 3 [] Q)) : Zm E YX8_nativeWays (d + 1) M [(0, vr (some (97, 1, 0))), (5, vi l5), (6, vi l6), (9, vi l9)] 179 [] Q := by
  refine sX8_nativeWays_179 (d := d) M l5 l6 l9 ?_
  refine sX8_nativeWays_377 (d := d) M l5 l6 l9 ?_
  exact k
theorem iX8_nativeWays_191 {E : zE} {d : Nat} {Q : zO → zM → Prop} (M : zM) (l5 : Int32) (l6 : Int32) (l9 : Int32) (k : vp_in l6 647800 ∧ (Zm E YX8_replace d (sl M 166 (l6).toNatClampNeg ((gl M 166 (l6).toNatClampNeg) ||| (zls (1 : Int64) (23 : Int32)))) (zargs 0 [vr (some (97, 1, 0)), vi l5, vi l6]) 0 [] (zma E YX8_nativeWays (d + 1) [(0, vr (some (97, 1, 0))), (9, vi l9)] 382 3 [] Q))) : Zm E YX8_nativeWays (d + 1) M [(0, vr (some (97, 1, 0))), (5, vi l5), (6, vi l6), (9, vi l9)] 191 [] Q := by
  refine sX8_nativeWays_191 (d := d) M l5 l6 l9 ?_
  refine jX8_addLabel (d := d) M l6 (23 : Int32) ?_
  refine zneg (show ¬ ((64 : Int32) ≤ (23 : Int32)) from by decide) ?_
  refine zand k (fun h9693 k => ?_)
  show Zm E YX8_nativeWays (d + 1) (sl M 166 (l6).toNatClampNeg ((gl M 166 (l6).toNatClampNeg) ||| (zls (1 : Int64) (23 : Int32)))) [(0, vr (some (97, 1, 0))), (5, vi l5), (6, vi l6), (9, vi l9)] 199 [] Q
  refine sX8_nativeWays_199 (d := d) (sl M 166 (l6).toNatClampNeg ((gl M 166 (l6).toNatClampNeg) ||| (zls (1 : Int64) (23 : Int32)))) l5 l6 l9 ?_
  refine sX8_nativeWays_377 (d := d) (sl M 166 (l6).toNatClampNeg ((gl M 166 (l6).toNatClampNeg) ||| (zls (1 : Int64) (23 : Int32)))) l5 l6 l9 ?_
  exact k
theorem iX8_nativeWays_211 {E : zE} {d : Nat} {Q : zO → zM → Prop} (M : zM) (l5 : Int32) (l6 : Int32) (l9 : Int32) (k : vp_in l6 647800 ∧ (Zm E YX8_replace d (sl M 166 (l6).toNatClampNeg ((gl M 166 (l6).toNatClampNeg) ||| (zls (1 : Int64) (24 : Int32)))) (zargs 0 [vr (some (97, 1, 0)), vi l5, vi l6]) 0 [] (zma E YX8_nativeWays (d + 1) [(0, vr (some (97, 1, 0))), (9, vi l9)] 382 3 [] Q))) : Zm E YX8_nativeWays (d + 1) M [(0, vr (some (97, 1, 0))), (5, vi l5), (6, vi l6), (9, vi l9)] 211 [] Q := by
  refine sX8_nativeWays_211 (d := d) M l5 l6 l9 ?_
  refine jX8_addLabel (d := d) M l6 (24 : Int32) ?_
  refine zneg (show ¬ ((64 : Int32) ≤ (24 : Int32)) from by decide) ?_
  refine zand k (fun h9694 k => ?_)
  show Zm E YX8_nativeWays (d + 1) (sl M 166 (l6).toNatClampNeg ((gl M 166 (l6).toNatClampNeg) ||| (zls (1 : Int64) (24 : Int32)))) [(0, vr (some (97, 1, 0))), (5, vi l5), (6, vi l6), (9, vi l9)] 219 [] Q
  refine sX8_nativeWays_219 (d := d) (sl M 166 (l6).toNatClampNeg ((gl M 166 (l6).toNatClampNeg) ||| (zls (1 : Int64) (24 : Int32)))) l5 l6 l9 ?_
  refine sX8_nativeWays_377 (d := d) (sl M 166 (l6).toNatClampNeg ((gl M 166 (l6).toNatClampNeg) ||| (zls (1 : Int64) (24 : Int32)))) l5 l6 l9 ?_
  exact k
theorem iX8_nativeWays_235 {E : zE} {d : Nat} {Q : zO → zM → Prop} (M : zM) (l5 : Int32) (l6 : Int32) (l9 : Int32) (k : Zm E YX8_replace d M (zargs 0 [vr (some (97, 1, 0)), vi l5, vi l6]) 0 [] (zma E YX8_nativeWays (d + 1) [(0, vr (some (97, 1, 0))), (9, vi l9)] 382 3 [] Q)) : Zm E YX8_nativeWays (d + 1) M [(0, vr (some (97, 1, 0))), (5, vi l5), (6, vi l6), (9, vi l9)] 235 [] Q := by
  refine sX8_nativeWays_235 (d := d) M l5 l6 l9 ?_
  refine sX8_nativeWays_377 (d := d) M l5 l6 l9 ?_
  exact k
theorem iX8_nativeWays_246 {E : zE} {d : Nat} {Q : zO → zM → Prop} (M : zM) (l5 : Int32) (l6 : Int32) (l9 : Int32) (k : Zm E YX8_replace d M (zargs 0 [vr (some (97, 1, 0)), vi l5, vi l6]) 0 [] (zma E YX8_nativeWays (d + 1) [(0, vr (some (97, 1, 0))), (9, vi l9)] 382 3 [] Q)) : Zm E YX8_nativeWays (d + 1) M [(0, vr (some (97, 1, 0))), (5, vi l5), (6, vi l6), (9, vi l9)] 246 [] Q := by
  refine sX8_nativeWays_246 (d := d) M l5 l6 l9 ?_
  refine sX8_nativeWays_377 (d := d) M l5 l6 l9 ?_
  exact k
theorem iX8_nativeWays_257 {E : zE} {d : Nat} {Q : zO → zM → Prop} (M : zM) (l5 : Int32) (l6 : Int32) (l9 : Int32) (k : Zm E YX8_replace d M (zargs 0 [vr (some (97, 1, 0)), vi l5, vi l6]) 0 [] (zma E YX8_nativeWays (d + 1) [(0, vr (some (97, 1, 0))), (9, vi l9)] 382 3 [] Q)) : Zm E YX8_nativeWays (d + 1) M [(0, vr (some (97, 1, 0))), (5, vi l5), (6, vi l6), (9, vi l9)] 257 [] Q := by
  refine sX8_nativeWays_257 (d := d) M l5 l6 l9 ?_
  refine sX8_nativeWays_377 (d := d) M l5 l6 l9 ?_
  exact k
theorem iX8_nativeWays_367 {E : zE} {d : Nat} {Q : zO → zM → Prop} (M : zM) (l1 : Int32) (l5 : Int32) (l6 : Int32) (l9 : Int32) (k : if (64 : Int32) ≤ (l1 + (11 : Int32)) then (vp_in l6 647800 ∧ (Zm E YX8_replace d (sl M 167 (l6).toNatClampNeg ((gl M 167 (l6).toNatClampNeg) ||| (zls (1 : Int64) ((l1 + (11 : Int32)) - (64 : Int32))))) (zargs 0 [vr (some (97, 1, 0)), vi l5, vi l6]) 0 [] (zma E YX8_nativeWays (d + 1) [(0, vr (some (97, 1, 0))), (9, vi l9)] 382 3 [] Q))) else (vp_in l6 647800 ∧ (Zm E YX8_replace d (sl M 166 (l6).toNatClampNeg ((gl M 166 (l6).toNatClampNeg) ||| (zls (1 : Int64) (l1 + (11 : Int32))))) (zargs 0 [vr (some (97, 1, 0)), vi l5, vi l6]) 0 [] (zma E YX8_nativeWays (d + 1) [(0, vr (some (97, 1, 0))), (9, vi l9)] 382 3 [] Q)))) : Zm E YX8_nativeWays (d + 1) M [(0, vr (some (97, 1, 0))), (1, vi l1), (5, vi l5), (6, vi l6), (9, vi l9)] 367 [] Q := by
  refine sX8_nativeWays_367 (d := d) M l1 l5 l6 l9 ?_
  refine jX8_addLabel (d := d) M l6 (l1 + (11 : Int32)) ?_
  refine zite k (fun h9695 k => ?_) (fun h9695 k => ?_)
  · refine zand k (fun h9696 k => ?_)
    show Zm E YX8_nativeWays (d + 1) (sl M 167 (l6).toNatClampNeg ((gl M 167 (l6).toNatClampNeg) ||| (zls (1 : Int64) ((l1 + (11 : Int32)) - (64 : Int32))))) [(0, vr (some (97, 1, 0))), (5, vi l5), (6, vi l6), (9, vi l9)] 377 [] Q
    refine sX8_nativeWays_377 (d := d) (sl M 167 (l6).toNatClampNeg ((gl M 167 (l6).toNatClampNeg) ||| (zls (1 : Int64) ((l1 + (11 : Int32)) - (64 : Int32))))) l5 l6 l9 ?_
    exact k
  · refine zand k (fun h9697 k => ?_)
    show Zm E YX8_nativeWays (d + 1) (sl M 166 (l6).toNatClampNeg ((gl M 166 (l6).toNatClampNeg) ||| (zls (1 : Int64) (l1 + (11 : Int32))))) [(0, vr (some (97, 1, 0))), (5, vi l5), (6, vi l6), (9, vi l9)] 377 [] Q
    refine sX8_nativeWays_377 (d := d) (sl M 166 (l6).toNatClampNeg ((gl M 166 (l6).toNatClampNeg) ||| (zls (1 : Int64) (l1 + (11 : Int32))))) l5 l6 l9 ?_
    exact k
theorem iX8_nativeWays_271 {E : zE} {d : Nat} {Q : zO → zM → Prop} (M : zM) (l5 : Int32) (l6 : Int32) (s0 : Int32) (k : Zm E YX8_replace d M (zargs 0 [vr (some (97, 1, 0)), vi l5, vi l6]) 0 [] (zma E YX8_nativeWays (d + 1) [(0, vr (some (97, 1, 0))), (9, vi s0)] 382 3 [] Q)) : Zm E YX8_nativeWays (d + 1) M [(0, vr (some (97, 1, 0))), (5, vi l5), (6, vi l6)] 271 [vi s0] Q := by
  refine sX8_nativeWays_271 (d := d) M l5 l6 s0 ?_
  refine sX8_nativeWays_377 (d := d) M l5 l6 s0 ?_
  exact k
theorem iX8_nativeWays_286 {E : zE} {d : Nat} {Q : zO → zM → Prop} (M : zM) (l5 : Int32) (l6 : Int32) (s0 : Int32) (k : Zm E YX8_replace d M (zargs 0 [vr (some (97, 1, 0)), vi l5, vi l6]) 0 [] (zma E YX8_nativeWays (d + 1) [(0, vr (some (97, 1, 0))), (9, vi s0)] 382 3 [] Q)) : Zm E YX8_nativeWays (d + 1) M [(0, vr (some (97, 1, 0))), (5, vi l5), (6, vi l6)] 286 [vi s0] Q := by
  refine sX8_nativeWays_286 (d := d) M l5 l6 s0 ?_
  refine sX8_nativeWays_377 (d := d) M l5 l6 s0 ?_
  exact k
theorem iX8_nativeWays_297 {E : zE} {d : Nat} {Q : zO → zM → Prop} (M : zM) (l5 : Int32) (l6 : Int32) (l8 : Int32) (s0 : Int32) (k : if (s0 &&& (-385 : Int32)) = 0 then (vp_in l8 647800 ∧ (if (lg_cmp ((gl M 166 (l8).toNatClampNeg) ||| (gl M 167 (l8).toNatClampNeg)) (0 : Int64)) = 0 then (if (((((gl M 165 (l8).toNatClampNeg) &&& (1023 : Int64))).toInt32 &&& (-513 : Int32)) &&& (384 : Int32)) = 0 then (Zm E YX8_replace (d + 1) M (zargs 0 [vr (some (97, 1, 0)), vi l5, vi l6]) 0 [] (zma E YX8_nativeWays ((d + 1) + 1) [(0, vr (some (97, 1, 0))), (9, vi (0 : Int32))] 382 3 [] Q)) else (Zm E YX8_addString (d + 1) M (zargs 0 [vr (some (97, 1, 0)), vi l6, vi (-1 : Int32)]) 0 [] (zma E YX8_nativeWays ((d + 1) + 1) [(0, vr (some (97, 1, 0))), (5, vi l5), (6, vi l6), (9, vi (0 : Int32))] 337 3 [] Q))) else (if (((((gl M 165 (l8).toNatClampNeg) &&& (1023 : Int64))).toInt32 &&& (-513 : Int32)) &&& (384 : Int32)) = 0 then (Zm E YX8_replace (d + 1) M (zargs 0 [vr (some (97, 1, 0)), vi l5, vi l6]) 0 [] (zma E YX8_nativeWays ((d + 1) + 1) [(0, vr (some (97, 1, 0))), (9, vi (1 : Int32))] 382 3 [] Q)) else (Zm E YX8_addString (d + 1) M (zargs 0 [vr (some (97, 1, 0)), vi l6, vi (-1 : Int32)]) 0 [] (zma E YX8_nativeWays ((d + 1) + 1) [(0, vr (some (97, 1, 0))), (5, vi l5), (6, vi l6), (9, vi (1 : Int32))] 337 3 [] Q))))) else (vp_in l8 647800 ∧ (if (((((gl M 165 (l8).toNatClampNeg) &&& (1023 : Int64))).toInt32 &&& (-513 : Int32)) &&& (384 : Int32)) = 0 then (Zm E YX8_replace (d + 1) M (zargs 0 [vr (some (97, 1, 0)), vi l5, vi l6]) 0 [] (zma E YX8_nativeWays ((d + 1) + 1) [(0, vr (some (97, 1, 0))), (9, vi (1 : Int32))] 382 3 [] Q)) else (Zm E YX8_addString (d + 1) M (zargs 0 [vr (some (97, 1, 0)), vi l6, vi (-1 : Int32)]) 0 [] (zma E YX8_nativeWays ((d + 1) + 1) [(0, vr (some (97, 1, 0))), (5, vi l5), (6, vi l6), (9, vi (1 : Int32))] 337 3 [] Q))))) : Zm E YX8_nativeWays (d + 2) M [(0, vr (some (97, 1, 0))), (5, vi l5), (6, vi l6), (8, vi l8)] 297 [vi s0] Q := by
  refine sX8_nativeWays_297 (d := (d + 1)) M l5 l6 l8 s0 ?_
  refine zite k (fun h9701 k => ?_) (fun h9701 k => ?_)
  · refine jX8_hasLabels (d := (d + 1)) M l8 ?_
    refine zand k (fun h9702 k => ?_)
    refine zite k (fun h9703 k => ?_) (fun h9703 k => ?_)
    · show Zm E YX8_nativeWays ((d + 1) + 1) M [(0, vr (some (97, 1, 0))), (5, vi l5), (6, vi l6), (8, vi l8)] 310 [vi (0 : Int32)] Q
      refine sX8_nativeWays_310 (d := (d + 1)) M l5 l6 l8 (0 : Int32) ?_
      refine zpos (show (0 : Int32) = 0 from by decide) ?_
      refine jX8_plainly (d := d) M l8 ?_
      refine ⟨h9702, ?_⟩
      show Zm E YX8_nativeWays ((d + 1) + 1) M [(0, vr (some (97, 1, 0))), (5, vi l5), (6, vi l6), (9, vi (0 : Int32))] 326 [vi ((((gl M 165 (l8).toNatClampNeg) &&& (1023 : Int64))).toInt32 &&& (-513 : Int32))] Q
      refine sX8_nativeWays_326 (d := (d + 1)) M l5 l6 (0 : Int32) ((((gl M 165 (l8).toNatClampNeg) &&& (1023 : Int64))).toInt32 &&& (-513 : Int32)) ?_
      refine zite k (fun h9704 k => ?_) (fun h9704 k => ?_)
      · refine sX8_nativeWays_377 (d := (d + 1)) M l5 l6 (0 : Int32) ?_
        exact k
      · exact k
    · show Zm E YX8_nativeWays ((d + 1) + 1) M [(0, vr (some (97, 1, 0))), (5, vi l5), (6, vi l6), (8, vi l8)] 310 [vi (1 : Int32)] Q
      refine sX8_nativeWays_310 (d := (d + 1)) M l5 l6 l8 (1 : Int32) ?_
      refine zneg (show ¬ ((1 : Int32) = 0) from by decide) ?_
      refine jX8_plainly (d := d) M l8 ?_
      refine ⟨h9702, ?_⟩
      show Zm E YX8_nativeWays ((d + 1) + 1) M [(0, vr (some (97, 1, 0))), (5, vi l5), (6, vi l6), (9, vi (1 : Int32))] 326 [vi ((((gl M 165 (l8).toNatClampNeg) &&& (1023 : Int64))).toInt32 &&& (-513 : Int32))] Q
      refine sX8_nativeWays_326 (d := (d + 1)) M l5 l6 (1 : Int32) ((((gl M 165 (l8).toNatClampNeg) &&& (1023 : Int64))).toInt32 &&& (-513 : Int32)) ?_
      refine zite k (fun h9705 k => ?_) (fun h9705 k => ?_)
      · refine sX8_nativeWays_377 (d := (d + 1)) M l5 l6 (1 : Int32) ?_
        exact k
      · exact k
  · refine jX8_plainly (d := d) M l8 ?_
    refine zand k (fun h9706 k => ?_)
    show Zm E YX8_nativeWays ((d + 1) + 1) M [(0, vr (some (97, 1, 0))), (5, vi l5), (6, vi l6), (9, vi (1 : Int32))] 326 [vi ((((gl M 165 (l8).toNatClampNeg) &&& (1023 : Int64))).toInt32 &&& (-513 : Int32))] Q
    refine sX8_nativeWays_326 (d := (d + 1)) M l5 l6 (1 : Int32) ((((gl M 165 (l8).toNatClampNeg) &&& (1023 : Int64))).toInt32 &&& (-513 : Int32)) ?_
    refine zite k (fun h9707 k => ?_) (fun h9707 k => ?_)
    · refine sX8_nativeWays_377 (d := (d + 1)) M l5 l6 (1 : Int32) ?_
      exact k
    · exact k
theorem iX8_nativeWays_385 {E : zE} {d : Nat} {Q : zO → zM → Prop} (M : zM) (l9 : Int32) (k : if l9 = 0 then (Q (.inl none) M) else (Zm E YX8_error_2 d M (zargs 0 [vr (some (97, 1, 0)), vi (gi M 97 148), vi (6 : Int32)]) 0 [] (zma E YX8_nativeWays (d + 1) [] 397 3 [] Q))) : Zm E YX8_nativeWays (d + 1) M [(0, vr (some (97, 1, 0))), (9, vi l9)] 385 [] Q := by
  refine sX8_nativeWays_385 (d := d) M l9 ?_
  refine zite k (fun h9708 k => ?_) (fun h9708 k => ?_)
  · refine sX8_nativeWays_400 (d := d) M  ?_
    exact k
  · exact k
theorem iX8_nativeWays_340 {E : zE} {d : Nat} {Q : zO → zM → Prop} (M : zM) (l5 : Int32) (l6 : Int32) (l9 : Int32) (k : Zm E YX8_replace d M (zargs 0 [vr (some (97, 1, 0)), vi l5, vi l6]) 0 [] (zma E YX8_nativeWays (d + 1) [(0, vr (some (97, 1, 0))), (9, vi l9)] 382 3 [] Q)) : Zm E YX8_nativeWays (d + 1) M [(0, vr (some (97, 1, 0))), (5, vi l5), (6, vi l6), (9, vi l9)] 340 [] Q := by
  refine sX8_nativeWays_340 (d := d) M l5 l6 l9 ?_
  refine sX8_nativeWays_377 (d := d) M l5 l6 l9 ?_
  exact k
theorem iX8_ownWays_8 {E : zE} {d : Nat} {Q : zO → zM → Prop} (M : zM) (l1 : Int32) (l3 : Int32) (l4 : Int32) (k : if (gi M 97 71) ≤ l4 then (vp_in l1 647800 ∧ (if ((((gl M 165 (l1).toNatClampNeg) &&& (1023 : Int64))).toInt32 &&& (-513 : Int32)) = 0 then (Q (.inl (some (vi (0 : Int32)))) M) else (Q (.inl (some (vi (1 : Int32)))) M))) else (vp_in l1 647800 ∧ (if (64 : Int32) ≤ l4 then (if (lg_cmp ((zlr (gl M 167 (l1).toNatClampNeg) (l4 - (64 : Int32))) &&& (1 : Int64)) (1 : Int64)) = 0 then (Zm E YX8_ownWays ((d + 1) + 1) M [(0, vr (some (97, 1, 0))), (1, vi l1), (3, vi l3), (4, vi l4), (5, vi (0 : Int32))] 43 [] Q) else (Zm E YX8_ownWays ((d + 1) + 1) M [(0, vr (some (97, 1, 0))), (1, vi l1), (3, vi l3), (4, vi (l4 + (1 : Int32)))] 8 [] Q)) else (if (lg_cmp ((zlr (gl M 166 (l1).toNatClampNeg) l4) &&& (1 : Int64)) (1 : Int64)) = 0 then (Zm E YX8_ownWays ((d + 1) + 1) M [(0, vr (some (97, 1, 0))), (1, vi l1), (3, vi l3), (4, vi l4), (5, vi (0 : Int32))] 43 [] Q) else (Zm E YX8_ownWays ((d + 1) + 1) M [(0, vr (some (97, 1, 0))), (1, vi l1), (3, vi l3), (4, vi (l4 + (1 : Int32)))] 8 [] Q))))) : Zm E YX8_ownWays (d + 2) M [(0, vr (some (97, 1, 0))), (1, vi l1), (3, vi l3), (4, vi l4)] 8 [] Q := by
  refine sX8_ownWays_8 (d := (d + 1)) M l1 l3 l4 ?_
  refine zite k (fun h9711 k => ?_) (fun h9711 k => ?_)
  · refine jX8_plainly (d := d) M l1 ?_
    refine zand k (fun h9712 k => ?_)
    show Zm E YX8_ownWays ((d + 1) + 1) M [] 134 [vi ((((gl M 165 (l1).toNatClampNeg) &&& (1023 : Int64))).toInt32 &&& (-513 : Int32))] Q
    refine sX8_ownWays_134 (d := (d + 1)) M ((((gl M 165 (l1).toNatClampNeg) &&& (1023 : Int64))).toInt32 &&& (-513 : Int32)) ?_
    exact k
  · refine zand k (fun h9714 k => ?_)
    refine ⟨h9714, ?_⟩
    refine jX8_isIn (d := (d + 1)) M (gl M 166 (l1).toNatClampNeg) (gl M 167 (l1).toNatClampNeg) l4 ?_
    refine zite k (fun h9715 k => ?_) (fun h9715 k => ?_)
    · refine zite k (fun h9716 k => ?_) (fun h9716 k => ?_)
      · show Zm E YX8_ownWays ((d + 1) + 1) M [(0, vr (some (97, 1, 0))), (1, vi l1), (3, vi l3), (4, vi l4)] 34 [vi (1 : Int32)] Q
        refine sX8_ownWays_34 (d := (d + 1)) M l1 l3 l4 (1 : Int32) ?_
        refine zneg (show ¬ ((1 : Int32) = 0) from by decide) ?_
        exact k
      · show Zm E YX8_ownWays ((d + 1) + 1) M [(0, vr (some (97, 1, 0))), (1, vi l1), (3, vi l3), (4, vi l4)] 34 [vi (0 : Int32)] Q
        refine sX8_ownWays_34 (d := (d + 1)) M l1 l3 l4 (0 : Int32) ?_
        refine zpos (show (0 : Int32) = 0 from by decide) ?_
        exact k
    · refine zite k (fun h9717 k => ?_) (fun h9717 k => ?_)
      · show Zm E YX8_ownWays ((d + 1) + 1) M [(0, vr (some (97, 1, 0))), (1, vi l1), (3, vi l3), (4, vi l4)] 34 [vi (1 : Int32)] Q
        refine sX8_ownWays_34 (d := (d + 1)) M l1 l3 l4 (1 : Int32) ?_
        refine zneg (show ¬ ((1 : Int32) = 0) from by decide) ?_
        exact k
      · show Zm E YX8_ownWays ((d + 1) + 1) M [(0, vr (some (97, 1, 0))), (1, vi l1), (3, vi l3), (4, vi l4)] 34 [vi (0 : Int32)] Q
        refine sX8_ownWays_34 (d := (d + 1)) M l1 l3 l4 (0 : Int32) ?_
        refine zpos (show (0 : Int32) = 0 from by decide) ?_
        exact k
theorem iX8_ownWays_58 {E : zE} {d : Nat} {Q : zO → zM → Prop} (M : zM) (l1 : Int32) (l3 : Int32) (l4 : Int32) (l5 : Int32) (s0 : Int32) (k : if s0 = 0 then (Zm E YX8_ownWays ((d + 2) + 1) M [(0, vr (some (97, 1, 0))), (1, vi l1), (3, vi l3), (4, vi l4), (5, vi (l5 + (1 : Int32)))] 43 [] Q) else (vp_in (((635640 : Int32) + (l4 * ((gi M 97 8) + (1 : Int32)))) + l5) 647800 ∧ (if ((((gl M 165 ((((635640 : Int32) + (l4 * ((gi M 97 8) + (1 : Int32)))) + l5)).toNatClampNeg) &&& (1023 : Int64))).toInt32 &&& (-513 : Int32)) = 0 then (if (lg_cmp ((gl M 166 ((((635640 : Int32) + (l4 * ((gi M 97 8) + (1 : Int32)))) + l5)).toNatClampNeg) ||| (gl M 167 ((((635640 : Int32) + (l4 * ((gi M 97 8) + (1 : Int32)))) + l5)).toNatClampNeg)) (0 : Int64)) = 0 then (if ((((gl M 165 ((((635640 : Int32) + (l4 * ((gi M 97 8) + (1 : Int32)))) + l5)).toNatClampNeg) &&& (1023 : Int64))).toInt32 &&& (512 : Int32)) = 0 then (Zm E YX8_ownWays ((d + 2) + 1) M [(0, vr (some (97, 1, 0))), (1, vi l1), (3, vi l3), (4, vi l4), (5, vi (l5 + (1 : Int32)))] 43 [] Q) else (Zm E YX8_addSort (d + 2) M (zargs 0 [vr (some (97, 1, 0)), vi l3, vi (8 : Int32)]) 0 [] (zma E YX8_ownWays ((d + 2) + 1) [(0, vr (some (97, 1, 0))), (1, vi l1), (3, vi l3), (4, vi l4), (5, vi l5)] 114 3 [] Q))) else (Zm E YX8_addSort (d + 2) M (zargs 0 [vr (some (97, 1, 0)), vi l3, vi (4 : Int32)]) 0 [] (zma E YX8_ownWays ((d + 2) + 1) [(0, vr (some (97, 1, 0))), (1, vi l1), (3, vi l3), (4, vi l4), (5, vi l5)] 85 3 [] Q))) else (Zm E YX8_addSort (d + 2) M (zargs 0 [vr (some (97, 1, 0)), vi l3, vi (4 : Int32)]) 0 [] (zma E YX8_ownWays ((d + 2) + 1) [(0, vr (some (97, 1, 0))), (1, vi l1), (3, vi l3), (4, vi l4), (5, vi l5)] 85 3 [] Q))))) : Zm E YX8_ownWays (d + 3) M [(0, vr (some (97, 1, 0))), (1, vi l1), (3, vi l3), (4, vi l4), (5, vi l5)] 58 [vi s0] Q := by
  refine sX8_ownWays_58 (d := (d + 2)) M l1 l3 l4 l5 s0 ?_
  refine zite k (fun h9742 k => ?_) (fun h9742 k => ?_)
  · refine sX8_ownWays_117 (d := (d + 2)) M l1 l3 l4 l5 ?_
    exact k
  · refine jX8_field (d := (d + 1)) M (639 : Int32) l4 l5 ?_
    refine zpos (show (639 : Int32) = (639 : Int32) from by decide) ?_
    show Zm E YX8_ownWays ((d + 2) + 1) M [(0, vr (some (97, 1, 0))), (1, vi l1), (3, vi l3), (4, vi l4), (5, vi l5)] 76 [vi (((635640 : Int32) + (l4 * ((gi M 97 8) + (1 : Int32)))) + l5), vr (some (97, 1, 0))] Q
    refine sX8_ownWays_76 (d := (d + 2)) M l1 l3 l4 l5 (((635640 : Int32) + (l4 * ((gi M 97 8) + (1 : Int32)))) + l5) ?_
    refine jX8_isEmpty (d := d) M (((635640 : Int32) + (l4 * ((gi M 97 8) + (1 : Int32)))) + l5) ?_
    refine zand k (fun h9743 k => ?_)
    refine zite k (fun h9744 k => ?_) (fun h9744 k => ?_)
    · refine zite k (fun h9745 k => ?_) (fun h9745 k => ?_)
      · show Zm E YX8_ownWays ((d + 2) + 1) M [(0, vr (some (97, 1, 0))), (1, vi l1), (3, vi l3), (4, vi l4), (5, vi l5)] 79 [vi (1 : Int32)] Q
        refine sX8_ownWays_79 (d := (d + 2)) M l1 l3 l4 l5 (1 : Int32) ?_
        refine zneg (show ¬ ((1 : Int32) = 0) from by decide) ?_
        refine sX8_ownWays_88 (d := (d + 2)) M l1 l3 l4 l5 ?_
        refine jX8_field (d := (d + 1)) M (639 : Int32) l4 l5 ?_
        refine zpos (show (639 : Int32) = (639 : Int32) from by decide) ?_
        show Zm E YX8_ownWays ((d + 2) + 1) M [(0, vr (some (97, 1, 0))), (1, vi l1), (3, vi l3), (4, vi l4), (5, vi l5)] 100 [vi (((635640 : Int32) + (l4 * ((gi M 97 8) + (1 : Int32)))) + l5), vr (some (97, 1, 0))] Q
        refine sX8_ownWays_100 (d := (d + 2)) M l1 l3 l4 l5 (((635640 : Int32) + (l4 * ((gi M 97 8) + (1 : Int32)))) + l5) ?_
        refine sX8_has_0 (d := (d + 2)) M (((635640 : Int32) + (l4 * ((gi M 97 8) + (1 : Int32)))) + l5) ?_
        refine ⟨h9743, ?_⟩
        show Zm E YX8_ownWays ((d + 2) + 1) M [(0, vr (some (97, 1, 0))), (1, vi l1), (3, vi l3), (4, vi l4), (5, vi l5)] 103 [vi (((gl M 165 ((((635640 : Int32) + (l4 * ((gi M 97 8) + (1 : Int32)))) + l5)).toNatClampNeg) &&& (1023 : Int64))).toInt32] Q
        refine sX8_ownWays_103 (d := (d + 2)) M l1 l3 l4 l5 ((((gl M 165 ((((635640 : Int32) + (l4 * ((gi M 97 8) + (1 : Int32)))) + l5)).toNatClampNeg) &&& (1023 : Int64))).toInt32) ?_
        refine zite k (fun h9746 k => ?_) (fun h9746 k => ?_)
        · refine sX8_ownWays_117 (d := (d + 2)) M l1 l3 l4 l5 ?_
          exact k
        · exact k
      · show Zm E YX8_ownWays ((d + 2) + 1) M [(0, vr (some (97, 1, 0))), (1, vi l1), (3, vi l3), (4, vi l4), (5, vi l5)] 79 [vi (0 : Int32)] Q
        refine sX8_ownWays_79 (d := (d + 2)) M l1 l3 l4 l5 (0 : Int32) ?_
        refine zpos (show (0 : Int32) = 0 from by decide) ?_
        exact k
    · show Zm E YX8_ownWays ((d + 2) + 1) M [(0, vr (some (97, 1, 0))), (1, vi l1), (3, vi l3), (4, vi l4), (5, vi l5)] 79 [vi (0 : Int32)] Q
      refine sX8_ownWays_79 (d := (d + 2)) M l1 l3 l4 l5 (0 : Int32) ?_
      refine zpos (show (0 : Int32) = 0 from by decide) ?_
      exact k
theorem iX8_ownWays_88 {E : zE} {d : Nat} {Q : zO → zM → Prop} (M : zM) (l1 : Int32) (l3 : Int32) (l4 : Int32) (l5 : Int32) (k : vp_in (((635640 : Int32) + (l4 * ((gi M 97 8) + (1 : Int32)))) + l5) 647800 ∧ (if ((((gl M 165 ((((635640 : Int32) + (l4 * ((gi M 97 8) + (1 : Int32)))) + l5)).toNatClampNeg) &&& (1023 : Int64))).toInt32 &&& (512 : Int32)) = 0 then (Zm E YX8_ownWays ((d + 1) + 1) M [(0, vr (some (97, 1, 0))), (1, vi l1), (3, vi l3), (4, vi l4), (5, vi (l5 + (1 : Int32)))] 43 [] Q) else (Zm E YX8_addSort (d + 1) M (zargs 0 [vr (some (97, 1, 0)), vi l3, vi (8 : Int32)]) 0 [] (zma E YX8_ownWays ((d + 1) + 1) [(0, vr (some (97, 1, 0))), (1, vi l1), (3, vi l3), (4, vi l4), (5, vi l5)] 114 3 [] Q)))) : Zm E YX8_ownWays (d + 2) M [(0, vr (some (97, 1, 0))), (1, vi l1), (3, vi l3), (4, vi l4), (5, vi l5)] 88 [] Q := by
  refine sX8_ownWays_88 (d := (d + 1)) M l1 l3 l4 l5 ?_
  refine jX8_field (d := d) M (639 : Int32) l4 l5 ?_
  refine zpos (show (639 : Int32) = (639 : Int32) from by decide) ?_
  show Zm E YX8_ownWays ((d + 1) + 1) M [(0, vr (some (97, 1, 0))), (1, vi l1), (3, vi l3), (4, vi l4), (5, vi l5)] 100 [vi (((635640 : Int32) + (l4 * ((gi M 97 8) + (1 : Int32)))) + l5), vr (some (97, 1, 0))] Q
  refine sX8_ownWays_100 (d := (d + 1)) M l1 l3 l4 l5 (((635640 : Int32) + (l4 * ((gi M 97 8) + (1 : Int32)))) + l5) ?_
  refine sX8_has_0 (d := (d + 1)) M (((635640 : Int32) + (l4 * ((gi M 97 8) + (1 : Int32)))) + l5) ?_
  refine zand k (fun h9747 k => ?_)
  show Zm E YX8_ownWays ((d + 1) + 1) M [(0, vr (some (97, 1, 0))), (1, vi l1), (3, vi l3), (4, vi l4), (5, vi l5)] 103 [vi (((gl M 165 ((((635640 : Int32) + (l4 * ((gi M 97 8) + (1 : Int32)))) + l5)).toNatClampNeg) &&& (1023 : Int64))).toInt32] Q
  refine sX8_ownWays_103 (d := (d + 1)) M l1 l3 l4 l5 ((((gl M 165 ((((635640 : Int32) + (l4 * ((gi M 97 8) + (1 : Int32)))) + l5)).toNatClampNeg) &&& (1023 : Int64))).toInt32) ?_
  refine zite k (fun h9748 k => ?_) (fun h9748 k => ?_)
  · refine sX8_ownWays_117 (d := (d + 1)) M l1 l3 l4 l5 ?_
    exact k
  · exact k
theorem iX8_readFrom_0 {E : zE} {d : Nat} {Q : zO → zM → Prop} (M : zM) (l1 : Int64) (l3 : Int64) (l5 : Int32) (k : vp_in l5 647800 ∧ (Zm E YX8_readFrom (d + 1) (si (sl (sl (sl M 165 (l5).toNatClampNeg (0 : Int64)) 166 (l5).toNatClampNeg (0 : Int64)) 167 (l5).toNatClampNeg (0 : Int64)) 97 145 (0 : Int32)) [(0, vr (some (97, 1, 0))), (1, vl l1), (3, vl l3), (5, vi l5), (6, vi (0 : Int32))] 14 [] Q)) : Zm E YX8_readFrom (d + 1) M [(0, vr (some (97, 1, 0))), (1, vl l1), (3, vl l3), (5, vi l5)] 0 [] Q := by
  refine sX8_readFrom_0 (d := d) M l1 l3 l5 ?_
  refine jX8_empty (d := d) M l5 ?_
  refine zand k (fun h9749 k => ?_)
  show Zm E YX8_readFrom (d + 1) (sl (sl (sl M 165 (l5).toNatClampNeg (0 : Int64)) 166 (l5).toNatClampNeg (0 : Int64)) 167 (l5).toNatClampNeg (0 : Int64)) [(0, vr (some (97, 1, 0))), (1, vl l1), (3, vl l3), (5, vi l5)] 6 [] Q
  refine sX8_readFrom_6 (d := d) (sl (sl (sl M 165 (l5).toNatClampNeg (0 : Int64)) 166 (l5).toNatClampNeg (0 : Int64)) 167 (l5).toNatClampNeg (0 : Int64)) l1 l3 l5 ?_
  exact k
theorem iX8_readFrom_14 {E : zE} {d : Nat} {Q : zO → zM → Prop} (M : zM) (l1 : Int64) (l3 : Int64) (l5 : Int32) (l6 : Int32) (k : if (gi M 97 8) < l6 then (Q (.inl none) M) else (if (64 : Int32) ≤ l6 then (if (lg_cmp ((zlr (gl M 97 144) (l6 - (64 : Int32))) &&& (1 : Int64)) (1 : Int64)) = 0 then ((narrow .boolean (.int (1 : Int32)) = .int (1 : Int32)) ∧ (Zm E YX8_readKey (d + 1) M (zargs 0 [vr (some (97, 1, 0)), vl l1, vl l3, vi l6, vi l5]) 0 [] (zma E YX8_readFrom ((d + 1) + 1) [(0, vr (some (97, 1, 0))), (1, vl l1), (3, vl l3), (5, vi l5), (6, vi l6)] 39 3 [] Q))) else ((narrow .boolean (.int (0 : Int32)) = .int (0 : Int32)) ∧ (Zm E YX8_readFrom ((d + 1) + 1) M [(0, vr (some (97, 1, 0))), (1, vl l1), (3, vl l3), (5, vi l5), (6, vi (l6 + (1 : Int32)))] 14 [] Q))) else (if (lg_cmp ((zlr (gl M 97 143) l6) &&& (1 : Int64)) (1 : Int64)) = 0 then ((narrow .boolean (.int (1 : Int32)) = .int (1 : Int32)) ∧ (Zm E YX8_readKey (d + 1) M (zargs 0 [vr (some (97, 1, 0)), vl l1, vl l3, vi l6, vi l5]) 0 [] (zma E YX8_readFrom ((d + 1) + 1) [(0, vr (some (97, 1, 0))), (1, vl l1), (3, vl l3), (5, vi l5), (6, vi l6)] 39 3 [] Q))) else ((narrow .boolean (.int (0 : Int32)) = .int (0 : Int32)) ∧ (Zm E YX8_readFrom ((d + 1) + 1) M [(0, vr (some (97, 1, 0))), (1, vl l1), (3, vl l3), (5, vi l5), (6, vi (l6 + (1 : Int32)))] 14 [] Q))))) : Zm E YX8_readFrom (d + 2) M [(0, vr (some (97, 1, 0))), (1, vl l1), (3, vl l3), (5, vi l5), (6, vi l6)] 14 [] Q := by
  refine sX8_readFrom_14 (d := (d + 1)) M l1 l3 l5 l6 ?_
  refine zite k (fun h9751 k => ?_) (fun h9751 k => ?_)
  · exact k
  · refine jX8_hasKey (d := d) M l6 ?_
    refine zite k (fun h9752 k => ?_) (fun h9752 k => ?_)
    · refine zite k (fun h9753 k => ?_) (fun h9753 k => ?_)
      · refine zand k (fun h9754 k => ?_)
        show Zm E YX8_readFrom ((d + 1) + 1) M [(0, vr (some (97, 1, 0))), (1, vl l1), (3, vl l3), (5, vi l5), (6, vi l6)] 29 [vi (1 : Int32)] Q
        refine sX8_readFrom_29 (d := (d + 1)) M l1 l3 l5 l6 (1 : Int32) ?_
        refine zneg (show ¬ ((1 : Int32) = 0) from by decide) ?_
        exact k
      · refine zand k (fun h9755 k => ?_)
        show Zm E YX8_readFrom ((d + 1) + 1) M [(0, vr (some (97, 1, 0))), (1, vl l1), (3, vl l3), (5, vi l5), (6, vi l6)] 29 [vi (0 : Int32)] Q
        refine sX8_readFrom_29 (d := (d + 1)) M l1 l3 l5 l6 (0 : Int32) ?_
        refine zpos (show (0 : Int32) = 0 from by decide) ?_
        refine sX8_readFrom_42 (d := (d + 1)) M l1 l3 l5 l6 ?_
        exact k
    · refine zite k (fun h9756 k => ?_) (fun h9756 k => ?_)
      · refine zand k (fun h9757 k => ?_)
        show Zm E YX8_readFrom ((d + 1) + 1) M [(0, vr (some (97, 1, 0))), (1, vl l1), (3, vl l3), (5, vi l5), (6, vi l6)] 29 [vi (1 : Int32)] Q
        refine sX8_readFrom_29 (d := (d + 1)) M l1 l3 l5 l6 (1 : Int32) ?_
        refine zneg (show ¬ ((1 : Int32) = 0) from by decide) ?_
        exact k
      · refine zand k (fun h9758 k => ?_)
        show Zm E YX8_readFrom ((d + 1) + 1) M [(0, vr (some (97, 1, 0))), (1, vl l1), (3, vl l3), (5, vi l5), (6, vi l6)] 29 [vi (0 : Int32)] Q
        refine sX8_readFrom_29 (d := (d + 1)) M l1 l3 l5 l6 (0 : Int32) ?_
        refine zpos (show (0 : Int32) = 0 from by decide) ?_
        refine sX8_readFrom_42 (d := (d + 1)) M l1 l3 l5 l6 ?_
        exact k
theorem iX8_readKey_12 {E : zE} {d : Nat} {Q : zO → zM → Prop} (M : zM) (l5 : Int32) (l6 : Int32) (l7 : Int64) (l9 : Int64) (l11 : Int64) (l13 : Int64) (k : if (lg_cmp (l7 &&& (l11 ^^^ (-1 : Int64))) (0 : Int64)) = 0 then (if (lg_cmp (l9 &&& (l13 ^^^ (-1 : Int64))) (0 : Int64)) = 0 then (vp_in l6 647800 ∧ (Q (.inl none) (sl M 165 (l6).toNatClampNeg (((zls (((zlr (gl M 165 (l6).toNatClampNeg) (32 : Int32))).toInt32).toInt64 (32 : Int32)) ||| (zls ((((zlr (gl M 165 (l6).toNatClampNeg) (10 : Int32)) &&& (127 : Int64))).toInt32).toInt64 (10 : Int32))) ||| (((((gl M 165 (l6).toNatClampNeg) &&& (1023 : Int64))).toInt32 &&& (-513 : Int32))).toInt64)))) else (Zm E YX8_readKey ((d + 1) + 1) M [(0, vr (some (97, 1, 0))), (5, vi l5), (6, vi l6), (7, vl l7), (9, vl l9), (11, vl l11), (13, vl l13), (15, vi (0 : Int32))] 43 [] Q)) else (Zm E YX8_readKey ((d + 1) + 1) M [(0, vr (some (97, 1, 0))), (5, vi l5), (6, vi l6), (7, vl l7), (9, vl l9), (11, vl l11), (13, vl l13), (15, vi (0 : Int32))] 43 [] Q)) : Zm E YX8_readKey (d + 2) M [(0, vr (some (97, 1, 0))), (5, vi l5), (6, vi l6), (7, vl l7), (9, vl l9), (11, vl l11), (13, vl l13)] 12 [] Q := by
  refine sX8_readKey_12 (d := (d + 1)) M l5 l6 l7 l9 l11 l13 ?_
  refine zite k (fun h9761 k => ?_) (fun h9761 k => ?_)
  · refine zite k (fun h9762 k => ?_) (fun h9762 k => ?_)
    · refine jX8_plainly (d := d) M l6 ?_
      refine zand k (fun h9763 k => ?_)
      show Zm E YX8_readKey ((d + 1) + 1) M [(0, vr (some (97, 1, 0))), (6, vi l6)] 218 [vi ((((gl M 165 (l6).toNatClampNeg) &&& (1023 : Int64))).toInt32 &&& (-513 : Int32)), vi l6, vr (some (97, 1, 0))] Q
      refine sX8_readKey_218 (d := (d + 1)) M l6 ((((gl M 165 (l6).toNatClampNeg) &&& (1023 : Int64))).toInt32 &&& (-513 : Int32)) l6 ?_
      refine sX8_name_0 (d := (d + 1)) M l6 ?_
      refine ⟨h9763, ?_⟩
      show Zm E YX8_readKey ((d + 1) + 1) M [(0, vr (some (97, 1, 0))), (6, vi l6)] 224 [vi (((zlr (gl M 165 (l6).toNatClampNeg) (10 : Int32)) &&& (127 : Int64))).toInt32, vi ((((gl M 165 (l6).toNatClampNeg) &&& (1023 : Int64))).toInt32 &&& (-513 : Int32)), vi l6, vr (some (97, 1, 0))] Q
      refine sX8_readKey_224 (d := (d + 1)) M l6 ((((zlr (gl M 165 (l6).toNatClampNeg) (10 : Int32)) &&& (127 : Int64))).toInt32) ((((gl M 165 (l6).toNatClampNeg) &&& (1023 : Int64))).toInt32 &&& (-513 : Int32)) l6 ?_
      refine sX8_number_0 (d := (d + 1)) M l6 ?_
      refine ⟨h9763, ?_⟩
      show Zm E YX8_readKey ((d + 1) + 1) M [] 230 [vi ((zlr (gl M 165 (l6).toNatClampNeg) (32 : Int32))).toInt32, vi (((zlr (gl M 165 (l6).toNatClampNeg) (10 : Int32)) &&& (127 : Int64))).toInt32, vi ((((gl M 165 (l6).toNatClampNeg) &&& (1023 : Int64))).toInt32 &&& (-513 : Int32)), vi l6, vr (some (97, 1, 0))] Q
      refine sX8_readKey_230 (d := (d + 1)) M (((zlr (gl M 165 (l6).toNatClampNeg) (32 : Int32))).toInt32) ((((zlr (gl M 165 (l6).toNatClampNeg) (10 : Int32)) &&& (127 : Int64))).toInt32) ((((gl M 165 (l6).toNatClampNeg) &&& (1023 : Int64))).toInt32 &&& (-513 : Int32)) l6 ?_
      refine sX8_write_0 (d := (d + 1)) M l6 ((((gl M 165 (l6).toNatClampNeg) &&& (1023 : Int64))).toInt32 &&& (-513 : Int32)) ((((zlr (gl M 165 (l6).toNatClampNeg) (10 : Int32)) &&& (127 : Int64))).toInt32) (((zlr (gl M 165 (l6).toNatClampNeg) (32 : Int32))).toInt32) ?_
      refine ⟨h9763, ?_⟩
      show Zm E YX8_readKey ((d + 1) + 1) (sl M 165 (l6).toNatClampNeg (((zls (((zlr (gl M 165 (l6).toNatClampNeg) (32 : Int32))).toInt32).toInt64 (32 : Int32)) ||| (zls ((((zlr (gl M 165 (l6).toNatClampNeg) (10 : Int32)) &&& (127 : Int64))).toInt32).toInt64 (10 : Int32))) ||| (((((gl M 165 (l6).toNatClampNeg) &&& (1023 : Int64))).toInt32 &&& (-513 : Int32))).toInt64)) [] 233 [] Q
      refine sX8_readKey_233 (d := (d + 1)) (sl M 165 (l6).toNatClampNeg (((zls (((zlr (gl M 165 (l6).toNatClampNeg) (32 : Int32))).toInt32).toInt64 (32 : Int32)) ||| (zls ((((zlr (gl M 165 (l6).toNatClampNeg) (10 : Int32)) &&& (127 : Int64))).toInt32).toInt64 (10 : Int32))) ||| (((((gl M 165 (l6).toNatClampNeg) &&& (1023 : Int64))).toInt32 &&& (-513 : Int32))).toInt64))  ?_
      exact k
    · exact k
  · exact k
theorem iX8_readKey_43 {E : zE} {d : Nat} {Q : zO → zM → Prop} (M : zM) (l5 : Int32) (l6 : Int32) (l7 : Int64) (l9 : Int64) (l11 : Int64) (l13 : Int64) (l15 : Int32) (k : if (64 : Int32) ≤ l15 then (if (lg_cmp ((zlr (l9 &&& (l13 ^^^ (-1 : Int64))) (l15 - (64 : Int32))) &&& (1 : Int64)) (1 : Int64)) = 0 then (Zm E YX8_join (d + 1) M (zargs 0 [vr (some (97, 1, 0)), vi (((635640 : Int32) + (l15 * ((gi M 97 8) + (1 : Int32)))) + l5), vi l6]) 0 [] (zma E YX8_readKey ((d + 1) + 1) [(0, vr (some (97, 1, 0))), (5, vi l5), (6, vi l6), (7, vl l7), (9, vl l9), (11, vl l11), (13, vl (l13 ||| (zls (1 : Int64) (l15 - (64 : Int32))))), (15, vi l15), (16, vi (((635640 : Int32) + (l15 * ((gi M 97 8) + (1 : Int32)))) + l5))] 124 3 [] Q)) else (Zm E YX8_readKey ((d + 1) + 1) M [(0, vr (some (97, 1, 0))), (5, vi l5), (6, vi l6), (7, vl l7), (9, vl l9), (11, vl l11), (13, vl l13), (15, vi (l15 + (1 : Int32)))] 43 [] Q)) else (if (lg_cmp ((zlr (l7 &&& (l11 ^^^ (-1 : Int64))) l15) &&& (1 : Int64)) (1 : Int64)) = 0 then (Zm E YX8_join (d + 1) M (zargs 0 [vr (some (97, 1, 0)), vi (((635640 : Int32) + (l15 * ((gi M 97 8) + (1 : Int32)))) + l5), vi l6]) 0 [] (zma E YX8_readKey ((d + 1) + 1) [(0, vr (some (97, 1, 0))), (5, vi l5), (6, vi l6), (7, vl l7), (9, vl l9), (11, vl (l11 ||| (zls (1 : Int64) l15))), (13, vl l13), (15, vi l15), (16, vi (((635640 : Int32) + (l15 * ((gi M 97 8) + (1 : Int32)))) + l5))] 124 3 [] Q)) else (Zm E YX8_readKey ((d + 1) + 1) M [(0, vr (some (97, 1, 0))), (5, vi l5), (6, vi l6), (7, vl l7), (9, vl l9), (11, vl l11), (13, vl l13), (15, vi (l15 + (1 : Int32)))] 43 [] Q))) : Zm E YX8_readKey (d + 2) M [(0, vr (some (97, 1, 0))), (5, vi l5), (6, vi l6), (7, vl l7), (9, vl l9), (11, vl l11), (13, vl l13), (15, vi l15)] 43 [] Q := by
  refine sX8_readKey_43 (d := (d + 1)) M l5 l6 l7 l9 l11 l13 l15 ?_
  refine jX8_isIn (d := (d + 1)) M (l7 &&& (l11 ^^^ (-1 : Int64))) (l9 &&& (l13 ^^^ (-1 : Int64))) l15 ?_
  refine zite k (fun h9766 k => ?_) (fun h9766 k => ?_)
  · refine zite k (fun h9767 k => ?_) (fun h9767 k => ?_)
    · show Zm E YX8_readKey ((d + 1) + 1) M [(0, vr (some (97, 1, 0))), (5, vi l5), (6, vi l6), (7, vl l7), (9, vl l9), (11, vl l11), (13, vl l13), (15, vi l15)] 66 [vi (1 : Int32)] Q
      refine sX8_readKey_66 (d := (d + 1)) M l5 l6 l7 l9 l11 l13 l15 (1 : Int32) ?_
      refine zneg (show ¬ ((1 : Int32) = 0) from by decide) ?_
      refine zpos h9766 ?_
      refine jX8_field (d := d) M (639 : Int32) l15 l5 ?_
      refine zpos (show (639 : Int32) = (639 : Int32) from by decide) ?_
      show Zm E YX8_readKey ((d + 1) + 1) M [(0, vr (some (97, 1, 0))), (5, vi l5), (6, vi l6), (7, vl l7), (9, vl l9), (11, vl l11), (13, vl (l13 ||| (zls (1 : Int64) (l15 - (64 : Int32))))), (15, vi l15)] 117 [vi (((635640 : Int32) + (l15 * ((gi M 97 8) + (1 : Int32)))) + l5)] Q
      refine sX8_readKey_117 (d := (d + 1)) M l5 l6 l7 l9 l11 (l13 ||| (zls (1 : Int64) (l15 - (64 : Int32)))) l15 (((635640 : Int32) + (l15 * ((gi M 97 8) + (1 : Int32)))) + l5) ?_
      exact k
    · show Zm E YX8_readKey ((d + 1) + 1) M [(0, vr (some (97, 1, 0))), (5, vi l5), (6, vi l6), (7, vl l7), (9, vl l9), (11, vl l11), (13, vl l13), (15, vi l15)] 66 [vi (0 : Int32)] Q
      refine sX8_readKey_66 (d := (d + 1)) M l5 l6 l7 l9 l11 l13 l15 (0 : Int32) ?_
      refine zpos (show (0 : Int32) = 0 from by decide) ?_
      exact k
  · refine zite k (fun h9768 k => ?_) (fun h9768 k => ?_)
    · show Zm E YX8_readKey ((d + 1) + 1) M [(0, vr (some (97, 1, 0))), (5, vi l5), (6, vi l6), (7, vl l7), (9, vl l9), (11, vl l11), (13, vl l13), (15, vi l15)] 66 [vi (1 : Int32)] Q
      refine sX8_readKey_66 (d := (d + 1)) M l5 l6 l7 l9 l11 l13 l15 (1 : Int32) ?_
      refine zneg (show ¬ ((1 : Int32) = 0) from by decide) ?_
      refine zneg h9766 ?_
      refine jX8_field (d := d) M (639 : Int32) l15 l5 ?_
      refine zpos (show (639 : Int32) = (639 : Int32) from by decide) ?_
      show Zm E YX8_readKey ((d + 1) + 1) M [(0, vr (some (97, 1, 0))), (5, vi l5), (6, vi l6), (7, vl l7), (9, vl l9), (11, vl (l11 ||| (zls (1 : Int64) l15))), (13, vl l13), (15, vi l15)] 117 [vi (((635640 : Int32) + (l15 * ((gi M 97 8) + (1 : Int32)))) + l5)] Q
      refine sX8_readKey_117 (d := (d + 1)) M l5 l6 l7 l9 (l11 ||| (zls (1 : Int64) l15)) l13 l15 (((635640 : Int32) + (l15 * ((gi M 97 8) + (1 : Int32)))) + l5) ?_
      exact k
    · show Zm E YX8_readKey ((d + 1) + 1) M [(0, vr (some (97, 1, 0))), (5, vi l5), (6, vi l6), (7, vl l7), (9, vl l9), (11, vl l11), (13, vl l13), (15, vi l15)] 66 [vi (0 : Int32)] Q
      refine sX8_readKey_66 (d := (d + 1)) M l5 l6 l7 l9 l11 l13 l15 (0 : Int32) ?_
      refine zpos (show (0 : Int32) = 0 from by decide) ?_
      exact k
theorem iX8_readKey_127 {E : zE} {d : Nat} {Q : zO → zM → Prop} (M : zM) (l5 : Int32) (l6 : Int32) (l7 : Int64) (l9 : Int64) (l11 : Int64) (l13 : Int64) (l15 : Int32) (l16 : Int32) (s0 : Int32) (k : vp_in l16 647800 ∧ (if ((((gl M 165 (l16).toNatClampNeg) &&& (1023 : Int64))).toInt32 &&& (512 : Int32)) = 0 then (Zm E YX8_readKey ((d + 1) + 1) M [(0, vr (some (97, 1, 0))), (5, vi l5), (6, vi l6), (7, vl l7), (9, vl l9), (11, vl l11), (13, vl l13)] 12 [] Q) else (vp_in ((15000 : Int32) + l15) 15128 ∧ (if (gi M 97 145) = 0 then (if (gi M 179 (((15000 : Int32) + l15)).toNatClampNeg) = 0 then (Zm E YX8_readKey ((d + 1) + 1) (si M 97 145 (0 : Int32)) [(0, vr (some (97, 1, 0))), (5, vi l5), (6, vi l6), (7, vl (l7 ||| (gl M 180 (((15000 : Int32) + l15)).toNatClampNeg))), (9, vl (l9 ||| (gl M 181 (((15000 : Int32) + l15)).toNatClampNeg))), (11, vl l11), (13, vl l13)] 12 [] Q) else (Zm E YX8_readKey ((d + 1) + 1) (si M 97 145 (1 : Int32)) [(0, vr (some (97, 1, 0))), (5, vi l5), (6, vi l6), (7, vl (l7 ||| (gl M 180 (((15000 : Int32) + l15)).toNatClampNeg))), (9, vl (l9 ||| (gl M 181 (((15000 : Int32) + l15)).toNatClampNeg))), (11, vl l11), (13, vl l13)] 12 [] Q)) else (Zm E YX8_readKey ((d + 1) + 1) (si M 97 145 (1 : Int32)) [(0, vr (some (97, 1, 0))), (5, vi l5), (6, vi l6), (7, vl (l7 ||| (gl M 180 (((15000 : Int32) + l15)).toNatClampNeg))), (9, vl (l9 ||| (gl M 181 (((15000 : Int32) + l15)).toNatClampNeg))), (11, vl l11), (13, vl l13)] 12 [] Q))))) : Zm E YX8_readKey (d + 2) M [(0, vr (some (97, 1, 0))), (5, vi l5), (6, vi l6), (7, vl l7), (9, vl l9), (11, vl l11), (13, vl l13), (15, vi l15), (16, vi l16)] 127 [vi s0] Q := by
  refine sX8_readKey_127 (d := (d + 1)) M l5 l6 l7 l9 l11 l13 l15 l16 s0 ?_
  refine sX8_has_0 (d := (d + 1)) M l16 ?_
  refine zand k (fun h9771 k => ?_)
  show Zm E YX8_readKey ((d + 1) + 1) M [(0, vr (some (97, 1, 0))), (5, vi l5), (6, vi l6), (7, vl l7), (9, vl l9), (11, vl l11), (13, vl l13), (15, vi l15)] 135 [vi (((gl M 165 (l16).toNatClampNeg) &&& (1023 : Int64))).toInt32] Q
  refine sX8_readKey_135 (d := (d + 1)) M l5 l6 l7 l9 l11 l13 l15 ((((gl M 165 (l16).toNatClampNeg) &&& (1023 : Int64))).toInt32) ?_
  refine zite k (fun h9772 k => ?_) (fun h9772 k => ?_)
  · exact k
  · refine jX8_of (d := d) M (639 : Int32) l15 ?_
    refine zpos (show (639 : Int32) = (639 : Int32) from by decide) ?_
    show Zm E YX8_readKey ((d + 1) + 1) M [(0, vr (some (97, 1, 0))), (5, vi l5), (6, vi l6), (7, vl l7), (9, vl l9), (11, vl l11), (13, vl l13)] 154 [vi ((15000 : Int32) + l15)] Q
    refine sX8_readKey_154 (d := (d + 1)) M l5 l6 l7 l9 l11 l13 ((15000 : Int32) + l15) ?_
    refine zand k (fun h9773 k => ?_)
    refine ⟨h9773, ?_⟩
    refine zite k (fun h9774 k => ?_) (fun h9774 k => ?_)
    · refine ⟨h9773, ?_⟩
      exact k
    · exact k
theorem iX8_renameIn_0 {E : zE} {d : Nat} {Q : zO → zM → Prop} (M : zM) (l1 : Int32) (l2 : Int32) (k : vp_in l1 647800 ∧ (if (64 : Int32) ≤ l2 then (if (lg_cmp ((zlr (gl M 167 (l1).toNatClampNeg) (l2 - (64 : Int32))) &&& (1 : Int64)) (1 : Int64)) = 0 then (if (64 : Int32) ≤ (l2 + (1 : Int32)) then (Q (.inl none) (sl (sl M 167 (l1).toNatClampNeg ((gl M 167 (l1).toNatClampNeg) &&& ((zls (1 : Int64) (l2 - (64 : Int32))) ^^^ (-1 : Int64)))) 167 (l1).toNatClampNeg ((gl (sl M 167 (l1).toNatClampNeg ((gl M 167 (l1).toNatClampNeg) &&& ((zls (1 : Int64) (l2 - (64 : Int32))) ^^^ (-1 : Int64)))) 167 (l1).toNatClampNeg) ||| (zls (1 : Int64) ((l2 + (1 : Int32)) - (64 : Int32)))))) else (Q (.inl none) (sl (sl M 167 (l1).toNatClampNeg ((gl M 167 (l1).toNatClampNeg) &&& ((zls (1 : Int64) (l2 - (64 : Int32))) ^^^ (-1 : Int64)))) 166 (l1).toNatClampNeg ((gl M 166 (l1).toNatClampNeg) ||| (zls (1 : Int64) (l2 + (1 : Int32))))))) else (Q (.inl none) M)) else (if (lg_cmp ((zlr (gl M 166 (l1).toNatClampNeg) l2) &&& (1 : Int64)) (1 : Int64)) = 0 then (if (64 : Int32) ≤ (l2 + (1 : Int32)) then (Q (.inl none) (sl (sl M 166 (l1).toNatClampNeg ((gl M 166 (l1).toNatClampNeg) &&& ((zls (1 : Int64) l2) ^^^ (-1 : Int64)))) 167 (l1).toNatClampNeg ((gl M 167 (l1).toNatClampNeg) ||| (zls (1 : Int64) ((l2 + (1 : Int32)) - (64 : Int32)))))) else (Q (.inl none) (sl (sl M 166 (l1).toNatClampNeg ((gl M 166 (l1).toNatClampNeg) &&& ((zls (1 : Int64) l2) ^^^ (-1 : Int64)))) 166 (l1).toNatClampNeg ((gl (sl M 166 (l1).toNatClampNeg ((gl M 166 (l1).toNatClampNeg) &&& ((zls (1 : Int64) l2) ^^^ (-1 : Int64)))) 166 (l1).toNatClampNeg) ||| (zls (1 : Int64) (l2 + (1 : Int32))))))) else (Q (.inl none) M)))) : Zm E YX8_renameIn (d + 1) M [(0, vr (some (97, 1, 0))), (1, vi l1), (2, vi l2)] 0 [] Q := by
  refine sX8_renameIn_0 (d := d) M l1 l2 ?_
  refine zand k (fun h9776 k => ?_)
  refine ⟨h9776, ?_⟩
  refine jX8_isIn (d := d) M (gl M 166 (l1).toNatClampNeg) (gl M 167 (l1).toNatClampNeg) l2 ?_
  refine zite k (fun h9777 k => ?_) (fun h9777 k => ?_)
  · refine zite k (fun h9778 k => ?_) (fun h9778 k => ?_)
    · show Zm E YX8_renameIn (d + 1) M [(0, vr (some (97, 1, 0))), (1, vi l1), (2, vi l2)] 16 [vi (1 : Int32)] Q
      refine sX8_renameIn_16 (d := d) M l1 l2 (1 : Int32) ?_
      refine zneg (show ¬ ((1 : Int32) = 0) from by decide) ?_
      refine zpos h9777 ?_
      refine ⟨h9776, ?_⟩
      refine ⟨h9776, ?_⟩
      refine jX8_addLabel (d := d) (sl M 167 (l1).toNatClampNeg ((gl M 167 (l1).toNatClampNeg) &&& ((zls (1 : Int64) (l2 - (64 : Int32))) ^^^ (-1 : Int64)))) l1 (l2 + (1 : Int32)) ?_
      refine zite k (fun h9779 k => ?_) (fun h9779 k => ?_)
      · refine ⟨h9776, ?_⟩
        show Zm E YX8_renameIn (d + 1) (sl (sl M 167 (l1).toNatClampNeg ((gl M 167 (l1).toNatClampNeg) &&& ((zls (1 : Int64) (l2 - (64 : Int32))) ^^^ (-1 : Int64)))) 167 (l1).toNatClampNeg ((gl (sl M 167 (l1).toNatClampNeg ((gl M 167 (l1).toNatClampNeg) &&& ((zls (1 : Int64) (l2 - (64 : Int32))) ^^^ (-1 : Int64)))) 167 (l1).toNatClampNeg) ||| (zls (1 : Int64) ((l2 + (1 : Int32)) - (64 : Int32))))) [] 80 [] Q
        refine sX8_renameIn_80 (d := d) (sl (sl M 167 (l1).toNatClampNeg ((gl M 167 (l1).toNatClampNeg) &&& ((zls (1 : Int64) (l2 - (64 : Int32))) ^^^ (-1 : Int64)))) 167 (l1).toNatClampNeg ((gl (sl M 167 (l1).toNatClampNeg ((gl M 167 (l1).toNatClampNeg) &&& ((zls (1 : Int64) (l2 - (64 : Int32))) ^^^ (-1 : Int64)))) 167 (l1).toNatClampNeg) ||| (zls (1 : Int64) ((l2 + (1 : Int32)) - (64 : Int32)))))  ?_
        exact k
      · refine ⟨h9776, ?_⟩
        show Zm E YX8_renameIn (d + 1) (sl (sl M 167 (l1).toNatClampNeg ((gl M 167 (l1).toNatClampNeg) &&& ((zls (1 : Int64) (l2 - (64 : Int32))) ^^^ (-1 : Int64)))) 166 (l1).toNatClampNeg ((gl M 166 (l1).toNatClampNeg) ||| (zls (1 : Int64) (l2 + (1 : Int32))))) [] 80 [] Q
        refine sX8_renameIn_80 (d := d) (sl (sl M 167 (l1).toNatClampNeg ((gl M 167 (l1).toNatClampNeg) &&& ((zls (1 : Int64) (l2 - (64 : Int32))) ^^^ (-1 : Int64)))) 166 (l1).toNatClampNeg ((gl M 166 (l1).toNatClampNeg) ||| (zls (1 : Int64) (l2 + (1 : Int32)))))  ?_
        exact k
    · show Zm E YX8_renameIn (d + 1) M [(0, vr (some (97, 1, 0))), (1, vi l1), (2, vi l2)] 16 [vi (0 : Int32)] Q
      refine sX8_renameIn_16 (d := d) M l1 l2 (0 : Int32) ?_
      refine zpos (show (0 : Int32) = 0 from by decide) ?_
      exact k
  · refine zite k (fun h9780 k => ?_) (fun h9780 k => ?_)
    · show Zm E YX8_renameIn (d + 1) M [(0, vr (some (97, 1, 0))), (1, vi l1), (2, vi l2)] 16 [vi (1 : Int32)] Q
      refine sX8_renameIn_16 (d := d) M l1 l2 (1 : Int32) ?_
      refine zneg (show ¬ ((1 : Int32) = 0) from by decide) ?_
      refine zneg h9777 ?_
      refine ⟨h9776, ?_⟩
      refine ⟨h9776, ?_⟩
      refine jX8_addLabel (d := d) (sl M 166 (l1).toNatClampNeg ((gl M 166 (l1).toNatClampNeg) &&& ((zls (1 : Int64) l2) ^^^ (-1 : Int64)))) l1 (l2 + (1 : Int32)) ?_
      refine zite k (fun h9781 k => ?_) (fun h9781 k => ?_)
      · refine ⟨h9776, ?_⟩
        show Zm E YX8_renameIn (d + 1) (sl (sl M 166 (l1).toNatClampNeg ((gl M 166 (l1).toNatClampNeg) &&& ((zls (1 : Int64) l2) ^^^ (-1 : Int64)))) 167 (l1).toNatClampNeg ((gl M 167 (l1).toNatClampNeg) ||| (zls (1 : Int64) ((l2 + (1 : Int32)) - (64 : Int32))))) [] 80 [] Q
        refine sX8_renameIn_80 (d := d) (sl (sl M 166 (l1).toNatClampNeg ((gl M 166 (l1).toNatClampNeg) &&& ((zls (1 : Int64) l2) ^^^ (-1 : Int64)))) 167 (l1).toNatClampNeg ((gl M 167 (l1).toNatClampNeg) ||| (zls (1 : Int64) ((l2 + (1 : Int32)) - (64 : Int32)))))  ?_
        exact k
      · refine ⟨h9776, ?_⟩
        show Zm E YX8_renameIn (d + 1) (sl (sl M 166 (l1).toNatClampNeg ((gl M 166 (l1).toNatClampNeg) &&& ((zls (1 : Int64) l2) ^^^ (-1 : Int64)))) 166 (l1).toNatClampNeg ((gl (sl M 166 (l1).toNatClampNeg ((gl M 166 (l1).toNatClampNeg) &&& ((zls (1 : Int64) l2) ^^^ (-1 : Int64)))) 166 (l1).toNatClampNeg) ||| (zls (1 : Int64) (l2 + (1 : Int32))))) [] 80 [] Q
        refine sX8_renameIn_80 (d := d) (sl (sl M 166 (l1).toNatClampNeg ((gl M 166 (l1).toNatClampNeg) &&& ((zls (1 : Int64) l2) ^^^ (-1 : Int64)))) 166 (l1).toNatClampNeg ((gl (sl M 166 (l1).toNatClampNeg ((gl M 166 (l1).toNatClampNeg) &&& ((zls (1 : Int64) l2) ^^^ (-1 : Int64)))) 166 (l1).toNatClampNeg) ||| (zls (1 : Int64) (l2 + (1 : Int32)))))  ?_
        exact k
    · show Zm E YX8_renameIn (d + 1) M [(0, vr (some (97, 1, 0))), (1, vi l1), (2, vi l2)] 16 [vi (0 : Int32)] Q
      refine sX8_renameIn_16 (d := d) M l1 l2 (0 : Int32) ?_
      refine zpos (show (0 : Int32) = 0 from by decide) ?_
      exact k
theorem iX8_rowWays_0 {E : zE} {d : Nat} {Q : zO → zM → Prop} (M : zM) (l1 : Int32) (l2 : Int32) (l3 : Int32) (l4 : Int32) (k : vp_in l2 647800 ∧ (if ((((gl M 165 (l2).toNatClampNeg) &&& (1023 : Int64))).toInt32 &&& (-513 : Int32)) = 0 then (Zm E YX8_rowWays ((d + 1) + 1) M [(0, vr (some (97, 1, 0))), (1, vi l1), (2, vi l2), (3, vi l3), (4, vi l4), (5, vi (0 : Int32)), (6, vi (0 : Int32))] 18 [] Q) else (Zm E YX8_rowWays ((d + 1) + 1) M [(0, vr (some (97, 1, 0))), (1, vi l1), (2, vi l2), (3, vi l3), (4, vi l4), (5, vi (1 : Int32)), (6, vi (0 : Int32))] 18 [] Q))) : Zm E YX8_rowWays (d + 2) M [(0, vr (some (97, 1, 0))), (1, vi l1), (2, vi l2), (3, vi l3), (4, vi l4)] 0 [] Q := by
  refine sX8_rowWays_0 (d := (d + 1)) M l1 l2 l3 l4 ?_
  refine jX8_plainly (d := d) M l2 ?_
  refine zand k (fun h9782 k => ?_)
  show Zm E YX8_rowWays ((d + 1) + 1) M [(0, vr (some (97, 1, 0))), (1, vi l1), (2, vi l2), (3, vi l3), (4, vi l4)] 5 [vi ((((gl M 165 (l2).toNatClampNeg) &&& (1023 : Int64))).toInt32 &&& (-513 : Int32))] Q
  refine sX8_rowWays_5 (d := (d + 1)) M l1 l2 l3 l4 ((((gl M 165 (l2).toNatClampNeg) &&& (1023 : Int64))).toInt32 &&& (-513 : Int32)) ?_
  exact k
theorem iX8_rowWays_18 {E : zE} {d : Nat} {Q : zO → zM → Prop} (M : zM) (l1 : Int32) (l2 : Int32) (l3 : Int32) (l4 : Int32) (l5 : Int32) (l6 : Int32) (k : if (gi M 97 71) ≤ l6 then ((narrow .boolean (.int l5) = .int l5) ∧ (Q (.inl (some (vi l5))) M)) else (vp_in l2 647800 ∧ (Zm E YX8_isIn d M (zargs 0 [vl (gl M 166 (l2).toNatClampNeg), vl (gl M 167 (l2).toNatClampNeg), vi l6]) 0 [] (zma E YX8_rowWays (d + 1) [(0, vr (some (97, 1, 0))), (1, vi l1), (2, vi l2), (3, vi l3), (4, vi l4), (5, vi l5), (6, vi l6)] 41 3 [] Q)))) : Zm E YX8_rowWays (d + 1) M [(0, vr (some (97, 1, 0))), (1, vi l1), (2, vi l2), (3, vi l3), (4, vi l4), (5, vi l5), (6, vi l6)] 18 [] Q := by
  refine sX8_rowWays_18 (d := d) M l1 l2 l3 l4 l5 l6 ?_
  refine zite k (fun h9802 k => ?_) (fun h9802 k => ?_)
  · exact k
  · refine zand k (fun h9804 k => ?_)
    refine ⟨h9804, ?_⟩
    exact k
theorem iX8_rowWays_44 {E : zE} {d : Nat} {Q : zO → zM → Prop} (M : zM) (l1 : Int32) (l2 : Int32) (l3 : Int32) (l4 : Int32) (l5 : Int32) (l6 : Int32) (s0 : Int32) (k : if s0 = 0 then (Zm E YX8_rowWays (d + 1) M [(0, vr (some (97, 1, 0))), (1, vi l1), (2, vi l2), (3, vi l3), (4, vi l4), (5, vi l5), (6, vi (l6 + (1 : Int32)))] 18 [] Q) else (if l6 = (24 : Int32) then (if l1 = (18 : Int32) then (Zm E YX8_addSort d M (zargs 0 [vr (some (97, 1, 0)), vi l4, vi (64 : Int32)]) 0 [] (zma E YX8_rowWays (d + 1) [(0, vr (some (97, 1, 0))), (1, vi l1), (2, vi l2), (3, vi l3), (4, vi l4), (5, vi l5), (6, vi l6)] 80 3 [] Q)) else (Zm E YX8_addSort d M (zargs 0 [vr (some (97, 1, 0)), vi l4, vi (1 : Int32)]) 0 [] (zma E YX8_rowWays (d + 1) [(0, vr (some (97, 1, 0))), (1, vi l1), (2, vi l2), (3, vi l3), (4, vi l4), (5, vi l5), (6, vi l6)] 80 3 [] Q))) else (if l6 < ((29 : Int32) + ((6 : Int32) * ((gi M 97 32) - (1 : Int32)))) then (Zm E YX8_rowWays (d + 1) M [(0, vr (some (97, 1, 0))), (1, vi l1), (2, vi l2), (3, vi l3), (4, vi l4), (5, vi (1 : Int32)), (6, vi (l6 + (1 : Int32)))] 18 [] Q) else (vp_in (((l6 - (29 : Int32)) - ((6 : Int32) * ((gi M 97 32) - (1 : Int32)))) / (2 : Int32)) 20 ∧ (if (gi M 187 ((((l6 - (29 : Int32)) - ((6 : Int32) * ((gi M 97 32) - (1 : Int32)))) / (2 : Int32))).toNatClampNeg) = 0 then (Zm E YX8_rowWays (d + 1) M [(0, vr (some (97, 1, 0))), (1, vi l1), (2, vi l2), (3, vi l3), (4, vi l4), (5, vi (1 : Int32)), (6, vi (l6 + (1 : Int32)))] 18 [] Q) else (if l1 = (18 : Int32) then (Zm E YX8_addSort d M (zargs 0 [vr (some (97, 1, 0)), vi l4, vi (64 : Int32)]) 0 [] (zma E YX8_rowWays (d + 1) [(0, vr (some (97, 1, 0))), (1, vi l1), (2, vi l2), (3, vi l3), (4, vi l4), (5, vi l5), (6, vi l6)] 80 3 [] Q)) else (Zm E YX8_addSort d M (zargs 0 [vr (some (97, 1, 0)), vi l4, vi (1 : Int32)]) 0 [] (zma E YX8_rowWays (d + 1) [(0, vr (some (97, 1, 0))), (1, vi l1), (2, vi l2), (3, vi l3), (4, vi l4), (5, vi l5), (6, vi l6)] 80 3 [] Q)))))))) : Zm E YX8_rowWays (d + 1) M [(0, vr (some (97, 1, 0))), (1, vi l1), (2, vi l2), (3, vi l3), (4, vi l4), (5, vi l5), (6, vi l6)] 44 [vi s0] Q := by
  refine sX8_rowWays_44 (d := d) M l1 l2 l3 l4 l5 l6 s0 ?_
  refine zite k (fun h9805 k => ?_) (fun h9805 k => ?_)
  · refine sX8_rowWays_223 (d := d) M l1 l2 l3 l4 l5 l6 ?_
    exact k
  · refine sX8_isArrayLabel_0 (d := d) M l6 ?_
    refine zite k (fun h9806 k => ?_) (fun h9806 k => ?_)
    · show Zm E YX8_rowWays (d + 1) M [(0, vr (some (97, 1, 0))), (1, vi l1), (2, vi l2), (3, vi l3), (4, vi l4), (5, vi l5), (6, vi l6)] 56 [vi (1 : Int32)] Q
      refine sX8_rowWays_56 (d := d) M l1 l2 l3 l4 l5 l6 (1 : Int32) ?_
      refine zneg (show ¬ ((1 : Int32) = 0) from by decide) ?_
      exact k
    · refine zite k (fun h9808 k => ?_) (fun h9808 k => ?_)
      · show Zm E YX8_rowWays (d + 1) M [(0, vr (some (97, 1, 0))), (1, vi l1), (2, vi l2), (3, vi l3), (4, vi l4), (5, vi l5), (6, vi l6)] 56 [vi (0 : Int32)] Q
        refine sX8_rowWays_56 (d := d) M l1 l2 l3 l4 l5 l6 (0 : Int32) ?_
        refine zpos (show (0 : Int32) = 0 from by decide) ?_
        refine sX8_rowWays_223 (d := d) M l1 l2 l3 l4 (1 : Int32) l6 ?_
        exact k
      · refine zand k (fun h9809 k => ?_)
        refine zite k (fun h9810 k => ?_) (fun h9810 k => ?_)
        · show Zm E YX8_rowWays (d + 1) M [(0, vr (some (97, 1, 0))), (1, vi l1), (2, vi l2), (3, vi l3), (4, vi l4), (5, vi l5), (6, vi l6)] 56 [vi (0 : Int32)] Q
          refine sX8_rowWays_56 (d := d) M l1 l2 l3 l4 l5 l6 (0 : Int32) ?_
          refine zpos (show (0 : Int32) = 0 from by decide) ?_
          refine sX8_rowWays_223 (d := d) M l1 l2 l3 l4 (1 : Int32) l6 ?_
          exact k
        · show Zm E YX8_rowWays (d + 1) M [(0, vr (some (97, 1, 0))), (1, vi l1), (2, vi l2), (3, vi l3), (4, vi l4), (5, vi l5), (6, vi l6)] 56 [vi (1 : Int32)] Q
          refine sX8_rowWays_56 (d := d) M l1 l2 l3 l4 l5 l6 (1 : Int32) ?_
          refine zneg (show ¬ ((1 : Int32) = 0) from by decide) ?_
          exact k
theorem iX8_rowWays_83 {E : zE} {d : Nat} {Q : zO → zM → Prop} (M : zM) (l1 : Int32) (l2 : Int32) (l3 : Int32) (l4 : Int32) (l5 : Int32) (l6 : Int32) (k : vp_in ((15000 : Int32) + l6) 15128 ∧ (if (gi M 178 (((15000 : Int32) + l6)).toNatClampNeg) = 0 then (Zm E YX8_rowWays ((d + 1) + 1) M [(0, vr (some (97, 1, 0))), (1, vi l1), (2, vi l2), (3, vi l3), (4, vi l4), (5, vi l5), (6, vi (l6 + (1 : Int32)))] 18 [] Q) else (Zm E YX8_rowWays ((d + 1) + 1) M [(0, vr (some (97, 1, 0))), (1, vi l1), (2, vi l2), (3, vi l3), (4, vi l4), (5, vi l5), (6, vi l6), (7, vi (0 : Int32))] 106 [] Q))) : Zm E YX8_rowWays (d + 2) M [(0, vr (some (97, 1, 0))), (1, vi l1), (2, vi l2), (3, vi l3), (4, vi l4), (5, vi l5), (6, vi l6)] 83 [] Q := by
  refine sX8_rowWays_83 (d := (d + 1)) M l1 l2 l3 l4 l5 l6 ?_
  refine jX8_of (d := d) M (639 : Int32) l6 ?_
  refine zpos (show (639 : Int32) = (639 : Int32) from by decide) ?_
  show Zm E YX8_rowWays ((d + 1) + 1) M [(0, vr (some (97, 1, 0))), (1, vi l1), (2, vi l2), (3, vi l3), (4, vi l4), (5, vi l5), (6, vi l6)] 96 [vi ((15000 : Int32) + l6), vr (some (178, 104, 15128))] Q
  refine sX8_rowWays_96 (d := (d + 1)) M l1 l2 l3 l4 l5 l6 ((15000 : Int32) + l6) ?_
  refine zand k (fun h9812 k => ?_)
  refine zite k (fun h9813 k => ?_) (fun h9813 k => ?_)
  · refine sX8_rowWays_223 (d := (d + 1)) M l1 l2 l3 l4 l5 l6 ?_
    exact k
  · exact k
theorem iX8_rowWays_106 {E : zE} {d : Nat} {Q : zO → zM → Prop} (M : zM) (l1 : Int32) (l2 : Int32) (l3 : Int32) (l4 : Int32) (l5 : Int32) (l6 : Int32) (l7 : Int32) (k : if (gi M 97 8) < l7 then (Zm E YX8_addSort (d + 1) M (zargs 0 [vr (some (97, 1, 0)), vi (((635640 : Int32) + (l6 * ((gi M 97 8) + (1 : Int32)))) + (0 : Int32)), vi (64 : Int32)]) 0 [] (zma E YX8_rowWays ((d + 1) + 1) [(0, vr (some (97, 1, 0))), (1, vi l1), (2, vi l2), (3, vi l3), (4, vi l4), (5, vi l5), (6, vi l6)] 220 3 [] Q)) else (if (gi M 97 8) ≤ l7 then (if l1 = (18 : Int32) then (Zm E YX8_join (d + 1) M (zargs 0 [vr (some (97, 1, 0)), vi l3, vi (((635640 : Int32) + (l6 * ((gi M 97 8) + (1 : Int32)))) + l7)]) 0 [] (zma E YX8_rowWays ((d + 1) + 1) [(0, vr (some (97, 1, 0))), (1, vi l1), (2, vi l2), (3, vi l3), (4, vi l4), (5, vi l5), (6, vi l6), (7, vi l7)] 176 3 [] Q)) else (Zm E YX8_joinPlain (d + 1) M (zargs 0 [vr (some (97, 1, 0)), vi (((635640 : Int32) + (l6 * ((gi M 97 8) + (1 : Int32)))) + l7), vi l4]) 0 [] (zma E YX8_rowWays ((d + 1) + 1) [(0, vr (some (97, 1, 0))), (1, vi l1), (2, vi l2), (3, vi l3), (4, vi l4), (5, vi l5), (6, vi l6), (7, vi l7), (8, vi (((635640 : Int32) + (l6 * ((gi M 97 8) + (1 : Int32)))) + l7))] 189 3 [] Q))) else (vp_in l7 90 ∧ (if (gi M 185 (l7).toNatClampNeg) = 0 then (if l1 = (18 : Int32) then (if (gi M 186 (l7).toNatClampNeg) = 0 then (Zm E YX8_rowWays ((d + 1) + 1) M [(0, vr (some (97, 1, 0))), (1, vi l1), (2, vi l2), (3, vi l3), (4, vi l4), (5, vi l5), (6, vi l6), (7, vi (l7 + (1 : Int32)))] 106 [] Q) else (Zm E YX8_join (d + 1) M (zargs 0 [vr (some (97, 1, 0)), vi l3, vi (((635640 : Int32) + (l6 * ((gi M 97 8) + (1 : Int32)))) + l7)]) 0 [] (zma E YX8_rowWays ((d + 1) + 1) [(0, vr (some (97, 1, 0))), (1, vi l1), (2, vi l2), (3, vi l3), (4, vi l4), (5, vi l5), (6, vi l6), (7, vi l7)] 176 3 [] Q))) else (Zm E YX8_rowWays ((d + 1) + 1) M [(0, vr (some (97, 1, 0))), (1, vi l1), (2, vi l2), (3, vi l3), (4, vi l4), (5, vi l5), (6, vi l6), (7, vi (l7 + (1 : Int32)))] 106 [] Q)) else (if l1 = (18 : Int32) then (Zm E YX8_join (d + 1) M (zargs 0 [vr (some (97, 1, 0)), vi l3, vi (((635640 : Int32) + (l6 * ((gi M 97 8) + (1 : Int32)))) + l7)]) 0 [] (zma E YX8_rowWays ((d + 1) + 1) [(0, vr (some (97, 1, 0))), (1, vi l1), (2, vi l2), (3, vi l3), (4, vi l4), (5, vi l5), (6, vi l6), (7, vi l7)] 176 3 [] Q)) else (Zm E YX8_joinPlain (d + 1) M (zargs 0 [vr (some (97, 1, 0)), vi (((635640 : Int32) + (l6 * ((gi M 97 8) + (1 : Int32)))) + l7), vi l4]) 0 [] (zma E YX8_rowWays ((d + 1) + 1) [(0, vr (some (97, 1, 0))), (1, vi l1), (2, vi l2), (3, vi l3), (4, vi l4), (5, vi l5), (6, vi l6), (7, vi l7), (8, vi (((635640 : Int32) + (l6 * ((gi M 97 8) + (1 : Int32)))) + l7))] 189 3 [] Q))))))) : Zm E YX8_rowWays (d + 2) M [(0, vr (some (97, 1, 0))), (1, vi l1), (2, vi l2), (3, vi l3), (4, vi l4), (5, vi l5), (6, vi l6), (7, vi l7)] 106 [] Q := by
  refine sX8_rowWays_106 (d := (d + 1)) M l1 l2 l3 l4 l5 l6 l7 ?_
  refine zite k (fun h9815 k => ?_) (fun h9815 k => ?_)
  · refine jX8_field (d := d) M (639 : Int32) l6 (0 : Int32) ?_
    refine zpos (show (639 : Int32) = (639 : Int32) from by decide) ?_
    show Zm E YX8_rowWays ((d + 1) + 1) M [(0, vr (some (97, 1, 0))), (1, vi l1), (2, vi l2), (3, vi l3), (4, vi l4), (5, vi l5), (6, vi l6)] 218 [vi (((635640 : Int32) + (l6 * ((gi M 97 8) + (1 : Int32)))) + (0 : Int32)), vr (some (97, 1, 0))] Q
    refine sX8_rowWays_218 (d := (d + 1)) M l1 l2 l3 l4 l5 l6 (((635640 : Int32) + (l6 * ((gi M 97 8) + (1 : Int32)))) + (0 : Int32)) ?_
    exact k
  · refine zite k (fun h9816 k => ?_) (fun h9816 k => ?_)
    · refine jX8_field (d := d) M (639 : Int32) l6 l7 ?_
      refine zpos (show (639 : Int32) = (639 : Int32) from by decide) ?_
      show Zm E YX8_rowWays ((d + 1) + 1) M [(0, vr (some (97, 1, 0))), (1, vi l1), (2, vi l2), (3, vi l3), (4, vi l4), (5, vi l5), (6, vi l6), (7, vi l7)] 164 [vi (((635640 : Int32) + (l6 * ((gi M 97 8) + (1 : Int32)))) + l7)] Q
      refine sX8_rowWays_164 (d := (d + 1)) M l1 l2 l3 l4 l5 l6 l7 (((635640 : Int32) + (l6 * ((gi M 97 8) + (1 : Int32)))) + l7) ?_
      exact k
    · refine zand k (fun h9818 k => ?_)
      refine zite k (fun h9819 k => ?_) (fun h9819 k => ?_)
      · refine zite k (fun h9820 k => ?_) (fun h9820 k => ?_)
        · refine ⟨h9818, ?_⟩
          refine zite k (fun h9821 k => ?_) (fun h9821 k => ?_)
          · refine sX8_rowWays_201 (d := (d + 1)) M l1 l2 l3 l4 l5 l6 l7 ?_
            exact k
          · refine jX8_field (d := d) M (639 : Int32) l6 l7 ?_
            refine zpos (show (639 : Int32) = (639 : Int32) from by decide) ?_
            show Zm E YX8_rowWays ((d + 1) + 1) M [(0, vr (some (97, 1, 0))), (1, vi l1), (2, vi l2), (3, vi l3), (4, vi l4), (5, vi l5), (6, vi l6), (7, vi l7)] 164 [vi (((635640 : Int32) + (l6 * ((gi M 97 8) + (1 : Int32)))) + l7)] Q
            refine sX8_rowWays_164 (d := (d + 1)) M l1 l2 l3 l4 l5 l6 l7 (((635640 : Int32) + (l6 * ((gi M 97 8) + (1 : Int32)))) + l7) ?_
            refine zpos h9820 ?_
            exact k
        · refine sX8_rowWays_201 (d := (d + 1)) M l1 l2 l3 l4 l5 l6 l7 ?_
          exact k
      · refine jX8_field (d := d) M (639 : Int32) l6 l7 ?_
        refine zpos (show (639 : Int32) = (639 : Int32) from by decide) ?_
        show Zm E YX8_rowWays ((d + 1) + 1) M [(0, vr (some (97, 1, 0))), (1, vi l1), (2, vi l2), (3, vi l3), (4, vi l4), (5, vi l5), (6, vi l6), (7, vi l7)] 164 [vi (((635640 : Int32) + (l6 * ((gi M 97 8) + (1 : Int32)))) + l7)] Q
        refine sX8_rowWays_164 (d := (d + 1)) M l1 l2 l3 l4 l5 l6 l7 (((635640 : Int32) + (l6 * ((gi M 97 8) + (1 : Int32)))) + l7) ?_
        exact k
theorem iX8_rowWays_179 {E : zE} {d : Nat} {Q : zO → zM → Prop} (M : zM) (l1 : Int32) (l2 : Int32) (l3 : Int32) (l4 : Int32) (l5 : Int32) (l6 : Int32) (l7 : Int32) (s0 : Int32) (k : Zm E YX8_rowWays (d + 1) M [(0, vr (some (97, 1, 0))), (1, vi l1), (2, vi l2), (3, vi l3), (4, vi l4), (5, vi l5), (6, vi l6), (7, vi (l7 + (1 : Int32)))] 106 [] Q) : Zm E YX8_rowWays (d + 1) M [(0, vr (some (97, 1, 0))), (1, vi l1), (2, vi l2), (3, vi l3), (4, vi l4), (5, vi l5), (6, vi l6), (7, vi l7)] 179 [vi s0] Q := by
  refine sX8_rowWays_179 (d := d) M l1 l2 l3 l4 l5 l6 l7 s0 ?_
  refine sX8_rowWays_201 (d := d) M l1 l2 l3 l4 l5 l6 l7 ?_
  exact k
theorem iX8_sortOfAlone_0 {E : zE} {d : Nat} {Q : zO → zM → Prop} (M : zM) (l1 : Int32) (k : vp_in l1 647800 ∧ (if ((((gl M 165 (l1).toNatClampNeg) &&& (1023 : Int64))).toInt32 &&& (-513 : Int32)) = (32 : Int32) then (Q (.inl (some (vi (5 : Int32)))) M) else (if ((((gl M 165 (l1).toNatClampNeg) &&& (1023 : Int64))).toInt32 &&& (-513 : Int32)) = (128 : Int32) then (Q (.inl (some (vi (6 : Int32)))) M) else (if ((((gl M 165 (l1).toNatClampNeg) &&& (1023 : Int64))).toInt32 &&& (-513 : Int32)) = (1 : Int32) then (Q (.inl (some (vi (0 : Int32)))) M) else (if ((((gl M 165 (l1).toNatClampNeg) &&& (1023 : Int64))).toInt32 &&& (-513 : Int32)) = (2 : Int32) then (Q (.inl (some (vi (1 : Int32)))) M) else (if ((((gl M 165 (l1).toNatClampNeg) &&& (1023 : Int64))).toInt32 &&& (-513 : Int32)) = (4 : Int32) then (Q (.inl (some (vi (2 : Int32)))) M) else (if ((((gl M 165 (l1).toNatClampNeg) &&& (1023 : Int64))).toInt32 &&& (-513 : Int32)) = (8 : Int32) then (Q (.inl (some (vi (3 : Int32)))) M) else (Q (.inl (some (vi (4 : Int32)))) M)))))))) : Zm E YX8_sortOfAlone (d + 2) M [(0, vr (some (97, 1, 0))), (1, vi l1)] 0 [] Q := by
  refine sX8_sortOfAlone_0 (d := (d + 1)) M l1 ?_
  refine jX8_plainly (d := d) M l1 ?_
  refine zand k (fun h9823 k => ?_)
  show Zm E YX8_sortOfAlone ((d + 1) + 1) M [] 5 [vi ((((gl M 165 (l1).toNatClampNeg) &&& (1023 : Int64))).toInt32 &&& (-513 : Int32))] Q
  refine sX8_sortOfAlone_5 (d := (d + 1)) M ((((gl M 165 (l1).toNatClampNeg) &&& (1023 : Int64))).toInt32 &&& (-513 : Int32)) ?_
  exact k
theorem iX8_unarySet_0 {E : zE} {d : Nat} {Q : zO → zM → Prop} (M : zM) (l1 : Int32) (l2 : Int32) (l3 : Int32) (k : vp_in l3 647800 ∧ (if l1 = (4 : Int32) then (Zm E YX8_typesOf d (sl (sl (sl M 165 (l3).toNatClampNeg (0 : Int64)) 166 (l3).toNatClampNeg (0 : Int64)) 167 (l3).toNatClampNeg (0 : Int64)) (zargs 0 [vr (some (97, 1, 0)), vi l2, vi l3]) 0 [] (zma E YX8_unarySet (d + 1) [] 13 3 [] Q)) else (Zm E YX8_isAlone d (sl (sl (sl M 165 (l3).toNatClampNeg (0 : Int64)) 166 (l3).toNatClampNeg (0 : Int64)) 167 (l3).toNatClampNeg (0 : Int64)) (zargs 0 [vr (some (97, 1, 0)), vi l2]) 0 [] (zma E YX8_unarySet (d + 1) [(0, vr (some (97, 1, 0))), (1, vi l1), (2, vi l2), (3, vi l3)] 21 3 [] Q)))) : Zm E YX8_unarySet (d + 1) M [(0, vr (some (97, 1, 0))), (1, vi l1), (2, vi l2), (3, vi l3)] 0 [] Q := by
  refine sX8_unarySet_0 (d := d) M l1 l2 l3 ?_
  refine jX8_empty (d := d) M l3 ?_
  refine zand k (fun h9830 k => ?_)
  show Zm E YX8_unarySet (d + 1) (sl (sl (sl M 165 (l3).toNatClampNeg (0 : Int64)) 166 (l3).toNatClampNeg (0 : Int64)) 167 (l3).toNatClampNeg (0 : Int64)) [(0, vr (some (97, 1, 0))), (1, vi l1), (2, vi l2), (3, vi l3)] 5 [] Q
  refine sX8_unarySet_5 (d := d) (sl (sl (sl M 165 (l3).toNatClampNeg (0 : Int64)) 166 (l3).toNatClampNeg (0 : Int64)) 167 (l3).toNatClampNeg (0 : Int64)) l1 l2 l3 ?_
  exact k
theorem iX8_unarySet_16 {E : zE} {d : Nat} {Q : zO → zM → Prop} (M : zM)  (k : Q (.inl none) M) : Zm E YX8_unarySet (d + 1) M [] 16 [] Q := by
  refine sX8_unarySet_16 (d := d) M  ?_
  refine sX8_unarySet_112 (d := d) M  ?_
  exact k
theorem iX8_unarySet_88 {E : zE} {d : Nat} {Q : zO → zM → Prop} (M : zM) (l2 : Int32) (l3 : Int32) (s0 : Int32) (k : if s0 = 0 then (Zm E YX8_mayBeTrue d M (zargs 0 [vr (some (97, 1, 0)), vi l2]) 0 [] (zma E YX8_unarySet (d + 1) [(0, vr (some (97, 1, 0))), (3, vi l3)] 99 3 [] Q)) else (Zm E YX8_addSort d M (zargs 0 [vr (some (97, 1, 0)), vi l3, vi (4 : Int32)]) 0 [] (zma E YX8_unarySet (d + 1) [(0, vr (some (97, 1, 0))), (2, vi l2), (3, vi l3)] 94 3 [] Q))) : Zm E YX8_unarySet (d + 1) M [(0, vr (some (97, 1, 0))), (2, vi l2), (3, vi l3)] 88 [vi s0] Q := by
  refine sX8_unarySet_88 (d := d) M l2 l3 s0 ?_
  refine zite k (fun h9843 k => ?_) (fun h9843 k => ?_)
  · refine sX8_unarySet_97 (d := d) M l2 l3 ?_
    exact k
  · exact k
theorem iX8_unarySet_80 {E : zE} {d : Nat} {Q : zO → zM → Prop} (M : zM)  (k : Q (.inl none) M) : Zm E YX8_unarySet (d + 1) M [] 80 [] Q := by
  refine sX8_unarySet_80 (d := d) M  ?_
  refine sX8_unarySet_112 (d := d) M  ?_
  exact k
theorem iX8_unarySet_34 {E : zE} {d : Nat} {Q : zO → zM → Prop} (M : zM) (l2 : Int32) (l3 : Int32) (s0 : Int32) (s1 : Int32) (k : vp_in l2 647800 ∧ (if ((((gl M 165 (l2).toNatClampNeg) &&& (1023 : Int64))).toInt32 &&& (-513 : Int32)) = (32 : Int32) then (Zm E YX8_unaryOf (d + 2) M (zargs 0 [vr (some (97, 1, 0)), vi s1, vi s0, vi ((zlr (gl M 165 (l2).toNatClampNeg) (32 : Int32))).toInt32]) 0 [] (zma E YX8_unarySet ((d + 2) + 1) [(0, vr (some (97, 1, 0))), (3, vi l3)] 39 3 [] Q)) else (if ((((gl M 165 (l2).toNatClampNeg) &&& (1023 : Int64))).toInt32 &&& (-513 : Int32)) = (128 : Int32) then (Zm E YX8_unaryOf (d + 2) M (zargs 0 [vr (some (97, 1, 0)), vi s1, vi s0, vi (((zlr (gl M 165 (l2).toNatClampNeg) (10 : Int32)) &&& (127 : Int64))).toInt32]) 0 [] (zma E YX8_unarySet ((d + 2) + 1) [(0, vr (some (97, 1, 0))), (3, vi l3)] 39 3 [] Q)) else (Zm E YX8_unaryOf (d + 2) M (zargs 0 [vr (some (97, 1, 0)), vi s1, vi s0, vi (0 : Int32)]) 0 [] (zma E YX8_unarySet ((d + 2) + 1) [(0, vr (some (97, 1, 0))), (3, vi l3)] 39 3 [] Q))))) : Zm E YX8_unarySet (d + 3) M [(0, vr (some (97, 1, 0))), (2, vi l2), (3, vi l3)] 34 [vi s0, vi s1, vr (some (97, 1, 0))] Q := by
  refine sX8_unarySet_34 (d := (d + 2)) M l2 l3 s0 s1 ?_
  refine jX8_valueOfAlone (d := d) M l2 ?_
  refine zand k (fun h9856 k => ?_)
  refine zite k (fun h9857 k => ?_) (fun h9857 k => ?_)
  · show Zm E YX8_unarySet ((d + 2) + 1) M [(0, vr (some (97, 1, 0))), (3, vi l3)] 39 [vi ((zlr (gl M 165 (l2).toNatClampNeg) (32 : Int32))).toInt32, vi s0, vi s1, vr (some (97, 1, 0))] Q
    refine sX8_unarySet_39 (d := (d + 2)) M l3 (((zlr (gl M 165 (l2).toNatClampNeg) (32 : Int32))).toInt32) s0 s1 ?_
    exact k
  · refine zite k (fun h9858 k => ?_) (fun h9858 k => ?_)
    · show Zm E YX8_unarySet ((d + 2) + 1) M [(0, vr (some (97, 1, 0))), (3, vi l3)] 39 [vi (((zlr (gl M 165 (l2).toNatClampNeg) (10 : Int32)) &&& (127 : Int64))).toInt32, vi s0, vi s1, vr (some (97, 1, 0))] Q
      refine sX8_unarySet_39 (d := (d + 2)) M l3 ((((zlr (gl M 165 (l2).toNatClampNeg) (10 : Int32)) &&& (127 : Int64))).toInt32) s0 s1 ?_
      exact k
    · show Zm E YX8_unarySet ((d + 2) + 1) M [(0, vr (some (97, 1, 0))), (3, vi l3)] 39 [vi (0 : Int32), vi s0, vi s1, vr (some (97, 1, 0))] Q
      refine sX8_unarySet_39 (d := (d + 2)) M l3 (0 : Int32) s0 s1 ?_
      exact k
theorem iX8_unarySet_102 {E : zE} {d : Nat} {Q : zO → zM → Prop} (M : zM) (l3 : Int32) (s0 : Int32) (k : if s0 = 0 then (Q (.inl none) M) else (Zm E YX8_addSort d M (zargs 0 [vr (some (97, 1, 0)), vi l3, vi (8 : Int32)]) 0 [] (zma E YX8_unarySet (d + 1) [] 109 3 [] Q))) : Zm E YX8_unarySet (d + 1) M [(0, vr (some (97, 1, 0))), (3, vi l3)] 102 [vi s0] Q := by
  refine sX8_unarySet_102 (d := d) M l3 s0 ?_
  refine zite k (fun h9859 k => ?_) (fun h9859 k => ?_)
  · refine sX8_unarySet_112 (d := d) M  ?_
    exact k
  · exact k
theorem iX8_unarySet_55 {E : zE} {d : Nat} {Q : zO → zM → Prop} (M : zM)  (k : Q (.inl none) M) : Zm E YX8_unarySet (d + 1) M [] 55 [] Q := by
  refine sX8_unarySet_55 (d := d) M  ?_
  refine sX8_unarySet_112 (d := d) M  ?_
  exact k
theorem iX8_valueOfAlone_0 {E : zE} {d : Nat} {Q : zO → zM → Prop} (M : zM) (l1 : Int32) (k : vp_in l1 647800 ∧ (if ((((gl M 165 (l1).toNatClampNeg) &&& (1023 : Int64))).toInt32 &&& (-513 : Int32)) = (32 : Int32) then (Q (.inl (some (vi ((zlr (gl M 165 (l1).toNatClampNeg) (32 : Int32))).toInt32))) M) else (if ((((gl M 165 (l1).toNatClampNeg) &&& (1023 : Int64))).toInt32 &&& (-513 : Int32)) = (128 : Int32) then (Q (.inl (some (vi (((zlr (gl M 165 (l1).toNatClampNeg) (10 : Int32)) &&& (127 : Int64))).toInt32))) M) else (Q (.inl (some (vi (0 : Int32)))) M)))) : Zm E YX8_valueOfAlone (d + 2) M [(0, vr (some (97, 1, 0))), (1, vi l1)] 0 [] Q := by
  refine sX8_valueOfAlone_0 (d := (d + 1)) M l1 ?_
  refine jX8_plainly (d := d) M l1 ?_
  refine zand k (fun h9860 k => ?_)
  show Zm E YX8_valueOfAlone ((d + 1) + 1) M [(0, vr (some (97, 1, 0))), (1, vi l1)] 5 [vi ((((gl M 165 (l1).toNatClampNeg) &&& (1023 : Int64))).toInt32 &&& (-513 : Int32))] Q
  refine sX8_valueOfAlone_5 (d := (d + 1)) M l1 ((((gl M 165 (l1).toNatClampNeg) &&& (1023 : Int64))).toInt32 &&& (-513 : Int32)) ?_
  refine zite k (fun h9861 k => ?_) (fun h9861 k => ?_)
  · refine sX8_number_0 (d := (d + 1)) M l1 ?_
    refine ⟨h9860, ?_⟩
    show Zm E YX8_valueOfAlone ((d + 1) + 1) M [] 15 [vi ((zlr (gl M 165 (l1).toNatClampNeg) (32 : Int32))).toInt32] Q
    refine sX8_valueOfAlone_15 (d := (d + 1)) M (((zlr (gl M 165 (l1).toNatClampNeg) (32 : Int32))).toInt32) ?_
    exact k
  · refine jX8_plainly (d := d) M l1 ?_
    refine ⟨h9860, ?_⟩
    show Zm E YX8_valueOfAlone ((d + 1) + 1) M [(0, vr (some (97, 1, 0))), (1, vi l1)] 23 [vi ((((gl M 165 (l1).toNatClampNeg) &&& (1023 : Int64))).toInt32 &&& (-513 : Int32))] Q
    refine sX8_valueOfAlone_23 (d := (d + 1)) M l1 ((((gl M 165 (l1).toNatClampNeg) &&& (1023 : Int64))).toInt32 &&& (-513 : Int32)) ?_
    refine zite k (fun h9862 k => ?_) (fun h9862 k => ?_)
    · refine sX8_name_0 (d := (d + 1)) M l1 ?_
      refine ⟨h9860, ?_⟩
      show Zm E YX8_valueOfAlone ((d + 1) + 1) M [] 34 [vi (((zlr (gl M 165 (l1).toNatClampNeg) (10 : Int32)) &&& (127 : Int64))).toInt32] Q
      refine sX8_valueOfAlone_34 (d := (d + 1)) M ((((zlr (gl M 165 (l1).toNatClampNeg) (10 : Int32)) &&& (127 : Int64))).toInt32) ?_
      exact k
    · exact k
theorem iX8_waysOfBinary_0 {E : zE} {d : Nat} {Q : zO → zM → Prop} (M : zM) (l1 : Int32) (k : vp_in (639 : Int32) 640 ∧ (vp_in (647740 : Int32) 647800 ∧ (if l1 = (19 : Int32) then (Zm E YX8_keysOf d (sl (sl (sl M 165 ((647740 : Int32)).toNatClampNeg (0 : Int64)) 166 ((647740 : Int32)).toNatClampNeg (0 : Int64)) 167 ((647740 : Int32)).toNatClampNeg (0 : Int64)) (zargs 0 [vr (some (97, 1, 0)), vi ((((gi M 172 ((639 : Int32)).toNatClampNeg) + (gi M 171 ((639 : Int32)).toNatClampNeg)) - (1 : Int32)) - (1 : Int32))]) 0 [] (zma E YX8_waysOfBinary (d + 1) [(0, vr (some (97, 1, 0))), (3, vi ((((gi M 172 ((639 : Int32)).toNatClampNeg) + (gi M 171 ((639 : Int32)).toNatClampNeg)) - (1 : Int32)) - (0 : Int32))), (4, vi (647740 : Int32))] 34 3 [] Q)) else (if l1 = (20 : Int32) then (Zm E YX8_isMadeBySet d (sl (sl (sl M 165 ((647740 : Int32)).toNatClampNeg (0 : Int64)) 166 ((647740 : Int32)).toNatClampNeg (0 : Int64)) 167 ((647740 : Int32)).toNatClampNeg (0 : Int64)) (zargs 0 [vr (some (97, 1, 0)), vi ((((gi M 172 ((639 : Int32)).toNatClampNeg) + (gi M 171 ((639 : Int32)).toNatClampNeg)) - (1 : Int32)) - (1 : Int32)), vi ((((gi M 172 ((639 : Int32)).toNatClampNeg) + (gi M 171 ((639 : Int32)).toNatClampNeg)) - (1 : Int32)) - (0 : Int32)), vi (647740 : Int32)]) 0 [] (zma E YX8_waysOfBinary (d + 1) [(0, vr (some (97, 1, 0))), (4, vi (647740 : Int32))] 127 3 [] Q)) else (Zm E YX8_binarySet d (sl (sl (sl M 165 ((647740 : Int32)).toNatClampNeg (0 : Int64)) 166 ((647740 : Int32)).toNatClampNeg (0 : Int64)) 167 ((647740 : Int32)).toNatClampNeg (0 : Int64)) (zargs 0 [vr (some (97, 1, 0)), vi l1, vi ((((gi M 172 ((639 : Int32)).toNatClampNeg) + (gi M 171 ((639 : Int32)).toNatClampNeg)) - (1 : Int32)) - (1 : Int32)), vi ((((gi M 172 ((639 : Int32)).toNatClampNeg) + (gi M 171 ((639 : Int32)).toNatClampNeg)) - (1 : Int32)) - (0 : Int32)), vi (647740 : Int32)]) 0 [] (zma E YX8_waysOfBinary (d + 1) [(0, vr (some (97, 1, 0))), (4, vi (647740 : Int32)), (5, vi (0 : Int32))] 141 3 [] Q)))))) : Zm E YX8_waysOfBinary (d + 1) M [(0, vr (some (97, 1, 0))), (1, vi l1)] 0 [] Q := by
  refine sX8_waysOfBinary_0 (d := d) M l1 ?_
  refine jX8_fromTop (d := d) M (1 : Int32) ?_
  refine zand k (fun h9863 k => ?_)
  show Zm E YX8_waysOfBinary (d + 1) M [(0, vr (some (97, 1, 0))), (1, vi l1)] 5 [vi ((((gi M 172 ((639 : Int32)).toNatClampNeg) + (gi M 171 ((639 : Int32)).toNatClampNeg)) - (1 : Int32)) - (1 : Int32))] Q
  refine sX8_waysOfBinary_5 (d := d) M l1 ((((gi M 172 ((639 : Int32)).toNatClampNeg) + (gi M 171 ((639 : Int32)).toNatClampNeg)) - (1 : Int32)) - (1 : Int32)) ?_
  refine jX8_fromTop (d := d) M (0 : Int32) ?_
  refine ⟨h9863, ?_⟩
  show Zm E YX8_waysOfBinary (d + 1) M [(0, vr (some (97, 1, 0))), (1, vi l1), (2, vi ((((gi M 172 ((639 : Int32)).toNatClampNeg) + (gi M 171 ((639 : Int32)).toNatClampNeg)) - (1 : Int32)) - (1 : Int32)))] 11 [vi ((((gi M 172 ((639 : Int32)).toNatClampNeg) + (gi M 171 ((639 : Int32)).toNatClampNeg)) - (1 : Int32)) - (0 : Int32))] Q
  refine sX8_waysOfBinary_11 (d := d) M l1 ((((gi M 172 ((639 : Int32)).toNatClampNeg) + (gi M 171 ((639 : Int32)).toNatClampNeg)) - (1 : Int32)) - (1 : Int32)) ((((gi M 172 ((639 : Int32)).toNatClampNeg) + (gi M 171 ((639 : Int32)).toNatClampNeg)) - (1 : Int32)) - (0 : Int32)) ?_
  refine jX8_empty (d := d) M (647740 : Int32) ?_
  refine zand k (fun h9864 k => ?_)
  show Zm E YX8_waysOfBinary (d + 1) (sl (sl (sl M 165 ((647740 : Int32)).toNatClampNeg (0 : Int64)) 166 ((647740 : Int32)).toNatClampNeg (0 : Int64)) 167 ((647740 : Int32)).toNatClampNeg (0 : Int64)) [(0, vr (some (97, 1, 0))), (1, vi l1), (2, vi ((((gi M 172 ((639 : Int32)).toNatClampNeg) + (gi M 171 ((639 : Int32)).toNatClampNeg)) - (1 : Int32)) - (1 : Int32))), (3, vi ((((gi M 172 ((639 : Int32)).toNatClampNeg) + (gi M 171 ((639 : Int32)).toNatClampNeg)) - (1 : Int32)) - (0 : Int32))), (4, vi (647740 : Int32)), (5, vi (0 : Int32))] 26 [] Q
  refine sX8_waysOfBinary_26 (d := d) (sl (sl (sl M 165 ((647740 : Int32)).toNatClampNeg (0 : Int64)) 166 ((647740 : Int32)).toNatClampNeg (0 : Int64)) 167 ((647740 : Int32)).toNatClampNeg (0 : Int64)) l1 ((((gi M 172 ((639 : Int32)).toNatClampNeg) + (gi M 171 ((639 : Int32)).toNatClampNeg)) - (1 : Int32)) - (1 : Int32)) ((((gi M 172 ((639 : Int32)).toNatClampNeg) + (gi M 171 ((639 : Int32)).toNatClampNeg)) - (1 : Int32)) - (0 : Int32)) (647740 : Int32) (0 : Int32) ?_
  exact k
theorem iX8_waysOfBinary_37 {E : zE} {d : Nat} {Q : zO → zM → Prop} (M : zM) (l3 : Int32) (l4 : Int32) (k : vp_in l3 647800 ∧ (if ((((gl M 165 (l3).toNatClampNeg) &&& (1023 : Int64))).toInt32 &&& (-513 : Int32)) = 0 then (if (lg_cmp ((gl M 166 (l3).toNatClampNeg) ||| (gl M 167 (l3).toNatClampNeg)) (0 : Int64)) = 0 then (Zm E YX8_replace (d + 1) M (zargs 0 [vr (some (97, 1, 0)), vi (2 : Int32), vi l4]) 0 [] (zma E YX8_waysOfBinary ((d + 1) + 1) [(0, vr (some (97, 1, 0))), (5, vi (0 : Int32))] 148 3 [] Q)) else (Zm E YX8_readFrom (d + 1) M (zargs 0 [vr (some (97, 1, 0)), vl (gl M 166 (l3).toNatClampNeg), vl (gl M 167 (l3).toNatClampNeg), vi (l4 + (1 : Int32))]) 0 [] (zma E YX8_waysOfBinary ((d + 1) + 1) [(0, vr (some (97, 1, 0))), (4, vi l4), (5, vi (0 : Int32))] 77 3 [] Q))) else (if (lg_cmp ((gl M 166 (l3).toNatClampNeg) ||| (gl M 167 (l3).toNatClampNeg)) (0 : Int64)) = 0 then (Zm E YX8_replace (d + 1) M (zargs 0 [vr (some (97, 1, 0)), vi (2 : Int32), vi l4]) 0 [] (zma E YX8_waysOfBinary ((d + 1) + 1) [(0, vr (some (97, 1, 0))), (5, vi (1 : Int32))] 148 3 [] Q)) else (Zm E YX8_readFrom (d + 1) M (zargs 0 [vr (some (97, 1, 0)), vl (gl M 166 (l3).toNatClampNeg), vl (gl M 167 (l3).toNatClampNeg), vi (l4 + (1 : Int32))]) 0 [] (zma E YX8_waysOfBinary ((d + 1) + 1) [(0, vr (some (97, 1, 0))), (4, vi l4), (5, vi (1 : Int32))] 77 3 [] Q))))) : Zm E YX8_waysOfBinary (d + 2) M [(0, vr (some (97, 1, 0))), (3, vi l3), (4, vi l4)] 37 [] Q := by
  refine sX8_waysOfBinary_37 (d := (d + 1)) M l3 l4 ?_
  refine jX8_plainly (d := d) M l3 ?_
  refine zand k (fun h9871 k => ?_)
  show Zm E YX8_waysOfBinary ((d + 1) + 1) M [(0, vr (some (97, 1, 0))), (3, vi l3), (4, vi l4)] 42 [vi ((((gl M 165 (l3).toNatClampNeg) &&& (1023 : Int64))).toInt32 &&& (-513 : Int32))] Q
  refine sX8_waysOfBinary_42 (d := (d + 1)) M l3 l4 ((((gl M 165 (l3).toNatClampNeg) &&& (1023 : Int64))).toInt32 &&& (-513 : Int32)) ?_
  refine zite k (fun h9872 k => ?_) (fun h9872 k => ?_)
  · refine jX8_hasLabels (d := (d + 1)) M l3 ?_
    refine ⟨h9871, ?_⟩
    refine zite k (fun h9873 k => ?_) (fun h9873 k => ?_)
    · show Zm E YX8_waysOfBinary ((d + 1) + 1) M [(0, vr (some (97, 1, 0))), (3, vi l3), (4, vi l4), (5, vi (0 : Int32))] 57 [vi (0 : Int32)] Q
      refine sX8_waysOfBinary_57 (d := (d + 1)) M l3 l4 (0 : Int32) (0 : Int32) ?_
      refine zpos (show (0 : Int32) = 0 from by decide) ?_
      refine sX8_waysOfBinary_144 (d := (d + 1)) M l4 (0 : Int32) ?_
      exact k
    · show Zm E YX8_waysOfBinary ((d + 1) + 1) M [(0, vr (some (97, 1, 0))), (3, vi l3), (4, vi l4), (5, vi (0 : Int32))] 57 [vi (1 : Int32)] Q
      refine sX8_waysOfBinary_57 (d := (d + 1)) M l3 l4 (0 : Int32) (1 : Int32) ?_
      refine zneg (show ¬ ((1 : Int32) = 0) from by decide) ?_
      refine ⟨h9871, ?_⟩
      refine ⟨h9871, ?_⟩
      exact k
  · refine jX8_hasLabels (d := (d + 1)) M l3 ?_
    refine ⟨h9871, ?_⟩
    refine zite k (fun h9874 k => ?_) (fun h9874 k => ?_)
    · show Zm E YX8_waysOfBinary ((d + 1) + 1) M [(0, vr (some (97, 1, 0))), (3, vi l3), (4, vi l4), (5, vi (1 : Int32))] 57 [vi (0 : Int32)] Q
      refine sX8_waysOfBinary_57 (d := (d + 1)) M l3 l4 (1 : Int32) (0 : Int32) ?_
      refine zpos (show (0 : Int32) = 0 from by decide) ?_
      refine sX8_waysOfBinary_144 (d := (d + 1)) M l4 (1 : Int32) ?_
      exact k
    · show Zm E YX8_waysOfBinary ((d + 1) + 1) M [(0, vr (some (97, 1, 0))), (3, vi l3), (4, vi l4), (5, vi (1 : Int32))] 57 [vi (1 : Int32)] Q
      refine sX8_waysOfBinary_57 (d := (d + 1)) M l3 l4 (1 : Int32) (1 : Int32) ?_
      refine zneg (show ¬ ((1 : Int32) = 0) from by decide) ?_
      refine ⟨h9871, ?_⟩
      refine ⟨h9871, ?_⟩
      exact k
theorem iX8_waysOfBinary_130 {E : zE} {d : Nat} {Q : zO → zM → Prop} (M : zM) (l4 : Int32) (s0 : Int32) (k : Zm E YX8_replace d M (zargs 0 [vr (some (97, 1, 0)), vi (2 : Int32), vi l4]) 0 [] (zma E YX8_waysOfBinary (d + 1) [(0, vr (some (97, 1, 0))), (5, vi s0)] 148 3 [] Q)) : Zm E YX8_waysOfBinary (d + 1) M [(0, vr (some (97, 1, 0))), (4, vi l4)] 130 [vi s0] Q := by
  refine sX8_waysOfBinary_130 (d := d) M l4 s0 ?_
  refine sX8_waysOfBinary_144 (d := d) M l4 s0 ?_
  exact k
theorem iX8_waysOfBinary_151 {E : zE} {d : Nat} {Q : zO → zM → Prop} (M : zM) (l5 : Int32) (k : if l5 = 0 then (Q (.inl none) M) else (Zm E YX8_error_2 d M (zargs 0 [vr (some (97, 1, 0)), vi (gi M 97 148), vi (6 : Int32)]) 0 [] (zma E YX8_waysOfBinary (d + 1) [] 163 3 [] Q))) : Zm E YX8_waysOfBinary (d + 1) M [(0, vr (some (97, 1, 0))), (5, vi l5)] 151 [] Q := by
  refine sX8_waysOfBinary_151 (d := d) M l5 ?_
  refine zite k (fun h9875 k => ?_) (fun h9875 k => ?_)
  · refine sX8_waysOfBinary_166 (d := d) M  ?_
    exact k
  · exact k
theorem iX8_waysOfBinary_80 {E : zE} {d : Nat} {Q : zO → zM → Prop} (M : zM) (l4 : Int32) (l5 : Int32) (k : vp_in (l4 + (1 : Int32)) 647800 ∧ (if ((((gl M 165 ((l4 + (1 : Int32))).toNatClampNeg) &&& (1023 : Int64))).toInt32 &&& (-513 : Int32)) = 0 then (if (lg_cmp ((gl M 166 ((l4 + (1 : Int32))).toNatClampNeg) ||| (gl M 167 ((l4 + (1 : Int32))).toNatClampNeg)) (0 : Int64)) = 0 then (if (gi M 97 145) = 0 then (Zm E YX8_replace (d + 2) M (zargs 0 [vr (some (97, 1, 0)), vi (2 : Int32), vi l4]) 0 [] (zma E YX8_waysOfBinary ((d + 2) + 1) [(0, vr (some (97, 1, 0))), (5, vi l5)] 148 3 [] Q)) else (Zm E YX8_addSort (d + 2) M (zargs 0 [vr (some (97, 1, 0)), vi l4, vi (8 : Int32)]) 0 [] (zma E YX8_waysOfBinary ((d + 2) + 1) [(0, vr (some (97, 1, 0))), (4, vi l4), (5, vi l5)] 110 3 [] Q))) else (Zm E YX8_addSort (d + 2) M (zargs 0 [vr (some (97, 1, 0)), vi l4, vi (4 : Int32)]) 0 [] (zma E YX8_waysOfBinary ((d + 2) + 1) [(0, vr (some (97, 1, 0))), (4, vi l4), (5, vi l5)] 95 3 [] Q))) else (Zm E YX8_addSort (d + 2) M (zargs 0 [vr (some (97, 1, 0)), vi l4, vi (4 : Int32)]) 0 [] (zma E YX8_waysOfBinary ((d + 2) + 1) [(0, vr (some (97, 1, 0))), (4, vi l4), (5, vi l5)] 95 3 [] Q)))) : Zm E YX8_waysOfBinary (d + 3) M [(0, vr (some (97, 1, 0))), (4, vi l4), (5, vi l5)] 80 [] Q := by
  refine sX8_waysOfBinary_80 (d := (d + 2)) M l4 l5 ?_
  refine jX8_isEmpty (d := d) M (l4 + (1 : Int32)) ?_
  refine zand k (fun h9876 k => ?_)
  refine zite k (fun h9877 k => ?_) (fun h9877 k => ?_)
  · refine zite k (fun h9878 k => ?_) (fun h9878 k => ?_)
    · show Zm E YX8_waysOfBinary ((d + 2) + 1) M [(0, vr (some (97, 1, 0))), (4, vi l4), (5, vi l5)] 88 [vi (1 : Int32)] Q
      refine sX8_waysOfBinary_88 (d := (d + 2)) M l4 l5 (1 : Int32) ?_
      refine zneg (show ¬ ((1 : Int32) = 0) from by decide) ?_
      refine sX8_waysOfBinary_98 (d := (d + 2)) M l4 l5 ?_
      refine zite k (fun h9879 k => ?_) (fun h9879 k => ?_)
      · refine sX8_waysOfBinary_144 (d := (d + 2)) M l4 l5 ?_
        exact k
      · exact k
    · show Zm E YX8_waysOfBinary ((d + 2) + 1) M [(0, vr (some (97, 1, 0))), (4, vi l4), (5, vi l5)] 88 [vi (0 : Int32)] Q
      refine sX8_waysOfBinary_88 (d := (d + 2)) M l4 l5 (0 : Int32) ?_
      refine zpos (show (0 : Int32) = 0 from by decide) ?_
      exact k
  · show Zm E YX8_waysOfBinary ((d + 2) + 1) M [(0, vr (some (97, 1, 0))), (4, vi l4), (5, vi l5)] 88 [vi (0 : Int32)] Q
    refine sX8_waysOfBinary_88 (d := (d + 2)) M l4 l5 (0 : Int32) ?_
    refine zpos (show (0 : Int32) = 0 from by decide) ?_
    exact k
theorem iX8_waysOfBinary_113 {E : zE} {d : Nat} {Q : zO → zM → Prop} (M : zM) (l4 : Int32) (l5 : Int32) (k : Zm E YX8_replace d M (zargs 0 [vr (some (97, 1, 0)), vi (2 : Int32), vi l4]) 0 [] (zma E YX8_waysOfBinary (d + 1) [(0, vr (some (97, 1, 0))), (5, vi l5)] 148 3 [] Q)) : Zm E YX8_waysOfBinary (d + 1) M [(0, vr (some (97, 1, 0))), (4, vi l4), (5, vi l5)] 113 [] Q := by
  refine sX8_waysOfBinary_113 (d := d) M l4 l5 ?_
  refine sX8_waysOfBinary_144 (d := d) M l4 l5 ?_
  exact k
theorem iX8_waysOfBinary_98 {E : zE} {d : Nat} {Q : zO → zM → Prop} (M : zM) (l4 : Int32) (l5 : Int32) (k : if (gi M 97 145) = 0 then (Zm E YX8_replace d M (zargs 0 [vr (some (97, 1, 0)), vi (2 : Int32), vi l4]) 0 [] (zma E YX8_waysOfBinary (d + 1) [(0, vr (some (97, 1, 0))), (5, vi l5)] 148 3 [] Q)) else (Zm E YX8_addSort d M (zargs 0 [vr (some (97, 1, 0)), vi l4, vi (8 : Int32)]) 0 [] (zma E YX8_waysOfBinary (d + 1) [(0, vr (some (97, 1, 0))), (4, vi l4), (5, vi l5)] 110 3 [] Q))) : Zm E YX8_waysOfBinary (d + 1) M [(0, vr (some (97, 1, 0))), (4, vi l4), (5, vi l5)] 98 [] Q := by
  refine sX8_waysOfBinary_98 (d := d) M l4 l5 ?_
  refine zite k (fun h9880 k => ?_) (fun h9880 k => ?_)
  · refine sX8_waysOfBinary_144 (d := d) M l4 l5 ?_
    exact k
  · exact k
theorem iX8_waysOfDelete_0 {E : zE} {d : Nat} {Q : zO → zM → Prop} (M : zM)  (k : vp_in (639 : Int32) 640 ∧ (vp_in ((((gi M 172 ((639 : Int32)).toNatClampNeg) + (gi M 171 ((639 : Int32)).toNatClampNeg)) - (1 : Int32)) - (1 : Int32)) 647800 ∧ (Zm E YX8_keysOf (d + 1) M (zargs 0 [vr (some (97, 1, 0)), vi ((((gi M 172 ((639 : Int32)).toNatClampNeg) + (gi M 171 ((639 : Int32)).toNatClampNeg)) - (1 : Int32)) - (0 : Int32))]) 0 [] (zma E YX8_waysOfDelete ((d + 1) + 1) [(0, vr (some (97, 1, 0))), (1, vi ((((gi M 172 ((639 : Int32)).toNatClampNeg) + (gi M 171 ((639 : Int32)).toNatClampNeg)) - (1 : Int32)) - (1 : Int32))), (2, vi ((((gl M 165 (((((gi M 172 ((639 : Int32)).toNatClampNeg) + (gi M 171 ((639 : Int32)).toNatClampNeg)) - (1 : Int32)) - (1 : Int32))).toNatClampNeg) &&& (1023 : Int64))).toInt32 &&& (-513 : Int32)))] 18 3 [] Q)))) : Zm E YX8_waysOfDelete (d + 2) M [(0, vr (some (97, 1, 0)))] 0 [] Q := by
  refine sX8_waysOfDelete_0 (d := (d + 1)) M  ?_
  refine jX8_fromTop (d := (d + 1)) M (1 : Int32) ?_
  refine zand k (fun h9883 k => ?_)
  show Zm E YX8_waysOfDelete ((d + 1) + 1) M [(0, vr (some (97, 1, 0)))] 5 [vi ((((gi M 172 ((639 : Int32)).toNatClampNeg) + (gi M 171 ((639 : Int32)).toNatClampNeg)) - (1 : Int32)) - (1 : Int32))] Q
  refine sX8_waysOfDelete_5 (d := (d + 1)) M ((((gi M 172 ((639 : Int32)).toNatClampNeg) + (gi M 171 ((639 : Int32)).toNatClampNeg)) - (1 : Int32)) - (1 : Int32)) ?_
  refine jX8_plainly (d := d) M ((((gi M 172 ((639 : Int32)).toNatClampNeg) + (gi M 171 ((639 : Int32)).toNatClampNeg)) - (1 : Int32)) - (1 : Int32)) ?_
  refine zand k (fun h9884 k => ?_)
  show Zm E YX8_waysOfDelete ((d + 1) + 1) M [(0, vr (some (97, 1, 0))), (1, vi ((((gi M 172 ((639 : Int32)).toNatClampNeg) + (gi M 171 ((639 : Int32)).toNatClampNeg)) - (1 : Int32)) - (1 : Int32)))] 11 [vi ((((gl M 165 (((((gi M 172 ((639 : Int32)).toNatClampNeg) + (gi M 171 ((639 : Int32)).toNatClampNeg)) - (1 : Int32)) - (1 : Int32))).toNatClampNeg) &&& (1023 : Int64))).toInt32 &&& (-513 : Int32))] Q
  refine sX8_waysOfDelete_11 (d := (d + 1)) M ((((gi M 172 ((639 : Int32)).toNatClampNeg) + (gi M 171 ((639 : Int32)).toNatClampNeg)) - (1 : Int32)) - (1 : Int32)) ((((gl M 165 (((((gi M 172 ((639 : Int32)).toNatClampNeg) + (gi M 171 ((639 : Int32)).toNatClampNeg)) - (1 : Int32)) - (1 : Int32))).toNatClampNeg) &&& (1023 : Int64))).toInt32 &&& (-513 : Int32)) ?_
  refine jX8_fromTop (d := (d + 1)) M (0 : Int32) ?_
  refine ⟨h9883, ?_⟩
  show Zm E YX8_waysOfDelete ((d + 1) + 1) M [(0, vr (some (97, 1, 0))), (1, vi ((((gi M 172 ((639 : Int32)).toNatClampNeg) + (gi M 171 ((639 : Int32)).toNatClampNeg)) - (1 : Int32)) - (1 : Int32))), (2, vi ((((gl M 165 (((((gi M 172 ((639 : Int32)).toNatClampNeg) + (gi M 171 ((639 : Int32)).toNatClampNeg)) - (1 : Int32)) - (1 : Int32))).toNatClampNeg) &&& (1023 : Int64))).toInt32 &&& (-513 : Int32)))] 18 [vi ((((gi M 172 ((639 : Int32)).toNatClampNeg) + (gi M 171 ((639 : Int32)).toNatClampNeg)) - (1 : Int32)) - (0 : Int32)), vr (some (97, 1, 0))] Q
  refine sX8_waysOfDelete_18 (d := (d + 1)) M ((((gi M 172 ((639 : Int32)).toNatClampNeg) + (gi M 171 ((639 : Int32)).toNatClampNeg)) - (1 : Int32)) - (1 : Int32)) ((((gl M 165 (((((gi M 172 ((639 : Int32)).toNatClampNeg) + (gi M 171 ((639 : Int32)).toNatClampNeg)) - (1 : Int32)) - (1 : Int32))).toNatClampNeg) &&& (1023 : Int64))).toInt32 &&& (-513 : Int32)) ((((gi M 172 ((639 : Int32)).toNatClampNeg) + (gi M 171 ((639 : Int32)).toNatClampNeg)) - (1 : Int32)) - (0 : Int32)) ?_
  exact k
theorem iX8_waysOfDelete_21 {E : zE} {d : Nat} {Q : zO → zM → Prop} (M : zM) (l1 : Int32) (l2 : Int32) (k : if (l2 &&& (-4 : Int32)) = 0 then (vp_in l1 647800 ∧ (if (lg_cmp ((gl M 166 (l1).toNatClampNeg) ||| (gl M 167 (l1).toNatClampNeg)) (0 : Int64)) = 0 then (Zm E YX8_waysOfDelete (d + 1) M [(0, vr (some (97, 1, 0))), (1, vi l1), (2, vi l2)] 41 [vi (0 : Int32)] Q) else (Zm E YX8_waysOfDelete (d + 1) M [(0, vr (some (97, 1, 0))), (1, vi l1), (2, vi l2)] 41 [vi (1 : Int32)] Q))) else (Zm E YX8_waysOfDelete (d + 1) M [(0, vr (some (97, 1, 0))), (1, vi l1), (2, vi l2)] 41 [vi (1 : Int32)] Q)) : Zm E YX8_waysOfDelete (d + 1) M [(0, vr (some (97, 1, 0))), (1, vi l1), (2, vi l2)] 21 [] Q := by
  refine sX8_waysOfDelete_21 (d := d) M l1 l2 ?_
  refine zite k (fun h9885 k => ?_) (fun h9885 k => ?_)
  · refine jX8_hasLabels (d := d) M l1 ?_
    refine zand k (fun h9886 k => ?_)
    refine zite k (fun h9887 k => ?_) (fun h9887 k => ?_)
    · show Zm E YX8_waysOfDelete (d + 1) M [(0, vr (some (97, 1, 0))), (1, vi l1), (2, vi l2)] 33 [vi (0 : Int32)] Q
      refine sX8_waysOfDelete_33 (d := d) M l1 l2 (0 : Int32) ?_
      refine zpos (show (0 : Int32) = 0 from by decide) ?_
      exact k
    · show Zm E YX8_waysOfDelete (d + 1) M [(0, vr (some (97, 1, 0))), (1, vi l1), (2, vi l2)] 33 [vi (1 : Int32)] Q
      refine sX8_waysOfDelete_33 (d := d) M l1 l2 (1 : Int32) ?_
      refine zneg (show ¬ ((1 : Int32) = 0) from by decide) ?_
      exact k
  · exact k
theorem iX8_waysOfDelete_41 {E : zE} {d : Nat} {Q : zO → zM → Prop} (M : zM) (l1 : Int32) (l2 : Int32) (s0 : Int32) (k : if s0 = 0 then (if (l2 &&& (3 : Int32)) = 0 then (Q (.inl none) M) else (Zm E YX8_error_2 d M (zargs 0 [vr (some (97, 1, 0)), vi (gi M 97 148), vi (6 : Int32)]) 0 [] (zma E YX8_waysOfDelete (d + 1) [] 392 3 [] Q))) else (if l2 = 0 then (if (lg_cmp (gl M 97 143) (1 : Int64)) = 0 then (if (lg_cmp (gl M 97 144) (0 : Int64)) = 0 then (vp_in l1 647800 ∧ (Zm E YJ17_bitCount d M (zargs 0 [vl (gl M 166 (l1).toNatClampNeg)]) 0 [] (zma E YX8_waysOfDelete (d + 1) [(0, vr (some (97, 1, 0))), (1, vi l1), (2, vi l2), (4, vi (0 : Int32)), (5, vi (1 : Int32))] 84 3 [] Q))) else (vp_in l1 647800 ∧ (Zm E YJ17_bitCount d M (zargs 0 [vl (gl M 166 (l1).toNatClampNeg)]) 0 [] (zma E YX8_waysOfDelete (d + 1) [(0, vr (some (97, 1, 0))), (1, vi l1), (2, vi l2), (4, vi (0 : Int32)), (5, vi (0 : Int32))] 84 3 [] Q)))) else (vp_in l1 647800 ∧ (Zm E YJ17_bitCount d M (zargs 0 [vl (gl M 166 (l1).toNatClampNeg)]) 0 [] (zma E YX8_waysOfDelete (d + 1) [(0, vr (some (97, 1, 0))), (1, vi l1), (2, vi l2), (4, vi (0 : Int32)), (5, vi (0 : Int32))] 84 3 [] Q)))) else (vp_in l1 647800 ∧ (Zm E YJ17_bitCount d M (zargs 0 [vl (gl M 166 (l1).toNatClampNeg)]) 0 [] (zma E YX8_waysOfDelete (d + 1) [(0, vr (some (97, 1, 0))), (1, vi l1), (2, vi l2), (4, vi (0 : Int32)), (5, vi (0 : Int32))] 84 3 [] Q))))) : Zm E YX8_waysOfDelete (d + 1) M [(0, vr (some (97, 1, 0))), (1, vi l1), (2, vi l2)] 41 [vi s0] Q := by
  refine sX8_waysOfDelete_41 (d := d) M l1 l2 s0 ?_
  refine zite k (fun h9888 k => ?_) (fun h9888 k => ?_)
  · refine sX8_waysOfDelete_379 (d := d) M l2 ?_
    refine zite k (fun h9889 k => ?_) (fun h9889 k => ?_)
    · refine sX8_waysOfDelete_395 (d := d) M  ?_
      exact k
    · exact k
  · exact k
theorem iX8_waysOfDelete_102 {E : zE} {d : Nat} {Q : zO → zM → Prop} (M : zM) (l1 : Int32) (l2 : Int32) (l4 : Int32) (l5 : Int32) (l6 : Int32) (l7 : Int32) (k : if (gi M 97 71) ≤ l7 then (vp_in (647740 : Int32) 647800 ∧ (if l4 = 0 then (Zm E YX8_addSort d (sl (sl (sl M 165 ((647740 : Int32)).toNatClampNeg (0 : Int64)) 166 ((647740 : Int32)).toNatClampNeg (0 : Int64)) 167 ((647740 : Int32)).toNatClampNeg (0 : Int64)) (zargs 0 [vr (some (97, 1, 0)), vi (647740 : Int32), vi (4 : Int32)]) 0 [] (zma E YX8_waysOfDelete (d + 1) [(0, vr (some (97, 1, 0))), (2, vi l2), (7, vi (647740 : Int32))] 369 3 [] Q)) else (if l5 = 0 then (Zm E YX8_addSort d (sl (sl (sl M 165 ((647740 : Int32)).toNatClampNeg (0 : Int64)) 166 ((647740 : Int32)).toNatClampNeg (0 : Int64)) 167 ((647740 : Int32)).toNatClampNeg (0 : Int64)) (zargs 0 [vr (some (97, 1, 0)), vi (647740 : Int32), vi (12 : Int32)]) 0 [] (zma E YX8_waysOfDelete (d + 1) [(0, vr (some (97, 1, 0))), (2, vi l2), (7, vi (647740 : Int32))] 369 3 [] Q)) else (Zm E YX8_addSort d (sl (sl (sl M 165 ((647740 : Int32)).toNatClampNeg (0 : Int64)) 166 ((647740 : Int32)).toNatClampNeg (0 : Int64)) 167 ((647740 : Int32)).toNatClampNeg (0 : Int64)) (zargs 0 [vr (some (97, 1, 0)), vi (647740 : Int32), vi (8 : Int32)]) 0 [] (zma E YX8_waysOfDelete (d + 1) [(0, vr (some (97, 1, 0))), (2, vi l2), (7, vi (647740 : Int32))] 369 3 [] Q))))) else (vp_in l1 647800 ∧ (Zm E YX8_isIn d M (zargs 0 [vl (gl M 166 (l1).toNatClampNeg), vl (gl M 167 (l1).toNatClampNeg), vi l7]) 0 [] (zma E YX8_waysOfDelete (d + 1) [(0, vr (some (97, 1, 0))), (1, vi l1), (2, vi l2), (4, vi l4), (5, vi l5), (6, vi l6), (7, vi l7)] 125 3 [] Q)))) : Zm E YX8_waysOfDelete (d + 1) M [(0, vr (some (97, 1, 0))), (1, vi l1), (2, vi l2), (4, vi l4), (5, vi l5), (6, vi l6), (7, vi l7)] 102 [] Q := by
  refine sX8_waysOfDelete_102 (d := d) M l1 l2 l4 l5 l6 l7 ?_
  refine zite k (fun h9943 k => ?_) (fun h9943 k => ?_)
  · refine jX8_empty (d := d) M (647740 : Int32) ?_
    refine zand k (fun h9944 k => ?_)
    show Zm E YX8_waysOfDelete (d + 1) (sl (sl (sl M 165 ((647740 : Int32)).toNatClampNeg (0 : Int64)) 166 ((647740 : Int32)).toNatClampNeg (0 : Int64)) 167 ((647740 : Int32)).toNatClampNeg (0 : Int64)) [(0, vr (some (97, 1, 0))), (2, vi l2), (4, vi l4), (5, vi l5), (7, vi (647740 : Int32))] 340 [] Q
    refine sX8_waysOfDelete_340 (d := d) (sl (sl (sl M 165 ((647740 : Int32)).toNatClampNeg (0 : Int64)) 166 ((647740 : Int32)).toNatClampNeg (0 : Int64)) 167 ((647740 : Int32)).toNatClampNeg (0 : Int64)) l2 l4 l5 (647740 : Int32) ?_
    refine zite k (fun h9945 k => ?_) (fun h9945 k => ?_)
    · refine zpos h9945 ?_
      exact k
    · refine zite k (fun h9946 k => ?_) (fun h9946 k => ?_)
      · refine zneg h9945 ?_
        exact k
      · exact k
  · refine zand k (fun h9947 k => ?_)
    refine ⟨h9947, ?_⟩
    exact k
theorem iX8_waysOfDelete_128 {E : zE} {d : Nat} {Q : zO → zM → Prop} (M : zM) (l1 : Int32) (l2 : Int32) (l4 : Int32) (l5 : Int32) (l6 : Int32) (l7 : Int32) (s0 : Int32) (k : if s0 = 0 then (Zm E YX8_waysOfDelete ((d + 1) + 1) M [(0, vr (some (97, 1, 0))), (1, vi l1), (2, vi l2), (4, vi l4), (5, vi l5), (6, vi l6), (7, vi (l7 + (1 : Int32)))] 102 [] Q) else (if l7 = (24 : Int32) then (if l4 = 0 then (if (lg_cmp ((zlr (gl M 97 143) (0 : Int32)) &&& (1 : Int64)) (1 : Int64)) = 0 then ((narrow .boolean (.int (1 : Int32)) = .int (1 : Int32)) ∧ (Zm E YX8_waysOfDelete ((d + 1) + 1) M [(0, vr (some (97, 1, 0))), (1, vi l1), (2, vi l2), (5, vi l5), (6, vi l6), (7, vi l7), (8, vi (1 : Int32))] 165 [vi (1 : Int32)] Q)) else ((narrow .boolean (.int (0 : Int32)) = .int (0 : Int32)) ∧ (Zm E YX8_waysOfDelete ((d + 1) + 1) M [(0, vr (some (97, 1, 0))), (1, vi l1), (2, vi l2), (5, vi l5), (6, vi l6), (7, vi l7), (8, vi (1 : Int32))] 165 [vi (0 : Int32)] Q))) else (Zm E YX8_waysOfDelete ((d + 1) + 1) M [(0, vr (some (97, 1, 0))), (1, vi l1), (2, vi l2), (5, vi l5), (6, vi l6), (7, vi l7), (8, vi (1 : Int32))] 165 [vi (1 : Int32)] Q)) else (if l7 < ((29 : Int32) + ((6 : Int32) * ((gi M 97 32) - (1 : Int32)))) then (if l4 = 0 then (Zm E YX8_waysOfDelete ((d + 1) + 1) M [(0, vr (some (97, 1, 0))), (1, vi l1), (2, vi l2), (5, vi l5), (6, vi l6), (7, vi l7), (8, vi (0 : Int32))] 165 [vi (0 : Int32)] Q) else (Zm E YX8_waysOfDelete ((d + 1) + 1) M [(0, vr (some (97, 1, 0))), (1, vi l1), (2, vi l2), (5, vi l5), (6, vi l6), (7, vi l7), (8, vi (0 : Int32))] 165 [vi (1 : Int32)] Q)) else (vp_in (((l7 - (29 : Int32)) - ((6 : Int32) * ((gi M 97 32) - (1 : Int32)))) / (2 : Int32)) 20 ∧ (if (gi M 187 ((((l7 - (29 : Int32)) - ((6 : Int32) * ((gi M 97 32) - (1 : Int32)))) / (2 : Int32))).toNatClampNeg) = 0 then (if l4 = 0 then (Zm E YX8_waysOfDelete ((d + 1) + 1) M [(0, vr (some (97, 1, 0))), (1, vi l1), (2, vi l2), (5, vi l5), (6, vi l6), (7, vi l7), (8, vi (0 : Int32))] 165 [vi (0 : Int32)] Q) else (Zm E YX8_waysOfDelete ((d + 1) + 1) M [(0, vr (some (97, 1, 0))), (1, vi l1), (2, vi l2), (5, vi l5), (6, vi l6), (7, vi l7), (8, vi (0 : Int32))] 165 [vi (1 : Int32)] Q)) else (if l4 = 0 then (if (lg_cmp ((zlr (gl M 97 143) (0 : Int32)) &&& (1 : Int64)) (1 : Int64)) = 0 then ((narrow .boolean (.int (1 : Int32)) = .int (1 : Int32)) ∧ (Zm E YX8_waysOfDelete ((d + 1) + 1) M [(0, vr (some (97, 1, 0))), (1, vi l1), (2, vi l2), (5, vi l5), (6, vi l6), (7, vi l7), (8, vi (1 : Int32))] 165 [vi (1 : Int32)] Q)) else ((narrow .boolean (.int (0 : Int32)) = .int (0 : Int32)) ∧ (Zm E YX8_waysOfDelete ((d + 1) + 1) M [(0, vr (some (97, 1, 0))), (1, vi l1), (2, vi l2), (5, vi l5), (6, vi l6), (7, vi l7), (8, vi (1 : Int32))] 165 [vi (0 : Int32)] Q))) else (Zm E YX8_waysOfDelete ((d + 1) + 1) M [(0, vr (some (97, 1, 0))), (1, vi l1), (2, vi l2), (5, vi l5), (6, vi l6), (7, vi l7), (8, vi (1 : Int32))] 165 [vi (1 : Int32)] Q))))))) : Zm E YX8_waysOfDelete (d + 2) M [(0, vr (some (97, 1, 0))), (1, vi l1), (2, vi l2), (4, vi l4), (5, vi l5), (6, vi l6), (7, vi l7)] 128 [vi s0] Q := by
  refine sX8_waysOfDelete_128 (d := (d + 1)) M l1 l2 l4 l5 l6 l7 s0 ?_
  refine zite k (fun h9951 k => ?_) (fun h9951 k => ?_)
  · exact k
  · refine sX8_isArrayLabel_0 (d := (d + 1)) M l7 ?_
    refine zite k (fun h9952 k => ?_) (fun h9952 k => ?_)
    · show Zm E YX8_waysOfDelete ((d + 1) + 1) M [(0, vr (some (97, 1, 0))), (1, vi l1), (2, vi l2), (4, vi l4), (5, vi l5), (6, vi l6), (7, vi l7)] 140 [vi (1 : Int32)] Q
      refine sX8_waysOfDelete_140 (d := (d + 1)) M l1 l2 l4 l5 l6 l7 (1 : Int32) ?_
      refine zite k (fun h9953 k => ?_) (fun h9953 k => ?_)
      · refine zneg (show ¬ ((1 : Int32) = 0) from by decide) ?_
        refine jX8_hasKey (d := d) M (0 : Int32) ?_
        refine zneg (show ¬ ((64 : Int32) ≤ (0 : Int32)) from by decide) ?_
        refine zite k (fun h9954 k => ?_) (fun h9954 k => ?_)
        · refine zand k (fun h9955 k => ?_)
          show Zm E YX8_waysOfDelete ((d + 1) + 1) M [(0, vr (some (97, 1, 0))), (1, vi l1), (2, vi l2), (5, vi l5), (6, vi l6), (7, vi l7), (8, vi (1 : Int32))] 157 [vi (1 : Int32)] Q
          refine sX8_waysOfDelete_157 (d := (d + 1)) M l1 l2 l5 l6 l7 (1 : Int32) (1 : Int32) ?_
          refine zneg (show ¬ ((1 : Int32) = 0) from by decide) ?_
          exact k
        · refine zand k (fun h9956 k => ?_)
          show Zm E YX8_waysOfDelete ((d + 1) + 1) M [(0, vr (some (97, 1, 0))), (1, vi l1), (2, vi l2), (5, vi l5), (6, vi l6), (7, vi l7), (8, vi (1 : Int32))] 157 [vi (0 : Int32)] Q
          refine sX8_waysOfDelete_157 (d := (d + 1)) M l1 l2 l5 l6 l7 (1 : Int32) (0 : Int32) ?_
          refine zpos (show (0 : Int32) = 0 from by decide) ?_
          exact k
      · exact k
    · refine zite k (fun h9957 k => ?_) (fun h9957 k => ?_)
      · show Zm E YX8_waysOfDelete ((d + 1) + 1) M [(0, vr (some (97, 1, 0))), (1, vi l1), (2, vi l2), (4, vi l4), (5, vi l5), (6, vi l6), (7, vi l7)] 140 [vi (0 : Int32)] Q
        refine sX8_waysOfDelete_140 (d := (d + 1)) M l1 l2 l4 l5 l6 l7 (0 : Int32) ?_
        refine zite k (fun h9958 k => ?_) (fun h9958 k => ?_)
        · refine zpos (show (0 : Int32) = 0 from by decide) ?_
          exact k
        · exact k
      · refine zand k (fun h9959 k => ?_)
        refine zite k (fun h9960 k => ?_) (fun h9960 k => ?_)
        · show Zm E YX8_waysOfDelete ((d + 1) + 1) M [(0, vr (some (97, 1, 0))), (1, vi l1), (2, vi l2), (4, vi l4), (5, vi l5), (6, vi l6), (7, vi l7)] 140 [vi (0 : Int32)] Q
          refine sX8_waysOfDelete_140 (d := (d + 1)) M l1 l2 l4 l5 l6 l7 (0 : Int32) ?_
          refine zite k (fun h9961 k => ?_) (fun h9961 k => ?_)
          · refine zpos (show (0 : Int32) = 0 from by decide) ?_
            exact k
          · exact k
        · show Zm E YX8_waysOfDelete ((d + 1) + 1) M [(0, vr (some (97, 1, 0))), (1, vi l1), (2, vi l2), (4, vi l4), (5, vi l5), (6, vi l6), (7, vi l7)] 140 [vi (1 : Int32)] Q
          refine sX8_waysOfDelete_140 (d := (d + 1)) M l1 l2 l4 l5 l6 l7 (1 : Int32) ?_
          refine zite k (fun h9962 k => ?_) (fun h9962 k => ?_)
          · refine zneg (show ¬ ((1 : Int32) = 0) from by decide) ?_
            refine jX8_hasKey (d := d) M (0 : Int32) ?_
            refine zneg (show ¬ ((64 : Int32) ≤ (0 : Int32)) from by decide) ?_
            refine zite k (fun h9963 k => ?_) (fun h9963 k => ?_)
            · refine zand k (fun h9964 k => ?_)
              show Zm E YX8_waysOfDelete ((d + 1) + 1) M [(0, vr (some (97, 1, 0))), (1, vi l1), (2, vi l2), (5, vi l5), (6, vi l6), (7, vi l7), (8, vi (1 : Int32))] 157 [vi (1 : Int32)] Q
              refine sX8_waysOfDelete_157 (d := (d + 1)) M l1 l2 l5 l6 l7 (1 : Int32) (1 : Int32) ?_
              refine zneg (show ¬ ((1 : Int32) = 0) from by decide) ?_
              exact k
            · refine zand k (fun h9965 k => ?_)
              show Zm E YX8_waysOfDelete ((d + 1) + 1) M [(0, vr (some (97, 1, 0))), (1, vi l1), (2, vi l2), (5, vi l5), (6, vi l6), (7, vi l7), (8, vi (1 : Int32))] 157 [vi (0 : Int32)] Q
              refine sX8_waysOfDelete_157 (d := (d + 1)) M l1 l2 l5 l6 l7 (1 : Int32) (0 : Int32) ?_
              refine zpos (show (0 : Int32) = 0 from by decide) ?_
              exact k
          · exact k
theorem iX8_waysOfDelete_379 {E : zE} {d : Nat} {Q : zO → zM → Prop} (M : zM) (l2 : Int32) (k : if (l2 &&& (3 : Int32)) = 0 then (Q (.inl none) M) else (Zm E YX8_error_2 d M (zargs 0 [vr (some (97, 1, 0)), vi (gi M 97 148), vi (6 : Int32)]) 0 [] (zma E YX8_waysOfDelete (d + 1) [] 392 3 [] Q))) : Zm E YX8_waysOfDelete (d + 1) M [(0, vr (some (97, 1, 0))), (2, vi l2)] 379 [] Q := by
  refine sX8_waysOfDelete_379 (d := d) M l2 ?_
  refine zite k (fun h9966 k => ?_) (fun h9966 k => ?_)
  · refine sX8_waysOfDelete_395 (d := d) M  ?_
    exact k
  · exact k
theorem iX8_waysOfDelete_182 {E : zE} {d : Nat} {Q : zO → zM → Prop} (M : zM) (l1 : Int32) (l2 : Int32) (l4 : Int32) (l6 : Int32) (l7 : Int32) (l8 : Int32) (s0 : Int32) (k : if l2 = 0 then (if l6 = (1 : Int32) then (if l7 < (23 : Int32) then (Zm E YX8_manyKeys d M (zargs 0 [vr (some (97, 1, 0))]) 0 [] (zma E YX8_waysOfDelete (d + 1) [(0, vr (some (97, 1, 0))), (1, vi l1), (2, vi l2), (4, vi l4), (5, vi s0), (6, vi l6), (7, vi l7), (8, vi l8)] 203 3 [] Q)) else (if l7 < (29 : Int32) then (Zm E YX8_waysOfDelete (d + 1) M [(0, vr (some (97, 1, 0))), (1, vi l1), (2, vi l2), (4, vi l4), (5, vi s0), (6, vi l6), (7, vi l7), (8, vi l8), (9, vi (0 : Int32)), (10, vi (0 : Int32))] 231 [] Q) else (if ((l7 - (29 : Int32)) - (l7 - (29 : Int32)) / (2 : Int32) * (2 : Int32)) = 0 then (Zm E YX8_manyKeys d M (zargs 0 [vr (some (97, 1, 0))]) 0 [] (zma E YX8_waysOfDelete (d + 1) [(0, vr (some (97, 1, 0))), (1, vi l1), (2, vi l2), (4, vi l4), (5, vi s0), (6, vi l6), (7, vi l7), (8, vi l8)] 203 3 [] Q)) else (Zm E YX8_waysOfDelete (d + 1) M [(0, vr (some (97, 1, 0))), (1, vi l1), (2, vi l2), (4, vi l4), (5, vi s0), (6, vi l6), (7, vi l7), (8, vi l8), (9, vi (0 : Int32)), (10, vi (0 : Int32))] 231 [] Q)))) else (Zm E YX8_waysOfDelete (d + 1) M [(0, vr (some (97, 1, 0))), (1, vi l1), (2, vi l2), (4, vi l4), (5, vi s0), (6, vi l6), (7, vi l7), (8, vi l8), (9, vi (0 : Int32)), (10, vi (0 : Int32))] 231 [] Q)) else (Zm E YX8_waysOfDelete (d + 1) M [(0, vr (some (97, 1, 0))), (1, vi l1), (2, vi l2), (4, vi l4), (5, vi s0), (6, vi l6), (7, vi l7), (8, vi l8), (9, vi (0 : Int32)), (10, vi (0 : Int32))] 231 [] Q)) : Zm E YX8_waysOfDelete (d + 1) M [(0, vr (some (97, 1, 0))), (1, vi l1), (2, vi l2), (4, vi l4), (6, vi l6), (7, vi l7), (8, vi l8)] 182 [vi s0] Q := by
  refine sX8_waysOfDelete_182 (d := d) M l1 l2 l4 l6 l7 l8 s0 ?_
  refine zite k (fun h9969 k => ?_) (fun h9969 k => ?_)
  · refine zite k (fun h9970 k => ?_) (fun h9970 k => ?_)
    · refine sX8_isSingle_0 (d := d) M l7 ?_
      refine zite k (fun h9971 k => ?_) (fun h9971 k => ?_)
      · show Zm E YX8_waysOfDelete (d + 1) M [(0, vr (some (97, 1, 0))), (1, vi l1), (2, vi l2), (4, vi l4), (5, vi s0), (6, vi l6), (7, vi l7), (8, vi l8)] 199 [vi (1 : Int32)] Q
        refine sX8_waysOfDelete_199 (d := d) M l1 l2 l4 s0 l6 l7 l8 (1 : Int32) ?_
        refine zneg (show ¬ ((1 : Int32) = 0) from by decide) ?_
        exact k
      · refine zite k (fun h9972 k => ?_) (fun h9972 k => ?_)
        · show Zm E YX8_waysOfDelete (d + 1) M [(0, vr (some (97, 1, 0))), (1, vi l1), (2, vi l2), (4, vi l4), (5, vi s0), (6, vi l6), (7, vi l7), (8, vi l8)] 199 [vi (0 : Int32)] Q
          refine sX8_waysOfDelete_199 (d := d) M l1 l2 l4 s0 l6 l7 l8 (0 : Int32) ?_
          refine zpos (show (0 : Int32) = 0 from by decide) ?_
          exact k
        · refine zite k (fun h9973 k => ?_) (fun h9973 k => ?_)
          · show Zm E YX8_waysOfDelete (d + 1) M [(0, vr (some (97, 1, 0))), (1, vi l1), (2, vi l2), (4, vi l4), (5, vi s0), (6, vi l6), (7, vi l7), (8, vi l8)] 199 [vi (1 : Int32)] Q
            refine sX8_waysOfDelete_199 (d := d) M l1 l2 l4 s0 l6 l7 l8 (1 : Int32) ?_
            refine zneg (show ¬ ((1 : Int32) = 0) from by decide) ?_
            exact k
          · show Zm E YX8_waysOfDelete (d + 1) M [(0, vr (some (97, 1, 0))), (1, vi l1), (2, vi l2), (4, vi l4), (5, vi s0), (6, vi l6), (7, vi l7), (8, vi l8)] 199 [vi (0 : Int32)] Q
            refine sX8_waysOfDelete_199 (d := d) M l1 l2 l4 s0 l6 l7 l8 (0 : Int32) ?_
            refine zpos (show (0 : Int32) = 0 from by decide) ?_
            exact k
    · exact k
  · exact k
theorem iX8_waysOfDelete_206 {E : zE} {d : Nat} {Q : zO → zM → Prop} (M : zM) (l1 : Int32) (l2 : Int32) (l4 : Int32) (l5 : Int32) (l6 : Int32) (l7 : Int32) (l8 : Int32) (s0 : Int32) (k : if s0 = (1 : Int32) then (if (64 : Int32) ≤ (gi M 97 8) then (if (lg_cmp ((zlr (gl M 97 144) ((gi M 97 8) - (64 : Int32))) &&& (1 : Int64)) (1 : Int64)) = 0 then ((narrow .boolean (.int (1 : Int32)) = .int (1 : Int32)) ∧ (Zm E YX8_waysOfDelete ((d + 1) + 1) M [(0, vr (some (97, 1, 0))), (1, vi l1), (2, vi l2), (4, vi l4), (5, vi l5), (6, vi l6), (7, vi l7), (8, vi l8), (9, vi (0 : Int32)), (10, vi (0 : Int32))] 231 [] Q)) else ((narrow .boolean (.int (0 : Int32)) = .int (0 : Int32)) ∧ (Zm E YX8_waysOfDelete ((d + 1) + 1) M [(0, vr (some (97, 1, 0))), (1, vi l1), (2, vi l2), (4, vi l4), (5, vi l5), (6, vi l6), (7, vi l7), (8, vi l8), (9, vi (1 : Int32)), (10, vi (0 : Int32))] 231 [] Q))) else (if (lg_cmp ((zlr (gl M 97 143) (gi M 97 8)) &&& (1 : Int64)) (1 : Int64)) = 0 then ((narrow .boolean (.int (1 : Int32)) = .int (1 : Int32)) ∧ (Zm E YX8_waysOfDelete ((d + 1) + 1) M [(0, vr (some (97, 1, 0))), (1, vi l1), (2, vi l2), (4, vi l4), (5, vi l5), (6, vi l6), (7, vi l7), (8, vi l8), (9, vi (0 : Int32)), (10, vi (0 : Int32))] 231 [] Q)) else ((narrow .boolean (.int (0 : Int32)) = .int (0 : Int32)) ∧ (Zm E YX8_waysOfDelete ((d + 1) + 1) M [(0, vr (some (97, 1, 0))), (1, vi l1), (2, vi l2), (4, vi l4), (5, vi l5), (6, vi l6), (7, vi l7), (8, vi l8), (9, vi (1 : Int32)), (10, vi (0 : Int32))] 231 [] Q)))) else (Zm E YX8_waysOfDelete ((d + 1) + 1) M [(0, vr (some (97, 1, 0))), (1, vi l1), (2, vi l2), (4, vi l4), (5, vi l5), (6, vi l6), (7, vi l7), (8, vi l8), (9, vi (0 : Int32)), (10, vi (0 : Int32))] 231 [] Q)) : Zm E YX8_waysOfDelete (d + 2) M [(0, vr (some (97, 1, 0))), (1, vi l1), (2, vi l2), (4, vi l4), (5, vi l5), (6, vi l6), (7, vi l7), (8, vi l8)] 206 [vi s0] Q := by
  refine sX8_waysOfDelete_206 (d := (d + 1)) M l1 l2 l4 l5 l6 l7 l8 s0 ?_
  refine zite k (fun h9975 k => ?_) (fun h9975 k => ?_)
  · refine jX8_hasKey (d := d) M (gi M 97 8) ?_
    refine zite k (fun h9976 k => ?_) (fun h9976 k => ?_)
    · refine zite k (fun h9977 k => ?_) (fun h9977 k => ?_)
      · refine zand k (fun h9978 k => ?_)
        show Zm E YX8_waysOfDelete ((d + 1) + 1) M [(0, vr (some (97, 1, 0))), (1, vi l1), (2, vi l2), (4, vi l4), (5, vi l5), (6, vi l6), (7, vi l7), (8, vi l8)] 218 [vi (1 : Int32)] Q
        refine sX8_waysOfDelete_218 (d := (d + 1)) M l1 l2 l4 l5 l6 l7 l8 (1 : Int32) ?_
        refine zneg (show ¬ ((1 : Int32) = 0) from by decide) ?_
        exact k
      · refine zand k (fun h9979 k => ?_)
        show Zm E YX8_waysOfDelete ((d + 1) + 1) M [(0, vr (some (97, 1, 0))), (1, vi l1), (2, vi l2), (4, vi l4), (5, vi l5), (6, vi l6), (7, vi l7), (8, vi l8)] 218 [vi (0 : Int32)] Q
        refine sX8_waysOfDelete_218 (d := (d + 1)) M l1 l2 l4 l5 l6 l7 l8 (0 : Int32) ?_
        refine zpos (show (0 : Int32) = 0 from by decide) ?_
        exact k
    · refine zite k (fun h9980 k => ?_) (fun h9980 k => ?_)
      · refine zand k (fun h9981 k => ?_)
        show Zm E YX8_waysOfDelete ((d + 1) + 1) M [(0, vr (some (97, 1, 0))), (1, vi l1), (2, vi l2), (4, vi l4), (5, vi l5), (6, vi l6), (7, vi l7), (8, vi l8)] 218 [vi (1 : Int32)] Q
        refine sX8_waysOfDelete_218 (d := (d + 1)) M l1 l2 l4 l5 l6 l7 l8 (1 : Int32) ?_
        refine zneg (show ¬ ((1 : Int32) = 0) from by decide) ?_
        exact k
      · refine zand k (fun h9982 k => ?_)
        show Zm E YX8_waysOfDelete ((d + 1) + 1) M [(0, vr (some (97, 1, 0))), (1, vi l1), (2, vi l2), (4, vi l4), (5, vi l5), (6, vi l6), (7, vi l7), (8, vi l8)] 218 [vi (0 : Int32)] Q
        refine sX8_waysOfDelete_218 (d := (d + 1)) M l1 l2 l4 l5 l6 l7 l8 (0 : Int32) ?_
        refine zpos (show (0 : Int32) = 0 from by decide) ?_
        exact k
  · exact k
theorem iX8_waysOfDelete_246 {E : zE} {d : Nat} {Q : zO → zM → Prop} (M : zM) (l1 : Int32) (l2 : Int32) (l4 : Int32) (l5 : Int32) (l6 : Int32) (l7 : Int32) (l8 : Int32) (l9 : Int32) (l10 : Int32) (s0 : Int32) (k : if s0 = 0 then (Zm E YX8_waysOfDelete (d + 1) M [(0, vr (some (97, 1, 0))), (1, vi l1), (2, vi l2), (4, vi l4), (5, vi l5), (6, vi l6), (7, vi l7), (8, vi l8), (9, vi l9), (10, vi (l10 + (1 : Int32)))] 231 [] Q) else (if l10 = 0 then (if l8 = 0 then (Zm E YX8_of d M (zargs 0 [vr (some (97, 1, 0)), vi (639 : Int32), vi l7]) 0 [] (zma E YX8_waysOfDelete (d + 1) [(0, vr (some (97, 1, 0))), (1, vi l1), (2, vi l2), (4, vi l4), (5, vi l5), (6, vi l6), (7, vi l7), (8, vi l8), (9, vi l9), (10, vi l10)] 269 3 [vr (some (178, 104, 15128))] Q)) else (Zm E YX8_waysOfDelete (d + 1) M [(0, vr (some (97, 1, 0))), (1, vi l1), (2, vi l2), (4, vi l4), (5, vi l5), (6, vi l6), (7, vi l7), (8, vi l8), (9, vi l9), (10, vi (l10 + (1 : Int32)))] 231 [] Q)) else (Zm E YX8_of d M (zargs 0 [vr (some (97, 1, 0)), vi (639 : Int32), vi l7]) 0 [] (zma E YX8_waysOfDelete (d + 1) [(0, vr (some (97, 1, 0))), (1, vi l1), (2, vi l2), (4, vi l4), (5, vi l5), (6, vi l6), (7, vi l7), (8, vi l8), (9, vi l9), (10, vi l10)] 269 3 [vr (some (178, 104, 15128))] Q)))) : Zm E YX8_waysOfDelete (d + 1) M [(0, vr (some (97, 1, 0))), (1, vi l1), (2, vi l2), (4, vi l4), (5, vi l5), (6, vi l6), (7, vi l7), (8, vi l8), (9, vi l9), (10, vi l10)] 246 [vi s0] Q := by
  refine sX8_waysOfDelete_246 (d := d) M l1 l2 l4 l5 l6 l7 l8 l9 l10 s0 ?_
  refine zite k (fun h10041 k => ?_) (fun h10041 k => ?_)
  · refine sX8_waysOfDelete_317 (d := d) M l1 l2 l4 l5 l6 l7 l8 l9 l10 ?_
    exact k
  · refine zite k (fun h10042 k => ?_) (fun h10042 k => ?_)
    · refine zite k (fun h10043 k => ?_) (fun h10043 k => ?_)
      · exact k
      · refine sX8_waysOfDelete_317 (d := d) M l1 l2 l4 l5 l6 l7 l8 l9 l10 ?_
        exact k
    · exact k
theorem iX8_waysOfDelete_272 {E : zE} {d : Nat} {Q : zO → zM → Prop} (M : zM) (l1 : Int32) (l2 : Int32) (l4 : Int32) (l5 : Int32) (l6 : Int32) (l7 : Int32) (l8 : Int32) (l9 : Int32) (l10 : Int32) (s0 : Int32) (k : vp_in s0 15128 ∧ (if (gi M 178 (s0).toNatClampNeg) = 0 then (Zm E YX8_waysOfDelete ((d + 1) + 1) M [(0, vr (some (97, 1, 0))), (1, vi l1), (2, vi l2), (4, vi l4), (5, vi l5), (6, vi l6), (7, vi l7), (8, vi l8), (9, vi l9), (10, vi (l10 + (1 : Int32)))] 231 [] Q) else (if l9 = 0 then (Zm E YX8_addSort (d + 1) M (zargs 0 [vr (some (97, 1, 0)), vi (((635640 : Int32) + (l7 * ((gi M 97 8) + (1 : Int32)))) + l10), vi (512 : Int32)]) 0 [] (zma E YX8_waysOfDelete ((d + 1) + 1) [(0, vr (some (97, 1, 0))), (1, vi l1), (2, vi l2), (4, vi l4), (5, vi l5), (6, vi l6), (7, vi l7), (8, vi l8), (9, vi l9), (10, vi l10)] 314 3 [] Q)) else (vp_in (((635640 : Int32) + (l7 * ((gi M 97 8) + (1 : Int32)))) + l10) 647800 ∧ (Zm E YX8_addSort (d + 1) (sl (sl (sl M 165 ((((635640 : Int32) + (l7 * ((gi M 97 8) + (1 : Int32)))) + l10)).toNatClampNeg (0 : Int64)) 166 ((((635640 : Int32) + (l7 * ((gi M 97 8) + (1 : Int32)))) + l10)).toNatClampNeg (0 : Int64)) 167 ((((635640 : Int32) + (l7 * ((gi M 97 8) + (1 : Int32)))) + l10)).toNatClampNeg (0 : Int64)) (zargs 0 [vr (some (97, 1, 0)), vi (((635640 : Int32) + (l7 * ((gi M 97 8) + (1 : Int32)))) + l10), vi (512 : Int32)]) 0 [] (zma E YX8_waysOfDelete ((d + 1) + 1) [(0, vr (some (97, 1, 0))), (1, vi l1), (2, vi l2), (4, vi l4), (5, vi l5), (6, vi l6), (7, vi l7), (8, vi l8), (9, vi l9), (10, vi l10)] 314 3 [] Q)))))) : Zm E YX8_waysOfDelete (d + 2) M [(0, vr (some (97, 1, 0))), (1, vi l1), (2, vi l2), (4, vi l4), (5, vi l5), (6, vi l6), (7, vi l7), (8, vi l8), (9, vi l9), (10, vi l10)] 272 [vi s0, vr (some (178, 104, 15128))] Q := by
  refine sX8_waysOfDelete_272 (d := (d + 1)) M l1 l2 l4 l5 l6 l7 l8 l9 l10 s0 ?_
  refine zand k (fun h10047 k => ?_)
  refine zite k (fun h10048 k => ?_) (fun h10048 k => ?_)
  · refine sX8_waysOfDelete_317 (d := (d + 1)) M l1 l2 l4 l5 l6 l7 l8 l9 l10 ?_
    exact k
  · refine zite k (fun h10049 k => ?_) (fun h10049 k => ?_)
    · refine sX8_waysOfDelete_299 (d := (d + 1)) M l1 l2 l4 l5 l6 l7 l8 l9 l10 ?_
      refine jX8_field (d := d) M (639 : Int32) l7 l10 ?_
      refine zpos (show (639 : Int32) = (639 : Int32) from by decide) ?_
      show Zm E YX8_waysOfDelete ((d + 1) + 1) M [(0, vr (some (97, 1, 0))), (1, vi l1), (2, vi l2), (4, vi l4), (5, vi l5), (6, vi l6), (7, vi l7), (8, vi l8), (9, vi l9), (10, vi l10)] 311 [vi (((635640 : Int32) + (l7 * ((gi M 97 8) + (1 : Int32)))) + l10), vr (some (97, 1, 0))] Q
      refine sX8_waysOfDelete_311 (d := (d + 1)) M l1 l2 l4 l5 l6 l7 l8 l9 l10 (((635640 : Int32) + (l7 * ((gi M 97 8) + (1 : Int32)))) + l10) ?_
      exact k
    · refine jX8_field (d := d) M (639 : Int32) l7 l10 ?_
      refine zpos (show (639 : Int32) = (639 : Int32) from by decide) ?_
      show Zm E YX8_waysOfDelete ((d + 1) + 1) M [(0, vr (some (97, 1, 0))), (1, vi l1), (2, vi l2), (4, vi l4), (5, vi l5), (6, vi l6), (7, vi l7), (8, vi l8), (9, vi l9), (10, vi l10)] 296 [vi (((635640 : Int32) + (l7 * ((gi M 97 8) + (1 : Int32)))) + l10), vr (some (97, 1, 0))] Q
      refine sX8_waysOfDelete_296 (d := (d + 1)) M l1 l2 l4 l5 l6 l7 l8 l9 l10 (((635640 : Int32) + (l7 * ((gi M 97 8) + (1 : Int32)))) + l10) ?_
      refine jX8_empty (d := (d + 1)) M (((635640 : Int32) + (l7 * ((gi M 97 8) + (1 : Int32)))) + l10) ?_
      refine zand k (fun h10050 k => ?_)
      show Zm E YX8_waysOfDelete ((d + 1) + 1) (sl (sl (sl M 165 ((((635640 : Int32) + (l7 * ((gi M 97 8) + (1 : Int32)))) + l10)).toNatClampNeg (0 : Int64)) 166 ((((635640 : Int32) + (l7 * ((gi M 97 8) + (1 : Int32)))) + l10)).toNatClampNeg (0 : Int64)) 167 ((((635640 : Int32) + (l7 * ((gi M 97 8) + (1 : Int32)))) + l10)).toNatClampNeg (0 : Int64)) [(0, vr (some (97, 1, 0))), (1, vi l1), (2, vi l2), (4, vi l4), (5, vi l5), (6, vi l6), (7, vi l7), (8, vi l8), (9, vi l9), (10, vi l10)] 299 [] Q
      refine sX8_waysOfDelete_299 (d := (d + 1)) (sl (sl (sl M 165 ((((635640 : Int32) + (l7 * ((gi M 97 8) + (1 : Int32)))) + l10)).toNatClampNeg (0 : Int64)) 166 ((((635640 : Int32) + (l7 * ((gi M 97 8) + (1 : Int32)))) + l10)).toNatClampNeg (0 : Int64)) 167 ((((635640 : Int32) + (l7 * ((gi M 97 8) + (1 : Int32)))) + l10)).toNatClampNeg (0 : Int64)) l1 l2 l4 l5 l6 l7 l8 l9 l10 ?_
      refine jX8_field (d := d) (sl (sl (sl M 165 ((((635640 : Int32) + (l7 * ((gi M 97 8) + (1 : Int32)))) + l10)).toNatClampNeg (0 : Int64)) 166 ((((635640 : Int32) + (l7 * ((gi M 97 8) + (1 : Int32)))) + l10)).toNatClampNeg (0 : Int64)) 167 ((((635640 : Int32) + (l7 * ((gi M 97 8) + (1 : Int32)))) + l10)).toNatClampNeg (0 : Int64)) (639 : Int32) l7 l10 ?_
      refine zpos (show (639 : Int32) = (639 : Int32) from by decide) ?_
      show Zm E YX8_waysOfDelete ((d + 1) + 1) (sl (sl (sl M 165 ((((635640 : Int32) + (l7 * ((gi M 97 8) + (1 : Int32)))) + l10)).toNatClampNeg (0 : Int64)) 166 ((((635640 : Int32) + (l7 * ((gi M 97 8) + (1 : Int32)))) + l10)).toNatClampNeg (0 : Int64)) 167 ((((635640 : Int32) + (l7 * ((gi M 97 8) + (1 : Int32)))) + l10)).toNatClampNeg (0 : Int64)) [(0, vr (some (97, 1, 0))), (1, vi l1), (2, vi l2), (4, vi l4), (5, vi l5), (6, vi l6), (7, vi l7), (8, vi l8), (9, vi l9), (10, vi l10)] 311 [vi (((635640 : Int32) + (l7 * ((gi M 97 8) + (1 : Int32)))) + l10), vr (some (97, 1, 0))] Q
      refine sX8_waysOfDelete_311 (d := (d + 1)) (sl (sl (sl M 165 ((((635640 : Int32) + (l7 * ((gi M 97 8) + (1 : Int32)))) + l10)).toNatClampNeg (0 : Int64)) 166 ((((635640 : Int32) + (l7 * ((gi M 97 8) + (1 : Int32)))) + l10)).toNatClampNeg (0 : Int64)) 167 ((((635640 : Int32) + (l7 * ((gi M 97 8) + (1 : Int32)))) + l10)).toNatClampNeg (0 : Int64)) l1 l2 l4 l5 l6 l7 l8 l9 l10 (((635640 : Int32) + (l7 * ((gi M 97 8) + (1 : Int32)))) + l10) ?_
      exact k
theorem iX8_waysOfGet_0 {E : zE} {d : Nat} {Q : zO → zM → Prop} (M : zM)  (k : vp_in (639 : Int32) 640 ∧ (vp_in ((((gi M 172 ((639 : Int32)).toNatClampNeg) + (gi M 171 ((639 : Int32)).toNatClampNeg)) - (1 : Int32)) - (1 : Int32)) 647800 ∧ (vp_in (647740 : Int32) 647800 ∧ (if (((((gl M 165 (((((gi M 172 ((639 : Int32)).toNatClampNeg) + (gi M 171 ((639 : Int32)).toNatClampNeg)) - (1 : Int32)) - (1 : Int32))).toNatClampNeg) &&& (1023 : Int64))).toInt32 &&& (-513 : Int32)) &&& (124 : Int32)) = 0 then (Zm E YX8_keysOf (d + 1) (sl (sl (sl M 165 ((647740 : Int32)).toNatClampNeg (0 : Int64)) 166 ((647740 : Int32)).toNatClampNeg (0 : Int64)) 167 ((647740 : Int32)).toNatClampNeg (0 : Int64)) (zargs 0 [vr (some (97, 1, 0)), vi ((((gi M 172 ((639 : Int32)).toNatClampNeg) + (gi M 171 ((639 : Int32)).toNatClampNeg)) - (1 : Int32)) - (0 : Int32))]) 0 [] (zma E YX8_waysOfGet ((d + 1) + 1) [(0, vr (some (97, 1, 0))), (1, vi ((((gi M 172 ((639 : Int32)).toNatClampNeg) + (gi M 171 ((639 : Int32)).toNatClampNeg)) - (1 : Int32)) - (1 : Int32))), (2, vi ((((gi M 172 ((639 : Int32)).toNatClampNeg) + (gi M 171 ((639 : Int32)).toNatClampNeg)) - (1 : Int32)) - (0 : Int32))), (3, vi (647740 : Int32)), (4, vi ((((gl M 165 (((((gi M 172 ((639 : Int32)).toNatClampNeg) + (gi M 171 ((639 : Int32)).toNatClampNeg)) - (1 : Int32)) - (1 : Int32))).toNatClampNeg) &&& (1023 : Int64))).toInt32 &&& (-513 : Int32)))] 44 3 [] Q)) else (Zm E YX8_addSort (d + 1) (sl (sl (sl M 165 ((647740 : Int32)).toNatClampNeg (0 : Int64)) 166 ((647740 : Int32)).toNatClampNeg (0 : Int64)) 167 ((647740 : Int32)).toNatClampNeg (0 : Int64)) (zargs 0 [vr (some (97, 1, 0)), vi (647740 : Int32), vi (1 : Int32)]) 0 [] (zma E YX8_waysOfGet ((d + 1) + 1) [(0, vr (some (97, 1, 0))), (1, vi ((((gi M 172 ((639 : Int32)).toNatClampNeg) + (gi M 171 ((639 : Int32)).toNatClampNeg)) - (1 : Int32)) - (1 : Int32))), (2, vi ((((gi M 172 ((639 : Int32)).toNatClampNeg) + (gi M 171 ((639 : Int32)).toNatClampNeg)) - (1 : Int32)) - (0 : Int32))), (3, vi (647740 : Int32)), (4, vi ((((gl M 165 (((((gi M 172 ((639 : Int32)).toNatClampNeg) + (gi M 171 ((639 : Int32)).toNatClampNeg)) - (1 : Int32)) - (1 : Int32))).toNatClampNeg) &&& (1023 : Int64))).toInt32 &&& (-513 : Int32)))] 39 3 [] Q)))))) : Zm E YX8_waysOfGet (d + 2) M [(0, vr (some (97, 1, 0)))] 0 [] Q := by
  refine sX8_waysOfGet_0 (d := (d + 1)) M  ?_
  refine jX8_fromTop (d := (d + 1)) M (1 : Int32) ?_
  refine zand k (fun h10052 k => ?_)
  show Zm E YX8_waysOfGet ((d + 1) + 1) M [(0, vr (some (97, 1, 0)))] 5 [vi ((((gi M 172 ((639 : Int32)).toNatClampNeg) + (gi M 171 ((639 : Int32)).toNatClampNeg)) - (1 : Int32)) - (1 : Int32))] Q
  refine sX8_waysOfGet_5 (d := (d + 1)) M ((((gi M 172 ((639 : Int32)).toNatClampNeg) + (gi M 171 ((639 : Int32)).toNatClampNeg)) - (1 : Int32)) - (1 : Int32)) ?_
  refine jX8_fromTop (d := (d + 1)) M (0 : Int32) ?_
  refine ⟨h10052, ?_⟩
  show Zm E YX8_waysOfGet ((d + 1) + 1) M [(0, vr (some (97, 1, 0))), (1, vi ((((gi M 172 ((639 : Int32)).toNatClampNeg) + (gi M 171 ((639 : Int32)).toNatClampNeg)) - (1 : Int32)) - (1 : Int32)))] 11 [vi ((((gi M 172 ((639 : Int32)).toNatClampNeg) + (gi M 171 ((639 : Int32)).toNatClampNeg)) - (1 : Int32)) - (0 : Int32))] Q
  refine sX8_waysOfGet_11 (d := (d + 1)) M ((((gi M 172 ((639 : Int32)).toNatClampNeg) + (gi M 171 ((639 : Int32)).toNatClampNeg)) - (1 : Int32)) - (1 : Int32)) ((((gi M 172 ((639 : Int32)).toNatClampNeg) + (gi M 171 ((639 : Int32)).toNatClampNeg)) - (1 : Int32)) - (0 : Int32)) ?_
  refine jX8_plainly (d := d) M ((((gi M 172 ((639 : Int32)).toNatClampNeg) + (gi M 171 ((639 : Int32)).toNatClampNeg)) - (1 : Int32)) - (1 : Int32)) ?_
  refine zand k (fun h10053 k => ?_)
  show Zm E YX8_waysOfGet ((d + 1) + 1) M [(0, vr (some (97, 1, 0))), (1, vi ((((gi M 172 ((639 : Int32)).toNatClampNeg) + (gi M 171 ((639 : Int32)).toNatClampNeg)) - (1 : Int32)) - (1 : Int32))), (2, vi ((((gi M 172 ((639 : Int32)).toNatClampNeg) + (gi M 171 ((639 : Int32)).toNatClampNeg)) - (1 : Int32)) - (0 : Int32))), (3, vi (647740 : Int32))] 21 [vi ((((gl M 165 (((((gi M 172 ((639 : Int32)).toNatClampNeg) + (gi M 171 ((639 : Int32)).toNatClampNeg)) - (1 : Int32)) - (1 : Int32))).toNatClampNeg) &&& (1023 : Int64))).toInt32 &&& (-513 : Int32))] Q
  refine sX8_waysOfGet_21 (d := (d + 1)) M ((((gi M 172 ((639 : Int32)).toNatClampNeg) + (gi M 171 ((639 : Int32)).toNatClampNeg)) - (1 : Int32)) - (1 : Int32)) ((((gi M 172 ((639 : Int32)).toNatClampNeg) + (gi M 171 ((639 : Int32)).toNatClampNeg)) - (1 : Int32)) - (0 : Int32)) (647740 : Int32) ((((gl M 165 (((((gi M 172 ((639 : Int32)).toNatClampNeg) + (gi M 171 ((639 : Int32)).toNatClampNeg)) - (1 : Int32)) - (1 : Int32))).toNatClampNeg) &&& (1023 : Int64))).toInt32 &&& (-513 : Int32)) ?_
  refine jX8_empty (d := (d + 1)) M (647740 : Int32) ?_
  refine zand k (fun h10054 k => ?_)
  show Zm E YX8_waysOfGet ((d + 1) + 1) (sl (sl (sl M 165 ((647740 : Int32)).toNatClampNeg (0 : Int64)) 166 ((647740 : Int32)).toNatClampNeg (0 : Int64)) 167 ((647740 : Int32)).toNatClampNeg (0 : Int64)) [(0, vr (some (97, 1, 0))), (1, vi ((((gi M 172 ((639 : Int32)).toNatClampNeg) + (gi M 171 ((639 : Int32)).toNatClampNeg)) - (1 : Int32)) - (1 : Int32))), (2, vi ((((gi M 172 ((639 : Int32)).toNatClampNeg) + (gi M 171 ((639 : Int32)).toNatClampNeg)) - (1 : Int32)) - (0 : Int32))), (3, vi (647740 : Int32)), (4, vi ((((gl M 165 (((((gi M 172 ((639 : Int32)).toNatClampNeg) + (gi M 171 ((639 : Int32)).toNatClampNeg)) - (1 : Int32)) - (1 : Int32))).toNatClampNeg) &&& (1023 : Int64))).toInt32 &&& (-513 : Int32)))] 28 [] Q
  refine sX8_waysOfGet_28 (d := (d + 1)) (sl (sl (sl M 165 ((647740 : Int32)).toNatClampNeg (0 : Int64)) 166 ((647740 : Int32)).toNatClampNeg (0 : Int64)) 167 ((647740 : Int32)).toNatClampNeg (0 : Int64)) ((((gi M 172 ((639 : Int32)).toNatClampNeg) + (gi M 171 ((639 : Int32)).toNatClampNeg)) - (1 : Int32)) - (1 : Int32)) ((((gi M 172 ((639 : Int32)).toNatClampNeg) + (gi M 171 ((639 : Int32)).toNatClampNeg)) - (1 : Int32)) - (0 : Int32)) (647740 : Int32) ((((gl M 165 (((((gi M 172 ((639 : Int32)).toNatClampNeg) + (gi M 171 ((639 : Int32)).toNatClampNeg)) - (1 : Int32)) - (1 : Int32))).toNatClampNeg) &&& (1023 : Int64))).toInt32 &&& (-513 : Int32)) ?_
  refine zite k (fun h10055 k => ?_) (fun h10055 k => ?_)
  · refine sX8_waysOfGet_42 (d := (d + 1)) (sl (sl (sl M 165 ((647740 : Int32)).toNatClampNeg (0 : Int64)) 166 ((647740 : Int32)).toNatClampNeg (0 : Int64)) 167 ((647740 : Int32)).toNatClampNeg (0 : Int64)) ((((gi M 172 ((639 : Int32)).toNatClampNeg) + (gi M 171 ((639 : Int32)).toNatClampNeg)) - (1 : Int32)) - (1 : Int32)) ((((gi M 172 ((639 : Int32)).toNatClampNeg) + (gi M 171 ((639 : Int32)).toNatClampNeg)) - (1 : Int32)) - (0 : Int32)) (647740 : Int32) ((((gl M 165 (((((gi M 172 ((639 : Int32)).toNatClampNeg) + (gi M 171 ((639 : Int32)).toNatClampNeg)) - (1 : Int32)) - (1 : Int32))).toNatClampNeg) &&& (1023 : Int64))).toInt32 &&& (-513 : Int32)) ?_
    exact k
  · exact k
theorem iX8_waysOfGet_47 {E : zE} {d : Nat} {Q : zO → zM → Prop} (M : zM) (l1 : Int32) (l2 : Int32) (l3 : Int32) (l4 : Int32) (k : if (l4 &&& (384 : Int32)) = 0 then (Zm E YX8_keysOf d M (zargs 0 [vr (some (97, 1, 0)), vi l2]) 0 [] (zma E YX8_waysOfGet (d + 1) [(0, vr (some (97, 1, 0))), (1, vi l1), (3, vi l3), (4, vi l4)] 64 3 [] Q)) else (Zm E YX8_getOfString d M (zargs 0 [vr (some (97, 1, 0)), vi l1, vi l3]) 0 [] (zma E YX8_waysOfGet (d + 1) [(0, vr (some (97, 1, 0))), (1, vi l1), (2, vi l2), (3, vi l3), (4, vi l4)] 59 3 [] Q))) : Zm E YX8_waysOfGet (d + 1) M [(0, vr (some (97, 1, 0))), (1, vi l1), (2, vi l2), (3, vi l3), (4, vi l4)] 47 [] Q := by
  refine sX8_waysOfGet_47 (d := d) M l1 l2 l3 l4 ?_
  refine zite k (fun h10056 k => ?_) (fun h10056 k => ?_)
  · refine sX8_waysOfGet_62 (d := d) M l1 l2 l3 l4 ?_
    exact k
  · exact k
theorem iX8_waysOfGet_67 {E : zE} {d : Nat} {Q : zO → zM → Prop} (M : zM) (l1 : Int32) (l3 : Int32) (l4 : Int32) (k : vp_in l1 647800 ∧ (if (lg_cmp ((gl M 166 (l1).toNatClampNeg) ||| (gl M 167 (l1).toNatClampNeg)) (0 : Int64)) = 0 then (Zm E YX8_replace d M (zargs 0 [vr (some (97, 1, 0)), vi (2 : Int32), vi l3]) 0 [] (zma E YX8_waysOfGet (d + 1) [(0, vr (some (97, 1, 0))), (4, vi l4), (5, vi (0 : Int32))] 152 3 [] Q)) else (Zm E YX8_readFrom d M (zargs 0 [vr (some (97, 1, 0)), vl (gl M 166 (l1).toNatClampNeg), vl (gl M 167 (l1).toNatClampNeg), vi (l3 + (1 : Int32))]) 0 [] (zma E YX8_waysOfGet (d + 1) [(0, vr (some (97, 1, 0))), (1, vi l1), (3, vi l3), (4, vi l4)] 91 3 [] Q)))) : Zm E YX8_waysOfGet (d + 1) M [(0, vr (some (97, 1, 0))), (1, vi l1), (3, vi l3), (4, vi l4)] 67 [] Q := by
  refine sX8_waysOfGet_67 (d := d) M l1 l3 l4 ?_
  refine jX8_hasLabels (d := d) M l1 ?_
  refine zand k (fun h10059 k => ?_)
  refine zite k (fun h10060 k => ?_) (fun h10060 k => ?_)
  · show Zm E YX8_waysOfGet (d + 1) M [(0, vr (some (97, 1, 0))), (1, vi l1), (3, vi l3), (4, vi l4)] 72 [vi (0 : Int32)] Q
    refine sX8_waysOfGet_72 (d := d) M l1 l3 l4 (0 : Int32) ?_
    refine zpos (show (0 : Int32) = 0 from by decide) ?_
    refine sX8_waysOfGet_117 (d := d) M l1 l3 l4 ?_
    refine jX8_hasLabels (d := d) M l1 ?_
    refine ⟨h10059, ?_⟩
    refine zpos h10060 ?_
    show Zm E YX8_waysOfGet (d + 1) M [(0, vr (some (97, 1, 0))), (3, vi l3), (4, vi l4)] 122 [vi (0 : Int32)] Q
    refine sX8_waysOfGet_122 (d := d) M l3 l4 (0 : Int32) ?_
    refine zpos (show (0 : Int32) = 0 from by decide) ?_
    exact k
  · show Zm E YX8_waysOfGet (d + 1) M [(0, vr (some (97, 1, 0))), (1, vi l1), (3, vi l3), (4, vi l4)] 72 [vi (1 : Int32)] Q
    refine sX8_waysOfGet_72 (d := d) M l1 l3 l4 (1 : Int32) ?_
    refine zneg (show ¬ ((1 : Int32) = 0) from by decide) ?_
    refine ⟨h10059, ?_⟩
    refine ⟨h10059, ?_⟩
    exact k
theorem iX8_waysOfGet_155 {E : zE} {d : Nat} {Q : zO → zM → Prop} (M : zM) (l4 : Int32) (l5 : Int32) (k : if l5 = 0 then (if (l4 &&& (3 : Int32)) = 0 then (Q (.inl none) (si M 97 149 ((gi M 97 149) ||| (0 : Int32)))) else (Zm E YX8_error_2 d (si M 97 149 ((gi M 97 149) ||| (0 : Int32))) (zargs 0 [vr (some (97, 1, 0)), vi (gi M 97 148), vi (6 : Int32)]) 0 [] (zma E YX8_waysOfGet (d + 1) [] 189 3 [] Q))) else (if (l4 &&& (3 : Int32)) = 0 then (Q (.inl none) (si M 97 149 ((gi M 97 149) ||| (8 : Int32)))) else (Zm E YX8_error_2 d (si M 97 149 ((gi M 97 149) ||| (8 : Int32))) (zargs 0 [vr (some (97, 1, 0)), vi (gi M 97 148), vi (6 : Int32)]) 0 [] (zma E YX8_waysOfGet (d + 1) [] 189 3 [] Q)))) : Zm E YX8_waysOfGet (d + 1) M [(0, vr (some (97, 1, 0))), (4, vi l4), (5, vi l5)] 155 [] Q := by
  refine sX8_waysOfGet_155 (d := d) M l4 l5 ?_
  refine zite k (fun h10061 k => ?_) (fun h10061 k => ?_)
  · refine sX8_waysOfGet_171 (d := d) M l4 (0 : Int32) (gi M 97 149) ?_
    refine zite k (fun h10062 k => ?_) (fun h10062 k => ?_)
    · refine sX8_waysOfGet_192 (d := d) (si M 97 149 ((gi M 97 149) ||| (0 : Int32)))  ?_
      exact k
    · exact k
  · refine sX8_waysOfGet_171 (d := d) M l4 (8 : Int32) (gi M 97 149) ?_
    refine zite k (fun h10063 k => ?_) (fun h10063 k => ?_)
    · refine sX8_waysOfGet_192 (d := d) (si M 97 149 ((gi M 97 149) ||| (8 : Int32)))  ?_
      exact k
    · exact k
theorem iX8_waysOfGet_102 {E : zE} {d : Nat} {Q : zO → zM → Prop} (M : zM) (l1 : Int32) (l3 : Int32) (l4 : Int32) (s0 : Int32) (k : if (gi M 97 145) = 0 then (vp_in l1 647800 ∧ (if (lg_cmp ((gl M 166 (l1).toNatClampNeg) ||| (gl M 167 (l1).toNatClampNeg)) (0 : Int64)) = 0 then (Zm E YX8_replace (d + 1) M (zargs 0 [vr (some (97, 1, 0)), vi (2 : Int32), vi l3]) 0 [] (zma E YX8_waysOfGet ((d + 1) + 1) [(0, vr (some (97, 1, 0))), (4, vi l4), (5, vi (0 : Int32))] 152 3 [] Q)) else (vp_in l3 647800 ∧ (if ((((gl M 165 (l3).toNatClampNeg) &&& (1023 : Int64))).toInt32 &&& (-513 : Int32)) = (1 : Int32) then (if (lg_cmp ((gl M 166 (l3).toNatClampNeg) ||| (gl M 167 (l3).toNatClampNeg)) (0 : Int64)) = 0 then (Zm E YX8_replace (d + 1) M (zargs 0 [vr (some (97, 1, 0)), vi (2 : Int32), vi l3]) 0 [] (zma E YX8_waysOfGet ((d + 1) + 1) [(0, vr (some (97, 1, 0))), (4, vi l4), (5, vi (1 : Int32))] 152 3 [] Q)) else (Zm E YX8_replace (d + 1) M (zargs 0 [vr (some (97, 1, 0)), vi (2 : Int32), vi l3]) 0 [] (zma E YX8_waysOfGet ((d + 1) + 1) [(0, vr (some (97, 1, 0))), (4, vi l4), (5, vi (0 : Int32))] 152 3 [] Q))) else (Zm E YX8_replace (d + 1) M (zargs 0 [vr (some (97, 1, 0)), vi (2 : Int32), vi l3]) 0 [] (zma E YX8_waysOfGet ((d + 1) + 1) [(0, vr (some (97, 1, 0))), (4, vi l4), (5, vi (0 : Int32))] 152 3 [] Q)))))) else (Zm E YX8_addSort (d + 1) M (zargs 0 [vr (some (97, 1, 0)), vi l3, vi (1 : Int32)]) 0 [] (zma E YX8_waysOfGet ((d + 1) + 1) [(0, vr (some (97, 1, 0))), (1, vi l1), (3, vi l3), (4, vi l4)] 114 3 [] Q))) : Zm E YX8_waysOfGet (d + 2) M [(0, vr (some (97, 1, 0))), (1, vi l1), (3, vi l3), (4, vi l4)] 102 [vi s0] Q := by
  refine sX8_waysOfGet_102 (d := (d + 1)) M l1 l3 l4 s0 ?_
  refine zite k (fun h10067 k => ?_) (fun h10067 k => ?_)
  · refine sX8_waysOfGet_117 (d := (d + 1)) M l1 l3 l4 ?_
    refine jX8_hasLabels (d := (d + 1)) M l1 ?_
    refine zand k (fun h10068 k => ?_)
    refine zite k (fun h10069 k => ?_) (fun h10069 k => ?_)
    · show Zm E YX8_waysOfGet ((d + 1) + 1) M [(0, vr (some (97, 1, 0))), (3, vi l3), (4, vi l4)] 122 [vi (0 : Int32)] Q
      refine sX8_waysOfGet_122 (d := (d + 1)) M l3 l4 (0 : Int32) ?_
      refine zpos (show (0 : Int32) = 0 from by decide) ?_
      exact k
    · show Zm E YX8_waysOfGet ((d + 1) + 1) M [(0, vr (some (97, 1, 0))), (3, vi l3), (4, vi l4)] 122 [vi (1 : Int32)] Q
      refine sX8_waysOfGet_122 (d := (d + 1)) M l3 l4 (1 : Int32) ?_
      refine zneg (show ¬ ((1 : Int32) = 0) from by decide) ?_
      refine jX8_plainly (d := d) M l3 ?_
      refine zand k (fun h10070 k => ?_)
      show Zm E YX8_waysOfGet ((d + 1) + 1) M [(0, vr (some (97, 1, 0))), (3, vi l3), (4, vi l4)] 130 [vi ((((gl M 165 (l3).toNatClampNeg) &&& (1023 : Int64))).toInt32 &&& (-513 : Int32))] Q
      refine sX8_waysOfGet_130 (d := (d + 1)) M l3 l4 ((((gl M 165 (l3).toNatClampNeg) &&& (1023 : Int64))).toInt32 &&& (-513 : Int32)) ?_
      refine zite k (fun h10071 k => ?_) (fun h10071 k => ?_)
      · refine jX8_hasLabels (d := (d + 1)) M l3 ?_
        refine ⟨h10070, ?_⟩
        refine zite k (fun h10072 k => ?_) (fun h10072 k => ?_)
        · show Zm E YX8_waysOfGet ((d + 1) + 1) M [(0, vr (some (97, 1, 0))), (3, vi l3), (4, vi l4)] 139 [vi (0 : Int32)] Q
          refine sX8_waysOfGet_139 (d := (d + 1)) M l3 l4 (0 : Int32) ?_
          refine zpos (show (0 : Int32) = 0 from by decide) ?_
          exact k
        · show Zm E YX8_waysOfGet ((d + 1) + 1) M [(0, vr (some (97, 1, 0))), (3, vi l3), (4, vi l4)] 139 [vi (1 : Int32)] Q
          refine sX8_waysOfGet_139 (d := (d + 1)) M l3 l4 (1 : Int32) ?_
          refine zneg (show ¬ ((1 : Int32) = 0) from by decide) ?_
          exact k
      · exact k
  · exact k
theorem iX8_waysOfGet_117 {E : zE} {d : Nat} {Q : zO → zM → Prop} (M : zM) (l1 : Int32) (l3 : Int32) (l4 : Int32) (k : vp_in l1 647800 ∧ (if (lg_cmp ((gl M 166 (l1).toNatClampNeg) ||| (gl M 167 (l1).toNatClampNeg)) (0 : Int64)) = 0 then (Zm E YX8_replace (d + 1) M (zargs 0 [vr (some (97, 1, 0)), vi (2 : Int32), vi l3]) 0 [] (zma E YX8_waysOfGet ((d + 1) + 1) [(0, vr (some (97, 1, 0))), (4, vi l4), (5, vi (0 : Int32))] 152 3 [] Q)) else (vp_in l3 647800 ∧ (if ((((gl M 165 (l3).toNatClampNeg) &&& (1023 : Int64))).toInt32 &&& (-513 : Int32)) = (1 : Int32) then (if (lg_cmp ((gl M 166 (l3).toNatClampNeg) ||| (gl M 167 (l3).toNatClampNeg)) (0 : Int64)) = 0 then (Zm E YX8_replace (d + 1) M (zargs 0 [vr (some (97, 1, 0)), vi (2 : Int32), vi l3]) 0 [] (zma E YX8_waysOfGet ((d + 1) + 1) [(0, vr (some (97, 1, 0))), (4, vi l4), (5, vi (1 : Int32))] 152 3 [] Q)) else (Zm E YX8_replace (d + 1) M (zargs 0 [vr (some (97, 1, 0)), vi (2 : Int32), vi l3]) 0 [] (zma E YX8_waysOfGet ((d + 1) + 1) [(0, vr (some (97, 1, 0))), (4, vi l4), (5, vi (0 : Int32))] 152 3 [] Q))) else (Zm E YX8_replace (d + 1) M (zargs 0 [vr (some (97, 1, 0)), vi (2 : Int32), vi l3]) 0 [] (zma E YX8_waysOfGet ((d + 1) + 1) [(0, vr (some (97, 1, 0))), (4, vi l4), (5, vi (0 : Int32))] 152 3 [] Q)))))) : Zm E YX8_waysOfGet (d + 2) M [(0, vr (some (97, 1, 0))), (1, vi l1), (3, vi l3), (4, vi l4)] 117 [] Q := by
  refine sX8_waysOfGet_117 (d := (d + 1)) M l1 l3 l4 ?_
  refine jX8_hasLabels (d := (d + 1)) M l1 ?_
  refine zand k (fun h10075 k => ?_)
  refine zite k (fun h10076 k => ?_) (fun h10076 k => ?_)
  · show Zm E YX8_waysOfGet ((d + 1) + 1) M [(0, vr (some (97, 1, 0))), (3, vi l3), (4, vi l4)] 122 [vi (0 : Int32)] Q
    refine sX8_waysOfGet_122 (d := (d + 1)) M l3 l4 (0 : Int32) ?_
    refine zpos (show (0 : Int32) = 0 from by decide) ?_
    exact k
  · show Zm E YX8_waysOfGet ((d + 1) + 1) M [(0, vr (some (97, 1, 0))), (3, vi l3), (4, vi l4)] 122 [vi (1 : Int32)] Q
    refine sX8_waysOfGet_122 (d := (d + 1)) M l3 l4 (1 : Int32) ?_
    refine zneg (show ¬ ((1 : Int32) = 0) from by decide) ?_
    refine jX8_plainly (d := d) M l3 ?_
    refine zand k (fun h10077 k => ?_)
    show Zm E YX8_waysOfGet ((d + 1) + 1) M [(0, vr (some (97, 1, 0))), (3, vi l3), (4, vi l4)] 130 [vi ((((gl M 165 (l3).toNatClampNeg) &&& (1023 : Int64))).toInt32 &&& (-513 : Int32))] Q
    refine sX8_waysOfGet_130 (d := (d + 1)) M l3 l4 ((((gl M 165 (l3).toNatClampNeg) &&& (1023 : Int64))).toInt32 &&& (-513 : Int32)) ?_
    refine zite k (fun h10078 k => ?_) (fun h10078 k => ?_)
    · refine jX8_hasLabels (d := (d + 1)) M l3 ?_
      refine ⟨h10077, ?_⟩
      refine zite k (fun h10079 k => ?_) (fun h10079 k => ?_)
      · show Zm E YX8_waysOfGet ((d + 1) + 1) M [(0, vr (some (97, 1, 0))), (3, vi l3), (4, vi l4)] 139 [vi (0 : Int32)] Q
        refine sX8_waysOfGet_139 (d := (d + 1)) M l3 l4 (0 : Int32) ?_
        refine zpos (show (0 : Int32) = 0 from by decide) ?_
        exact k
      · show Zm E YX8_waysOfGet ((d + 1) + 1) M [(0, vr (some (97, 1, 0))), (3, vi l3), (4, vi l4)] 139 [vi (1 : Int32)] Q
        refine sX8_waysOfGet_139 (d := (d + 1)) M l3 l4 (1 : Int32) ?_
        refine zneg (show ¬ ((1 : Int32) = 0) from by decide) ?_
        exact k
    · exact k
theorem iX8_waysOfPut_0 {E : zE} {d : Nat} {Q : zO → zM → Prop} (M : zM)  (k : vp_in (639 : Int32) 640 ∧ (vp_in ((((gi M 172 ((639 : Int32)).toNatClampNeg) + (gi M 171 ((639 : Int32)).toNatClampNeg)) - (1 : Int32)) - (2 : Int32)) 647800 ∧ (Zm E YX8_keysOf (d + 1) M (zargs 0 [vr (some (97, 1, 0)), vi ((((gi M 172 ((639 : Int32)).toNatClampNeg) + (gi M 171 ((639 : Int32)).toNatClampNeg)) - (1 : Int32)) - (1 : Int32))]) 0 [] (zma E YX8_waysOfPut ((d + 1) + 1) [(0, vr (some (97, 1, 0))), (1, vi ((((gi M 172 ((639 : Int32)).toNatClampNeg) + (gi M 171 ((639 : Int32)).toNatClampNeg)) - (1 : Int32)) - (2 : Int32))), (2, vi ((((gi M 172 ((639 : Int32)).toNatClampNeg) + (gi M 171 ((639 : Int32)).toNatClampNeg)) - (1 : Int32)) - (0 : Int32))), (3, vi ((((gl M 165 (((((gi M 172 ((639 : Int32)).toNatClampNeg) + (gi M 171 ((639 : Int32)).toNatClampNeg)) - (1 : Int32)) - (2 : Int32))).toNatClampNeg) &&& (1023 : Int64))).toInt32 &&& (-513 : Int32)))] 24 3 [] Q)))) : Zm E YX8_waysOfPut (d + 2) M [(0, vr (some (97, 1, 0)))] 0 [] Q := by
  refine sX8_waysOfPut_0 (d := (d + 1)) M  ?_
  refine jX8_fromTop (d := (d + 1)) M (2 : Int32) ?_
  refine zand k (fun h10081 k => ?_)
  show Zm E YX8_waysOfPut ((d + 1) + 1) M [(0, vr (some (97, 1, 0)))] 5 [vi ((((gi M 172 ((639 : Int32)).toNatClampNeg) + (gi M 171 ((639 : Int32)).toNatClampNeg)) - (1 : Int32)) - (2 : Int32))] Q
  refine sX8_waysOfPut_5 (d := (d + 1)) M ((((gi M 172 ((639 : Int32)).toNatClampNeg) + (gi M 171 ((639 : Int32)).toNatClampNeg)) - (1 : Int32)) - (2 : Int32)) ?_
  refine jX8_fromTop (d := (d + 1)) M (0 : Int32) ?_
  refine ⟨h10081, ?_⟩
  show Zm E YX8_waysOfPut ((d + 1) + 1) M [(0, vr (some (97, 1, 0))), (1, vi ((((gi M 172 ((639 : Int32)).toNatClampNeg) + (gi M 171 ((639 : Int32)).toNatClampNeg)) - (1 : Int32)) - (2 : Int32)))] 11 [vi ((((gi M 172 ((639 : Int32)).toNatClampNeg) + (gi M 171 ((639 : Int32)).toNatClampNeg)) - (1 : Int32)) - (0 : Int32))] Q
  refine sX8_waysOfPut_11 (d := (d + 1)) M ((((gi M 172 ((639 : Int32)).toNatClampNeg) + (gi M 171 ((639 : Int32)).toNatClampNeg)) - (1 : Int32)) - (2 : Int32)) ((((gi M 172 ((639 : Int32)).toNatClampNeg) + (gi M 171 ((639 : Int32)).toNatClampNeg)) - (1 : Int32)) - (0 : Int32)) ?_
  refine jX8_plainly (d := d) M ((((gi M 172 ((639 : Int32)).toNatClampNeg) + (gi M 171 ((639 : Int32)).toNatClampNeg)) - (1 : Int32)) - (2 : Int32)) ?_
  refine zand k (fun h10082 k => ?_)
  show Zm E YX8_waysOfPut ((d + 1) + 1) M [(0, vr (some (97, 1, 0))), (1, vi ((((gi M 172 ((639 : Int32)).toNatClampNeg) + (gi M 171 ((639 : Int32)).toNatClampNeg)) - (1 : Int32)) - (2 : Int32))), (2, vi ((((gi M 172 ((639 : Int32)).toNatClampNeg) + (gi M 171 ((639 : Int32)).toNatClampNeg)) - (1 : Int32)) - (0 : Int32)))] 17 [vi ((((gl M 165 (((((gi M 172 ((639 : Int32)).toNatClampNeg) + (gi M 171 ((639 : Int32)).toNatClampNeg)) - (1 : Int32)) - (2 : Int32))).toNatClampNeg) &&& (1023 : Int64))).toInt32 &&& (-513 : Int32))] Q
  refine sX8_waysOfPut_17 (d := (d + 1)) M ((((gi M 172 ((639 : Int32)).toNatClampNeg) + (gi M 171 ((639 : Int32)).toNatClampNeg)) - (1 : Int32)) - (2 : Int32)) ((((gi M 172 ((639 : Int32)).toNatClampNeg) + (gi M 171 ((639 : Int32)).toNatClampNeg)) - (1 : Int32)) - (0 : Int32)) ((((gl M 165 (((((gi M 172 ((639 : Int32)).toNatClampNeg) + (gi M 171 ((639 : Int32)).toNatClampNeg)) - (1 : Int32)) - (2 : Int32))).toNatClampNeg) &&& (1023 : Int64))).toInt32 &&& (-513 : Int32)) ?_
  refine jX8_fromTop (d := (d + 1)) M (1 : Int32) ?_
  refine ⟨h10081, ?_⟩
  show Zm E YX8_waysOfPut ((d + 1) + 1) M [(0, vr (some (97, 1, 0))), (1, vi ((((gi M 172 ((639 : Int32)).toNatClampNeg) + (gi M 171 ((639 : Int32)).toNatClampNeg)) - (1 : Int32)) - (2 : Int32))), (2, vi ((((gi M 172 ((639 : Int32)).toNatClampNeg) + (gi M 171 ((639 : Int32)).toNatClampNeg)) - (1 : Int32)) - (0 : Int32))), (3, vi ((((gl M 165 (((((gi M 172 ((639 : Int32)).toNatClampNeg) + (gi M 171 ((639 : Int32)).toNatClampNeg)) - (1 : Int32)) - (2 : Int32))).toNatClampNeg) &&& (1023 : Int64))).toInt32 &&& (-513 : Int32)))] 24 [vi ((((gi M 172 ((639 : Int32)).toNatClampNeg) + (gi M 171 ((639 : Int32)).toNatClampNeg)) - (1 : Int32)) - (1 : Int32)), vr (some (97, 1, 0))] Q
  refine sX8_waysOfPut_24 (d := (d + 1)) M ((((gi M 172 ((639 : Int32)).toNatClampNeg) + (gi M 171 ((639 : Int32)).toNatClampNeg)) - (1 : Int32)) - (2 : Int32)) ((((gi M 172 ((639 : Int32)).toNatClampNeg) + (gi M 171 ((639 : Int32)).toNatClampNeg)) - (1 : Int32)) - (0 : Int32)) ((((gl M 165 (((((gi M 172 ((639 : Int32)).toNatClampNeg) + (gi M 171 ((639 : Int32)).toNatClampNeg)) - (1 : Int32)) - (2 : Int32))).toNatClampNeg) &&& (1023 : Int64))).toInt32 &&& (-513 : Int32)) ((((gi M 172 ((639 : Int32)).toNatClampNeg) + (gi M 171 ((639 : Int32)).toNatClampNeg)) - (1 : Int32)) - (1 : Int32)) ?_
  exact k
theorem iX8_waysOfPut_27 {E : zE} {d : Nat} {Q : zO → zM → Prop} (M : zM) (l1 : Int32) (l2 : Int32) (l3 : Int32) (k : if (l3 &&& (-4 : Int32)) = 0 then (vp_in l1 647800 ∧ (if (lg_cmp ((gl M 166 (l1).toNatClampNeg) ||| (gl M 167 (l1).toNatClampNeg)) (0 : Int64)) = 0 then (Zm E YX8_waysOfPut (d + 1) M [(0, vr (some (97, 1, 0))), (1, vi l1), (2, vi l2), (3, vi l3)] 47 [vi (0 : Int32)] Q) else (Zm E YX8_waysOfPut (d + 1) M [(0, vr (some (97, 1, 0))), (1, vi l1), (2, vi l2), (3, vi l3)] 47 [vi (1 : Int32)] Q))) else (Zm E YX8_waysOfPut (d + 1) M [(0, vr (some (97, 1, 0))), (1, vi l1), (2, vi l2), (3, vi l3)] 47 [vi (1 : Int32)] Q)) : Zm E YX8_waysOfPut (d + 1) M [(0, vr (some (97, 1, 0))), (1, vi l1), (2, vi l2), (3, vi l3)] 27 [] Q := by
  refine sX8_waysOfPut_27 (d := d) M l1 l2 l3 ?_
  refine zite k (fun h10083 k => ?_) (fun h10083 k => ?_)
  · refine jX8_hasLabels (d := d) M l1 ?_
    refine zand k (fun h10084 k => ?_)
    refine zite k (fun h10085 k => ?_) (fun h10085 k => ?_)
    · show Zm E YX8_waysOfPut (d + 1) M [(0, vr (some (97, 1, 0))), (1, vi l1), (2, vi l2), (3, vi l3)] 39 [vi (0 : Int32)] Q
      refine sX8_waysOfPut_39 (d := d) M l1 l2 l3 (0 : Int32) ?_
      refine zpos (show (0 : Int32) = 0 from by decide) ?_
      exact k
    · show Zm E YX8_waysOfPut (d + 1) M [(0, vr (some (97, 1, 0))), (1, vi l1), (2, vi l2), (3, vi l3)] 39 [vi (1 : Int32)] Q
      refine sX8_waysOfPut_39 (d := d) M l1 l2 l3 (1 : Int32) ?_
      refine zneg (show ¬ ((1 : Int32) = 0) from by decide) ?_
      exact k
  · exact k
theorem iX8_waysOfPut_47 {E : zE} {d : Nat} {Q : zO → zM → Prop} (M : zM) (l1 : Int32) (l2 : Int32) (l3 : Int32) (s0 : Int32) (k : if s0 = 0 then (if (l3 &&& (3 : Int32)) = 0 then (Q (.inl none) M) else (Zm E YX8_error_2 d M (zargs 0 [vr (some (97, 1, 0)), vi (gi M 97 148), vi (6 : Int32)]) 0 [] (zma E YX8_waysOfPut (d + 1) [] 257 3 [] Q))) else (vp_in l1 647800 ∧ (if l3 = 0 then (Zm E YX8_writeTo d M (zargs 0 [vr (some (97, 1, 0)), vl (gl M 166 (l1).toNatClampNeg), vl (gl M 167 (l1).toNatClampNeg), vi l2, vi (1 : Int32), vi (1 : Int32)]) 0 [] (zma E YX8_waysOfPut (d + 1) [(0, vr (some (97, 1, 0))), (1, vi l1), (2, vi l2), (3, vi l3)] 78 3 [] Q)) else (Zm E YX8_writeTo d M (zargs 0 [vr (some (97, 1, 0)), vl (gl M 166 (l1).toNatClampNeg), vl (gl M 167 (l1).toNatClampNeg), vi l2, vi (0 : Int32), vi (1 : Int32)]) 0 [] (zma E YX8_waysOfPut (d + 1) [(0, vr (some (97, 1, 0))), (1, vi l1), (2, vi l2), (3, vi l3)] 78 3 [] Q))))) : Zm E YX8_waysOfPut (d + 1) M [(0, vr (some (97, 1, 0))), (1, vi l1), (2, vi l2), (3, vi l3)] 47 [vi s0] Q := by
  refine sX8_waysOfPut_47 (d := d) M l1 l2 l3 s0 ?_
  refine zite k (fun h10086 k => ?_) (fun h10086 k => ?_)
  · refine sX8_waysOfPut_244 (d := d) M l3 ?_
    refine zite k (fun h10087 k => ?_) (fun h10087 k => ?_)
    · refine sX8_waysOfPut_260 (d := d) M  ?_
      exact k
    · exact k
  · refine zand k (fun h10088 k => ?_)
    refine ⟨h10088, ?_⟩
    exact k
theorem iX8_waysOfPut_81 {E : zE} {d : Nat} {Q : zO → zM → Prop} (M : zM) (l1 : Int32) (l2 : Int32) (l3 : Int32) (k : if (64 : Int32) ≤ (gi M 97 8) then (if (lg_cmp ((zlr (gl M 97 144) ((gi M 97 8) - (64 : Int32))) &&& (1 : Int64)) (1 : Int64)) = 0 then ((narrow .boolean (.int (1 : Int32)) = .int (1 : Int32)) ∧ (Zm E YX8_waysOfPut ((d + 1) + 1) M [(0, vr (some (97, 1, 0))), (1, vi l1), (2, vi l2), (3, vi l3), (5, vi (1 : Int32)), (6, vi (0 : Int32))] 94 [] Q)) else ((narrow .boolean (.int (0 : Int32)) = .int (0 : Int32)) ∧ (Zm E YX8_waysOfPut ((d + 1) + 1) M [(0, vr (some (97, 1, 0))), (1, vi l1), (2, vi l2), (3, vi l3), (5, vi (0 : Int32)), (6, vi (0 : Int32))] 94 [] Q))) else (if (lg_cmp ((zlr (gl M 97 143) (gi M 97 8)) &&& (1 : Int64)) (1 : Int64)) = 0 then ((narrow .boolean (.int (1 : Int32)) = .int (1 : Int32)) ∧ (Zm E YX8_waysOfPut ((d + 1) + 1) M [(0, vr (some (97, 1, 0))), (1, vi l1), (2, vi l2), (3, vi l3), (5, vi (1 : Int32)), (6, vi (0 : Int32))] 94 [] Q)) else ((narrow .boolean (.int (0 : Int32)) = .int (0 : Int32)) ∧ (Zm E YX8_waysOfPut ((d + 1) + 1) M [(0, vr (some (97, 1, 0))), (1, vi l1), (2, vi l2), (3, vi l3), (5, vi (0 : Int32)), (6, vi (0 : Int32))] 94 [] Q)))) : Zm E YX8_waysOfPut (d + 2) M [(0, vr (some (97, 1, 0))), (1, vi l1), (2, vi l2), (3, vi l3)] 81 [] Q := by
  refine sX8_waysOfPut_81 (d := (d + 1)) M l1 l2 l3 ?_
  refine jX8_hasKey (d := d) M (gi M 97 8) ?_
  refine zite k (fun h10090 k => ?_) (fun h10090 k => ?_)
  · refine zite k (fun h10091 k => ?_) (fun h10091 k => ?_)
    · refine zand k (fun h10092 k => ?_)
      show Zm E YX8_waysOfPut ((d + 1) + 1) M [(0, vr (some (97, 1, 0))), (1, vi l1), (2, vi l2), (3, vi l3)] 89 [vi (1 : Int32)] Q
      refine sX8_waysOfPut_89 (d := (d + 1)) M l1 l2 l3 (1 : Int32) ?_
      exact k
    · refine zand k (fun h10093 k => ?_)
      show Zm E YX8_waysOfPut ((d + 1) + 1) M [(0, vr (some (97, 1, 0))), (1, vi l1), (2, vi l2), (3, vi l3)] 89 [vi (0 : Int32)] Q
      refine sX8_waysOfPut_89 (d := (d + 1)) M l1 l2 l3 (0 : Int32) ?_
      exact k
  · refine zite k (fun h10094 k => ?_) (fun h10094 k => ?_)
    · refine zand k (fun h10095 k => ?_)
      show Zm E YX8_waysOfPut ((d + 1) + 1) M [(0, vr (some (97, 1, 0))), (1, vi l1), (2, vi l2), (3, vi l3)] 89 [vi (1 : Int32)] Q
      refine sX8_waysOfPut_89 (d := (d + 1)) M l1 l2 l3 (1 : Int32) ?_
      exact k
    · refine zand k (fun h10096 k => ?_)
      show Zm E YX8_waysOfPut ((d + 1) + 1) M [(0, vr (some (97, 1, 0))), (1, vi l1), (2, vi l2), (3, vi l3)] 89 [vi (0 : Int32)] Q
      refine sX8_waysOfPut_89 (d := (d + 1)) M l1 l2 l3 (0 : Int32) ?_
      exact k
theorem iX8_waysOfPut_94 {E : zE} {d : Nat} {Q : zO → zM → Prop} (M : zM) (l1 : Int32) (l2 : Int32) (l3 : Int32) (l5 : Int32) (l6 : Int32) (k : if (gi M 97 8) ≤ l6 then (Zm E YX8_waysOfPut ((d + 1) + 1) M [(0, vr (some (97, 1, 0))), (1, vi l1), (2, vi l2), (3, vi l3), (5, vi l5), (6, vi (0 : Int32))] 143 [] Q) else (if l5 = 0 then (if (64 : Int32) ≤ l6 then (if (lg_cmp ((zlr (gl M 97 144) (l6 - (64 : Int32))) &&& (1 : Int64)) (1 : Int64)) = 0 then ((narrow .boolean (.int (1 : Int32)) = .int (1 : Int32)) ∧ (vp_in l6 90 ∧ (if (gi M 185 (l6).toNatClampNeg) = 0 then (Zm E YX8_waysOfPut ((d + 1) + 1) M [(0, vr (some (97, 1, 0))), (1, vi l1), (2, vi l2), (3, vi l3), (5, vi (0 : Int32)), (6, vi (l6 + (1 : Int32)))] 94 [] Q) else (Zm E YX8_waysOfPut ((d + 1) + 1) M [(0, vr (some (97, 1, 0))), (1, vi l1), (2, vi l2), (3, vi l3), (5, vi (1 : Int32)), (6, vi (l6 + (1 : Int32)))] 94 [] Q)))) else ((narrow .boolean (.int (0 : Int32)) = .int (0 : Int32)) ∧ (Zm E YX8_waysOfPut ((d + 1) + 1) M [(0, vr (some (97, 1, 0))), (1, vi l1), (2, vi l2), (3, vi l3), (5, vi (0 : Int32)), (6, vi (l6 + (1 : Int32)))] 94 [] Q))) else (if (lg_cmp ((zlr (gl M 97 143) l6) &&& (1 : Int64)) (1 : Int64)) = 0 then ((narrow .boolean (.int (1 : Int32)) = .int (1 : Int32)) ∧ (vp_in l6 90 ∧ (if (gi M 185 (l6).toNatClampNeg) = 0 then (Zm E YX8_waysOfPut ((d + 1) + 1) M [(0, vr (some (97, 1, 0))), (1, vi l1), (2, vi l2), (3, vi l3), (5, vi (0 : Int32)), (6, vi (l6 + (1 : Int32)))] 94 [] Q) else (Zm E YX8_waysOfPut ((d + 1) + 1) M [(0, vr (some (97, 1, 0))), (1, vi l1), (2, vi l2), (3, vi l3), (5, vi (1 : Int32)), (6, vi (l6 + (1 : Int32)))] 94 [] Q)))) else ((narrow .boolean (.int (0 : Int32)) = .int (0 : Int32)) ∧ (Zm E YX8_waysOfPut ((d + 1) + 1) M [(0, vr (some (97, 1, 0))), (1, vi l1), (2, vi l2), (3, vi l3), (5, vi (0 : Int32)), (6, vi (l6 + (1 : Int32)))] 94 [] Q)))) else (Zm E YX8_waysOfPut ((d + 1) + 1) M [(0, vr (some (97, 1, 0))), (1, vi l1), (2, vi l2), (3, vi l3), (5, vi (1 : Int32)), (6, vi (l6 + (1 : Int32)))] 94 [] Q))) : Zm E YX8_waysOfPut (d + 2) M [(0, vr (some (97, 1, 0))), (1, vi l1), (2, vi l2), (3, vi l3), (5, vi l5), (6, vi l6)] 94 [] Q := by
  refine sX8_waysOfPut_94 (d := (d + 1)) M l1 l2 l3 l5 l6 ?_
  refine zite k (fun h10099 k => ?_) (fun h10099 k => ?_)
  · exact k
  · refine zite k (fun h10100 k => ?_) (fun h10100 k => ?_)
    · refine jX8_hasKey (d := d) M l6 ?_
      refine zite k (fun h10101 k => ?_) (fun h10101 k => ?_)
      · refine zite k (fun h10102 k => ?_) (fun h10102 k => ?_)
        · refine zand k (fun h10103 k => ?_)
          show Zm E YX8_waysOfPut ((d + 1) + 1) M [(0, vr (some (97, 1, 0))), (1, vi l1), (2, vi l2), (3, vi l3), (6, vi l6)] 114 [vi (1 : Int32)] Q
          refine sX8_waysOfPut_114 (d := (d + 1)) M l1 l2 l3 l6 (1 : Int32) ?_
          refine zneg (show ¬ ((1 : Int32) = 0) from by decide) ?_
          exact k
        · refine zand k (fun h10106 k => ?_)
          show Zm E YX8_waysOfPut ((d + 1) + 1) M [(0, vr (some (97, 1, 0))), (1, vi l1), (2, vi l2), (3, vi l3), (6, vi l6)] 114 [vi (0 : Int32)] Q
          refine sX8_waysOfPut_114 (d := (d + 1)) M l1 l2 l3 l6 (0 : Int32) ?_
          refine zpos (show (0 : Int32) = 0 from by decide) ?_
          exact k
      · refine zite k (fun h10107 k => ?_) (fun h10107 k => ?_)
        · refine zand k (fun h10108 k => ?_)
          show Zm E YX8_waysOfPut ((d + 1) + 1) M [(0, vr (some (97, 1, 0))), (1, vi l1), (2, vi l2), (3, vi l3), (6, vi l6)] 114 [vi (1 : Int32)] Q
          refine sX8_waysOfPut_114 (d := (d + 1)) M l1 l2 l3 l6 (1 : Int32) ?_
          refine zneg (show ¬ ((1 : Int32) = 0) from by decide) ?_
          exact k
        · refine zand k (fun h10111 k => ?_)
          show Zm E YX8_waysOfPut ((d + 1) + 1) M [(0, vr (some (97, 1, 0))), (1, vi l1), (2, vi l2), (3, vi l3), (6, vi l6)] 114 [vi (0 : Int32)] Q
          refine sX8_waysOfPut_114 (d := (d + 1)) M l1 l2 l3 l6 (0 : Int32) ?_
          refine zpos (show (0 : Int32) = 0 from by decide) ?_
          exact k
    · exact k
theorem iX8_waysOfPut_143 {E : zE} {d : Nat} {Q : zO → zM → Prop} (M : zM) (l1 : Int32) (l2 : Int32) (l3 : Int32) (l5 : Int32) (l6 : Int32) (k : if (gi M 97 71) ≤ l6 then (vp_in l2 647800 ∧ (vp_in (647740 : Int32) 647800 ∧ (Zm E YX8_replace d (sl (sl (sl M 165 ((647740 : Int32)).toNatClampNeg (gl M 165 (l2).toNatClampNeg)) 166 ((647740 : Int32)).toNatClampNeg (gl M 166 (l2).toNatClampNeg)) 167 ((647740 : Int32)).toNatClampNeg (gl M 167 (l2).toNatClampNeg)) (zargs 0 [vr (some (97, 1, 0)), vi (3 : Int32), vi (647740 : Int32)]) 0 [] (zma E YX8_waysOfPut (d + 1) [(0, vr (some (97, 1, 0))), (3, vi l3)] 241 3 [] Q)))) else (if l5 = 0 then (vp_in l2 647800 ∧ (vp_in (647740 : Int32) 647800 ∧ (Zm E YX8_replace d (sl (sl (sl M 165 ((647740 : Int32)).toNatClampNeg (gl M 165 (l2).toNatClampNeg)) 166 ((647740 : Int32)).toNatClampNeg (gl M 166 (l2).toNatClampNeg)) 167 ((647740 : Int32)).toNatClampNeg (gl M 167 (l2).toNatClampNeg)) (zargs 0 [vr (some (97, 1, 0)), vi (3 : Int32), vi (647740 : Int32)]) 0 [] (zma E YX8_waysOfPut (d + 1) [(0, vr (some (97, 1, 0))), (3, vi l3)] 241 3 [] Q)))) else (vp_in l1 647800 ∧ (Zm E YX8_isIn d M (zargs 0 [vl (gl M 166 (l1).toNatClampNeg), vl (gl M 167 (l1).toNatClampNeg), vi l6]) 0 [] (zma E YX8_waysOfPut (d + 1) [(0, vr (some (97, 1, 0))), (1, vi l1), (2, vi l2), (3, vi l3), (5, vi l5), (6, vi l6)] 171 3 [] Q))))) : Zm E YX8_waysOfPut (d + 1) M [(0, vr (some (97, 1, 0))), (1, vi l1), (2, vi l2), (3, vi l3), (5, vi l5), (6, vi l6)] 143 [] Q := by
  refine sX8_waysOfPut_143 (d := d) M l1 l2 l3 l5 l6 ?_
  refine zite k (fun h10148 k => ?_) (fun h10148 k => ?_)
  · refine jX8_copySet (d := d) M l2 (647740 : Int32) ?_
    refine zand k (fun h10149 k => ?_)
    refine zand k (fun h10150 k => ?_)
    show Zm E YX8_waysOfPut (d + 1) (sl (sl (sl M 165 ((647740 : Int32)).toNatClampNeg (gl M 165 (l2).toNatClampNeg)) 166 ((647740 : Int32)).toNatClampNeg (gl M 166 (l2).toNatClampNeg)) 167 ((647740 : Int32)).toNatClampNeg (gl M 167 (l2).toNatClampNeg)) [(0, vr (some (97, 1, 0))), (3, vi l3), (6, vi (647740 : Int32))] 237 [] Q
    refine sX8_waysOfPut_237 (d := d) (sl (sl (sl M 165 ((647740 : Int32)).toNatClampNeg (gl M 165 (l2).toNatClampNeg)) 166 ((647740 : Int32)).toNatClampNeg (gl M 166 (l2).toNatClampNeg)) 167 ((647740 : Int32)).toNatClampNeg (gl M 167 (l2).toNatClampNeg)) l3 (647740 : Int32) ?_
    exact k
  · refine zite k (fun h10151 k => ?_) (fun h10151 k => ?_)
    · refine jX8_copySet (d := d) M l2 (647740 : Int32) ?_
      refine zand k (fun h10152 k => ?_)
      refine zand k (fun h10153 k => ?_)
      show Zm E YX8_waysOfPut (d + 1) (sl (sl (sl M 165 ((647740 : Int32)).toNatClampNeg (gl M 165 (l2).toNatClampNeg)) 166 ((647740 : Int32)).toNatClampNeg (gl M 166 (l2).toNatClampNeg)) 167 ((647740 : Int32)).toNatClampNeg (gl M 167 (l2).toNatClampNeg)) [(0, vr (some (97, 1, 0))), (3, vi l3), (6, vi (647740 : Int32))] 237 [] Q
      refine sX8_waysOfPut_237 (d := d) (sl (sl (sl M 165 ((647740 : Int32)).toNatClampNeg (gl M 165 (l2).toNatClampNeg)) 166 ((647740 : Int32)).toNatClampNeg (gl M 166 (l2).toNatClampNeg)) 167 ((647740 : Int32)).toNatClampNeg (gl M 167 (l2).toNatClampNeg)) l3 (647740 : Int32) ?_
      exact k
    · refine zand k (fun h10154 k => ?_)
      refine ⟨h10154, ?_⟩
      exact k
theorem iX8_waysOfPut_244 {E : zE} {d : Nat} {Q : zO → zM → Prop} (M : zM) (l3 : Int32) (k : if (l3 &&& (3 : Int32)) = 0 then (Q (.inl none) M) else (Zm E YX8_error_2 d M (zargs 0 [vr (some (97, 1, 0)), vi (gi M 97 148), vi (6 : Int32)]) 0 [] (zma E YX8_waysOfPut (d + 1) [] 257 3 [] Q))) : Zm E YX8_waysOfPut (d + 1) M [(0, vr (some (97, 1, 0))), (3, vi l3)] 244 [] Q := by
  refine sX8_waysOfPut_244 (d := d) M l3 ?_
  refine zite k (fun h10155 k => ?_) (fun h10155 k => ?_)
  · refine sX8_waysOfPut_260 (d := d) M  ?_
    exact k
  · exact k
theorem iX8_waysOfPut_174 {E : zE} {d : Nat} {Q : zO → zM → Prop} (M : zM) (l1 : Int32) (l2 : Int32) (l3 : Int32) (l5 : Int32) (l6 : Int32) (s0 : Int32) (k : if s0 = 0 then (Zm E YX8_waysOfPut ((d + 1) + 1) M [(0, vr (some (97, 1, 0))), (1, vi l1), (2, vi l2), (3, vi l3), (5, vi l5), (6, vi (l6 + (1 : Int32)))] 143 [] Q) else (if l6 = (24 : Int32) then (vp_in ((15000 : Int32) + l6) 15128 ∧ (if (gi M 178 (((15000 : Int32) + l6)).toNatClampNeg) = 0 then (Zm E YX8_waysOfPut ((d + 1) + 1) M [(0, vr (some (97, 1, 0))), (1, vi l1), (2, vi l2), (3, vi l3), (5, vi l5), (6, vi (l6 + (1 : Int32)))] 143 [] Q) else (Zm E YX8_addSort (d + 1) M (zargs 0 [vr (some (97, 1, 0)), vi (((635640 : Int32) + (l6 * ((gi M 97 8) + (1 : Int32)))) + (0 : Int32)), vi (64 : Int32)]) 0 [] (zma E YX8_waysOfPut ((d + 1) + 1) [(0, vr (some (97, 1, 0))), (1, vi l1), (2, vi l2), (3, vi l3), (5, vi l5), (6, vi l6)] 216 3 [] Q)))) else (if l6 < ((29 : Int32) + ((6 : Int32) * ((gi M 97 32) - (1 : Int32)))) then (Zm E YX8_waysOfPut ((d + 1) + 1) M [(0, vr (some (97, 1, 0))), (1, vi l1), (2, vi l2), (3, vi l3), (5, vi l5), (6, vi (l6 + (1 : Int32)))] 143 [] Q) else (vp_in (((l6 - (29 : Int32)) - ((6 : Int32) * ((gi M 97 32) - (1 : Int32)))) / (2 : Int32)) 20 ∧ (if (gi M 187 ((((l6 - (29 : Int32)) - ((6 : Int32) * ((gi M 97 32) - (1 : Int32)))) / (2 : Int32))).toNatClampNeg) = 0 then (Zm E YX8_waysOfPut ((d + 1) + 1) M [(0, vr (some (97, 1, 0))), (1, vi l1), (2, vi l2), (3, vi l3), (5, vi l5), (6, vi (l6 + (1 : Int32)))] 143 [] Q) else (vp_in ((15000 : Int32) + l6) 15128 ∧ (if (gi M 178 (((15000 : Int32) + l6)).toNatClampNeg) = 0 then (Zm E YX8_waysOfPut ((d + 1) + 1) M [(0, vr (some (97, 1, 0))), (1, vi l1), (2, vi l2), (3, vi l3), (5, vi l5), (6, vi (l6 + (1 : Int32)))] 143 [] Q) else (Zm E YX8_addSort (d + 1) M (zargs 0 [vr (some (97, 1, 0)), vi (((635640 : Int32) + (l6 * ((gi M 97 8) + (1 : Int32)))) + (0 : Int32)), vi (64 : Int32)]) 0 [] (zma E YX8_waysOfPut ((d + 1) + 1) [(0, vr (some (97, 1, 0))), (1, vi l1), (2, vi l2), (3, vi l3), (5, vi l5), (6, vi l6)] 216 3 [] Q))))))))) : Zm E YX8_waysOfPut (d + 2) M [(0, vr (some (97, 1, 0))), (1, vi l1), (2, vi l2), (3, vi l3), (5, vi l5), (6, vi l6)] 174 [vi s0] Q := by
  refine sX8_waysOfPut_174 (d := (d + 1)) M l1 l2 l3 l5 l6 s0 ?_
  refine zite k (fun h10158 k => ?_) (fun h10158 k => ?_)
  · refine sX8_waysOfPut_219 (d := (d + 1)) M l1 l2 l3 l5 l6 ?_
    exact k
  · refine sX8_isArrayLabel_0 (d := (d + 1)) M l6 ?_
    refine zite k (fun h10159 k => ?_) (fun h10159 k => ?_)
    · show Zm E YX8_waysOfPut ((d + 1) + 1) M [(0, vr (some (97, 1, 0))), (1, vi l1), (2, vi l2), (3, vi l3), (5, vi l5), (6, vi l6)] 183 [vi (1 : Int32)] Q
      refine sX8_waysOfPut_183 (d := (d + 1)) M l1 l2 l3 l5 l6 (1 : Int32) ?_
      refine zneg (show ¬ ((1 : Int32) = 0) from by decide) ?_
      refine jX8_of (d := d) M (639 : Int32) l6 ?_
      refine zpos (show (639 : Int32) = (639 : Int32) from by decide) ?_
      show Zm E YX8_waysOfPut ((d + 1) + 1) M [(0, vr (some (97, 1, 0))), (1, vi l1), (2, vi l2), (3, vi l3), (5, vi l5), (6, vi l6)] 199 [vi ((15000 : Int32) + l6), vr (some (178, 104, 15128))] Q
      refine sX8_waysOfPut_199 (d := (d + 1)) M l1 l2 l3 l5 l6 ((15000 : Int32) + l6) ?_
      refine zand k (fun h10160 k => ?_)
      refine zite k (fun h10161 k => ?_) (fun h10161 k => ?_)
      · refine sX8_waysOfPut_219 (d := (d + 1)) M l1 l2 l3 l5 l6 ?_
        exact k
      · refine jX8_field (d := d) M (639 : Int32) l6 (0 : Int32) ?_
        refine zpos (show (639 : Int32) = (639 : Int32) from by decide) ?_
        show Zm E YX8_waysOfPut ((d + 1) + 1) M [(0, vr (some (97, 1, 0))), (1, vi l1), (2, vi l2), (3, vi l3), (5, vi l5), (6, vi l6)] 214 [vi (((635640 : Int32) + (l6 * ((gi M 97 8) + (1 : Int32)))) + (0 : Int32)), vr (some (97, 1, 0))] Q
        refine sX8_waysOfPut_214 (d := (d + 1)) M l1 l2 l3 l5 l6 (((635640 : Int32) + (l6 * ((gi M 97 8) + (1 : Int32)))) + (0 : Int32)) ?_
        exact k
    · refine zite k (fun h10162 k => ?_) (fun h10162 k => ?_)
      · show Zm E YX8_waysOfPut ((d + 1) + 1) M [(0, vr (some (97, 1, 0))), (1, vi l1), (2, vi l2), (3, vi l3), (5, vi l5), (6, vi l6)] 183 [vi (0 : Int32)] Q
        refine sX8_waysOfPut_183 (d := (d + 1)) M l1 l2 l3 l5 l6 (0 : Int32) ?_
        refine zpos (show (0 : Int32) = 0 from by decide) ?_
        refine sX8_waysOfPut_219 (d := (d + 1)) M l1 l2 l3 l5 l6 ?_
        exact k
      · refine zand k (fun h10163 k => ?_)
        refine zite k (fun h10164 k => ?_) (fun h10164 k => ?_)
        · show Zm E YX8_waysOfPut ((d + 1) + 1) M [(0, vr (some (97, 1, 0))), (1, vi l1), (2, vi l2), (3, vi l3), (5, vi l5), (6, vi l6)] 183 [vi (0 : Int32)] Q
          refine sX8_waysOfPut_183 (d := (d + 1)) M l1 l2 l3 l5 l6 (0 : Int32) ?_
          refine zpos (show (0 : Int32) = 0 from by decide) ?_
          refine sX8_waysOfPut_219 (d := (d + 1)) M l1 l2 l3 l5 l6 ?_
          exact k
        · show Zm E YX8_waysOfPut ((d + 1) + 1) M [(0, vr (some (97, 1, 0))), (1, vi l1), (2, vi l2), (3, vi l3), (5, vi l5), (6, vi l6)] 183 [vi (1 : Int32)] Q
          refine sX8_waysOfPut_183 (d := (d + 1)) M l1 l2 l3 l5 l6 (1 : Int32) ?_
          refine zneg (show ¬ ((1 : Int32) = 0) from by decide) ?_
          refine jX8_of (d := d) M (639 : Int32) l6 ?_
          refine zpos (show (639 : Int32) = (639 : Int32) from by decide) ?_
          show Zm E YX8_waysOfPut ((d + 1) + 1) M [(0, vr (some (97, 1, 0))), (1, vi l1), (2, vi l2), (3, vi l3), (5, vi l5), (6, vi l6)] 199 [vi ((15000 : Int32) + l6), vr (some (178, 104, 15128))] Q
          refine sX8_waysOfPut_199 (d := (d + 1)) M l1 l2 l3 l5 l6 ((15000 : Int32) + l6) ?_
          refine zand k (fun h10165 k => ?_)
          refine zite k (fun h10166 k => ?_) (fun h10166 k => ?_)
          · refine sX8_waysOfPut_219 (d := (d + 1)) M l1 l2 l3 l5 l6 ?_
            exact k
          · refine jX8_field (d := d) M (639 : Int32) l6 (0 : Int32) ?_
            refine zpos (show (639 : Int32) = (639 : Int32) from by decide) ?_
            show Zm E YX8_waysOfPut ((d + 1) + 1) M [(0, vr (some (97, 1, 0))), (1, vi l1), (2, vi l2), (3, vi l3), (5, vi l5), (6, vi l6)] 214 [vi (((635640 : Int32) + (l6 * ((gi M 97 8) + (1 : Int32)))) + (0 : Int32)), vr (some (97, 1, 0))] Q
            refine sX8_waysOfPut_214 (d := (d + 1)) M l1 l2 l3 l5 l6 (((635640 : Int32) + (l6 * ((gi M 97 8) + (1 : Int32)))) + (0 : Int32)) ?_
            exact k
theorem iX8_age_15 {E : zE} {d : Nat} {Q : zO → zM → Prop} (M : zM) (l1 : Int32) (l2 : Int32) (s0 : Int32) (k : if s0 = 0 then (Zm E YX8_age (d + 1) M [(0, vr (some (97, 1, 0))), (1, vi l1), (2, vi (l2 + (1 : Int32)))] 3 [] Q) else (vp_in l1 647800 ∧ (if (64 : Int32) ≤ l2 then (if (lg_cmp ((zlr (gl M 167 (l1).toNatClampNeg) (l2 - (64 : Int32))) &&& (1 : Int64)) (1 : Int64)) = 0 then (if (64 : Int32) ≤ (l2 + (1 : Int32)) then (Zm E YX8_age (d + 1) (sl M 167 (l1).toNatClampNeg ((gl M 167 (l1).toNatClampNeg) ||| (zls (1 : Int64) ((l2 + (1 : Int32)) - (64 : Int32))))) [(0, vr (some (97, 1, 0))), (1, vi l1), (2, vi (l2 + (1 : Int32)))] 3 [] Q) else (Zm E YX8_age (d + 1) (sl M 166 (l1).toNatClampNeg ((gl M 166 (l1).toNatClampNeg) ||| (zls (1 : Int64) (l2 + (1 : Int32))))) [(0, vr (some (97, 1, 0))), (1, vi l1), (2, vi (l2 + (1 : Int32)))] 3 [] Q)) else (Zm E YX8_age (d + 1) M [(0, vr (some (97, 1, 0))), (1, vi l1), (2, vi (l2 + (1 : Int32)))] 3 [] Q)) else (if (lg_cmp ((zlr (gl M 166 (l1).toNatClampNeg) l2) &&& (1 : Int64)) (1 : Int64)) = 0 then (if (64 : Int32) ≤ (l2 + (1 : Int32)) then (Zm E YX8_age (d + 1) (sl M 167 (l1).toNatClampNeg ((gl M 167 (l1).toNatClampNeg) ||| (zls (1 : Int64) ((l2 + (1 : Int32)) - (64 : Int32))))) [(0, vr (some (97, 1, 0))), (1, vi l1), (2, vi (l2 + (1 : Int32)))] 3 [] Q) else (Zm E YX8_age (d + 1) (sl M 166 (l1).toNatClampNeg ((gl M 166 (l1).toNatClampNeg) ||| (zls (1 : Int64) (l2 + (1 : Int32))))) [(0, vr (some (97, 1, 0))), (1, vi l1), (2, vi (l2 + (1 : Int32)))] 3 [] Q)) else (Zm E YX8_age (d + 1) M [(0, vr (some (97, 1, 0))), (1, vi l1), (2, vi (l2 + (1 : Int32)))] 3 [] Q))))) : Zm E YX8_age (d + 1) M [(0, vr (some (97, 1, 0))), (1, vi l1), (2, vi l2)] 15 [vi s0] Q := by
  refine sX8_age_15 (d := d) M l1 l2 s0 ?_
  refine zite k (fun h10184 k => ?_) (fun h10184 k => ?_)
  · refine sX8_age_45 (d := d) M l1 l2 ?_
    exact k
  · refine zand k (fun h10185 k => ?_)
    refine ⟨h10185, ?_⟩
    refine jX8_isIn (d := d) M (gl M 166 (l1).toNatClampNeg) (gl M 167 (l1).toNatClampNeg) l2 ?_
    refine zite k (fun h10186 k => ?_) (fun h10186 k => ?_)
    · refine zite k (fun h10187 k => ?_) (fun h10187 k => ?_)
      · show Zm E YX8_age (d + 1) M [(0, vr (some (97, 1, 0))), (1, vi l1), (2, vi l2)] 34 [vi (1 : Int32)] Q
        refine sX8_age_34 (d := d) M l1 l2 (1 : Int32) ?_
        refine zneg (show ¬ ((1 : Int32) = 0) from by decide) ?_
        refine jX8_addLabel (d := d) M l1 (l2 + (1 : Int32)) ?_
        refine zite k (fun h10188 k => ?_) (fun h10188 k => ?_)
        · refine ⟨h10185, ?_⟩
          show Zm E YX8_age (d + 1) (sl M 167 (l1).toNatClampNeg ((gl M 167 (l1).toNatClampNeg) ||| (zls (1 : Int64) ((l2 + (1 : Int32)) - (64 : Int32))))) [(0, vr (some (97, 1, 0))), (1, vi l1), (2, vi l2)] 45 [] Q
          refine sX8_age_45 (d := d) (sl M 167 (l1).toNatClampNeg ((gl M 167 (l1).toNatClampNeg) ||| (zls (1 : Int64) ((l2 + (1 : Int32)) - (64 : Int32))))) l1 l2 ?_
          exact k
        · refine ⟨h10185, ?_⟩
          show Zm E YX8_age (d + 1) (sl M 166 (l1).toNatClampNeg ((gl M 166 (l1).toNatClampNeg) ||| (zls (1 : Int64) (l2 + (1 : Int32))))) [(0, vr (some (97, 1, 0))), (1, vi l1), (2, vi l2)] 45 [] Q
          refine sX8_age_45 (d := d) (sl M 166 (l1).toNatClampNeg ((gl M 166 (l1).toNatClampNeg) ||| (zls (1 : Int64) (l2 + (1 : Int32))))) l1 l2 ?_
          exact k
      · show Zm E YX8_age (d + 1) M [(0, vr (some (97, 1, 0))), (1, vi l1), (2, vi l2)] 34 [vi (0 : Int32)] Q
        refine sX8_age_34 (d := d) M l1 l2 (0 : Int32) ?_
        refine zpos (show (0 : Int32) = 0 from by decide) ?_
        refine sX8_age_45 (d := d) M l1 l2 ?_
        exact k
    · refine zite k (fun h10189 k => ?_) (fun h10189 k => ?_)
      · show Zm E YX8_age (d + 1) M [(0, vr (some (97, 1, 0))), (1, vi l1), (2, vi l2)] 34 [vi (1 : Int32)] Q
        refine sX8_age_34 (d := d) M l1 l2 (1 : Int32) ?_
        refine zneg (show ¬ ((1 : Int32) = 0) from by decide) ?_
        refine jX8_addLabel (d := d) M l1 (l2 + (1 : Int32)) ?_
        refine zite k (fun h10190 k => ?_) (fun h10190 k => ?_)
        · refine ⟨h10185, ?_⟩
          show Zm E YX8_age (d + 1) (sl M 167 (l1).toNatClampNeg ((gl M 167 (l1).toNatClampNeg) ||| (zls (1 : Int64) ((l2 + (1 : Int32)) - (64 : Int32))))) [(0, vr (some (97, 1, 0))), (1, vi l1), (2, vi l2)] 45 [] Q
          refine sX8_age_45 (d := d) (sl M 167 (l1).toNatClampNeg ((gl M 167 (l1).toNatClampNeg) ||| (zls (1 : Int64) ((l2 + (1 : Int32)) - (64 : Int32))))) l1 l2 ?_
          exact k
        · refine ⟨h10185, ?_⟩
          show Zm E YX8_age (d + 1) (sl M 166 (l1).toNatClampNeg ((gl M 166 (l1).toNatClampNeg) ||| (zls (1 : Int64) (l2 + (1 : Int32))))) [(0, vr (some (97, 1, 0))), (1, vi l1), (2, vi l2)] 45 [] Q
          refine sX8_age_45 (d := d) (sl M 166 (l1).toNatClampNeg ((gl M 166 (l1).toNatClampNeg) ||| (zls (1 : Int64) (l2 + (1 : Int32))))) l1 l2 ?_
          exact k
      · show Zm E YX8_age (d + 1) M [(0, vr (some (97, 1, 0))), (1, vi l1), (2, vi l2)] 34 [vi (0 : Int32)] Q
        refine sX8_age_34 (d := d) M l1 l2 (0 : Int32) ?_
        refine zpos (show (0 : Int32) = 0 from by decide) ?_
        refine sX8_age_45 (d := d) M l1 l2 ?_
        exact k
theorem iX8_comeBack_2 {E : zE} {d : Nat} {Q : zO → zM → Prop} (M : zM) (l1 : Int32) (l2 : Int32) (k : vp_in (639 : Int32) 640 ∧ (if (gi M 171 ((639 : Int32)).toNatClampNeg) ≤ l2 then (Zm E YX8_age d M (zargs 0 [vr (some (97, 1, 0)), vi ((635000 : Int32) + (639 : Int32))]) 0 [] (zma E YX8_comeBack (d + 1) [(0, vr (some (97, 1, 0))), (1, vi l1)] 42 3 [] Q)) else (Zm E YX8_age d M (zargs 0 [vr (some (97, 1, 0)), vi ((gi M 172 ((639 : Int32)).toNatClampNeg) + l2)]) 0 [] (zma E YX8_comeBack (d + 1) [(0, vr (some (97, 1, 0))), (1, vi l1), (2, vi l2)] 25 3 [] Q)))) : Zm E YX8_comeBack (d + 1) M [(0, vr (some (97, 1, 0))), (1, vi l1), (2, vi l2)] 2 [] Q := by
  refine sX8_comeBack_2 (d := d) M l1 l2 ?_
  refine zand k (fun h10191 k => ?_)
  refine zite k (fun h10192 k => ?_) (fun h10192 k => ?_)
  · refine sX8_thisAt_0 (d := d) M (639 : Int32) ?_
    show Zm E YX8_comeBack (d + 1) M [(0, vr (some (97, 1, 0))), (1, vi l1)] 42 [vi ((635000 : Int32) + (639 : Int32)), vr (some (97, 1, 0))] Q
    refine sX8_comeBack_42 (d := d) M l1 ((635000 : Int32) + (639 : Int32)) ?_
    exact k
  · refine ⟨h10191, ?_⟩
    exact k
theorem iX8_comeBack_45 {E : zE} {d : Nat} {Q : zO → zM → Prop} (M : zM) (l1 : Int32) (k : vp_in (647752 : Int32) 647800 ∧ (vp_in (639 : Int32) 640 ∧ (Zm E YX8_age d (sl (sl (sl (sl (sl M 165 ((647752 : Int32)).toNatClampNeg (0 : Int64)) 166 ((647752 : Int32)).toNatClampNeg (0 : Int64)) 167 ((647752 : Int32)).toNatClampNeg (0 : Int64)) 166 ((647752 : Int32)).toNatClampNeg (gl M 173 ((639 : Int32)).toNatClampNeg)) 167 ((647752 : Int32)).toNatClampNeg (gl M 174 ((639 : Int32)).toNatClampNeg)) (zargs 0 [vr (some (97, 1, 0)), vi (647752 : Int32)]) 0 [] (zma E YX8_comeBack (d + 1) [(0, vr (some (97, 1, 0))), (1, vi l1), (2, vi (647752 : Int32))] 84 3 [] Q)))) : Zm E YX8_comeBack (d + 1) M [(0, vr (some (97, 1, 0))), (1, vi l1)] 45 [] Q := by
  refine sX8_comeBack_45 (d := d) M l1 ?_
  refine jX8_empty (d := d) M (647752 : Int32) ?_
  refine zand k (fun h10193 k => ?_)
  show Zm E YX8_comeBack (d + 1) (sl (sl (sl M 165 ((647752 : Int32)).toNatClampNeg (0 : Int64)) 166 ((647752 : Int32)).toNatClampNeg (0 : Int64)) 167 ((647752 : Int32)).toNatClampNeg (0 : Int64)) [(0, vr (some (97, 1, 0))), (1, vi l1), (2, vi (647752 : Int32))] 54 [] Q
  refine sX8_comeBack_54 (d := d) (sl (sl (sl M 165 ((647752 : Int32)).toNatClampNeg (0 : Int64)) 166 ((647752 : Int32)).toNatClampNeg (0 : Int64)) 167 ((647752 : Int32)).toNatClampNeg (0 : Int64)) l1 (647752 : Int32) ?_
  refine zand k (fun h10194 k => ?_)
  refine ⟨h10193, ?_⟩
  refine ⟨h10194, ?_⟩
  refine ⟨h10193, ?_⟩
  exact k
theorem iX8_comeBack_87 {E : zE} {d : Nat} {Q : zO → zM → Prop} (M : zM) (l1 : Int32) (l2 : Int32) (k : vp_in l2 647800 ∧ (vp_in (639 : Int32) 640 ∧ (Zm E YX8_loadLabels d (sl (sl M 173 ((639 : Int32)).toNatClampNeg (gl M 166 (l2).toNatClampNeg)) 174 ((639 : Int32)).toNatClampNeg (gl M 167 (l2).toNatClampNeg)) (zargs 0 [vr (some (97, 1, 0)), vi l1]) 0 [] (zma E YX8_comeBack (d + 1) [] 117 3 [] Q)))) : Zm E YX8_comeBack (d + 1) M [(0, vr (some (97, 1, 0))), (1, vi l1), (2, vi l2)] 87 [] Q := by
  refine sX8_comeBack_87 (d := d) M l1 l2 ?_
  refine zand k (fun h10195 k => ?_)
  refine zand k (fun h10196 k => ?_)
  refine ⟨h10195, ?_⟩
  refine ⟨h10196, ?_⟩
  exact k
theorem iX8_enterCode_26 {E : zE} {d : Nat} {Q : zO → zM → Prop} (M : zM) (l1 : Int32) (l2 : Int32) (l3 : Int32) (l4 : Int32) (l5 : Int32) (l6 : Int32) (l7 : Int32) (l8 : Int32) (l9 : Int32) (k : Zm E YX8_enterCode ((d + 1) + 1) M [(0, vr (some (97, 1, 0))), (1, vi l1), (2, vi l2), (3, vi l3), (4, vi l4), (5, vi l5), (6, vi l6), (7, vi l7), (8, vi l8), (9, vi l9), (10, vi ((15000 : Int32) + l9)), (11, vi l8)] 41 [] Q) : Zm E YX8_enterCode (d + 2) M [(0, vr (some (97, 1, 0))), (1, vi l1), (2, vi l2), (3, vi l3), (4, vi l4), (5, vi l5), (6, vi l6), (7, vi l7), (8, vi l8), (9, vi l9)] 26 [] Q := by
  refine sX8_enterCode_26 (d := (d + 1)) M l1 l2 l3 l4 l5 l6 l7 l8 l9 ?_
  refine jX8_of (d := d) M (639 : Int32) l9 ?_
  refine zpos (show (639 : Int32) = (639 : Int32) from by decide) ?_
  show Zm E YX8_enterCode ((d + 1) + 1) M [(0, vr (some (97, 1, 0))), (1, vi l1), (2, vi l2), (3, vi l3), (4, vi l4), (5, vi l5), (6, vi l6), (7, vi l7), (8, vi l8), (9, vi l9)] 35 [vi ((15000 : Int32) + l9)] Q
  refine sX8_enterCode_35 (d := (d + 1)) M l1 l2 l3 l4 l5 l6 l7 l8 l9 ((15000 : Int32) + l9) ?_
  exact k
theorem iX8_enterCode_41 {E : zE} {d : Nat} {Q : zO → zM → Prop} (M : zM) (l1 : Int32) (l2 : Int32) (l3 : Int32) (l4 : Int32) (l5 : Int32) (l6 : Int32) (l7 : Int32) (l8 : Int32) (l9 : Int32) (l10 : Int32) (l11 : Int32) (k : if (l8 + (2 : Int32)) ≤ l11 then (Zm E YX8_enterCode ((d + 1) + 1) M [(0, vr (some (97, 1, 0))), (1, vi l1), (2, vi l2), (3, vi l3), (4, vi l4), (5, vi l5), (6, vi l6), (7, vi l7), (8, vi l8), (9, vi l9), (11, vi (0 : Int32))] 138 [] Q) else (if l11 = l8 then (if l2 = 0 then (Zm E YX8_enterCode ((d + 1) + 1) M [(0, vr (some (97, 1, 0))), (1, vi l1), (2, vi l2), (3, vi l3), (4, vi l4), (5, vi l5), (6, vi l6), (7, vi l7), (8, vi l8), (9, vi l9), (10, vi l10), (11, vi (l11 + (1 : Int32)))] 41 [] Q) else (vp_in l10 15128 ∧ (vp_in ((15000 : Int32) + l11) 15128 ∧ (Zm E YX8_enterCode ((d + 1) + 1) (sl (sl M 182 (l10).toNatClampNeg ((gl M 182 (l10).toNatClampNeg) ||| (gl M 182 (((15000 : Int32) + l11)).toNatClampNeg))) 183 (l10).toNatClampNeg ((gl M 183 (l10).toNatClampNeg) ||| (gl M 183 (((15000 : Int32) + l11)).toNatClampNeg))) [(0, vr (some (97, 1, 0))), (1, vi l1), (2, vi l2), (3, vi l3), (4, vi l4), (5, vi l5), (6, vi l6), (7, vi l7), (8, vi l8), (9, vi l9), (10, vi l10), (11, vi (l11 + (1 : Int32)))] 41 [] Q)))) else (if l3 = 0 then (Zm E YX8_enterCode ((d + 1) + 1) M [(0, vr (some (97, 1, 0))), (1, vi l1), (2, vi l2), (3, vi l3), (4, vi l4), (5, vi l5), (6, vi l6), (7, vi l7), (8, vi l8), (9, vi l9), (10, vi l10), (11, vi (l11 + (1 : Int32)))] 41 [] Q) else (vp_in l10 15128 ∧ (vp_in ((15000 : Int32) + l11) 15128 ∧ (Zm E YX8_enterCode ((d + 1) + 1) (sl (sl M 182 (l10).toNatClampNeg ((gl M 182 (l10).toNatClampNeg) ||| (gl M 182 (((15000 : Int32) + l11)).toNatClampNeg))) 183 (l10).toNatClampNeg ((gl M 183 (l10).toNatClampNeg) ||| (gl M 183 (((15000 : Int32) + l11)).toNatClampNeg))) [(0, vr (some (97, 1, 0))), (1, vi l1), (2, vi l2), (3, vi l3), (4, vi l4), (5, vi l5), (6, vi l6), (7, vi l7), (8, vi l8), (9, vi l9), (10, vi l10), (11, vi (l11 + (1 : Int32)))] 41 [] Q)))))) : Zm E YX8_enterCode (d + 2) M [(0, vr (some (97, 1, 0))), (1, vi l1), (2, vi l2), (3, vi l3), (4, vi l4), (5, vi l5), (6, vi l6), (7, vi l7), (8, vi l8), (9, vi l9), (10, vi l10), (11, vi l11)] 41 [] Q := by
  refine sX8_enterCode_41 (d := (d + 1)) M l1 l2 l3 l4 l5 l6 l7 l8 l9 l10 l11 ?_
  refine zite k (fun h10203 k => ?_) (fun h10203 k => ?_)
  · exact k
  · refine zite k (fun h10204 k => ?_) (fun h10204 k => ?_)
    · refine zite k (fun h10205 k => ?_) (fun h10205 k => ?_)
      · exact k
      · refine sX8_enterCode_71 (d := (d + 1)) M l1 l2 l3 l4 l5 l6 l7 l8 l9 l10 l11 ?_
        refine zand k (fun h10206 k => ?_)
        refine jX8_of (d := d) M (639 : Int32) l11 ?_
        refine zpos (show (639 : Int32) = (639 : Int32) from by decide) ?_
        show Zm E YX8_enterCode ((d + 1) + 1) M [(0, vr (some (97, 1, 0))), (1, vi l1), (2, vi l2), (3, vi l3), (4, vi l4), (5, vi l5), (6, vi l6), (7, vi l7), (8, vi l8), (9, vi l9), (10, vi l10), (11, vi l11)] 97 [vi ((15000 : Int32) + l11), vr (some (182, 105, 15128)), vl (gl M 182 (l10).toNatClampNeg), vi l10, vr (some (182, 105, 15128))] Q
        refine sX8_enterCode_97 (d := (d + 1)) M l1 l2 l3 l4 l5 l6 l7 l8 l9 l10 l11 ((15000 : Int32) + l11) (gl M 182 (l10).toNatClampNeg) l10 ?_
        refine zand k (fun h10207 k => ?_)
        refine ⟨h10206, ?_⟩
        refine ⟨h10206, ?_⟩
        refine jX8_of (d := d) (sl M 182 (l10).toNatClampNeg ((gl M 182 (l10).toNatClampNeg) ||| (gl M 182 (((15000 : Int32) + l11)).toNatClampNeg))) (639 : Int32) l11 ?_
        refine zpos (show (639 : Int32) = (639 : Int32) from by decide) ?_
        show Zm E YX8_enterCode ((d + 1) + 1) (sl M 182 (l10).toNatClampNeg ((gl M 182 (l10).toNatClampNeg) ||| (gl M 182 (((15000 : Int32) + l11)).toNatClampNeg))) [(0, vr (some (97, 1, 0))), (1, vi l1), (2, vi l2), (3, vi l3), (4, vi l4), (5, vi l5), (6, vi l6), (7, vi l7), (8, vi l8), (9, vi l9), (10, vi l10), (11, vi l11)] 126 [vi ((15000 : Int32) + l11), vr (some (183, 105, 15128)), vl (gl M 183 (l10).toNatClampNeg), vi l10, vr (some (183, 105, 15128))] Q
        refine sX8_enterCode_126 (d := (d + 1)) (sl M 182 (l10).toNatClampNeg ((gl M 182 (l10).toNatClampNeg) ||| (gl M 182 (((15000 : Int32) + l11)).toNatClampNeg))) l1 l2 l3 l4 l5 l6 l7 l8 l9 l10 l11 ((15000 : Int32) + l11) (gl M 183 (l10).toNatClampNeg) l10 ?_
        refine ⟨h10207, ?_⟩
        refine ⟨h10206, ?_⟩
        exact k
    · refine zite k (fun h10208 k => ?_) (fun h10208 k => ?_)
      · exact k
      · refine sX8_enterCode_71 (d := (d + 1)) M l1 l2 l3 l4 l5 l6 l7 l8 l9 l10 l11 ?_
        refine zand k (fun h10209 k => ?_)
        refine jX8_of (d := d) M (639 : Int32) l11 ?_
        refine zpos (show (639 : Int32) = (639 : Int32) from by decide) ?_
        show Zm E YX8_enterCode ((d + 1) + 1) M [(0, vr (some (97, 1, 0))), (1, vi l1), (2, vi l2), (3, vi l3), (4, vi l4), (5, vi l5), (6, vi l6), (7, vi l7), (8, vi l8), (9, vi l9), (10, vi l10), (11, vi l11)] 97 [vi ((15000 : Int32) + l11), vr (some (182, 105, 15128)), vl (gl M 182 (l10).toNatClampNeg), vi l10, vr (some (182, 105, 15128))] Q
        refine sX8_enterCode_97 (d := (d + 1)) M l1 l2 l3 l4 l5 l6 l7 l8 l9 l10 l11 ((15000 : Int32) + l11) (gl M 182 (l10).toNatClampNeg) l10 ?_
        refine zand k (fun h10210 k => ?_)
        refine ⟨h10209, ?_⟩
        refine ⟨h10209, ?_⟩
        refine jX8_of (d := d) (sl M 182 (l10).toNatClampNeg ((gl M 182 (l10).toNatClampNeg) ||| (gl M 182 (((15000 : Int32) + l11)).toNatClampNeg))) (639 : Int32) l11 ?_
        refine zpos (show (639 : Int32) = (639 : Int32) from by decide) ?_
        show Zm E YX8_enterCode ((d + 1) + 1) (sl M 182 (l10).toNatClampNeg ((gl M 182 (l10).toNatClampNeg) ||| (gl M 182 (((15000 : Int32) + l11)).toNatClampNeg))) [(0, vr (some (97, 1, 0))), (1, vi l1), (2, vi l2), (3, vi l3), (4, vi l4), (5, vi l5), (6, vi l6), (7, vi l7), (8, vi l8), (9, vi l9), (10, vi l10), (11, vi l11)] 126 [vi ((15000 : Int32) + l11), vr (some (183, 105, 15128)), vl (gl M 183 (l10).toNatClampNeg), vi l10, vr (some (183, 105, 15128))] Q
        refine sX8_enterCode_126 (d := (d + 1)) (sl M 182 (l10).toNatClampNeg ((gl M 182 (l10).toNatClampNeg) ||| (gl M 182 (((15000 : Int32) + l11)).toNatClampNeg))) l1 l2 l3 l4 l5 l6 l7 l8 l9 l10 l11 ((15000 : Int32) + l11) (gl M 183 (l10).toNatClampNeg) l10 ?_
        refine ⟨h10210, ?_⟩
        refine ⟨h10209, ?_⟩
        exact k
theorem iX8_enterCode_314 {E : zE} {d : Nat} {Q : zO → zM → Prop} (M : zM) (l1 : Int32) (l4 : Int32) (l7 : Int32) (l9 : Int32) (l11 : Int32) (k : if l7 = (-1 : Int32) then (if l4 = (-1 : Int32) then (Zm E YX8_addSort d M (zargs 0 [vr (some (97, 1, 0)), vi l11, vi (1 : Int32)]) 0 [] (zma E YX8_enterCode (d + 1) [(0, vr (some (97, 1, 0))), (1, vi l1), (9, vi l9), (11, vi l11)] 345 3 [] Q)) else (vp_in (639 : Int32) 640 ∧ (vp_in ((gi M 172 ((639 : Int32)).toNatClampNeg) + l4) 647800 ∧ (vp_in l11 647800 ∧ (Zm E YX8_copySet d (sl (sl (sl M 165 (l11).toNatClampNeg (gl M 165 (((gi M 172 ((639 : Int32)).toNatClampNeg) + l4)).toNatClampNeg)) 166 (l11).toNatClampNeg (gl M 166 (((gi M 172 ((639 : Int32)).toNatClampNeg) + l4)).toNatClampNeg)) 167 (l11).toNatClampNeg (gl M 167 (((gi M 172 ((639 : Int32)).toNatClampNeg) + l4)).toNatClampNeg)) (zargs 0 [vr (some (97, 1, 0)), vi l11, vi ((635000 : Int32) + (639 : Int32))]) 0 [] (zma E YX8_enterCode (d + 1) [(0, vr (some (97, 1, 0))), (1, vi l1), (9, vi l9)] 376 3 [] Q)))))) else (Zm E YX8_addLabel d M (zargs 0 [vr (some (97, 1, 0)), vi l11, vi (((29 : Int32) + ((6 : Int32) * ((gi M 97 32) - (1 : Int32)))) + ((2 : Int32) * l7))]) 0 [] (zma E YX8_enterCode (d + 1) [(0, vr (some (97, 1, 0))), (1, vi l1), (9, vi l9), (11, vi l11)] 329 3 [] Q))) : Zm E YX8_enterCode (d + 1) M [(0, vr (some (97, 1, 0))), (1, vi l1), (4, vi l4), (7, vi l7), (9, vi l9), (11, vi l11)] 314 [] Q := by
  refine sX8_enterCode_314 (d := d) M l1 l4 l7 l9 l11 ?_
  refine zite k (fun h10321 k => ?_) (fun h10321 k => ?_)
  · refine zite k (fun h10322 k => ?_) (fun h10322 k => ?_)
    · exact k
    · refine sX8_onStack_0 (d := d) M (639 : Int32) l4 ?_
      refine zand k (fun h10323 k => ?_)
      show Zm E YX8_enterCode (d + 1) M [(0, vr (some (97, 1, 0))), (1, vi l1), (9, vi l9), (11, vi l11)] 361 [vi ((gi M 172 ((639 : Int32)).toNatClampNeg) + l4), vr (some (97, 1, 0))] Q
      refine sX8_enterCode_361 (d := d) M l1 l9 l11 ((gi M 172 ((639 : Int32)).toNatClampNeg) + l4) ?_
      refine jX8_copySet (d := d) M ((gi M 172 ((639 : Int32)).toNatClampNeg) + l4) l11 ?_
      refine zand k (fun h10324 k => ?_)
      refine zand k (fun h10325 k => ?_)
      show Zm E YX8_enterCode (d + 1) (sl (sl (sl M 165 (l11).toNatClampNeg (gl M 165 (((gi M 172 ((639 : Int32)).toNatClampNeg) + l4)).toNatClampNeg)) 166 (l11).toNatClampNeg (gl M 166 (((gi M 172 ((639 : Int32)).toNatClampNeg) + l4)).toNatClampNeg)) 167 (l11).toNatClampNeg (gl M 167 (((gi M 172 ((639 : Int32)).toNatClampNeg) + l4)).toNatClampNeg)) [(0, vr (some (97, 1, 0))), (1, vi l1), (9, vi l9), (11, vi l11)] 366 [] Q
      refine sX8_enterCode_366 (d := d) (sl (sl (sl M 165 (l11).toNatClampNeg (gl M 165 (((gi M 172 ((639 : Int32)).toNatClampNeg) + l4)).toNatClampNeg)) 166 (l11).toNatClampNeg (gl M 166 (((gi M 172 ((639 : Int32)).toNatClampNeg) + l4)).toNatClampNeg)) 167 (l11).toNatClampNeg (gl M 167 (((gi M 172 ((639 : Int32)).toNatClampNeg) + l4)).toNatClampNeg)) l1 l9 l11 ?_
      refine sX8_thisAt_0 (d := d) (sl (sl (sl M 165 (l11).toNatClampNeg (gl M 165 (((gi M 172 ((639 : Int32)).toNatClampNeg) + l4)).toNatClampNeg)) 166 (l11).toNatClampNeg (gl M 166 (((gi M 172 ((639 : Int32)).toNatClampNeg) + l4)).toNatClampNeg)) 167 (l11).toNatClampNeg (gl M 167 (((gi M 172 ((639 : Int32)).toNatClampNeg) + l4)).toNatClampNeg)) (639 : Int32) ?_
      show Zm E YX8_enterCode (d + 1) (sl (sl (sl M 165 (l11).toNatClampNeg (gl M 165 (((gi M 172 ((639 : Int32)).toNatClampNeg) + l4)).toNatClampNeg)) 166 (l11).toNatClampNeg (gl M 166 (((gi M 172 ((639 : Int32)).toNatClampNeg) + l4)).toNatClampNeg)) 167 (l11).toNatClampNeg (gl M 167 (((gi M 172 ((639 : Int32)).toNatClampNeg) + l4)).toNatClampNeg)) [(0, vr (some (97, 1, 0))), (1, vi l1), (9, vi l9)] 376 [vi ((635000 : Int32) + (639 : Int32)), vi l11, vr (some (97, 1, 0))] Q
      refine sX8_enterCode_376 (d := d) (sl (sl (sl M 165 (l11).toNatClampNeg (gl M 165 (((gi M 172 ((639 : Int32)).toNatClampNeg) + l4)).toNatClampNeg)) 166 (l11).toNatClampNeg (gl M 166 (((gi M 172 ((639 : Int32)).toNatClampNeg) + l4)).toNatClampNeg)) 167 (l11).toNatClampNeg (gl M 167 (((gi M 172 ((639 : Int32)).toNatClampNeg) + l4)).toNatClampNeg)) l1 l9 ((635000 : Int32) + (639 : Int32)) l11 ?_
      exact k
  · refine sX8_siteLabel_0 (d := d) M l7 ?_
    show Zm E YX8_enterCode (d + 1) M [(0, vr (some (97, 1, 0))), (1, vi l1), (9, vi l9), (11, vi l11)] 329 [vi (((29 : Int32) + ((6 : Int32) * ((gi M 97 32) - (1 : Int32)))) + ((2 : Int32) * l7)), vi l11, vr (some (97, 1, 0))] Q
    refine sX8_enterCode_329 (d := d) M l1 l9 l11 (((29 : Int32) + ((6 : Int32) * ((gi M 97 32) - (1 : Int32)))) + ((2 : Int32) * l7)) l11 ?_
    exact k
theorem iX8_enterCode_167 {E : zE} {d : Nat} {Q : zO → zM → Prop} (M : zM) (l1 : Int32) (l2 : Int32) (l3 : Int32) (l4 : Int32) (l5 : Int32) (l6 : Int32) (l7 : Int32) (l8 : Int32) (l9 : Int32) (l11 : Int32) (s0 : Int32) (k : vp_in l1 12 ∧ (if l11 < (gi M 117 (l1).toNatClampNeg) then (Zm E YX8_enterCode (d + 1) M [(0, vr (some (97, 1, 0))), (1, vi l1), (2, vi l2), (3, vi l3), (4, vi l4), (5, vi l5), (6, vi l6), (7, vi l7), (8, vi l8), (9, vi l9), (11, vi l11), (12, vi s0)] 215 [vi (0 : Int32)] Q) else (if (gi M 115 (l1).toNatClampNeg) = 0 then (vp_in (((100 : Int32) * l1) + l11) 1200 ∧ (if (gi M 129 ((((100 : Int32) * l1) + l11)).toNatClampNeg) = (gi M 114 (l1).toNatClampNeg) then (Zm E YX8_enterCode (d + 1) M [(0, vr (some (97, 1, 0))), (1, vi l1), (2, vi l2), (3, vi l3), (4, vi l4), (5, vi l5), (6, vi l6), (7, vi l7), (8, vi l8), (9, vi l9), (11, vi l11), (12, vi s0)] 215 [vi (1 : Int32)] Q) else (Zm E YX8_enterCode (d + 1) M [(0, vr (some (97, 1, 0))), (1, vi l1), (2, vi l2), (3, vi l3), (4, vi l4), (5, vi l5), (6, vi l6), (7, vi l7), (8, vi l8), (9, vi l9), (11, vi l11), (12, vi s0)] 215 [vi (0 : Int32)] Q))) else (Zm E YX8_enterCode (d + 1) M [(0, vr (some (97, 1, 0))), (1, vi l1), (2, vi l2), (3, vi l3), (4, vi l4), (5, vi l5), (6, vi l6), (7, vi l7), (8, vi l8), (9, vi l9), (11, vi l11), (12, vi s0)] 215 [vi (0 : Int32)] Q)))) : Zm E YX8_enterCode (d + 1) M [(0, vr (some (97, 1, 0))), (1, vi l1), (2, vi l2), (3, vi l3), (4, vi l4), (5, vi l5), (6, vi l6), (7, vi l7), (8, vi l8), (9, vi l9), (11, vi l11)] 167 [vi s0] Q := by
  refine sX8_enterCode_167 (d := d) M l1 l2 l3 l4 l5 l6 l7 l8 l9 l11 s0 ?_
  refine zand k (fun h10327 k => ?_)
  refine zite k (fun h10328 k => ?_) (fun h10328 k => ?_)
  · exact k
  · refine ⟨h10327, ?_⟩
    refine zite k (fun h10329 k => ?_) (fun h10329 k => ?_)
    · refine zand k (fun h10330 k => ?_)
      refine ⟨h10327, ?_⟩
      exact k
    · exact k
theorem iX8_enterCode_348 {E : zE} {d : Nat} {Q : zO → zM → Prop} (M : zM) (l1 : Int32) (l9 : Int32) (l11 : Int32) (k : vp_in l11 647800 ∧ (vp_in ((635000 : Int32) + (639 : Int32)) 647800 ∧ (vp_in (639 : Int32) 640 ∧ (if (64 : Int32) ≤ l9 then (vp_in l1 12 ∧ (Zm E YX8_flow d (sl (sl (sl (si (si (sl (sl (sl M 165 (((635000 : Int32) + (639 : Int32))).toNatClampNeg (gl M 165 (l11).toNatClampNeg)) 166 (((635000 : Int32) + (639 : Int32))).toNatClampNeg (gl M 166 (l11).toNatClampNeg)) 167 (((635000 : Int32) + (639 : Int32))).toNatClampNeg (gl M 167 (l11).toNatClampNeg)) 171 ((639 : Int32)).toNatClampNeg (0 : Int32)) 175 ((639 : Int32)).toNatClampNeg (0 : Int32)) 173 ((639 : Int32)).toNatClampNeg (0 : Int64)) 174 ((639 : Int32)).toNatClampNeg (0 : Int64)) 174 ((639 : Int32)).toNatClampNeg (zls (1 : Int64) (l9 - (64 : Int32)))) (zargs 0 [vr (some (97, 1, 0)), vi (gi M 127 (l1).toNatClampNeg)]) 0 [] (zma E YX8_enterCode (d + 1) [] 459 3 [] Q))) else (vp_in l1 12 ∧ (Zm E YX8_flow d (sl (sl (sl (si (si (sl (sl (sl M 165 (((635000 : Int32) + (639 : Int32))).toNatClampNeg (gl M 165 (l11).toNatClampNeg)) 166 (((635000 : Int32) + (639 : Int32))).toNatClampNeg (gl M 166 (l11).toNatClampNeg)) 167 (((635000 : Int32) + (639 : Int32))).toNatClampNeg (gl M 167 (l11).toNatClampNeg)) 171 ((639 : Int32)).toNatClampNeg (0 : Int32)) 175 ((639 : Int32)).toNatClampNeg (0 : Int32)) 173 ((639 : Int32)).toNatClampNeg (0 : Int64)) 174 ((639 : Int32)).toNatClampNeg (0 : Int64)) 173 ((639 : Int32)).toNatClampNeg (zls (1 : Int64) l9)) (zargs 0 [vr (some (97, 1, 0)), vi (gi M 127 (l1).toNatClampNeg)]) 0 [] (zma E YX8_enterCode (d + 1) [] 459 3 [] Q))))))) : Zm E YX8_enterCode (d + 1) M [(0, vr (some (97, 1, 0))), (1, vi l1), (9, vi l9), (11, vi l11)] 348 [] Q := by
  refine sX8_enterCode_348 (d := d) M l1 l9 l11 ?_
  refine sX8_enterCode_366 (d := d) M l1 l9 l11 ?_
  refine sX8_thisAt_0 (d := d) M (639 : Int32) ?_
  show Zm E YX8_enterCode (d + 1) M [(0, vr (some (97, 1, 0))), (1, vi l1), (9, vi l9)] 376 [vi ((635000 : Int32) + (639 : Int32)), vi l11, vr (some (97, 1, 0))] Q
  refine sX8_enterCode_376 (d := d) M l1 l9 ((635000 : Int32) + (639 : Int32)) l11 ?_
  refine jX8_copySet (d := d) M l11 ((635000 : Int32) + (639 : Int32)) ?_
  refine zand k (fun h10332 k => ?_)
  refine zand k (fun h10333 k => ?_)
  show Zm E YX8_enterCode (d + 1) (sl (sl (sl M 165 (((635000 : Int32) + (639 : Int32))).toNatClampNeg (gl M 165 (l11).toNatClampNeg)) 166 (((635000 : Int32) + (639 : Int32))).toNatClampNeg (gl M 166 (l11).toNatClampNeg)) 167 (((635000 : Int32) + (639 : Int32))).toNatClampNeg (gl M 167 (l11).toNatClampNeg)) [(0, vr (some (97, 1, 0))), (1, vi l1), (9, vi l9)] 379 [] Q
  refine sX8_enterCode_379 (d := d) (sl (sl (sl M 165 (((635000 : Int32) + (639 : Int32))).toNatClampNeg (gl M 165 (l11).toNatClampNeg)) 166 (((635000 : Int32) + (639 : Int32))).toNatClampNeg (gl M 166 (l11).toNatClampNeg)) 167 (((635000 : Int32) + (639 : Int32))).toNatClampNeg (gl M 167 (l11).toNatClampNeg)) l1 l9 ?_
  refine zand k (fun h10334 k => ?_)
  refine ⟨h10334, ?_⟩
  refine ⟨h10334, ?_⟩
  refine ⟨h10334, ?_⟩
  refine zite k (fun h10335 k => ?_) (fun h10335 k => ?_)
  · refine ⟨h10334, ?_⟩
    exact k
  · refine ⟨h10334, ?_⟩
    exact k
theorem iX8_enterCode_379 {E : zE} {d : Nat} {Q : zO → zM → Prop} (M : zM) (l1 : Int32) (l9 : Int32) (k : vp_in (639 : Int32) 640 ∧ (if (64 : Int32) ≤ l9 then (vp_in l1 12 ∧ (Zm E YX8_flow d (sl (sl (sl (si (si M 171 ((639 : Int32)).toNatClampNeg (0 : Int32)) 175 ((639 : Int32)).toNatClampNeg (0 : Int32)) 173 ((639 : Int32)).toNatClampNeg (0 : Int64)) 174 ((639 : Int32)).toNatClampNeg (0 : Int64)) 174 ((639 : Int32)).toNatClampNeg (zls (1 : Int64) (l9 - (64 : Int32)))) (zargs 0 [vr (some (97, 1, 0)), vi (gi M 127 (l1).toNatClampNeg)]) 0 [] (zma E YX8_enterCode (d + 1) [] 459 3 [] Q))) else (vp_in l1 12 ∧ (Zm E YX8_flow d (sl (sl (sl (si (si M 171 ((639 : Int32)).toNatClampNeg (0 : Int32)) 175 ((639 : Int32)).toNatClampNeg (0 : Int32)) 173 ((639 : Int32)).toNatClampNeg (0 : Int64)) 174 ((639 : Int32)).toNatClampNeg (0 : Int64)) 173 ((639 : Int32)).toNatClampNeg (zls (1 : Int64) l9)) (zargs 0 [vr (some (97, 1, 0)), vi (gi M 127 (l1).toNatClampNeg)]) 0 [] (zma E YX8_enterCode (d + 1) [] 459 3 [] Q))))) : Zm E YX8_enterCode (d + 1) M [(0, vr (some (97, 1, 0))), (1, vi l1), (9, vi l9)] 379 [] Q := by
  refine sX8_enterCode_379 (d := d) M l1 l9 ?_
  refine zand k (fun h10338 k => ?_)
  refine ⟨h10338, ?_⟩
  refine ⟨h10338, ?_⟩
  refine ⟨h10338, ?_⟩
  refine zite k (fun h10339 k => ?_) (fun h10339 k => ?_)
  · refine ⟨h10338, ?_⟩
    exact k
  · refine ⟨h10338, ?_⟩
    exact k
theorem iX8_enterCode_332 {E : zE} {d : Nat} {Q : zO → zM → Prop} (M : zM) (l1 : Int32) (l9 : Int32) (l11 : Int32) (k : vp_in l11 647800 ∧ (vp_in ((635000 : Int32) + (639 : Int32)) 647800 ∧ (vp_in (639 : Int32) 640 ∧ (if (64 : Int32) ≤ l9 then (vp_in l1 12 ∧ (Zm E YX8_flow d (sl (sl (sl (si (si (sl (sl (sl M 165 (((635000 : Int32) + (639 : Int32))).toNatClampNeg (gl M 165 (l11).toNatClampNeg)) 166 (((635000 : Int32) + (639 : Int32))).toNatClampNeg (gl M 166 (l11).toNatClampNeg)) 167 (((635000 : Int32) + (639 : Int32))).toNatClampNeg (gl M 167 (l11).toNatClampNeg)) 171 ((639 : Int32)).toNatClampNeg (0 : Int32)) 175 ((639 : Int32)).toNatClampNeg (0 : Int32)) 173 ((639 : Int32)).toNatClampNeg (0 : Int64)) 174 ((639 : Int32)).toNatClampNeg (0 : Int64)) 174 ((639 : Int32)).toNatClampNeg (zls (1 : Int64) (l9 - (64 : Int32)))) (zargs 0 [vr (some (97, 1, 0)), vi (gi M 127 (l1).toNatClampNeg)]) 0 [] (zma E YX8_enterCode (d + 1) [] 459 3 [] Q))) else (vp_in l1 12 ∧ (Zm E YX8_flow d (sl (sl (sl (si (si (sl (sl (sl M 165 (((635000 : Int32) + (639 : Int32))).toNatClampNeg (gl M 165 (l11).toNatClampNeg)) 166 (((635000 : Int32) + (639 : Int32))).toNatClampNeg (gl M 166 (l11).toNatClampNeg)) 167 (((635000 : Int32) + (639 : Int32))).toNatClampNeg (gl M 167 (l11).toNatClampNeg)) 171 ((639 : Int32)).toNatClampNeg (0 : Int32)) 175 ((639 : Int32)).toNatClampNeg (0 : Int32)) 173 ((639 : Int32)).toNatClampNeg (0 : Int64)) 174 ((639 : Int32)).toNatClampNeg (0 : Int64)) 173 ((639 : Int32)).toNatClampNeg (zls (1 : Int64) l9)) (zargs 0 [vr (some (97, 1, 0)), vi (gi M 127 (l1).toNatClampNeg)]) 0 [] (zma E YX8_enterCode (d + 1) [] 459 3 [] Q))))))) : Zm E YX8_enterCode (d + 1) M [(0, vr (some (97, 1, 0))), (1, vi l1), (9, vi l9), (11, vi l11)] 332 [] Q := by
  refine sX8_enterCode_332 (d := d) M l1 l9 l11 ?_
  refine sX8_enterCode_366 (d := d) M l1 l9 l11 ?_
  refine sX8_thisAt_0 (d := d) M (639 : Int32) ?_
  show Zm E YX8_enterCode (d + 1) M [(0, vr (some (97, 1, 0))), (1, vi l1), (9, vi l9)] 376 [vi ((635000 : Int32) + (639 : Int32)), vi l11, vr (some (97, 1, 0))] Q
  refine sX8_enterCode_376 (d := d) M l1 l9 ((635000 : Int32) + (639 : Int32)) l11 ?_
  refine jX8_copySet (d := d) M l11 ((635000 : Int32) + (639 : Int32)) ?_
  refine zand k (fun h10342 k => ?_)
  refine zand k (fun h10343 k => ?_)
  show Zm E YX8_enterCode (d + 1) (sl (sl (sl M 165 (((635000 : Int32) + (639 : Int32))).toNatClampNeg (gl M 165 (l11).toNatClampNeg)) 166 (((635000 : Int32) + (639 : Int32))).toNatClampNeg (gl M 166 (l11).toNatClampNeg)) 167 (((635000 : Int32) + (639 : Int32))).toNatClampNeg (gl M 167 (l11).toNatClampNeg)) [(0, vr (some (97, 1, 0))), (1, vi l1), (9, vi l9)] 379 [] Q
  refine sX8_enterCode_379 (d := d) (sl (sl (sl M 165 (((635000 : Int32) + (639 : Int32))).toNatClampNeg (gl M 165 (l11).toNatClampNeg)) 166 (((635000 : Int32) + (639 : Int32))).toNatClampNeg (gl M 166 (l11).toNatClampNeg)) 167 (((635000 : Int32) + (639 : Int32))).toNatClampNeg (gl M 167 (l11).toNatClampNeg)) l1 l9 ?_
  refine zand k (fun h10344 k => ?_)
  refine ⟨h10344, ?_⟩
  refine ⟨h10344, ?_⟩
  refine ⟨h10344, ?_⟩
  refine zite k (fun h10345 k => ?_) (fun h10345 k => ?_)
  · refine ⟨h10344, ?_⟩
    exact k
  · refine ⟨h10344, ?_⟩
    exact k
theorem iX8_enterCode_215 {E : zE} {d : Nat} {Q : zO → zM → Prop} (M : zM) (l1 : Int32) (l2 : Int32) (l3 : Int32) (l4 : Int32) (l5 : Int32) (l6 : Int32) (l7 : Int32) (l8 : Int32) (l9 : Int32) (l11 : Int32) (l12 : Int32) (s0 : Int32) (k : vp_in l1 12 ∧ (if (gi M 117 (l1).toNatClampNeg) ≤ l11 then (Zm E YX8_enterCode (d + 1) M [(0, vr (some (97, 1, 0))), (1, vi l1), (2, vi l2), (3, vi l3), (4, vi l4), (5, vi l5), (6, vi l6), (7, vi l7), (8, vi l8), (9, vi l9), (11, vi l11), (12, vi l12), (13, vi s0)] 256 [] Q) else (if l6 ≤ l11 then (Zm E YX8_enterCode (d + 1) M [(0, vr (some (97, 1, 0))), (1, vi l1), (2, vi l2), (3, vi l3), (4, vi l4), (5, vi l5), (6, vi l6), (7, vi l7), (8, vi l8), (9, vi l9), (11, vi l11), (12, vi l12), (13, vi s0)] 256 [] Q) else (vp_in (639 : Int32) 640 ∧ (vp_in ((gi M 172 ((639 : Int32)).toNatClampNeg) + (l5 + l11)) 647800 ∧ (vp_in l12 647800 ∧ (Zm E YX8_enterCode (d + 1) (sl (sl (sl M 165 (l12).toNatClampNeg (gl M 165 (((gi M 172 ((639 : Int32)).toNatClampNeg) + (l5 + l11))).toNatClampNeg)) 166 (l12).toNatClampNeg (gl M 166 (((gi M 172 ((639 : Int32)).toNatClampNeg) + (l5 + l11))).toNatClampNeg)) 167 (l12).toNatClampNeg (gl M 167 (((gi M 172 ((639 : Int32)).toNatClampNeg) + (l5 + l11))).toNatClampNeg)) [(0, vr (some (97, 1, 0))), (1, vi l1), (2, vi l2), (3, vi l3), (4, vi l4), (5, vi l5), (6, vi l6), (7, vi l7), (8, vi l8), (9, vi l9), (11, vi (l11 + (1 : Int32)))] 138 [] Q))))))) : Zm E YX8_enterCode (d + 1) M [(0, vr (some (97, 1, 0))), (1, vi l1), (2, vi l2), (3, vi l3), (4, vi l4), (5, vi l5), (6, vi l6), (7, vi l7), (8, vi l8), (9, vi l9), (11, vi l11), (12, vi l12)] 215 [vi s0] Q := by
  refine sX8_enterCode_215 (d := d) M l1 l2 l3 l4 l5 l6 l7 l8 l9 l11 l12 s0 ?_
  refine zand k (fun h10348 k => ?_)
  refine zite k (fun h10349 k => ?_) (fun h10349 k => ?_)
  · exact k
  · refine zite k (fun h10350 k => ?_) (fun h10350 k => ?_)
    · exact k
    · refine sX8_onStack_0 (d := d) M (639 : Int32) (l5 + l11) ?_
      refine zand k (fun h10351 k => ?_)
      show Zm E YX8_enterCode (d + 1) M [(0, vr (some (97, 1, 0))), (1, vi l1), (2, vi l2), (3, vi l3), (4, vi l4), (5, vi l5), (6, vi l6), (7, vi l7), (8, vi l8), (9, vi l9), (11, vi l11), (12, vi l12)] 248 [vi ((gi M 172 ((639 : Int32)).toNatClampNeg) + (l5 + l11)), vr (some (97, 1, 0))] Q
      refine sX8_enterCode_248 (d := d) M l1 l2 l3 l4 l5 l6 l7 l8 l9 l11 l12 ((gi M 172 ((639 : Int32)).toNatClampNeg) + (l5 + l11)) ?_
      refine jX8_copySet (d := d) M ((gi M 172 ((639 : Int32)).toNatClampNeg) + (l5 + l11)) l12 ?_
      refine zand k (fun h10352 k => ?_)
      refine zand k (fun h10353 k => ?_)
      show Zm E YX8_enterCode (d + 1) (sl (sl (sl M 165 (l12).toNatClampNeg (gl M 165 (((gi M 172 ((639 : Int32)).toNatClampNeg) + (l5 + l11))).toNatClampNeg)) 166 (l12).toNatClampNeg (gl M 166 (((gi M 172 ((639 : Int32)).toNatClampNeg) + (l5 + l11))).toNatClampNeg)) 167 (l12).toNatClampNeg (gl M 167 (((gi M 172 ((639 : Int32)).toNatClampNeg) + (l5 + l11))).toNatClampNeg)) [(0, vr (some (97, 1, 0))), (1, vi l1), (2, vi l2), (3, vi l3), (4, vi l4), (5, vi l5), (6, vi l6), (7, vi l7), (8, vi l8), (9, vi l9), (11, vi l11)] 253 [] Q
      refine sX8_enterCode_253 (d := d) (sl (sl (sl M 165 (l12).toNatClampNeg (gl M 165 (((gi M 172 ((639 : Int32)).toNatClampNeg) + (l5 + l11))).toNatClampNeg)) 166 (l12).toNatClampNeg (gl M 166 (((gi M 172 ((639 : Int32)).toNatClampNeg) + (l5 + l11))).toNatClampNeg)) 167 (l12).toNatClampNeg (gl M 167 (((gi M 172 ((639 : Int32)).toNatClampNeg) + (l5 + l11))).toNatClampNeg)) l1 l2 l3 l4 l5 l6 l7 l8 l9 l11 ?_
      refine sX8_enterCode_297 (d := d) (sl (sl (sl M 165 (l12).toNatClampNeg (gl M 165 (((gi M 172 ((639 : Int32)).toNatClampNeg) + (l5 + l11))).toNatClampNeg)) 166 (l12).toNatClampNeg (gl M 166 (((gi M 172 ((639 : Int32)).toNatClampNeg) + (l5 + l11))).toNatClampNeg)) 167 (l12).toNatClampNeg (gl M 167 (((gi M 172 ((639 : Int32)).toNatClampNeg) + (l5 + l11))).toNatClampNeg)) l1 l2 l3 l4 l5 l6 l7 l8 l9 l11 ?_
      exact k
theorem iX8_enterCode_256 {E : zE} {d : Nat} {Q : zO → zM → Prop} (M : zM) (l1 : Int32) (l2 : Int32) (l3 : Int32) (l4 : Int32) (l5 : Int32) (l6 : Int32) (l7 : Int32) (l8 : Int32) (l9 : Int32) (l11 : Int32) (l12 : Int32) (l13 : Int32) (k : if l13 = 0 then (Zm E YX8_addSort d M (zargs 0 [vr (some (97, 1, 0)), vi l12, vi (1 : Int32)]) 0 [] (zma E YX8_enterCode (d + 1) [(0, vr (some (97, 1, 0))), (1, vi l1), (2, vi l2), (3, vi l3), (4, vi l4), (5, vi l5), (6, vi l6), (7, vi l7), (8, vi l8), (9, vi l9), (11, vi l11)] 294 3 [] Q)) else (if l2 = 0 then (if l3 = 0 then (Zm E YX8_enterCode (d + 1) M [(0, vr (some (97, 1, 0))), (1, vi l1), (2, vi l2), (3, vi l3), (4, vi l4), (5, vi l5), (6, vi l6), (7, vi l7), (8, vi l8), (9, vi l9), (11, vi (l11 + (1 : Int32)))] 138 [] Q) else (Zm E YX8_addLabel d M (zargs 0 [vr (some (97, 1, 0)), vi l12, vi (l8 + (1 : Int32))]) 0 [] (zma E YX8_enterCode (d + 1) [(0, vr (some (97, 1, 0))), (1, vi l1), (2, vi l2), (3, vi l3), (4, vi l4), (5, vi l5), (6, vi l6), (7, vi l7), (8, vi l8), (9, vi l9), (11, vi l11)] 284 3 [] Q))) else (Zm E YX8_addLabel d M (zargs 0 [vr (some (97, 1, 0)), vi l12, vi l8]) 0 [] (zma E YX8_enterCode (d + 1) [(0, vr (some (97, 1, 0))), (1, vi l1), (2, vi l2), (3, vi l3), (4, vi l4), (5, vi l5), (6, vi l6), (7, vi l7), (8, vi l8), (9, vi l9), (11, vi l11), (12, vi l12)] 270 3 [] Q)))) : Zm E YX8_enterCode (d + 1) M [(0, vr (some (97, 1, 0))), (1, vi l1), (2, vi l2), (3, vi l3), (4, vi l4), (5, vi l5), (6, vi l6), (7, vi l7), (8, vi l8), (9, vi l9), (11, vi l11), (12, vi l12), (13, vi l13)] 256 [] Q := by
  refine sX8_enterCode_256 (d := d) M l1 l2 l3 l4 l5 l6 l7 l8 l9 l11 l12 l13 ?_
  refine zite k (fun h10380 k => ?_) (fun h10380 k => ?_)
  · exact k
  · refine zite k (fun h10381 k => ?_) (fun h10381 k => ?_)
    · refine sX8_enterCode_273 (d := d) M l1 l2 l3 l4 l5 l6 l7 l8 l9 l11 l12 ?_
      refine zite k (fun h10382 k => ?_) (fun h10382 k => ?_)
      · refine sX8_enterCode_297 (d := d) M l1 l2 l3 l4 l5 l6 l7 l8 l9 l11 ?_
        exact k
      · exact k
    · exact k
theorem iX8_enterCode_287 {E : zE} {d : Nat} {Q : zO → zM → Prop} (M : zM) (l1 : Int32) (l2 : Int32) (l3 : Int32) (l4 : Int32) (l5 : Int32) (l6 : Int32) (l7 : Int32) (l8 : Int32) (l9 : Int32) (l11 : Int32) (k : Zm E YX8_enterCode (d + 1) M [(0, vr (some (97, 1, 0))), (1, vi l1), (2, vi l2), (3, vi l3), (4, vi l4), (5, vi l5), (6, vi l6), (7, vi l7), (8, vi l8), (9, vi l9), (11, vi (l11 + (1 : Int32)))] 138 [] Q) : Zm E YX8_enterCode (d + 1) M [(0, vr (some (97, 1, 0))), (1, vi l1), (2, vi l2), (3, vi l3), (4, vi l4), (5, vi l5), (6, vi l6), (7, vi l7), (8, vi l8), (9, vi l9), (11, vi l11)] 287 [] Q := by
  refine sX8_enterCode_287 (d := d) M l1 l2 l3 l4 l5 l6 l7 l8 l9 l11 ?_
  refine sX8_enterCode_297 (d := d) M l1 l2 l3 l4 l5 l6 l7 l8 l9 l11 ?_
  exact k
theorem iX8_enterCode_273 {E : zE} {d : Nat} {Q : zO → zM → Prop} (M : zM) (l1 : Int32) (l2 : Int32) (l3 : Int32) (l4 : Int32) (l5 : Int32) (l6 : Int32) (l7 : Int32) (l8 : Int32) (l9 : Int32) (l11 : Int32) (l12 : Int32) (k : if l3 = 0 then (Zm E YX8_enterCode (d + 1) M [(0, vr (some (97, 1, 0))), (1, vi l1), (2, vi l2), (3, vi l3), (4, vi l4), (5, vi l5), (6, vi l6), (7, vi l7), (8, vi l8), (9, vi l9), (11, vi (l11 + (1 : Int32)))] 138 [] Q) else (if (64 : Int32) ≤ (l8 + (1 : Int32)) then (vp_in l12 647800 ∧ (Zm E YX8_enterCode (d + 1) (sl M 167 (l12).toNatClampNeg ((gl M 167 (l12).toNatClampNeg) ||| (zls (1 : Int64) ((l8 + (1 : Int32)) - (64 : Int32))))) [(0, vr (some (97, 1, 0))), (1, vi l1), (2, vi l2), (3, vi l3), (4, vi l4), (5, vi l5), (6, vi l6), (7, vi l7), (8, vi l8), (9, vi l9), (11, vi (l11 + (1 : Int32)))] 138 [] Q)) else (vp_in l12 647800 ∧ (Zm E YX8_enterCode (d + 1) (sl M 166 (l12).toNatClampNeg ((gl M 166 (l12).toNatClampNeg) ||| (zls (1 : Int64) (l8 + (1 : Int32))))) [(0, vr (some (97, 1, 0))), (1, vi l1), (2, vi l2), (3, vi l3), (4, vi l4), (5, vi l5), (6, vi l6), (7, vi l7), (8, vi l8), (9, vi l9), (11, vi (l11 + (1 : Int32)))] 138 [] Q)))) : Zm E YX8_enterCode (d + 1) M [(0, vr (some (97, 1, 0))), (1, vi l1), (2, vi l2), (3, vi l3), (4, vi l4), (5, vi l5), (6, vi l6), (7, vi l7), (8, vi l8), (9, vi l9), (11, vi l11), (12, vi l12)] 273 [] Q := by
  refine sX8_enterCode_273 (d := d) M l1 l2 l3 l4 l5 l6 l7 l8 l9 l11 l12 ?_
  refine zite k (fun h10383 k => ?_) (fun h10383 k => ?_)
  · refine sX8_enterCode_297 (d := d) M l1 l2 l3 l4 l5 l6 l7 l8 l9 l11 ?_
    exact k
  · refine jX8_addLabel (d := d) M l12 (l8 + (1 : Int32)) ?_
    refine zite k (fun h10384 k => ?_) (fun h10384 k => ?_)
    · refine zand k (fun h10385 k => ?_)
      show Zm E YX8_enterCode (d + 1) (sl M 167 (l12).toNatClampNeg ((gl M 167 (l12).toNatClampNeg) ||| (zls (1 : Int64) ((l8 + (1 : Int32)) - (64 : Int32))))) [(0, vr (some (97, 1, 0))), (1, vi l1), (2, vi l2), (3, vi l3), (4, vi l4), (5, vi l5), (6, vi l6), (7, vi l7), (8, vi l8), (9, vi l9), (11, vi l11)] 287 [] Q
      refine sX8_enterCode_287 (d := d) (sl M 167 (l12).toNatClampNeg ((gl M 167 (l12).toNatClampNeg) ||| (zls (1 : Int64) ((l8 + (1 : Int32)) - (64 : Int32))))) l1 l2 l3 l4 l5 l6 l7 l8 l9 l11 ?_
      refine sX8_enterCode_297 (d := d) (sl M 167 (l12).toNatClampNeg ((gl M 167 (l12).toNatClampNeg) ||| (zls (1 : Int64) ((l8 + (1 : Int32)) - (64 : Int32))))) l1 l2 l3 l4 l5 l6 l7 l8 l9 l11 ?_
      exact k
    · refine zand k (fun h10386 k => ?_)
      show Zm E YX8_enterCode (d + 1) (sl M 166 (l12).toNatClampNeg ((gl M 166 (l12).toNatClampNeg) ||| (zls (1 : Int64) (l8 + (1 : Int32))))) [(0, vr (some (97, 1, 0))), (1, vi l1), (2, vi l2), (3, vi l3), (4, vi l4), (5, vi l5), (6, vi l6), (7, vi l7), (8, vi l8), (9, vi l9), (11, vi l11)] 287 [] Q
      refine sX8_enterCode_287 (d := d) (sl M 166 (l12).toNatClampNeg ((gl M 166 (l12).toNatClampNeg) ||| (zls (1 : Int64) (l8 + (1 : Int32))))) l1 l2 l3 l4 l5 l6 l7 l8 l9 l11 ?_
      refine sX8_enterCode_297 (d := d) (sl M 166 (l12).toNatClampNeg ((gl M 166 (l12).toNatClampNeg) ||| (zls (1 : Int64) (l8 + (1 : Int32))))) l1 l2 l3 l4 l5 l6 l7 l8 l9 l11 ?_
      exact k
theorem jX8_isReached {E : zE} {d : Nat} {Q : zO → zM → Prop} (M : zM) (l1 : Int32) (k : if (gi M 97 119) = 0 then (Q (.inl (some (vi (0 : Int32)))) (si M 97 0 (0 : Int32))) else (if l1 < (0 : Int32) then (Q (.inl (some (vi (0 : Int32)))) (si M 97 0 (0 : Int32))) else (if ((gi M 97 46) - (1 : Int32)) < l1 then (Q (.inl (some (vi (0 : Int32)))) (si M 97 0 (0 : Int32))) else (vp_in l1 640 ∧ (if (gi M 168 (l1).toNatClampNeg) = 0 then (Q (.inl (some (vi (0 : Int32)))) (si M 97 0 (0 : Int32))) else (Q (.inl (some (vi (1 : Int32)))) (si M 97 0 (0 : Int32)))))))) : Zm E YX8_isReached (d + 1) M [(0, vr (some (97, 1, 0))), (1, vi l1)] 0 [] Q := by
  refine sX8_isReached_0 (d := d) M l1 ?_
  refine zite k (fun h10387 k => ?_) (fun h10387 k => ?_)
  · exact k
  · refine sX8_in_0 (d := d) (si M 97 0 (0 : Int32)) l1 (0 : Int32) ((gi M 97 46) - (1 : Int32)) ?_
    refine zite k (fun h10388 k => ?_) (fun h10388 k => ?_)
    · show Zm E YX8_isReached (d + 1) (si M 97 0 (0 : Int32)) [(0, vr (some (97, 1, 0))), (1, vi l1)] 23 [vi (0 : Int32)] Q
      refine sX8_isReached_23 (d := d) (si M 97 0 (0 : Int32)) l1 (0 : Int32) ?_
      refine zpos (show (0 : Int32) = 0 from by decide) ?_
      exact k
    · refine zite k (fun h10389 k => ?_) (fun h10389 k => ?_)
      · show Zm E YX8_isReached (d + 1) (si M 97 0 (0 : Int32)) [(0, vr (some (97, 1, 0))), (1, vi l1)] 23 [vi (0 : Int32)] Q
        refine sX8_isReached_23 (d := d) (si M 97 0 (0 : Int32)) l1 (0 : Int32) ?_
        refine zpos (show (0 : Int32) = 0 from by decide) ?_
        exact k
      · show Zm E YX8_isReached (d + 1) (si M 97 0 (0 : Int32)) [(0, vr (some (97, 1, 0))), (1, vi l1)] 23 [vi (1 : Int32)] Q
        refine sX8_isReached_23 (d := d) (si M 97 0 (0 : Int32)) l1 (1 : Int32) ?_
        refine zneg (show ¬ ((1 : Int32) = 0) from by decide) ?_
        exact k
theorem jX8_tell {E : zE} {d : Nat} {Q : zO → zM → Prop} (M : zM) (l1 : Int32) (l2 : Int32) (k : if l2 = 0 then (vp_in l1 647800 ∧ (Q (.inl (some (vl ((((gl M 165 (l1).toNatClampNeg) &&& (1023 : Int64))).toInt32).toInt64))) M)) else (if l2 = 1 then (vp_in l1 647800 ∧ (Q (.inl (some (vl (((zlr (gl M 165 (l1).toNatClampNeg) (32 : Int32))).toInt32).toInt64))) M)) else (if l2 = 2 then (vp_in l1 647800 ∧ (Q (.inl (some (vl ((((zlr (gl M 165 (l1).toNatClampNeg) (10 : Int32)) &&& (127 : Int64))).toInt32).toInt64))) M)) else (if l2 = 3 then (vp_in l1 647800 ∧ (Q (.inl (some (vl (gl M 166 (l1).toNatClampNeg)))) M)) else (if l2 = 4 then (vp_in l1 647800 ∧ (Q (.inl (some (vl (gl M 167 (l1).toNatClampNeg)))) M)) else (Q (.inl (some (vl (0 : Int64)))) M)))))) : Zm E YX8_tell (d + 1) M [(0, vr (some (97, 1, 0))), (1, vi l1), (2, vi l2)] 0 [] Q := by
  refine sX8_tell_0 (d := d) M l1 l2 ?_
  refine zite k (fun h10404 k => ?_) (fun h10404 k => ?_)
  · refine sX8_has_0 (d := d) M l1 ?_
    refine zand k (fun h10405 k => ?_)
    show Zm E YX8_tell (d + 1) M [] 41 [vi (((gl M 165 (l1).toNatClampNeg) &&& (1023 : Int64))).toInt32] Q
    refine sX8_tell_41 (d := d) M ((((gl M 165 (l1).toNatClampNeg) &&& (1023 : Int64))).toInt32) ?_
    exact k
  · refine zite k (fun h10406 k => ?_) (fun h10406 k => ?_)
    · refine sX8_number_0 (d := d) M l1 ?_
      refine zand k (fun h10407 k => ?_)
      show Zm E YX8_tell (d + 1) M [] 48 [vi ((zlr (gl M 165 (l1).toNatClampNeg) (32 : Int32))).toInt32] Q
      refine sX8_tell_48 (d := d) M (((zlr (gl M 165 (l1).toNatClampNeg) (32 : Int32))).toInt32) ?_
      exact k
    · refine zite k (fun h10408 k => ?_) (fun h10408 k => ?_)
      · refine sX8_name_0 (d := d) M l1 ?_
        refine zand k (fun h10409 k => ?_)
        show Zm E YX8_tell (d + 1) M [] 55 [vi (((zlr (gl M 165 (l1).toNatClampNeg) (10 : Int32)) &&& (127 : Int64))).toInt32] Q
        refine sX8_tell_55 (d := d) M ((((zlr (gl M 165 (l1).toNatClampNeg) (10 : Int32)) &&& (127 : Int64))).toInt32) ?_
        exact k
      · exact k
theorem iX8_field_2_5 {E : zE} {d : Nat} {Q : zO → zM → Prop} (M : zM) (l1 : Int32) (l2 : Int32) (l3 : Int32) (l4 : Int32) (s0 : Int32) (k : if s0 = 0 then (Q (.inl (some (vl (0 : Int64)))) M) else (Zm E YX8_in d M (zargs 0 [vi l2, vi (0 : Int32), vi ((gi M 97 71) - (1 : Int32))]) 0 [] (zma E YX8_field_2 (d + 1) [(0, vr (some (97, 1, 0))), (1, vi l1), (2, vi l2), (3, vi l3), (4, vi l4)] 16 3 [] Q))) : Zm E YX8_field_2 (d + 1) M [(0, vr (some (97, 1, 0))), (1, vi l1), (2, vi l2), (3, vi l3), (4, vi l4)] 5 [vi s0] Q := by
  refine sX8_field_2_5 (d := d) M l1 l2 l3 l4 s0 ?_
  refine zite k (fun h10471 k => ?_) (fun h10471 k => ?_)
  · refine sX8_field_2_53 (d := d) M l1 l2 l3 l4 (0 : Int32) ?_
    refine zpos (show (0 : Int32) = 0 from by decide) ?_
    exact k
  · exact k
theorem iX8_field_2_19 {E : zE} {d : Nat} {Q : zO → zM → Prop} (M : zM) (l1 : Int32) (l2 : Int32) (l3 : Int32) (l4 : Int32) (s0 : Int32) (k : if s0 = 0 then (Q (.inl (some (vl (0 : Int64)))) M) else (Zm E YX8_in d M (zargs 0 [vi l3, vi (0 : Int32), vi (gi M 97 8)]) 0 [] (zma E YX8_field_2 (d + 1) [(0, vr (some (97, 1, 0))), (1, vi l1), (2, vi l2), (3, vi l3), (4, vi l4)] 28 3 [] Q))) : Zm E YX8_field_2 (d + 1) M [(0, vr (some (97, 1, 0))), (1, vi l1), (2, vi l2), (3, vi l3), (4, vi l4)] 19 [vi s0] Q := by
  refine sX8_field_2_19 (d := d) M l1 l2 l3 l4 s0 ?_
  refine zite k (fun h10503 k => ?_) (fun h10503 k => ?_)
  · refine sX8_field_2_53 (d := d) M l1 l2 l3 l4 (0 : Int32) ?_
    refine zpos (show (0 : Int32) = 0 from by decide) ?_
    exact k
  · exact k
theorem iX8_field_2_31 {E : zE} {d : Nat} {Q : zO → zM → Prop} (M : zM) (l1 : Int32) (l2 : Int32) (l3 : Int32) (l4 : Int32) (s0 : Int32) (k : if s0 = 0 then (Q (.inl (some (vl (0 : Int64)))) M) else (if l1 = (639 : Int32) then (vp_in ((15000 : Int32) + l2) 15128 ∧ (if (gi M 178 (((15000 : Int32) + l2)).toNatClampNeg) = 0 then (Q (.inl (some (vl (0 : Int64)))) M) else (Zm E YX8_tell (d + 1) M (zargs 0 [vr (some (97, 1, 0)), vi (((635640 : Int32) + (l2 * ((gi M 97 8) + (1 : Int32)))) + l3), vi l4]) 0 [] (zma E YX8_field_2 ((d + 1) + 1) [] 70 3 [] Q)))) else (vp_in ((l1 * (gi M 97 71)) + l2) 15128 ∧ (if (gi M 178 (((l1 * (gi M 97 71)) + l2)).toNatClampNeg) = 0 then (Q (.inl (some (vl (0 : Int64)))) M) else (Zm E YX8_tell (d + 1) M (zargs 0 [vr (some (97, 1, 0)), vi ((((l1 * (gi M 97 71)) * ((gi M 97 8) + (1 : Int32))) + (l2 * ((gi M 97 8) + (1 : Int32)))) + l3), vi l4]) 0 [] (zma E YX8_field_2 ((d + 1) + 1) [] 70 3 [] Q)))))) : Zm E YX8_field_2 (d + 2) M [(0, vr (some (97, 1, 0))), (1, vi l1), (2, vi l2), (3, vi l3), (4, vi l4)] 31 [vi s0] Q := by
  refine sX8_field_2_31 (d := (d + 1)) M l1 l2 l3 l4 s0 ?_
  refine zite k (fun h10532 k => ?_) (fun h10532 k => ?_)
  · refine sX8_field_2_53 (d := (d + 1)) M l1 l2 l3 l4 (0 : Int32) ?_
    refine zpos (show (0 : Int32) = 0 from by decide) ?_
    exact k
  · refine jX8_of (d := d) M l1 l2 ?_
    refine zite k (fun h10533 k => ?_) (fun h10533 k => ?_)
    · show Zm E YX8_field_2 ((d + 1) + 1) M [(0, vr (some (97, 1, 0))), (1, vi l1), (2, vi l2), (3, vi l3), (4, vi l4)] 44 [vi ((15000 : Int32) + l2), vr (some (178, 104, 15128))] Q
      refine sX8_field_2_44 (d := (d + 1)) M l1 l2 l3 l4 ((15000 : Int32) + l2) ?_
      refine zand k (fun h10534 k => ?_)
      refine zite k (fun h10535 k => ?_) (fun h10535 k => ?_)
      · refine sX8_field_2_53 (d := (d + 1)) M l1 l2 l3 l4 (0 : Int32) ?_
        refine zpos (show (0 : Int32) = 0 from by decide) ?_
        exact k
      · refine sX8_field_2_53 (d := (d + 1)) M l1 l2 l3 l4 (1 : Int32) ?_
        refine zneg (show ¬ ((1 : Int32) = 0) from by decide) ?_
        refine jX8_field (d := d) M l1 l2 l3 ?_
        refine zpos h10533 ?_
        show Zm E YX8_field_2 ((d + 1) + 1) M [(4, vi l4)] 68 [vi (((635640 : Int32) + (l2 * ((gi M 97 8) + (1 : Int32)))) + l3), vr (some (97, 1, 0))] Q
        refine sX8_field_2_68 (d := (d + 1)) M l4 (((635640 : Int32) + (l2 * ((gi M 97 8) + (1 : Int32)))) + l3) ?_
        exact k
    · show Zm E YX8_field_2 ((d + 1) + 1) M [(0, vr (some (97, 1, 0))), (1, vi l1), (2, vi l2), (3, vi l3), (4, vi l4)] 44 [vi ((l1 * (gi M 97 71)) + l2), vr (some (178, 104, 15128))] Q
      refine sX8_field_2_44 (d := (d + 1)) M l1 l2 l3 l4 ((l1 * (gi M 97 71)) + l2) ?_
      refine zand k (fun h10536 k => ?_)
      refine zite k (fun h10537 k => ?_) (fun h10537 k => ?_)
      · refine sX8_field_2_53 (d := (d + 1)) M l1 l2 l3 l4 (0 : Int32) ?_
        refine zpos (show (0 : Int32) = 0 from by decide) ?_
        exact k
      · refine sX8_field_2_53 (d := (d + 1)) M l1 l2 l3 l4 (1 : Int32) ?_
        refine zneg (show ¬ ((1 : Int32) = 0) from by decide) ?_
        refine jX8_field (d := d) M l1 l2 l3 ?_
        refine zneg h10533 ?_
        show Zm E YX8_field_2 ((d + 1) + 1) M [(4, vi l4)] 68 [vi ((((l1 * (gi M 97 71)) * ((gi M 97 8) + (1 : Int32))) + (l2 * ((gi M 97 8) + (1 : Int32)))) + l3), vr (some (97, 1, 0))] Q
        refine sX8_field_2_68 (d := (d + 1)) M l4 ((((l1 * (gi M 97 71)) * ((gi M 97 8) + (1 : Int32))) + (l2 * ((gi M 97 8) + (1 : Int32)))) + l3) ?_
        exact k
theorem iX8_height_0 {E : zE} {d : Nat} {Q : zO → zM → Prop} (M : zM) (l1 : Int32) (k : if (gi M 97 119) = 0 then (Q (.inl (some (vi (-1 : Int32)))) (si M 97 0 (0 : Int32))) else (if l1 < (0 : Int32) then (Q (.inl (some (vi (-1 : Int32)))) (si M 97 0 (0 : Int32))) else (if ((gi M 97 46) - (1 : Int32)) < l1 then (Q (.inl (some (vi (-1 : Int32)))) (si M 97 0 (0 : Int32))) else (vp_in l1 640 ∧ (if (gi M 168 (l1).toNatClampNeg) = 0 then (Q (.inl (some (vi (-1 : Int32)))) (si M 97 0 (0 : Int32))) else (Q (.inl (some (vi (gi M 171 (l1).toNatClampNeg)))) (si M 97 0 (0 : Int32)))))))) : Zm E YX8_height (d + 2) M [(0, vr (some (97, 1, 0))), (1, vi l1)] 0 [] Q := by
  refine sX8_height_0 (d := (d + 1)) M l1 ?_
  refine jX8_isReached (d := d) M l1 ?_
  refine zite k (fun h10538 k => ?_) (fun h10538 k => ?_)
  · show Zm E YX8_height ((d + 1) + 1) (si M 97 0 (0 : Int32)) [(0, vr (some (97, 1, 0))), (1, vi l1)] 5 [vi (0 : Int32)] Q
    refine sX8_height_5 (d := (d + 1)) (si M 97 0 (0 : Int32)) l1 (0 : Int32) ?_
    refine zpos (show (0 : Int32) = 0 from by decide) ?_
    exact k
  · refine zite k (fun h10539 k => ?_) (fun h10539 k => ?_)
    · show Zm E YX8_height ((d + 1) + 1) (si M 97 0 (0 : Int32)) [(0, vr (some (97, 1, 0))), (1, vi l1)] 5 [vi (0 : Int32)] Q
      refine sX8_height_5 (d := (d + 1)) (si M 97 0 (0 : Int32)) l1 (0 : Int32) ?_
      refine zpos (show (0 : Int32) = 0 from by decide) ?_
      exact k
    · refine zite k (fun h10540 k => ?_) (fun h10540 k => ?_)
      · show Zm E YX8_height ((d + 1) + 1) (si M 97 0 (0 : Int32)) [(0, vr (some (97, 1, 0))), (1, vi l1)] 5 [vi (0 : Int32)] Q
        refine sX8_height_5 (d := (d + 1)) (si M 97 0 (0 : Int32)) l1 (0 : Int32) ?_
        refine zpos (show (0 : Int32) = 0 from by decide) ?_
        exact k
      · refine zand k (fun h10541 k => ?_)
        refine zite k (fun h10542 k => ?_) (fun h10542 k => ?_)
        · show Zm E YX8_height ((d + 1) + 1) (si M 97 0 (0 : Int32)) [(0, vr (some (97, 1, 0))), (1, vi l1)] 5 [vi (0 : Int32)] Q
          refine sX8_height_5 (d := (d + 1)) (si M 97 0 (0 : Int32)) l1 (0 : Int32) ?_
          refine zpos (show (0 : Int32) = 0 from by decide) ?_
          exact k
        · show Zm E YX8_height ((d + 1) + 1) (si M 97 0 (0 : Int32)) [(0, vr (some (97, 1, 0))), (1, vi l1)] 5 [vi (1 : Int32)] Q
          refine sX8_height_5 (d := (d + 1)) (si M 97 0 (0 : Int32)) l1 (1 : Int32) ?_
          refine zneg (show ¬ ((1 : Int32) = 0) from by decide) ?_
          refine ⟨h10541, ?_⟩
          exact k
theorem iX8_isReached_0 {E : zE} {d : Nat} {Q : zO → zM → Prop} (M : zM) (l1 : Int32) (k : if (gi M 97 119) = 0 then (Q (.inl (some (vi (0 : Int32)))) (si M 97 0 (0 : Int32))) else (if l1 < (0 : Int32) then (Q (.inl (some (vi (0 : Int32)))) (si M 97 0 (0 : Int32))) else (if ((gi M 97 46) - (1 : Int32)) < l1 then (Q (.inl (some (vi (0 : Int32)))) (si M 97 0 (0 : Int32))) else (vp_in l1 640 ∧ (if (gi M 168 (l1).toNatClampNeg) = 0 then (Q (.inl (some (vi (0 : Int32)))) (si M 97 0 (0 : Int32))) else (Q (.inl (some (vi (1 : Int32)))) (si M 97 0 (0 : Int32)))))))) : Zm E YX8_isReached (d + 1) M [(0, vr (some (97, 1, 0))), (1, vi l1)] 0 [] Q := by
  refine sX8_isReached_0 (d := d) M l1 ?_
  refine zite k (fun h10543 k => ?_) (fun h10543 k => ?_)
  · exact k
  · refine sX8_in_0 (d := d) (si M 97 0 (0 : Int32)) l1 (0 : Int32) ((gi M 97 46) - (1 : Int32)) ?_
    refine zite k (fun h10544 k => ?_) (fun h10544 k => ?_)
    · show Zm E YX8_isReached (d + 1) (si M 97 0 (0 : Int32)) [(0, vr (some (97, 1, 0))), (1, vi l1)] 23 [vi (0 : Int32)] Q
      refine sX8_isReached_23 (d := d) (si M 97 0 (0 : Int32)) l1 (0 : Int32) ?_
      refine zpos (show (0 : Int32) = 0 from by decide) ?_
      exact k
    · refine zite k (fun h10545 k => ?_) (fun h10545 k => ?_)
      · show Zm E YX8_isReached (d + 1) (si M 97 0 (0 : Int32)) [(0, vr (some (97, 1, 0))), (1, vi l1)] 23 [vi (0 : Int32)] Q
        refine sX8_isReached_23 (d := d) (si M 97 0 (0 : Int32)) l1 (0 : Int32) ?_
        refine zpos (show (0 : Int32) = 0 from by decide) ?_
        exact k
      · show Zm E YX8_isReached (d + 1) (si M 97 0 (0 : Int32)) [(0, vr (some (97, 1, 0))), (1, vi l1)] 23 [vi (1 : Int32)] Q
        refine sX8_isReached_23 (d := d) (si M 97 0 (0 : Int32)) l1 (1 : Int32) ?_
        refine zneg (show ¬ ((1 : Int32) = 0) from by decide) ?_
        exact k
theorem iX8_link_0 {E : zE} {d : Nat} {Q : zO → zM → Prop} (M : zM) (l1 : Int32) (l2 : Int32) (l3 : Int32) (k : if (gi M 97 119) = 0 then (Q (.inl (some (vl (0 : Int64)))) (si M 97 0 (0 : Int32))) else (if l1 < (0 : Int32) then (Q (.inl (some (vl (0 : Int64)))) (si M 97 0 (0 : Int32))) else (if ((gi M 97 46) - (1 : Int32)) < l1 then (Q (.inl (some (vl (0 : Int64)))) (si M 97 0 (0 : Int32))) else (vp_in l1 640 ∧ (if (gi M 168 (l1).toNatClampNeg) = 0 then (Q (.inl (some (vl (0 : Int64)))) (si M 97 0 (0 : Int32))) else (if l2 < (-1 : Int32) then (Q (.inl (some (vl (0 : Int64)))) (si M 97 0 (0 : Int32))) else (if ((gi M 97 71) - (1 : Int32)) < l2 then (Q (.inl (some (vl (0 : Int64)))) (si M 97 0 (0 : Int32))) else (if l2 = (-1 : Int32) then (if l3 = (3 : Int32) then (Q (.inl (some (vl (gl M 173 (l1).toNatClampNeg)))) (si M 97 0 (0 : Int32))) else (if l3 = (4 : Int32) then (Q (.inl (some (vl (gl M 174 (l1).toNatClampNeg)))) (si M 97 0 (0 : Int32))) else (Q (.inl (some (vl (0 : Int64)))) (si M 97 0 (0 : Int32))))) else (if l1 = (639 : Int32) then (if l3 = 0 then (vp_in ((15000 : Int32) + l2) 15128 ∧ (Q (.inl (some (vl (gl M 180 (((15000 : Int32) + l2)).toNatClampNeg)))) (si M 97 0 (0 : Int32)))) else (if l3 = 1 then (vp_in ((15000 : Int32) + l2) 15128 ∧ (Q (.inl (some (vl (gl M 181 (((15000 : Int32) + l2)).toNatClampNeg)))) (si M 97 0 (0 : Int32)))) else (if l3 = 2 then (vp_in ((15000 : Int32) + l2) 15128 ∧ (if (gi M 179 (((15000 : Int32) + l2)).toNatClampNeg) = 0 then (Q (.inl (some (vl (0 : Int64)))) (si M 97 0 (0 : Int32))) else (Q (.inl (some (vl (1 : Int64)))) (si M 97 0 (0 : Int32))))) else (if l3 = 3 then (vp_in ((15000 : Int32) + l2) 15128 ∧ (Q (.inl (some (vl (gl M 182 (((15000 : Int32) + l2)).toNatClampNeg)))) (si M 97 0 (0 : Int32)))) else (if l3 = 4 then (vp_in ((15000 : Int32) + l2) 15128 ∧ (Q (.inl (some (vl (gl M 183 (((15000 : Int32) + l2)).toNatClampNeg)))) (si M 97 0 (0 : Int32)))) else (if l3 = 5 then (vp_in ((15000 : Int32) + l2) 15128 ∧ (if (gi M 178 (((15000 : Int32) + l2)).toNatClampNeg) = 0 then (Q (.inl (some (vl (0 : Int64)))) (si M 97 0 (0 : Int32))) else (Q (.inl (some (vl (1 : Int64)))) (si M 97 0 (0 : Int32))))) else (Q (.inl (some (vl (0 : Int64)))) (si M 97 0 (0 : Int32))))))))) else (if l3 = 0 then (vp_in ((l1 * (gi M 97 71)) + l2) 15128 ∧ (Q (.inl (some (vl (gl M 180 (((l1 * (gi M 97 71)) + l2)).toNatClampNeg)))) (si M 97 0 (0 : Int32)))) else (if l3 = 1 then (vp_in ((l1 * (gi M 97 71)) + l2) 15128 ∧ (Q (.inl (some (vl (gl M 181 (((l1 * (gi M 97 71)) + l2)).toNatClampNeg)))) (si M 97 0 (0 : Int32)))) else (if l3 = 2 then (vp_in ((l1 * (gi M 97 71)) + l2) 15128 ∧ (if (gi M 179 (((l1 * (gi M 97 71)) + l2)).toNatClampNeg) = 0 then (Q (.inl (some (vl (0 : Int64)))) (si M 97 0 (0 : Int32))) else (Q (.inl (some (vl (1 : Int64)))) (si M 97 0 (0 : Int32))))) else (if l3 = 3 then (vp_in ((l1 * (gi M 97 71)) + l2) 15128 ∧ (Q (.inl (some (vl (gl M 182 (((l1 * (gi M 97 71)) + l2)).toNatClampNeg)))) (si M 97 0 (0 : Int32)))) else (if l3 = 4 then (vp_in ((l1 * (gi M 97 71)) + l2) 15128 ∧ (Q (.inl (some (vl (gl M 183 (((l1 * (gi M 97 71)) + l2)).toNatClampNeg)))) (si M 97 0 (0 : Int32)))) else (if l3 = 5 then (vp_in ((l1 * (gi M 97 71)) + l2) 15128 ∧ (if (gi M 178 (((l1 * (gi M 97 71)) + l2)).toNatClampNeg) = 0 then (Q (.inl (some (vl (0 : Int64)))) (si M 97 0 (0 : Int32))) else (Q (.inl (some (vl (1 : Int64)))) (si M 97 0 (0 : Int32))))) else (Q (.inl (some (vl (0 : Int64)))) (si M 97 0 (0 : Int32)))))))))))))))))) : Zm E YX8_link (d + 2) M [(0, vr (some (97, 1, 0))), (1, vi l1), (2, vi l2), (3, vi l3)] 0 [] Q := by
  refine sX8_link_0 (d := (d + 1)) M l1 l2 l3 ?_
  refine jX8_isReached (d := d) M l1 ?_
  refine zite k (fun h10548 k => ?_) (fun h10548 k => ?_)
  · show Zm E YX8_link ((d + 1) + 1) (si M 97 0 (0 : Int32)) [(0, vr (some (97, 1, 0))), (1, vi l1), (2, vi l2), (3, vi l3)] 5 [vi (0 : Int32)] Q
    refine sX8_link_5 (d := (d + 1)) (si M 97 0 (0 : Int32)) l1 l2 l3 (0 : Int32) ?_
    refine zpos (show (0 : Int32) = 0 from by decide) ?_
    exact k
  · refine zite k (fun h10549 k => ?_) (fun h10549 k => ?_)
    · show Zm E YX8_link ((d + 1) + 1) (si M 97 0 (0 : Int32)) [(0, vr (some (97, 1, 0))), (1, vi l1), (2, vi l2), (3, vi l3)] 5 [vi (0 : Int32)] Q
      refine sX8_link_5 (d := (d + 1)) (si M 97 0 (0 : Int32)) l1 l2 l3 (0 : Int32) ?_
      refine zpos (show (0 : Int32) = 0 from by decide) ?_
      exact k
    · refine zite k (fun h10550 k => ?_) (fun h10550 k => ?_)
      · show Zm E YX8_link ((d + 1) + 1) (si M 97 0 (0 : Int32)) [(0, vr (some (97, 1, 0))), (1, vi l1), (2, vi l2), (3, vi l3)] 5 [vi (0 : Int32)] Q
        refine sX8_link_5 (d := (d + 1)) (si M 97 0 (0 : Int32)) l1 l2 l3 (0 : Int32) ?_
        refine zpos (show (0 : Int32) = 0 from by decide) ?_
        exact k
      · refine zand k (fun h10551 k => ?_)
        refine zite k (fun h10552 k => ?_) (fun h10552 k => ?_)
        · show Zm E YX8_link ((d + 1) + 1) (si M 97 0 (0 : Int32)) [(0, vr (some (97, 1, 0))), (1, vi l1), (2, vi l2), (3, vi l3)] 5 [vi (0 : Int32)] Q
          refine sX8_link_5 (d := (d + 1)) (si M 97 0 (0 : Int32)) l1 l2 l3 (0 : Int32) ?_
          refine zpos (show (0 : Int32) = 0 from by decide) ?_
          exact k
        · show Zm E YX8_link ((d + 1) + 1) (si M 97 0 (0 : Int32)) [(0, vr (some (97, 1, 0))), (1, vi l1), (2, vi l2), (3, vi l3)] 5 [vi (1 : Int32)] Q
          refine sX8_link_5 (d := (d + 1)) (si M 97 0 (0 : Int32)) l1 l2 l3 (1 : Int32) ?_
          refine zneg (show ¬ ((1 : Int32) = 0) from by decide) ?_
          refine sX8_in_0 (d := (d + 1)) (si M 97 0 (0 : Int32)) l2 (-1 : Int32) ((gi M 97 71) - (1 : Int32)) ?_
          refine zite k (fun h10553 k => ?_) (fun h10553 k => ?_)
          · show Zm E YX8_link ((d + 1) + 1) (si M 97 0 (0 : Int32)) [(0, vr (some (97, 1, 0))), (1, vi l1), (2, vi l2), (3, vi l3)] 19 [vi (0 : Int32)] Q
            refine sX8_link_19 (d := (d + 1)) (si M 97 0 (0 : Int32)) l1 l2 l3 (0 : Int32) ?_
            refine zpos (show (0 : Int32) = 0 from by decide) ?_
            exact k
          · refine zite k (fun h10554 k => ?_) (fun h10554 k => ?_)
            · show Zm E YX8_link ((d + 1) + 1) (si M 97 0 (0 : Int32)) [(0, vr (some (97, 1, 0))), (1, vi l1), (2, vi l2), (3, vi l3)] 19 [vi (0 : Int32)] Q
              refine sX8_link_19 (d := (d + 1)) (si M 97 0 (0 : Int32)) l1 l2 l3 (0 : Int32) ?_
              refine zpos (show (0 : Int32) = 0 from by decide) ?_
              exact k
            · show Zm E YX8_link ((d + 1) + 1) (si M 97 0 (0 : Int32)) [(0, vr (some (97, 1, 0))), (1, vi l1), (2, vi l2), (3, vi l3)] 19 [vi (1 : Int32)] Q
              refine sX8_link_19 (d := (d + 1)) (si M 97 0 (0 : Int32)) l1 l2 l3 (1 : Int32) ?_
              refine zneg (show ¬ ((1 : Int32) = 0) from by decide) ?_
              refine zite k (fun h10555 k => ?_) (fun h10555 k => ?_)
              · refine zite k (fun h10556 k => ?_) (fun h10556 k => ?_)
                · refine ⟨h10551, ?_⟩
                  exact k
                · refine zite k (fun h10557 k => ?_) (fun h10557 k => ?_)
                  · refine ⟨h10551, ?_⟩
                    exact k
                  · exact k
              · refine jX8_of (d := d) (si M 97 0 (0 : Int32)) l1 l2 ?_
                refine zite k (fun h10558 k => ?_) (fun h10558 k => ?_)
                · show Zm E YX8_link ((d + 1) + 1) (si M 97 0 (0 : Int32)) [(0, vr (some (97, 1, 0))), (3, vi l3)] 65 [vi ((15000 : Int32) + l2)] Q
                  refine sX8_link_65 (d := (d + 1)) (si M 97 0 (0 : Int32)) l3 ((15000 : Int32) + l2) ?_
                  exact k
                · show Zm E YX8_link ((d + 1) + 1) (si M 97 0 (0 : Int32)) [(0, vr (some (97, 1, 0))), (3, vi l3)] 65 [vi ((l1 * (gi M 97 71)) + l2)] Q
                  refine sX8_link_65 (d := (d + 1)) (si M 97 0 (0 : Int32)) l3 ((l1 * (gi M 97 71)) + l2) ?_
                  exact k
theorem iX8_loadLabels_0 {E : zE} {d : Nat} {Q : zO → zM → Prop} (M : zM) (l1 : Int32) (k : if l1 = (639 : Int32) then (Zm E YX8_loadLabels (d + 1) M [(0, vr (some (97, 1, 0))), (1, vi l1), (2, vi (635640 : Int32)), (3, vi (0 : Int32))] 8 [] Q) else (Zm E YX8_loadLabels (d + 1) M [(0, vr (some (97, 1, 0))), (1, vi l1), (2, vi ((l1 * (gi M 97 71)) * ((gi M 97 8) + (1 : Int32)))), (3, vi (0 : Int32))] 8 [] Q)) : Zm E YX8_loadLabels (d + 1) M [(0, vr (some (97, 1, 0))), (1, vi l1)] 0 [] Q := by
  refine sX8_loadLabels_0 (d := d) M l1 ?_
  refine sX8_fieldsAt_0 (d := d) M l1 ?_
  refine zite k (fun h10587 k => ?_) (fun h10587 k => ?_)
  · show Zm E YX8_loadLabels (d + 1) M [(0, vr (some (97, 1, 0))), (1, vi l1)] 5 [vi (635640 : Int32)] Q
    refine sX8_loadLabels_5 (d := d) M l1 (635640 : Int32) ?_
    exact k
  · show Zm E YX8_loadLabels (d + 1) M [(0, vr (some (97, 1, 0))), (1, vi l1)] 5 [vi ((l1 * (gi M 97 71)) * ((gi M 97 8) + (1 : Int32)))] Q
    refine sX8_loadLabels_5 (d := d) M l1 ((l1 * (gi M 97 71)) * ((gi M 97 8) + (1 : Int32))) ?_
    exact k
theorem iX8_loadLabels_8 {E : zE} {d : Nat} {Q : zO → zM → Prop} (M : zM) (l1 : Int32) (l2 : Int32) (l3 : Int32) (k : if ((gi M 97 71) * ((gi M 97 8) + (1 : Int32))) ≤ l3 then (Zm E YX8_loadRest d M (zargs 0 [vr (some (97, 1, 0)), vi l1]) 0 [] (zma E YX8_loadLabels (d + 1) [] 43 3 [] Q)) else (vp_in (l2 + l3) 647800 ∧ (vp_in ((635640 : Int32) + l3) 647800 ∧ (Zm E YX8_loadLabels (d + 1) (sl (sl (sl M 165 (((635640 : Int32) + l3)).toNatClampNeg (gl M 165 ((l2 + l3)).toNatClampNeg)) 166 (((635640 : Int32) + l3)).toNatClampNeg (gl M 166 ((l2 + l3)).toNatClampNeg)) 167 (((635640 : Int32) + l3)).toNatClampNeg (gl M 167 ((l2 + l3)).toNatClampNeg)) [(0, vr (some (97, 1, 0))), (1, vi l1), (2, vi l2), (3, vi (l3 + (1 : Int32)))] 8 [] Q)))) : Zm E YX8_loadLabels (d + 1) M [(0, vr (some (97, 1, 0))), (1, vi l1), (2, vi l2), (3, vi l3)] 8 [] Q := by
  refine sX8_loadLabels_8 (d := d) M l1 l2 l3 ?_
  refine zite k (fun h10588 k => ?_) (fun h10588 k => ?_)
  · exact k
  · refine jX8_copySet (d := d) M (l2 + l3) ((635640 : Int32) + l3) ?_
    refine zand k (fun h10589 k => ?_)
    refine zand k (fun h10590 k => ?_)
    show Zm E YX8_loadLabels (d + 1) (sl (sl (sl M 165 (((635640 : Int32) + l3)).toNatClampNeg (gl M 165 ((l2 + l3)).toNatClampNeg)) 166 (((635640 : Int32) + l3)).toNatClampNeg (gl M 166 ((l2 + l3)).toNatClampNeg)) 167 (((635640 : Int32) + l3)).toNatClampNeg (gl M 167 ((l2 + l3)).toNatClampNeg)) [(0, vr (some (97, 1, 0))), (1, vi l1), (2, vi l2), (3, vi l3)] 35 [] Q
    refine sX8_loadLabels_35 (d := d) (sl (sl (sl M 165 (((635640 : Int32) + l3)).toNatClampNeg (gl M 165 ((l2 + l3)).toNatClampNeg)) 166 (((635640 : Int32) + l3)).toNatClampNeg (gl M 166 ((l2 + l3)).toNatClampNeg)) 167 (((635640 : Int32) + l3)).toNatClampNeg (gl M 167 ((l2 + l3)).toNatClampNeg)) l1 l2 l3 ?_
    exact k
theorem iX8_prepare_24 {E : zE} {d : Nat} {Q : zO → zM → Prop} (M : zM) (l1 : Int64) (l3 : Int64) (l5 : Int32) (l6 : Int64) (l8 : Int64) (l10 : Int32) (k : if (gi M 97 71) ≤ l10 then (Zm E YX8_readFrom d (sl (sl (sl M 97 143 (0 : Int64)) 97 144 (0 : Int64)) 97 143 ((0 : Int64) ||| (zls (1 : Int64) (1 : Int32)))) (zargs 0 [vr (some (97, 1, 0)), vl l6, vl l8, vi (647750 : Int32)]) 0 [] (zma E YX8_prepare (d + 1) [(0, vr (some (97, 1, 0))), (5, vi l5), (10, vi (647750 : Int32))] 113 3 [] Q)) else (if (64 : Int32) ≤ l10 then (if (lg_cmp ((zlr l3 (l10 - (64 : Int32))) &&& (1 : Int64)) (1 : Int64)) = 0 then (Zm E YX8_codeOfLabel d M (zargs 0 [vr (some (97, 1, 0)), vi l10]) 0 [] (zma E YX8_prepare (d + 1) [(0, vr (some (97, 1, 0))), (1, vl l1), (3, vl l3), (5, vi l5), (6, vl l6), (8, vl l8), (10, vi l10)] 46 3 [] Q)) else (Zm E YX8_prepare (d + 1) M [(0, vr (some (97, 1, 0))), (1, vl l1), (3, vl l3), (5, vi l5), (6, vl l6), (8, vl l8), (10, vi (l10 + (1 : Int32)))] 24 [] Q)) else (if (lg_cmp ((zlr l1 l10) &&& (1 : Int64)) (1 : Int64)) = 0 then (Zm E YX8_codeOfLabel d M (zargs 0 [vr (some (97, 1, 0)), vi l10]) 0 [] (zma E YX8_prepare (d + 1) [(0, vr (some (97, 1, 0))), (1, vl l1), (3, vl l3), (5, vi l5), (6, vl l6), (8, vl l8), (10, vi l10)] 46 3 [] Q)) else (Zm E YX8_prepare (d + 1) M [(0, vr (some (97, 1, 0))), (1, vl l1), (3, vl l3), (5, vi l5), (6, vl l6), (8, vl l8), (10, vi (l10 + (1 : Int32)))] 24 [] Q)))) : Zm E YX8_prepare (d + 1) M [(0, vr (some (97, 1, 0))), (1, vl l1), (3, vl l3), (5, vi l5), (6, vl l6), (8, vl l8), (10, vi l10)] 24 [] Q := by
  refine sX8_prepare_24 (d := d) M l1 l3 l5 l6 l8 l10 ?_
  refine zite k (fun h10592 k => ?_) (fun h10592 k => ?_)
  · refine sX8_noKeys_0 (d := d) M  ?_
    show Zm E YX8_prepare (d + 1) (sl (sl M 97 143 (0 : Int64)) 97 144 (0 : Int64)) [(0, vr (some (97, 1, 0))), (5, vi l5), (6, vl l6), (8, vl l8), (10, vi (647750 : Int32))] 101 [] Q
    refine sX8_prepare_101 (d := d) (sl (sl M 97 143 (0 : Int64)) 97 144 (0 : Int64)) l5 l6 l8 (647750 : Int32) ?_
    refine sX8_addKey_0 (d := d) (sl (sl M 97 143 (0 : Int64)) 97 144 (0 : Int64)) (1 : Int32) ?_
    refine zneg (show ¬ ((64 : Int32) ≤ (1 : Int32)) from by decide) ?_
    show Zm E YX8_prepare (d + 1) (sl (sl (sl M 97 143 (0 : Int64)) 97 144 (0 : Int64)) 97 143 ((0 : Int64) ||| (zls (1 : Int64) (1 : Int32)))) [(0, vr (some (97, 1, 0))), (5, vi l5), (6, vl l6), (8, vl l8), (10, vi (647750 : Int32))] 106 [] Q
    refine sX8_prepare_106 (d := d) (sl (sl (sl M 97 143 (0 : Int64)) 97 144 (0 : Int64)) 97 143 ((0 : Int64) ||| (zls (1 : Int64) (1 : Int32)))) l5 l6 l8 (647750 : Int32) ?_
    exact k
  · refine jX8_isIn (d := d) M l1 l3 l10 ?_
    refine zite k (fun h10593 k => ?_) (fun h10593 k => ?_)
    · refine zite k (fun h10594 k => ?_) (fun h10594 k => ?_)
      · show Zm E YX8_prepare (d + 1) M [(0, vr (some (97, 1, 0))), (1, vl l1), (3, vl l3), (5, vi l5), (6, vl l6), (8, vl l8), (10, vi l10)] 40 [vi (1 : Int32)] Q
        refine sX8_prepare_40 (d := d) M l1 l3 l5 l6 l8 l10 (1 : Int32) ?_
        refine zneg (show ¬ ((1 : Int32) = 0) from by decide) ?_
        exact k
      · show Zm E YX8_prepare (d + 1) M [(0, vr (some (97, 1, 0))), (1, vl l1), (3, vl l3), (5, vi l5), (6, vl l6), (8, vl l8), (10, vi l10)] 40 [vi (0 : Int32)] Q
        refine sX8_prepare_40 (d := d) M l1 l3 l5 l6 l8 l10 (0 : Int32) ?_
        refine zpos (show (0 : Int32) = 0 from by decide) ?_
        exact k
    · refine zite k (fun h10595 k => ?_) (fun h10595 k => ?_)
      · show Zm E YX8_prepare (d + 1) M [(0, vr (some (97, 1, 0))), (1, vl l1), (3, vl l3), (5, vi l5), (6, vl l6), (8, vl l8), (10, vi l10)] 40 [vi (1 : Int32)] Q
        refine sX8_prepare_40 (d := d) M l1 l3 l5 l6 l8 l10 (1 : Int32) ?_
        refine zneg (show ¬ ((1 : Int32) = 0) from by decide) ?_
        exact k
      · show Zm E YX8_prepare (d + 1) M [(0, vr (some (97, 1, 0))), (1, vl l1), (3, vl l3), (5, vi l5), (6, vl l6), (8, vl l8), (10, vi l10)] 40 [vi (0 : Int32)] Q
        refine sX8_prepare_40 (d := d) M l1 l3 l5 l6 l8 l10 (0 : Int32) ?_
        refine zpos (show (0 : Int32) = 0 from by decide) ?_
        exact k
theorem iX8_prepare_116 {E : zE} {d : Nat} {Q : zO → zM → Prop} (M : zM) (l5 : Int32) (l10 : Int32) (k : if (gi M 97 145) = 0 then (vp_in l10 647800 ∧ (if ((((gl M 165 (l10).toNatClampNeg) &&& (1023 : Int64))).toInt32 &&& (-513 : Int32)) = 0 then (vp_in (0 : Int32) 12 ∧ (Zm E YX8_make (d + 1) (si (si M 188 ((0 : Int32)).toNatClampNeg l10) 97 147 (1 : Int32)) (zargs 0 [vr (some (97, 1, 0)), vi (((29 : Int32) + ((6 : Int32) * ((gi M 97 32) - (1 : Int32)))) + ((2 : Int32) * l5)), vi (1 : Int32)]) 0 [] (zma E YX8_prepare ((d + 1) + 1) [(0, vr (some (97, 1, 0))), (5, vi l5), (10, vi l10), (11, vi (0 : Int32))] 160 3 [] Q))) else (vp_in (0 : Int32) 12 ∧ (Zm E YX8_make (d + 1) (si (si M 188 ((0 : Int32)).toNatClampNeg l10) 97 147 (1 : Int32)) (zargs 0 [vr (some (97, 1, 0)), vi (((29 : Int32) + ((6 : Int32) * ((gi M 97 32) - (1 : Int32)))) + ((2 : Int32) * l5)), vi (1 : Int32)]) 0 [] (zma E YX8_prepare ((d + 1) + 1) [(0, vr (some (97, 1, 0))), (5, vi l5), (10, vi l10), (11, vi (1 : Int32))] 160 3 [] Q))))) else (vp_in (0 : Int32) 12 ∧ (Zm E YX8_make (d + 1) (si (si M 188 ((0 : Int32)).toNatClampNeg l10) 97 147 (1 : Int32)) (zargs 0 [vr (some (97, 1, 0)), vi (((29 : Int32) + ((6 : Int32) * ((gi M 97 32) - (1 : Int32)))) + ((2 : Int32) * l5)), vi (1 : Int32)]) 0 [] (zma E YX8_prepare ((d + 1) + 1) [(0, vr (some (97, 1, 0))), (5, vi l5), (10, vi l10), (11, vi (1 : Int32))] 160 3 [] Q)))) : Zm E YX8_prepare (d + 2) M [(0, vr (some (97, 1, 0))), (5, vi l5), (10, vi l10)] 116 [] Q := by
  refine sX8_prepare_116 (d := (d + 1)) M l5 l10 ?_
  refine zite k (fun h10597 k => ?_) (fun h10597 k => ?_)
  · refine jX8_plainly (d := d) M l10 ?_
    refine zand k (fun h10598 k => ?_)
    show Zm E YX8_prepare ((d + 1) + 1) M [(0, vr (some (97, 1, 0))), (5, vi l5), (10, vi l10)] 129 [vi ((((gl M 165 (l10).toNatClampNeg) &&& (1023 : Int64))).toInt32 &&& (-513 : Int32))] Q
    refine sX8_prepare_129 (d := (d + 1)) M l5 l10 ((((gl M 165 (l10).toNatClampNeg) &&& (1023 : Int64))).toInt32 &&& (-513 : Int32)) ?_
    refine zite k (fun h10599 k => ?_) (fun h10599 k => ?_)
    · refine sX8_prepare_137 (d := (d + 1)) M l5 l10 (0 : Int32) ?_
      refine zand k (fun h10600 k => ?_)
      refine sX8_siteLabel_0 (d := (d + 1)) (si (si M 188 ((0 : Int32)).toNatClampNeg l10) 97 147 (1 : Int32)) l5 ?_
      show Zm E YX8_prepare ((d + 1) + 1) (si (si M 188 ((0 : Int32)).toNatClampNeg l10) 97 147 (1 : Int32)) [(0, vr (some (97, 1, 0))), (5, vi l5), (10, vi l10), (11, vi (0 : Int32))] 159 [vi (((29 : Int32) + ((6 : Int32) * ((gi M 97 32) - (1 : Int32)))) + ((2 : Int32) * l5)), vr (some (97, 1, 0))] Q
      refine sX8_prepare_159 (d := (d + 1)) (si (si M 188 ((0 : Int32)).toNatClampNeg l10) 97 147 (1 : Int32)) l5 l10 (0 : Int32) (((29 : Int32) + ((6 : Int32) * ((gi M 97 32) - (1 : Int32)))) + ((2 : Int32) * l5)) ?_
      exact k
    · refine sX8_prepare_137 (d := (d + 1)) M l5 l10 (1 : Int32) ?_
      refine zand k (fun h10601 k => ?_)
      refine sX8_siteLabel_0 (d := (d + 1)) (si (si M 188 ((0 : Int32)).toNatClampNeg l10) 97 147 (1 : Int32)) l5 ?_
      show Zm E YX8_prepare ((d + 1) + 1) (si (si M 188 ((0 : Int32)).toNatClampNeg l10) 97 147 (1 : Int32)) [(0, vr (some (97, 1, 0))), (5, vi l5), (10, vi l10), (11, vi (1 : Int32))] 159 [vi (((29 : Int32) + ((6 : Int32) * ((gi M 97 32) - (1 : Int32)))) + ((2 : Int32) * l5)), vr (some (97, 1, 0))] Q
      refine sX8_prepare_159 (d := (d + 1)) (si (si M 188 ((0 : Int32)).toNatClampNeg l10) 97 147 (1 : Int32)) l5 l10 (1 : Int32) (((29 : Int32) + ((6 : Int32) * ((gi M 97 32) - (1 : Int32)))) + ((2 : Int32) * l5)) ?_
      exact k
  · refine sX8_prepare_137 (d := (d + 1)) M l5 l10 (1 : Int32) ?_
    refine zand k (fun h10602 k => ?_)
    refine sX8_siteLabel_0 (d := (d + 1)) (si (si M 188 ((0 : Int32)).toNatClampNeg l10) 97 147 (1 : Int32)) l5 ?_
    show Zm E YX8_prepare ((d + 1) + 1) (si (si M 188 ((0 : Int32)).toNatClampNeg l10) 97 147 (1 : Int32)) [(0, vr (some (97, 1, 0))), (5, vi l5), (10, vi l10), (11, vi (1 : Int32))] 159 [vi (((29 : Int32) + ((6 : Int32) * ((gi M 97 32) - (1 : Int32)))) + ((2 : Int32) * l5)), vr (some (97, 1, 0))] Q
    refine sX8_prepare_159 (d := (d + 1)) (si (si M 188 ((0 : Int32)).toNatClampNeg l10) 97 147 (1 : Int32)) l5 l10 (1 : Int32) (((29 : Int32) + ((6 : Int32) * ((gi M 97 32) - (1 : Int32)))) + ((2 : Int32) * l5)) ?_
    exact k
theorem iX8_prepare_163 {E : zE} {d : Nat} {Q : zO → zM → Prop} (M : zM) (l5 : Int32) (l10 : Int32) (l11 : Int32) (k : vp_in l10 647800 ∧ (if l11 = 0 then (vp_in ((15000 : Int32) + (((29 : Int32) + ((6 : Int32) * ((gi M 97 32) - (1 : Int32)))) + ((2 : Int32) * l5))) 15128 ∧ (Q (.inl none) (sl (sl (si M 97 147 (0 : Int32)) 180 (((15000 : Int32) + (((29 : Int32) + ((6 : Int32) * ((gi M 97 32) - (1 : Int32)))) + ((2 : Int32) * l5)))).toNatClampNeg ((gl M 166 (l10).toNatClampNeg) ||| (0 : Int64))) 181 (((15000 : Int32) + (((29 : Int32) + ((6 : Int32) * ((gi M 97 32) - (1 : Int32)))) + ((2 : Int32) * l5)))).toNatClampNeg (gl M 167 (l10).toNatClampNeg)))) else (vp_in ((15000 : Int32) + (((29 : Int32) + ((6 : Int32) * ((gi M 97 32) - (1 : Int32)))) + ((2 : Int32) * l5))) 15128 ∧ (Q (.inl none) (sl (sl (si M 97 147 (0 : Int32)) 180 (((15000 : Int32) + (((29 : Int32) + ((6 : Int32) * ((gi M 97 32) - (1 : Int32)))) + ((2 : Int32) * l5)))).toNatClampNeg ((gl M 166 (l10).toNatClampNeg) ||| (2 : Int64))) 181 (((15000 : Int32) + (((29 : Int32) + ((6 : Int32) * ((gi M 97 32) - (1 : Int32)))) + ((2 : Int32) * l5)))).toNatClampNeg (gl M 167 (l10).toNatClampNeg)))))) : Zm E YX8_prepare (d + 2) M [(0, vr (some (97, 1, 0))), (5, vi l5), (10, vi l10), (11, vi l11)] 163 [] Q := by
  refine sX8_prepare_163 (d := (d + 1)) M l5 l10 l11 ?_
  refine sX8_siteLabel_0 (d := (d + 1)) (si M 97 147 (0 : Int32)) l5 ?_
  show Zm E YX8_prepare ((d + 1) + 1) (si M 97 147 (0 : Int32)) [(0, vr (some (97, 1, 0))), (10, vi l10), (11, vi l11)] 178 [vi (((29 : Int32) + ((6 : Int32) * ((gi M 97 32) - (1 : Int32)))) + ((2 : Int32) * l5)), vi (639 : Int32), vr (some (97, 1, 0))] Q
  refine sX8_prepare_178 (d := (d + 1)) (si M 97 147 (0 : Int32)) l10 l11 (((29 : Int32) + ((6 : Int32) * ((gi M 97 32) - (1 : Int32)))) + ((2 : Int32) * l5)) (639 : Int32) ?_
  refine jX8_of (d := d) (si M 97 147 (0 : Int32)) (639 : Int32) (((29 : Int32) + ((6 : Int32) * ((gi M 97 32) - (1 : Int32)))) + ((2 : Int32) * l5)) ?_
  refine zpos (show (639 : Int32) = (639 : Int32) from by decide) ?_
  show Zm E YX8_prepare ((d + 1) + 1) (si M 97 147 (0 : Int32)) [(0, vr (some (97, 1, 0))), (10, vi l10), (11, vi l11)] 181 [vi ((15000 : Int32) + (((29 : Int32) + ((6 : Int32) * ((gi M 97 32) - (1 : Int32)))) + ((2 : Int32) * l5)))] Q
  refine sX8_prepare_181 (d := (d + 1)) (si M 97 147 (0 : Int32)) l10 l11 ((15000 : Int32) + (((29 : Int32) + ((6 : Int32) * ((gi M 97 32) - (1 : Int32)))) + ((2 : Int32) * l5))) ?_
  refine zand k (fun h10605 k => ?_)
  refine zite k (fun h10606 k => ?_) (fun h10606 k => ?_)
  · refine sX8_prepare_208 (d := (d + 1)) (si M 97 147 (0 : Int32)) l10 ((15000 : Int32) + (((29 : Int32) + ((6 : Int32) * ((gi M 97 32) - (1 : Int32)))) + ((2 : Int32) * l5))) (0 : Int64) (gl M 166 (l10).toNatClampNeg) ((15000 : Int32) + (((29 : Int32) + ((6 : Int32) * ((gi M 97 32) - (1 : Int32)))) + ((2 : Int32) * l5))) ?_
    refine zand k (fun h10607 k => ?_)
    refine ⟨h10605, ?_⟩
    refine ⟨h10607, ?_⟩
    exact k
  · refine sX8_prepare_208 (d := (d + 1)) (si M 97 147 (0 : Int32)) l10 ((15000 : Int32) + (((29 : Int32) + ((6 : Int32) * ((gi M 97 32) - (1 : Int32)))) + ((2 : Int32) * l5))) (2 : Int64) (gl M 166 (l10).toNatClampNeg) ((15000 : Int32) + (((29 : Int32) + ((6 : Int32) * ((gi M 97 32) - (1 : Int32)))) + ((2 : Int32) * l5))) ?_
    refine zand k (fun h10608 k => ?_)
    refine ⟨h10605, ?_⟩
    refine ⟨h10608, ?_⟩
    exact k
theorem iX8_result_0 {E : zE} {d : Nat} {Q : zO → zM → Prop} (M : zM) (l1 : Int32) (l2 : Int32) (l3 : Int32) (k : if (gi M 97 119) = 0 then (Q (.inl (some (vl (0 : Int64)))) (si M 97 0 (0 : Int32))) else (if l1 < (0 : Int32) then (Q (.inl (some (vl (0 : Int64)))) (si M 97 0 (0 : Int32))) else (if ((gi M 97 32) - (1 : Int32)) < l1 then (Q (.inl (some (vl (0 : Int64)))) (si M 97 0 (0 : Int32))) else (if l2 < (0 : Int32) then (Q (.inl (some (vl (0 : Int64)))) (si M 97 0 (0 : Int32))) else (if (1 : Int32) < l2 then (Q (.inl (some (vl (0 : Int64)))) (si M 97 0 (0 : Int32))) else (vp_in (((gi M 97 46) + ((2 : Int32) * l1)) + l2) 640 ∧ (if (gi M 168 ((((gi M 97 46) + ((2 : Int32) * l1)) + l2)).toNatClampNeg) = 0 then (Q (.inl (some (vl (0 : Int64)))) (si M 97 0 (0 : Int32))) else (if l3 = 0 then (vp_in (gi M 172 ((((gi M 97 46) + ((2 : Int32) * l1)) + l2)).toNatClampNeg) 647800 ∧ (Q (.inl (some (vl ((((gl M 165 ((gi M 172 ((((gi M 97 46) + ((2 : Int32) * l1)) + l2)).toNatClampNeg)).toNatClampNeg) &&& (1023 : Int64))).toInt32).toInt64))) (si M 97 0 (0 : Int32)))) else (if l3 = 1 then (vp_in (gi M 172 ((((gi M 97 46) + ((2 : Int32) * l1)) + l2)).toNatClampNeg) 647800 ∧ (Q (.inl (some (vl (((zlr (gl M 165 ((gi M 172 ((((gi M 97 46) + ((2 : Int32) * l1)) + l2)).toNatClampNeg)).toNatClampNeg) (32 : Int32))).toInt32).toInt64))) (si M 97 0 (0 : Int32)))) else (if l3 = 2 then (vp_in (gi M 172 ((((gi M 97 46) + ((2 : Int32) * l1)) + l2)).toNatClampNeg) 647800 ∧ (Q (.inl (some (vl ((((zlr (gl M 165 ((gi M 172 ((((gi M 97 46) + ((2 : Int32) * l1)) + l2)).toNatClampNeg)).toNatClampNeg) (10 : Int32)) &&& (127 : Int64))).toInt32).toInt64))) (si M 97 0 (0 : Int32)))) else (if l3 = 3 then (vp_in (gi M 172 ((((gi M 97 46) + ((2 : Int32) * l1)) + l2)).toNatClampNeg) 647800 ∧ (Q (.inl (some (vl (gl M 166 ((gi M 172 ((((gi M 97 46) + ((2 : Int32) * l1)) + l2)).toNatClampNeg)).toNatClampNeg)))) (si M 97 0 (0 : Int32)))) else (if l3 = 4 then (vp_in (gi M 172 ((((gi M 97 46) + ((2 : Int32) * l1)) + l2)).toNatClampNeg) 647800 ∧ (Q (.inl (some (vl (gl M 167 ((gi M 172 ((((gi M 97 46) + ((2 : Int32) * l1)) + l2)).toNatClampNeg)).toNatClampNeg)))) (si M 97 0 (0 : Int32)))) else (Q (.inl (some (vl (0 : Int64)))) (si M 97 0 (0 : Int32))))))))))))))) : Zm E YX8_result (d + 2) M [(0, vr (some (97, 1, 0))), (1, vi l1), (2, vi l2), (3, vi l3)] 0 [] Q := by
  refine sX8_result_0 (d := (d + 1)) M l1 l2 l3 ?_
  refine zite k (fun h10616 k => ?_) (fun h10616 k => ?_)
  · exact k
  · refine sX8_in_0 (d := (d + 1)) (si M 97 0 (0 : Int32)) l1 (0 : Int32) ((gi M 97 32) - (1 : Int32)) ?_
    refine zite k (fun h10617 k => ?_) (fun h10617 k => ?_)
    · show Zm E YX8_result ((d + 1) + 1) (si M 97 0 (0 : Int32)) [(0, vr (some (97, 1, 0))), (1, vi l1), (2, vi l2), (3, vi l3)] 23 [vi (0 : Int32)] Q
      refine sX8_result_23 (d := (d + 1)) (si M 97 0 (0 : Int32)) l1 l2 l3 (0 : Int32) ?_
      refine zpos (show (0 : Int32) = 0 from by decide) ?_
      exact k
    · refine zite k (fun h10618 k => ?_) (fun h10618 k => ?_)
      · show Zm E YX8_result ((d + 1) + 1) (si M 97 0 (0 : Int32)) [(0, vr (some (97, 1, 0))), (1, vi l1), (2, vi l2), (3, vi l3)] 23 [vi (0 : Int32)] Q
        refine sX8_result_23 (d := (d + 1)) (si M 97 0 (0 : Int32)) l1 l2 l3 (0 : Int32) ?_
        refine zpos (show (0 : Int32) = 0 from by decide) ?_
        exact k
      · show Zm E YX8_result ((d + 1) + 1) (si M 97 0 (0 : Int32)) [(0, vr (some (97, 1, 0))), (1, vi l1), (2, vi l2), (3, vi l3)] 23 [vi (1 : Int32)] Q
        refine sX8_result_23 (d := (d + 1)) (si M 97 0 (0 : Int32)) l1 l2 l3 (1 : Int32) ?_
        refine zneg (show ¬ ((1 : Int32) = 0) from by decide) ?_
        refine sX8_in_0 (d := (d + 1)) (si M 97 0 (0 : Int32)) l2 (0 : Int32) (1 : Int32) ?_
        refine zite k (fun h10619 k => ?_) (fun h10619 k => ?_)
        · show Zm E YX8_result ((d + 1) + 1) (si M 97 0 (0 : Int32)) [(0, vr (some (97, 1, 0))), (1, vi l1), (2, vi l2), (3, vi l3)] 32 [vi (0 : Int32)] Q
          refine sX8_result_32 (d := (d + 1)) (si M 97 0 (0 : Int32)) l1 l2 l3 (0 : Int32) ?_
          refine zpos (show (0 : Int32) = 0 from by decide) ?_
          exact k
        · refine zite k (fun h10620 k => ?_) (fun h10620 k => ?_)
          · show Zm E YX8_result ((d + 1) + 1) (si M 97 0 (0 : Int32)) [(0, vr (some (97, 1, 0))), (1, vi l1), (2, vi l2), (3, vi l3)] 32 [vi (0 : Int32)] Q
            refine sX8_result_32 (d := (d + 1)) (si M 97 0 (0 : Int32)) l1 l2 l3 (0 : Int32) ?_
            refine zpos (show (0 : Int32) = 0 from by decide) ?_
            exact k
          · show Zm E YX8_result ((d + 1) + 1) (si M 97 0 (0 : Int32)) [(0, vr (some (97, 1, 0))), (1, vi l1), (2, vi l2), (3, vi l3)] 32 [vi (1 : Int32)] Q
            refine sX8_result_32 (d := (d + 1)) (si M 97 0 (0 : Int32)) l1 l2 l3 (1 : Int32) ?_
            refine zneg (show ¬ ((1 : Int32) = 0) from by decide) ?_
            refine zand k (fun h10621 k => ?_)
            refine zite k (fun h10622 k => ?_) (fun h10622 k => ?_)
            · exact k
            · refine ⟨h10621, ?_⟩
              refine jX8_tell (d := d) (si M 97 0 (0 : Int32)) (gi M 172 ((((gi M 97 46) + ((2 : Int32) * l1)) + l2)).toNatClampNeg) l3 ?_
              refine zite k (fun h10623 k => ?_) (fun h10623 k => ?_)
              · refine zand k (fun h10624 k => ?_)
                show Zm E YX8_result ((d + 1) + 1) (si M 97 0 (0 : Int32)) [] 71 [vl ((((gl M 165 ((gi M 172 ((((gi M 97 46) + ((2 : Int32) * l1)) + l2)).toNatClampNeg)).toNatClampNeg) &&& (1023 : Int64))).toInt32).toInt64] Q
                refine sX8_result_71 (d := (d + 1)) (si M 97 0 (0 : Int32)) (((((gl M 165 ((gi M 172 ((((gi M 97 46) + ((2 : Int32) * l1)) + l2)).toNatClampNeg)).toNatClampNeg) &&& (1023 : Int64))).toInt32).toInt64) ?_
                exact k
              · refine zite k (fun h10625 k => ?_) (fun h10625 k => ?_)
                · refine zand k (fun h10626 k => ?_)
                  show Zm E YX8_result ((d + 1) + 1) (si M 97 0 (0 : Int32)) [] 71 [vl (((zlr (gl M 165 ((gi M 172 ((((gi M 97 46) + ((2 : Int32) * l1)) + l2)).toNatClampNeg)).toNatClampNeg) (32 : Int32))).toInt32).toInt64] Q
                  refine sX8_result_71 (d := (d + 1)) (si M 97 0 (0 : Int32)) ((((zlr (gl M 165 ((gi M 172 ((((gi M 97 46) + ((2 : Int32) * l1)) + l2)).toNatClampNeg)).toNatClampNeg) (32 : Int32))).toInt32).toInt64) ?_
                  exact k
                · refine zite k (fun h10627 k => ?_) (fun h10627 k => ?_)
                  · refine zand k (fun h10628 k => ?_)
                    show Zm E YX8_result ((d + 1) + 1) (si M 97 0 (0 : Int32)) [] 71 [vl ((((zlr (gl M 165 ((gi M 172 ((((gi M 97 46) + ((2 : Int32) * l1)) + l2)).toNatClampNeg)).toNatClampNeg) (10 : Int32)) &&& (127 : Int64))).toInt32).toInt64] Q
                    refine sX8_result_71 (d := (d + 1)) (si M 97 0 (0 : Int32)) (((((zlr (gl M 165 ((gi M 172 ((((gi M 97 46) + ((2 : Int32) * l1)) + l2)).toNatClampNeg)).toNatClampNeg) (10 : Int32)) &&& (127 : Int64))).toInt32).toInt64) ?_
                    exact k
                  · refine zite k (fun h10629 k => ?_) (fun h10629 k => ?_)
                    · refine zand k (fun h10630 k => ?_)
                      show Zm E YX8_result ((d + 1) + 1) (si M 97 0 (0 : Int32)) [] 71 [vl (gl M 166 ((gi M 172 ((((gi M 97 46) + ((2 : Int32) * l1)) + l2)).toNatClampNeg)).toNatClampNeg)] Q
                      refine sX8_result_71 (d := (d + 1)) (si M 97 0 (0 : Int32)) (gl M 166 ((gi M 172 ((((gi M 97 46) + ((2 : Int32) * l1)) + l2)).toNatClampNeg)).toNatClampNeg) ?_
                      exact k
                    · refine zite k (fun h10631 k => ?_) (fun h10631 k => ?_)
                      · refine zand k (fun h10632 k => ?_)
                        show Zm E YX8_result ((d + 1) + 1) (si M 97 0 (0 : Int32)) [] 71 [vl (gl M 167 ((gi M 172 ((((gi M 97 46) + ((2 : Int32) * l1)) + l2)).toNatClampNeg)).toNatClampNeg)] Q
                        refine sX8_result_71 (d := (d + 1)) (si M 97 0 (0 : Int32)) (gl M 167 ((gi M 172 ((((gi M 97 46) + ((2 : Int32) * l1)) + l2)).toNatClampNeg)).toNatClampNeg) ?_
                        exact k
                      · show Zm E YX8_result ((d + 1) + 1) (si M 97 0 (0 : Int32)) [] 71 [vl (0 : Int64)] Q
                        refine sX8_result_71 (d := (d + 1)) (si M 97 0 (0 : Int32)) (0 : Int64) ?_
                        exact k
theorem iX8_slot_21 {E : zE} {d : Nat} {Q : zO → zM → Prop} (M : zM) (l1 : Int32) (l2 : Int32) (l3 : Int32) (s0 : Int32) (k : if s0 = 0 then (Q (.inl (some (vl (0 : Int64)))) M) else (if l2 = (-1 : Int32) then (if l3 = 0 then (vp_in ((635000 : Int32) + l1) 647800 ∧ (Q (.inl (some (vl ((((gl M 165 (((635000 : Int32) + l1)).toNatClampNeg) &&& (1023 : Int64))).toInt32).toInt64))) M)) else (if l3 = 1 then (vp_in ((635000 : Int32) + l1) 647800 ∧ (Q (.inl (some (vl (((zlr (gl M 165 (((635000 : Int32) + l1)).toNatClampNeg) (32 : Int32))).toInt32).toInt64))) M)) else (if l3 = 2 then (vp_in ((635000 : Int32) + l1) 647800 ∧ (Q (.inl (some (vl ((((zlr (gl M 165 (((635000 : Int32) + l1)).toNatClampNeg) (10 : Int32)) &&& (127 : Int64))).toInt32).toInt64))) M)) else (if l3 = 3 then (vp_in ((635000 : Int32) + l1) 647800 ∧ (Q (.inl (some (vl (gl M 166 (((635000 : Int32) + l1)).toNatClampNeg)))) M)) else (if l3 = 4 then (vp_in ((635000 : Int32) + l1) 647800 ∧ (Q (.inl (some (vl (gl M 167 (((635000 : Int32) + l1)).toNatClampNeg)))) M)) else (Q (.inl (some (vl (0 : Int64)))) M)))))) else (vp_in l1 640 ∧ (if l3 = 0 then (vp_in ((gi M 172 (l1).toNatClampNeg) + l2) 647800 ∧ (Q (.inl (some (vl ((((gl M 165 (((gi M 172 (l1).toNatClampNeg) + l2)).toNatClampNeg) &&& (1023 : Int64))).toInt32).toInt64))) M)) else (if l3 = 1 then (vp_in ((gi M 172 (l1).toNatClampNeg) + l2) 647800 ∧ (Q (.inl (some (vl (((zlr (gl M 165 (((gi M 172 (l1).toNatClampNeg) + l2)).toNatClampNeg) (32 : Int32))).toInt32).toInt64))) M)) else (if l3 = 2 then (vp_in ((gi M 172 (l1).toNatClampNeg) + l2) 647800 ∧ (Q (.inl (some (vl ((((zlr (gl M 165 (((gi M 172 (l1).toNatClampNeg) + l2)).toNatClampNeg) (10 : Int32)) &&& (127 : Int64))).toInt32).toInt64))) M)) else (if l3 = 3 then (vp_in ((gi M 172 (l1).toNatClampNeg) + l2) 647800 ∧ (Q (.inl (some (vl (gl M 166 (((gi M 172 (l1).toNatClampNeg) + l2)).toNatClampNeg)))) M)) else (if l3 = 4 then (vp_in ((gi M 172 (l1).toNatClampNeg) + l2) 647800 ∧ (Q (.inl (some (vl (gl M 167 (((gi M 172 (l1).toNatClampNeg) + l2)).toNatClampNeg)))) M)) else (Q (.inl (some (vl (0 : Int64)))) M))))))))) : Zm E YX8_slot (d + 2) M [(0, vr (some (97, 1, 0))), (1, vi l1), (2, vi l2), (3, vi l3)] 21 [vi s0] Q := by
  refine sX8_slot_21 (d := (d + 1)) M l1 l2 l3 s0 ?_
  refine zite k (fun h10695 k => ?_) (fun h10695 k => ?_)
  · exact k
  · refine zite k (fun h10696 k => ?_) (fun h10696 k => ?_)
    · refine sX8_thisAt_0 (d := (d + 1)) M l1 ?_
      show Zm E YX8_slot ((d + 1) + 1) M [(3, vi l3)] 37 [vi ((635000 : Int32) + l1), vr (some (97, 1, 0))] Q
      refine sX8_slot_37 (d := (d + 1)) M l3 ((635000 : Int32) + l1) ?_
      refine sX8_slot_46 (d := (d + 1)) M l3 ((635000 : Int32) + l1) ?_
      refine jX8_tell (d := d) M ((635000 : Int32) + l1) l3 ?_
      refine zite k (fun h10697 k => ?_) (fun h10697 k => ?_)
      · refine zand k (fun h10698 k => ?_)
        show Zm E YX8_slot ((d + 1) + 1) M [] 50 [vl ((((gl M 165 (((635000 : Int32) + l1)).toNatClampNeg) &&& (1023 : Int64))).toInt32).toInt64] Q
        refine sX8_slot_50 (d := (d + 1)) M (((((gl M 165 (((635000 : Int32) + l1)).toNatClampNeg) &&& (1023 : Int64))).toInt32).toInt64) ?_
        exact k
      · refine zite k (fun h10699 k => ?_) (fun h10699 k => ?_)
        · refine zand k (fun h10700 k => ?_)
          show Zm E YX8_slot ((d + 1) + 1) M [] 50 [vl (((zlr (gl M 165 (((635000 : Int32) + l1)).toNatClampNeg) (32 : Int32))).toInt32).toInt64] Q
          refine sX8_slot_50 (d := (d + 1)) M ((((zlr (gl M 165 (((635000 : Int32) + l1)).toNatClampNeg) (32 : Int32))).toInt32).toInt64) ?_
          exact k
        · refine zite k (fun h10701 k => ?_) (fun h10701 k => ?_)
          · refine zand k (fun h10702 k => ?_)
            show Zm E YX8_slot ((d + 1) + 1) M [] 50 [vl ((((zlr (gl M 165 (((635000 : Int32) + l1)).toNatClampNeg) (10 : Int32)) &&& (127 : Int64))).toInt32).toInt64] Q
            refine sX8_slot_50 (d := (d + 1)) M (((((zlr (gl M 165 (((635000 : Int32) + l1)).toNatClampNeg) (10 : Int32)) &&& (127 : Int64))).toInt32).toInt64) ?_
            exact k
          · refine zite k (fun h10703 k => ?_) (fun h10703 k => ?_)
            · refine zand k (fun h10704 k => ?_)
              show Zm E YX8_slot ((d + 1) + 1) M [] 50 [vl (gl M 166 (((635000 : Int32) + l1)).toNatClampNeg)] Q
              refine sX8_slot_50 (d := (d + 1)) M (gl M 166 (((635000 : Int32) + l1)).toNatClampNeg) ?_
              exact k
            · refine zite k (fun h10705 k => ?_) (fun h10705 k => ?_)
              · refine zand k (fun h10706 k => ?_)
                show Zm E YX8_slot ((d + 1) + 1) M [] 50 [vl (gl M 167 (((635000 : Int32) + l1)).toNatClampNeg)] Q
                refine sX8_slot_50 (d := (d + 1)) M (gl M 167 (((635000 : Int32) + l1)).toNatClampNeg) ?_
                exact k
              · show Zm E YX8_slot ((d + 1) + 1) M [] 50 [vl (0 : Int64)] Q
                refine sX8_slot_50 (d := (d + 1)) M (0 : Int64) ?_
                exact k
    · refine sX8_onStack_0 (d := (d + 1)) M l1 l2 ?_
      refine zand k (fun h10707 k => ?_)
      show Zm E YX8_slot ((d + 1) + 1) M [(3, vi l3)] 46 [vi ((gi M 172 (l1).toNatClampNeg) + l2), vr (some (97, 1, 0))] Q
      refine sX8_slot_46 (d := (d + 1)) M l3 ((gi M 172 (l1).toNatClampNeg) + l2) ?_
      refine jX8_tell (d := d) M ((gi M 172 (l1).toNatClampNeg) + l2) l3 ?_
      refine zite k (fun h10708 k => ?_) (fun h10708 k => ?_)
      · refine zand k (fun h10709 k => ?_)
        show Zm E YX8_slot ((d + 1) + 1) M [] 50 [vl ((((gl M 165 (((gi M 172 (l1).toNatClampNeg) + l2)).toNatClampNeg) &&& (1023 : Int64))).toInt32).toInt64] Q
        refine sX8_slot_50 (d := (d + 1)) M (((((gl M 165 (((gi M 172 (l1).toNatClampNeg) + l2)).toNatClampNeg) &&& (1023 : Int64))).toInt32).toInt64) ?_
        exact k
      · refine zite k (fun h10710 k => ?_) (fun h10710 k => ?_)
        · refine zand k (fun h10711 k => ?_)
          show Zm E YX8_slot ((d + 1) + 1) M [] 50 [vl (((zlr (gl M 165 (((gi M 172 (l1).toNatClampNeg) + l2)).toNatClampNeg) (32 : Int32))).toInt32).toInt64] Q
          refine sX8_slot_50 (d := (d + 1)) M ((((zlr (gl M 165 (((gi M 172 (l1).toNatClampNeg) + l2)).toNatClampNeg) (32 : Int32))).toInt32).toInt64) ?_
          exact k
        · refine zite k (fun h10712 k => ?_) (fun h10712 k => ?_)
          · refine zand k (fun h10713 k => ?_)
            show Zm E YX8_slot ((d + 1) + 1) M [] 50 [vl ((((zlr (gl M 165 (((gi M 172 (l1).toNatClampNeg) + l2)).toNatClampNeg) (10 : Int32)) &&& (127 : Int64))).toInt32).toInt64] Q
            refine sX8_slot_50 (d := (d + 1)) M (((((zlr (gl M 165 (((gi M 172 (l1).toNatClampNeg) + l2)).toNatClampNeg) (10 : Int32)) &&& (127 : Int64))).toInt32).toInt64) ?_
            exact k
          · refine zite k (fun h10714 k => ?_) (fun h10714 k => ?_)
            · refine zand k (fun h10715 k => ?_)
              show Zm E YX8_slot ((d + 1) + 1) M [] 50 [vl (gl M 166 (((gi M 172 (l1).toNatClampNeg) + l2)).toNatClampNeg)] Q
              refine sX8_slot_50 (d := (d + 1)) M (gl M 166 (((gi M 172 (l1).toNatClampNeg) + l2)).toNatClampNeg) ?_
              exact k
            · refine zite k (fun h10716 k => ?_) (fun h10716 k => ?_)
              · refine zand k (fun h10717 k => ?_)
                show Zm E YX8_slot ((d + 1) + 1) M [] 50 [vl (gl M 167 (((gi M 172 (l1).toNatClampNeg) + l2)).toNatClampNeg)] Q
                refine sX8_slot_50 (d := (d + 1)) M (gl M 167 (((gi M 172 (l1).toNatClampNeg) + l2)).toNatClampNeg) ?_
                exact k
              · show Zm E YX8_slot ((d + 1) + 1) M [] 50 [vl (0 : Int64)] Q
                refine sX8_slot_50 (d := (d + 1)) M (0 : Int64) ?_
                exact k
theorem iX8_tell_0 {E : zE} {d : Nat} {Q : zO → zM → Prop} (M : zM) (l1 : Int32) (l2 : Int32) (k : if l2 = 0 then (vp_in l1 647800 ∧ (Q (.inl (some (vl ((((gl M 165 (l1).toNatClampNeg) &&& (1023 : Int64))).toInt32).toInt64))) M)) else (if l2 = 1 then (vp_in l1 647800 ∧ (Q (.inl (some (vl (((zlr (gl M 165 (l1).toNatClampNeg) (32 : Int32))).toInt32).toInt64))) M)) else (if l2 = 2 then (vp_in l1 647800 ∧ (Q (.inl (some (vl ((((zlr (gl M 165 (l1).toNatClampNeg) (10 : Int32)) &&& (127 : Int64))).toInt32).toInt64))) M)) else (if l2 = 3 then (vp_in l1 647800 ∧ (Q (.inl (some (vl (gl M 166 (l1).toNatClampNeg)))) M)) else (if l2 = 4 then (vp_in l1 647800 ∧ (Q (.inl (some (vl (gl M 167 (l1).toNatClampNeg)))) M)) else (Q (.inl (some (vl (0 : Int64)))) M)))))) : Zm E YX8_tell (d + 1) M [(0, vr (some (97, 1, 0))), (1, vi l1), (2, vi l2)] 0 [] Q := by
  refine sX8_tell_0 (d := d) M l1 l2 ?_
  refine zite k (fun h10718 k => ?_) (fun h10718 k => ?_)
  · refine sX8_has_0 (d := d) M l1 ?_
    refine zand k (fun h10719 k => ?_)
    show Zm E YX8_tell (d + 1) M [] 41 [vi (((gl M 165 (l1).toNatClampNeg) &&& (1023 : Int64))).toInt32] Q
    refine sX8_tell_41 (d := d) M ((((gl M 165 (l1).toNatClampNeg) &&& (1023 : Int64))).toInt32) ?_
    exact k
  · refine zite k (fun h10720 k => ?_) (fun h10720 k => ?_)
    · refine sX8_number_0 (d := d) M l1 ?_
      refine zand k (fun h10721 k => ?_)
      show Zm E YX8_tell (d + 1) M [] 48 [vi ((zlr (gl M 165 (l1).toNatClampNeg) (32 : Int32))).toInt32] Q
      refine sX8_tell_48 (d := d) M (((zlr (gl M 165 (l1).toNatClampNeg) (32 : Int32))).toInt32) ?_
      exact k
    · refine zite k (fun h10722 k => ?_) (fun h10722 k => ?_)
      · refine sX8_name_0 (d := d) M l1 ?_
        refine zand k (fun h10723 k => ?_)
        show Zm E YX8_tell (d + 1) M [] 55 [vi (((zlr (gl M 165 (l1).toNatClampNeg) (10 : Int32)) &&& (127 : Int64))).toInt32] Q
        refine sX8_tell_55 (d := d) M ((((zlr (gl M 165 (l1).toNatClampNeg) (10 : Int32)) &&& (127 : Int64))).toInt32) ?_
        exact k
      · exact k
theorem iX8_tossTop_0 {E : zE} {d : Nat} {Q : zO → zM → Prop} (M : zM)  (k : vp_in (639 : Int32) 640 ∧ (vp_in ((((gi M 172 ((639 : Int32)).toNatClampNeg) + (gi M 171 ((639 : Int32)).toNatClampNeg)) - (1 : Int32)) - (0 : Int32)) 647800 ∧ (vp_in (647792 : Int32) 647800 ∧ (Zm E YX8_tossSet d (sl (sl (sl M 165 ((647792 : Int32)).toNatClampNeg (gl M 165 (((((gi M 172 ((639 : Int32)).toNatClampNeg) + (gi M 171 ((639 : Int32)).toNatClampNeg)) - (1 : Int32)) - (0 : Int32))).toNatClampNeg)) 166 ((647792 : Int32)).toNatClampNeg (gl M 166 (((((gi M 172 ((639 : Int32)).toNatClampNeg) + (gi M 171 ((639 : Int32)).toNatClampNeg)) - (1 : Int32)) - (0 : Int32))).toNatClampNeg)) 167 ((647792 : Int32)).toNatClampNeg (gl M 167 (((((gi M 172 ((639 : Int32)).toNatClampNeg) + (gi M 171 ((639 : Int32)).toNatClampNeg)) - (1 : Int32)) - (0 : Int32))).toNatClampNeg)) (zargs 0 [vr (some (97, 1, 0)), vi (647792 : Int32)]) 0 [] (zma E YX8_tossTop (d + 1) [] 16 3 [] Q))))) : Zm E YX8_tossTop (d + 1) M [(0, vr (some (97, 1, 0)))] 0 [] Q := by
  refine sX8_tossTop_0 (d := d) M  ?_
  refine jX8_fromTop (d := d) M (0 : Int32) ?_
  refine zand k (fun h10728 k => ?_)
  show Zm E YX8_tossTop (d + 1) M [(0, vr (some (97, 1, 0))), (1, vi (647792 : Int32))] 10 [vi ((((gi M 172 ((639 : Int32)).toNatClampNeg) + (gi M 171 ((639 : Int32)).toNatClampNeg)) - (1 : Int32)) - (0 : Int32)), vr (some (97, 1, 0))] Q
  refine sX8_tossTop_10 (d := d) M (647792 : Int32) ((((gi M 172 ((639 : Int32)).toNatClampNeg) + (gi M 171 ((639 : Int32)).toNatClampNeg)) - (1 : Int32)) - (0 : Int32)) ?_
  refine jX8_copySet (d := d) M ((((gi M 172 ((639 : Int32)).toNatClampNeg) + (gi M 171 ((639 : Int32)).toNatClampNeg)) - (1 : Int32)) - (0 : Int32)) (647792 : Int32) ?_
  refine zand k (fun h10729 k => ?_)
  refine zand k (fun h10730 k => ?_)
  show Zm E YX8_tossTop (d + 1) (sl (sl (sl M 165 ((647792 : Int32)).toNatClampNeg (gl M 165 (((((gi M 172 ((639 : Int32)).toNatClampNeg) + (gi M 171 ((639 : Int32)).toNatClampNeg)) - (1 : Int32)) - (0 : Int32))).toNatClampNeg)) 166 ((647792 : Int32)).toNatClampNeg (gl M 166 (((((gi M 172 ((639 : Int32)).toNatClampNeg) + (gi M 171 ((639 : Int32)).toNatClampNeg)) - (1 : Int32)) - (0 : Int32))).toNatClampNeg)) 167 ((647792 : Int32)).toNatClampNeg (gl M 167 (((((gi M 172 ((639 : Int32)).toNatClampNeg) + (gi M 171 ((639 : Int32)).toNatClampNeg)) - (1 : Int32)) - (0 : Int32))).toNatClampNeg)) [(0, vr (some (97, 1, 0))), (1, vi (647792 : Int32))] 14 [] Q
  refine sX8_tossTop_14 (d := d) (sl (sl (sl M 165 ((647792 : Int32)).toNatClampNeg (gl M 165 (((((gi M 172 ((639 : Int32)).toNatClampNeg) + (gi M 171 ((639 : Int32)).toNatClampNeg)) - (1 : Int32)) - (0 : Int32))).toNatClampNeg)) 166 ((647792 : Int32)).toNatClampNeg (gl M 166 (((((gi M 172 ((639 : Int32)).toNatClampNeg) + (gi M 171 ((639 : Int32)).toNatClampNeg)) - (1 : Int32)) - (0 : Int32))).toNatClampNeg)) 167 ((647792 : Int32)).toNatClampNeg (gl M 167 (((((gi M 172 ((639 : Int32)).toNatClampNeg) + (gi M 171 ((639 : Int32)).toNatClampNeg)) - (1 : Int32)) - (0 : Int32))).toNatClampNeg)) (647792 : Int32) ?_
  exact k
theorem iX8_warns_0 {E : zE} {d : Nat} {Q : zO → zM → Prop} (M : zM) (l1 : Int32) (k : if (gi M 97 119) = 0 then (Q (.inl (some (vi (-1 : Int32)))) (si M 97 0 (0 : Int32))) else (if l1 < (0 : Int32) then (Q (.inl (some (vi (-1 : Int32)))) (si M 97 0 (0 : Int32))) else (if ((gi M 97 46) - (1 : Int32)) < l1 then (Q (.inl (some (vi (-1 : Int32)))) (si M 97 0 (0 : Int32))) else (vp_in l1 640 ∧ (if (gi M 168 (l1).toNatClampNeg) = 0 then (Q (.inl (some (vi (-1 : Int32)))) (si M 97 0 (0 : Int32))) else (Q (.inl (some (vi (gi M 170 (l1).toNatClampNeg)))) (si M 97 0 (0 : Int32)))))))) : Zm E YX8_warns (d + 2) M [(0, vr (some (97, 1, 0))), (1, vi l1)] 0 [] Q := by
  refine sX8_warns_0 (d := (d + 1)) M l1 ?_
  refine jX8_isReached (d := d) M l1 ?_
  refine zite k (fun h10731 k => ?_) (fun h10731 k => ?_)
  · show Zm E YX8_warns ((d + 1) + 1) (si M 97 0 (0 : Int32)) [(0, vr (some (97, 1, 0))), (1, vi l1)] 5 [vi (0 : Int32)] Q
    refine sX8_warns_5 (d := (d + 1)) (si M 97 0 (0 : Int32)) l1 (0 : Int32) ?_
    refine zpos (show (0 : Int32) = 0 from by decide) ?_
    exact k
  · refine zite k (fun h10732 k => ?_) (fun h10732 k => ?_)
    · show Zm E YX8_warns ((d + 1) + 1) (si M 97 0 (0 : Int32)) [(0, vr (some (97, 1, 0))), (1, vi l1)] 5 [vi (0 : Int32)] Q
      refine sX8_warns_5 (d := (d + 1)) (si M 97 0 (0 : Int32)) l1 (0 : Int32) ?_
      refine zpos (show (0 : Int32) = 0 from by decide) ?_
      exact k
    · refine zite k (fun h10733 k => ?_) (fun h10733 k => ?_)
      · show Zm E YX8_warns ((d + 1) + 1) (si M 97 0 (0 : Int32)) [(0, vr (some (97, 1, 0))), (1, vi l1)] 5 [vi (0 : Int32)] Q
        refine sX8_warns_5 (d := (d + 1)) (si M 97 0 (0 : Int32)) l1 (0 : Int32) ?_
        refine zpos (show (0 : Int32) = 0 from by decide) ?_
        exact k
      · refine zand k (fun h10734 k => ?_)
        refine zite k (fun h10735 k => ?_) (fun h10735 k => ?_)
        · show Zm E YX8_warns ((d + 1) + 1) (si M 97 0 (0 : Int32)) [(0, vr (some (97, 1, 0))), (1, vi l1)] 5 [vi (0 : Int32)] Q
          refine sX8_warns_5 (d := (d + 1)) (si M 97 0 (0 : Int32)) l1 (0 : Int32) ?_
          refine zpos (show (0 : Int32) = 0 from by decide) ?_
          exact k
        · show Zm E YX8_warns ((d + 1) + 1) (si M 97 0 (0 : Int32)) [(0, vr (some (97, 1, 0))), (1, vi l1)] 5 [vi (1 : Int32)] Q
          refine sX8_warns_5 (d := (d + 1)) (si M 97 0 (0 : Int32)) l1 (1 : Int32) ?_
          refine zneg (show ¬ ((1 : Int32) = 0) from by decide) ?_
          refine ⟨h10734, ?_⟩
          exact k
theorem iX8_waysOfNew_0 {E : zE} {d : Nat} {Q : zO → zM → Prop} (M : zM) (l1 : Int32) (l2 : Int32) (k : vp_in (639 : Int32) 640 ∧ (vp_in ((((gi M 172 ((639 : Int32)).toNatClampNeg) + (gi M 171 ((639 : Int32)).toNatClampNeg)) - (1 : Int32)) - l1) 647800 ∧ (if ((((gl M 165 (((((gi M 172 ((639 : Int32)).toNatClampNeg) + (gi M 171 ((639 : Int32)).toNatClampNeg)) - (1 : Int32)) - l1)).toNatClampNeg) &&& (1023 : Int64))).toInt32 &&& (-513 : Int32)) = 0 then (Zm E YX8_waysOfNew ((d + 1) + 1) M [(0, vr (some (97, 1, 0))), (1, vi l1), (2, vi l2), (3, vi (gi M 171 ((639 : Int32)).toNatClampNeg)), (5, vl (gl M 166 (((((gi M 172 ((639 : Int32)).toNatClampNeg) + (gi M 171 ((639 : Int32)).toNatClampNeg)) - (1 : Int32)) - l1)).toNatClampNeg)), (7, vl (gl M 167 (((((gi M 172 ((639 : Int32)).toNatClampNeg) + (gi M 171 ((639 : Int32)).toNatClampNeg)) - (1 : Int32)) - l1)).toNatClampNeg)), (9, vi (0 : Int32)), (10, vi (0 : Int32)), (11, vi (0 : Int32))] 56 [] Q) else (Zm E YX8_waysOfNew ((d + 1) + 1) M [(0, vr (some (97, 1, 0))), (1, vi l1), (2, vi l2), (3, vi (gi M 171 ((639 : Int32)).toNatClampNeg)), (5, vl (gl M 166 (((((gi M 172 ((639 : Int32)).toNatClampNeg) + (gi M 171 ((639 : Int32)).toNatClampNeg)) - (1 : Int32)) - l1)).toNatClampNeg)), (7, vl (gl M 167 (((((gi M 172 ((639 : Int32)).toNatClampNeg) + (gi M 171 ((639 : Int32)).toNatClampNeg)) - (1 : Int32)) - l1)).toNatClampNeg)), (9, vi (1 : Int32)), (10, vi (0 : Int32)), (11, vi (0 : Int32))] 56 [] Q)))) : Zm E YX8_waysOfNew (d + 2) M [(0, vr (some (97, 1, 0))), (1, vi l1), (2, vi l2)] 0 [] Q := by
  refine sX8_waysOfNew_0 (d := (d + 1)) M l1 l2 ?_
  refine zand k (fun h10738 k => ?_)
  refine jX8_fromTop (d := (d + 1)) M l1 ?_
  refine ⟨h10738, ?_⟩
  show Zm E YX8_waysOfNew ((d + 1) + 1) M [(0, vr (some (97, 1, 0))), (1, vi l1), (2, vi l2), (3, vi (gi M 171 ((639 : Int32)).toNatClampNeg))] 14 [vi ((((gi M 172 ((639 : Int32)).toNatClampNeg) + (gi M 171 ((639 : Int32)).toNatClampNeg)) - (1 : Int32)) - l1)] Q
  refine sX8_waysOfNew_14 (d := (d + 1)) M l1 l2 (gi M 171 ((639 : Int32)).toNatClampNeg) ((((gi M 172 ((639 : Int32)).toNatClampNeg) + (gi M 171 ((639 : Int32)).toNatClampNeg)) - (1 : Int32)) - l1) ?_
  refine zand k (fun h10739 k => ?_)
  refine ⟨h10739, ?_⟩
  refine jX8_plainly (d := d) M ((((gi M 172 ((639 : Int32)).toNatClampNeg) + (gi M 171 ((639 : Int32)).toNatClampNeg)) - (1 : Int32)) - l1) ?_
  refine ⟨h10739, ?_⟩
  show Zm E YX8_waysOfNew ((d + 1) + 1) M [(0, vr (some (97, 1, 0))), (1, vi l1), (2, vi l2), (3, vi (gi M 171 ((639 : Int32)).toNatClampNeg)), (5, vl (gl M 166 (((((gi M 172 ((639 : Int32)).toNatClampNeg) + (gi M 171 ((639 : Int32)).toNatClampNeg)) - (1 : Int32)) - l1)).toNatClampNeg)), (7, vl (gl M 167 (((((gi M 172 ((639 : Int32)).toNatClampNeg) + (gi M 171 ((639 : Int32)).toNatClampNeg)) - (1 : Int32)) - l1)).toNatClampNeg))] 40 [vi ((((gl M 165 (((((gi M 172 ((639 : Int32)).toNatClampNeg) + (gi M 171 ((639 : Int32)).toNatClampNeg)) - (1 : Int32)) - l1)).toNatClampNeg) &&& (1023 : Int64))).toInt32 &&& (-513 : Int32))] Q
  refine sX8_waysOfNew_40 (d := (d + 1)) M l1 l2 (gi M 171 ((639 : Int32)).toNatClampNeg) (gl M 166 (((((gi M 172 ((639 : Int32)).toNatClampNeg) + (gi M 171 ((639 : Int32)).toNatClampNeg)) - (1 : Int32)) - l1)).toNatClampNeg) (gl M 167 (((((gi M 172 ((639 : Int32)).toNatClampNeg) + (gi M 171 ((639 : Int32)).toNatClampNeg)) - (1 : Int32)) - l1)).toNatClampNeg) ((((gl M 165 (((((gi M 172 ((639 : Int32)).toNatClampNeg) + (gi M 171 ((639 : Int32)).toNatClampNeg)) - (1 : Int32)) - l1)).toNatClampNeg) &&& (1023 : Int64))).toInt32 &&& (-513 : Int32)) ?_
  exact k
theorem iX8_waysOfNew_56 {E : zE} {d : Nat} {Q : zO → zM → Prop} (M : zM) (l1 : Int32) (l2 : Int32) (l3 : Int32) (l5 : Int64) (l7 : Int64) (l9 : Int32) (l10 : Int32) (l11 : Int32) (k : if (gi M 97 71) ≤ l11 then (if l9 = 0 then (Zm E YX8_waysOfNew (d + 1) M [(0, vr (some (97, 1, 0))), (1, vi l1), (2, vi l2), (3, vi l3), (5, vl l5), (7, vl l7), (10, vi l10), (11, vi (10 : Int32))] 180 [] Q) else (Zm E YX8_error_2 d M (zargs 0 [vr (some (97, 1, 0)), vi (gi M 97 148), vi (6 : Int32)]) 0 [] (zma E YX8_waysOfNew (d + 1) [(0, vr (some (97, 1, 0))), (1, vi l1), (2, vi l2), (3, vi l3), (5, vl l5), (7, vl l7), (10, vi l10)] 173 3 [] Q))) else (if (64 : Int32) ≤ l11 then (if (lg_cmp ((zlr l7 (l11 - (64 : Int32))) &&& (1 : Int64)) (1 : Int64)) = 0 then (Zm E YX8_codeOfLabel d M (zargs 0 [vr (some (97, 1, 0)), vi l11]) 0 [] (zma E YX8_waysOfNew (d + 1) [(0, vr (some (97, 1, 0))), (1, vi l1), (2, vi l2), (3, vi l3), (5, vl l5), (7, vl l7), (9, vi l9), (10, vi l10), (11, vi l11)] 83 3 [] Q)) else (Zm E YX8_waysOfNew (d + 1) M [(0, vr (some (97, 1, 0))), (1, vi l1), (2, vi l2), (3, vi l3), (5, vl l5), (7, vl l7), (9, vi l9), (10, vi l10), (11, vi (l11 + (1 : Int32)))] 56 [] Q)) else (if (lg_cmp ((zlr l5 l11) &&& (1 : Int64)) (1 : Int64)) = 0 then (Zm E YX8_codeOfLabel d M (zargs 0 [vr (some (97, 1, 0)), vi l11]) 0 [] (zma E YX8_waysOfNew (d + 1) [(0, vr (some (97, 1, 0))), (1, vi l1), (2, vi l2), (3, vi l3), (5, vl l5), (7, vl l7), (9, vi l9), (10, vi l10), (11, vi l11)] 83 3 [] Q)) else (Zm E YX8_waysOfNew (d + 1) M [(0, vr (some (97, 1, 0))), (1, vi l1), (2, vi l2), (3, vi l3), (5, vl l5), (7, vl l7), (9, vi l9), (10, vi l10), (11, vi (l11 + (1 : Int32)))] 56 [] Q)))) : Zm E YX8_waysOfNew (d + 1) M [(0, vr (some (97, 1, 0))), (1, vi l1), (2, vi l2), (3, vi l3), (5, vl l5), (7, vl l7), (9, vi l9), (10, vi l10), (11, vi l11)] 56 [] Q := by
  refine sX8_waysOfNew_56 (d := d) M l1 l2 l3 l5 l7 l9 l10 l11 ?_
  refine zite k (fun h10741 k => ?_) (fun h10741 k => ?_)
  · refine zite k (fun h10742 k => ?_) (fun h10742 k => ?_)
    · refine sX8_waysOfNew_176 (d := d) M l1 l2 l3 l5 l7 l10 ?_
      exact k
    · exact k
  · refine jX8_isIn (d := d) M l5 l7 l11 ?_
    refine zite k (fun h10743 k => ?_) (fun h10743 k => ?_)
    · refine zite k (fun h10744 k => ?_) (fun h10744 k => ?_)
      · show Zm E YX8_waysOfNew (d + 1) M [(0, vr (some (97, 1, 0))), (1, vi l1), (2, vi l2), (3, vi l3), (5, vl l5), (7, vl l7), (9, vi l9), (10, vi l10), (11, vi l11)] 74 [vi (1 : Int32)] Q
        refine sX8_waysOfNew_74 (d := d) M l1 l2 l3 l5 l7 l9 l10 l11 (1 : Int32) ?_
        refine zneg (show ¬ ((1 : Int32) = 0) from by decide) ?_
        exact k
      · show Zm E YX8_waysOfNew (d + 1) M [(0, vr (some (97, 1, 0))), (1, vi l1), (2, vi l2), (3, vi l3), (5, vl l5), (7, vl l7), (9, vi l9), (10, vi l10), (11, vi l11)] 74 [vi (0 : Int32)] Q
        refine sX8_waysOfNew_74 (d := d) M l1 l2 l3 l5 l7 l9 l10 l11 (0 : Int32) ?_
        refine zpos (show (0 : Int32) = 0 from by decide) ?_
        exact k
    · refine zite k (fun h10745 k => ?_) (fun h10745 k => ?_)
      · show Zm E YX8_waysOfNew (d + 1) M [(0, vr (some (97, 1, 0))), (1, vi l1), (2, vi l2), (3, vi l3), (5, vl l5), (7, vl l7), (9, vi l9), (10, vi l10), (11, vi l11)] 74 [vi (1 : Int32)] Q
        refine sX8_waysOfNew_74 (d := d) M l1 l2 l3 l5 l7 l9 l10 l11 (1 : Int32) ?_
        refine zneg (show ¬ ((1 : Int32) = 0) from by decide) ?_
        exact k
      · show Zm E YX8_waysOfNew (d + 1) M [(0, vr (some (97, 1, 0))), (1, vi l1), (2, vi l2), (3, vi l3), (5, vl l5), (7, vl l7), (9, vi l9), (10, vi l10), (11, vi l11)] 74 [vi (0 : Int32)] Q
        refine sX8_waysOfNew_74 (d := d) M l1 l2 l3 l5 l7 l9 l10 l11 (0 : Int32) ?_
        refine zpos (show (0 : Int32) = 0 from by decide) ?_
        exact k
