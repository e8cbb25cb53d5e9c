theorem iX8_waysOfNew_180 {E : zE} {d : Nat} {Q : zO → zM → Prop} (M : zM) (l1 : Int32) (l2 : Int32) (l3 : Int32) (l5 : Int64) (l7 : Int64) (l10 : Int32) (l11 : Int32) (k : if (18 : Int32) ≤ l11 then (if l10 = 0 then (Zm E YX8_waysOfNew (d + 1) M [(0, vr (some (97, 1, 0))), (1, vi l1), (2, vi l2), (3, vi l3), (5, vl l5), (7, vl l7), (11, vi (1 : Int32))] 249 [] Q) else (Zm E YX8_prepare d M (zargs 0 [vr (some (97, 1, 0)), vl l5, vl l7, vi l2]) 0 [] (zma E YX8_waysOfNew (d + 1) [(0, vr (some (97, 1, 0))), (1, vi l1), (2, vi l2), (3, vi l3), (5, vl l5), (7, vl l7)] 237 3 [] Q))) else (if l11 = (13 : Int32) then (Zm E YX8_waysOfNew (d + 1) M [(0, vr (some (97, 1, 0))), (1, vi l1), (2, vi l2), (3, vi l3), (5, vl l5), (7, vl l7), (10, vi l10), (11, vi (l11 + (1 : Int32)))] 180 [] Q) else (if (64 : Int32) ≤ l11 then (if (lg_cmp ((zlr l7 (l11 - (64 : Int32))) &&& (1 : Int64)) (1 : Int64)) = 0 then (Zm E YX8_nativeWays d M (zargs 0 [vr (some (97, 1, 0)), vi l11, vi (-1 : Int32), vi (l3 - l1), vi l1, vi (l1 + (1 : Int32))]) 0 [] (zma E YX8_waysOfNew (d + 1) [(0, vr (some (97, 1, 0))), (1, vi l1), (2, vi l2), (3, vi l3), (5, vl l5), (7, vl l7), (10, vi l10), (11, vi l11)] 217 3 [] Q)) else (Zm E YX8_waysOfNew (d + 1) M [(0, vr (some (97, 1, 0))), (1, vi l1), (2, vi l2), (3, vi l3), (5, vl l5), (7, vl l7), (10, vi l10), (11, vi (l11 + (1 : Int32)))] 180 [] Q)) else (if (lg_cmp ((zlr l5 l11) &&& (1 : Int64)) (1 : Int64)) = 0 then (Zm E YX8_nativeWays d M (zargs 0 [vr (some (97, 1, 0)), vi l11, vi (-1 : Int32), vi (l3 - l1), vi l1, vi (l1 + (1 : Int32))]) 0 [] (zma E YX8_waysOfNew (d + 1) [(0, vr (some (97, 1, 0))), (1, vi l1), (2, vi l2), (3, vi l3), (5, vl l5), (7, vl l7), (10, vi l10), (11, vi l11)] 217 3 [] Q)) else (Zm E YX8_waysOfNew (d + 1) M [(0, vr (some (97, 1, 0))), (1, vi l1), (2, vi l2), (3, vi l3), (5, vl l5), (7, vl l7), (10, vi l10), (11, vi (l11 + (1 : Int32)))] 180 [] Q))))) : Zm E YX8_waysOfNew (d + 1) M [(0, vr (some (97, 1, 0))), (1, vi l1), (2, vi l2), (3, vi l3), (5, vl l5), (7, vl l7), (10, vi l10), (11, vi l11)] 180 [] Q := by
  refine sX8_waysOfNew_180 (d := d) M l1 l2 l3 l5 l7 l10 l11 ?_
  refine zite k (fun h10746 k => ?_) (fun h10746 k => ?_)
  · refine zite k (fun h10747 k => ?_) (fun h10747 k => ?_)
    · refine sX8_waysOfNew_246 (d := d) M l1 l2 l3 l5 l7 ?_
      exact k
    · exact k
  · refine zite k (fun h10748 k => ?_) (fun h10748 k => ?_)
    · refine sX8_waysOfNew_220 (d := d) M l1 l2 l3 l5 l7 l10 l11 ?_
      exact k
    · refine jX8_isIn (d := d) M l5 l7 l11 ?_
      refine zite k (fun h10749 k => ?_) (fun h10749 k => ?_)
      · refine zite k (fun h10750 k => ?_) (fun h10750 k => ?_)
        · show Zm E YX8_waysOfNew (d + 1) M [(0, vr (some (97, 1, 0))), (1, vi l1), (2, vi l2), (3, vi l3), (5, vl l5), (7, vl l7), (10, vi l10), (11, vi l11)] 203 [vi (1 : Int32)] Q
          refine sX8_waysOfNew_203 (d := d) M l1 l2 l3 l5 l7 l10 l11 (1 : Int32) ?_
          refine zneg (show ¬ ((1 : Int32) = 0) from by decide) ?_
          exact k
        · show Zm E YX8_waysOfNew (d + 1) M [(0, vr (some (97, 1, 0))), (1, vi l1), (2, vi l2), (3, vi l3), (5, vl l5), (7, vl l7), (10, vi l10), (11, vi l11)] 203 [vi (0 : Int32)] Q
          refine sX8_waysOfNew_203 (d := d) M l1 l2 l3 l5 l7 l10 l11 (0 : Int32) ?_
          refine zpos (show (0 : Int32) = 0 from by decide) ?_
          refine sX8_waysOfNew_220 (d := d) M l1 l2 l3 l5 l7 l10 l11 ?_
          exact k
      · refine zite k (fun h10751 k => ?_) (fun h10751 k => ?_)
        · show Zm E YX8_waysOfNew (d + 1) M [(0, vr (some (97, 1, 0))), (1, vi l1), (2, vi l2), (3, vi l3), (5, vl l5), (7, vl l7), (10, vi l10), (11, vi l11)] 203 [vi (1 : Int32)] Q
          refine sX8_waysOfNew_203 (d := d) M l1 l2 l3 l5 l7 l10 l11 (1 : Int32) ?_
          refine zneg (show ¬ ((1 : Int32) = 0) from by decide) ?_
          exact k
        · show Zm E YX8_waysOfNew (d + 1) M [(0, vr (some (97, 1, 0))), (1, vi l1), (2, vi l2), (3, vi l3), (5, vl l5), (7, vl l7), (10, vi l10), (11, vi l11)] 203 [vi (0 : Int32)] Q
          refine sX8_waysOfNew_203 (d := d) M l1 l2 l3 l5 l7 l10 l11 (0 : Int32) ?_
          refine zpos (show (0 : Int32) = 0 from by decide) ?_
          refine sX8_waysOfNew_220 (d := d) M l1 l2 l3 l5 l7 l10 l11 ?_
          exact k
theorem iX8_waysOfNew_115 {E : zE} {d : Nat} {Q : zO → zM → Prop} (M : zM) (l1 : Int32) (l2 : Int32) (l3 : Int32) (l5 : Int64) (l7 : Int64) (l9 : Int32) (l10 : Int32) (l11 : Int32) (s0 : Int32) (k : if l9 = 0 then (if s0 = 0 then (if l10 = 0 then (Zm E YX8_codeOfLabel d M (zargs 0 [vr (some (97, 1, 0)), vi l11]) 0 [] (zma E YX8_waysOfNew (d + 1) [(0, vr (some (97, 1, 0))), (1, vi l1), (2, vi l2), (3, vi l3), (5, vl l5), (7, vl l7), (9, vi (1 : Int32)), (11, vi l11)] 142 3 [] Q)) else (Zm E YX8_waysOfNew (d + 1) M [(0, vr (some (97, 1, 0))), (1, vi l1), (2, vi l2), (3, vi l3), (5, vl l5), (7, vl l7), (9, vi (1 : Int32)), (10, vi (1 : Int32)), (11, vi (l11 + (1 : Int32)))] 56 [] Q)) else (if l10 = 0 then (Zm E YX8_codeOfLabel d M (zargs 0 [vr (some (97, 1, 0)), vi l11]) 0 [] (zma E YX8_waysOfNew (d + 1) [(0, vr (some (97, 1, 0))), (1, vi l1), (2, vi l2), (3, vi l3), (5, vl l5), (7, vl l7), (9, vi (0 : Int32)), (11, vi l11)] 142 3 [] Q)) else (Zm E YX8_waysOfNew (d + 1) M [(0, vr (some (97, 1, 0))), (1, vi l1), (2, vi l2), (3, vi l3), (5, vl l5), (7, vl l7), (9, vi (0 : Int32)), (10, vi (1 : Int32)), (11, vi (l11 + (1 : Int32)))] 56 [] Q))) else (if l10 = 0 then (Zm E YX8_codeOfLabel d M (zargs 0 [vr (some (97, 1, 0)), vi l11]) 0 [] (zma E YX8_waysOfNew (d + 1) [(0, vr (some (97, 1, 0))), (1, vi l1), (2, vi l2), (3, vi l3), (5, vl l5), (7, vl l7), (9, vi (1 : Int32)), (11, vi l11)] 142 3 [] Q)) else (Zm E YX8_waysOfNew (d + 1) M [(0, vr (some (97, 1, 0))), (1, vi l1), (2, vi l2), (3, vi l3), (5, vl l5), (7, vl l7), (9, vi (1 : Int32)), (10, vi (1 : Int32)), (11, vi (l11 + (1 : Int32)))] 56 [] Q))) : Zm E YX8_waysOfNew (d + 1) M [(0, vr (some (97, 1, 0))), (1, vi l1), (2, vi l2), (3, vi l3), (5, vl l5), (7, vl l7), (9, vi l9), (10, vi l10), (11, vi l11)] 115 [vi s0] Q := by
  refine sX8_waysOfNew_115 (d := d) M l1 l2 l3 l5 l7 l9 l10 l11 s0 ?_
  refine zite k (fun h10757 k => ?_) (fun h10757 k => ?_)
  · refine zite k (fun h10758 k => ?_) (fun h10758 k => ?_)
    · refine sX8_waysOfNew_132 (d := d) M l1 l2 l3 l5 l7 l10 l11 (1 : Int32) ?_
      exact k
    · refine sX8_waysOfNew_132 (d := d) M l1 l2 l3 l5 l7 l10 l11 (0 : Int32) ?_
      exact k
  · refine sX8_waysOfNew_132 (d := d) M l1 l2 l3 l5 l7 l10 l11 (1 : Int32) ?_
    exact k
theorem iX8_waysOfOther_25 {E : zE} {d : Nat} {Q : zO → zM → Prop} (M : zM) (l1 : Int32) (l2 : Int32) (l3 : Int32) (k : if l1 = 17 then (vp_in (639 : Int32) 640 ∧ (Zm E YX8_on d (si M 171 ((639 : Int32)).toNatClampNeg ((gi M 171 ((639 : Int32)).toNatClampNeg) - (1 : Int32))) (zargs 0 [vr (some (97, 1, 0))]) 0 [] (zma E YX8_waysOfOther (d + 1) [] 105 3 [] Q))) else (if l1 = 18 then (Zm E YX8_pushSet d M (zargs 0 [vr (some (97, 1, 0))]) 0 [] (zma E YX8_waysOfOther (d + 1) [(0, vr (some (97, 1, 0)))] 114 3 [vi l3, vr (some (97, 1, 0))] Q)) else (if l1 = 19 then (vp_in (639 : Int32) 640 ∧ (Zm E YX8_pushSet d M (zargs 0 [vr (some (97, 1, 0))]) 0 [] (zma E YX8_waysOfOther (d + 1) [(0, vr (some (97, 1, 0))), (3, vi l3)] 134 3 [vi ((((gi M 172 ((639 : Int32)).toNatClampNeg) + (gi M 171 ((639 : Int32)).toNatClampNeg)) - (1 : Int32)) - (1 : Int32)), vr (some (97, 1, 0))] Q))) else (if l1 = 20 then (Zm E YX8_pushSet d M (zargs 0 [vr (some (97, 1, 0))]) 0 [] (zma E YX8_waysOfOther (d + 1) [(0, vr (some (97, 1, 0))), (3, vi l3)] 157 3 [] Q)) else (if l1 = 21 then (Zm E YX8_to d M (zargs 0 [vr (some (97, 1, 0)), vi l2]) 0 [] (zma E YX8_waysOfOther (d + 1) [] 214 3 [] Q)) else (if l1 = 22 then (Zm E YX8_waysOfTest d M (zargs 0 [vr (some (97, 1, 0)), vi l1, vi l2, vi l3]) 0 [] (zma E YX8_waysOfOther (d + 1) [] 224 3 [] Q)) else (if l1 = 23 then (Zm E YX8_waysOfTest d M (zargs 0 [vr (some (97, 1, 0)), vi l1, vi l2, vi l3]) 0 [] (zma E YX8_waysOfOther (d + 1) [] 224 3 [] Q)) else (if l1 = 24 then (Zm E YX8_waysOfTest d M (zargs 0 [vr (some (97, 1, 0)), vi l1, vi l2, vi l3]) 0 [] (zma E YX8_waysOfOther (d + 1) [] 224 3 [] Q)) else (if l1 = 25 then (vp_in (639 : Int32) 640 ∧ (Zm E YX8_pushSet d (si M 171 ((639 : Int32)).toNatClampNeg (0 : Int32)) (zargs 0 [vr (some (97, 1, 0))]) 0 [] (zma E YX8_waysOfOther (d + 1) [(0, vr (some (97, 1, 0)))] 242 3 [vi l3, vr (some (97, 1, 0))] Q))) else (if l1 = 26 then (Zm E YX8_tossTop d M (zargs 0 [vr (some (97, 1, 0))]) 0 [] (zma E YX8_waysOfOther (d + 1) [] 272 3 [] Q)) else (if l1 = 27 then (vp_in (639 : Int32) 640 ∧ (vp_in ((25560 : Int32) + (gi M 175 ((639 : Int32)).toNatClampNeg)) 25600 ∧ (Zm E YX8_on d (si (si (si M 176 (((25560 : Int32) + (gi M 175 ((639 : Int32)).toNatClampNeg))).toNatClampNeg l2) 177 (((25560 : Int32) + (gi M 175 ((639 : Int32)).toNatClampNeg))).toNatClampNeg (gi M 171 ((639 : Int32)).toNatClampNeg)) 175 ((639 : Int32)).toNatClampNeg ((gi M 175 ((639 : Int32)).toNatClampNeg) + (1 : Int32))) (zargs 0 [vr (some (97, 1, 0))]) 0 [] (zma E YX8_waysOfOther (d + 1) [] 328 3 [] Q)))) else (if l1 = 28 then (vp_in (639 : Int32) 640 ∧ (Zm E YX8_on d (si M 175 ((639 : Int32)).toNatClampNeg ((gi M 175 ((639 : Int32)).toNatClampNeg) - (1 : Int32))) (zargs 0 [vr (some (97, 1, 0))]) 0 [] (zma E YX8_waysOfOther (d + 1) [] 347 3 [] Q))) else (if l1 = 29 then (vp_in (639 : Int32) 640 ∧ (vp_in ((((gi M 172 ((639 : Int32)).toNatClampNeg) + (gi M 171 ((639 : Int32)).toNatClampNeg)) - (1 : Int32)) - (0 : Int32)) 647800 ∧ (Zm E YX8_on d (sl (sl (sl M 165 (((((gi M 172 ((639 : Int32)).toNatClampNeg) + (gi M 171 ((639 : Int32)).toNatClampNeg)) - (1 : Int32)) - (0 : Int32))).toNatClampNeg (0 : Int64)) 166 (((((gi M 172 ((639 : Int32)).toNatClampNeg) + (gi M 171 ((639 : Int32)).toNatClampNeg)) - (1 : Int32)) - (0 : Int32))).toNatClampNeg (0 : Int64)) 167 (((((gi M 172 ((639 : Int32)).toNatClampNeg) + (gi M 171 ((639 : Int32)).toNatClampNeg)) - (1 : Int32)) - (0 : Int32))).toNatClampNeg (0 : Int64)) (zargs 0 [vr (some (97, 1, 0))]) 0 [] (zma E YX8_waysOfOther (d + 1) [] 363 3 [] Q)))) else (Zm E YX8_pushSet d M (zargs 0 [vr (some (97, 1, 0))]) 0 [] (zma E YX8_waysOfOther (d + 1) [(0, vr (some (97, 1, 0))), (2, vi l2)] 371 3 [vr (some (97, 1, 0))] Q))))))))))))))) : Zm E YX8_waysOfOther (d + 1) M [(0, vr (some (97, 1, 0))), (1, vi l1), (2, vi l2), (3, vi l3)] 25 [] Q := by
  refine sX8_waysOfOther_25 (d := d) M l1 l2 l3 ?_
  refine zite k (fun h10820 k => ?_) (fun h10820 k => ?_)
  · refine zand k (fun h10821 k => ?_)
    refine ⟨h10821, ?_⟩
    exact k
  · refine zite k (fun h10822 k => ?_) (fun h10822 k => ?_)
    · exact k
    · refine zite k (fun h10823 k => ?_) (fun h10823 k => ?_)
      · refine jX8_fromTop (d := d) M (1 : Int32) ?_
        refine zand k (fun h10824 k => ?_)
        show Zm E YX8_waysOfOther (d + 1) M [(0, vr (some (97, 1, 0))), (3, vi l3)] 133 [vi ((((gi M 172 ((639 : Int32)).toNatClampNeg) + (gi M 171 ((639 : Int32)).toNatClampNeg)) - (1 : Int32)) - (1 : Int32)), vr (some (97, 1, 0))] Q
        refine sX8_waysOfOther_133 (d := d) M l3 ((((gi M 172 ((639 : Int32)).toNatClampNeg) + (gi M 171 ((639 : Int32)).toNatClampNeg)) - (1 : Int32)) - (1 : Int32)) ?_
        exact k
      · refine zite k (fun h10825 k => ?_) (fun h10825 k => ?_)
        · exact k
        · refine zite k (fun h10826 k => ?_) (fun h10826 k => ?_)
          · exact k
          · refine zite k (fun h10827 k => ?_) (fun h10827 k => ?_)
            · exact k
            · refine zite k (fun h10828 k => ?_) (fun h10828 k => ?_)
              · exact k
              · refine zite k (fun h10829 k => ?_) (fun h10829 k => ?_)
                · exact k
                · refine zite k (fun h10830 k => ?_) (fun h10830 k => ?_)
                  · exact k
                  · refine zite k (fun h10832 k => ?_) (fun h10832 k => ?_)
                    · exact k
                    · refine zite k (fun h10833 k => ?_) (fun h10833 k => ?_)
                      · refine zand k (fun h10834 k => ?_)
                        refine zand k (fun h10835 k => ?_)
                        refine ⟨h10834, ?_⟩
                        refine ⟨h10835, ?_⟩
                        refine ⟨h10834, ?_⟩
                        refine ⟨h10834, ?_⟩
                        exact k
                      · refine zite k (fun h10836 k => ?_) (fun h10836 k => ?_)
                        · refine zand k (fun h10837 k => ?_)
                          refine ⟨h10837, ?_⟩
                          exact k
                        · refine zite k (fun h10838 k => ?_) (fun h10838 k => ?_)
                          · refine jX8_fromTop (d := d) M (0 : Int32) ?_
                            refine zand k (fun h10839 k => ?_)
                            show Zm E YX8_waysOfOther (d + 1) M [(0, vr (some (97, 1, 0)))] 359 [vi ((((gi M 172 ((639 : Int32)).toNatClampNeg) + (gi M 171 ((639 : Int32)).toNatClampNeg)) - (1 : Int32)) - (0 : Int32)), vr (some (97, 1, 0))] Q
                            refine sX8_waysOfOther_359 (d := d) M ((((gi M 172 ((639 : Int32)).toNatClampNeg) + (gi M 171 ((639 : Int32)).toNatClampNeg)) - (1 : Int32)) - (0 : Int32)) ?_
                            refine jX8_empty (d := d) M ((((gi M 172 ((639 : Int32)).toNatClampNeg) + (gi M 171 ((639 : Int32)).toNatClampNeg)) - (1 : Int32)) - (0 : Int32)) ?_
                            refine zand k (fun h10840 k => ?_)
                            show Zm E YX8_waysOfOther (d + 1) (sl (sl (sl M 165 (((((gi M 172 ((639 : Int32)).toNatClampNeg) + (gi M 171 ((639 : Int32)).toNatClampNeg)) - (1 : Int32)) - (0 : Int32))).toNatClampNeg (0 : Int64)) 166 (((((gi M 172 ((639 : Int32)).toNatClampNeg) + (gi M 171 ((639 : Int32)).toNatClampNeg)) - (1 : Int32)) - (0 : Int32))).toNatClampNeg (0 : Int64)) 167 (((((gi M 172 ((639 : Int32)).toNatClampNeg) + (gi M 171 ((639 : Int32)).toNatClampNeg)) - (1 : Int32)) - (0 : Int32))).toNatClampNeg (0 : Int64)) [(0, vr (some (97, 1, 0)))] 362 [] Q
                            refine sX8_waysOfOther_362 (d := d) (sl (sl (sl M 165 (((((gi M 172 ((639 : Int32)).toNatClampNeg) + (gi M 171 ((639 : Int32)).toNatClampNeg)) - (1 : Int32)) - (0 : Int32))).toNatClampNeg (0 : Int64)) 166 (((((gi M 172 ((639 : Int32)).toNatClampNeg) + (gi M 171 ((639 : Int32)).toNatClampNeg)) - (1 : Int32)) - (0 : Int32))).toNatClampNeg (0 : Int64)) 167 (((((gi M 172 ((639 : Int32)).toNatClampNeg) + (gi M 171 ((639 : Int32)).toNatClampNeg)) - (1 : Int32)) - (0 : Int32))).toNatClampNeg (0 : Int64))  ?_
                            exact k
                          · exact k
theorem iX8_waysOfOther_108 {E : zE} {d : Nat} {Q : zO → zM → Prop} (M : zM)  (k : Q (.inl none) M) : Zm E YX8_waysOfOther (d + 1) M [] 108 [] Q := by
  refine sX8_waysOfOther_108 (d := d) M  ?_
  refine sX8_waysOfOther_399 (d := d) M  ?_
  exact k
theorem iX8_waysOfOther_117 {E : zE} {d : Nat} {Q : zO → zM → Prop} (M : zM) (s0 : Int32) (s1 : Int32) (k : vp_in s1 647800 ∧ (vp_in s0 647800 ∧ (Zm E YX8_on d (sl (sl (sl M 165 (s0).toNatClampNeg (gl M 165 (s1).toNatClampNeg)) 166 (s0).toNatClampNeg (gl M 166 (s1).toNatClampNeg)) 167 (s0).toNatClampNeg (gl M 167 (s1).toNatClampNeg)) (zargs 0 [vr (some (97, 1, 0))]) 0 [] (zma E YX8_waysOfOther (d + 1) [] 121 3 [] Q)))) : Zm E YX8_waysOfOther (d + 1) M [(0, vr (some (97, 1, 0)))] 117 [vi s0, vi s1, vr (some (97, 1, 0))] Q := by
  refine sX8_waysOfOther_117 (d := d) M s0 s1 ?_
  refine jX8_copySet (d := d) M s1 s0 ?_
  refine zand k (fun h10910 k => ?_)
  refine zand k (fun h10911 k => ?_)
  show Zm E YX8_waysOfOther (d + 1) (sl (sl (sl M 165 (s0).toNatClampNeg (gl M 165 (s1).toNatClampNeg)) 166 (s0).toNatClampNeg (gl M 166 (s1).toNatClampNeg)) 167 (s0).toNatClampNeg (gl M 167 (s1).toNatClampNeg)) [(0, vr (some (97, 1, 0)))] 120 [] Q
  refine sX8_waysOfOther_120 (d := d) (sl (sl (sl M 165 (s0).toNatClampNeg (gl M 165 (s1).toNatClampNeg)) 166 (s0).toNatClampNeg (gl M 166 (s1).toNatClampNeg)) 167 (s0).toNatClampNeg (gl M 167 (s1).toNatClampNeg))  ?_
  exact k
theorem iX8_waysOfOther_137 {E : zE} {d : Nat} {Q : zO → zM → Prop} (M : zM) (l3 : Int32) (s0 : Int32) (s1 : Int32) (k : vp_in s1 647800 ∧ (vp_in s0 647800 ∧ (Zm E YX8_pushSet d (sl (sl (sl M 165 (s0).toNatClampNeg (gl M 165 (s1).toNatClampNeg)) 166 (s0).toNatClampNeg (gl M 166 (s1).toNatClampNeg)) 167 (s0).toNatClampNeg (gl M 167 (s1).toNatClampNeg)) (zargs 0 [vr (some (97, 1, 0))]) 0 [] (zma E YX8_waysOfOther (d + 1) [(0, vr (some (97, 1, 0)))] 143 3 [vi l3, vr (some (97, 1, 0))] Q)))) : Zm E YX8_waysOfOther (d + 1) M [(0, vr (some (97, 1, 0))), (3, vi l3)] 137 [vi s0, vi s1, vr (some (97, 1, 0))] Q := by
  refine sX8_waysOfOther_137 (d := d) M l3 s0 s1 ?_
  refine jX8_copySet (d := d) M s1 s0 ?_
  refine zand k (fun h10912 k => ?_)
  refine zand k (fun h10913 k => ?_)
  show Zm E YX8_waysOfOther (d + 1) (sl (sl (sl M 165 (s0).toNatClampNeg (gl M 165 (s1).toNatClampNeg)) 166 (s0).toNatClampNeg (gl M 166 (s1).toNatClampNeg)) 167 (s0).toNatClampNeg (gl M 167 (s1).toNatClampNeg)) [(0, vr (some (97, 1, 0))), (3, vi l3)] 140 [] Q
  refine sX8_waysOfOther_140 (d := d) (sl (sl (sl M 165 (s0).toNatClampNeg (gl M 165 (s1).toNatClampNeg)) 166 (s0).toNatClampNeg (gl M 166 (s1).toNatClampNeg)) 167 (s0).toNatClampNeg (gl M 167 (s1).toNatClampNeg)) l3 ?_
  exact k
theorem iX8_waysOfOther_160 {E : zE} {d : Nat} {Q : zO → zM → Prop} (M : zM) (l3 : Int32) (s0 : Int32) (k : vp_in (s0 - (1 : Int32)) 647800 ∧ (vp_in s0 647800 ∧ (Zm E YX8_copySet d (sl (sl (sl M 165 (s0).toNatClampNeg (gl M 165 ((s0 - (1 : Int32))).toNatClampNeg)) 166 (s0).toNatClampNeg (gl M 166 ((s0 - (1 : Int32))).toNatClampNeg)) 167 (s0).toNatClampNeg (gl M 167 ((s0 - (1 : Int32))).toNatClampNeg)) (zargs 0 [vr (some (97, 1, 0)), vi (s0 - (2 : Int32)), vi (s0 - (1 : Int32))]) 0 [] (zma E YX8_waysOfOther (d + 1) [(0, vr (some (97, 1, 0))), (3, vi l3), (4, vi s0)] 181 3 [] Q)))) : Zm E YX8_waysOfOther (d + 1) M [(0, vr (some (97, 1, 0))), (3, vi l3)] 160 [vi s0] Q := by
  refine sX8_waysOfOther_160 (d := d) M l3 s0 ?_
  refine jX8_copySet (d := d) M (s0 - (1 : Int32)) s0 ?_
  refine zand k (fun h10914 k => ?_)
  refine zand k (fun h10915 k => ?_)
  show Zm E YX8_waysOfOther (d + 1) (sl (sl (sl M 165 (s0).toNatClampNeg (gl M 165 ((s0 - (1 : Int32))).toNatClampNeg)) 166 (s0).toNatClampNeg (gl M 166 ((s0 - (1 : Int32))).toNatClampNeg)) 167 (s0).toNatClampNeg (gl M 167 ((s0 - (1 : Int32))).toNatClampNeg)) [(0, vr (some (97, 1, 0))), (3, vi l3), (4, vi s0)] 172 [] Q
  refine sX8_waysOfOther_172 (d := d) (sl (sl (sl M 165 (s0).toNatClampNeg (gl M 165 ((s0 - (1 : Int32))).toNatClampNeg)) 166 (s0).toNatClampNeg (gl M 166 ((s0 - (1 : Int32))).toNatClampNeg)) 167 (s0).toNatClampNeg (gl M 167 ((s0 - (1 : Int32))).toNatClampNeg)) l3 s0 ?_
  exact k
theorem iX8_waysOfOther_217 {E : zE} {d : Nat} {Q : zO → zM → Prop} (M : zM)  (k : Q (.inl none) M) : Zm E YX8_waysOfOther (d + 1) M [] 217 [] Q := by
  refine sX8_waysOfOther_217 (d := d) M  ?_
  refine sX8_waysOfOther_399 (d := d) M  ?_
  exact k
theorem iX8_waysOfOther_227 {E : zE} {d : Nat} {Q : zO → zM → Prop} (M : zM)  (k : Q (.inl none) M) : Zm E YX8_waysOfOther (d + 1) M [] 227 [] Q := by
  refine sX8_waysOfOther_227 (d := d) M  ?_
  refine sX8_waysOfOther_399 (d := d) M  ?_
  exact k
theorem iX8_waysOfOther_245 {E : zE} {d : Nat} {Q : zO → zM → Prop} (M : zM) (s0 : Int32) (s1 : Int32) (k : vp_in s1 647800 ∧ (vp_in s0 647800 ∧ (vp_in (gi M 97 148) 600 ∧ (Zm E YX8_flow d (sl (sl (sl M 165 (s0).toNatClampNeg (gl M 165 (s1).toNatClampNeg)) 166 (s0).toNatClampNeg (gl M 166 (s1).toNatClampNeg)) 167 (s0).toNatClampNeg (gl M 167 (s1).toNatClampNeg)) (zargs 0 [vr (some (97, 1, 0)), vi ((gi M 97 46) + ((2 : Int32) * (gi M 126 ((gi M 97 148)).toNatClampNeg)))]) 0 [] (zma E YX8_waysOfOther (d + 1) [] 265 3 [] Q))))) : Zm E YX8_waysOfOther (d + 1) M [(0, vr (some (97, 1, 0)))] 245 [vi s0, vi s1, vr (some (97, 1, 0))] Q := by
  refine sX8_waysOfOther_245 (d := d) M s0 s1 ?_
  refine jX8_copySet (d := d) M s1 s0 ?_
  refine zand k (fun h10917 k => ?_)
  refine zand k (fun h10918 k => ?_)
  show Zm E YX8_waysOfOther (d + 1) (sl (sl (sl M 165 (s0).toNatClampNeg (gl M 165 (s1).toNatClampNeg)) 166 (s0).toNatClampNeg (gl M 166 (s1).toNatClampNeg)) 167 (s0).toNatClampNeg (gl M 167 (s1).toNatClampNeg)) [(0, vr (some (97, 1, 0)))] 248 [] Q
  refine sX8_waysOfOther_248 (d := d) (sl (sl (sl M 165 (s0).toNatClampNeg (gl M 165 (s1).toNatClampNeg)) 166 (s0).toNatClampNeg (gl M 166 (s1).toNatClampNeg)) 167 (s0).toNatClampNeg (gl M 167 (s1).toNatClampNeg))  ?_
  exact k
theorem iX8_waysOfOther_275 {E : zE} {d : Nat} {Q : zO → zM → Prop} (M : zM)  (k : Q (.inl none) M) : Zm E YX8_waysOfOther (d + 1) M [] 275 [] Q := by
  refine sX8_waysOfOther_275 (d := d) M  ?_
  refine sX8_waysOfOther_399 (d := d) M  ?_
  exact k
theorem iX8_waysOfOther_331 {E : zE} {d : Nat} {Q : zO → zM → Prop} (M : zM)  (k : Q (.inl none) M) : Zm E YX8_waysOfOther (d + 1) M [] 331 [] Q := by
  refine sX8_waysOfOther_331 (d := d) M  ?_
  refine sX8_waysOfOther_399 (d := d) M  ?_
  exact k
theorem iX8_waysOfOther_350 {E : zE} {d : Nat} {Q : zO → zM → Prop} (M : zM)  (k : Q (.inl none) M) : Zm E YX8_waysOfOther (d + 1) M [] 350 [] Q := by
  refine sX8_waysOfOther_350 (d := d) M  ?_
  refine sX8_waysOfOther_399 (d := d) M  ?_
  exact k
theorem iX8_waysOfOther_366 {E : zE} {d : Nat} {Q : zO → zM → Prop} (M : zM)  (k : Q (.inl none) M) : Zm E YX8_waysOfOther (d + 1) M [] 366 [] Q := by
  refine sX8_waysOfOther_366 (d := d) M  ?_
  refine sX8_waysOfOther_399 (d := d) M  ?_
  exact k
theorem iX8_waysOfOther_124 {E : zE} {d : Nat} {Q : zO → zM → Prop} (M : zM)  (k : Q (.inl none) M) : Zm E YX8_waysOfOther (d + 1) M [] 124 [] Q := by
  refine sX8_waysOfOther_124 (d := d) M  ?_
  refine sX8_waysOfOther_399 (d := d) M  ?_
  exact k
theorem iX8_waysOfOther_146 {E : zE} {d : Nat} {Q : zO → zM → Prop} (M : zM) (s0 : Int32) (s1 : Int32) (k : vp_in s1 647800 ∧ (vp_in s0 647800 ∧ (Zm E YX8_on d (sl (sl (sl M 165 (s0).toNatClampNeg (gl M 165 (s1).toNatClampNeg)) 166 (s0).toNatClampNeg (gl M 166 (s1).toNatClampNeg)) 167 (s0).toNatClampNeg (gl M 167 (s1).toNatClampNeg)) (zargs 0 [vr (some (97, 1, 0))]) 0 [] (zma E YX8_waysOfOther (d + 1) [] 150 3 [] Q)))) : Zm E YX8_waysOfOther (d + 1) M [(0, vr (some (97, 1, 0)))] 146 [vi s0, vi s1, vr (some (97, 1, 0))] Q := by
  refine sX8_waysOfOther_146 (d := d) M s0 s1 ?_
  refine jX8_copySet (d := d) M s1 s0 ?_
  refine zand k (fun h10920 k => ?_)
  refine zand k (fun h10921 k => ?_)
  show Zm E YX8_waysOfOther (d + 1) (sl (sl (sl M 165 (s0).toNatClampNeg (gl M 165 (s1).toNatClampNeg)) 166 (s0).toNatClampNeg (gl M 166 (s1).toNatClampNeg)) 167 (s0).toNatClampNeg (gl M 167 (s1).toNatClampNeg)) [(0, vr (some (97, 1, 0)))] 149 [] Q
  refine sX8_waysOfOther_149 (d := d) (sl (sl (sl M 165 (s0).toNatClampNeg (gl M 165 (s1).toNatClampNeg)) 166 (s0).toNatClampNeg (gl M 166 (s1).toNatClampNeg)) 167 (s0).toNatClampNeg (gl M 167 (s1).toNatClampNeg))  ?_
  exact k
theorem iX8_waysOfOther_184 {E : zE} {d : Nat} {Q : zO → zM → Prop} (M : zM) (l3 : Int32) (l4 : Int32) (k : vp_in (l4 - (3 : Int32)) 647800 ∧ (vp_in (l4 - (2 : Int32)) 647800 ∧ (Zm E YX8_copySet d (sl (sl (sl M 165 ((l4 - (2 : Int32))).toNatClampNeg (gl M 165 ((l4 - (3 : Int32))).toNatClampNeg)) 166 ((l4 - (2 : Int32))).toNatClampNeg (gl M 166 ((l4 - (3 : Int32))).toNatClampNeg)) 167 ((l4 - (2 : Int32))).toNatClampNeg (gl M 167 ((l4 - (3 : Int32))).toNatClampNeg)) (zargs 0 [vr (some (97, 1, 0)), vi l3, vi (l4 - (3 : Int32))]) 0 [] (zma E YX8_waysOfOther (d + 1) [(0, vr (some (97, 1, 0)))] 202 3 [] Q)))) : Zm E YX8_waysOfOther (d + 1) M [(0, vr (some (97, 1, 0))), (3, vi l3), (4, vi l4)] 184 [] Q := by
  refine sX8_waysOfOther_184 (d := d) M l3 l4 ?_
  refine jX8_copySet (d := d) M (l4 - (3 : Int32)) (l4 - (2 : Int32)) ?_
  refine zand k (fun h10922 k => ?_)
  refine zand k (fun h10923 k => ?_)
  show Zm E YX8_waysOfOther (d + 1) (sl (sl (sl M 165 ((l4 - (2 : Int32))).toNatClampNeg (gl M 165 ((l4 - (3 : Int32))).toNatClampNeg)) 166 ((l4 - (2 : Int32))).toNatClampNeg (gl M 166 ((l4 - (3 : Int32))).toNatClampNeg)) 167 ((l4 - (2 : Int32))).toNatClampNeg (gl M 167 ((l4 - (3 : Int32))).toNatClampNeg)) [(0, vr (some (97, 1, 0))), (3, vi l3), (4, vi l4)] 196 [] Q
  refine sX8_waysOfOther_196 (d := d) (sl (sl (sl M 165 ((l4 - (2 : Int32))).toNatClampNeg (gl M 165 ((l4 - (3 : Int32))).toNatClampNeg)) 166 ((l4 - (2 : Int32))).toNatClampNeg (gl M 166 ((l4 - (3 : Int32))).toNatClampNeg)) 167 ((l4 - (2 : Int32))).toNatClampNeg (gl M 167 ((l4 - (3 : Int32))).toNatClampNeg)) l3 l4 ?_
  exact k
theorem iX8_waysOfOther_268 {E : zE} {d : Nat} {Q : zO → zM → Prop} (M : zM)  (k : Q (.inl none) M) : Zm E YX8_waysOfOther (d + 1) M [] 268 [] Q := by
  refine sX8_waysOfOther_268 (d := d) M  ?_
  refine sX8_waysOfOther_399 (d := d) M  ?_
  exact k
theorem iX8_waysOfOther_153 {E : zE} {d : Nat} {Q : zO → zM → Prop} (M : zM)  (k : Q (.inl none) M) : Zm E YX8_waysOfOther (d + 1) M [] 153 [] Q := by
  refine sX8_waysOfOther_153 (d := d) M  ?_
  refine sX8_waysOfOther_399 (d := d) M  ?_
  exact k
theorem iX8_waysOfOther_382 {E : zE} {d : Nat} {Q : zO → zM → Prop} (M : zM) (l2 : Int32) (k : vp_in (639 : Int32) 640 ∧ (Zm E YX8_to d (si M 171 ((639 : Int32)).toNatClampNeg ((gi M 171 ((639 : Int32)).toNatClampNeg) - (2 : Int32))) (zargs 0 [vr (some (97, 1, 0)), vi l2]) 0 [] (zma E YX8_waysOfOther (d + 1) [] 396 3 [] Q))) : Zm E YX8_waysOfOther (d + 1) M [(0, vr (some (97, 1, 0))), (2, vi l2)] 382 [] Q := by
  refine sX8_waysOfOther_382 (d := d) M l2 ?_
  refine zand k (fun h10925 k => ?_)
  refine ⟨h10925, ?_⟩
  exact k
theorem iX8_waysOfOther_209 {E : zE} {d : Nat} {Q : zO → zM → Prop} (M : zM)  (k : Q (.inl none) M) : Zm E YX8_waysOfOther (d + 1) M [] 209 [] Q := by
  refine sX8_waysOfOther_209 (d := d) M  ?_
  refine sX8_waysOfOther_399 (d := d) M  ?_
  exact k
theorem iX8_waysOfTest_12 {E : zE} {d : Nat} {Q : zO → zM → Prop} (M : zM) (l1 : Int32) (l2 : Int32) (l4 : Int32) (s0 : Int32) (k : if l1 = (24 : Int32) then (Zm E YX8_waysOfTest (d + 1) M [(0, vr (some (97, 1, 0))), (1, vi l1), (2, vi l2), (6, vi s0)] 42 [vi l4] Q) else (Zm E YX8_waysOfTest (d + 1) M [(0, vr (some (97, 1, 0))), (1, vi l1), (2, vi l2), (6, vi l4)] 42 [vi s0] Q)) : Zm E YX8_waysOfTest (d + 1) M [(0, vr (some (97, 1, 0))), (1, vi l1), (2, vi l2), (4, vi l4)] 12 [vi s0] Q := by
  refine sX8_waysOfTest_12 (d := d) M l1 l2 l4 s0 ?_
  refine zite k (fun h10926 k => ?_) (fun h10926 k => ?_)
  · refine zpos h10926 ?_
    exact k
  · refine zneg h10926 ?_
    exact k
theorem iX8_waysOfTest_42 {E : zE} {d : Nat} {Q : zO → zM → Prop} (M : zM) (l1 : Int32) (l2 : Int32) (l6 : Int32) (s0 : Int32) (k : if s0 = 0 then (vp_in (639 : Int32) 640 ∧ (if l6 = 0 then (Zm E YX8_waysOfTest (d + 1) (si M 171 ((639 : Int32)).toNatClampNeg ((gi M 171 ((639 : Int32)).toNatClampNeg) - (1 : Int32))) [(0, vr (some (97, 1, 0))), (1, vi l1), (2, vi l2), (7, vi s0)] 81 [] Q) else (Zm E YX8_on d (si M 171 ((639 : Int32)).toNatClampNeg ((gi M 171 ((639 : Int32)).toNatClampNeg) - (1 : Int32))) (zargs 0 [vr (some (97, 1, 0))]) 0 [] (zma E YX8_waysOfTest (d + 1) [(0, vr (some (97, 1, 0))), (1, vi l1), (2, vi l2), (7, vi s0)] 78 3 [] Q)))) else (if l1 = (22 : Int32) then (vp_in (639 : Int32) 640 ∧ (if l6 = 0 then (Zm E YX8_waysOfTest (d + 1) (si M 171 ((639 : Int32)).toNatClampNeg ((gi M 171 ((639 : Int32)).toNatClampNeg) - (1 : Int32))) [(0, vr (some (97, 1, 0))), (1, vi l1), (2, vi l2), (7, vi s0)] 81 [] Q) else (Zm E YX8_on d (si M 171 ((639 : Int32)).toNatClampNeg ((gi M 171 ((639 : Int32)).toNatClampNeg) - (1 : Int32))) (zargs 0 [vr (some (97, 1, 0))]) 0 [] (zma E YX8_waysOfTest (d + 1) [(0, vr (some (97, 1, 0))), (1, vi l1), (2, vi l2), (7, vi s0)] 78 3 [] Q)))) else (Zm E YX8_to d M (zargs 0 [vr (some (97, 1, 0)), vi l2]) 0 [] (zma E YX8_waysOfTest (d + 1) [(0, vr (some (97, 1, 0))), (1, vi l1), (2, vi l2), (6, vi l6), (7, vi s0)] 57 3 [] Q)))) : Zm E YX8_waysOfTest (d + 1) M [(0, vr (some (97, 1, 0))), (1, vi l1), (2, vi l2), (6, vi l6)] 42 [vi s0] Q := by
  refine sX8_waysOfTest_42 (d := d) M l1 l2 l6 s0 ?_
  refine zite k (fun h10927 k => ?_) (fun h10927 k => ?_)
  · refine sX8_waysOfTest_60 (d := d) M l1 l2 l6 s0 ?_
    refine zand k (fun h10928 k => ?_)
    refine ⟨h10928, ?_⟩
    exact k
  · refine zite k (fun h10930 k => ?_) (fun h10930 k => ?_)
    · refine sX8_waysOfTest_60 (d := d) M l1 l2 l6 s0 ?_
      refine zand k (fun h10931 k => ?_)
      refine ⟨h10931, ?_⟩
      exact k
    · exact k
theorem iX8_waysOfTest_81 {E : zE} {d : Nat} {Q : zO → zM → Prop} (M : zM) (l1 : Int32) (l2 : Int32) (l7 : Int32) (k : if l7 = 0 then (Q (.inl none) M) else (if l1 = (22 : Int32) then (Zm E YX8_to d M (zargs 0 [vr (some (97, 1, 0)), vi l2]) 0 [] (zma E YX8_waysOfTest (d + 1) [] 94 3 [] Q)) else (Q (.inl none) M))) : Zm E YX8_waysOfTest (d + 1) M [(0, vr (some (97, 1, 0))), (1, vi l1), (2, vi l2), (7, vi l7)] 81 [] Q := by
  refine sX8_waysOfTest_81 (d := d) M l1 l2 l7 ?_
  refine zite k (fun h10933 k => ?_) (fun h10933 k => ?_)
  · refine sX8_waysOfTest_97 (d := d) M  ?_
    exact k
  · refine zite k (fun h10934 k => ?_) (fun h10934 k => ?_)
    · exact k
    · refine sX8_waysOfTest_97 (d := d) M  ?_
      exact k
theorem iX8_waysOfTest_60 {E : zE} {d : Nat} {Q : zO → zM → Prop} (M : zM) (l1 : Int32) (l2 : Int32) (l6 : Int32) (l7 : Int32) (k : vp_in (639 : Int32) 640 ∧ (if l6 = 0 then (Zm E YX8_waysOfTest (d + 1) (si M 171 ((639 : Int32)).toNatClampNeg ((gi M 171 ((639 : Int32)).toNatClampNeg) - (1 : Int32))) [(0, vr (some (97, 1, 0))), (1, vi l1), (2, vi l2), (7, vi l7)] 81 [] Q) else (Zm E YX8_on d (si M 171 ((639 : Int32)).toNatClampNeg ((gi M 171 ((639 : Int32)).toNatClampNeg) - (1 : Int32))) (zargs 0 [vr (some (97, 1, 0))]) 0 [] (zma E YX8_waysOfTest (d + 1) [(0, vr (some (97, 1, 0))), (1, vi l1), (2, vi l2), (7, vi l7)] 78 3 [] Q)))) : Zm E YX8_waysOfTest (d + 1) M [(0, vr (some (97, 1, 0))), (1, vi l1), (2, vi l2), (6, vi l6), (7, vi l7)] 60 [] Q := by
  refine sX8_waysOfTest_60 (d := d) M l1 l2 l6 l7 ?_
  refine zand k (fun h10935 k => ?_)
  refine ⟨h10935, ?_⟩
  exact k
theorem iJ10_newLength_0 {E : zE} {d : Nat} {Q : zO → zM → Prop} (M : zM) (l0 : Int32) (l1 : Int32) (l2 : Int32) (k : if l1 < l2 then (if (l0 + l2) ≤ (0 : Int32) then (Z E YJ10_hugeLength d M (zargs 0 [vi l0, vi l1]) 0 [] (zafter E YJ10_newLength (d + 1) [] 23 3 [] Q)) else (if (2147483639 : Int32) < (l0 + l2) then (Z E YJ10_hugeLength d M (zargs 0 [vi l0, vi l1]) 0 [] (zafter E YJ10_newLength (d + 1) [] 23 3 [] Q)) else (Q (.inl (some (vi (l0 + l2)))) M))) else (if (l0 + l1) ≤ (0 : Int32) then (Z E YJ10_hugeLength d M (zargs 0 [vi l0, vi l1]) 0 [] (zafter E YJ10_newLength (d + 1) [] 23 3 [] Q)) else (if (2147483639 : Int32) < (l0 + l1) then (Z E YJ10_hugeLength d M (zargs 0 [vi l0, vi l1]) 0 [] (zafter E YJ10_newLength (d + 1) [] 23 3 [] Q)) else (Q (.inl (some (vi (l0 + l1)))) M)))) : Z E YJ10_newLength (d + 1) M [(0, vi l0), (1, vi l1), (2, vi l2)] 0 [] Q := by
  refine sJ10_newLength_0 (d := d) M l0 l1 l2 ?_
  refine sJ11_max_0 (d := d) M l1 l2 ?_
  refine zite k (fun h10938 k => ?_) (fun h10938 k => ?_)
  · show Z E YJ10_newLength (d + 1) M [(0, vi l0), (1, vi l1)] 6 [vi l2, vi l0] Q
    refine sJ10_newLength_6 (d := d) M l0 l1 l2 l0 ?_
    exact k
  · show Z E YJ10_newLength (d + 1) M [(0, vi l0), (1, vi l1)] 6 [vi l1, vi l0] Q
    refine sJ10_newLength_6 (d := d) M l0 l1 l1 l0 ?_
    exact k
theorem iJ16_numberOfTrailingZeros_0 {E : zE} {d : Nat} {Q : zO → zM → Prop} (M : zM) (l0 : Int32) (k : if 0 < ((l0 ^^^ (-1 : Int32)) &&& (l0 - (1 : Int32))) then (if ((l0 ^^^ (-1 : Int32)) &&& (l0 - (1 : Int32))) ≤ (65536 : Int32) then (if ((l0 ^^^ (-1 : Int32)) &&& (l0 - (1 : Int32))) ≤ (256 : Int32) then (if ((l0 ^^^ (-1 : Int32)) &&& (l0 - (1 : Int32))) ≤ (16 : Int32) then (if ((l0 ^^^ (-1 : Int32)) &&& (l0 - (1 : Int32))) ≤ (4 : Int32) then (Q (.inl (some (vi ((1 : Int32) + (zus ((l0 ^^^ (-1 : Int32)) &&& (l0 - (1 : Int32))) (1 : Int32)))))) M) else (Q (.inl (some (vi (((1 : Int32) + (2 : Int32)) + (zus (zus ((l0 ^^^ (-1 : Int32)) &&& (l0 - (1 : Int32))) (2 : Int32)) (1 : Int32)))))) M)) else (if (zus ((l0 ^^^ (-1 : Int32)) &&& (l0 - (1 : Int32))) (4 : Int32)) ≤ (4 : Int32) then (Q (.inl (some (vi (((1 : Int32) + (4 : Int32)) + (zus (zus ((l0 ^^^ (-1 : Int32)) &&& (l0 - (1 : Int32))) (4 : Int32)) (1 : Int32)))))) M) else (Q (.inl (some (vi ((((1 : Int32) + (4 : Int32)) + (2 : Int32)) + (zus (zus (zus ((l0 ^^^ (-1 : Int32)) &&& (l0 - (1 : Int32))) (4 : Int32)) (2 : Int32)) (1 : Int32)))))) M))) else (if (zus ((l0 ^^^ (-1 : Int32)) &&& (l0 - (1 : Int32))) (8 : Int32)) ≤ (16 : Int32) then (if (zus ((l0 ^^^ (-1 : Int32)) &&& (l0 - (1 : Int32))) (8 : Int32)) ≤ (4 : Int32) then (Q (.inl (some (vi (((1 : Int32) + (8 : Int32)) + (zus (zus ((l0 ^^^ (-1 : Int32)) &&& (l0 - (1 : Int32))) (8 : Int32)) (1 : Int32)))))) M) else (Q (.inl (some (vi ((((1 : Int32) + (8 : Int32)) + (2 : Int32)) + (zus (zus (zus ((l0 ^^^ (-1 : Int32)) &&& (l0 - (1 : Int32))) (8 : Int32)) (2 : Int32)) (1 : Int32)))))) M)) else (if (zus (zus ((l0 ^^^ (-1 : Int32)) &&& (l0 - (1 : Int32))) (8 : Int32)) (4 : Int32)) ≤ (4 : Int32) then (Q (.inl (some (vi ((((1 : Int32) + (8 : Int32)) + (4 : Int32)) + (zus (zus (zus ((l0 ^^^ (-1 : Int32)) &&& (l0 - (1 : Int32))) (8 : Int32)) (4 : Int32)) (1 : Int32)))))) M) else (Q (.inl (some (vi (((((1 : Int32) + (8 : Int32)) + (4 : Int32)) + (2 : Int32)) + (zus (zus (zus (zus ((l0 ^^^ (-1 : Int32)) &&& (l0 - (1 : Int32))) (8 : Int32)) (4 : Int32)) (2 : Int32)) (1 : Int32)))))) M)))) else (if (zus ((l0 ^^^ (-1 : Int32)) &&& (l0 - (1 : Int32))) (16 : Int32)) ≤ (256 : Int32) then (if (zus ((l0 ^^^ (-1 : Int32)) &&& (l0 - (1 : Int32))) (16 : Int32)) ≤ (16 : Int32) then (if (zus ((l0 ^^^ (-1 : Int32)) &&& (l0 - (1 : Int32))) (16 : Int32)) ≤ (4 : Int32) then (Q (.inl (some (vi (((1 : Int32) + (16 : Int32)) + (zus (zus ((l0 ^^^ (-1 : Int32)) &&& (l0 - (1 : Int32))) (16 : Int32)) (1 : Int32)))))) M) else (Q (.inl (some (vi ((((1 : Int32) + (16 : Int32)) + (2 : Int32)) + (zus (zus (zus ((l0 ^^^ (-1 : Int32)) &&& (l0 - (1 : Int32))) (16 : Int32)) (2 : Int32)) (1 : Int32)))))) M)) else (if (zus (zus ((l0 ^^^ (-1 : Int32)) &&& (l0 - (1 : Int32))) (16 : Int32)) (4 : Int32)) ≤ (4 : Int32) then (Q (.inl (some (vi ((((1 : Int32) + (16 : Int32)) + (4 : Int32)) + (zus (zus (zus ((l0 ^^^ (-1 : Int32)) &&& (l0 - (1 : Int32))) (16 : Int32)) (4 : Int32)) (1 : Int32)))))) M) else (Q (.inl (some (vi (((((1 : Int32) + (16 : Int32)) + (4 : Int32)) + (2 : Int32)) + (zus (zus (zus (zus ((l0 ^^^ (-1 : Int32)) &&& (l0 - (1 : Int32))) (16 : Int32)) (4 : Int32)) (2 : Int32)) (1 : Int32)))))) M))) else (if (zus (zus ((l0 ^^^ (-1 : Int32)) &&& (l0 - (1 : Int32))) (16 : Int32)) (8 : Int32)) ≤ (16 : Int32) then (if (zus (zus ((l0 ^^^ (-1 : Int32)) &&& (l0 - (1 : Int32))) (16 : Int32)) (8 : Int32)) ≤ (4 : Int32) then (Q (.inl (some (vi ((((1 : Int32) + (16 : Int32)) + (8 : Int32)) + (zus (zus (zus ((l0 ^^^ (-1 : Int32)) &&& (l0 - (1 : Int32))) (16 : Int32)) (8 : Int32)) (1 : Int32)))))) M) else (Q (.inl (some (vi (((((1 : Int32) + (16 : Int32)) + (8 : Int32)) + (2 : Int32)) + (zus (zus (zus (zus ((l0 ^^^ (-1 : Int32)) &&& (l0 - (1 : Int32))) (16 : Int32)) (8 : Int32)) (2 : Int32)) (1 : Int32)))))) M)) else (if (zus (zus (zus ((l0 ^^^ (-1 : Int32)) &&& (l0 - (1 : Int32))) (16 : Int32)) (8 : Int32)) (4 : Int32)) ≤ (4 : Int32) then (Q (.inl (some (vi (((((1 : Int32) + (16 : Int32)) + (8 : Int32)) + (4 : Int32)) + (zus (zus (zus (zus ((l0 ^^^ (-1 : Int32)) &&& (l0 - (1 : Int32))) (16 : Int32)) (8 : Int32)) (4 : Int32)) (1 : Int32)))))) M) else (Q (.inl (some (vi ((((((1 : Int32) + (16 : Int32)) + (8 : Int32)) + (4 : Int32)) + (2 : Int32)) + (zus (zus (zus (zus (zus ((l0 ^^^ (-1 : Int32)) &&& (l0 - (1 : Int32))) (16 : Int32)) (8 : Int32)) (4 : Int32)) (2 : Int32)) (1 : Int32)))))) M))))) else (Q (.inl (some (vi (((l0 ^^^ (-1 : Int32)) &&& (l0 - (1 : Int32))) &&& (32 : Int32))))) M)) : Z E YJ16_numberOfTrailingZeros d M [(0, vi l0)] 0 [] Q := by
  refine sJ16_numberOfTrailingZeros_0 (d := d) M l0 ?_
  refine zite k (fun h10947 k => ?_) (fun h10947 k => ?_)
  · refine zite k (fun h10948 k => ?_) (fun h10948 k => ?_)
    · refine sJ16_numberOfTrailingZeros_34 (d := d) M ((l0 ^^^ (-1 : Int32)) &&& (l0 - (1 : Int32))) (1 : Int32) ?_
      refine zite k (fun h10949 k => ?_) (fun h10949 k => ?_)
      · refine sJ16_numberOfTrailingZeros_49 (d := d) M ((l0 ^^^ (-1 : Int32)) &&& (l0 - (1 : Int32))) (1 : Int32) ?_
        refine zite k (fun h10950 k => ?_) (fun h10950 k => ?_)
        · refine sJ16_numberOfTrailingZeros_62 (d := d) M ((l0 ^^^ (-1 : Int32)) &&& (l0 - (1 : Int32))) (1 : Int32) ?_
          exact k
        · refine sJ16_numberOfTrailingZeros_62 (d := d) M (zus ((l0 ^^^ (-1 : Int32)) &&& (l0 - (1 : Int32))) (4 : Int32)) ((1 : Int32) + (4 : Int32)) ?_
          exact k
      · refine sJ16_numberOfTrailingZeros_49 (d := d) M (zus ((l0 ^^^ (-1 : Int32)) &&& (l0 - (1 : Int32))) (8 : Int32)) ((1 : Int32) + (8 : Int32)) ?_
        refine zite k (fun h10953 k => ?_) (fun h10953 k => ?_)
        · refine sJ16_numberOfTrailingZeros_62 (d := d) M (zus ((l0 ^^^ (-1 : Int32)) &&& (l0 - (1 : Int32))) (8 : Int32)) ((1 : Int32) + (8 : Int32)) ?_
          exact k
        · refine sJ16_numberOfTrailingZeros_62 (d := d) M (zus (zus ((l0 ^^^ (-1 : Int32)) &&& (l0 - (1 : Int32))) (8 : Int32)) (4 : Int32)) (((1 : Int32) + (8 : Int32)) + (4 : Int32)) ?_
          exact k
    · refine sJ16_numberOfTrailingZeros_34 (d := d) M (zus ((l0 ^^^ (-1 : Int32)) &&& (l0 - (1 : Int32))) (16 : Int32)) ((1 : Int32) + (16 : Int32)) ?_
      refine zite k (fun h10956 k => ?_) (fun h10956 k => ?_)
      · refine sJ16_numberOfTrailingZeros_49 (d := d) M (zus ((l0 ^^^ (-1 : Int32)) &&& (l0 - (1 : Int32))) (16 : Int32)) ((1 : Int32) + (16 : Int32)) ?_
        refine zite k (fun h10957 k => ?_) (fun h10957 k => ?_)
        · refine sJ16_numberOfTrailingZeros_62 (d := d) M (zus ((l0 ^^^ (-1 : Int32)) &&& (l0 - (1 : Int32))) (16 : Int32)) ((1 : Int32) + (16 : Int32)) ?_
          exact k
        · refine sJ16_numberOfTrailingZeros_62 (d := d) M (zus (zus ((l0 ^^^ (-1 : Int32)) &&& (l0 - (1 : Int32))) (16 : Int32)) (4 : Int32)) (((1 : Int32) + (16 : Int32)) + (4 : Int32)) ?_
          exact k
      · refine sJ16_numberOfTrailingZeros_49 (d := d) M (zus (zus ((l0 ^^^ (-1 : Int32)) &&& (l0 - (1 : Int32))) (16 : Int32)) (8 : Int32)) (((1 : Int32) + (16 : Int32)) + (8 : Int32)) ?_
        refine zite k (fun h10960 k => ?_) (fun h10960 k => ?_)
        · refine sJ16_numberOfTrailingZeros_62 (d := d) M (zus (zus ((l0 ^^^ (-1 : Int32)) &&& (l0 - (1 : Int32))) (16 : Int32)) (8 : Int32)) (((1 : Int32) + (16 : Int32)) + (8 : Int32)) ?_
          exact k
        · refine sJ16_numberOfTrailingZeros_62 (d := d) M (zus (zus (zus ((l0 ^^^ (-1 : Int32)) &&& (l0 - (1 : Int32))) (16 : Int32)) (8 : Int32)) (4 : Int32)) ((((1 : Int32) + (16 : Int32)) + (8 : Int32)) + (4 : Int32)) ?_
          exact k
  · exact k
theorem iJ17_numberOfTrailingZeros_17 {E : zE} {d : Nat} {Q : zO → zM → Prop} (M : zM) (s0 : Int32) (s1 : Int32) (k : Q (.inl (some (vi (s1 + s0)))) M) : Z E YJ17_numberOfTrailingZeros (d + 1) M [] 17 [vi s0, vi s1] Q := by
  refine sJ17_numberOfTrailingZeros_17 (d := d) M s0 s1 ?_
  refine sJ17_numberOfTrailingZeros_25 (d := d) M (s1 + s0) ?_
  exact k
theorem iJ1_init_0 {E : zE} {d : Nat} {Q : zO → zM → Prop} (M : zM) (a0 : Nat) (k : 16 ≤ a0 ∧ (Q (.inl none) (si M a0 0 (0 : Int32)))) : Z E YJ1_init (d + 2) M [(0, vr (some (a0, 11, 0)))] 0 [] Q := by
  refine sJ1_init_0 (d := (d + 1)) M a0 ?_
  refine sJ0_init_0 (d := d) M _ 11 ?_
  show Z E YJ1_init ((d + 1) + 1) M [(0, vr (some (a0, 11, 0)))] 4 [] Q
  refine sJ1_init_4 (d := (d + 1)) M _ ?_
  exact k
theorem iJ2_add_2_0 {E : zE} {d : Nat} {Q : zO → zM → Prop} (M : zM) (a0 : Nat) (r1 : Option zP) (r2 : Option zP) (l3 : Int32) (k : ∃ b10990 m10990 : Nat, r2 = some (b10990, 106, m10990) ∧ (if l3 = (Int32.ofNat m10990) then (Z E YJ2_grow d M (zargs 0 [vr (some (a0, 11, 0))]) 0 [] (zafter E YJ2_add_2 (d + 1) [(0, vr (some (a0, 11, 0))), (1, vr r1), (3, vi l3)] 7 3 [] Q)) else (∃ b10992 t10992 m10992 : Nat, r1 = some (b10992, t10992, m10992) ∧ (16 ≤ b10990 ∧ (vp_in l3 m10990 ∧ (zsto 6 t10992 ∧ (16 ≤ a0 ∧ (Q (.inl none) (si (sr M b10990 (l3).toNatClampNeg (some (b10992, t10992, m10992))) a0 2 (l3 + (1 : Int32))))))))))) : Z E YJ2_add_2 (d + 1) M [(0, vr (some (a0, 11, 0))), (1, vr r1), (2, vr r2), (3, vi l3)] 0 [] Q := by
  refine sJ2_add_2_0 (d := d) M a0 r1 r2 l3 ?_
  obtain ⟨b10990, m10990, h10990, k⟩ := k
  refine ⟨b10990, m10990, h10990, ?_⟩
  refine zite k (fun h10991 k => ?_) (fun h10991 k => ?_)
  · exact k
  · refine sJ2_add_2_11 (d := d) M _ r1 (some (b10990, 106, m10990)) l3 ?_
    refine ⟨b10990, m10990, rfl, ?_⟩
    exact k
theorem iJ2_add_2_10 {E : zE} {d : Nat} {Q : zO → zM → Prop} (M : zM) (a0 : Nat) (r1 : Option zP) (l3 : Int32) (u0 : Option zP) (k : ∃ b10997 m10997 : Nat, u0 = some (b10997, 106, m10997) ∧ (∃ b10998 t10998 m10998 : Nat, r1 = some (b10998, t10998, m10998) ∧ (16 ≤ b10997 ∧ (vp_in l3 m10997 ∧ (zsto 6 t10998 ∧ (16 ≤ a0 ∧ (Q (.inl none) (si (sr M b10997 (l3).toNatClampNeg (some (b10998, t10998, m10998))) a0 2 (l3 + (1 : Int32)))))))))) : Z E YJ2_add_2 (d + 1) M [(0, vr (some (a0, 11, 0))), (1, vr r1), (3, vi l3)] 10 [vr u0] Q := by
  refine sJ2_add_2_10 (d := d) M a0 r1 l3 u0 ?_
  refine sJ2_add_2_11 (d := d) M _ r1 u0 l3 ?_
  exact k
theorem iJ2_get_8 {E : zE} {d : Nat} {Q : zO → zM → Prop} (M : zM) (a0 : Nat) (l1 : Int32) (s0 : Int32) (k : ∃ b11007 m11007 : Nat, (gr M a0 1) = some (b11007, 106, m11007) ∧ (vp_in l1 m11007 ∧ (Q (.inl (some (vr (gr M b11007 (l1).toNatClampNeg)))) M))) : Z E YJ2_get (d + 1) M [(0, vr (some (a0, 11, 0))), (1, vi l1)] 8 [vi s0] Q := by
  refine sJ2_get_8 (d := d) M a0 l1 s0 ?_
  refine sJ2_elementData_0 (d := d) M _ l1 ?_
  obtain ⟨b11007, m11007, h11007, k⟩ := k
  refine ⟨b11007, m11007, h11007, ?_⟩
  refine zand k (fun h11008 k => ?_)
  show Z E YJ2_get (d + 1) M [] 14 [vr (gr M b11007 (l1).toNatClampNeg)] Q
  refine sJ2_get_14 (d := d) M (gr M b11007 (l1).toNatClampNeg) ?_
  exact k
theorem iJ2_grow_2_0 {E : zE} {d : Nat} {Q : zO → zM → Prop} (M : zM) (a0 : Nat) (l1 : Int32) (k : ∃ b11009 m11009 : Nat, (gr M a0 1) = some (b11009, 106, m11009) ∧ (if 0 < (Int32.ofNat m11009) then (Z E YJ10_newLength d M (zargs 0 [vi (Int32.ofNat m11009), vi (l1 - (Int32.ofNat m11009)), vi ((Int32.ofNat m11009) >>> ((1 : Int32) &&& 31))]) 0 [] (zafter E YJ2_grow_2 (d + 1) [(0, vr (some (a0, 11, 0)))] 27 3 [] Q)) else ((zcmp (gr M a0 1) ∧ zcmp (some (1, 110, 0))) ∧ (if zfst (gr M a0 1) = zfst (some (1, 110, 0)) then (if (10 : Int32) < l1 then ((¬ l1 < 0 ∧ (l1).toNatClampNeg * 4 ≤ 536870912) ∧ (16 ≤ a0 ∧ (Q (.inl (some (vr (some ((zsz M), 106, (l1).toNatClampNeg))))) (sr (zn M (l1).toNatClampNeg) a0 1 (some ((zsz M), 106, (l1).toNatClampNeg)))))) else ((¬ (10 : Int32) < 0 ∧ ((10 : Int32)).toNatClampNeg * 4 ≤ 536870912) ∧ (16 ≤ a0 ∧ (Q (.inl (some (vr (some ((zsz M), 106, ((10 : Int32)).toNatClampNeg))))) (sr (zn M ((10 : Int32)).toNatClampNeg) a0 1 (some ((zsz M), 106, ((10 : Int32)).toNatClampNeg))))))) else (Z E YJ10_newLength d M (zargs 0 [vi (Int32.ofNat m11009), vi (l1 - (Int32.ofNat m11009)), vi ((Int32.ofNat m11009) >>> ((1 : Int32) &&& 31))]) 0 [] (zafter E YJ2_grow_2 (d + 1) [(0, vr (some (a0, 11, 0)))] 27 3 [] Q)))))) : Z E YJ2_grow_2 (d + 1) M [(0, vr (some (a0, 11, 0))), (1, vi l1)] 0 [] Q := by
  refine sJ2_grow_2_0 (d := d) M a0 l1 ?_
  obtain ⟨b11009, m11009, h11009, k⟩ := k
  refine ⟨b11009, m11009, h11009, ?_⟩
  refine zite k (fun h11010 k => ?_) (fun h11010 k => ?_)
  · refine sJ2_grow_2_20 (d := d) M _ l1 (Int32.ofNat m11009) ?_
    exact k
  · refine zand k (fun h11011 k => ?_)
    refine zite k (fun h11012 k => ?_) (fun h11012 k => ?_)
    · refine sJ11_max_0 (d := d) M (10 : Int32) l1 ?_
      refine zite k (fun h11013 k => ?_) (fun h11013 k => ?_)
      · show Z E YJ2_grow_2 (d + 1) M [] 52 [vi l1, vr (some (a0, 11, 0))] Q
        refine sJ2_grow_2_52 (d := d) M l1 _ ?_
        refine zand k (fun h11014 k => ?_)
        refine sJ2_grow_2_55 (d := d) (zn M (l1).toNatClampNeg) (zsz M) ((l1).toNatClampNeg) _ ?_
        exact k
      · show Z E YJ2_grow_2 (d + 1) M [] 52 [vi (10 : Int32), vr (some (a0, 11, 0))] Q
        refine sJ2_grow_2_52 (d := d) M (10 : Int32) _ ?_
        refine zand k (fun h11016 k => ?_)
        refine sJ2_grow_2_55 (d := d) (zn M ((10 : Int32)).toNatClampNeg) (zsz M) (((10 : Int32)).toNatClampNeg) _ ?_
        exact k
    · refine sJ2_grow_2_20 (d := d) M _ l1 (Int32.ofNat m11009) ?_
      exact k
theorem jJ1_init {E : zE} {d : Nat} {Q : zO → zM → Prop} (M : zM) (a0 : Nat) (k : 16 ≤ a0 ∧ (Q (.inl none) (si M a0 0 (0 : Int32)))) : Z E YJ1_init (d + 2) M [(0, vr (some (a0, 11, 0)))] 0 [] Q := by
  refine sJ1_init_0 (d := (d + 1)) M a0 ?_
  refine sJ0_init_0 (d := d) M _ 11 ?_
  show Z E YJ1_init ((d + 1) + 1) M [(0, vr (some (a0, 11, 0)))] 4 [] Q
  refine sJ1_init_4 (d := (d + 1)) M _ ?_
  exact k
theorem iJ2_init_0 {E : zE} {d : Nat} {Q : zO → zM → Prop} (M : zM) (a0 : Nat) (k : 16 ≤ a0 ∧ (Q (.inl none) (sr (si M a0 0 (0 : Int32)) a0 1 (some (1, 110, 0))))) : Z E YJ2_init (d + 3) M [(0, vr (some (a0, 11, 0)))] 0 [] Q := by
  refine sJ2_init_0 (d := (d + 2)) M a0 ?_
  refine jJ1_init (d := d) M _ ?_
  refine zand k (fun h11020 k => ?_)
  show Z E YJ2_init ((d + 2) + 1) (si M a0 0 (0 : Int32)) [(0, vr (some (a0, 11, 0)))] 4 [] Q
  refine sJ2_init_4 (d := (d + 2)) (si M a0 0 (0 : Int32)) _ ?_
  refine ⟨h11020, ?_⟩
  exact k
theorem iJ2e_add_2_0 {E : zE} {d : Nat} {Q : zO → zM → Prop} (M : zM) (a0 : Nat) (r1 : Option zP) (l3 : Int32) (k : if l3 = (0 : Int32) then (Z E YJ2_grow d M (zargs 0 [vr (some (a0, 11, 0))]) 0 [] (zafter E YJ2_add_2 (d + 1) [(0, vr (some (a0, 11, 0))), (1, vr r1), (3, vi l3)] 7 3 [] Q)) else (Z E YJ2_add_2 (d + 1) M [(0, vr (some (a0, 11, 0))), (1, vr r1), (2, vr (some (1, 110, 0))), (3, vi l3)] 11 [] Q)) : Z E YJ2_add_2 (d + 1) M [(0, vr (some (a0, 11, 0))), (1, vr r1), (2, vr (some (1, 110, 0))), (3, vi l3)] 0 [] Q := by
  refine sJ2e_add_2_0 (d := d) M a0 r1 l3 ?_
  exact k
theorem iJ2e_add_2_10 {E : zE} {d : Nat} {Q : zO → zM → Prop} (M : zM) (a0 : Nat) (r1 : Option zP) (l3 : Int32) (u0 : Option zP) (k : ∃ b11023 m11023 : Nat, u0 = some (b11023, 106, m11023) ∧ (∃ b11024 t11024 m11024 : Nat, r1 = some (b11024, t11024, m11024) ∧ (16 ≤ b11023 ∧ (vp_in l3 m11023 ∧ (zsto 6 t11024 ∧ (16 ≤ a0 ∧ (Q (.inl none) (si (sr M b11023 (l3).toNatClampNeg (some (b11024, t11024, m11024))) a0 2 (l3 + (1 : Int32)))))))))) : Z E YJ2_add_2 (d + 1) M [(0, vr (some (a0, 11, 0))), (1, vr r1), (3, vi l3)] 10 [vr u0] Q := by
  refine sJ2e_add_2_10 (d := d) M a0 r1 l3 u0 ?_
  refine sJ2e_add_2_11 (d := d) M _ r1 u0 l3 ?_
  exact k
theorem iJ2e_grow_2_0 {E : zE} {d : Nat} {Q : zO → zM → Prop} (M : zM) (a0 : Nat) (l1 : Int32) (k : (gr M a0 1) = some (1, 110, 0) ∧ ((zcmp (gr M a0 1) ∧ zcmp (some (1, 110, 0))) ∧ (if zfst (gr M a0 1) = zfst (some (1, 110, 0)) then (if (10 : Int32) < l1 then ((¬ l1 < 0 ∧ (l1).toNatClampNeg * 4 ≤ 536870912) ∧ (16 ≤ a0 ∧ (Q (.inl (some (vr (some ((zsz M), 106, (l1).toNatClampNeg))))) (sr (zn M (l1).toNatClampNeg) a0 1 (some ((zsz M), 106, (l1).toNatClampNeg)))))) else ((¬ (10 : Int32) < 0 ∧ ((10 : Int32)).toNatClampNeg * 4 ≤ 536870912) ∧ (16 ≤ a0 ∧ (Q (.inl (some (vr (some ((zsz M), 106, ((10 : Int32)).toNatClampNeg))))) (sr (zn M ((10 : Int32)).toNatClampNeg) a0 1 (some ((zsz M), 106, ((10 : Int32)).toNatClampNeg))))))) else (Z E YJ10_newLength d M (zargs 0 [vi (0 : Int32), vi (l1 - (0 : Int32)), vi ((0 : Int32) >>> ((1 : Int32) &&& 31))]) 0 [] (zafter E YJ2_grow_2 (d + 1) [(0, vr (some (a0, 11, 0)))] 27 3 [] Q))))) : Z E YJ2_grow_2 (d + 1) M [(0, vr (some (a0, 11, 0))), (1, vi l1)] 0 [] Q := by
  refine sJ2e_grow_2_0 (d := d) M a0 l1 ?_
  refine zand k (fun h11035 k => ?_)
  refine zand k (fun h11036 k => ?_)
  refine zite k (fun h11037 k => ?_) (fun h11037 k => ?_)
  · refine sJ11_max_0 (d := d) M (10 : Int32) l1 ?_
    refine zite k (fun h11038 k => ?_) (fun h11038 k => ?_)
    · show Z E YJ2_grow_2 (d + 1) M [] 52 [vi l1, vr (some (a0, 11, 0))] Q
      refine sJ2e_grow_2_52 (d := d) M l1 _ ?_
      refine zand k (fun h11039 k => ?_)
      refine sJ2e_grow_2_55 (d := d) (zn M (l1).toNatClampNeg) (zsz M) ((l1).toNatClampNeg) _ ?_
      exact k
    · show Z E YJ2_grow_2 (d + 1) M [] 52 [vi (10 : Int32), vr (some (a0, 11, 0))] Q
      refine sJ2e_grow_2_52 (d := d) M (10 : Int32) _ ?_
      refine zand k (fun h11041 k => ?_)
      refine sJ2e_grow_2_55 (d := d) (zn M ((10 : Int32)).toNatClampNeg) (zsz M) (((10 : Int32)).toNatClampNeg) _ ?_
      exact k
  · refine sJ2e_grow_2_20 (d := d) M _ l1 (0 : Int32) ?_
    exact k
theorem iJ3t12_init_2_0 {E : zE} {d : Nat} {Q : zO → zM → Prop} (M : zM) (a0 : Nat) (k : 16 ≤ a0 ∧ (Q (.inl none) (sr (sr (sr (sr (sr (sr (sr M a0 0 (some (a0, 12, 0))) a0 1 (zsv E 2)) a0 2 (zsv E 3)) a0 1 none) a0 3 none) a0 0 none) a0 2 none))) : Z E YJ3_init_2 (d + 1) M [(0, vr (some (a0, 12, 0))), (1, vr none), (2, vr none), (3, vi (0 : Int32)), (4, vi (0 : Int32))] 0 [] Q := by
  refine sJ3t12_init_2_0 (d := d) M a0 ?_
  refine zand k (fun h11044 k => ?_)
  refine ⟨h11044, ?_⟩
  refine ⟨h11044, ?_⟩
  refine ⟨h11044, ?_⟩
  refine sJ3t12_init_2_41 (d := d) (sr (sr (sr (sr M a0 0 (some (a0, 12, 0))) a0 1 (zsv E 2)) a0 2 (zsv E 3)) a0 1 none) _ ?_
  refine ⟨h11044, ?_⟩
  refine ⟨h11044, ?_⟩
  refine ⟨h11044, ?_⟩
  exact k
theorem iJ3t13_init_2_0 {E : zE} {d : Nat} {Q : zO → zM → Prop} (M : zM) (a0 : Nat) (k : 16 ≤ a0 ∧ (Q (.inl none) (sr (sr (sr (sr (sr (sr (sr M a0 0 (some (a0, 13, 0))) a0 1 (zsv E 2)) a0 2 (zsv E 3)) a0 1 none) a0 3 none) a0 0 none) a0 2 none))) : Z E YJ3_init_2 (d + 1) M [(0, vr (some (a0, 13, 0))), (1, vr none), (2, vr none), (3, vi (0 : Int32)), (4, vi (0 : Int32))] 0 [] Q := by
  refine sJ3t13_init_2_0 (d := d) M a0 ?_
  refine zand k (fun h11045 k => ?_)
  refine ⟨h11045, ?_⟩
  refine ⟨h11045, ?_⟩
  refine ⟨h11045, ?_⟩
  refine sJ3t13_init_2_41 (d := d) (sr (sr (sr (sr M a0 0 (some (a0, 13, 0))) a0 1 (zsv E 2)) a0 2 (zsv E 3)) a0 1 none) _ ?_
  refine ⟨h11045, ?_⟩
  refine ⟨h11045, ?_⟩
  refine ⟨h11045, ?_⟩
  exact k
theorem iJ3t14_init_2_0 {E : zE} {d : Nat} {Q : zO → zM → Prop} (M : zM) (a0 : Nat) (k : 16 ≤ a0 ∧ (Q (.inl none) (sr (sr (sr (sr (sr (sr (sr M a0 0 (some (a0, 14, 0))) a0 1 (zsv E 2)) a0 2 (zsv E 3)) a0 1 none) a0 3 none) a0 0 none) a0 2 none))) : Z E YJ3_init_2 (d + 1) M [(0, vr (some (a0, 14, 0))), (1, vr none), (2, vr none), (3, vi (0 : Int32)), (4, vi (0 : Int32))] 0 [] Q := by
  refine sJ3t14_init_2_0 (d := d) M a0 ?_
  refine zand k (fun h11046 k => ?_)
  refine ⟨h11046, ?_⟩
  refine ⟨h11046, ?_⟩
  refine ⟨h11046, ?_⟩
  refine sJ3t14_init_2_41 (d := d) (sr (sr (sr (sr M a0 0 (some (a0, 14, 0))) a0 1 (zsv E 2)) a0 2 (zsv E 3)) a0 1 none) _ ?_
  refine ⟨h11046, ?_⟩
  refine ⟨h11046, ?_⟩
  refine ⟨h11046, ?_⟩
  exact k
theorem jJ3t12_init_2 {E : zE} {d : Nat} {Q : zO → zM → Prop} (M : zM) (a0 : Nat) (k : 16 ≤ a0 ∧ (Q (.inl none) (sr (sr (sr (sr (sr (sr (sr M a0 0 (some (a0, 12, 0))) a0 1 (zsv E 2)) a0 2 (zsv E 3)) a0 1 none) a0 3 none) a0 0 none) a0 2 none))) : Z E YJ3_init_2 (d + 1) M [(0, vr (some (a0, 12, 0))), (1, vr none), (2, vr none), (3, vi (0 : Int32)), (4, vi (0 : Int32))] 0 [] Q := by
  refine sJ3t12_init_2_0 (d := d) M a0 ?_
  refine zand k (fun h11047 k => ?_)
  refine ⟨h11047, ?_⟩
  refine ⟨h11047, ?_⟩
  refine ⟨h11047, ?_⟩
  refine sJ3t12_init_2_41 (d := d) (sr (sr (sr (sr M a0 0 (some (a0, 12, 0))) a0 1 (zsv E 2)) a0 2 (zsv E 3)) a0 1 none) _ ?_
  refine ⟨h11047, ?_⟩
  refine ⟨h11047, ?_⟩
  refine ⟨h11047, ?_⟩
  exact k
theorem iX1_begins_15 {E : zE} {d : Nat} {Q : zO → zM → Prop} (M : zM) (s0 : Int32) (hw : cw M) (k : Q (.inl none) (si M 16 3 (0 : Int32))) : Z E YX1_begins (d + 1) M [(0, vr (some (16, 0, 0)))] 15 [vi s0] Q := by
  refine sX1_begins_15 (d := d) M s0 hw ?_
  refine sX1_clearRow_0 (d := d) M hw ?_
  show Z E YX1_begins (d + 1) (si M 16 3 (0 : Int32)) [] 20 [] Q
  refine sX1_begins_20 (d := d) (si M 16 3 (0 : Int32)) hw ?_
  exact k
theorem iX1_fill_0 {E : zE} {d : Nat} {Q : zO → zM → Prop} (M : zM) (j : Nat) (r1 : Option zP) (hw : cw M) (k : Z E YX1_fill (d + 1) (si M 16 3 (0 : Int32)) [(0, vr (some (16, 0, 0))), (1, vr r1), (2, vr (some ((j + 4), 111, j))), (3, vi (0 : Int32))] 6 [] Q) : Z E YX1_fill (d + 1) M [(0, vr (some (16, 0, 0))), (1, vr r1), (2, vr (some ((j + 4), 111, j)))] 0 [] Q := by
  refine sX1_fill_0 (d := d) M j r1 hw ?_
  refine sX1_clearRow_0 (d := d) M hw ?_
  show Z E YX1_fill (d + 1) (si M 16 3 (0 : Int32)) [(0, vr (some (16, 0, 0))), (1, vr r1), (2, vr (some ((j + 4), 111, j)))] 4 [] Q
  refine sX1_fill_4 (d := d) (si M 16 3 (0 : Int32)) _ r1 hw ?_
  exact k
theorem iX1_fill_6 {E : zE} {d : Nat} {Q : zO → zM → Prop} (M : zM) (j : Nat) (r1 : Option zP) (l3 : Int32) (hw : cw M) (k : (j < 5) ∧ ((4 ≤ (d + 1)) ∧ (if (Int32.ofNat (zslen.getD j 0)) ≤ l3 then (Q (.inl none) M) else (vp_in l3 (zslen.getD j 0) ∧ (if (zsch j (l3).toNatClampNeg) = (32 : Int32) then (∃ b11073 : Nat, r1 = some (b11073, 2, 0) ∧ (Z E YX2_add d M (zargs 0 [vr (some (b11073, 2, 0)), vr (some (20, 101, 256)), vi (gi M 16 3)]) 0 [] (zafter E YX1_fill (d + 1) [(0, vr (some (16, 0, 0))), (1, vr (some (b11073, 2, 0))), (2, vr (some ((j + 4), 111, j))), (3, vi l3)] 33 3 [] Q))) else (if (256 : Int32) ≤ (gi M 16 3) then (Z E YX1_fill (d + 1) M [(0, vr (some (16, 0, 0))), (1, vr r1), (2, vr (some ((j + 4), 111, j))), (3, vi (l3 + (1 : Int32)))] 6 [] Q) else (vp_in (gi M 16 3) 256 ∧ (Z E YX1_fill (d + 1) (si (si M 16 3 ((gi M 16 3) + (1 : Int32))) 20 ((gi M 16 3)).toNatClampNeg (vp_nar .byte ((zsch j (l3).toNatClampNeg)).toInt8.toInt32)) [(0, vr (some (16, 0, 0))), (1, vr r1), (2, vr (some ((j + 4), 111, j))), (3, vi (l3 + (1 : Int32)))] 6 [] Q)))))))) : Z E YX1_fill (d + 1) M [(0, vr (some (16, 0, 0))), (1, vr r1), (2, vr (some ((j + 4), 111, j))), (3, vi l3)] 6 [] Q := by
  refine sX1_fill_6 (d := d) M j r1 l3 hw ?_
  refine zand k (fun h11068 k => ?_)
  refine zand k (fun h11069 k => ?_)
  refine zite k (fun h11070 k => ?_) (fun h11070 k => ?_)
  · exact k
  · refine ⟨h11068, ?_⟩
    refine ⟨h11069, ?_⟩
    refine zand k (fun h11071 k => ?_)
    refine zite k (fun h11072 k => ?_) (fun h11072 k => ?_)
    · exact k
    · refine ⟨h11068, ?_⟩
      refine ⟨h11069, ?_⟩
      refine ⟨h11071, ?_⟩
      refine sX1_write_0 (d := d) M (zsch j (l3).toNatClampNeg) hw ?_
      refine zite k (fun h11076 k => ?_) (fun h11076 k => ?_)
      · show Z E YX1_fill (d + 1) M [(0, vr (some (16, 0, 0))), (1, vr r1), (2, vr (some ((j + 4), 111, j))), (3, vi l3)] 53 [] Q
        refine sX1_fill_53 (d := d) M _ r1 l3 hw ?_
        exact k
      · refine zand k (fun h11077 k => ?_)
        show Z E YX1_fill (d + 1) (si (si M 16 3 ((gi M 16 3) + (1 : Int32))) 20 ((gi M 16 3)).toNatClampNeg (vp_nar .byte ((zsch j (l3).toNatClampNeg)).toInt8.toInt32)) [(0, vr (some (16, 0, 0))), (1, vr r1), (2, vr (some ((j + 4), 111, j))), (3, vi l3)] 53 [] Q
        refine sX1_fill_53 (d := d) (si (si M 16 3 ((gi M 16 3) + (1 : Int32))) 20 ((gi M 16 3)).toNatClampNeg (vp_nar .byte ((zsch j (l3).toNatClampNeg)).toInt8.toInt32)) _ r1 l3 hw ?_
        exact k
theorem iX1_fill_36 {E : zE} {d : Nat} {Q : zO → zM → Prop} (M : zM) (j : Nat) (a1 : Nat) (l3 : Int32) (s0 : Int32) (hw : cw M) (k : Z E YX1_fill (d + 1) (si M 16 3 (0 : Int32)) [(0, vr (some (16, 0, 0))), (1, vr (some (a1, 2, 0))), (2, vr (some ((j + 4), 111, j))), (3, vi (l3 + (1 : Int32)))] 6 [] Q) : Z E YX1_fill (d + 1) M [(0, vr (some (16, 0, 0))), (1, vr (some (a1, 2, 0))), (2, vr (some ((j + 4), 111, j))), (3, vi l3)] 36 [vi s0] Q := by
  refine sX1_fill_36 (d := d) M j a1 l3 s0 hw ?_
  refine sX1_clearRow_0 (d := d) M hw ?_
  show Z E YX1_fill (d + 1) (si M 16 3 (0 : Int32)) [(0, vr (some (16, 0, 0))), (1, vr (some (a1, 2, 0))), (2, vr (some ((j + 4), 111, j))), (3, vi l3)] 41 [] Q
  refine sX1_fill_41 (d := d) (si M 16 3 (0 : Int32)) _ _ l3 hw ?_
  refine sX1_fill_53 (d := d) (si M 16 3 (0 : Int32)) _ (some (a1, 2, 0)) l3 hw ?_
  exact k
theorem iX1_firstNames_0 {E : zE} {d : Nat} {Q : zO → zM → Prop} (M : zM) (hw : cw M) (k : Z E YX1_firstNames (d + 1) (si (si M 17 2 (0 : Int32)) 16 3 (0 : Int32)) [(0, vr (some (16, 0, 0))), (1, vr (some (4, 111, 0))), (2, vi (0 : Int32))] 17 [] Q) : Z E YX1_firstNames (d + 1) M [(0, vr (some (16, 0, 0)))] 0 [] Q := by
  refine sX1_firstNames_0 (d := d) M hw ?_
  refine sX1_clearRow_0 (d := d) (si M 17 2 (0 : Int32)) hw ?_
  show Z E YX1_firstNames (d + 1) (si (si M 17 2 (0 : Int32)) 16 3 (0 : Int32)) [(0, vr (some (16, 0, 0))), (1, vr (some (4, 111, 0)))] 15 [] Q
  refine sX1_firstNames_15 (d := d) (si (si M 17 2 (0 : Int32)) 16 3 (0 : Int32)) hw ?_
  exact k
theorem iX1_firstNames_17 {E : zE} {d : Nat} {Q : zO → zM → Prop} (M : zM) (l2 : Int32) (hw : cw M) (k : (4 ≤ (d + 1)) ∧ (if (Int32.ofNat (zslen.getD 0 0)) ≤ l2 then (Z E YX1_begins d M (zargs 0 [vr (some (16, 0, 0))]) 0 [] (zafter E YX1_firstNames (d + 1) [(0, vr (some (16, 0, 0)))] 58 3 [] Q)) else (vp_in l2 (zslen.getD 0 0) ∧ (if (zsch 0 (l2).toNatClampNeg) = (32 : Int32) then (Z E YX1_begins d M (zargs 0 [vr (some (16, 0, 0))]) 0 [] (zafter E YX1_firstNames (d + 1) [(0, vr (some (16, 0, 0))), (1, vr (some (4, 111, 0))), (2, vi l2)] 36 3 [] Q)) else (if (256 : Int32) ≤ (gi M 16 3) then (Z E YX1_firstNames (d + 1) M [(0, vr (some (16, 0, 0))), (1, vr (some (4, 111, 0))), (2, vi (l2 + (1 : Int32)))] 17 [] Q) else (vp_in (gi M 16 3) 256 ∧ (Z E YX1_firstNames (d + 1) (si (si M 16 3 ((gi M 16 3) + (1 : Int32))) 20 ((gi M 16 3)).toNatClampNeg (vp_nar .byte ((zsch 0 (l2).toNatClampNeg)).toInt8.toInt32)) [(0, vr (some (16, 0, 0))), (1, vr (some (4, 111, 0))), (2, vi (l2 + (1 : Int32)))] 17 [] Q))))))) : Z E YX1_firstNames (d + 1) M [(0, vr (some (16, 0, 0))), (1, vr (some (4, 111, 0))), (2, vi l2)] 17 [] Q := by
  refine sX1_firstNames_17 (d := d) M l2 hw ?_
  refine zand k (fun h11078 k => ?_)
  refine zite k (fun h11079 k => ?_) (fun h11079 k => ?_)
  · exact k
  · refine ⟨h11078, ?_⟩
    refine zand k (fun h11080 k => ?_)
    refine zite k (fun h11081 k => ?_) (fun h11081 k => ?_)
    · exact k
    · refine ⟨h11078, ?_⟩
      refine ⟨h11080, ?_⟩
      refine sX1_write_0 (d := d) M (zsch 0 (l2).toNatClampNeg) hw ?_
      refine zite k (fun h11082 k => ?_) (fun h11082 k => ?_)
      · show Z E YX1_firstNames (d + 1) M [(0, vr (some (16, 0, 0))), (1, vr (some (4, 111, 0))), (2, vi l2)] 51 [] Q
        refine sX1_firstNames_51 (d := d) M l2 hw ?_
        exact k
      · refine zand k (fun h11083 k => ?_)
        show Z E YX1_firstNames (d + 1) (si (si M 16 3 ((gi M 16 3) + (1 : Int32))) 20 ((gi M 16 3)).toNatClampNeg (vp_nar .byte ((zsch 0 (l2).toNatClampNeg)).toInt8.toInt32)) [(0, vr (some (16, 0, 0))), (1, vr (some (4, 111, 0))), (2, vi l2)] 51 [] Q
        refine sX1_firstNames_51 (d := d) (si (si M 16 3 ((gi M 16 3) + (1 : Int32))) 20 ((gi M 16 3)).toNatClampNeg (vp_nar .byte ((zsch 0 (l2).toNatClampNeg)).toInt8.toInt32)) l2 hw ?_
        exact k
theorem iX1_firstNames_39 {E : zE} {d : Nat} {Q : zO → zM → Prop} (M : zM) (l2 : Int32) (hw : cw M) (k : Z E YX1_firstNames (d + 1) M [(0, vr (some (16, 0, 0))), (1, vr (some (4, 111, 0))), (2, vi (l2 + (1 : Int32)))] 17 [] Q) : Z E YX1_firstNames (d + 1) M [(0, vr (some (16, 0, 0))), (1, vr (some (4, 111, 0))), (2, vi l2)] 39 [] Q := by
  refine sX1_firstNames_39 (d := d) M l2 hw ?_
  refine sX1_firstNames_51 (d := d) M l2 hw ?_
  exact k
theorem iX1_inner_4 {E : zE} {d : Nat} {Q : zO → zM → Prop} (M : zM) (l0 : Int32) (s0 : Int32) (hw : cw M) (k : if s0 = 0 then (if l0 < (48 : Int32) then (Q (.inl (some (vi (0 : Int32)))) M) else (if (57 : Int32) < l0 then (Q (.inl (some (vi (0 : Int32)))) M) else (Q (.inl (some (vi (1 : Int32)))) M))) else (Q (.inl (some (vi (1 : Int32)))) M)) : Z E YX1_inner (d + 1) M [(0, vi l0)] 4 [vi s0] Q := by
  refine sX1_inner_4 (d := d) M l0 s0 hw ?_
  refine zite k (fun h11098 k => ?_) (fun h11098 k => ?_)
  · refine sX1_digit_0 (d := d) M l0 hw ?_
    refine zite k (fun h11101 k => ?_) (fun h11101 k => ?_)
    · show Z E YX1_inner (d + 1) M [] 11 [vi (0 : Int32)] Q
      refine sX1_inner_11 (d := d) M (0 : Int32) hw ?_
      refine zpos (show (0 : Int32) = 0 from by decide) ?_
      exact k
    · refine zite k (fun h11102 k => ?_) (fun h11102 k => ?_)
      · show Z E YX1_inner (d + 1) M [] 11 [vi (0 : Int32)] Q
        refine sX1_inner_11 (d := d) M (0 : Int32) hw ?_
        refine zpos (show (0 : Int32) = 0 from by decide) ?_
        exact k
      · show Z E YX1_inner (d + 1) M [] 11 [vi (1 : Int32)] Q
        refine sX1_inner_11 (d := d) M (1 : Int32) hw ?_
        refine zneg (show ¬ ((1 : Int32) = 0) from by decide) ?_
        exact k
  · exact k
theorem iX1_putDigits_0 {E : zE} {d : Nat} {Q : zO → zM → Prop} (M : zM) (l1 : Int32) (hw : cw M) (k : if 0 ≤ (lg_cmp (l1).toInt64 (0 : Int64)) then (Z E YX1_putDigits (d + 1) M [(0, vr (some (16, 0, 0))), (2, vl (l1).toInt64), (4, vl (1 : Int64))] 21 [] Q) else (if (256 : Int32) ≤ (gi M 16 3) then (Z E YX1_putDigits (d + 1) M [(0, vr (some (16, 0, 0))), (2, vl (-(l1).toInt64)), (4, vl (1 : Int64))] 21 [] Q) else (vp_in (gi M 16 3) 256 ∧ (Z E YX1_putDigits (d + 1) (si (si M 16 3 ((gi M 16 3) + (1 : Int32))) 20 ((gi M 16 3)).toNatClampNeg (vp_nar .byte ((45 : Int32)).toInt8.toInt32)) [(0, vr (some (16, 0, 0))), (2, vl (-(l1).toInt64)), (4, vl (1 : Int64))] 21 [] Q)))) : Z E YX1_putDigits (d + 1) M [(0, vr (some (16, 0, 0))), (1, vi l1)] 0 [] Q := by
  refine sX1_putDigits_0 (d := d) M l1 hw ?_
  refine zite k (fun h11103 k => ?_) (fun h11103 k => ?_)
  · exact k
  · refine sX1_write_0 (d := d) M (45 : Int32) hw ?_
    refine zite k (fun h11104 k => ?_) (fun h11104 k => ?_)
    · show Z E YX1_putDigits (d + 1) M [(0, vr (some (16, 0, 0))), (2, vl (l1).toInt64)] 15 [] Q
      refine sX1_putDigits_15 (d := d) M ((l1).toInt64) hw ?_
      exact k
    · refine zand k (fun h11105 k => ?_)
      show Z E YX1_putDigits (d + 1) (si (si M 16 3 ((gi M 16 3) + (1 : Int32))) 20 ((gi M 16 3)).toNatClampNeg (vp_nar .byte ((45 : Int32)).toInt8.toInt32)) [(0, vr (some (16, 0, 0))), (2, vl (l1).toInt64)] 15 [] Q
      refine sX1_putDigits_15 (d := d) (si (si M 16 3 ((gi M 16 3) + (1 : Int32))) 20 ((gi M 16 3)).toNatClampNeg (vp_nar .byte ((45 : Int32)).toInt8.toInt32)) ((l1).toInt64) hw ?_
      exact k
theorem iX1_putDigits_43 {E : zE} {d : Nat} {Q : zO → zM → Prop} (M : zM) (l2 : Int64) (l4 : Int64) (hw : cw M) (k : if (lg_cmp l4 (0 : Int64)) ≤ 0 then (Q (.inl none) M) else ((¬ l4 = 0) ∧ (if (256 : Int32) ≤ (gi M 16 3) then (Z E YX1_putDigits (d + 1) M [(0, vr (some (16, 0, 0))), (2, vl l2), (4, vl (l4 / (10 : Int64)))] 43 [] Q) else (vp_in (gi M 16 3) 256 ∧ (Z E YX1_putDigits (d + 1) (si (si M 16 3 ((gi M 16 3) + (1 : Int32))) 20 ((gi M 16 3)).toNatClampNeg (vp_nar .byte ((((48 : Int64) + ((l2 / l4) - (l2 / l4) / (10 : Int64) * (10 : Int64)))).toInt32).toInt8.toInt32)) [(0, vr (some (16, 0, 0))), (2, vl l2), (4, vl (l4 / (10 : Int64)))] 43 [] Q))))) : Z E YX1_putDigits (d + 1) M [(0, vr (some (16, 0, 0))), (2, vl l2), (4, vl l4)] 43 [] Q := by
  refine sX1_putDigits_43 (d := d) M l2 l4 hw ?_
  refine zite k (fun h11107 k => ?_) (fun h11107 k => ?_)
  · exact k
  · refine zand k (fun h11108 k => ?_)
    refine sX1_write_0 (d := d) M ((((48 : Int64) + ((l2 / l4) - (l2 / l4) / (10 : Int64) * (10 : Int64)))).toInt32) hw ?_
    refine zite k (fun h11109 k => ?_) (fun h11109 k => ?_)
    · show Z E YX1_putDigits (d + 1) M [(0, vr (some (16, 0, 0))), (2, vl l2), (4, vl l4)] 67 [] Q
      refine sX1_putDigits_67 (d := d) M l2 l4 hw ?_
      exact k
    · refine zand k (fun h11110 k => ?_)
      show Z E YX1_putDigits (d + 1) (si (si M 16 3 ((gi M 16 3) + (1 : Int32))) 20 ((gi M 16 3)).toNatClampNeg (vp_nar .byte ((((48 : Int64) + ((l2 / l4) - (l2 / l4) / (10 : Int64) * (10 : Int64)))).toInt32).toInt8.toInt32)) [(0, vr (some (16, 0, 0))), (2, vl l2), (4, vl l4)] 67 [] Q
      refine sX1_putDigits_67 (d := d) (si (si M 16 3 ((gi M 16 3) + (1 : Int32))) 20 ((gi M 16 3)).toNatClampNeg (vp_nar .byte ((((48 : Int64) + ((l2 / l4) - (l2 / l4) / (10 : Int64) * (10 : Int64)))).toInt32).toInt8.toInt32)) l2 l4 hw ?_
      exact k
theorem jX2_length {E : zE} {d : Nat} {Q : zO → zM → Prop} (M : zM) (a0 : Nat) (l1 : Int32) (k : ∃ b11111 m11111 : Nat, (gr M a0 1) = some (b11111, 100, m11111) ∧ (vp_in (l1 + (1 : Int32)) m11111 ∧ (vp_in l1 m11111 ∧ (Q (.inl (some (vi ((gi M b11111 ((l1 + (1 : Int32))).toNatClampNeg) - (gi M b11111 (l1).toNatClampNeg))))) M)))) : Z E YX2_length d M [(0, vr (some (a0, 2, 0))), (1, vi l1)] 0 [] Q := by
  refine sX2_length_0 (d := d) M a0 l1 ?_
  obtain ⟨b11111, m11111, h11111, k⟩ := k
  refine ⟨b11111, m11111, h11111, ?_⟩
  refine zand k (fun h11112 k => ?_)
  refine ⟨b11111, m11111, h11111, ?_⟩
  exact k
theorem iX1_putText_2 {E : zE} {d : Nat} {Q : zO → zM → Prop} (M : zM) (l1 : Int32) (l2 : Int32) (hw : cw M) (k : ∃ b11114 m11114 : Nat, (gr M 17 1) = some (b11114, 100, m11114) ∧ (vp_in (l1 + (1 : Int32)) m11114 ∧ (vp_in l1 m11114 ∧ (if ((gi M b11114 ((l1 + (1 : Int32))).toNatClampNeg) - (gi M b11114 (l1).toNatClampNeg)) ≤ l2 then (Q (.inl none) M) else (∃ b11122 m11122 : Nat, (gr M 17 0) = some (b11122, 101, m11122) ∧ (vp_in ((gi M b11114 (l1).toNatClampNeg) + l2) m11122 ∧ (if (256 : Int32) ≤ (gi M 16 3) then (Z E YX1_putText (d + 1) M [(0, vr (some (16, 0, 0))), (1, vi l1), (2, vi (l2 + (1 : Int32)))] 2 [] Q) else (vp_in (gi M 16 3) 256 ∧ (Z E YX1_putText (d + 1) (si (si M 16 3 ((gi M 16 3) + (1 : Int32))) 20 ((gi M 16 3)).toNatClampNeg (vp_nar .byte ((gi M b11122 (((gi M b11114 (l1).toNatClampNeg) + l2)).toNatClampNeg)).toInt8.toInt32)) [(0, vr (some (16, 0, 0))), (1, vi l1), (2, vi (l2 + (1 : Int32)))] 2 [] Q))))))))) : Z E YX1_putText (d + 1) M [(0, vr (some (16, 0, 0))), (1, vi l1), (2, vi l2)] 2 [] Q := by
  refine sX1_putText_2 (d := d) M l1 l2 hw ?_
  refine jX2_length (d := d) M 17 l1 ?_
  obtain ⟨b11114, m11114, h11114, k⟩ := k
  refine ⟨b11114, m11114, h11114, ?_⟩
  refine zand k (fun h11115 k => ?_)
  refine zand k (fun h11116 k => ?_)
  show Z E YX1_putText (d + 1) M [(0, vr (some (16, 0, 0))), (1, vi l1), (2, vi l2)] 11 [vi ((gi M b11114 ((l1 + (1 : Int32))).toNatClampNeg) - (gi M b11114 (l1).toNatClampNeg)), vi l2] Q
  refine sX1_putText_11 (d := d) M l1 l2 ((gi M b11114 ((l1 + (1 : Int32))).toNatClampNeg) - (gi M b11114 (l1).toNatClampNeg)) l2 hw ?_
  refine zite k (fun h11117 k => ?_) (fun h11117 k => ?_)
  · exact k
  · refine sX2_sign_0 (d := d) M 17 l1 l2 ?_
    refine ⟨b11114, m11114, h11114, ?_⟩
    refine ⟨h11116, ?_⟩
    obtain ⟨b11122, m11122, h11122, k⟩ := k
    refine ⟨b11122, m11122, h11122, ?_⟩
    refine zand k (fun h11123 k => ?_)
    show Z E YX1_putText (d + 1) M [(0, vr (some (16, 0, 0))), (1, vi l1), (2, vi l2)] 24 [vi (gi M b11122 (((gi M b11114 (l1).toNatClampNeg) + l2)).toNatClampNeg), vr (some (16, 0, 0))] Q
    refine sX1_putText_24 (d := d) M l1 l2 (gi M b11122 (((gi M b11114 (l1).toNatClampNeg) + l2)).toNatClampNeg) hw ?_
    refine sX1_write_0 (d := d) M (gi M b11122 (((gi M b11114 (l1).toNatClampNeg) + l2)).toNatClampNeg) hw ?_
    refine zite k (fun h11124 k => ?_) (fun h11124 k => ?_)
    · show Z E YX1_putText (d + 1) M [(0, vr (some (16, 0, 0))), (1, vi l1), (2, vi l2)] 27 [] Q
      refine sX1_putText_27 (d := d) M l1 l2 hw ?_
      exact k
    · refine zand k (fun h11125 k => ?_)
      show Z E YX1_putText (d + 1) (si (si M 16 3 ((gi M 16 3) + (1 : Int32))) 20 ((gi M 16 3)).toNatClampNeg (vp_nar .byte ((gi M b11122 (((gi M b11114 (l1).toNatClampNeg) + l2)).toNatClampNeg)).toInt8.toInt32)) [(0, vr (some (16, 0, 0))), (1, vi l1), (2, vi l2)] 27 [] Q
      refine sX1_putText_27 (d := d) (si (si M 16 3 ((gi M 16 3) + (1 : Int32))) 20 ((gi M 16 3)).toNatClampNeg (vp_nar .byte ((gi M b11122 (((gi M b11114 (l1).toNatClampNeg) + l2)).toNatClampNeg)).toInt8.toInt32)) l1 l2 hw ?_
      exact k
theorem iX2_find_2 {E : zE} {d : Nat} {Q : zO → zM → Prop} (M : zM) (a0 : Nat) (r1 : Option zP) (l2 : Int32) (l3 : Int32) (k : if (gi M a0 2) ≤ l3 then (Q (.inl (some (vi (-1 : Int32)))) M) else (∃ b11150 m11150 : Nat, (gr M a0 1) = some (b11150, 100, m11150) ∧ (vp_in (l3 + (1 : Int32)) m11150 ∧ (vp_in l3 m11150 ∧ (if ((gi M b11150 ((l3 + (1 : Int32))).toNatClampNeg) - (gi M b11150 (l3).toNatClampNeg)) = l2 then (Z E YX2_find (d + 1) M [(0, vr (some (a0, 2, 0))), (1, vr r1), (2, vi l2), (3, vi l3), (4, vi (1 : Int32)), (5, vi (0 : Int32))] 29 [] Q) else (Z E YX2_find (d + 1) M [(0, vr (some (a0, 2, 0))), (1, vr r1), (2, vi l2), (3, vi l3), (4, vi (0 : Int32)), (5, vi (0 : Int32))] 29 [] Q)))))) : Z E YX2_find (d + 1) M [(0, vr (some (a0, 2, 0))), (1, vr r1), (2, vi l2), (3, vi l3)] 2 [] Q := by
  refine sX2_find_2 (d := d) M a0 r1 l2 l3 ?_
  refine zite k (fun h11149 k => ?_) (fun h11149 k => ?_)
  · exact k
  · refine jX2_length (d := d) M _ l3 ?_
    obtain ⟨b11150, m11150, h11150, k⟩ := k
    refine ⟨b11150, m11150, h11150, ?_⟩
    refine zand k (fun h11151 k => ?_)
    refine zand k (fun h11152 k => ?_)
    show Z E YX2_find (d + 1) M [(0, vr (some (a0, 2, 0))), (1, vr r1), (2, vi l2), (3, vi l3)] 15 [vi ((gi M b11150 ((l3 + (1 : Int32))).toNatClampNeg) - (gi M b11150 (l3).toNatClampNeg))] Q
    refine sX2_find_15 (d := d) M _ r1 l2 l3 ((gi M b11150 ((l3 + (1 : Int32))).toNatClampNeg) - (gi M b11150 (l3).toNatClampNeg)) ?_
    exact k
theorem iX2_find_29 {E : zE} {d : Nat} {Q : zO → zM → Prop} (M : zM) (a0 : Nat) (r1 : Option zP) (l2 : Int32) (l3 : Int32) (l4 : Int32) (l5 : Int32) (k : if l4 = 0 then (Z E YX2_find (d + 1) M [(0, vr (some (a0, 2, 0))), (1, vr r1), (2, vi l2), (3, vi (l3 + (1 : Int32)))] 2 [] Q) else (if l2 ≤ l5 then (Q (.inl (some (vi l3))) M) else (∃ b11156 m11156 : Nat, (gr M a0 1) = some (b11156, 100, m11156) ∧ (vp_in l3 m11156 ∧ (∃ b11158 m11158 : Nat, (gr M a0 0) = some (b11158, 101, m11158) ∧ (vp_in ((gi M b11156 (l3).toNatClampNeg) + l5) m11158 ∧ (∃ b11160 m11160 : Nat, r1 = some (b11160, 101, m11160) ∧ (vp_in l5 m11160 ∧ (if (gi M b11158 (((gi M b11156 (l3).toNatClampNeg) + l5)).toNatClampNeg) = (gi M b11160 (l5).toNatClampNeg) then (Z E YX2_find (d + 1) M [(0, vr (some (a0, 2, 0))), (1, vr (some (b11160, 101, m11160))), (2, vi l2), (3, vi l3), (4, vi (1 : Int32)), (5, vi (l5 + (1 : Int32)))] 29 [] Q) else (Z E YX2_find (d + 1) M [(0, vr (some (a0, 2, 0))), (1, vr (some (b11160, 101, m11160))), (2, vi l2), (3, vi l3), (4, vi (0 : Int32)), (5, vi (l5 + (1 : Int32)))] 29 [] Q)))))))))) : Z E YX2_find (d + 1) M [(0, vr (some (a0, 2, 0))), (1, vr r1), (2, vi l2), (3, vi l3), (4, vi l4), (5, vi l5)] 29 [] Q := by
  refine sX2_find_29 (d := d) M a0 r1 l2 l3 l4 l5 ?_
  refine zite k (fun h11154 k => ?_) (fun h11154 k => ?_)
  · refine zpos h11154 ?_
    exact k
  · refine zite k (fun h11155 k => ?_) (fun h11155 k => ?_)
    · refine zneg h11154 ?_
      exact k
    · exact k
theorem iX2_init_0 {E : zE} {d : Nat} {Q : zO → zM → Prop} (M : zM) (a0 : Nat) (l1 : Int32) (l2 : Int32) (k : (¬ (l1 + (1 : Int32)) < 0 ∧ ((l1 + (1 : Int32))).toNatClampNeg * 8 ≤ 536870912) ∧ (16 ≤ a0 ∧ ((¬ l2 < 0 ∧ (l2).toNatClampNeg * 8 ≤ 536870912) ∧ (Q (.inl none) (sr (zn (sr (zn M ((l1 + (1 : Int32))).toNatClampNeg) a0 1 (some ((zsz M), 100, ((l1 + (1 : Int32))).toNatClampNeg))) (l2).toNatClampNeg) a0 0 (some ((zsz (zn M ((l1 + (1 : Int32))).toNatClampNeg)), 101, (l2).toNatClampNeg))))))) : Z E YX2_init (d + 1) M [(0, vr (some (a0, 2, 0))), (1, vi l1), (2, vi l2)] 0 [] Q := by
  refine sX2_init_0 (d := d) M a0 l1 l2 ?_
  refine zand k (fun h11163 k => ?_)
  refine sX2_init_10 (d := d) (zn M ((l1 + (1 : Int32))).toNatClampNeg) _ l2 (zsz M) (((l1 + (1 : Int32))).toNatClampNeg) ?_
  refine zand k (fun h11164 k => ?_)
  refine zand k (fun h11165 k => ?_)
  refine sX2_init_17 (d := d) (zn (sr (zn M ((l1 + (1 : Int32))).toNatClampNeg) a0 1 (some ((zsz M), 100, ((l1 + (1 : Int32))).toNatClampNeg))) (l2).toNatClampNeg) (zsz (zn M ((l1 + (1 : Int32))).toNatClampNeg)) ((l2).toNatClampNeg) _ ?_
  refine ⟨h11164, ?_⟩
  exact k
theorem iX2_length_0 {E : zE} {d : Nat} {Q : zO → zM → Prop} (M : zM) (a0 : Nat) (l1 : Int32) (k : ∃ b11166 m11166 : Nat, (gr M a0 1) = some (b11166, 100, m11166) ∧ (vp_in (l1 + (1 : Int32)) m11166 ∧ (vp_in l1 m11166 ∧ (Q (.inl (some (vi ((gi M b11166 ((l1 + (1 : Int32))).toNatClampNeg) - (gi M b11166 (l1).toNatClampNeg))))) M)))) : Z E YX2_length d M [(0, vr (some (a0, 2, 0))), (1, vi l1)] 0 [] Q := by
  refine sX2_length_0 (d := d) M a0 l1 ?_
  obtain ⟨b11166, m11166, h11166, k⟩ := k
  refine ⟨b11166, m11166, h11166, ?_⟩
  refine zand k (fun h11167 k => ?_)
  refine ⟨b11166, m11166, h11166, ?_⟩
  exact k
theorem jX10_sign {E : zE} {d : Nat} {Q : zO → zM → Prop} (M : zM) (a0 : Nat) (l1 : Int32) (k : ∃ b11178 : Nat, (gr M a0 0) = some (b11178, 0, 0) ∧ (if (gi M b11178 5) ≤ l1 then (Q (.inl (some (vi (0 : Int32)))) M) else (∃ b11180 m11180 : Nat, (gr M b11178 4) = some (b11180, 101, m11180) ∧ (vp_in l1 m11180 ∧ (Q (.inl (some (vi ((gi M b11180 (l1).toNatClampNeg) &&& (255 : Int32))))) M))))) : Z E YX10_sign d M [(0, vr (some (a0, 9, 0))), (1, vi l1)] 0 [] Q := by
  refine sX10_sign_0 (d := d) M a0 l1 ?_
  obtain ⟨b11178, h11178, k⟩ := k
  refine ⟨b11178, h11178, ?_⟩
  refine zite k (fun h11179 k => ?_) (fun h11179 k => ?_)
  · exact k
  · refine ⟨b11178, h11178, ?_⟩
    exact k
theorem iX10_comment_15 {E : zE} {d : Nat} {Q : zO → zM → Prop} (M : zM) (a0 : Nat) (l1 : Int32) (k : ∃ b11174 : Nat, (gr M a0 0) = some (b11174, 0, 0) ∧ (if (gi M b11174 5) ≤ (gi M a0 1) then (if (gi M a0 1) < (gi M b11174 5) then (16 ≤ a0 ∧ (Q (.inl none) (si M a0 1 ((gi M a0 1) + (2 : Int32))))) else (Z E YX12_init d (zn M 7) (zargs 0 [vr (some ((zsz M), 12, 0)), vi ((1 : Int32) + ((8 : Int32) * l1))]) 0 [] (zafter E YX10_comment (d + 1) [] 117 3 [vr (some ((zsz M), 12, 0))] Q))) else (∃ b11182 m11182 : Nat, (gr M b11174 4) = some (b11182, 101, m11182) ∧ (vp_in (gi M a0 1) m11182 ∧ (if ((gi M b11182 ((gi M a0 1)).toNatClampNeg) &&& (255 : Int32)) = (42 : Int32) then (if (gi M b11174 5) ≤ ((gi M a0 1) + (1 : Int32)) then (if ((gi M b11182 ((gi M a0 1)).toNatClampNeg) &&& (255 : Int32)) = (10 : Int32) then (16 ≤ a0 ∧ (Z E YX10_comment (d + 1) (si (si M a0 2 ((gi M a0 2) + (1 : Int32))) a0 1 ((gi (si M a0 2 ((gi M a0 2) + (1 : Int32))) a0 1) + (1 : Int32))) [(0, vr (some (a0, 9, 0))), (1, vi l1)] 15 [] Q)) else (16 ≤ a0 ∧ (Z E YX10_comment (d + 1) (si M a0 1 ((gi M a0 1) + (1 : Int32))) [(0, vr (some (a0, 9, 0))), (1, vi l1)] 15 [] Q))) else (vp_in ((gi M a0 1) + (1 : Int32)) m11182 ∧ (if ((gi M b11182 (((gi M a0 1) + (1 : Int32))).toNatClampNeg) &&& (255 : Int32)) = (47 : Int32) then (if (gi M a0 1) < (gi M b11174 5) then (16 ≤ a0 ∧ (Q (.inl none) (si M a0 1 ((gi M a0 1) + (2 : Int32))))) else (Z E YX12_init d (zn M 7) (zargs 0 [vr (some ((zsz M), 12, 0)), vi ((1 : Int32) + ((8 : Int32) * l1))]) 0 [] (zafter E YX10_comment (d + 1) [] 117 3 [vr (some ((zsz M), 12, 0))] Q))) else (if ((gi M b11182 ((gi M a0 1)).toNatClampNeg) &&& (255 : Int32)) = (10 : Int32) then (16 ≤ a0 ∧ (Z E YX10_comment (d + 1) (si (si M a0 2 ((gi M a0 2) + (1 : Int32))) a0 1 ((gi (si M a0 2 ((gi M a0 2) + (1 : Int32))) a0 1) + (1 : Int32))) [(0, vr (some (a0, 9, 0))), (1, vi l1)] 15 [] Q)) else (16 ≤ a0 ∧ (Z E YX10_comment (d + 1) (si M a0 1 ((gi M a0 1) + (1 : Int32))) [(0, vr (some (a0, 9, 0))), (1, vi l1)] 15 [] Q)))))) else (if ((gi M b11182 ((gi M a0 1)).toNatClampNeg) &&& (255 : Int32)) = (10 : Int32) then (16 ≤ a0 ∧ (Z E YX10_comment (d + 1) (si (si M a0 2 ((gi M a0 2) + (1 : Int32))) a0 1 ((gi (si M a0 2 ((gi M a0 2) + (1 : Int32))) a0 1) + (1 : Int32))) [(0, vr (some (a0, 9, 0))), (1, vi l1)] 15 [] Q)) else (16 ≤ a0 ∧ (Z E YX10_comment (d + 1) (si M a0 1 ((gi M a0 1) + (1 : Int32))) [(0, vr (some (a0, 9, 0))), (1, vi l1)] 15 [] Q)))))))) : Z E YX10_comment (d + 1) M [(0, vr (some (a0, 9, 0))), (1, vi l1)] 15 [] Q := by
  refine sX10_comment_15 (d := d) M a0 l1 ?_
  obtain ⟨b11174, h11174, k⟩ := k
  refine ⟨b11174, h11174, ?_⟩
  refine zite k (fun h11175 k => ?_) (fun h11175 k => ?_)
  · refine sX10_comment_93 (d := d) M _ l1 ?_
    refine ⟨b11174, h11174, ?_⟩
    refine zite k (fun h11176 k => ?_) (fun h11176 k => ?_)
    · exact k
    · refine sX10_comment_110 (d := d) (zn M 7) l1 (zsz M) ?_
      exact k
  · refine jX10_sign (d := d) M _ (gi M a0 1) ?_
    refine ⟨b11174, h11174, ?_⟩
    refine zneg h11175 ?_
    obtain ⟨b11182, m11182, h11182, k⟩ := k
    refine ⟨b11182, m11182, h11182, ?_⟩
    refine zand k (fun h11183 k => ?_)
    show Z E YX10_comment (d + 1) M [(0, vr (some (a0, 9, 0))), (1, vi l1)] 37 [vi ((gi M b11182 ((gi M a0 1)).toNatClampNeg) &&& (255 : Int32))] Q
    refine sX10_comment_37 (d := d) M _ l1 ((gi M b11182 ((gi M a0 1)).toNatClampNeg) &&& (255 : Int32)) ?_
    refine zite k (fun h11184 k => ?_) (fun h11184 k => ?_)
    · refine jX10_sign (d := d) M _ ((gi M a0 1) + (1 : Int32)) ?_
      refine ⟨b11174, h11174, ?_⟩
      refine zite k (fun h11185 k => ?_) (fun h11185 k => ?_)
      · show Z E YX10_comment (d + 1) M [(0, vr (some (a0, 9, 0))), (1, vi l1)] 52 [vi (0 : Int32)] Q
        refine sX10_comment_52 (d := d) M _ l1 (0 : Int32) ?_
        refine zneg (show ¬ ((0 : Int32) = (47 : Int32)) from by decide) ?_
        refine jX10_sign (d := d) M _ (gi M a0 1) ?_
        refine ⟨b11174, h11174, ?_⟩
        refine zneg h11175 ?_
        refine ⟨b11182, m11182, h11182, ?_⟩
        refine ⟨h11183, ?_⟩
        show Z E YX10_comment (d + 1) M [(0, vr (some (a0, 9, 0))), (1, vi l1)] 65 [vi ((gi M b11182 ((gi M a0 1)).toNatClampNeg) &&& (255 : Int32))] Q
        refine sX10_comment_65 (d := d) M _ l1 ((gi M b11182 ((gi M a0 1)).toNatClampNeg) &&& (255 : Int32)) ?_
        refine zite k (fun h11186 k => ?_) (fun h11186 k => ?_)
        · refine zand k (fun h11187 k => ?_)
          refine ⟨h11187, ?_⟩
          exact k
        · exact k
      · refine ⟨b11182, m11182, h11182, ?_⟩
        refine zand k (fun h11189 k => ?_)
        show Z E YX10_comment (d + 1) M [(0, vr (some (a0, 9, 0))), (1, vi l1)] 52 [vi ((gi M b11182 (((gi M a0 1) + (1 : Int32))).toNatClampNeg) &&& (255 : Int32))] Q
        refine sX10_comment_52 (d := d) M _ l1 ((gi M b11182 (((gi M a0 1) + (1 : Int32))).toNatClampNeg) &&& (255 : Int32)) ?_
        refine zite k (fun h11190 k => ?_) (fun h11190 k => ?_)
        · refine sX10_comment_93 (d := d) M _ l1 ?_
          refine ⟨b11174, h11174, ?_⟩
          refine zite k (fun h11191 k => ?_) (fun h11191 k => ?_)
          · exact k
          · refine sX10_comment_110 (d := d) (zn M 7) l1 (zsz M) ?_
            exact k
        · refine jX10_sign (d := d) M _ (gi M a0 1) ?_
          refine ⟨b11174, h11174, ?_⟩
          refine zneg h11175 ?_
          refine ⟨b11182, m11182, h11182, ?_⟩
          refine ⟨h11183, ?_⟩
          show Z E YX10_comment (d + 1) M [(0, vr (some (a0, 9, 0))), (1, vi l1)] 65 [vi ((gi M b11182 ((gi M a0 1)).toNatClampNeg) &&& (255 : Int32))] Q
          refine sX10_comment_65 (d := d) M _ l1 ((gi M b11182 ((gi M a0 1)).toNatClampNeg) &&& (255 : Int32)) ?_
          refine zite k (fun h11193 k => ?_) (fun h11193 k => ?_)
          · refine zand k (fun h11194 k => ?_)
            refine ⟨h11194, ?_⟩
            exact k
          · exact k
    · refine jX10_sign (d := d) M _ (gi M a0 1) ?_
      refine ⟨b11174, h11174, ?_⟩
      refine zneg h11175 ?_
      refine ⟨b11182, m11182, h11182, ?_⟩
      refine ⟨h11183, ?_⟩
      show Z E YX10_comment (d + 1) M [(0, vr (some (a0, 9, 0))), (1, vi l1)] 65 [vi ((gi M b11182 ((gi M a0 1)).toNatClampNeg) &&& (255 : Int32))] Q
      refine sX10_comment_65 (d := d) M _ l1 ((gi M b11182 ((gi M a0 1)).toNatClampNeg) &&& (255 : Int32)) ?_
      refine zite k (fun h11196 k => ?_) (fun h11196 k => ?_)
      · refine zand k (fun h11197 k => ?_)
        refine ⟨h11197, ?_⟩
        exact k
      · exact k
theorem iX10_digits_4 {E : zE} {d : Nat} {Q : zO → zM → Prop} (M : zM) (a0 : Nat) (l1 : Int64) (l3 : Int32) (hw : cw M) (k : ∃ b11199 : Nat, (gr M a0 0) = some (b11199, 0, 0) ∧ (if (gi M b11199 5) ≤ (gi M a0 1) then (Z E YX10_digits (d + 1) M [(0, vr (some (a0, 9, 0))), (1, vl l1), (3, vi l3)] 78 [] Q) else (∃ b11201 m11201 : Nat, (gr M b11199 4) = some (b11201, 101, m11201) ∧ (vp_in (gi M a0 1) m11201 ∧ (if ((gi M b11201 ((gi M a0 1)).toNatClampNeg) &&& (255 : Int32)) < (48 : Int32) then (Z E YX10_digits (d + 1) M [(0, vr (some (a0, 9, 0))), (1, vl l1), (3, vi l3)] 78 [] Q) else (if (57 : Int32) < ((gi M b11201 ((gi M a0 1)).toNatClampNeg) &&& (255 : Int32)) then (Z E YX10_digits (d + 1) M [(0, vr (some (a0, 9, 0))), (1, vl l1), (3, vi l3)] 78 [] Q) else (if (10 : Int32) ≤ l3 then (16 ≤ a0 ∧ (Z E YX10_digits (d + 1) (si M a0 1 ((gi M a0 1) + (1 : Int32))) [(0, vr (some (a0, 9, 0))), (1, vl l1), (3, vi (l3 + (1 : Int32)))] 4 [] Q)) else (16 ≤ a0 ∧ (Z E YX10_digits (d + 1) (si M a0 1 ((gi M a0 1) + (1 : Int32))) [(0, vr (some (a0, 9, 0))), (1, vl ((((10 : Int64) * l1) + (((gi M b11201 ((gi M a0 1)).toNatClampNeg) &&& (255 : Int32))).toInt64) - (48 : Int64))), (3, vi (l3 + (1 : Int32)))] 4 [] Q))))))))) : Z E YX10_digits (d + 1) M [(0, vr (some (a0, 9, 0))), (1, vl l1), (3, vi l3)] 4 [] Q := by
  refine sX10_digits_4 (d := d) M a0 l1 l3 ?_
  obtain ⟨b11199, h11199, k⟩ := k
  refine ⟨b11199, h11199, ?_⟩
  refine zite k (fun h11200 k => ?_) (fun h11200 k => ?_)
  · exact k
  · refine jX10_sign (d := d) M _ (gi M a0 1) ?_
    refine ⟨b11199, h11199, ?_⟩
    refine zneg h11200 ?_
    obtain ⟨b11201, m11201, h11201, k⟩ := k
    refine ⟨b11201, m11201, h11201, ?_⟩
    refine zand k (fun h11202 k => ?_)
    show Z E YX10_digits (d + 1) M [(0, vr (some (a0, 9, 0))), (1, vl l1), (3, vi l3)] 26 [vi ((gi M b11201 ((gi M a0 1)).toNatClampNeg) &&& (255 : Int32))] Q
    refine sX10_digits_26 (d := d) M _ l1 l3 ((gi M b11201 ((gi M a0 1)).toNatClampNeg) &&& (255 : Int32)) ?_
    refine sX1_digit_0 (d := d) M ((gi M b11201 ((gi M a0 1)).toNatClampNeg) &&& (255 : Int32)) hw ?_
    refine zite k (fun h11203 k => ?_) (fun h11203 k => ?_)
    · show Z E YX10_digits (d + 1) M [(0, vr (some (a0, 9, 0))), (1, vl l1), (3, vi l3)] 29 [vi (0 : Int32)] Q
      refine sX10_digits_29 (d := d) M _ l1 l3 (0 : Int32) ?_
      refine zpos (show (0 : Int32) = 0 from by decide) ?_
      exact k
    · refine zite k (fun h11204 k => ?_) (fun h11204 k => ?_)
      · show Z E YX10_digits (d + 1) M [(0, vr (some (a0, 9, 0))), (1, vl l1), (3, vi l3)] 29 [vi (0 : Int32)] Q
        refine sX10_digits_29 (d := d) M _ l1 l3 (0 : Int32) ?_
        refine zpos (show (0 : Int32) = 0 from by decide) ?_
        exact k
      · show Z E YX10_digits (d + 1) M [(0, vr (some (a0, 9, 0))), (1, vl l1), (3, vi l3)] 29 [vi (1 : Int32)] Q
        refine sX10_digits_29 (d := d) M _ l1 l3 (1 : Int32) ?_
        refine zneg (show ¬ ((1 : Int32) = 0) from by decide) ?_
        refine zite k (fun h11205 k => ?_) (fun h11205 k => ?_)
        · refine sX10_digits_61 (d := d) M _ l3 l1 ?_
          exact k
        · refine jX10_sign (d := d) M _ (gi M a0 1) ?_
          refine ⟨b11199, h11199, ?_⟩
          refine zneg h11200 ?_
          refine ⟨b11201, m11201, h11201, ?_⟩
          refine ⟨h11202, ?_⟩
          show Z E YX10_digits (d + 1) M [(0, vr (some (a0, 9, 0))), (3, vi l3)] 51 [vi ((gi M b11201 ((gi M a0 1)).toNatClampNeg) &&& (255 : Int32)), vl ((10 : Int64) * l1)] Q
          refine sX10_digits_51 (d := d) M _ l3 ((gi M b11201 ((gi M a0 1)).toNatClampNeg) &&& (255 : Int32)) ((10 : Int64) * l1) ?_
          refine sX10_digits_61 (d := d) M _ l3 ((((10 : Int64) * l1) + (((gi M b11201 ((gi M a0 1)).toNatClampNeg) &&& (255 : Int32))).toInt64) - (48 : Int64)) ?_
          exact k
theorem iX10_digits_78 {E : zE} {d : Nat} {Q : zO → zM → Prop} (M : zM) (a0 : Nat) (l1 : Int64) (l3 : Int32) (k : 16 ≤ a0 ∧ (if (10 : Int32) < l3 then (Q (.inl none) (si (si M a0 7 (l1).toInt32) a0 3 (6 : Int32))) else (if 0 < (lg_cmp l1 (2147483647 : Int64)) then (Q (.inl none) (si (si M a0 7 (l1).toInt32) a0 3 (6 : Int32))) else (∃ b11211 : Nat, (gr M a0 0) = some (b11211, 0, 0) ∧ (if (gi (si M a0 7 (l1).toInt32) b11211 5) ≤ (gi (si M a0 7 (l1).toInt32) a0 1) then (Q (.inl none) (si (si M a0 7 (l1).toInt32) a0 3 (3 : Int32))) else (∃ b11213 m11213 : Nat, (gr M b11211 4) = some (b11213, 101, m11213) ∧ (vp_in (gi (si M a0 7 (l1).toInt32) a0 1) m11213 ∧ (Z E YX1_inner d (si M a0 7 (l1).toInt32) (zargs 0 [vi ((gi (si M a0 7 (l1).toInt32) b11213 ((gi (si M a0 7 (l1).toInt32) a0 1)).toNatClampNeg) &&& (255 : Int32))]) 0 [] (zafter E YX10_digits (d + 1) [] 121 3 [vr (some (a0, 9, 0))] Q))))))))) : Z E YX10_digits (d + 1) M [(0, vr (some (a0, 9, 0))), (1, vl l1), (3, vi l3)] 78 [] Q := by
  refine sX10_digits_78 (d := d) M a0 l1 l3 ?_
  refine zand k (fun h11208 k => ?_)
  refine zite k (fun h11209 k => ?_) (fun h11209 k => ?_)
  · refine ⟨h11208, ?_⟩
    exact k
  · refine zite k (fun h11210 k => ?_) (fun h11210 k => ?_)
    · refine ⟨h11208, ?_⟩
      exact k
    · obtain ⟨b11211, h11211, k⟩ := k
      refine ⟨b11211, h11211, ?_⟩
      refine zite k (fun h11212 k => ?_) (fun h11212 k => ?_)
      · refine ⟨h11208, ?_⟩
        exact k
      · refine jX10_sign (d := d) (si M a0 7 (l1).toInt32) _ (gi (si M a0 7 (l1).toInt32) a0 1) ?_
        refine ⟨b11211, h11211, ?_⟩
        refine zneg h11212 ?_
        obtain ⟨b11213, m11213, h11213, k⟩ := k
        refine ⟨b11213, m11213, h11213, ?_⟩
        refine zand k (fun h11214 k => ?_)
        show Z E YX10_digits (d + 1) (si M a0 7 (l1).toInt32) [] 121 [vi ((gi (si M a0 7 (l1).toInt32) b11213 ((gi (si M a0 7 (l1).toInt32) a0 1)).toNatClampNeg) &&& (255 : Int32)), vr (some (a0, 9, 0))] Q
        refine sX10_digits_121 (d := d) (si M a0 7 (l1).toInt32) ((gi (si M a0 7 (l1).toInt32) b11213 ((gi (si M a0 7 (l1).toInt32) a0 1)).toNatClampNeg) &&& (255 : Int32)) _ ?_
        exact k
theorem iX10_fault_0 {E : zE} {d : Nat} {Q : zO → zM → Prop} (M : zM) (a0 : Nat) (l1 : Int32) (k : Z E YX12_init d (zn M 7) (zargs 0 [vr (some ((zsz M), 12, 0)), vi (l1 + ((8 : Int32) * (gi (zn M 7) a0 4)))]) 0 [] (zafter E YX10_fault (d + 1) [] 13 3 [vr (some ((zsz M), 12, 0))] Q)) : Z E YX10_fault (d + 1) M [(0, vr (some (a0, 9, 0))), (1, vi l1)] 0 [] Q := by
  refine sX10_fault_0 (d := d) M a0 l1 ?_
  refine sX10_fault_3 (d := d) (zn M 7) _ l1 (zsz M) ?_
  exact k
theorem iX10_init_0 {E : zE} {d : Nat} {Q : zO → zM → Prop} (M : zM) (a0 : Nat) (r1 : Option zP) (k : 16 ≤ a0 ∧ (Q (.inl none) (sr (si M a0 2 (1 : Int32)) a0 0 r1))) : Z E YX10_init (d + 1) M [(0, vr (some (a0, 9, 0))), (1, vr r1)] 0 [] Q := by
  refine sX10_init_0 (d := d) M a0 r1 ?_
  refine zand k (fun h11218 k => ?_)
  refine ⟨h11218, ?_⟩
  exact k
theorem iX10_key_17 {E : zE} {d : Nat} {Q : zO → zM → Prop} (M : zM) (a0 : Nat) (l1 : Int32) (k : ∃ b11249 : Nat, (gr M a0 0) = some (b11249, 0, 0) ∧ (∃ b11250 : Nat, (gr M b11249 6) = some (b11250, 2, 0) ∧ (∃ b11251 m11251 : Nat, (gr M b11250 1) = some (b11251, 100, m11251) ∧ (vp_in ((gi M a0 6) + (1 : Int32)) m11251 ∧ (vp_in (gi M a0 6) m11251 ∧ (if ((gi M b11251 (((gi M a0 6) + (1 : Int32))).toNatClampNeg) - (gi M b11251 ((gi M a0 6)).toNatClampNeg)) ≤ l1 then (Z E YX10_name d M (zargs 0 [vr (some (a0, 9, 0))]) 0 [] (zafter E YX10_key (d + 1) [(0, vr (some (a0, 9, 0)))] 65 3 [vr (some (a0, 9, 0))] Q)) else (∃ b11268 m11268 : Nat, (gr M b11250 0) = some (b11268, 101, m11268) ∧ (vp_in ((gi M b11251 ((gi M a0 6)).toNatClampNeg) + l1) m11268 ∧ (Z E YX1_write d M (zargs 0 [vr (some (b11249, 0, 0)), vi (gi M b11268 (((gi M b11251 ((gi M a0 6)).toNatClampNeg) + l1)).toNatClampNeg)]) 0 [] (zafter E YX10_key (d + 1) [(0, vr (some (a0, 9, 0))), (1, vi l1)] 54 3 [] Q)))))))))) : Z E YX10_key (d + 1) M [(0, vr (some (a0, 9, 0))), (1, vi l1)] 17 [] Q := by
  refine sX10_key_17 (d := d) M a0 l1 ?_
  obtain ⟨b11249, h11249, k⟩ := k
  refine ⟨b11249, h11249, ?_⟩
  obtain ⟨b11250, h11250, k⟩ := k
  refine ⟨b11250, h11250, ?_⟩
  refine jX2_length (d := d) M b11250 (gi M a0 6) ?_
  obtain ⟨b11251, m11251, h11251, k⟩ := k
  refine ⟨b11251, m11251, h11251, ?_⟩
  refine zand k (fun h11252 k => ?_)
  refine zand k (fun h11253 k => ?_)
  show Z E YX10_key (d + 1) M [(0, vr (some (a0, 9, 0))), (1, vi l1)] 32 [vi ((gi M b11251 (((gi M a0 6) + (1 : Int32))).toNatClampNeg) - (gi M b11251 ((gi M a0 6)).toNatClampNeg)), vi l1] Q
  refine sX10_key_32 (d := d) M _ l1 ((gi M b11251 (((gi M a0 6) + (1 : Int32))).toNatClampNeg) - (gi M b11251 ((gi M a0 6)).toNatClampNeg)) l1 ?_
  refine zite k (fun h11254 k => ?_) (fun h11254 k => ?_)
  · exact k
  · refine ⟨b11249, h11249, ?_⟩
    refine ⟨b11250, h11250, ?_⟩
    refine sX2_sign_0 (d := d) M b11250 (gi M a0 6) l1 ?_
    refine ⟨b11251, m11251, h11251, ?_⟩
    refine ⟨h11253, ?_⟩
    obtain ⟨b11268, m11268, h11268, k⟩ := k
    refine ⟨b11268, m11268, h11268, ?_⟩
    refine zand k (fun h11269 k => ?_)
    show Z E YX10_key (d + 1) M [(0, vr (some (a0, 9, 0))), (1, vi l1)] 54 [vi (gi M b11268 (((gi M b11251 ((gi M a0 6)).toNatClampNeg) + l1)).toNatClampNeg), vr (some (b11249, 0, 0))] Q
    refine sX10_key_54 (d := d) M _ l1 (gi M b11268 (((gi M b11251 ((gi M a0 6)).toNatClampNeg) + l1)).toNatClampNeg) b11249 ?_
    exact k
theorem iX10_longest_11 {E : zE} {d : Nat} {Q : zO → zM → Prop} (M : zM) (a0 : Nat) (l1 : Int32) (l2 : Int32) (k : if (4 : Int32) < l2 then (if l1 = (-1 : Int32) then (16 ≤ a0 ∧ (Q (.inl none) (si (si (si M a0 3 (6 : Int32)) a0 6 l1) a0 1 ((gi (si (si M a0 3 (6 : Int32)) a0 6 l1) a0 1) + (1 : Int32))))) else (16 ≤ a0 ∧ (∃ b11276 : Nat, (gr M a0 0) = some (b11276, 0, 0) ∧ (∃ b11277 : Nat, (gr M b11276 7) = some (b11277, 2, 0) ∧ (∃ b11278 m11278 : Nat, (gr M b11277 1) = some (b11278, 100, m11278) ∧ (vp_in (l1 + (1 : Int32)) m11278 ∧ (vp_in l1 m11278 ∧ (Q (.inl none) (si (si (si M a0 3 (5 : Int32)) a0 6 l1) a0 1 ((gi (si (si M a0 3 (5 : Int32)) a0 6 l1) a0 1) + ((gi (si (si M a0 3 (5 : Int32)) a0 6 l1) b11278 ((l1 + (1 : Int32))).toNatClampNeg) - (gi (si (si M a0 3 (5 : Int32)) a0 6 l1) b11278 (l1).toNatClampNeg)))))))))))) else (∃ b11281 : Nat, (gr M a0 0) = some (b11281, 0, 0) ∧ (if (gi M b11281 5) < ((gi M a0 1) + l2) then (if l1 = (-1 : Int32) then (16 ≤ a0 ∧ (Q (.inl none) (si (si (si M a0 3 (6 : Int32)) a0 6 l1) a0 1 ((gi (si (si M a0 3 (6 : Int32)) a0 6 l1) a0 1) + (1 : Int32))))) else (16 ≤ a0 ∧ (∃ b11286 : Nat, (gr M b11281 7) = some (b11286, 2, 0) ∧ (∃ b11287 m11287 : Nat, (gr M b11286 1) = some (b11287, 100, m11287) ∧ (vp_in (l1 + (1 : Int32)) m11287 ∧ (vp_in l1 m11287 ∧ (Q (.inl none) (si (si (si M a0 3 (5 : Int32)) a0 6 l1) a0 1 ((gi (si (si M a0 3 (5 : Int32)) a0 6 l1) a0 1) + ((gi (si (si M a0 3 (5 : Int32)) a0 6 l1) b11287 ((l1 + (1 : Int32))).toNatClampNeg) - (gi (si (si M a0 3 (5 : Int32)) a0 6 l1) b11287 (l1).toNatClampNeg))))))))))) else (if (gi M b11281 5) ≤ (((gi M a0 1) + l2) - (1 : Int32)) then (Z E YX1_write d M (zargs 0 [vr (some (b11281, 0, 0)), vi (0 : Int32)]) 0 [] (zafter E YX10_longest (d + 1) [(0, vr (some (a0, 9, 0))), (1, vi l1), (2, vi l2)] 48 3 [] Q)) else (∃ b11291 m11291 : Nat, (gr M b11281 4) = some (b11291, 101, m11291) ∧ (vp_in (((gi M a0 1) + l2) - (1 : Int32)) m11291 ∧ (Z E YX1_write d M (zargs 0 [vr (some (b11281, 0, 0)), vi ((gi M b11291 ((((gi M a0 1) + l2) - (1 : Int32))).toNatClampNeg) &&& (255 : Int32))]) 0 [] (zafter E YX10_longest (d + 1) [(0, vr (some (a0, 9, 0))), (1, vi l1), (2, vi l2)] 48 3 [] Q)))))))) : Z E YX10_longest (d + 1) M [(0, vr (some (a0, 9, 0))), (1, vi l1), (2, vi l2)] 11 [] Q := by
  refine sX10_longest_11 (d := d) M a0 l1 l2 ?_
  refine zite k (fun h11272 k => ?_) (fun h11272 k => ?_)
  · refine zite k (fun h11273 k => ?_) (fun h11273 k => ?_)
    · refine sX10_longest_99 (d := d) M _ l1 (6 : Int32) ?_
      refine zand k (fun h11274 k => ?_)
      refine ⟨h11274, ?_⟩
      refine zpos h11273 ?_
      refine sX10_longest_132 (d := d) (si (si M a0 3 (6 : Int32)) a0 6 l1) (1 : Int32) (gi (si (si M a0 3 (6 : Int32)) a0 6 l1) a0 1) _ ?_
      refine ⟨h11274, ?_⟩
      exact k
    · refine sX10_longest_99 (d := d) M _ l1 (5 : Int32) ?_
      refine zand k (fun h11275 k => ?_)
      refine ⟨h11275, ?_⟩
      refine zneg h11273 ?_
      obtain ⟨b11276, h11276, k⟩ := k
      refine ⟨b11276, h11276, ?_⟩
      obtain ⟨b11277, h11277, k⟩ := k
      refine ⟨b11277, h11277, ?_⟩
      refine jX2_length (d := d) (si (si M a0 3 (5 : Int32)) a0 6 l1) b11277 l1 ?_
      obtain ⟨b11278, m11278, h11278, k⟩ := k
      refine ⟨b11278, m11278, h11278, ?_⟩
      refine zand k (fun h11279 k => ?_)
      refine zand k (fun h11280 k => ?_)
      show Z E YX10_longest (d + 1) (si (si M a0 3 (5 : Int32)) a0 6 l1) [] 132 [vi ((gi (si (si M a0 3 (5 : Int32)) a0 6 l1) b11278 ((l1 + (1 : Int32))).toNatClampNeg) - (gi (si (si M a0 3 (5 : Int32)) a0 6 l1) b11278 (l1).toNatClampNeg)), vi (gi (si (si M a0 3 (5 : Int32)) a0 6 l1) a0 1), vr (some (a0, 9, 0))] Q
      refine sX10_longest_132 (d := d) (si (si M a0 3 (5 : Int32)) a0 6 l1) ((gi (si (si M a0 3 (5 : Int32)) a0 6 l1) b11278 ((l1 + (1 : Int32))).toNatClampNeg) - (gi (si (si M a0 3 (5 : Int32)) a0 6 l1) b11278 (l1).toNatClampNeg)) (gi (si (si M a0 3 (5 : Int32)) a0 6 l1) a0 1) _ ?_
      refine ⟨h11275, ?_⟩
      exact k
  · obtain ⟨b11281, h11281, k⟩ := k
    refine ⟨b11281, h11281, ?_⟩
    refine zite k (fun h11282 k => ?_) (fun h11282 k => ?_)
    · refine zite k (fun h11283 k => ?_) (fun h11283 k => ?_)
      · refine sX10_longest_99 (d := d) M _ l1 (6 : Int32) ?_
        refine zand k (fun h11284 k => ?_)
        refine ⟨h11284, ?_⟩
        refine zpos h11283 ?_
        refine sX10_longest_132 (d := d) (si (si M a0 3 (6 : Int32)) a0 6 l1) (1 : Int32) (gi (si (si M a0 3 (6 : Int32)) a0 6 l1) a0 1) _ ?_
        refine ⟨h11284, ?_⟩
        exact k
      · refine sX10_longest_99 (d := d) M _ l1 (5 : Int32) ?_
        refine zand k (fun h11285 k => ?_)
        refine ⟨h11285, ?_⟩
        refine zneg h11283 ?_
        refine ⟨b11281, h11281, ?_⟩
        obtain ⟨b11286, h11286, k⟩ := k
        refine ⟨b11286, h11286, ?_⟩
        refine jX2_length (d := d) (si (si M a0 3 (5 : Int32)) a0 6 l1) b11286 l1 ?_
        obtain ⟨b11287, m11287, h11287, k⟩ := k
        refine ⟨b11287, m11287, h11287, ?_⟩
        refine zand k (fun h11288 k => ?_)
        refine zand k (fun h11289 k => ?_)
        show Z E YX10_longest (d + 1) (si (si M a0 3 (5 : Int32)) a0 6 l1) [] 132 [vi ((gi (si (si M a0 3 (5 : Int32)) a0 6 l1) b11287 ((l1 + (1 : Int32))).toNatClampNeg) - (gi (si (si M a0 3 (5 : Int32)) a0 6 l1) b11287 (l1).toNatClampNeg)), vi (gi (si (si M a0 3 (5 : Int32)) a0 6 l1) a0 1), vr (some (a0, 9, 0))] Q
        refine sX10_longest_132 (d := d) (si (si M a0 3 (5 : Int32)) a0 6 l1) ((gi (si (si M a0 3 (5 : Int32)) a0 6 l1) b11287 ((l1 + (1 : Int32))).toNatClampNeg) - (gi (si (si M a0 3 (5 : Int32)) a0 6 l1) b11287 (l1).toNatClampNeg)) (gi (si (si M a0 3 (5 : Int32)) a0 6 l1) a0 1) _ ?_
        refine ⟨h11285, ?_⟩
        exact k
    · refine jX10_sign (d := d) M _ (((gi M a0 1) + l2) - (1 : Int32)) ?_
      refine ⟨b11281, h11281, ?_⟩
      refine zite k (fun h11290 k => ?_) (fun h11290 k => ?_)
      · show Z E YX10_longest (d + 1) M [(0, vr (some (a0, 9, 0))), (1, vi l1), (2, vi l2)] 48 [vi (0 : Int32), vr (gr M a0 0)] Q
        refine sX10_longest_48 (d := d) M _ l1 l2 (0 : Int32) (gr M a0 0) ?_
        refine ⟨b11281, h11281, ?_⟩
        exact k
      · obtain ⟨b11291, m11291, h11291, k⟩ := k
        refine ⟨b11291, m11291, h11291, ?_⟩
        refine zand k (fun h11292 k => ?_)
        show Z E YX10_longest (d + 1) M [(0, vr (some (a0, 9, 0))), (1, vi l1), (2, vi l2)] 48 [vi ((gi M b11291 ((((gi M a0 1) + l2) - (1 : Int32))).toNatClampNeg) &&& (255 : Int32)), vr (gr M a0 0)] Q
        refine sX10_longest_48 (d := d) M _ l1 l2 ((gi M b11291 ((((gi M a0 1) + l2) - (1 : Int32))).toNatClampNeg) &&& (255 : Int32)) (gr M a0 0) ?_
        refine ⟨b11281, h11281, ?_⟩
        exact k
theorem iX10_longest_51 {E : zE} {d : Nat} {Q : zO → zM → Prop} (M : zM) (a0 : Nat) (l1 : Int32) (l2 : Int32) (k : ∃ b11293 : Nat, (gr M a0 0) = some (b11293, 0, 0) ∧ (∃ b11294 : Nat, (gr M b11293 7) = some (b11294, 2, 0) ∧ (Z E YX2_find d M (zargs 0 [vr (some (b11294, 2, 0)), vr (gr M b11293 2), vi l2]) 0 [] (zafter E YX10_longest (d + 1) [(0, vr (some (a0, 9, 0))), (1, vi l1), (2, vi l2)] 66 3 [] Q)))) : Z E YX10_longest (d + 1) M [(0, vr (some (a0, 9, 0))), (1, vi l1), (2, vi l2)] 51 [] Q := by
  refine sX10_longest_51 (d := d) M a0 l1 l2 ?_
  obtain ⟨b11293, h11293, k⟩ := k
  refine ⟨b11293, h11293, ?_⟩
  refine ⟨b11293, h11293, ?_⟩
  exact k
theorem iX10_name_0 {E : zE} {d : Nat} {Q : zO → zM → Prop} (M : zM) (a0 : Nat) (k : ∃ b11296 : Nat, (gr M a0 0) = some (b11296, 0, 0) ∧ (∃ b11297 : Nat, (gr M b11296 0) = some (b11297, 2, 0) ∧ (Z E YX2_find d M (zargs 0 [vr (some (b11297, 2, 0)), vr (gr M b11296 2), vi (gi M b11296 3)]) 0 [] (zafter E YX10_name (d + 1) [(0, vr (some (a0, 9, 0)))] 21 3 [] Q)))) : Z E YX10_name (d + 1) M [(0, vr (some (a0, 9, 0)))] 0 [] Q := by
  refine sX10_name_0 (d := d) M a0 ?_
  obtain ⟨b11296, h11296, k⟩ := k
  refine ⟨b11296, h11296, ?_⟩
  refine ⟨b11296, h11296, ?_⟩
  refine ⟨b11296, h11296, ?_⟩
  exact k
theorem iX10_name_24 {E : zE} {d : Nat} {Q : zO → zM → Prop} (M : zM) (a0 : Nat) (s0 : Int32) (k : if s0 = (-1 : Int32) then (∃ b11299 : Nat, (gr M a0 0) = some (b11299, 0, 0) ∧ (∃ b11300 : Nat, (gr M b11299 0) = some (b11300, 2, 0) ∧ (Z E YX2_add d M (zargs 0 [vr (some (b11300, 2, 0)), vr (gr M b11299 2), vi (gi M b11299 3)]) 0 [] (zafter E YX10_name (d + 1) [] 51 3 [] Q)))) else (Q (.inl (some (vi s0))) M)) : Z E YX10_name (d + 1) M [(0, vr (some (a0, 9, 0)))] 24 [vi s0] Q := by
  refine sX10_name_24 (d := d) M a0 s0 ?_
  refine zite k (fun h11298 k => ?_) (fun h11298 k => ?_)
  · obtain ⟨b11299, h11299, k⟩ := k
    refine ⟨b11299, h11299, ?_⟩
    refine ⟨b11299, h11299, ?_⟩
    refine ⟨b11299, h11299, ?_⟩
    exact k
  · exact k
theorem iX10_next_12 {E : zE} {d : Nat} {Q : zO → zM → Prop} (M : zM) (a0 : Nat) (k : 16 ≤ a0 ∧ (∃ b11317 : Nat, (gr M a0 0) = some (b11317, 0, 0) ∧ (if (gi (si M a0 4 (gi M a0 2)) b11317 5) ≤ (gi (si M a0 4 (gi M a0 2)) a0 1) then (if (gi (si M a0 4 (gi M a0 2)) a0 1) < (gi (si M a0 4 (gi M a0 2)) b11317 5) then (Z E YX1_starts d (si M a0 4 (gi M a0 2)) (zargs 0 [vi (0 : Int32)]) 0 [] (zafter E YX10_next (d + 1) [(0, vr (some (a0, 9, 0))), (1, vi (0 : Int32))] 52 3 [] Q)) else (if (gi (si (si M a0 4 (gi M a0 2)) a0 3 (0 : Int32)) a0 3) = (6 : Int32) then (Z E YX10_fault d (si (si M a0 4 (gi M a0 2)) a0 3 (0 : Int32)) (zargs 0 [vr (some (a0, 9, 0)), vi (1 : Int32)]) 0 [] (zafter E YX10_next (d + 1) [] 114 3 [] Q)) else (Q (.inl none) (si (si M a0 4 (gi M a0 2)) a0 3 (0 : Int32))))) else (∃ b11321 m11321 : Nat, (gr M b11317 4) = some (b11321, 101, m11321) ∧ (vp_in (gi (si M a0 4 (gi M a0 2)) a0 1) m11321 ∧ (if (gi (si M a0 4 (gi M a0 2)) a0 1) < (gi (si M a0 4 (gi M a0 2)) b11317 5) then (Z E YX1_starts d (si M a0 4 (gi M a0 2)) (zargs 0 [vi ((gi (si M a0 4 (gi M a0 2)) b11321 ((gi (si M a0 4 (gi M a0 2)) a0 1)).toNatClampNeg) &&& (255 : Int32))]) 0 [] (zafter E YX10_next (d + 1) [(0, vr (some (a0, 9, 0))), (1, vi ((gi (si M a0 4 (gi M a0 2)) b11321 ((gi (si M a0 4 (gi M a0 2)) a0 1)).toNatClampNeg) &&& (255 : Int32)))] 52 3 [] Q)) else (if (gi (si (si M a0 4 (gi M a0 2)) a0 3 (0 : Int32)) a0 3) = (6 : Int32) then (Z E YX10_fault d (si (si M a0 4 (gi M a0 2)) a0 3 (0 : Int32)) (zargs 0 [vr (some (a0, 9, 0)), vi (1 : Int32)]) 0 [] (zafter E YX10_next (d + 1) [] 114 3 [] Q)) else (Q (.inl none) (si (si M a0 4 (gi M a0 2)) a0 3 (0 : Int32)))))))))) : Z E YX10_next (d + 1) M [(0, vr (some (a0, 9, 0)))] 12 [] Q := by
  refine sX10_next_12 (d := d) M a0 ?_
  refine zand k (fun h11316 k => ?_)
  refine jX10_sign (d := d) (si M a0 4 (gi M a0 2)) _ (gi (si M a0 4 (gi M a0 2)) a0 1) ?_
  obtain ⟨b11317, h11317, k⟩ := k
  refine ⟨b11317, h11317, ?_⟩
  refine zite k (fun h11318 k => ?_) (fun h11318 k => ?_)
  · show Z E YX10_next (d + 1) (si M a0 4 (gi M a0 2)) [(0, vr (some (a0, 9, 0)))] 28 [vi (0 : Int32)] Q
    refine sX10_next_28 (d := d) (si M a0 4 (gi M a0 2)) _ (0 : Int32) ?_
    refine ⟨b11317, h11317, ?_⟩
    refine zite k (fun h11319 k => ?_) (fun h11319 k => ?_)
    · exact k
    · refine ⟨h11316, ?_⟩
      refine sX10_next_103 (d := d) (si (si M a0 4 (gi M a0 2)) a0 3 (0 : Int32)) _ ?_
      exact k
  · obtain ⟨b11321, m11321, h11321, k⟩ := k
    refine ⟨b11321, m11321, h11321, ?_⟩
    refine zand k (fun h11322 k => ?_)
    show Z E YX10_next (d + 1) (si M a0 4 (gi M a0 2)) [(0, vr (some (a0, 9, 0)))] 28 [vi ((gi (si M a0 4 (gi M a0 2)) b11321 ((gi (si M a0 4 (gi M a0 2)) a0 1)).toNatClampNeg) &&& (255 : Int32))] Q
    refine sX10_next_28 (d := d) (si M a0 4 (gi M a0 2)) _ ((gi (si M a0 4 (gi M a0 2)) b11321 ((gi (si M a0 4 (gi M a0 2)) a0 1)).toNatClampNeg) &&& (255 : Int32)) ?_
    refine ⟨b11317, h11317, ?_⟩
    refine zite k (fun h11323 k => ?_) (fun h11323 k => ?_)
    · exact k
    · refine ⟨h11316, ?_⟩
      refine sX10_next_103 (d := d) (si (si M a0 4 (gi M a0 2)) a0 3 (0 : Int32)) _ ?_
      exact k
theorem iX10_next_55 {E : zE} {d : Nat} {Q : zO → zM → Prop} (M : zM) (a0 : Nat) (l1 : Int32) (s0 : Int32) (hw : cw M) (k : if s0 = 0 then (if l1 < (48 : Int32) then (if l1 = (39 : Int32) then (Z E YX10_string d M (zargs 0 [vr (some (a0, 9, 0)), vi l1]) 0 [] (zafter E YX10_next (d + 1) [(0, vr (some (a0, 9, 0)))] 93 3 [] Q)) else (if l1 = (34 : Int32) then (Z E YX10_string d M (zargs 0 [vr (some (a0, 9, 0)), vi l1]) 0 [] (zafter E YX10_next (d + 1) [(0, vr (some (a0, 9, 0)))] 93 3 [] Q)) else (Z E YX10_longest d M (zargs 0 [vr (some (a0, 9, 0))]) 0 [] (zafter E YX10_next (d + 1) [(0, vr (some (a0, 9, 0)))] 100 3 [] Q)))) else (if (57 : Int32) < l1 then (if l1 = (39 : Int32) then (Z E YX10_string d M (zargs 0 [vr (some (a0, 9, 0)), vi l1]) 0 [] (zafter E YX10_next (d + 1) [(0, vr (some (a0, 9, 0)))] 93 3 [] Q)) else (if l1 = (34 : Int32) then (Z E YX10_string d M (zargs 0 [vr (some (a0, 9, 0)), vi l1]) 0 [] (zafter E YX10_next (d + 1) [(0, vr (some (a0, 9, 0)))] 93 3 [] Q)) else (Z E YX10_longest d M (zargs 0 [vr (some (a0, 9, 0))]) 0 [] (zafter E YX10_next (d + 1) [(0, vr (some (a0, 9, 0)))] 100 3 [] Q)))) else (Z E YX10_digits d M (zargs 0 [vr (some (a0, 9, 0))]) 0 [] (zafter E YX10_next (d + 1) [(0, vr (some (a0, 9, 0)))] 73 3 [] Q)))) else (Z E YX10_word d M (zargs 0 [vr (some (a0, 9, 0))]) 0 [] (zafter E YX10_next (d + 1) [(0, vr (some (a0, 9, 0)))] 59 3 [] Q))) : Z E YX10_next (d + 1) M [(0, vr (some (a0, 9, 0))), (1, vi l1)] 55 [vi s0] Q := by
  refine sX10_next_55 (d := d) M a0 l1 s0 ?_
  refine zite k (fun h11325 k => ?_) (fun h11325 k => ?_)
  · refine sX1_digit_0 (d := d) M l1 hw ?_
    refine zite k (fun h11326 k => ?_) (fun h11326 k => ?_)
    · show Z E YX10_next (d + 1) M [(0, vr (some (a0, 9, 0))), (1, vi l1)] 69 [vi (0 : Int32)] Q
      refine sX10_next_69 (d := d) M _ l1 (0 : Int32) ?_
      refine zpos (show (0 : Int32) = 0 from by decide) ?_
      exact k
    · refine zite k (fun h11331 k => ?_) (fun h11331 k => ?_)
      · show Z E YX10_next (d + 1) M [(0, vr (some (a0, 9, 0))), (1, vi l1)] 69 [vi (0 : Int32)] Q
        refine sX10_next_69 (d := d) M _ l1 (0 : Int32) ?_
        refine zpos (show (0 : Int32) = 0 from by decide) ?_
        exact k
      · show Z E YX10_next (d + 1) M [(0, vr (some (a0, 9, 0))), (1, vi l1)] 69 [vi (1 : Int32)] Q
        refine sX10_next_69 (d := d) M _ l1 (1 : Int32) ?_
        refine zneg (show ¬ ((1 : Int32) = 0) from by decide) ?_
        exact k
  · exact k
theorem iX10_next_96 {E : zE} {d : Nat} {Q : zO → zM → Prop} (M : zM) (a0 : Nat) (k : if (gi M a0 3) = (6 : Int32) then (Z E YX10_fault d M (zargs 0 [vr (some (a0, 9, 0)), vi (1 : Int32)]) 0 [] (zafter E YX10_next (d + 1) [] 114 3 [] Q)) else (Q (.inl none) M)) : Z E YX10_next (d + 1) M [(0, vr (some (a0, 9, 0)))] 96 [] Q := by
  refine sX10_next_96 (d := d) M a0 ?_
  refine sX10_next_103 (d := d) M _ ?_
  exact k
theorem iX10_next_76 {E : zE} {d : Nat} {Q : zO → zM → Prop} (M : zM) (a0 : Nat) (k : if (gi M a0 3) = (6 : Int32) then (Z E YX10_fault d M (zargs 0 [vr (some (a0, 9, 0)), vi (1 : Int32)]) 0 [] (zafter E YX10_next (d + 1) [] 114 3 [] Q)) else (Q (.inl none) M)) : Z E YX10_next (d + 1) M [(0, vr (some (a0, 9, 0)))] 76 [] Q := by
  refine sX10_next_76 (d := d) M a0 ?_
  refine sX10_next_103 (d := d) M _ ?_
  exact k
theorem iX10_next_62 {E : zE} {d : Nat} {Q : zO → zM → Prop} (M : zM) (a0 : Nat) (k : if (gi M a0 3) = (6 : Int32) then (Z E YX10_fault d M (zargs 0 [vr (some (a0, 9, 0)), vi (1 : Int32)]) 0 [] (zafter E YX10_next (d + 1) [] 114 3 [] Q)) else (Q (.inl none) M)) : Z E YX10_next (d + 1) M [(0, vr (some (a0, 9, 0)))] 62 [] Q := by
  refine sX10_next_62 (d := d) M a0 ?_
  refine sX10_next_103 (d := d) M _ ?_
  exact k
theorem iX10_sign_0 {E : zE} {d : Nat} {Q : zO → zM → Prop} (M : zM) (a0 : Nat) (l1 : Int32) (k : ∃ b11348 : Nat, (gr M a0 0) = some (b11348, 0, 0) ∧ (if (gi M b11348 5) ≤ l1 then (Q (.inl (some (vi (0 : Int32)))) M) else (∃ b11350 m11350 : Nat, (gr M b11348 4) = some (b11350, 101, m11350) ∧ (vp_in l1 m11350 ∧ (Q (.inl (some (vi ((gi M b11350 (l1).toNatClampNeg) &&& (255 : Int32))))) M))))) : Z E YX10_sign d M [(0, vr (some (a0, 9, 0))), (1, vi l1)] 0 [] Q := by
  refine sX10_sign_0 (d := d) M a0 l1 ?_
  obtain ⟨b11348, h11348, k⟩ := k
  refine ⟨b11348, h11348, ?_⟩
  refine zite k (fun h11349 k => ?_) (fun h11349 k => ?_)
  · exact k
  · refine ⟨b11348, h11348, ?_⟩
    exact k
theorem iX10_space_0 {E : zE} {d : Nat} {Q : zO → zM → Prop} (M : zM) (a0 : Nat) (k : ∃ b11352 : Nat, (gr M a0 0) = some (b11352, 0, 0) ∧ (if (gi M b11352 5) ≤ (gi M a0 1) then (Q (.inl none) M) else (∃ b11354 m11354 : Nat, (gr M b11352 4) = some (b11354, 101, m11354) ∧ (vp_in (gi M a0 1) m11354 ∧ (if ((gi M b11354 ((gi M a0 1)).toNatClampNeg) &&& (255 : Int32)) = (10 : Int32) then (16 ≤ a0 ∧ (Z E YX10_space (d + 1) (si M a0 2 ((gi M a0 2) + (1 : Int32))) [(0, vr (some (a0, 9, 0))), (1, vi ((gi M b11354 ((gi M a0 1)).toNatClampNeg) &&& (255 : Int32)))] 39 [] Q)) else (Z E YX10_space (d + 1) M [(0, vr (some (a0, 9, 0))), (1, vi ((gi M b11354 ((gi M a0 1)).toNatClampNeg) &&& (255 : Int32)))] 39 [] Q)))))) : Z E YX10_space (d + 1) M [(0, vr (some (a0, 9, 0)))] 0 [] Q := by
  refine sX10_space_0 (d := d) M a0 ?_
  obtain ⟨b11352, h11352, k⟩ := k
  refine ⟨b11352, h11352, ?_⟩
  refine zite k (fun h11353 k => ?_) (fun h11353 k => ?_)
  · exact k
  · refine jX10_sign (d := d) M _ (gi M a0 1) ?_
    refine ⟨b11352, h11352, ?_⟩
    refine zneg h11353 ?_
    obtain ⟨b11354, m11354, h11354, k⟩ := k
    refine ⟨b11354, m11354, h11354, ?_⟩
    refine zand k (fun h11355 k => ?_)
    show Z E YX10_space (d + 1) M [(0, vr (some (a0, 9, 0)))] 22 [vi ((gi M b11354 ((gi M a0 1)).toNatClampNeg) &&& (255 : Int32))] Q
    refine sX10_space_22 (d := d) M _ ((gi M b11354 ((gi M a0 1)).toNatClampNeg) &&& (255 : Int32)) ?_
    exact k
theorem iX10_space_39 {E : zE} {d : Nat} {Q : zO → zM → Prop} (M : zM) (a0 : Nat) (l1 : Int32) (k : if l1 = (9 : Int32) then (16 ≤ a0 ∧ (Z E YX10_space (d + 1) (si M a0 1 ((gi M a0 1) + (1 : Int32))) [(0, vr (some (a0, 9, 0)))] 0 [] Q)) else (if l1 = (10 : Int32) then (16 ≤ a0 ∧ (Z E YX10_space (d + 1) (si M a0 1 ((gi M a0 1) + (1 : Int32))) [(0, vr (some (a0, 9, 0)))] 0 [] Q)) else (if l1 = (32 : Int32) then (16 ≤ a0 ∧ (Z E YX10_space (d + 1) (si M a0 1 ((gi M a0 1) + (1 : Int32))) [(0, vr (some (a0, 9, 0)))] 0 [] Q)) else (if l1 = (47 : Int32) then (∃ b11365 : Nat, (gr M a0 0) = some (b11365, 0, 0) ∧ (if (gi M b11365 5) ≤ ((gi M a0 1) + (1 : Int32)) then (Q (.inl none) M) else (∃ b11367 m11367 : Nat, (gr M b11365 4) = some (b11367, 101, m11367) ∧ (vp_in ((gi M a0 1) + (1 : Int32)) m11367 ∧ (if ((gi M b11367 (((gi M a0 1) + (1 : Int32))).toNatClampNeg) &&& (255 : Int32)) = (47 : Int32) then (Z E YX10_space (d + 1) M [(0, vr (some (a0, 9, 0)))] 91 [] Q) else (if ((gi M b11367 (((gi M a0 1) + (1 : Int32))).toNatClampNeg) &&& (255 : Int32)) = (42 : Int32) then (Z E YX10_comment d M (zargs 0 [vr (some (a0, 9, 0))]) 0 [] (zafter E YX10_space (d + 1) [(0, vr (some (a0, 9, 0)))] 153 3 [] Q)) else (Q (.inl none) M))))))) else (Q (.inl none) M))))) : Z E YX10_space (d + 1) M [(0, vr (some (a0, 9, 0))), (1, vi l1)] 39 [] Q := by
  refine sX10_space_39 (d := d) M a0 l1 ?_
  refine zite k (fun h11358 k => ?_) (fun h11358 k => ?_)
  · refine sX10_space_57 (d := d) M _ ?_
    exact k
  · refine zite k (fun h11360 k => ?_) (fun h11360 k => ?_)
    · refine sX10_space_57 (d := d) M _ ?_
      exact k
    · refine zite k (fun h11362 k => ?_) (fun h11362 k => ?_)
      · refine sX10_space_57 (d := d) M _ ?_
        exact k
      · refine zite k (fun h11364 k => ?_) (fun h11364 k => ?_)
        · refine jX10_sign (d := d) M _ ((gi M a0 1) + (1 : Int32)) ?_
          obtain ⟨b11365, h11365, k⟩ := k
          refine ⟨b11365, h11365, ?_⟩
          refine zite k (fun h11366 k => ?_) (fun h11366 k => ?_)
          · show Z E YX10_space (d + 1) M [(0, vr (some (a0, 9, 0))), (1, vi l1)] 86 [vi (0 : Int32)] Q
            refine sX10_space_86 (d := d) M _ l1 (0 : Int32) ?_
            refine zneg (show ¬ ((0 : Int32) = (47 : Int32)) from by decide) ?_
            refine sX10_space_131 (d := d) M _ l1 ?_
            refine zpos h11364 ?_
            refine jX10_sign (d := d) M _ ((gi M a0 1) + (1 : Int32)) ?_
            refine ⟨b11365, h11365, ?_⟩
            refine zpos h11366 ?_
            show Z E YX10_space (d + 1) M [(0, vr (some (a0, 9, 0)))] 147 [vi (0 : Int32)] Q
            refine sX10_space_147 (d := d) M _ (0 : Int32) ?_
            refine zneg (show ¬ ((0 : Int32) = (42 : Int32)) from by decide) ?_
            exact k
          · obtain ⟨b11367, m11367, h11367, k⟩ := k
            refine ⟨b11367, m11367, h11367, ?_⟩
            refine zand k (fun h11368 k => ?_)
            show Z E YX10_space (d + 1) M [(0, vr (some (a0, 9, 0))), (1, vi l1)] 86 [vi ((gi M b11367 (((gi M a0 1) + (1 : Int32))).toNatClampNeg) &&& (255 : Int32))] Q
            refine sX10_space_86 (d := d) M _ l1 ((gi M b11367 (((gi M a0 1) + (1 : Int32))).toNatClampNeg) &&& (255 : Int32)) ?_
            refine zite k (fun h11369 k => ?_) (fun h11369 k => ?_)
            · exact k
            · refine sX10_space_131 (d := d) M _ l1 ?_
              refine zpos h11364 ?_
              refine jX10_sign (d := d) M _ ((gi M a0 1) + (1 : Int32)) ?_
              refine ⟨b11365, h11365, ?_⟩
              refine zneg h11366 ?_
              refine ⟨b11367, m11367, h11367, ?_⟩
              refine ⟨h11368, ?_⟩
              show Z E YX10_space (d + 1) M [(0, vr (some (a0, 9, 0)))] 147 [vi ((gi M b11367 (((gi M a0 1) + (1 : Int32))).toNatClampNeg) &&& (255 : Int32))] Q
              refine sX10_space_147 (d := d) M _ ((gi M b11367 (((gi M a0 1) + (1 : Int32))).toNatClampNeg) &&& (255 : Int32)) ?_
              exact k
        · refine sX10_space_131 (d := d) M _ l1 ?_
          refine zneg h11364 ?_
          exact k
theorem iX10_space_91 {E : zE} {d : Nat} {Q : zO → zM → Prop} (M : zM) (a0 : Nat) (k : ∃ b11371 : Nat, (gr M a0 0) = some (b11371, 0, 0) ∧ (if (gi M b11371 5) ≤ (gi M a0 1) then (Z E YX10_space (d + 1) M [(0, vr (some (a0, 9, 0)))] 0 [] Q) else (∃ b11373 m11373 : Nat, (gr M b11371 4) = some (b11373, 101, m11373) ∧ (vp_in (gi M a0 1) m11373 ∧ (if ((gi M b11373 ((gi M a0 1)).toNatClampNeg) &&& (255 : Int32)) = (10 : Int32) then (Z E YX10_space (d + 1) M [(0, vr (some (a0, 9, 0)))] 0 [] Q) else (16 ≤ a0 ∧ (Z E YX10_space (d + 1) (si M a0 1 ((gi M a0 1) + (1 : Int32))) [(0, vr (some (a0, 9, 0)))] 91 [] Q))))))) : Z E YX10_space (d + 1) M [(0, vr (some (a0, 9, 0)))] 91 [] Q := by
  refine sX10_space_91 (d := d) M a0 ?_
  obtain ⟨b11371, h11371, k⟩ := k
  refine ⟨b11371, h11371, ?_⟩
  refine zite k (fun h11372 k => ?_) (fun h11372 k => ?_)
  · exact k
  · refine jX10_sign (d := d) M _ (gi M a0 1) ?_
    refine ⟨b11371, h11371, ?_⟩
    refine zneg h11372 ?_
    obtain ⟨b11373, m11373, h11373, k⟩ := k
    refine ⟨b11373, m11373, h11373, ?_⟩
    refine zand k (fun h11374 k => ?_)
    show Z E YX10_space (d + 1) M [(0, vr (some (a0, 9, 0)))] 113 [vi ((gi M b11373 ((gi M a0 1)).toNatClampNeg) &&& (255 : Int32))] Q
    refine sX10_space_113 (d := d) M _ ((gi M b11373 ((gi M a0 1)).toNatClampNeg) &&& (255 : Int32)) ?_
    exact k
theorem iX10_string_7 {E : zE} {d : Nat} {Q : zO → zM → Prop} (M : zM) (a0 : Nat) (l1 : Int32) (k : 16 ≤ a0 ∧ (Z E YX10_string (d + 1) (si (si M a0 1 ((gi M a0 1) + (1 : Int32))) a0 3 (4 : Int32)) [(0, vr (some (a0, 9, 0))), (1, vi l1), (2, vi (0 : Int32))] 24 [] Q)) : Z E YX10_string (d + 1) M [(0, vr (some (a0, 9, 0))), (1, vi l1)] 7 [] Q := by
  refine sX10_string_7 (d := d) M a0 l1 ?_
  refine zand k (fun h11378 k => ?_)
  refine ⟨h11378, ?_⟩
  exact k
theorem iX10_string_216 {E : zE} {d : Nat} {Q : zO → zM → Prop} (M : zM) (a0 : Nat) (l2 : Int32) (k : ∃ b11409 : Nat, (gr M a0 0) = some (b11409, 0, 0) ∧ (if (gi M b11409 5) ≤ (gi M a0 1) then (16 ≤ a0 ∧ (if (gi (si (si M a0 3 (6 : Int32)) a0 1 ((gi (si M a0 3 (6 : Int32)) a0 1) + (1 : Int32))) a0 3) = (4 : Int32) then (Z E YX10_name d (si (si M a0 3 (6 : Int32)) a0 1 ((gi (si M a0 3 (6 : Int32)) a0 1) + (1 : Int32))) (zargs 0 [vr (some (a0, 9, 0))]) 0 [] (zafter E YX10_string (d + 1) [] 262 3 [vr (some (a0, 9, 0))] Q)) else (Q (.inl none) (si (si M a0 3 (6 : Int32)) a0 1 ((gi (si M a0 3 (6 : Int32)) a0 1) + (1 : Int32)))))) else (if l2 ≤ (40 : Int32) then (16 ≤ a0 ∧ (if (gi (si M a0 1 ((gi M a0 1) + (1 : Int32))) a0 3) = (4 : Int32) then (Z E YX10_name d (si M a0 1 ((gi M a0 1) + (1 : Int32))) (zargs 0 [vr (some (a0, 9, 0))]) 0 [] (zafter E YX10_string (d + 1) [] 262 3 [vr (some (a0, 9, 0))] Q)) else (Q (.inl none) (si M a0 1 ((gi M a0 1) + (1 : Int32)))))) else (16 ≤ a0 ∧ (if (gi (si (si M a0 3 (6 : Int32)) a0 1 ((gi (si M a0 3 (6 : Int32)) a0 1) + (1 : Int32))) a0 3) = (4 : Int32) then (Z E YX10_name d (si (si M a0 3 (6 : Int32)) a0 1 ((gi (si M a0 3 (6 : Int32)) a0 1) + (1 : Int32))) (zargs 0 [vr (some (a0, 9, 0))]) 0 [] (zafter E YX10_string (d + 1) [] 262 3 [vr (some (a0, 9, 0))] Q)) else (Q (.inl none) (si (si M a0 3 (6 : Int32)) a0 1 ((gi (si M a0 3 (6 : Int32)) a0 1) + (1 : Int32))))))))) : Z E YX10_string (d + 1) M [(0, vr (some (a0, 9, 0))), (2, vi l2)] 216 [] Q := by
  refine sX10_string_216 (d := d) M a0 l2 ?_
  obtain ⟨b11409, h11409, k⟩ := k
  refine ⟨b11409, h11409, ?_⟩
  refine zite k (fun h11410 k => ?_) (fun h11410 k => ?_)
  · refine zand k (fun h11411 k => ?_)
    refine sX10_string_242 (d := d) (si M a0 3 (6 : Int32)) _ ?_
    refine ⟨h11411, ?_⟩
    exact k
  · refine zite k (fun h11413 k => ?_) (fun h11413 k => ?_)
    · refine sX10_string_242 (d := d) M _ ?_
      exact k
    · refine zand k (fun h11416 k => ?_)
      refine sX10_string_242 (d := d) (si M a0 3 (6 : Int32)) _ ?_
      refine ⟨h11416, ?_⟩
      exact k
theorem iX10_string_46 {E : zE} {d : Nat} {Q : zO → zM → Prop} (M : zM) (a0 : Nat) (l1 : Int32) (l2 : Int32) (s0 : Int32) (k : if s0 = l1 then (Z E YX10_string (d + 1) M [(0, vr (some (a0, 9, 0))), (2, vi l2)] 216 [] Q) else (16 ≤ a0 ∧ (∃ b11420 : Nat, (gr M a0 0) = some (b11420, 0, 0) ∧ (if (gi (si M a0 1 ((gi M a0 1) + (1 : Int32))) b11420 5) ≤ (gi M a0 1) then (Z E YX1_write d (si (si M a0 1 ((gi M a0 1) + (1 : Int32))) a0 3 (6 : Int32)) (zargs 0 [vr (some (b11420, 0, 0)), vi (0 : Int32)]) 0 [] (zafter E YX10_string (d + 1) [(0, vr (some (a0, 9, 0))), (1, vi l1), (2, vi (l2 + (1 : Int32)))] 200 3 [] Q)) else (∃ b11422 m11422 : Nat, (gr M b11420 4) = some (b11422, 101, m11422) ∧ (vp_in (gi M a0 1) m11422 ∧ (if ((gi (si M a0 1 ((gi M a0 1) + (1 : Int32))) b11422 ((gi M a0 1)).toNatClampNeg) &&& (255 : Int32)) = (92 : Int32) then (if (gi (si (si M a0 1 ((gi M a0 1) + (1 : Int32))) a0 1 ((gi (si M a0 1 ((gi M a0 1) + (1 : Int32))) a0 1) + (1 : Int32))) b11420 5) ≤ (gi (si M a0 1 ((gi M a0 1) + (1 : Int32))) a0 1) then (Z E YX10_string (d + 1) (si (si M a0 1 ((gi M a0 1) + (1 : Int32))) a0 1 ((gi (si M a0 1 ((gi M a0 1) + (1 : Int32))) a0 1) + (1 : Int32))) [(0, vr (some (a0, 9, 0))), (1, vi l1), (2, vi l2), (4, vi (0 : Int32))] 115 [vi (0 : Int32)] Q) else (vp_in (gi (si M a0 1 ((gi M a0 1) + (1 : Int32))) a0 1) m11422 ∧ (if ((gi (si (si M a0 1 ((gi M a0 1) + (1 : Int32))) a0 1 ((gi (si M a0 1 ((gi M a0 1) + (1 : Int32))) a0 1) + (1 : Int32))) b11422 ((gi (si M a0 1 ((gi M a0 1) + (1 : Int32))) a0 1)).toNatClampNeg) &&& (255 : Int32)) = (110 : Int32) then (Z E YX10_string (d + 1) (si (si M a0 1 ((gi M a0 1) + (1 : Int32))) a0 1 ((gi (si M a0 1 ((gi M a0 1) + (1 : Int32))) a0 1) + (1 : Int32))) [(0, vr (some (a0, 9, 0))), (1, vi l1), (2, vi l2), (4, vi ((gi (si (si M a0 1 ((gi M a0 1) + (1 : Int32))) a0 1 ((gi (si M a0 1 ((gi M a0 1) + (1 : Int32))) a0 1) + (1 : Int32))) b11422 ((gi (si M a0 1 ((gi M a0 1) + (1 : Int32))) a0 1)).toNatClampNeg) &&& (255 : Int32)))] 115 [vi (10 : Int32)] Q) else (if ((gi (si (si M a0 1 ((gi M a0 1) + (1 : Int32))) a0 1 ((gi (si M a0 1 ((gi M a0 1) + (1 : Int32))) a0 1) + (1 : Int32))) b11422 ((gi (si M a0 1 ((gi M a0 1) + (1 : Int32))) a0 1)).toNatClampNeg) &&& (255 : Int32)) = (116 : Int32) then (Z E YX10_string (d + 1) (si (si M a0 1 ((gi M a0 1) + (1 : Int32))) a0 1 ((gi (si M a0 1 ((gi M a0 1) + (1 : Int32))) a0 1) + (1 : Int32))) [(0, vr (some (a0, 9, 0))), (1, vi l1), (2, vi l2), (4, vi ((gi (si (si M a0 1 ((gi M a0 1) + (1 : Int32))) a0 1 ((gi (si M a0 1 ((gi M a0 1) + (1 : Int32))) a0 1) + (1 : Int32))) b11422 ((gi (si M a0 1 ((gi M a0 1) + (1 : Int32))) a0 1)).toNatClampNeg) &&& (255 : Int32)))] 115 [vi (9 : Int32)] Q) else (Z E YX10_string (d + 1) (si (si M a0 1 ((gi M a0 1) + (1 : Int32))) a0 1 ((gi (si M a0 1 ((gi M a0 1) + (1 : Int32))) a0 1) + (1 : Int32))) [(0, vr (some (a0, 9, 0))), (1, vi l1), (2, vi l2), (4, vi ((gi (si (si M a0 1 ((gi M a0 1) + (1 : Int32))) a0 1 ((gi (si M a0 1 ((gi M a0 1) + (1 : Int32))) a0 1) + (1 : Int32))) b11422 ((gi (si M a0 1 ((gi M a0 1) + (1 : Int32))) a0 1)).toNatClampNeg) &&& (255 : Int32)))] 115 [vi ((gi (si (si M a0 1 ((gi M a0 1) + (1 : Int32))) a0 1 ((gi (si M a0 1 ((gi M a0 1) + (1 : Int32))) a0 1) + (1 : Int32))) b11422 ((gi (si M a0 1 ((gi M a0 1) + (1 : Int32))) a0 1)).toNatClampNeg) &&& (255 : Int32))] Q))))) else (if ((gi (si M a0 1 ((gi M a0 1) + (1 : Int32))) b11422 ((gi M a0 1)).toNatClampNeg) &&& (255 : Int32)) < (32 : Int32) then (Z E YX1_write d (si (si M a0 1 ((gi M a0 1) + (1 : Int32))) a0 3 (6 : Int32)) (zargs 0 [vr (some (b11420, 0, 0)), vi ((gi (si M a0 1 ((gi M a0 1) + (1 : Int32))) b11422 ((gi M a0 1)).toNatClampNeg) &&& (255 : Int32))]) 0 [] (zafter E YX10_string (d + 1) [(0, vr (some (a0, 9, 0))), (1, vi l1), (2, vi (l2 + (1 : Int32)))] 200 3 [] Q)) else (if ((gi (si M a0 1 ((gi M a0 1) + (1 : Int32))) b11422 ((gi M a0 1)).toNatClampNeg) &&& (255 : Int32)) ≤ (126 : Int32) then (Z E YX1_write d (si M a0 1 ((gi M a0 1) + (1 : Int32))) (zargs 0 [vr (some (b11420, 0, 0)), vi ((gi (si M a0 1 ((gi M a0 1) + (1 : Int32))) b11422 ((gi M a0 1)).toNatClampNeg) &&& (255 : Int32))]) 0 [] (zafter E YX10_string (d + 1) [(0, vr (some (a0, 9, 0))), (1, vi l1), (2, vi (l2 + (1 : Int32)))] 200 3 [] Q)) else (Z E YX1_write d (si (si M a0 1 ((gi M a0 1) + (1 : Int32))) a0 3 (6 : Int32)) (zargs 0 [vr (some (b11420, 0, 0)), vi ((gi (si M a0 1 ((gi M a0 1) + (1 : Int32))) b11422 ((gi M a0 1)).toNatClampNeg) &&& (255 : Int32))]) 0 [] (zafter E YX10_string (d + 1) [(0, vr (some (a0, 9, 0))), (1, vi l1), (2, vi (l2 + (1 : Int32)))] 200 3 [] Q))))))))))) : Z E YX10_string (d + 1) M [(0, vr (some (a0, 9, 0))), (1, vi l1), (2, vi l2)] 46 [vi s0] Q := by
  refine sX10_string_46 (d := d) M a0 l1 l2 s0 ?_
  refine zite k (fun h11418 k => ?_) (fun h11418 k => ?_)
  · exact k
  · refine zand k (fun h11419 k => ?_)
    refine jX10_sign (d := d) (si M a0 1 ((gi M a0 1) + (1 : Int32))) _ (gi M a0 1) ?_
    obtain ⟨b11420, h11420, k⟩ := k
    refine ⟨b11420, h11420, ?_⟩
    refine zite k (fun h11421 k => ?_) (fun h11421 k => ?_)
    · show Z E YX10_string (d + 1) (si M a0 1 ((gi M a0 1) + (1 : Int32))) [(0, vr (some (a0, 9, 0))), (1, vi l1), (2, vi l2)] 65 [vi (0 : Int32)] Q
      refine sX10_string_65 (d := d) (si M a0 1 ((gi M a0 1) + (1 : Int32))) _ l1 l2 (0 : Int32) ?_
      refine zneg (show ¬ ((0 : Int32) = (92 : Int32)) from by decide) ?_
      refine zpos (show (0 : Int32) < (32 : Int32) from by decide) ?_
      refine sX10_string_186 (d := d) (si M a0 1 ((gi M a0 1) + (1 : Int32))) _ l1 l2 (0 : Int32) ?_
      refine ⟨h11419, ?_⟩
      refine ⟨b11420, h11420, ?_⟩
      exact k
    · obtain ⟨b11422, m11422, h11422, k⟩ := k
      refine ⟨b11422, m11422, h11422, ?_⟩
      refine zand k (fun h11423 k => ?_)
      show Z E YX10_string (d + 1) (si M a0 1 ((gi M a0 1) + (1 : Int32))) [(0, vr (some (a0, 9, 0))), (1, vi l1), (2, vi l2)] 65 [vi ((gi (si M a0 1 ((gi M a0 1) + (1 : Int32))) b11422 ((gi M a0 1)).toNatClampNeg) &&& (255 : Int32))] Q
      refine sX10_string_65 (d := d) (si M a0 1 ((gi M a0 1) + (1 : Int32))) _ l1 l2 ((gi (si M a0 1 ((gi M a0 1) + (1 : Int32))) b11422 ((gi M a0 1)).toNatClampNeg) &&& (255 : Int32)) ?_
      refine zite k (fun h11424 k => ?_) (fun h11424 k => ?_)
      · refine ⟨h11419, ?_⟩
        refine jX10_sign (d := d) (si (si M a0 1 ((gi M a0 1) + (1 : Int32))) a0 1 ((gi (si M a0 1 ((gi M a0 1) + (1 : Int32))) a0 1) + (1 : Int32))) _ (gi (si M a0 1 ((gi M a0 1) + (1 : Int32))) a0 1) ?_
        refine ⟨b11420, h11420, ?_⟩
        refine zite k (fun h11425 k => ?_) (fun h11425 k => ?_)
        · show Z E YX10_string (d + 1) (si (si M a0 1 ((gi M a0 1) + (1 : Int32))) a0 1 ((gi (si M a0 1 ((gi M a0 1) + (1 : Int32))) a0 1) + (1 : Int32))) [(0, vr (some (a0, 9, 0))), (1, vi l1), (2, vi l2)] 87 [vi (0 : Int32)] Q
          refine sX10_string_87 (d := d) (si (si M a0 1 ((gi M a0 1) + (1 : Int32))) a0 1 ((gi (si M a0 1 ((gi M a0 1) + (1 : Int32))) a0 1) + (1 : Int32))) _ l1 l2 (0 : Int32) ?_
          refine zneg (show ¬ ((0 : Int32) = (110 : Int32)) from by decide) ?_
          refine zneg (show ¬ ((0 : Int32) = (116 : Int32)) from by decide) ?_
          exact k
        · refine ⟨b11422, m11422, h11422, ?_⟩
          refine zand k (fun h11426 k => ?_)
          show Z E YX10_string (d + 1) (si (si M a0 1 ((gi M a0 1) + (1 : Int32))) a0 1 ((gi (si M a0 1 ((gi M a0 1) + (1 : Int32))) a0 1) + (1 : Int32))) [(0, vr (some (a0, 9, 0))), (1, vi l1), (2, vi l2)] 87 [vi ((gi (si (si M a0 1 ((gi M a0 1) + (1 : Int32))) a0 1 ((gi (si M a0 1 ((gi M a0 1) + (1 : Int32))) a0 1) + (1 : Int32))) b11422 ((gi (si M a0 1 ((gi M a0 1) + (1 : Int32))) a0 1)).toNatClampNeg) &&& (255 : Int32))] Q
          refine sX10_string_87 (d := d) (si (si M a0 1 ((gi M a0 1) + (1 : Int32))) a0 1 ((gi (si M a0 1 ((gi M a0 1) + (1 : Int32))) a0 1) + (1 : Int32))) _ l1 l2 ((gi (si (si M a0 1 ((gi M a0 1) + (1 : Int32))) a0 1 ((gi (si M a0 1 ((gi M a0 1) + (1 : Int32))) a0 1) + (1 : Int32))) b11422 ((gi (si M a0 1 ((gi M a0 1) + (1 : Int32))) a0 1)).toNatClampNeg) &&& (255 : Int32)) ?_
          exact k
      · refine zite k (fun h11429 k => ?_) (fun h11429 k => ?_)
        · refine sX10_string_186 (d := d) (si M a0 1 ((gi M a0 1) + (1 : Int32))) _ l1 l2 ((gi (si M a0 1 ((gi M a0 1) + (1 : Int32))) b11422 ((gi M a0 1)).toNatClampNeg) &&& (255 : Int32)) ?_
          refine ⟨h11419, ?_⟩
          refine ⟨b11420, h11420, ?_⟩
          exact k
        · refine zite k (fun h11430 k => ?_) (fun h11430 k => ?_)
          · refine ⟨b11420, h11420, ?_⟩
            exact k
          · refine sX10_string_186 (d := d) (si M a0 1 ((gi M a0 1) + (1 : Int32))) _ l1 l2 ((gi (si M a0 1 ((gi M a0 1) + (1 : Int32))) b11422 ((gi M a0 1)).toNatClampNeg) &&& (255 : Int32)) ?_
            refine ⟨h11419, ?_⟩
            refine ⟨b11420, h11420, ?_⟩
            exact k
theorem iX10_string_115 {E : zE} {d : Nat} {Q : zO → zM → Prop} (M : zM) (a0 : Nat) (l1 : Int32) (l2 : Int32) (l4 : Int32) (s0 : Int32) (k : ∃ b11433 : Nat, (gr M a0 0) = some (b11433, 0, 0) ∧ (if (gi M b11433 5) < (gi M a0 1) then (16 ≤ a0 ∧ (Z E YX1_write d (si M a0 3 (6 : Int32)) (zargs 0 [vr (some (b11433, 0, 0)), vi s0]) 0 [] (zafter E YX10_string (d + 1) [(0, vr (some (a0, 9, 0))), (1, vi l1), (2, vi (l2 + (1 : Int32)))] 200 3 [] Q))) else (if l4 = (110 : Int32) then (Z E YX1_write d M (zargs 0 [vr (some (b11433, 0, 0)), vi s0]) 0 [] (zafter E YX10_string (d + 1) [(0, vr (some (a0, 9, 0))), (1, vi l1), (2, vi (l2 + (1 : Int32)))] 200 3 [] Q)) else (if l4 = (116 : Int32) then (Z E YX1_write d M (zargs 0 [vr (some (b11433, 0, 0)), vi s0]) 0 [] (zafter E YX10_string (d + 1) [(0, vr (some (a0, 9, 0))), (1, vi l1), (2, vi (l2 + (1 : Int32)))] 200 3 [] Q)) else (if l4 = (92 : Int32) then (Z E YX1_write d M (zargs 0 [vr (some (b11433, 0, 0)), vi s0]) 0 [] (zafter E YX10_string (d + 1) [(0, vr (some (a0, 9, 0))), (1, vi l1), (2, vi (l2 + (1 : Int32)))] 200 3 [] Q)) else (if l4 = (39 : Int32) then (Z E YX1_write d M (zargs 0 [vr (some (b11433, 0, 0)), vi s0]) 0 [] (zafter E YX10_string (d + 1) [(0, vr (some (a0, 9, 0))), (1, vi l1), (2, vi (l2 + (1 : Int32)))] 200 3 [] Q)) else (if l4 = (34 : Int32) then (Z E YX1_write d M (zargs 0 [vr (some (b11433, 0, 0)), vi s0]) 0 [] (zafter E YX10_string (d + 1) [(0, vr (some (a0, 9, 0))), (1, vi l1), (2, vi (l2 + (1 : Int32)))] 200 3 [] Q)) else (16 ≤ a0 ∧ (Z E YX1_write d (si M a0 3 (6 : Int32)) (zargs 0 [vr (some (b11433, 0, 0)), vi s0]) 0 [] (zafter E YX10_string (d + 1) [(0, vr (some (a0, 9, 0))), (1, vi l1), (2, vi (l2 + (1 : Int32)))] 200 3 [] Q)))))))))) : Z E YX10_string (d + 1) M [(0, vr (some (a0, 9, 0))), (1, vi l1), (2, vi l2), (4, vi l4)] 115 [vi s0] Q := by
  refine sX10_string_115 (d := d) M a0 l1 l2 l4 s0 ?_
  obtain ⟨b11433, h11433, k⟩ := k
  refine ⟨b11433, h11433, ?_⟩
  refine zite k (fun h11434 k => ?_) (fun h11434 k => ?_)
  · refine sX10_string_165 (d := d) M _ l1 l2 s0 ?_
    refine zand k (fun h11435 k => ?_)
    refine ⟨b11433, h11433, ?_⟩
    exact k
  · refine zite k (fun h11436 k => ?_) (fun h11436 k => ?_)
    · refine ⟨b11433, h11433, ?_⟩
      exact k
    · refine zite k (fun h11437 k => ?_) (fun h11437 k => ?_)
      · refine ⟨b11433, h11433, ?_⟩
        exact k
      · refine zite k (fun h11438 k => ?_) (fun h11438 k => ?_)
        · refine ⟨b11433, h11433, ?_⟩
          exact k
        · refine zite k (fun h11439 k => ?_) (fun h11439 k => ?_)
          · refine ⟨b11433, h11433, ?_⟩
            exact k
          · refine zite k (fun h11440 k => ?_) (fun h11440 k => ?_)
            · refine ⟨b11433, h11433, ?_⟩
              exact k
            · refine sX10_string_165 (d := d) M _ l1 l2 s0 ?_
              refine zand k (fun h11441 k => ?_)
              refine ⟨b11433, h11433, ?_⟩
              exact k
theorem iX10_takes_0 {E : zE} {d : Nat} {Q : zO → zM → Prop} (M : zM) (a0 : Nat) (l1 : Int32) (k : if (gi M a0 3) = (5 : Int32) then (if (gi M a0 6) = l1 then (Z E YX10_next d M (zargs 0 [vr (some (a0, 9, 0))]) 0 [] (zafter E YX10_takes (d + 1) [] 11 3 [] Q)) else (Q (.inl (some (vi (0 : Int32)))) M)) else (Q (.inl (some (vi (0 : Int32)))) M)) : Z E YX10_takes (d + 1) M [(0, vr (some (a0, 9, 0))), (1, vi l1)] 0 [] Q := by
  refine sX10_takes_0 (d := d) M a0 l1 ?_
  refine sX10_is_0 (d := d) M _ l1 ?_
  refine zite k (fun h11442 k => ?_) (fun h11442 k => ?_)
  · refine zite k (fun h11443 k => ?_) (fun h11443 k => ?_)
    · show Z E YX10_takes (d + 1) M [(0, vr (some (a0, 9, 0)))] 5 [vi (1 : Int32)] Q
      refine sX10_takes_5 (d := d) M _ (1 : Int32) ?_
      refine zneg (show ¬ ((1 : Int32) = 0) from by decide) ?_
      exact k
    · show Z E YX10_takes (d + 1) M [(0, vr (some (a0, 9, 0)))] 5 [vi (0 : Int32)] Q
      refine sX10_takes_5 (d := d) M _ (0 : Int32) ?_
      refine zpos (show (0 : Int32) = 0 from by decide) ?_
      exact k
  · show Z E YX10_takes (d + 1) M [(0, vr (some (a0, 9, 0)))] 5 [vi (0 : Int32)] Q
    refine sX10_takes_5 (d := d) M _ (0 : Int32) ?_
    refine zpos (show (0 : Int32) = 0 from by decide) ?_
    exact k
theorem iX10_takesWord_0 {E : zE} {d : Nat} {Q : zO → zM → Prop} (M : zM) (a0 : Nat) (l1 : Int32) (k : if (gi M a0 3) = (2 : Int32) then (if (gi M a0 6) = l1 then (Z E YX10_next d M (zargs 0 [vr (some (a0, 9, 0))]) 0 [] (zafter E YX10_takesWord (d + 1) [] 11 3 [] Q)) else (Q (.inl (some (vi (0 : Int32)))) M)) else (Q (.inl (some (vi (0 : Int32)))) M)) : Z E YX10_takesWord (d + 1) M [(0, vr (some (a0, 9, 0))), (1, vi l1)] 0 [] Q := by
  refine sX10_takesWord_0 (d := d) M a0 l1 ?_
  refine sX10_isWord_0 (d := d) M _ l1 ?_
  refine zite k (fun h11444 k => ?_) (fun h11444 k => ?_)
  · refine zite k (fun h11445 k => ?_) (fun h11445 k => ?_)
    · show Z E YX10_takesWord (d + 1) M [(0, vr (some (a0, 9, 0)))] 5 [vi (1 : Int32)] Q
      refine sX10_takesWord_5 (d := d) M _ (1 : Int32) ?_
      refine zneg (show ¬ ((1 : Int32) = 0) from by decide) ?_
      exact k
    · show Z E YX10_takesWord (d + 1) M [(0, vr (some (a0, 9, 0)))] 5 [vi (0 : Int32)] Q
      refine sX10_takesWord_5 (d := d) M _ (0 : Int32) ?_
      refine zpos (show (0 : Int32) = 0 from by decide) ?_
      exact k
  · show Z E YX10_takesWord (d + 1) M [(0, vr (some (a0, 9, 0)))] 5 [vi (0 : Int32)] Q
    refine sX10_takesWord_5 (d := d) M _ (0 : Int32) ?_
    refine zpos (show (0 : Int32) = 0 from by decide) ?_
    exact k
theorem iX10_word_7 {E : zE} {d : Nat} {Q : zO → zM → Prop} (M : zM) (a0 : Nat) (k : ∃ b11447 : Nat, (gr M a0 0) = some (b11447, 0, 0) ∧ (if (gi M b11447 5) ≤ (gi M a0 1) then (∃ b11449 : Nat, (gr M b11447 6) = some (b11449, 2, 0) ∧ (Z E YX2_find d M (zargs 0 [vr (some (b11449, 2, 0)), vr (gr M b11447 2), vi (gi M b11447 3)]) 0 [] (zafter E YX10_word (d + 1) [(0, vr (some (a0, 9, 0)))] 82 3 [vr (some (a0, 9, 0))] Q))) else (∃ b11450 m11450 : Nat, (gr M b11447 4) = some (b11450, 101, m11450) ∧ (vp_in (gi M a0 1) m11450 ∧ (Z E YX1_inner d M (zargs 0 [vi ((gi M b11450 ((gi M a0 1)).toNatClampNeg) &&& (255 : Int32))]) 0 [] (zafter E YX10_word (d + 1) [(0, vr (some (a0, 9, 0)))] 29 3 [] Q)))))) : Z E YX10_word (d + 1) M [(0, vr (some (a0, 9, 0)))] 7 [] Q := by
  refine sX10_word_7 (d := d) M a0 ?_
  obtain ⟨b11447, h11447, k⟩ := k
  refine ⟨b11447, h11447, ?_⟩
  refine zite k (fun h11448 k => ?_) (fun h11448 k => ?_)
  · refine sX10_word_60 (d := d) M _ ?_
    refine ⟨b11447, h11447, ?_⟩
    refine ⟨b11447, h11447, ?_⟩
    refine ⟨b11447, h11447, ?_⟩
    exact k
  · refine jX10_sign (d := d) M _ (gi M a0 1) ?_
    refine ⟨b11447, h11447, ?_⟩
    refine zneg h11448 ?_
    obtain ⟨b11450, m11450, h11450, k⟩ := k
    refine ⟨b11450, m11450, h11450, ?_⟩
    refine zand k (fun h11451 k => ?_)
    show Z E YX10_word (d + 1) M [(0, vr (some (a0, 9, 0)))] 29 [vi ((gi M b11450 ((gi M a0 1)).toNatClampNeg) &&& (255 : Int32))] Q
    refine sX10_word_29 (d := d) M _ ((gi M b11450 ((gi M a0 1)).toNatClampNeg) &&& (255 : Int32)) ?_
    exact k
theorem iX10_word_85 {E : zE} {d : Nat} {Q : zO → zM → Prop} (M : zM) (a0 : Nat) (s0 : Int32) (k : 16 ≤ a0 ∧ (if (gi (si M a0 6 s0) a0 6) = (-1 : Int32) then (∃ b11454 : Nat, (gr M a0 0) = some (b11454, 0, 0) ∧ (if (gi (si M a0 6 s0) b11454 3) ≤ (16 : Int32) then (if (gi (si (si M a0 6 s0) a0 3 (1 : Int32)) a0 3) = (1 : Int32) then (Z E YX10_name d (si (si M a0 6 s0) a0 3 (1 : Int32)) (zargs 0 [vr (some (a0, 9, 0))]) 0 [] (zafter E YX10_word (d + 1) [] 132 3 [vr (some (a0, 9, 0))] Q)) else (Q (.inl none) (si (si M a0 6 s0) a0 3 (1 : Int32)))) else (if (gi (si (si M a0 6 s0) a0 3 (6 : Int32)) a0 3) = (1 : Int32) then (Z E YX10_name d (si (si M a0 6 s0) a0 3 (6 : Int32)) (zargs 0 [vr (some (a0, 9, 0))]) 0 [] (zafter E YX10_word (d + 1) [] 132 3 [vr (some (a0, 9, 0))] Q)) else (Q (.inl none) (si (si M a0 6 s0) a0 3 (6 : Int32)))))) else (if (gi (si (si M a0 6 s0) a0 3 (2 : Int32)) a0 3) = (1 : Int32) then (Z E YX10_name d (si (si M a0 6 s0) a0 3 (2 : Int32)) (zargs 0 [vr (some (a0, 9, 0))]) 0 [] (zafter E YX10_word (d + 1) [] 132 3 [vr (some (a0, 9, 0))] Q)) else (Q (.inl none) (si (si M a0 6 s0) a0 3 (2 : Int32)))))) : Z E YX10_word (d + 1) M [(0, vr (some (a0, 9, 0)))] 85 [vi s0, vr (some (a0, 9, 0))] Q := by
  refine sX10_word_85 (d := d) M a0 s0 ?_
  refine zand k (fun h11452 k => ?_)
  refine zite k (fun h11453 k => ?_) (fun h11453 k => ?_)
  · obtain ⟨b11454, h11454, k⟩ := k
    refine ⟨b11454, h11454, ?_⟩
    refine zite k (fun h11455 k => ?_) (fun h11455 k => ?_)
    · refine sX10_word_119 (d := d) (si M a0 6 s0) _ (1 : Int32) ?_
      refine ⟨h11452, ?_⟩
      exact k
    · refine sX10_word_119 (d := d) (si M a0 6 s0) _ (6 : Int32) ?_
      refine ⟨h11452, ?_⟩
      exact k
  · refine sX10_word_119 (d := d) (si M a0 6 s0) _ (2 : Int32) ?_
    refine ⟨h11452, ?_⟩
    exact k
theorem iX10_word_32 {E : zE} {d : Nat} {Q : zO → zM → Prop} (M : zM) (a0 : Nat) (s0 : Int32) (k : if s0 = 0 then (∃ b11460 : Nat, (gr M a0 0) = some (b11460, 0, 0) ∧ (∃ b11461 : Nat, (gr M b11460 6) = some (b11461, 2, 0) ∧ (Z E YX2_find d M (zargs 0 [vr (some (b11461, 2, 0)), vr (gr M b11460 2), vi (gi M b11460 3)]) 0 [] (zafter E YX10_word (d + 1) [(0, vr (some (a0, 9, 0)))] 82 3 [vr (some (a0, 9, 0))] Q)))) else (16 ≤ a0 ∧ (∃ b11463 : Nat, (gr M a0 0) = some (b11463, 0, 0) ∧ (if (gi (si M a0 1 ((gi M a0 1) + (1 : Int32))) b11463 5) ≤ (gi M a0 1) then (Z E YX1_write d (si M a0 1 ((gi M a0 1) + (1 : Int32))) (zargs 0 [vr (some (b11463, 0, 0)), vi (0 : Int32)]) 0 [] (zafter E YX10_word (d + 1) [(0, vr (some (a0, 9, 0)))] 54 3 [] Q)) else (∃ b11465 m11465 : Nat, (gr M b11463 4) = some (b11465, 101, m11465) ∧ (vp_in (gi M a0 1) m11465 ∧ (Z E YX1_write d (si M a0 1 ((gi M a0 1) + (1 : Int32))) (zargs 0 [vr (some (b11463, 0, 0)), vi ((gi (si M a0 1 ((gi M a0 1) + (1 : Int32))) b11465 ((gi M a0 1)).toNatClampNeg) &&& (255 : Int32))]) 0 [] (zafter E YX10_word (d + 1) [(0, vr (some (a0, 9, 0)))] 54 3 [] Q)))))))) : Z E YX10_word (d + 1) M [(0, vr (some (a0, 9, 0)))] 32 [vi s0] Q := by
  refine sX10_word_32 (d := d) M a0 s0 ?_
  refine zite k (fun h11459 k => ?_) (fun h11459 k => ?_)
  · refine sX10_word_60 (d := d) M _ ?_
    obtain ⟨b11460, h11460, k⟩ := k
    refine ⟨b11460, h11460, ?_⟩
    refine ⟨b11460, h11460, ?_⟩
    refine ⟨b11460, h11460, ?_⟩
    exact k
  · refine zand k (fun h11462 k => ?_)
    refine jX10_sign (d := d) (si M a0 1 ((gi M a0 1) + (1 : Int32))) _ (gi M a0 1) ?_
    obtain ⟨b11463, h11463, k⟩ := k
    refine ⟨b11463, h11463, ?_⟩
    refine zite k (fun h11464 k => ?_) (fun h11464 k => ?_)
    · show Z E YX10_word (d + 1) (si M a0 1 ((gi M a0 1) + (1 : Int32))) [(0, vr (some (a0, 9, 0)))] 54 [vi (0 : Int32), vr (gr M a0 0)] Q
      refine sX10_word_54 (d := d) (si M a0 1 ((gi M a0 1) + (1 : Int32))) _ (0 : Int32) (gr M a0 0) ?_
      refine ⟨b11463, h11463, ?_⟩
      exact k
    · obtain ⟨b11465, m11465, h11465, k⟩ := k
      refine ⟨b11465, m11465, h11465, ?_⟩
      refine zand k (fun h11466 k => ?_)
      show Z E YX10_word (d + 1) (si M a0 1 ((gi M a0 1) + (1 : Int32))) [(0, vr (some (a0, 9, 0)))] 54 [vi ((gi (si M a0 1 ((gi M a0 1) + (1 : Int32))) b11465 ((gi M a0 1)).toNatClampNeg) &&& (255 : Int32)), vr (gr M a0 0)] Q
      refine sX10_word_54 (d := d) (si M a0 1 ((gi M a0 1) + (1 : Int32))) _ ((gi (si M a0 1 ((gi M a0 1) + (1 : Int32))) b11465 ((gi M a0 1)).toNatClampNeg) &&& (255 : Int32)) (gr M a0 0) ?_
      refine ⟨b11463, h11463, ?_⟩
      exact k
theorem iX9_ahead_0 {E : zE} {d : Nat} {Q : zO → zM → Prop} (M : zM) (a0 : Nat) (k : ∃ b11468 : Nat, (gr M a0 1) = some (b11468, 9, 0) ∧ (if (gi M b11468 3) = (2 : Int32) then (if (gi M b11468 6) = (24 : Int32) then (Q (.inl (some (vi (4 : Int32)))) M) else (if (gi M b11468 6) = (27 : Int32) then (Q (.inl (some (vi (5 : Int32)))) M) else (if (gi M b11468 6) = (5 : Int32) then (Q (.inl (some (vi (6 : Int32)))) M) else (Q (.inl (some (vi (-1 : Int32)))) M)))) else (if (gi M b11468 3) = (5 : Int32) then (if (gi M b11468 6) = (17 : Int32) then (Q (.inl (some (vi (0 : Int32)))) M) else (if (gi M b11468 6) = (18 : Int32) then (Q (.inl (some (vi (1 : Int32)))) M) else (if (gi M b11468 6) = (31 : Int32) then (Q (.inl (some (vi (2 : Int32)))) M) else (if (gi M b11468 6) = (30 : Int32) then (Q (.inl (some (vi (3 : Int32)))) M) else (if (gi M b11468 6) = (22 : Int32) then (Q (.inl (some (vi (7 : Int32)))) M) else (if (gi M b11468 6) = (23 : Int32) then (Q (.inl (some (vi (8 : Int32)))) M) else (Q (.inl (some (vi (-1 : Int32)))) M))))))) else (Q (.inl (some (vi (-1 : Int32)))) M)))) : Z E YX9_ahead d M [(0, vr (some (a0, 8, 0)))] 0 [] Q := by
  refine sX9_ahead_0 (d := d) M a0 ?_
  obtain ⟨b11468, h11468, k⟩ := k
  refine ⟨b11468, h11468, ?_⟩
  refine zite k (fun h11469 k => ?_) (fun h11469 k => ?_)
  · refine ⟨b11468, h11468, ?_⟩
    refine zite k (fun h11470 k => ?_) (fun h11470 k => ?_)
    · exact k
    · refine ⟨b11468, h11468, ?_⟩
      refine zite k (fun h11471 k => ?_) (fun h11471 k => ?_)
      · exact k
      · refine ⟨b11468, h11468, ?_⟩
        exact k
  · refine ⟨b11468, h11468, ?_⟩
    refine zite k (fun h11473 k => ?_) (fun h11473 k => ?_)
    · refine ⟨b11468, h11468, ?_⟩
      refine zite k (fun h11474 k => ?_) (fun h11474 k => ?_)
      · exact k
      · refine ⟨b11468, h11468, ?_⟩
        refine zite k (fun h11475 k => ?_) (fun h11475 k => ?_)
        · exact k
        · refine ⟨b11468, h11468, ?_⟩
          refine zite k (fun h11476 k => ?_) (fun h11476 k => ?_)
          · exact k
          · refine ⟨b11468, h11468, ?_⟩
            refine zite k (fun h11477 k => ?_) (fun h11477 k => ?_)
            · exact k
            · refine ⟨b11468, h11468, ?_⟩
              refine zite k (fun h11478 k => ?_) (fun h11478 k => ?_)
              · exact k
              · refine ⟨b11468, h11468, ?_⟩
                exact k
    · exact k
theorem jX9_assigns {E : zE} {d : Nat} {Q : zO → zM → Prop} (M : zM) (a0 : Nat) (k : ∃ b11496 : Nat, (gr M a0 1) = some (b11496, 9, 0) ∧ (if (gi M b11496 3) = (5 : Int32) then (if (36 : Int32) ≤ (gi M b11496 6) then (if (gi M b11496 6) = (36 : Int32) then (Q (.inl (some (vi (-1 : Int32)))) M) else (Q (.inl (some (vi (((gi M b11496 6) - (36 : Int32)) - (1 : Int32))))) M)) else (Q (.inl (some (vi (-2 : Int32)))) M)) else (Q (.inl (some (vi (-2 : Int32)))) M))) : Z E YX9_assigns d M [(0, vr (some (a0, 8, 0)))] 0 [] Q := by
  refine sX9_assigns_0 (d := d) M a0 ?_
  obtain ⟨b11496, h11496, k⟩ := k
  refine ⟨b11496, h11496, ?_⟩
  refine zite k (fun h11497 k => ?_) (fun h11497 k => ?_)
  · refine ⟨b11496, h11496, ?_⟩
    refine zite k (fun h11498 k => ?_) (fun h11498 k => ?_)
    · refine ⟨b11496, h11496, ?_⟩
      refine zite k (fun h11499 k => ?_) (fun h11499 k => ?_)
      · exact k
      · refine ⟨b11496, h11496, ?_⟩
        exact k
    · exact k
  · exact k
theorem jX16_init {E : zE} {d : Nat} {Q : zO → zM → Prop} (M : zM) (a0 : Nat) (l1 : Int32) (r2 : Option zP) (r3 : Option zP) (k : 16 ≤ a0 ∧ (Q (.inl none) (sr (sr (si M a0 0 l1) a0 1 r2) a0 2 r3))) : Z E YX16_init (d + 2) M [(0, vr (some (a0, 22, 0))), (1, vi l1), (2, vr r2), (3, vr r3)] 0 [] Q := by
  refine sX16_init_0 (d := (d + 1)) M a0 l1 r2 r3 ?_
  refine sX13_init_0 (d := d) M _ 22 ?_
  show Z E YX16_init ((d + 1) + 1) M [(0, vr (some (a0, 22, 0))), (1, vi l1), (2, vr r2), (3, vr r3)] 4 [] Q
  refine sX16_init_4 (d := (d + 1)) M _ l1 r2 r3 ?_
  refine zand k (fun h11524 k => ?_)
  refine ⟨h11524, ?_⟩
  refine ⟨h11524, ?_⟩
  exact k
theorem jX31_init {E : zE} {d : Nat} {Q : zO → zM → Prop} (M : zM) (a0 : Nat) (r1 : Option zP) (r2 : Option zP) (r3 : Option zP) (k : 16 ≤ a0 ∧ (Q (.inl none) (sr (sr (sr M a0 0 r1) a0 1 r2) a0 2 r3))) : Z E YX31_init (d + 2) M [(0, vr (some (a0, 36, 0))), (1, vr r1), (2, vr r2), (3, vr r3)] 0 [] Q := by
  refine sX31_init_0 (d := (d + 1)) M a0 r1 r2 r3 ?_
  refine sX13_init_0 (d := d) M _ 36 ?_
  show Z E YX31_init ((d + 1) + 1) M [(0, vr (some (a0, 36, 0))), (1, vr r1), (2, vr r2), (3, vr r3)] 4 [] Q
  refine sX31_init_4 (d := (d + 1)) M _ r1 r2 r3 ?_
  refine zand k (fun h11526 k => ?_)
  refine ⟨h11526, ?_⟩
  refine ⟨h11526, ?_⟩
  exact k
theorem iX9_assignment_6 {E : zE} {d : Nat} {Q : zO → zM → Prop} (M : zM) (a0 : Nat) (l1 : Int32) (u0 : Option zP) (k : ∃ b11493 : Nat, (gr M a0 1) = some (b11493, 9, 0) ∧ (if (gi M b11493 3) = (5 : Int32) then (if (gi M b11493 6) = (34 : Int32) then (Z E YX10_next d M (zargs 0 [vr (some (b11493, 9, 0))]) 0 [] (zafter E YX9_assignment (d + 1) [(0, vr (some (a0, 8, 0))), (1, vi l1), (2, vr u0)] 23 3 [] Q)) else (if (36 : Int32) ≤ (gi M b11493 6) then (if (gi M b11493 6) = (36 : Int32) then (∃ b11502 t11502 : Nat, u0 = some (b11502, t11502, 0) ∧ (∃ Y_ : zY, vt_isName t11502 = some Y_ ∧ Z E Y_ d M (zargs 0 [vr (some (b11502, t11502, 0))]) 0 [] (zafter E YX9_assignment (d + 1) [(0, vr (some (a0, 8, 0))), (1, vi l1), (2, vr (some (b11502, t11502, 0))), (3, vi (-1 : Int32))] 70 3 [] Q))) else (if (((gi M b11493 6) - (36 : Int32)) - (1 : Int32)) = (-2 : Int32) then (Q (.inl (some (vr u0))) M) else (∃ b11504 t11504 : Nat, u0 = some (b11504, t11504, 0) ∧ (∃ Y_ : zY, vt_isName t11504 = some Y_ ∧ Z E Y_ d M (zargs 0 [vr (some (b11504, t11504, 0))]) 0 [] (zafter E YX9_assignment (d + 1) [(0, vr (some (a0, 8, 0))), (1, vi l1), (2, vr (some (b11504, t11504, 0))), (3, vi (((gi M b11493 6) - (36 : Int32)) - (1 : Int32)))] 70 3 [] Q))))) else (Q (.inl (some (vr u0))) M))) else (Q (.inl (some (vr u0))) M))) : Z E YX9_assignment (d + 1) M [(0, vr (some (a0, 8, 0))), (1, vi l1)] 6 [vr u0] Q := by
  refine sX9_assignment_6 (d := d) M a0 l1 u0 ?_
  obtain ⟨b11493, h11493, k⟩ := k
  refine ⟨b11493, h11493, ?_⟩
  refine sX10_is_0 (d := d) M b11493 (34 : Int32) ?_
  refine zite k (fun h11494 k => ?_) (fun h11494 k => ?_)
  · refine zite k (fun h11495 k => ?_) (fun h11495 k => ?_)
    · show Z E YX9_assignment (d + 1) M [(0, vr (some (a0, 8, 0))), (1, vi l1), (2, vr u0)] 16 [vi (1 : Int32)] Q
      refine sX9_assignment_16 (d := d) M _ l1 u0 (1 : Int32) ?_
      refine zneg (show ¬ ((1 : Int32) = 0) from by decide) ?_
      refine ⟨b11493, h11493, ?_⟩
      exact k
    · show Z E YX9_assignment (d + 1) M [(0, vr (some (a0, 8, 0))), (1, vi l1), (2, vr u0)] 16 [vi (0 : Int32)] Q
      refine sX9_assignment_16 (d := d) M _ l1 u0 (0 : Int32) ?_
      refine zpos (show (0 : Int32) = 0 from by decide) ?_
      refine jX9_assigns (d := d) M _ ?_
      refine ⟨b11493, h11493, ?_⟩
      refine zpos h11494 ?_
      refine zite k (fun h11500 k => ?_) (fun h11500 k => ?_)
      · refine zite k (fun h11501 k => ?_) (fun h11501 k => ?_)
        · show Z E YX9_assignment (d + 1) M [(0, vr (some (a0, 8, 0))), (1, vi l1), (2, vr u0)] 60 [vi (-1 : Int32)] Q
          refine sX9_assignment_60 (d := d) M _ l1 u0 (-1 : Int32) ?_
          refine zneg (show ¬ ((-1 : Int32) = (-2 : Int32)) from by decide) ?_
          exact k
        · show Z E YX9_assignment (d + 1) M [(0, vr (some (a0, 8, 0))), (1, vi l1), (2, vr u0)] 60 [vi (((gi M b11493 6) - (36 : Int32)) - (1 : Int32))] Q
          refine sX9_assignment_60 (d := d) M _ l1 u0 (((gi M b11493 6) - (36 : Int32)) - (1 : Int32)) ?_
          exact k
      · show Z E YX9_assignment (d + 1) M [(0, vr (some (a0, 8, 0))), (1, vi l1), (2, vr u0)] 60 [vi (-2 : Int32)] Q
        refine sX9_assignment_60 (d := d) M _ l1 u0 (-2 : Int32) ?_
        refine zpos (show (-2 : Int32) = (-2 : Int32) from by decide) ?_
        exact k
  · show Z E YX9_assignment (d + 1) M [(0, vr (some (a0, 8, 0))), (1, vi l1), (2, vr u0)] 16 [vi (0 : Int32)] Q
    refine sX9_assignment_16 (d := d) M _ l1 u0 (0 : Int32) ?_
    refine zpos (show (0 : Int32) = 0 from by decide) ?_
    refine jX9_assigns (d := d) M _ ?_
    refine ⟨b11493, h11493, ?_⟩
    refine zneg h11494 ?_
    show Z E YX9_assignment (d + 1) M [(0, vr (some (a0, 8, 0))), (1, vi l1), (2, vr u0)] 60 [vi (-2 : Int32)] Q
    refine sX9_assignment_60 (d := d) M _ l1 u0 (-2 : Int32) ?_
    refine zpos (show (-2 : Int32) = (-2 : Int32) from by decide) ?_
    exact k
theorem iX9_assignment_99 {E : zE} {d : Nat} {Q : zO → zM → Prop} (M : zM) (a0 : Nat) (l1 : Int32) (a2 : Nat) (ta2 : Nat) (l3 : Int32) (k : Z E YX9_within d (zn M 3) (zargs 0 [vr (some (a0, 8, 0)), vi l1]) 0 [] (zafter E YX9_assignment (d + 1) [] 107 3 [vr (some (a2, ta2, 0)), vi l3, vr (some ((zsz M), 22, 0)), vr (some ((zsz M), 22, 0))] Q)) : Z E YX9_assignment (d + 1) M [(0, vr (some (a0, 8, 0))), (1, vi l1), (2, vr (some (a2, ta2, 0))), (3, vi l3)] 99 [] Q := by
  refine sX9_assignment_99 (d := d) M a0 l1 a2 ta2 l3 ?_
  refine sX9_assignment_102 (d := d) (zn M 3) _ l1 _ _ l3 (zsz M) ?_
  exact k
theorem iX9_assignment_41 {E : zE} {d : Nat} {Q : zO → zM → Prop} (M : zM) (a0 : Nat) (l1 : Int32) (r2 : Option zP) (r3 : Option zP) (k : Z E YX9_within d (zn M 3) (zargs 0 [vr (some (a0, 8, 0)), vi l1]) 0 [] (zafter E YX9_assignment (d + 1) [] 49 3 [vr r3, vr r2, vr (some ((zsz M), 36, 0)), vr (some ((zsz M), 36, 0))] Q)) : Z E YX9_assignment (d + 1) M [(0, vr (some (a0, 8, 0))), (1, vi l1), (2, vr r2), (3, vr r3)] 41 [] Q := by
  refine sX9_assignment_41 (d := d) M a0 l1 r2 r3 ?_
  refine sX9_assignment_44 (d := d) (zn M 3) _ l1 r2 r3 (zsz M) ?_
  exact k
theorem iX9_assignment_110 {E : zE} {d : Nat} {Q : zO → zM → Prop} (M : zM) (u0 : Option zP) (p1 : Nat) (tp1 : Nat) (s2 : Int32) (p3 : Nat) (p4 : Nat) (k : 16 ≤ p3 ∧ (Q (.inl (some (vr (some (p4, 22, 0))))) (sr (sr (si M p3 0 s2) p3 1 (some (p1, tp1, 0))) p3 2 u0))) : Z E YX9_assignment (d + 3) M [] 110 [vr u0, vr (some (p1, tp1, 0)), vi s2, vr (some (p3, 22, 0)), vr (some (p4, 22, 0))] Q := by
  refine sX9_assignment_110 (d := (d + 2)) M u0 p1 tp1 s2 p3 p4 ?_
  refine jX16_init (d := d) M p3 s2 (some (p1, tp1, 0)) u0 ?_
  refine zand k (fun h11525 k => ?_)
  show Z E YX9_assignment ((d + 2) + 1) (sr (sr (si M p3 0 s2) p3 1 (some (p1, tp1, 0))) p3 2 u0) [] 113 [vr (some (p4, 22, 0))] Q
  refine sX9_assignment_113 (d := (d + 2)) (sr (sr (si M p3 0 s2) p3 1 (some (p1, tp1, 0))) p3 2 u0) p4 ?_
  exact k
theorem iX9_assignment_52 {E : zE} {d : Nat} {Q : zO → zM → Prop} (M : zM) (u0 : Option zP) (u1 : Option zP) (u2 : Option zP) (p3 : Nat) (p4 : Nat) (k : 16 ≤ p3 ∧ (Q (.inl (some (vr (some (p4, 36, 0))))) (sr (sr (sr M p3 0 u2) p3 1 u1) p3 2 u0))) : Z E YX9_assignment (d + 3) M [] 52 [vr u0, vr u1, vr u2, vr (some (p3, 36, 0)), vr (some (p4, 36, 0))] Q := by
  refine sX9_assignment_52 (d := (d + 2)) M u0 u1 u2 p3 p4 ?_
  refine jX31_init (d := d) M p3 u2 u1 u0 ?_
  refine zand k (fun h11527 k => ?_)
  show Z E YX9_assignment ((d + 2) + 1) (sr (sr (sr M p3 0 u2) p3 1 u1) p3 2 u0) [] 55 [vr (some (p4, 36, 0))] Q
  refine sX9_assignment_55 (d := (d + 2)) (sr (sr (sr M p3 0 u2) p3 1 u1) p3 2 u0) p4 ?_
  exact k
theorem iX9_beginsExpression_0 {E : zE} {d : Nat} {Q : zO → zM → Prop} (M : zM) (a0 : Nat) (k : ∃ b11538 : Nat, (gr M a0 1) = some (b11538, 9, 0) ∧ (if (gi M b11538 3) = (2 : Int32) then (Z E YX9_beginsByWord d M (zargs 0 [vi (gi M b11538 6)]) 0 [] (zafter E YX9_beginsExpression (d + 1) [(0, vr (some (a0, 8, 0)))] 18 3 [] Q)) else (if (gi M b11538 3) = (1 : Int32) then (Q (.inl (some (vi (1 : Int32)))) M) else (if (gi M b11538 3) = (3 : Int32) then (Q (.inl (some (vi (1 : Int32)))) M) else (if (gi M b11538 3) = (4 : Int32) then (Q (.inl (some (vi (1 : Int32)))) M) else (if (gi M b11538 3) = (5 : Int32) then (Z E YX9_startsExpression d M (zargs 0 [vr (some (a0, 8, 0))]) 0 [] (zafter E YX9_beginsExpression (d + 1) [(0, vr (some (a0, 8, 0)))] 87 3 [] Q)) else (Q (.inl (some (vi (0 : Int32)))) M))))))) : Z E YX9_beginsExpression (d + 1) M [(0, vr (some (a0, 8, 0)))] 0 [] Q := by
  refine sX9_beginsExpression_0 (d := d) M a0 ?_
  obtain ⟨b11538, h11538, k⟩ := k
  refine ⟨b11538, h11538, ?_⟩
  refine zite k (fun h11539 k => ?_) (fun h11539 k => ?_)
  · refine ⟨b11538, h11538, ?_⟩
    exact k
  · refine ⟨b11538, h11538, ?_⟩
    refine zite k (fun h11540 k => ?_) (fun h11540 k => ?_)
    · exact k
    · refine ⟨b11538, h11538, ?_⟩
      refine zite k (fun h11541 k => ?_) (fun h11541 k => ?_)
      · exact k
      · refine ⟨b11538, h11538, ?_⟩
        refine zite k (fun h11542 k => ?_) (fun h11542 k => ?_)
        · exact k
        · refine ⟨b11538, h11538, ?_⟩
          exact k
theorem iX9_beginsExpression_90 {E : zE} {d : Nat} {Q : zO → zM → Prop} (M : zM) (a0 : Nat) (s0 : Int32) (k : if s0 = 0 then (∃ b11558 : Nat, (gr M a0 1) = some (b11558, 9, 0) ∧ (if (gi M b11558 3) = (5 : Int32) then (if (gi M b11558 6) = (0 : Int32) then (Q (.inl (some (vi (1 : Int32)))) M) else (Q (.inl (some (vi (0 : Int32)))) M)) else (Q (.inl (some (vi (0 : Int32)))) M))) else (Q (.inl (some (vi (1 : Int32)))) M)) : Z E YX9_beginsExpression (d + 1) M [(0, vr (some (a0, 8, 0)))] 90 [vi s0] Q := by
  refine sX9_beginsExpression_90 (d := d) M a0 s0 ?_
  refine zite k (fun h11557 k => ?_) (fun h11557 k => ?_)
  · obtain ⟨b11558, h11558, k⟩ := k
    refine ⟨b11558, h11558, ?_⟩
    refine sX10_is_0 (d := d) M b11558 (0 : Int32) ?_
    refine zite k (fun h11559 k => ?_) (fun h11559 k => ?_)
    · refine zite k (fun h11560 k => ?_) (fun h11560 k => ?_)
      · show Z E YX9_beginsExpression (d + 1) M [] 101 [vi (1 : Int32)] Q
        refine sX9_beginsExpression_101 (d := d) M (1 : Int32) ?_
        refine zneg (show ¬ ((1 : Int32) = 0) from by decide) ?_
        exact k
      · show Z E YX9_beginsExpression (d + 1) M [] 101 [vi (0 : Int32)] Q
        refine sX9_beginsExpression_101 (d := d) M (0 : Int32) ?_
        refine zpos (show (0 : Int32) = 0 from by decide) ?_
        exact k
    · show Z E YX9_beginsExpression (d + 1) M [] 101 [vi (0 : Int32)] Q
      refine sX9_beginsExpression_101 (d := d) M (0 : Int32) ?_
      refine zpos (show (0 : Int32) = 0 from by decide) ?_
      exact k
  · exact k
theorem jJ2_init {E : zE} {d : Nat} {Q : zO → zM → Prop} (M : zM) (a0 : Nat) (k : 16 ≤ a0 ∧ (Q (.inl none) (sr (si M a0 0 (0 : Int32)) a0 1 (some (1, 110, 0))))) : Z E YJ2_init (d + 3) M [(0, vr (some (a0, 11, 0)))] 0 [] Q := by
  refine sJ2_init_0 (d := (d + 2)) M a0 ?_
  refine jJ1_init (d := d) M _ ?_
  refine zand k (fun h11562 k => ?_)
  show Z E YJ2_init ((d + 2) + 1) (si M a0 0 (0 : Int32)) [(0, vr (some (a0, 11, 0)))] 4 [] Q
  refine sJ2_init_4 (d := (d + 2)) (si M a0 0 (0 : Int32)) _ ?_
  refine ⟨h11562, ?_⟩
  exact k
theorem iX9_begun_0 {E : zE} {d : Nat} {Q : zO → zM → Prop} (M : zM) (a0 : Nat) (k : ∃ b11561 : Nat, (gr (zn M 10) a0 2) = some (b11561, 11, 0) ∧ (Z E YX11_init d (zn M 10) (zargs 0 [vr (some ((zsz M), 10, 0)), vi (gi (zn M 10) b11561 2), vr (gr (zn M 10) a0 3)]) 0 [] (zafter E YX9_begun (d + 1) [(0, vr (some (a0, 8, 0)))] 15 3 [vr (some ((zsz M), 10, 0))] Q))) : Z E YX9_begun (d + 1) M [(0, vr (some (a0, 8, 0)))] 0 [] Q := by
  refine sX9_begun_0 (d := d) M a0 ?_
  refine sX9_begun_3 (d := d) (zn M 10) _ (zsz M) ?_
  obtain ⟨b11561, h11561, k⟩ := k
  refine ⟨b11561, h11561, ?_⟩
  refine sJ2_size_0 (d := d) (zn M 10) b11561 ?_
  show Z E YX9_begun (d + 1) (zn M 10) [(0, vr (some (a0, 8, 0)))] 11 [vi (gi (zn M 10) b11561 2), vr (some ((zsz M), 10, 0)), vr (some ((zsz M), 10, 0))] Q
  refine sX9_begun_11 (d := d) (zn M 10) _ (gi (zn M 10) b11561 2) (zsz M) (zsz M) ?_
  exact k
theorem iX9_binary_25 {E : zE} {d : Nat} {Q : zO → zM → Prop} (M : zM) (a0 : Nat) (l1 : Int32) (l2 : Int32) (r3 : Option zP) (s0 : Int32) (k : if s0 = l1 then (if (2 : Int32) ≤ l1 then (Z E YX30_init d (zn M 2) (zargs 0 [vr (some ((zsz M), 35, 0)), vr r3]) 0 [] (zafter E YX9_binary (d + 1) [(0, vr (some (a0, 8, 0))), (1, vi l1), (2, vi l2)] 101 3 [vr (some ((zsz M), 35, 0))] Q)) else (if l1 = 0 then (Z E YX29_init d (zn M 2) (zargs 0 [vr (some ((zsz M), 34, 0)), vi (24 : Int32), vr r3]) 0 [] (zafter E YX9_binary (d + 1) [(0, vr (some (a0, 8, 0))), (1, vi l1), (2, vi l2)] 52 3 [vr (some ((zsz M), 34, 0))] Q)) else (Z E YX29_init d (zn M 2) (zargs 0 [vr (some ((zsz M), 34, 0)), vi (23 : Int32), vr r3]) 0 [] (zafter E YX9_binary (d + 1) [(0, vr (some (a0, 8, 0))), (1, vi l1), (2, vi l2)] 52 3 [vr (some ((zsz M), 34, 0))] Q)))) else (Q (.inl (some (vr r3))) M)) : Z E YX9_binary (d + 1) M [(0, vr (some (a0, 8, 0))), (1, vi l1), (2, vi l2), (3, vr r3)] 25 [vi s0] Q := by
  refine sX9_binary_25 (d := d) M a0 l1 l2 r3 s0 ?_
  refine zite k (fun h11669 k => ?_) (fun h11669 k => ?_)
  · refine zite k (fun h11670 k => ?_) (fun h11670 k => ?_)
    · refine sX9_binary_99 (d := d) (zn M 2) _ l1 l2 r3 (zsz M) ?_
      exact k
    · refine sX9_binary_39 (d := d) (zn M 2) _ l1 l2 r3 (zsz M) ?_
      exact k
  · exact k
theorem jX27_init {E : zE} {d : Nat} {Q : zO → zM → Prop} (M : zM) (a0 : Nat) (l1 : Int32) (l2 : Int32) (r3 : Option zP) (k : 16 ≤ a0 ∧ (zfit .boolean l2 ∧ (Q (.inl none) (sr (si (si M a0 0 l1) a0 1 l2) a0 2 r3)))) : Z E YX27_init (d + 2) M [(0, vr (some (a0, 32, 0))), (1, vi l1), (2, vi l2), (3, vr r3)] 0 [] Q := by
  refine sX27_init_0 (d := (d + 1)) M a0 l1 l2 r3 ?_
  refine sX13_init_0 (d := d) M _ 32 ?_
  show Z E YX27_init ((d + 1) + 1) M [(0, vr (some (a0, 32, 0))), (1, vi l1), (2, vi l2), (3, vr r3)] 4 [] Q
  refine sX27_init_4 (d := (d + 1)) M _ l1 l2 r3 ?_
  refine zand k (fun h11736 k => ?_)
  refine ⟨h11736, ?_⟩
  refine zand k (fun h11737 k => ?_)
  refine ⟨h11736, ?_⟩
  exact k
theorem iX9_counted_4 {E : zE} {d : Nat} {Q : zO → zM → Prop} (M : zM) (a0 : Nat) (u0 : Option zP) (k : ∃ b11725 : Nat, (gr M a0 1) = some (b11725, 9, 0) ∧ (if (gi M b11725 3) = (5 : Int32) then (if (gi M b11725 6) = (22 : Int32) then (if (gi M b11725 4) ≤ (gi M b11725 5) then (∃ b11730 t11730 : Nat, u0 = some (b11730, t11730, 0) ∧ (∃ Y_ : zY, vt_isName t11730 = some Y_ ∧ Z E Y_ d M (zargs 0 [vr (some (b11730, t11730, 0))]) 0 [] (zafter E YX9_counted (d + 1) [(0, vr (some (a0, 8, 0))), (1, vr (some (b11730, t11730, 0)))] 42 3 [] Q))) else (Q (.inl (some (vr u0))) M)) else (if (gi M b11725 6) = (23 : Int32) then (if (gi M b11725 4) ≤ (gi M b11725 5) then (∃ b11733 t11733 : Nat, u0 = some (b11733, t11733, 0) ∧ (∃ Y_ : zY, vt_isName t11733 = some Y_ ∧ Z E Y_ d M (zargs 0 [vr (some (b11733, t11733, 0))]) 0 [] (zafter E YX9_counted (d + 1) [(0, vr (some (a0, 8, 0))), (1, vr (some (b11733, t11733, 0)))] 42 3 [] Q))) else (Q (.inl (some (vr u0))) M)) else (Q (.inl (some (vr u0))) M))) else (Q (.inl (some (vr u0))) M))) : Z E YX9_counted (d + 1) M [(0, vr (some (a0, 8, 0)))] 4 [vr u0] Q := by
  refine sX9_counted_4 (d := d) M a0 u0 ?_
  obtain ⟨b11725, h11725, k⟩ := k
  refine ⟨b11725, h11725, ?_⟩
  refine sX10_is_0 (d := d) M b11725 (22 : Int32) ?_
  refine zite k (fun h11726 k => ?_) (fun h11726 k => ?_)
  · refine zite k (fun h11727 k => ?_) (fun h11727 k => ?_)
    · show Z E YX9_counted (d + 1) M [(0, vr (some (a0, 8, 0))), (1, vr u0)] 14 [vi (1 : Int32)] Q
      refine sX9_counted_14 (d := d) M _ u0 (1 : Int32) ?_
      refine zneg (show ¬ ((1 : Int32) = 0) from by decide) ?_
      refine ⟨b11725, h11725, ?_⟩
      refine sX10_onLaterLine_0 (d := d) M b11725 ?_
      refine zite k (fun h11729 k => ?_) (fun h11729 k => ?_)
      · show Z E YX9_counted (d + 1) M [(0, vr (some (a0, 8, 0))), (1, vr u0)] 36 [vi (0 : Int32)] Q
        refine sX9_counted_36 (d := d) M _ u0 (0 : Int32) ?_
        refine zpos (show (0 : Int32) = 0 from by decide) ?_
        exact k
      · show Z E YX9_counted (d + 1) M [(0, vr (some (a0, 8, 0))), (1, vr u0)] 36 [vi (1 : Int32)] Q
        refine sX9_counted_36 (d := d) M _ u0 (1 : Int32) ?_
        refine zneg (show ¬ ((1 : Int32) = 0) from by decide) ?_
        exact k
    · show Z E YX9_counted (d + 1) M [(0, vr (some (a0, 8, 0))), (1, vr u0)] 14 [vi (0 : Int32)] Q
      refine sX9_counted_14 (d := d) M _ u0 (0 : Int32) ?_
      refine zpos (show (0 : Int32) = 0 from by decide) ?_
      refine ⟨b11725, h11725, ?_⟩
      refine sX10_is_0 (d := d) M b11725 (23 : Int32) ?_
      refine zpos h11726 ?_
      refine zite k (fun h11731 k => ?_) (fun h11731 k => ?_)
      · show Z E YX9_counted (d + 1) M [(0, vr (some (a0, 8, 0))), (1, vr u0)] 26 [vi (1 : Int32)] Q
        refine sX9_counted_26 (d := d) M _ u0 (1 : Int32) ?_
        refine zneg (show ¬ ((1 : Int32) = 0) from by decide) ?_
        refine ⟨b11725, h11725, ?_⟩
        refine sX10_onLaterLine_0 (d := d) M b11725 ?_
        refine zite k (fun h11732 k => ?_) (fun h11732 k => ?_)
        · show Z E YX9_counted (d + 1) M [(0, vr (some (a0, 8, 0))), (1, vr u0)] 36 [vi (0 : Int32)] Q
          refine sX9_counted_36 (d := d) M _ u0 (0 : Int32) ?_
          refine zpos (show (0 : Int32) = 0 from by decide) ?_
          exact k
        · show Z E YX9_counted (d + 1) M [(0, vr (some (a0, 8, 0))), (1, vr u0)] 36 [vi (1 : Int32)] Q
          refine sX9_counted_36 (d := d) M _ u0 (1 : Int32) ?_
          refine zneg (show ¬ ((1 : Int32) = 0) from by decide) ?_
          exact k
      · show Z E YX9_counted (d + 1) M [(0, vr (some (a0, 8, 0))), (1, vr u0)] 26 [vi (0 : Int32)] Q
        refine sX9_counted_26 (d := d) M _ u0 (0 : Int32) ?_
        refine zpos (show (0 : Int32) = 0 from by decide) ?_
        exact k
  · show Z E YX9_counted (d + 1) M [(0, vr (some (a0, 8, 0))), (1, vr u0)] 14 [vi (0 : Int32)] Q
    refine sX9_counted_14 (d := d) M _ u0 (0 : Int32) ?_
    refine zpos (show (0 : Int32) = 0 from by decide) ?_
    refine ⟨b11725, h11725, ?_⟩
    refine sX10_is_0 (d := d) M b11725 (23 : Int32) ?_
    refine zneg h11726 ?_
    show Z E YX9_counted (d + 1) M [(0, vr (some (a0, 8, 0))), (1, vr u0)] 26 [vi (0 : Int32)] Q
    refine sX9_counted_26 (d := d) M _ u0 (0 : Int32) ?_
    refine zpos (show (0 : Int32) = 0 from by decide) ?_
    exact k
theorem iX9_counted_45 {E : zE} {d : Nat} {Q : zO → zM → Prop} (M : zM) (a0 : Nat) (a1 : Nat) (ta1 : Nat) (s0 : Int32) (k : if s0 = 0 then (∃ Y_ : zY, vt_isMember ta1 = some Y_ ∧ Z E Y_ (d + 2) M (zargs 0 [vr (some (a1, ta1, 0))]) 0 [] (zafter E YX9_counted ((d + 2) + 1) [(0, vr (some (a0, 8, 0))), (1, vr (some (a1, ta1, 0)))] 49 3 [] Q)) else (∃ b11739 : Nat, (gr (zn M 3) a0 1) = some (b11739, 9, 0) ∧ (16 ≤ (zsz M) ∧ (zfit .boolean (1 : Int32) ∧ (∃ b11742 : Nat, (gr (sr (si (si (zn M 3) (zsz M) 0 ((gi (zn M 3) b11739 6) - (22 : Int32))) (zsz M) 1 (1 : Int32)) (zsz M) 2 (some (a1, ta1, 0))) a0 1) = some (b11742, 9, 0) ∧ (Z E YX10_next (d + 2) (sr (si (si (zn M 3) (zsz M) 0 ((gi (zn M 3) b11739 6) - (22 : Int32))) (zsz M) 1 (1 : Int32)) (zsz M) 2 (some (a1, ta1, 0))) (zargs 0 [vr (some (b11742, 9, 0))]) 0 [] (zafter E YX9_counted ((d + 2) + 1) [(1, vr (some ((zsz M), 32, 0)))] 88 3 [] Q))))))) : Z E YX9_counted (d + 3) M [(0, vr (some (a0, 8, 0))), (1, vr (some (a1, ta1, 0)))] 45 [vi s0] Q := by
  refine sX9_counted_45 (d := (d + 2)) M a0 a1 ta1 s0 ?_
  refine zite k (fun h11738 k => ?_) (fun h11738 k => ?_)
  · exact k
  · refine sX9_counted_64 (d := (d + 2)) M _ _ _ ?_
    refine sX9_counted_67 (d := (d + 2)) (zn M 3) _ _ _ (zsz M) ?_
    obtain ⟨b11739, h11739, k⟩ := k
    refine ⟨b11739, h11739, ?_⟩
    refine jX27_init (d := d) (zn M 3) (zsz M) ((gi (zn M 3) b11739 6) - (22 : Int32)) (1 : Int32) (some (a1, ta1, 0)) ?_
    refine zand k (fun h11740 k => ?_)
    refine zand k (fun h11741 k => ?_)
    show Z E YX9_counted ((d + 2) + 1) (sr (si (si (zn M 3) (zsz M) 0 ((gi (zn M 3) b11739 6) - (22 : Int32))) (zsz M) 1 (1 : Int32)) (zsz M) 2 (some (a1, ta1, 0))) [(0, vr (some (a0, 8, 0)))] 83 [vr (some ((zsz M), 32, 0))] Q
    refine sX9_counted_83 (d := (d + 2)) (sr (si (si (zn M 3) (zsz M) 0 ((gi (zn M 3) b11739 6) - (22 : Int32))) (zsz M) 1 (1 : Int32)) (zsz M) 2 (some (a1, ta1, 0))) _ (zsz M) ?_
    exact k
theorem iX9_counted_52 {E : zE} {d : Nat} {Q : zO → zM → Prop} (M : zM) (a0 : Nat) (a1 : Nat) (ta1 : Nat) (s0 : Int32) (k : if s0 = 0 then (∃ b11747 : Nat, (gr M a0 1) = some (b11747, 9, 0) ∧ (Z E YX10_fault (d + 2) M (zargs 0 [vr (some (b11747, 9, 0)), vi (3 : Int32)]) 0 [] (zafter E YX9_counted ((d + 2) + 1) [] 60 3 [] Q))) else (∃ b11748 : Nat, (gr (zn M 3) a0 1) = some (b11748, 9, 0) ∧ (16 ≤ (zsz M) ∧ (zfit .boolean (1 : Int32) ∧ (∃ b11751 : Nat, (gr (sr (si (si (zn M 3) (zsz M) 0 ((gi (zn M 3) b11748 6) - (22 : Int32))) (zsz M) 1 (1 : Int32)) (zsz M) 2 (some (a1, ta1, 0))) a0 1) = some (b11751, 9, 0) ∧ (Z E YX10_next (d + 2) (sr (si (si (zn M 3) (zsz M) 0 ((gi (zn M 3) b11748 6) - (22 : Int32))) (zsz M) 1 (1 : Int32)) (zsz M) 2 (some (a1, ta1, 0))) (zargs 0 [vr (some (b11751, 9, 0))]) 0 [] (zafter E YX9_counted ((d + 2) + 1) [(1, vr (some ((zsz M), 32, 0)))] 88 3 [] Q))))))) : Z E YX9_counted (d + 3) M [(0, vr (some (a0, 8, 0))), (1, vr (some (a1, ta1, 0)))] 52 [vi s0] Q := by
  refine sX9_counted_52 (d := (d + 2)) M a0 a1 ta1 s0 ?_
  refine zite k (fun h11746 k => ?_) (fun h11746 k => ?_)
  · exact k
  · refine sX9_counted_64 (d := (d + 2)) M _ _ _ ?_
    refine sX9_counted_67 (d := (d + 2)) (zn M 3) _ _ _ (zsz M) ?_
    obtain ⟨b11748, h11748, k⟩ := k
    refine ⟨b11748, h11748, ?_⟩
    refine jX27_init (d := d) (zn M 3) (zsz M) ((gi (zn M 3) b11748 6) - (22 : Int32)) (1 : Int32) (some (a1, ta1, 0)) ?_
    refine zand k (fun h11749 k => ?_)
    refine zand k (fun h11750 k => ?_)
    show Z E YX9_counted ((d + 2) + 1) (sr (si (si (zn M 3) (zsz M) 0 ((gi (zn M 3) b11748 6) - (22 : Int32))) (zsz M) 1 (1 : Int32)) (zsz M) 2 (some (a1, ta1, 0))) [(0, vr (some (a0, 8, 0)))] 83 [vr (some ((zsz M), 32, 0))] Q
    refine sX9_counted_83 (d := (d + 2)) (sr (si (si (zn M 3) (zsz M) 0 ((gi (zn M 3) b11748 6) - (22 : Int32))) (zsz M) 1 (1 : Int32)) (zsz M) 2 (some (a1, ta1, 0))) _ (zsz M) ?_
    exact k
theorem jX10_init {E : zE} {d : Nat} {Q : zO → zM → Prop} (M : zM) (a0 : Nat) (r1 : Option zP) (k : 16 ≤ a0 ∧ (Q (.inl none) (sr (si M a0 2 (1 : Int32)) a0 0 r1))) : Z E YX10_init (d + 1) M [(0, vr (some (a0, 9, 0))), (1, vr r1)] 0 [] Q := by
  refine sX10_init_0 (d := d) M a0 r1 ?_
  refine zand k (fun h11755 k => ?_)
  refine ⟨h11755, ?_⟩
  exact k
theorem iX9_init_0 {E : zE} {d : Nat} {Q : zO → zM → Prop} (M : zM) (a0 : Nat) (r1 : Option zP) (k : 16 ≤ (zsz M) ∧ (16 ≤ a0 ∧ (16 ≤ (zsz (sr (si (zn M 3) (zsz M) 0 (0 : Int32)) (zsz M) 1 (some (1, 110, 0)))) ∧ (Q (.inl none) (sr (sr (si (zn (sr (sr (sr (si (zn M 3) (zsz M) 0 (0 : Int32)) (zsz M) 1 (some (1, 110, 0))) a0 2 (some ((zsz M), 11, 0))) a0 0 r1) 8) (zsz (sr (si (zn M 3) (zsz M) 0 (0 : Int32)) (zsz M) 1 (some (1, 110, 0)))) 2 (1 : Int32)) (zsz (sr (si (zn M 3) (zsz M) 0 (0 : Int32)) (zsz M) 1 (some (1, 110, 0)))) 0 r1) a0 1 (some ((zsz (sr (si (zn M 3) (zsz M) 0 (0 : Int32)) (zsz M) 1 (some (1, 110, 0)))), 9, 0))))))) : Z E YX9_init (d + 4) M [(0, vr (some (a0, 8, 0))), (1, vr r1)] 0 [] Q := by
  refine sX9_init_0 (d := (d + 3)) M a0 r1 ?_
  refine sX9_init_8 (d := (d + 3)) (zn M 3) _ r1 (zsz M) ?_
  refine jJ2_init (d := d) (zn M 3) (zsz M) ?_
  refine zand k (fun h11753 k => ?_)
  show Z E YX9_init ((d + 3) + 1) (sr (si (zn M 3) (zsz M) 0 (0 : Int32)) (zsz M) 1 (some (1, 110, 0))) [(0, vr (some (a0, 8, 0))), (1, vr r1)] 12 [vr (some ((zsz M), 11, 0)), vr (some (a0, 8, 0))] Q
  refine sX9_init_12 (d := (d + 3)) (sr (si (zn M 3) (zsz M) 0 (0 : Int32)) (zsz M) 1 (some (1, 110, 0))) _ r1 (zsz M) ?_
  refine zand k (fun h11754 k => ?_)
  refine ⟨h11754, ?_⟩
  refine sX9_init_24 (d := (d + 3)) (zn (sr (sr (sr (si (zn M 3) (zsz M) 0 (0 : Int32)) (zsz M) 1 (some (1, 110, 0))) a0 2 (some ((zsz M), 11, 0))) a0 0 r1) 8) r1 (zsz (sr (si (zn M 3) (zsz M) 0 (0 : Int32)) (zsz M) 1 (some (1, 110, 0)))) _ ?_
  refine jX10_init (d := (d + 2)) (zn (sr (sr (sr (si (zn M 3) (zsz M) 0 (0 : Int32)) (zsz M) 1 (some (1, 110, 0))) a0 2 (some ((zsz M), 11, 0))) a0 0 r1) 8) (zsz (sr (si (zn M 3) (zsz M) 0 (0 : Int32)) (zsz M) 1 (some (1, 110, 0)))) r1 ?_
  refine zand k (fun h11756 k => ?_)
  show Z E YX9_init ((d + 3) + 1) (sr (si (zn (sr (sr (sr (si (zn M 3) (zsz M) 0 (0 : Int32)) (zsz M) 1 (some (1, 110, 0))) a0 2 (some ((zsz M), 11, 0))) a0 0 r1) 8) (zsz (sr (si (zn M 3) (zsz M) 0 (0 : Int32)) (zsz M) 1 (some (1, 110, 0)))) 2 (1 : Int32)) (zsz (sr (si (zn M 3) (zsz M) 0 (0 : Int32)) (zsz M) 1 (some (1, 110, 0)))) 0 r1) [] 29 [vr (some ((zsz (sr (si (zn M 3) (zsz M) 0 (0 : Int32)) (zsz M) 1 (some (1, 110, 0)))), 9, 0)), vr (some (a0, 8, 0))] Q
  refine sX9_init_29 (d := (d + 3)) (sr (si (zn (sr (sr (sr (si (zn M 3) (zsz M) 0 (0 : Int32)) (zsz M) 1 (some (1, 110, 0))) a0 2 (some ((zsz M), 11, 0))) a0 0 r1) 8) (zsz (sr (si (zn M 3) (zsz M) 0 (0 : Int32)) (zsz M) 1 (some (1, 110, 0)))) 2 (1 : Int32)) (zsz (sr (si (zn M 3) (zsz M) 0 (0 : Int32)) (zsz M) 1 (some (1, 110, 0)))) 0 r1) (zsz (sr (si (zn M 3) (zsz M) 0 (0 : Int32)) (zsz M) 1 (some (1, 110, 0)))) _ ?_
  refine ⟨h11754, ?_⟩
  exact k
theorem jX14_init {E : zE} {d : Nat} {Q : zO → zM → Prop} (M : zM) (a0 : Nat) (k : 16 ≤ (zsz M) ∧ (16 ≤ a0 ∧ (Q (.inl none) (sr (sr (si (zn M 3) (zsz M) 0 (0 : Int32)) (zsz M) 1 (some (1, 110, 0))) a0 0 (some ((zsz M), 11, 0)))))) : Z E YX14_init (d + 4) M [(0, vr (some (a0, 20, 0)))] 0 [] Q := by
  refine sX14_init_0 (d := (d + 3)) M a0 ?_
  refine sX13_init_0 (d := (d + 2)) M _ 20 ?_
  show Z E YX14_init ((d + 3) + 1) M [(0, vr (some (a0, 20, 0)))] 4 [] Q
  refine sX14_init_4 (d := (d + 3)) M _ ?_
  refine sX14_init_8 (d := (d + 3)) (zn M 3) (zsz M) _ ?_
  refine jJ2_init (d := d) (zn M 3) (zsz M) ?_
  refine zand k (fun h11803 k => ?_)
  show Z E YX14_init ((d + 3) + 1) (sr (si (zn M 3) (zsz M) 0 (0 : Int32)) (zsz M) 1 (some (1, 110, 0))) [] 12 [vr (some ((zsz M), 11, 0)), vr (some (a0, 20, 0))] Q
  refine sX14_init_12 (d := (d + 3)) (sr (si (zn M 3) (zsz M) 0 (0 : Int32)) (zsz M) 1 (some (1, 110, 0))) (zsz M) _ ?_
  exact k
theorem jX35_init {E : zE} {d : Nat} {Q : zO → zM → Prop} (M : zM) (a0 : Nat) (l1 : Int32) (k : 16 ≤ a0 ∧ (zfit .boolean l1 ∧ (Q (.inl none) (si M a0 0 l1)))) : Z E YX35_init (d + 2) M [(0, vr (some (a0, 40, 0))), (1, vi l1)] 0 [] Q := by
  refine sX35_init_0 (d := (d + 1)) M a0 l1 ?_
  refine sX13_init_0 (d := d) M _ 40 ?_
  show Z E YX35_init ((d + 1) + 1) M [(0, vr (some (a0, 40, 0))), (1, vi l1)] 4 [] Q
  refine sX35_init_4 (d := (d + 1)) M _ l1 ?_
  exact k
theorem jX36_init {E : zE} {d : Nat} {Q : zO → zM → Prop} (M : zM) (a0 : Nat) (r1 : Option zP) (k : 16 ≤ a0 ∧ (Q (.inl none) (sr M a0 0 r1))) : Z E YX36_init (d + 2) M [(0, vr (some (a0, 41, 0))), (1, vr r1)] 0 [] Q := by
  refine sX36_init_0 (d := (d + 1)) M a0 r1 ?_
  refine sX13_init_0 (d := d) M _ 41 ?_
  show Z E YX36_init ((d + 1) + 1) M [(0, vr (some (a0, 41, 0))), (1, vr r1)] 4 [] Q
  refine sX36_init_4 (d := (d + 1)) M _ r1 ?_
  exact k
theorem jX37_init {E : zE} {d : Nat} {Q : zO → zM → Prop} (M : zM) (a0 : Nat) (r1 : Option zP) (k : 16 ≤ a0 ∧ (Q (.inl none) (sr M a0 0 r1))) : Z E YX37_init (d + 2) M [(0, vr (some (a0, 42, 0))), (1, vr r1)] 0 [] Q := by
  refine sX37_init_0 (d := (d + 1)) M a0 r1 ?_
  refine sX13_init_0 (d := d) M _ 42 ?_
  show Z E YX37_init ((d + 1) + 1) M [(0, vr (some (a0, 42, 0))), (1, vr r1)] 4 [] Q
  refine sX37_init_4 (d := (d + 1)) M _ r1 ?_
  exact k
theorem jX33_init {E : zE} {d : Nat} {Q : zO → zM → Prop} (M : zM) (a0 : Nat) (l1 : Int32) (r2 : Option zP) (r3 : Option zP) (r4 : Option zP) (r5 : Option zP) (k : 16 ≤ a0 ∧ (Q (.inl none) (sr (sr (sr (sr (si M a0 0 l1) a0 1 r2) a0 2 r3) a0 3 r4) a0 4 r5))) : Z E YX33_init (d + 2) M [(0, vr (some (a0, 38, 0))), (1, vi l1), (2, vr r2), (3, vr r3), (4, vr r4), (5, vr r5)] 0 [] Q := by
  refine sX33_init_0 (d := (d + 1)) M a0 l1 r2 r3 r4 r5 ?_
  refine sX13_init_0 (d := d) M _ 38 ?_
  show Z E YX33_init ((d + 1) + 1) M [(0, vr (some (a0, 38, 0))), (1, vi l1), (2, vr r2), (3, vr r3), (4, vr r4), (5, vr r5)] 4 [] Q
  refine sX33_init_4 (d := (d + 1)) M _ l1 r2 r3 r4 r5 ?_
  refine zand k (fun h11866 k => ?_)
  refine ⟨h11866, ?_⟩
  refine ⟨h11866, ?_⟩
  refine ⟨h11866, ?_⟩
  refine ⟨h11866, ?_⟩
  exact k
theorem jX32_init {E : zE} {d : Nat} {Q : zO → zM → Prop} (M : zM) (a0 : Nat) (r1 : Option zP) (r2 : Option zP) (r3 : Option zP) (k : 16 ≤ a0 ∧ (Q (.inl none) (sr (sr (sr M a0 0 r1) a0 1 r2) a0 2 r3))) : Z E YX32_init (d + 2) M [(0, vr (some (a0, 37, 0))), (1, vr r1), (2, vr r2), (3, vr r3)] 0 [] Q := by
  refine sX32_init_0 (d := (d + 1)) M a0 r1 r2 r3 ?_
  refine sX13_init_0 (d := d) M _ 37 ?_
  show Z E YX32_init ((d + 1) + 1) M [(0, vr (some (a0, 37, 0))), (1, vr r1), (2, vr r2), (3, vr r3)] 4 [] Q
  refine sX32_init_4 (d := (d + 1)) M _ r1 r2 r3 ?_
  refine zand k (fun h11870 k => ?_)
  refine ⟨h11870, ?_⟩
  refine ⟨h11870, ?_⟩
  exact k
theorem iX9_inner_0 {E : zE} {d : Nat} {Q : zO → zM → Prop} (M : zM) (a0 : Nat) (l1 : Int32) (k : if l1 = 0 then (Z E YX9_semicolon d M (zargs 0 [vr (some (a0, 8, 0))]) 0 [] (zafter E YX9_inner (d + 1) [(1, vi l1)] 253 3 [] Q)) else (if l1 = 1 then (Z E YX9_chosen d M (zargs 0 [vr (some (a0, 8, 0))]) 0 [] (zafter E YX9_inner (d + 1) [] 394 3 [] Q)) else (if l1 = 2 then (Z E YX9_chosen d M (zargs 0 [vr (some (a0, 8, 0))]) 0 [] (zafter E YX9_inner (d + 1) [] 394 3 [] Q)) else (if l1 = 3 then (Z E YX9_semicolon d M (zargs 0 [vr (some (a0, 8, 0))]) 0 [] (zafter E YX9_inner (d + 1) [(1, vi l1)] 253 3 [] Q)) else (if l1 = 4 then (Z E YX9_chosen d M (zargs 0 [vr (some (a0, 8, 0))]) 0 [] (zafter E YX9_inner (d + 1) [] 394 3 [] Q)) else (if l1 = 5 then (Z E YX9_chosen d M (zargs 0 [vr (some (a0, 8, 0))]) 0 [] (zafter E YX9_inner (d + 1) [] 394 3 [] Q)) else (if l1 = 6 then (Z E YX9_looped d M (zargs 0 [vr (some (a0, 8, 0))]) 0 [] (zafter E YX9_inner (d + 1) [(0, vr (some (a0, 8, 0)))] 206 3 [] Q)) else (if l1 = 7 then (Z E YX9_chosen d M (zargs 0 [vr (some (a0, 8, 0))]) 0 [] (zafter E YX9_inner (d + 1) [] 394 3 [] Q)) else (if l1 = 8 then (Z E YX9_chosen d M (zargs 0 [vr (some (a0, 8, 0))]) 0 [] (zafter E YX9_inner (d + 1) [] 394 3 [] Q)) else (if l1 = 9 then (Z E YX9_chosen d M (zargs 0 [vr (some (a0, 8, 0))]) 0 [] (zafter E YX9_inner (d + 1) [] 394 3 [] Q)) else (if l1 = 10 then (Z E YX9_loop d M (zargs 0 [vr (some (a0, 8, 0))]) 0 [] (zafter E YX9_inner (d + 1) [] 248 3 [] Q)) else (if l1 = 11 then (Z E YX9_chosen d M (zargs 0 [vr (some (a0, 8, 0))]) 0 [] (zafter E YX9_inner (d + 1) [] 394 3 [] Q)) else (if l1 = 12 then (Z E YX9_inRound d M (zargs 0 [vr (some (a0, 8, 0))]) 0 [] (zafter E YX9_inner (d + 1) [(0, vr (some (a0, 8, 0)))] 145 3 [] Q)) else (if l1 = 13 then (Z E YX9_chosen d M (zargs 0 [vr (some (a0, 8, 0))]) 0 [] (zafter E YX9_inner (d + 1) [] 394 3 [] Q)) else (if l1 = 14 then (Z E YX9_chosen d M (zargs 0 [vr (some (a0, 8, 0))]) 0 [] (zafter E YX9_inner (d + 1) [] 394 3 [] Q)) else (if l1 = 15 then (Z E YX9_chosen d M (zargs 0 [vr (some (a0, 8, 0))]) 0 [] (zafter E YX9_inner (d + 1) [] 394 3 [] Q)) else (if l1 = 16 then (Z E YX9_chosen d M (zargs 0 [vr (some (a0, 8, 0))]) 0 [] (zafter E YX9_inner (d + 1) [] 394 3 [] Q)) else (if l1 = 17 then (Z E YX9_chosen d M (zargs 0 [vr (some (a0, 8, 0))]) 0 [] (zafter E YX9_inner (d + 1) [] 394 3 [] Q)) else (if l1 = 18 then (∃ b11830 : Nat, (gr M a0 1) = some (b11830, 9, 0) ∧ (Z E YX10_is d M (zargs 0 [vr (some (b11830, 9, 0)), vi (7 : Int32)]) 0 [] (zafter E YX9_inner (d + 1) [(0, vr (some (a0, 8, 0)))] 280 3 [] Q))) else (if l1 = 19 then (Z E YX9_chosen d M (zargs 0 [vr (some (a0, 8, 0))]) 0 [] (zafter E YX9_inner (d + 1) [] 394 3 [] Q)) else (if l1 = 20 then (Z E YX9_chosen d M (zargs 0 [vr (some (a0, 8, 0))]) 0 [] (zafter E YX9_inner (d + 1) [] 394 3 [] Q)) else (if l1 = 21 then (∃ b11834 : Nat, (gr M a0 1) = some (b11834, 9, 0) ∧ (if (gi M b11834 4) ≤ (gi M b11834 5) then (Z E YX9_expression d M (zargs 0 [vr (some (a0, 8, 0)), vi (1 : Int32)]) 0 [] (zafter E YX9_inner (d + 1) [(0, vr (some (a0, 8, 0)))] 371 3 [] Q)) else (Z E YX10_fault d M (zargs 0 [vr (some (b11834, 9, 0)), vi (2 : Int32)]) 0 [] (zafter E YX9_inner (d + 1) [] 365 3 [] Q)))) else (if l1 = 22 then (Z E YX9_chosen d M (zargs 0 [vr (some (a0, 8, 0))]) 0 [] (zafter E YX9_inner (d + 1) [] 394 3 [] Q)) else (if l1 = 23 then (Z E YX9_tried d M (zargs 0 [vr (some (a0, 8, 0))]) 0 [] (zafter E YX9_inner (d + 1) [] 389 3 [] Q)) else (if l1 = 24 then (Z E YX9_chosen d M (zargs 0 [vr (some (a0, 8, 0))]) 0 [] (zafter E YX9_inner (d + 1) [] 394 3 [] Q)) else (if l1 = 25 then (Z E YX9_chosen d M (zargs 0 [vr (some (a0, 8, 0))]) 0 [] (zafter E YX9_inner (d + 1) [] 394 3 [] Q)) else (if l1 = 26 then (Z E YX9_variables d M (zargs 0 [vr (some (a0, 8, 0)), vi (1 : Int32)]) 0 [] (zafter E YX9_inner (d + 1) [(0, vr (some (a0, 8, 0)))] 134 3 [] Q)) else (if l1 = 27 then (Z E YX9_chosen d M (zargs 0 [vr (some (a0, 8, 0))]) 0 [] (zafter E YX9_inner (d + 1) [] 394 3 [] Q)) else (if l1 = 28 then (Z E YX9_inRound d M (zargs 0 [vr (some (a0, 8, 0))]) 0 [] (zafter E YX9_inner (d + 1) [(0, vr (some (a0, 8, 0)))] 185 3 [] Q)) else (Z E YX9_chosen d M (zargs 0 [vr (some (a0, 8, 0))]) 0 [] (zafter E YX9_inner (d + 1) [] 394 3 [] Q))))))))))))))))))))))))))))))) : Z E YX9_inner (d + 1) M [(0, vr (some (a0, 8, 0))), (1, vi l1)] 0 [] Q := by
  refine sX9_inner_0 (d := d) M a0 l1 ?_
  refine zite k (fun h11811 k => ?_) (fun h11811 k => ?_)
  · exact k
  · refine zite k (fun h11812 k => ?_) (fun h11812 k => ?_)
    · exact k
    · refine zite k (fun h11813 k => ?_) (fun h11813 k => ?_)
      · exact k
      · refine zite k (fun h11814 k => ?_) (fun h11814 k => ?_)
        · exact k
        · refine zite k (fun h11815 k => ?_) (fun h11815 k => ?_)
          · exact k
          · refine zite k (fun h11816 k => ?_) (fun h11816 k => ?_)
            · exact k
            · refine zite k (fun h11817 k => ?_) (fun h11817 k => ?_)
              · exact k
              · refine zite k (fun h11818 k => ?_) (fun h11818 k => ?_)
                · exact k
                · refine zite k (fun h11819 k => ?_) (fun h11819 k => ?_)
                  · exact k
                  · refine zite k (fun h11820 k => ?_) (fun h11820 k => ?_)
                    · exact k
                    · refine zite k (fun h11821 k => ?_) (fun h11821 k => ?_)
                      · exact k
                      · refine zite k (fun h11822 k => ?_) (fun h11822 k => ?_)
                        · exact k
                        · refine zite k (fun h11823 k => ?_) (fun h11823 k => ?_)
                          · exact k
                          · refine zite k (fun h11824 k => ?_) (fun h11824 k => ?_)
                            · exact k
                            · refine zite k (fun h11825 k => ?_) (fun h11825 k => ?_)
                              · exact k
                              · refine zite k (fun h11826 k => ?_) (fun h11826 k => ?_)
                                · exact k
                                · refine zite k (fun h11827 k => ?_) (fun h11827 k => ?_)
                                  · exact k
                                  · refine zite k (fun h11828 k => ?_) (fun h11828 k => ?_)
                                    · exact k
                                    · refine zite k (fun h11829 k => ?_) (fun h11829 k => ?_)
                                      · exact k
                                      · refine zite k (fun h11831 k => ?_) (fun h11831 k => ?_)
                                        · exact k
                                        · refine zite k (fun h11832 k => ?_) (fun h11832 k => ?_)
                                          · exact k
                                          · refine zite k (fun h11833 k => ?_) (fun h11833 k => ?_)
                                            · obtain ⟨b11834, h11834, k⟩ := k
                                              refine ⟨b11834, h11834, ?_⟩
                                              refine sX10_onLaterLine_0 (d := d) M b11834 ?_
                                              refine zite k (fun h11835 k => ?_) (fun h11835 k => ?_)
                                              · show Z E YX9_inner (d + 1) M [(0, vr (some (a0, 8, 0)))] 357 [vi (0 : Int32)] Q
                                                refine sX9_inner_357 (d := d) M _ (0 : Int32) ?_
                                                refine zpos (show (0 : Int32) = 0 from by decide) ?_
                                                exact k
                                              · show Z E YX9_inner (d + 1) M [(0, vr (some (a0, 8, 0)))] 357 [vi (1 : Int32)] Q
                                                refine sX9_inner_357 (d := d) M _ (1 : Int32) ?_
                                                refine zneg (show ¬ ((1 : Int32) = 0) from by decide) ?_
                                                refine ⟨b11834, h11834, ?_⟩
                                                exact k
                                            · exact k
theorem iX9_inner_256 {E : zE} {d : Nat} {Q : zO → zM → Prop} (M : zM) (l1 : Int32) (k : if l1 = (3 : Int32) then (16 ≤ (zsz M) ∧ (zfit .boolean (1 : Int32) ∧ (Q (.inl (some (vr (some ((zsz M), 40, 0))))) (si (zn M 1) (zsz M) 0 (1 : Int32))))) else (16 ≤ (zsz M) ∧ (zfit .boolean (0 : Int32) ∧ (Q (.inl (some (vr (some ((zsz M), 40, 0))))) (si (zn M 1) (zsz M) 0 (0 : Int32)))))) : Z E YX9_inner (d + 3) M [(1, vi l1)] 256 [] Q := by
  refine sX9_inner_256 (d := (d + 2)) M l1 ?_
  refine sX9_inner_259 (d := (d + 2)) (zn M 1) l1 (zsz M) ?_
  refine zite k (fun h11846 k => ?_) (fun h11846 k => ?_)
  · refine jX35_init (d := d) (zn M 1) (zsz M) (1 : Int32) ?_
    refine zand k (fun h11847 k => ?_)
    refine zand k (fun h11848 k => ?_)
    show Z E YX9_inner ((d + 2) + 1) (si (zn M 1) (zsz M) 0 (1 : Int32)) [] 273 [vr (some ((zsz M), 40, 0))] Q
    refine sX9_inner_273 (d := (d + 2)) (si (zn M 1) (zsz M) 0 (1 : Int32)) (zsz M) ?_
    exact k
  · refine jX35_init (d := d) (zn M 1) (zsz M) (0 : Int32) ?_
    refine zand k (fun h11849 k => ?_)
    refine zand k (fun h11850 k => ?_)
    show Z E YX9_inner ((d + 2) + 1) (si (zn M 1) (zsz M) 0 (0 : Int32)) [] 273 [vr (some ((zsz M), 40, 0))] Q
    refine sX9_inner_273 (d := (d + 2)) (si (zn M 1) (zsz M) 0 (0 : Int32)) (zsz M) ?_
    exact k
theorem iX9_inner_283 {E : zE} {d : Nat} {Q : zO → zM → Prop} (M : zM) (a0 : Nat) (s0 : Int32) (k : if s0 = 0 then (∃ b11853 : Nat, (gr M a0 1) = some (b11853, 9, 0) ∧ (if (gi M b11853 3) = (5 : Int32) then (if (gi M b11853 6) = (1 : Int32) then (Z E YX9_semicolon d M (zargs 0 [vr (some (a0, 8, 0))]) 0 [] (zafter E YX9_inner (d + 1) [(3, vr none)] 338 3 [] Q)) else (if (gi M b11853 3) = 0 then (Z E YX9_semicolon d M (zargs 0 [vr (some (a0, 8, 0))]) 0 [] (zafter E YX9_inner (d + 1) [(3, vr none)] 338 3 [] Q)) else (if (gi M b11853 4) ≤ (gi M b11853 5) then (Z E YX9_expression d M (zargs 0 [vr (some (a0, 8, 0)), vi (1 : Int32)]) 0 [] (zafter E YX9_inner (d + 1) [(0, vr (some (a0, 8, 0)))] 333 3 [] Q)) else (Z E YX9_semicolon d M (zargs 0 [vr (some (a0, 8, 0))]) 0 [] (zafter E YX9_inner (d + 1) [(3, vr none)] 338 3 [] Q))))) else (if (gi M b11853 3) = 0 then (Z E YX9_semicolon d M (zargs 0 [vr (some (a0, 8, 0))]) 0 [] (zafter E YX9_inner (d + 1) [(3, vr none)] 338 3 [] Q)) else (if (gi M b11853 4) ≤ (gi M b11853 5) then (Z E YX9_expression d M (zargs 0 [vr (some (a0, 8, 0)), vi (1 : Int32)]) 0 [] (zafter E YX9_inner (d + 1) [(0, vr (some (a0, 8, 0)))] 333 3 [] Q)) else (Z E YX9_semicolon d M (zargs 0 [vr (some (a0, 8, 0))]) 0 [] (zafter E YX9_inner (d + 1) [(3, vr none)] 338 3 [] Q)))))) else (Z E YX9_semicolon d M (zargs 0 [vr (some (a0, 8, 0))]) 0 [] (zafter E YX9_inner (d + 1) [(3, vr none)] 338 3 [] Q))) : Z E YX9_inner (d + 1) M [(0, vr (some (a0, 8, 0)))] 283 [vi s0] Q := by
  refine sX9_inner_283 (d := d) M a0 s0 ?_
  refine zite k (fun h11852 k => ?_) (fun h11852 k => ?_)
  · obtain ⟨b11853, h11853, k⟩ := k
    refine ⟨b11853, h11853, ?_⟩
    refine sX10_is_0 (d := d) M b11853 (1 : Int32) ?_
    refine zite k (fun h11854 k => ?_) (fun h11854 k => ?_)
    · refine zite k (fun h11855 k => ?_) (fun h11855 k => ?_)
      · show Z E YX9_inner (d + 1) M [(0, vr (some (a0, 8, 0)))] 294 [vi (1 : Int32)] Q
        refine sX9_inner_294 (d := d) M _ (1 : Int32) ?_
        refine zneg (show ¬ ((1 : Int32) = 0) from by decide) ?_
        refine sX9_inner_322 (d := d) M _ (1 : Int32) ?_
        refine zneg (show ¬ ((1 : Int32) = 0) from by decide) ?_
        refine sX9_inner_336 (d := d) M _ none ?_
        exact k
      · show Z E YX9_inner (d + 1) M [(0, vr (some (a0, 8, 0)))] 294 [vi (0 : Int32)] Q
        refine sX9_inner_294 (d := d) M _ (0 : Int32) ?_
        refine zpos (show (0 : Int32) = 0 from by decide) ?_
        refine ⟨b11853, h11853, ?_⟩
        refine zite k (fun h11856 k => ?_) (fun h11856 k => ?_)
        · refine sX9_inner_322 (d := d) M _ (1 : Int32) ?_
          refine zneg (show ¬ ((1 : Int32) = 0) from by decide) ?_
          refine sX9_inner_336 (d := d) M _ none ?_
          exact k
        · refine ⟨b11853, h11853, ?_⟩
          refine sX10_onLaterLine_0 (d := d) M b11853 ?_
          refine zite k (fun h11857 k => ?_) (fun h11857 k => ?_)
          · show Z E YX9_inner (d + 1) M [(0, vr (some (a0, 8, 0)))] 314 [vi (0 : Int32)] Q
            refine sX9_inner_314 (d := d) M _ (0 : Int32) ?_
            refine zpos (show (0 : Int32) = 0 from by decide) ?_
            refine sX9_inner_322 (d := d) M _ (0 : Int32) ?_
            refine zpos (show (0 : Int32) = 0 from by decide) ?_
            exact k
          · show Z E YX9_inner (d + 1) M [(0, vr (some (a0, 8, 0)))] 314 [vi (1 : Int32)] Q
            refine sX9_inner_314 (d := d) M _ (1 : Int32) ?_
            refine zneg (show ¬ ((1 : Int32) = 0) from by decide) ?_
            refine sX9_inner_322 (d := d) M _ (1 : Int32) ?_
            refine zneg (show ¬ ((1 : Int32) = 0) from by decide) ?_
            refine sX9_inner_336 (d := d) M _ none ?_
            exact k
    · show Z E YX9_inner (d + 1) M [(0, vr (some (a0, 8, 0)))] 294 [vi (0 : Int32)] Q
      refine sX9_inner_294 (d := d) M _ (0 : Int32) ?_
      refine zpos (show (0 : Int32) = 0 from by decide) ?_
      refine ⟨b11853, h11853, ?_⟩
      refine zite k (fun h11858 k => ?_) (fun h11858 k => ?_)
      · refine sX9_inner_322 (d := d) M _ (1 : Int32) ?_
        refine zneg (show ¬ ((1 : Int32) = 0) from by decide) ?_
        refine sX9_inner_336 (d := d) M _ none ?_
        exact k
      · refine ⟨b11853, h11853, ?_⟩
        refine sX10_onLaterLine_0 (d := d) M b11853 ?_
        refine zite k (fun h11859 k => ?_) (fun h11859 k => ?_)
        · show Z E YX9_inner (d + 1) M [(0, vr (some (a0, 8, 0)))] 314 [vi (0 : Int32)] Q
          refine sX9_inner_314 (d := d) M _ (0 : Int32) ?_
          refine zpos (show (0 : Int32) = 0 from by decide) ?_
          refine sX9_inner_322 (d := d) M _ (0 : Int32) ?_
          refine zpos (show (0 : Int32) = 0 from by decide) ?_
          exact k
        · show Z E YX9_inner (d + 1) M [(0, vr (some (a0, 8, 0)))] 314 [vi (1 : Int32)] Q
          refine sX9_inner_314 (d := d) M _ (1 : Int32) ?_
          refine zneg (show ¬ ((1 : Int32) = 0) from by decide) ?_
          refine sX9_inner_322 (d := d) M _ (1 : Int32) ?_
          refine zneg (show ¬ ((1 : Int32) = 0) from by decide) ?_
          refine sX9_inner_336 (d := d) M _ none ?_
          exact k
  · refine sX9_inner_322 (d := d) M _ (1 : Int32) ?_
    refine zneg (show ¬ ((1 : Int32) = 0) from by decide) ?_
    refine sX9_inner_336 (d := d) M _ none ?_
    exact k
theorem iX9_inner_188 {E : zE} {d : Nat} {Q : zO → zM → Prop} (M : zM) (a0 : Nat) (u0 : Option zP) (k : Z E YX9_looped d (zn M 5) (zargs 0 [vr (some (a0, 8, 0))]) 0 [] (zafter E YX9_inner (d + 1) [] 198 3 [vr none, vr u0, vr none, vi (0 : Int32), vr (some ((zsz M), 38, 0)), vr (some ((zsz M), 38, 0))] Q)) : Z E YX9_inner (d + 1) M [(0, vr (some (a0, 8, 0)))] 188 [vr u0] Q := by
  refine sX9_inner_188 (d := d) M a0 u0 ?_
  refine sX9_inner_192 (d := d) (zn M 5) _ u0 (zsz M) ?_
  exact k
theorem iX9_inner_153 {E : zE} {d : Nat} {Q : zO → zM → Prop} (M : zM) (a0 : Nat) (r2 : Option zP) (u0 : Option zP) (k : ∃ b11861 : Nat, (gr (zn M 3) a0 1) = some (b11861, 9, 0) ∧ (Z E YX10_takesWord d (zn M 3) (zargs 0 [vr (some (b11861, 9, 0)), vi (7 : Int32)]) 0 [] (zafter E YX9_inner (d + 1) [(0, vr (some (a0, 8, 0)))] 166 3 [vr u0, vr r2, vr (some ((zsz M), 37, 0)), vr (some ((zsz M), 37, 0))] Q))) : Z E YX9_inner (d + 1) M [(0, vr (some (a0, 8, 0))), (2, vr r2)] 153 [vr u0] Q := by
  refine sX9_inner_153 (d := d) M a0 r2 u0 ?_
  refine sX9_inner_157 (d := d) (zn M 3) _ r2 u0 (zsz M) ?_
  exact k
theorem iX9_inner_341 {E : zE} {d : Nat} {Q : zO → zM → Prop} (M : zM) (r3 : Option zP) (k : 16 ≤ (zsz M) ∧ (Q (.inl (some (vr (some ((zsz M), 41, 0))))) (sr (zn M 1) (zsz M) 0 r3))) : Z E YX9_inner (d + 3) M [(3, vr r3)] 341 [] Q := by
  refine sX9_inner_341 (d := (d + 2)) M r3 ?_
  refine sX9_inner_344 (d := (d + 2)) (zn M 1) r3 (zsz M) ?_
  refine jX36_init (d := d) (zn M 1) (zsz M) r3 ?_
  refine zand k (fun h11863 k => ?_)
  show Z E YX9_inner ((d + 2) + 1) (sr (zn M 1) (zsz M) 0 r3) [] 349 [vr (some ((zsz M), 41, 0))] Q
  refine sX9_inner_349 (d := (d + 2)) (sr (zn M 1) (zsz M) 0 r3) (zsz M) ?_
  exact k
theorem iX9_inner_379 {E : zE} {d : Nat} {Q : zO → zM → Prop} (M : zM) (r2 : Option zP) (k : 16 ≤ (zsz M) ∧ (Q (.inl (some (vr (some ((zsz M), 42, 0))))) (sr (zn M 1) (zsz M) 0 r2))) : Z E YX9_inner (d + 3) M [(2, vr r2)] 379 [] Q := by
  refine sX9_inner_379 (d := (d + 2)) M r2 ?_
  refine sX9_inner_382 (d := (d + 2)) (zn M 1) r2 (zsz M) ?_
  refine jX37_init (d := d) (zn M 1) (zsz M) r2 ?_
  refine zand k (fun h11865 k => ?_)
  show Z E YX9_inner ((d + 2) + 1) (sr (zn M 1) (zsz M) 0 r2) [] 387 [vr (some ((zsz M), 42, 0))] Q
  refine sX9_inner_387 (d := (d + 2)) (sr (zn M 1) (zsz M) 0 r2) (zsz M) ?_
  exact k
theorem iX9_inner_201 {E : zE} {d : Nat} {Q : zO → zM → Prop} (M : zM) (u0 : Option zP) (u2 : Option zP) (s4 : Int32) (p5 : Nat) (p6 : Nat) (k : 16 ≤ p5 ∧ (Q (.inl (some (vr (some (p6, 38, 0))))) (sr (sr (sr (sr (si M p5 0 s4) p5 1 none) p5 2 u2) p5 3 none) p5 4 u0))) : Z E YX9_inner (d + 3) M [] 201 [vr u0, vr none, vr u2, vr none, vi s4, vr (some (p5, 38, 0)), vr (some (p6, 38, 0))] Q := by
  refine sX9_inner_201 (d := (d + 2)) M u0 u2 s4 p5 p6 ?_
  refine jX33_init (d := d) M p5 s4 none u2 none u0 ?_
  refine zand k (fun h11867 k => ?_)
  show Z E YX9_inner ((d + 2) + 1) (sr (sr (sr (sr (si M p5 0 s4) p5 1 none) p5 2 u2) p5 3 none) p5 4 u0) [] 204 [vr (some (p6, 38, 0))] Q
  refine sX9_inner_204 (d := (d + 2)) (sr (sr (sr (sr (si M p5 0 s4) p5 1 none) p5 2 u2) p5 3 none) p5 4 u0) p6 ?_
  exact k
theorem iX9_inner_169 {E : zE} {d : Nat} {Q : zO → zM → Prop} (M : zM) (a0 : Nat) (s0 : Int32) (u1 : Option zP) (u2 : Option zP) (p3 : Nat) (p4 : Nat) (k : if s0 = 0 then (16 ≤ p3 ∧ (Q (.inl (some (vr (some (p4, 37, 0))))) (sr (sr (sr M p3 0 u2) p3 1 u1) p3 2 none))) else (Z E YX9_statement (d + 2) M (zargs 0 [vr (some (a0, 8, 0))]) 0 [] (zafter E YX9_inner ((d + 2) + 1) [] 173 3 [vr u1, vr u2, vr (some (p3, 37, 0)), vr (some (p4, 37, 0))] Q))) : Z E YX9_inner (d + 3) M [(0, vr (some (a0, 8, 0)))] 169 [vi s0, vr u1, vr u2, vr (some (p3, 37, 0)), vr (some (p4, 37, 0))] Q := by
  refine sX9_inner_169 (d := (d + 2)) M a0 s0 u1 u2 p3 p4 ?_
  refine zite k (fun h11871 k => ?_) (fun h11871 k => ?_)
  · refine jX32_init (d := d) M p3 u2 u1 none ?_
    refine zand k (fun h11872 k => ?_)
    show Z E YX9_inner ((d + 2) + 1) (sr (sr (sr M p3 0 u2) p3 1 u1) p3 2 none) [] 183 [vr (some (p4, 37, 0))] Q
    refine sX9_inner_183 (d := (d + 2)) (sr (sr (sr M p3 0 u2) p3 1 u1) p3 2 none) p4 ?_
    exact k
  · exact k
theorem iX9_inner_233 {E : zE} {d : Nat} {Q : zO → zM → Prop} (M : zM) (r2 : Option zP) (r3 : Option zP) (s0 : Int32) (k : 16 ≤ (zsz M) ∧ (Q (.inl (some (vr (some ((zsz M), 38, 0))))) (sr (sr (sr (sr (si (zn M 5) (zsz M) 0 (1 : Int32)) (zsz M) 1 none) (zsz M) 2 r3) (zsz M) 3 none) (zsz M) 4 r2))) : Z E YX9_inner (d + 3) M [(2, vr r2), (3, vr r3)] 233 [vi s0] Q := by
  refine sX9_inner_233 (d := (d + 2)) M r2 r3 s0 ?_
  refine sX9_inner_237 (d := (d + 2)) (zn M 5) r2 r3 (zsz M) ?_
  refine jX33_init (d := d) (zn M 5) (zsz M) (1 : Int32) none r3 none r2 ?_
  refine zand k (fun h11873 k => ?_)
  show Z E YX9_inner ((d + 2) + 1) (sr (sr (sr (sr (si (zn M 5) (zsz M) 0 (1 : Int32)) (zsz M) 1 none) (zsz M) 2 r3) (zsz M) 3 none) (zsz M) 4 r2) [] 246 [vr (some ((zsz M), 38, 0))] Q
  refine sX9_inner_246 (d := (d + 2)) (sr (sr (sr (sr (si (zn M 5) (zsz M) 0 (1 : Int32)) (zsz M) 1 none) (zsz M) 2 r3) (zsz M) 3 none) (zsz M) 4 r2) (zsz M) ?_
  exact k
theorem iX9_inner_176 {E : zE} {d : Nat} {Q : zO → zM → Prop} (M : zM) (u0 : Option zP) (u1 : Option zP) (u2 : Option zP) (p3 : Nat) (p4 : Nat) (k : 16 ≤ p3 ∧ (Q (.inl (some (vr (some (p4, 37, 0))))) (sr (sr (sr M p3 0 u2) p3 1 u1) p3 2 u0))) : Z E YX9_inner (d + 3) M [] 176 [vr u0, vr u1, vr u2, vr (some (p3, 37, 0)), vr (some (p4, 37, 0))] Q := by
  refine sX9_inner_176 (d := (d + 2)) M u0 u1 u2 p3 p4 ?_
  refine jX32_init (d := d) M p3 u2 u1 u0 ?_
  refine zand k (fun h11874 k => ?_)
  show Z E YX9_inner ((d + 2) + 1) (sr (sr (sr M p3 0 u2) p3 1 u1) p3 2 u0) [] 183 [vr (some (p4, 37, 0))] Q
  refine sX9_inner_183 (d := (d + 2)) (sr (sr (sr M p3 0 u2) p3 1 u1) p3 2 u0) p4 ?_
  exact k
theorem jX24_init {E : zE} {d : Nat} {Q : zO → zM → Prop} (M : zM) (a0 : Nat) (r1 : Option zP) (k : 16 ≤ (zsz M) ∧ (16 ≤ a0 ∧ (Q (.inl none) (sr (sr (sr (si (zn M 3) (zsz M) 0 (0 : Int32)) (zsz M) 1 (some (1, 110, 0))) a0 1 (some ((zsz M), 11, 0))) a0 0 r1)))) : Z E YX24_init (d + 4) M [(0, vr (some (a0, 30, 0))), (1, vr r1)] 0 [] Q := by
  refine sX24_init_0 (d := (d + 3)) M a0 r1 ?_
  refine sX13_init_0 (d := (d + 2)) M _ 30 ?_
  show Z E YX24_init ((d + 3) + 1) M [(0, vr (some (a0, 30, 0))), (1, vr r1)] 4 [] Q
  refine sX24_init_4 (d := (d + 3)) M _ r1 ?_
  refine sX24_init_8 (d := (d + 3)) (zn M 3) _ r1 (zsz M) ?_
  refine jJ2_init (d := d) (zn M 3) (zsz M) ?_
  refine zand k (fun h11885 k => ?_)
  show Z E YX24_init ((d + 3) + 1) (sr (si (zn M 3) (zsz M) 0 (0 : Int32)) (zsz M) 1 (some (1, 110, 0))) [(0, vr (some (a0, 30, 0))), (1, vr r1)] 12 [vr (some ((zsz M), 11, 0)), vr (some (a0, 30, 0))] Q
  refine sX24_init_12 (d := (d + 3)) (sr (si (zn M 3) (zsz M) 0 (0 : Int32)) (zsz M) 1 (some (1, 110, 0))) _ r1 (zsz M) ?_
  refine zand k (fun h11886 k => ?_)
  refine ⟨h11886, ?_⟩
  exact k
theorem jX25_init {E : zE} {d : Nat} {Q : zO → zM → Prop} (M : zM) (a0 : Nat) (l1 : Int32) (r2 : Option zP) (r3 : Option zP) (k : 16 ≤ a0 ∧ (Q (.inl none) (sr (sr (si M a0 0 l1) a0 1 r2) a0 2 r3))) : Z E YX25_init (d + 1) M [(0, vr (some (a0, 19, 0))), (1, vi l1), (2, vr r2), (3, vr r3)] 0 [] Q := by
  refine sX25_init_0 (d := d) M a0 l1 r2 r3 ?_
  refine zand k (fun h12035 k => ?_)
  refine ⟨h12035, ?_⟩
  refine ⟨h12035, ?_⟩
  exact k
theorem iX9_left_0 {E : zE} {d : Nat} {Q : zO → zM → Prop} (M : zM) (a0 : Nat) (k : ∃ b11875 : Nat, (gr M a0 1) = some (b11875, 9, 0) ∧ (if (gi M b11875 3) = (2 : Int32) then (if (gi M b11875 6) = (16 : Int32) then (Z E YX9_made d M (zargs 0 [vr (some (a0, 8, 0))]) 0 [] (zafter E YX9_left (d + 1) [(0, vr (some (a0, 8, 0)))] 13 3 [] Q)) else (Z E YX9_primary d M (zargs 0 [vr (some (a0, 8, 0))]) 0 [] (zafter E YX9_left (d + 1) [(0, vr (some (a0, 8, 0)))] 20 3 [] Q))) else (Z E YX9_primary d M (zargs 0 [vr (some (a0, 8, 0))]) 0 [] (zafter E YX9_left (d + 1) [(0, vr (some (a0, 8, 0)))] 20 3 [] Q)))) : Z E YX9_left (d + 1) M [(0, vr (some (a0, 8, 0)))] 0 [] Q := by
  refine sX9_left_0 (d := d) M a0 ?_
  obtain ⟨b11875, h11875, k⟩ := k
  refine ⟨b11875, h11875, ?_⟩
  refine sX10_isWord_0 (d := d) M b11875 (16 : Int32) ?_
  refine zite k (fun h11876 k => ?_) (fun h11876 k => ?_)
  · refine zite k (fun h11877 k => ?_) (fun h11877 k => ?_)
    · show Z E YX9_left (d + 1) M [(0, vr (some (a0, 8, 0)))] 9 [vi (1 : Int32)] Q
      refine sX9_left_9 (d := d) M _ (1 : Int32) ?_
      refine zneg (show ¬ ((1 : Int32) = 0) from by decide) ?_
      exact k
    · show Z E YX9_left (d + 1) M [(0, vr (some (a0, 8, 0)))] 9 [vi (0 : Int32)] Q
      refine sX9_left_9 (d := d) M _ (0 : Int32) ?_
      refine zpos (show (0 : Int32) = 0 from by decide) ?_
      exact k
  · show Z E YX9_left (d + 1) M [(0, vr (some (a0, 8, 0)))] 9 [vi (0 : Int32)] Q
    refine sX9_left_9 (d := d) M _ (0 : Int32) ?_
    refine zpos (show (0 : Int32) = 0 from by decide) ?_
    exact k
theorem iX9_left_16 {E : zE} {d : Nat} {Q : zO → zM → Prop} (M : zM) (a0 : Nat) (u0 : Option zP) (k : Z E YX9_left (d + 1) M [(0, vr (some (a0, 8, 0))), (1, vr u0), (2, vr none)] 26 [] Q) : Z E YX9_left (d + 1) M [(0, vr (some (a0, 8, 0)))] 16 [vr u0] Q := by
  refine sX9_left_16 (d := d) M a0 u0 ?_
  refine sX9_left_23 (d := d) M _ u0 ?_
  exact k
theorem iX9_left_35 {E : zE} {d : Nat} {Q : zO → zM → Prop} (M : zM) (a0 : Nat) (r1 : Option zP) (r2 : Option zP) (s0 : Int32) (k : if s0 = 0 then (∃ b11961 : Nat, (gr M a0 1) = some (b11961, 9, 0) ∧ (Z E YX10_is (d + 4) M (zargs 0 [vr (some (b11961, 9, 0)), vi (4 : Int32)]) 0 [] (zafter E YX9_left ((d + 4) + 1) [(0, vr (some (a0, 8, 0))), (1, vr r1), (2, vr r2)] 43 3 [] Q))) else (if r2 = none then (16 ≤ (zsz (zn M 2)) ∧ (16 ≤ (zsz M) ∧ (∃ b11965 : Nat, (gr (sr (sr (sr (si (zn (zn M 2) 3) (zsz (zn M 2)) 0 (0 : Int32)) (zsz (zn M 2)) 1 (some (1, 110, 0))) (zsz M) 1 (some ((zsz (zn M 2)), 11, 0))) (zsz M) 0 r1) a0 1) = some (b11965, 9, 0) ∧ (Z E YX10_is (d + 4) (sr (sr (sr (si (zn (zn M 2) 3) (zsz (zn M 2)) 0 (0 : Int32)) (zsz (zn M 2)) 1 (some (1, 110, 0))) (zsz M) 1 (some ((zsz (zn M 2)), 11, 0))) (zsz M) 0 r1) (zargs 0 [vr (some (b11965, 9, 0)), vi (2 : Int32)]) 0 [] (zafter E YX9_left ((d + 4) + 1) [(0, vr (some (a0, 8, 0))), (1, vr r1), (2, vr (some ((zsz M), 30, 0)))] 82 3 [vr (gr (sr (sr (sr (si (zn (zn M 2) 3) (zsz (zn M 2)) 0 (0 : Int32)) (zsz (zn M 2)) 1 (some (1, 110, 0))) (zsz M) 1 (some ((zsz (zn M 2)), 11, 0))) (zsz M) 0 r1) (zsz M) 1)] Q))))) else (∃ b11966 : Nat, r2 = some (b11966, 30, 0) ∧ (∃ b11967 : Nat, (gr M a0 1) = some (b11967, 9, 0) ∧ (Z E YX10_is (d + 4) M (zargs 0 [vr (some (b11967, 9, 0)), vi (2 : Int32)]) 0 [] (zafter E YX9_left ((d + 4) + 1) [(0, vr (some (a0, 8, 0))), (1, vr r1), (2, vr (some (b11966, 30, 0)))] 82 3 [vr (gr M b11966 1)] Q)))))) : Z E YX9_left (d + 5) M [(0, vr (some (a0, 8, 0))), (1, vr r1), (2, vr r2)] 35 [vi s0] Q := by
  refine sX9_left_35 (d := (d + 4)) M a0 r1 r2 s0 ?_
  refine zite k (fun h11960 k => ?_) (fun h11960 k => ?_)
  · exact k
  · refine sX9_left_60 (d := (d + 4)) M _ r1 r2 ?_
    refine zite k (fun h11962 k => ?_) (fun h11962 k => ?_)
    · refine sX9_left_67 (d := (d + 4)) (zn M 2) _ r1 (zsz M) ?_
      refine jX24_init (d := d) (zn M 2) (zsz M) r1 ?_
      refine zand k (fun h11963 k => ?_)
      refine zand k (fun h11964 k => ?_)
      show Z E YX9_left ((d + 4) + 1) (sr (sr (sr (si (zn (zn M 2) 3) (zsz (zn M 2)) 0 (0 : Int32)) (zsz (zn M 2)) 1 (some (1, 110, 0))) (zsz M) 1 (some ((zsz (zn M 2)), 11, 0))) (zsz M) 0 r1) [(0, vr (some (a0, 8, 0))), (1, vr r1)] 72 [vr (some ((zsz M), 30, 0))] Q
      refine sX9_left_72 (d := (d + 4)) (sr (sr (sr (si (zn (zn M 2) 3) (zsz (zn M 2)) 0 (0 : Int32)) (zsz (zn M 2)) 1 (some (1, 110, 0))) (zsz M) 1 (some ((zsz (zn M 2)), 11, 0))) (zsz M) 0 r1) _ r1 (zsz M) ?_
      exact k
    · exact k
theorem iX9_left_46 {E : zE} {d : Nat} {Q : zO → zM → Prop} (M : zM) (a0 : Nat) (r1 : Option zP) (r2 : Option zP) (s0 : Int32) (k : if s0 = 0 then (∃ b12000 : Nat, (gr M a0 1) = some (b12000, 9, 0) ∧ (Z E YX10_is (d + 4) M (zargs 0 [vr (some (b12000, 9, 0)), vi (2 : Int32)]) 0 [] (zafter E YX9_left ((d + 4) + 1) [(0, vr (some (a0, 8, 0))), (1, vr r1), (2, vr r2)] 54 3 [] Q))) else (if r2 = none then (16 ≤ (zsz (zn M 2)) ∧ (16 ≤ (zsz M) ∧ (∃ b12004 : Nat, (gr (sr (sr (sr (si (zn (zn M 2) 3) (zsz (zn M 2)) 0 (0 : Int32)) (zsz (zn M 2)) 1 (some (1, 110, 0))) (zsz M) 1 (some ((zsz (zn M 2)), 11, 0))) (zsz M) 0 r1) a0 1) = some (b12004, 9, 0) ∧ (Z E YX10_is (d + 4) (sr (sr (sr (si (zn (zn M 2) 3) (zsz (zn M 2)) 0 (0 : Int32)) (zsz (zn M 2)) 1 (some (1, 110, 0))) (zsz M) 1 (some ((zsz (zn M 2)), 11, 0))) (zsz M) 0 r1) (zargs 0 [vr (some (b12004, 9, 0)), vi (2 : Int32)]) 0 [] (zafter E YX9_left ((d + 4) + 1) [(0, vr (some (a0, 8, 0))), (1, vr r1), (2, vr (some ((zsz M), 30, 0)))] 82 3 [vr (gr (sr (sr (sr (si (zn (zn M 2) 3) (zsz (zn M 2)) 0 (0 : Int32)) (zsz (zn M 2)) 1 (some (1, 110, 0))) (zsz M) 1 (some ((zsz (zn M 2)), 11, 0))) (zsz M) 0 r1) (zsz M) 1)] Q))))) else (∃ b12005 : Nat, r2 = some (b12005, 30, 0) ∧ (∃ b12006 : Nat, (gr M a0 1) = some (b12006, 9, 0) ∧ (Z E YX10_is (d + 4) M (zargs 0 [vr (some (b12006, 9, 0)), vi (2 : Int32)]) 0 [] (zafter E YX9_left ((d + 4) + 1) [(0, vr (some (a0, 8, 0))), (1, vr r1), (2, vr (some (b12005, 30, 0)))] 82 3 [vr (gr M b12005 1)] Q)))))) : Z E YX9_left (d + 5) M [(0, vr (some (a0, 8, 0))), (1, vr r1), (2, vr r2)] 46 [vi s0] Q := by
  refine sX9_left_46 (d := (d + 4)) M a0 r1 r2 s0 ?_
  refine zite k (fun h11999 k => ?_) (fun h11999 k => ?_)
  · exact k
  · refine sX9_left_60 (d := (d + 4)) M _ r1 r2 ?_
    refine zite k (fun h12001 k => ?_) (fun h12001 k => ?_)
    · refine sX9_left_67 (d := (d + 4)) (zn M 2) _ r1 (zsz M) ?_
      refine jX24_init (d := d) (zn M 2) (zsz M) r1 ?_
      refine zand k (fun h12002 k => ?_)
      refine zand k (fun h12003 k => ?_)
      show Z E YX9_left ((d + 4) + 1) (sr (sr (sr (si (zn (zn M 2) 3) (zsz (zn M 2)) 0 (0 : Int32)) (zsz (zn M 2)) 1 (some (1, 110, 0))) (zsz M) 1 (some ((zsz (zn M 2)), 11, 0))) (zsz M) 0 r1) [(0, vr (some (a0, 8, 0))), (1, vr r1)] 72 [vr (some ((zsz M), 30, 0))] Q
      refine sX9_left_72 (d := (d + 4)) (sr (sr (sr (si (zn (zn M 2) 3) (zsz (zn M 2)) 0 (0 : Int32)) (zsz (zn M 2)) 1 (some (1, 110, 0))) (zsz M) 1 (some ((zsz (zn M 2)), 11, 0))) (zsz M) 0 r1) _ r1 (zsz M) ?_
      exact k
    · exact k
theorem iX9_left_85 {E : zE} {d : Nat} {Q : zO → zM → Prop} (M : zM) (a0 : Nat) (r1 : Option zP) (a2 : Nat) (s0 : Int32) (u1 : Option zP) (k : if s0 = 0 then (Z E YX9_member d M (zargs 0 [vr (some (a0, 8, 0))]) 0 [] (zafter E YX9_left (d + 1) [(0, vr (some (a0, 8, 0))), (1, vr r1), (2, vr (some (a2, 30, 0)))] 105 3 [vr u1] Q)) else (Z E YX9_arguments d (zn M 3) (zargs 0 [vr (some (a0, 8, 0))]) 0 [] (zafter E YX9_left (d + 1) [(0, vr (some (a0, 8, 0))), (1, vr r1), (2, vr (some (a2, 30, 0)))] 95 3 [vr none, vi (-1 : Int32), vr (some ((zsz M), 19, 0)), vr (some ((zsz M), 19, 0)), vr u1] Q))) : Z E YX9_left (d + 1) M [(0, vr (some (a0, 8, 0))), (1, vr r1), (2, vr (some (a2, 30, 0)))] 85 [vi s0, vr u1] Q := by
  refine sX9_left_85 (d := d) M a0 r1 a2 s0 u1 ?_
  refine zite k (fun h12007 k => ?_) (fun h12007 k => ?_)
  · exact k
  · refine sX9_left_91 (d := d) (zn M 3) _ r1 _ (zsz M) u1 ?_
    exact k
theorem iX9_left_57 {E : zE} {d : Nat} {Q : zO → zM → Prop} (M : zM) (a0 : Nat) (r1 : Option zP) (r2 : Option zP) (s0 : Int32) (k : if s0 = 0 then (if r2 = none then (Q (.inl (some (vr r1))) M) else (Q (.inl (some (vr r2))) M)) else (if r2 = none then (16 ≤ (zsz (zn M 2)) ∧ (16 ≤ (zsz M) ∧ (∃ b12031 : Nat, (gr (sr (sr (sr (si (zn (zn M 2) 3) (zsz (zn M 2)) 0 (0 : Int32)) (zsz (zn M 2)) 1 (some (1, 110, 0))) (zsz M) 1 (some ((zsz (zn M 2)), 11, 0))) (zsz M) 0 r1) a0 1) = some (b12031, 9, 0) ∧ (Z E YX10_is (d + 4) (sr (sr (sr (si (zn (zn M 2) 3) (zsz (zn M 2)) 0 (0 : Int32)) (zsz (zn M 2)) 1 (some (1, 110, 0))) (zsz M) 1 (some ((zsz (zn M 2)), 11, 0))) (zsz M) 0 r1) (zargs 0 [vr (some (b12031, 9, 0)), vi (2 : Int32)]) 0 [] (zafter E YX9_left ((d + 4) + 1) [(0, vr (some (a0, 8, 0))), (1, vr r1), (2, vr (some ((zsz M), 30, 0)))] 82 3 [vr (gr (sr (sr (sr (si (zn (zn M 2) 3) (zsz (zn M 2)) 0 (0 : Int32)) (zsz (zn M 2)) 1 (some (1, 110, 0))) (zsz M) 1 (some ((zsz (zn M 2)), 11, 0))) (zsz M) 0 r1) (zsz M) 1)] Q))))) else (∃ b12032 : Nat, r2 = some (b12032, 30, 0) ∧ (∃ b12033 : Nat, (gr M a0 1) = some (b12033, 9, 0) ∧ (Z E YX10_is (d + 4) M (zargs 0 [vr (some (b12033, 9, 0)), vi (2 : Int32)]) 0 [] (zafter E YX9_left ((d + 4) + 1) [(0, vr (some (a0, 8, 0))), (1, vr r1), (2, vr (some (b12032, 30, 0)))] 82 3 [vr (gr M b12032 1)] Q)))))) : Z E YX9_left (d + 5) M [(0, vr (some (a0, 8, 0))), (1, vr r1), (2, vr r2)] 57 [vi s0] Q := by
  refine sX9_left_57 (d := (d + 4)) M a0 r1 r2 s0 ?_
  refine zite k (fun h12026 k => ?_) (fun h12026 k => ?_)
  · exact k
  · refine sX9_left_60 (d := (d + 4)) M _ r1 r2 ?_
    refine zite k (fun h12028 k => ?_) (fun h12028 k => ?_)
    · refine sX9_left_67 (d := (d + 4)) (zn M 2) _ r1 (zsz M) ?_
      refine jX24_init (d := d) (zn M 2) (zsz M) r1 ?_
      refine zand k (fun h12029 k => ?_)
      refine zand k (fun h12030 k => ?_)
      show Z E YX9_left ((d + 4) + 1) (sr (sr (sr (si (zn (zn M 2) 3) (zsz (zn M 2)) 0 (0 : Int32)) (zsz (zn M 2)) 1 (some (1, 110, 0))) (zsz M) 1 (some ((zsz (zn M 2)), 11, 0))) (zsz M) 0 r1) [(0, vr (some (a0, 8, 0))), (1, vr r1)] 72 [vr (some ((zsz M), 30, 0))] Q
      refine sX9_left_72 (d := (d + 4)) (sr (sr (sr (si (zn (zn M 2) 3) (zsz (zn M 2)) 0 (0 : Int32)) (zsz (zn M 2)) 1 (some (1, 110, 0))) (zsz M) 1 (some ((zsz (zn M 2)), 11, 0))) (zsz M) 0 r1) _ r1 (zsz M) ?_
      exact k
    · exact k
theorem iX9_left_98 {E : zE} {d : Nat} {Q : zO → zM → Prop} (M : zM) (a0 : Nat) (r1 : Option zP) (a2 : Nat) (u0 : Option zP) (s2 : Int32) (p3 : Nat) (p4 : Nat) (u5 : Option zP) (k : 16 ≤ p3 ∧ (∃ b12037 : Nat, u5 = some (b12037, 11, 0) ∧ (Z E YJ2_add (d + 1) (sr (sr (si M p3 0 s2) p3 1 none) p3 2 u0) (zargs 0 [vr (some (b12037, 11, 0)), vr (some (p4, 19, 0))]) 0 [] (zafter E YX9_left ((d + 1) + 1) [(0, vr (some (a0, 8, 0))), (1, vr r1), (2, vr (some (a2, 30, 0)))] 108 3 [] Q)))) : Z E YX9_left (d + 2) M [(0, vr (some (a0, 8, 0))), (1, vr r1), (2, vr (some (a2, 30, 0)))] 98 [vr u0, vr none, vi s2, vr (some (p3, 19, 0)), vr (some (p4, 19, 0)), vr u5] Q := by
  refine sX9_left_98 (d := (d + 1)) M a0 r1 a2 u0 s2 p3 p4 u5 ?_
  refine jX25_init (d := d) M p3 s2 none u0 ?_
  refine zand k (fun h12036 k => ?_)
  show Z E YX9_left ((d + 1) + 1) (sr (sr (si M p3 0 s2) p3 1 none) p3 2 u0) [(0, vr (some (a0, 8, 0))), (1, vr r1), (2, vr (some (a2, 30, 0)))] 101 [vr (some (p4, 19, 0)), vr u5] Q
  refine sX9_left_101 (d := (d + 1)) (sr (sr (si M p3 0 s2) p3 1 none) p3 2 u0) _ r1 _ p4 u5 ?_
  refine sX9_left_108 (d := (d + 1)) (sr (sr (si M p3 0 s2) p3 1 none) p3 2 u0) _ r1 _ (some (p4, 19, 0)) u5 ?_
  exact k
theorem jX26_init {E : zE} {d : Nat} {Q : zO → zM → Prop} (M : zM) (a0 : Nat) (r1 : Option zP) (r2 : Option zP) (k : 16 ≤ a0 ∧ (Q (.inl none) (sr (sr M a0 0 r1) a0 1 r2))) : Z E YX26_init (d + 2) M [(0, vr (some (a0, 31, 0))), (1, vr r1), (2, vr r2)] 0 [] Q := by
  refine sX26_init_0 (d := (d + 1)) M a0 r1 r2 ?_
  refine sX13_init_0 (d := d) M _ 31 ?_
  show Z E YX26_init ((d + 1) + 1) M [(0, vr (some (a0, 31, 0))), (1, vr r1), (2, vr r2)] 4 [] Q
  refine sX26_init_4 (d := (d + 1)) M _ r1 r2 ?_
  refine zand k (fun h12063 k => ?_)
  refine ⟨h12063, ?_⟩
  exact k
theorem iX9_made_11 {E : zE} {d : Nat} {Q : zO → zM → Prop} (M : zM) (a0 : Nat) (k : ∃ b12039 : Nat, (gr M a0 1) = some (b12039, 9, 0) ∧ (if (gi M b12039 3) = (2 : Int32) then (if (gi M b12039 6) = (16 : Int32) then (Z E YX9_made d M (zargs 0 [vr (some (a0, 8, 0))]) 0 [] (zafter E YX9_made (d + 1) [(0, vr (some (a0, 8, 0)))] 24 3 [] Q)) else (Z E YX9_primary d M (zargs 0 [vr (some (a0, 8, 0))]) 0 [] (zafter E YX9_made (d + 1) [(0, vr (some (a0, 8, 0)))] 31 3 [] Q))) else (Z E YX9_primary d M (zargs 0 [vr (some (a0, 8, 0))]) 0 [] (zafter E YX9_made (d + 1) [(0, vr (some (a0, 8, 0)))] 31 3 [] Q)))) : Z E YX9_made (d + 1) M [(0, vr (some (a0, 8, 0)))] 11 [] Q := by
  refine sX9_made_11 (d := d) M a0 ?_
  obtain ⟨b12039, h12039, k⟩ := k
  refine ⟨b12039, h12039, ?_⟩
  refine sX10_isWord_0 (d := d) M b12039 (16 : Int32) ?_
  refine zite k (fun h12040 k => ?_) (fun h12040 k => ?_)
  · refine zite k (fun h12041 k => ?_) (fun h12041 k => ?_)
    · show Z E YX9_made (d + 1) M [(0, vr (some (a0, 8, 0)))] 20 [vi (1 : Int32)] Q
      refine sX9_made_20 (d := d) M _ (1 : Int32) ?_
      refine zneg (show ¬ ((1 : Int32) = 0) from by decide) ?_
      exact k
    · show Z E YX9_made (d + 1) M [(0, vr (some (a0, 8, 0)))] 20 [vi (0 : Int32)] Q
      refine sX9_made_20 (d := d) M _ (0 : Int32) ?_
      refine zpos (show (0 : Int32) = 0 from by decide) ?_
      exact k
  · show Z E YX9_made (d + 1) M [(0, vr (some (a0, 8, 0)))] 20 [vi (0 : Int32)] Q
    refine sX9_made_20 (d := d) M _ (0 : Int32) ?_
    refine zpos (show (0 : Int32) = 0 from by decide) ?_
    exact k
theorem iX9_made_27 {E : zE} {d : Nat} {Q : zO → zM → Prop} (M : zM) (a0 : Nat) (u0 : Option zP) (k : Z E YX9_made (d + 1) M [(0, vr (some (a0, 8, 0))), (1, vr u0), (2, vr none)] 37 [] Q) : Z E YX9_made (d + 1) M [(0, vr (some (a0, 8, 0)))] 27 [vr u0] Q := by
  refine sX9_made_27 (d := d) M a0 u0 ?_
  refine sX9_made_34 (d := d) M _ u0 ?_
  exact k
theorem iX9_made_46 {E : zE} {d : Nat} {Q : zO → zM → Prop} (M : zM) (a0 : Nat) (r1 : Option zP) (r2 : Option zP) (s0 : Int32) (k : if s0 = 0 then (∃ b12157 : Nat, (gr M a0 1) = some (b12157, 9, 0) ∧ (Z E YX10_is (d + 4) M (zargs 0 [vr (some (b12157, 9, 0)), vi (4 : Int32)]) 0 [] (zafter E YX9_made ((d + 4) + 1) [(0, vr (some (a0, 8, 0))), (1, vr r1), (2, vr r2)] 54 3 [] Q))) else (if r2 = none then (16 ≤ (zsz (zn M 2)) ∧ (16 ≤ (zsz M) ∧ (Z E YX9_member (d + 4) (sr (sr (sr (si (zn (zn M 2) 3) (zsz (zn M 2)) 0 (0 : Int32)) (zsz (zn M 2)) 1 (some (1, 110, 0))) (zsz M) 1 (some ((zsz (zn M 2)), 11, 0))) (zsz M) 0 r1) (zargs 0 [vr (some (a0, 8, 0))]) 0 [] (zafter E YX9_made ((d + 4) + 1) [(0, vr (some (a0, 8, 0))), (1, vr r1), (2, vr (some ((zsz M), 30, 0)))] 78 3 [vr (gr (sr (sr (sr (si (zn (zn M 2) 3) (zsz (zn M 2)) 0 (0 : Int32)) (zsz (zn M 2)) 1 (some (1, 110, 0))) (zsz M) 1 (some ((zsz (zn M 2)), 11, 0))) (zsz M) 0 r1) (zsz M) 1)] Q)))) else (∃ b12161 : Nat, r2 = some (b12161, 30, 0) ∧ (Z E YX9_member (d + 4) M (zargs 0 [vr (some (a0, 8, 0))]) 0 [] (zafter E YX9_made ((d + 4) + 1) [(0, vr (some (a0, 8, 0))), (1, vr r1), (2, vr (some (b12161, 30, 0)))] 78 3 [vr (gr M b12161 1)] Q))))) : Z E YX9_made (d + 5) M [(0, vr (some (a0, 8, 0))), (1, vr r1), (2, vr r2)] 46 [vi s0] Q := by
  refine sX9_made_46 (d := (d + 4)) M a0 r1 r2 s0 ?_
  refine zite k (fun h12156 k => ?_) (fun h12156 k => ?_)
  · exact k
  · refine sX9_made_60 (d := (d + 4)) M _ r1 r2 ?_
    refine zite k (fun h12158 k => ?_) (fun h12158 k => ?_)
    · refine sX9_made_67 (d := (d + 4)) (zn M 2) _ r1 (zsz M) ?_
      refine jX24_init (d := d) (zn M 2) (zsz M) r1 ?_
      refine zand k (fun h12159 k => ?_)
      refine zand k (fun h12160 k => ?_)
      show Z E YX9_made ((d + 4) + 1) (sr (sr (sr (si (zn (zn M 2) 3) (zsz (zn M 2)) 0 (0 : Int32)) (zsz (zn M 2)) 1 (some (1, 110, 0))) (zsz M) 1 (some ((zsz (zn M 2)), 11, 0))) (zsz M) 0 r1) [(0, vr (some (a0, 8, 0))), (1, vr r1)] 72 [vr (some ((zsz M), 30, 0))] Q
      refine sX9_made_72 (d := (d + 4)) (sr (sr (sr (si (zn (zn M 2) 3) (zsz (zn M 2)) 0 (0 : Int32)) (zsz (zn M 2)) 1 (some (1, 110, 0))) (zsz M) 1 (some ((zsz (zn M 2)), 11, 0))) (zsz M) 0 r1) _ r1 (zsz M) ?_
      exact k
    · exact k
theorem iX9_made_57 {E : zE} {d : Nat} {Q : zO → zM → Prop} (M : zM) (a0 : Nat) (r1 : Option zP) (r2 : Option zP) (s0 : Int32) (k : if s0 = 0 then (if r2 = none then (∃ b12219 : Nat, (gr (zn M 2) a0 1) = some (b12219, 9, 0) ∧ (Z E YX10_is (d + 4) (zn M 2) (zargs 0 [vr (some (b12219, 9, 0)), vi (2 : Int32)]) 0 [] (zafter E YX9_made ((d + 4) + 1) [(0, vr (some (a0, 8, 0)))] 106 3 [vr r1, vr (some ((zsz M), 31, 0)), vr (some ((zsz M), 31, 0))] Q))) else (∃ b12220 : Nat, (gr (zn M 2) a0 1) = some (b12220, 9, 0) ∧ (Z E YX10_is (d + 4) (zn M 2) (zargs 0 [vr (some (b12220, 9, 0)), vi (2 : Int32)]) 0 [] (zafter E YX9_made ((d + 4) + 1) [(0, vr (some (a0, 8, 0)))] 106 3 [vr r2, vr (some ((zsz M), 31, 0)), vr (some ((zsz M), 31, 0))] Q)))) else (if r2 = none then (16 ≤ (zsz (zn M 2)) ∧ (16 ≤ (zsz M) ∧ (Z E YX9_member (d + 4) (sr (sr (sr (si (zn (zn M 2) 3) (zsz (zn M 2)) 0 (0 : Int32)) (zsz (zn M 2)) 1 (some (1, 110, 0))) (zsz M) 1 (some ((zsz (zn M 2)), 11, 0))) (zsz M) 0 r1) (zargs 0 [vr (some (a0, 8, 0))]) 0 [] (zafter E YX9_made ((d + 4) + 1) [(0, vr (some (a0, 8, 0))), (1, vr r1), (2, vr (some ((zsz M), 30, 0)))] 78 3 [vr (gr (sr (sr (sr (si (zn (zn M 2) 3) (zsz (zn M 2)) 0 (0 : Int32)) (zsz (zn M 2)) 1 (some (1, 110, 0))) (zsz M) 1 (some ((zsz (zn M 2)), 11, 0))) (zsz M) 0 r1) (zsz M) 1)] Q)))) else (∃ b12224 : Nat, r2 = some (b12224, 30, 0) ∧ (Z E YX9_member (d + 4) M (zargs 0 [vr (some (a0, 8, 0))]) 0 [] (zafter E YX9_made ((d + 4) + 1) [(0, vr (some (a0, 8, 0))), (1, vr r1), (2, vr (some (b12224, 30, 0)))] 78 3 [vr (gr M b12224 1)] Q))))) : Z E YX9_made (d + 5) M [(0, vr (some (a0, 8, 0))), (1, vr r1), (2, vr r2)] 57 [vi s0] Q := by
  refine sX9_made_57 (d := (d + 4)) M a0 r1 r2 s0 ?_
  refine zite k (fun h12217 k => ?_) (fun h12217 k => ?_)
  · refine sX9_made_91 (d := (d + 4)) (zn M 2) _ r1 r2 (zsz M) ?_
    exact k
  · refine sX9_made_60 (d := (d + 4)) M _ r1 r2 ?_
    refine zite k (fun h12221 k => ?_) (fun h12221 k => ?_)
    · refine sX9_made_67 (d := (d + 4)) (zn M 2) _ r1 (zsz M) ?_
      refine jX24_init (d := d) (zn M 2) (zsz M) r1 ?_
      refine zand k (fun h12222 k => ?_)
      refine zand k (fun h12223 k => ?_)
      show Z E YX9_made ((d + 4) + 1) (sr (sr (sr (si (zn (zn M 2) 3) (zsz (zn M 2)) 0 (0 : Int32)) (zsz (zn M 2)) 1 (some (1, 110, 0))) (zsz M) 1 (some ((zsz (zn M 2)), 11, 0))) (zsz M) 0 r1) [(0, vr (some (a0, 8, 0))), (1, vr r1)] 72 [vr (some ((zsz M), 30, 0))] Q
      refine sX9_made_72 (d := (d + 4)) (sr (sr (sr (si (zn (zn M 2) 3) (zsz (zn M 2)) 0 (0 : Int32)) (zsz (zn M 2)) 1 (some (1, 110, 0))) (zsz M) 1 (some ((zsz (zn M 2)), 11, 0))) (zsz M) 0 r1) _ r1 (zsz M) ?_
      exact k
    · exact k
theorem iX9_made_109 {E : zE} {d : Nat} {Q : zO → zM → Prop} (M : zM) (a0 : Nat) (s0 : Int32) (u1 : Option zP) (p2 : Nat) (p3 : Nat) (k : if s0 = 0 then (16 ≤ (zsz M) ∧ (16 ≤ p2 ∧ (16 ≤ a0 ∧ (Q (.inl (some (vr (some (p3, 31, 0))))) (si (sr (sr (sr (si (zn M 3) (zsz M) 0 (0 : Int32)) (zsz M) 1 (some (1, 110, 0))) p2 0 u1) p2 1 (some ((zsz M), 11, 0))) a0 4 ((gi (si (zn M 3) (zsz M) 0 (0 : Int32)) a0 4) - (1 : Int32))))))) else (Z E YX9_arguments (d + 3) M (zargs 0 [vr (some (a0, 8, 0))]) 0 [] (zafter E YX9_made ((d + 3) + 1) [(0, vr (some (a0, 8, 0)))] 113 3 [vr u1, vr (some (p2, 31, 0)), vr (some (p3, 31, 0))] Q))) : Z E YX9_made (d + 4) M [(0, vr (some (a0, 8, 0)))] 109 [vi s0, vr u1, vr (some (p2, 31, 0)), vr (some (p3, 31, 0))] Q := by
  refine sX9_made_109 (d := (d + 3)) M a0 s0 u1 p2 p3 ?_
  refine zite k (fun h12227 k => ?_) (fun h12227 k => ?_)
  · refine sX9_made_122 (d := (d + 3)) (zn M 3) _ (zsz M) u1 _ _ ?_
    refine jJ2_init (d := d) (zn M 3) (zsz M) ?_
    refine zand k (fun h12228 k => ?_)
    show Z E YX9_made ((d + 3) + 1) (sr (si (zn M 3) (zsz M) 0 (0 : Int32)) (zsz M) 1 (some (1, 110, 0))) [(0, vr (some (a0, 8, 0)))] 126 [vr (some ((zsz M), 11, 0)), vr u1, vr (some (p2, 31, 0)), vr (some (p3, 31, 0))] Q
    refine sX9_made_126 (d := (d + 3)) (sr (si (zn M 3) (zsz M) 0 (0 : Int32)) (zsz M) 1 (some (1, 110, 0))) _ (some ((zsz M), 11, 0)) u1 _ _ ?_
    refine jX26_init (d := (d + 1)) (sr (si (zn M 3) (zsz M) 0 (0 : Int32)) (zsz M) 1 (some (1, 110, 0))) p2 u1 (some ((zsz M), 11, 0)) ?_
    refine zand k (fun h12229 k => ?_)
    show Z E YX9_made ((d + 3) + 1) (sr (sr (sr (si (zn M 3) (zsz M) 0 (0 : Int32)) (zsz M) 1 (some (1, 110, 0))) p2 0 u1) p2 1 (some ((zsz M), 11, 0))) [(0, vr (some (a0, 8, 0)))] 129 [vr (some (p3, 31, 0))] Q
    refine sX9_made_129 (d := (d + 3)) (sr (sr (sr (si (zn M 3) (zsz M) 0 (0 : Int32)) (zsz M) 1 (some (1, 110, 0))) p2 0 u1) p2 1 (some ((zsz M), 11, 0))) _ p3 ?_
    exact k
  · exact k
theorem iX9_made_116 {E : zE} {d : Nat} {Q : zO → zM → Prop} (M : zM) (a0 : Nat) (u0 : Option zP) (u1 : Option zP) (p2 : Nat) (p3 : Nat) (k : 16 ≤ p2 ∧ (16 ≤ a0 ∧ (Q (.inl (some (vr (some (p3, 31, 0))))) (si (sr (sr M p2 0 u1) p2 1 u0) a0 4 ((gi M a0 4) - (1 : Int32)))))) : Z E YX9_made (d + 3) M [(0, vr (some (a0, 8, 0)))] 116 [vr u0, vr u1, vr (some (p2, 31, 0)), vr (some (p3, 31, 0))] Q := by
  refine sX9_made_116 (d := (d + 2)) M a0 u0 u1 p2 p3 ?_
  refine sX9_made_126 (d := (d + 2)) M _ u0 u1 _ _ ?_
  refine jX26_init (d := d) M p2 u1 u0 ?_
  refine zand k (fun h12231 k => ?_)
  show Z E YX9_made ((d + 2) + 1) (sr (sr M p2 0 u1) p2 1 u0) [(0, vr (some (a0, 8, 0)))] 129 [vr (some (p3, 31, 0))] Q
  refine sX9_made_129 (d := (d + 2)) (sr (sr M p2 0 u1) p2 1 u0) _ p3 ?_
  exact k
theorem iX9_part_0 {E : zE} {d : Nat} {Q : zO → zM → Prop} (M : zM) (a0 : Nat) (k : ∃ b12237 : Nat, (gr M a0 1) = some (b12237, 9, 0) ∧ (if (gi M b12237 3) = (2 : Int32) then (if (gi M b12237 6) = (11 : Int32) then (Z E YX9_opens d M (zargs 0 [vr (some (a0, 8, 0))]) 0 [] (zafter E YX9_part (d + 1) [(0, vr (some (a0, 8, 0)))] 29 3 [] Q)) else (∃ b12240 : Nat, (gr M a0 3) = some (b12240, 10, 0) ∧ (Z E YX9_statement d M (zargs 0 [vr (some (a0, 8, 0))]) 0 [] (zafter E YX9_part (d + 1) [] 20 3 [vr (gr M b12240 2)] Q)))) else (∃ b12241 : Nat, (gr M a0 3) = some (b12241, 10, 0) ∧ (Z E YX9_statement d M (zargs 0 [vr (some (a0, 8, 0))]) 0 [] (zafter E YX9_part (d + 1) [] 20 3 [vr (gr M b12241 2)] Q))))) : Z E YX9_part (d + 1) M [(0, vr (some (a0, 8, 0)))] 0 [] Q := by
  refine sX9_part_0 (d := d) M a0 ?_
  obtain ⟨b12237, h12237, k⟩ := k
  refine ⟨b12237, h12237, ?_⟩
  refine sX10_isWord_0 (d := d) M b12237 (11 : Int32) ?_
  refine zite k (fun h12238 k => ?_) (fun h12238 k => ?_)
  · refine zite k (fun h12239 k => ?_) (fun h12239 k => ?_)
    · show Z E YX9_part (d + 1) M [(0, vr (some (a0, 8, 0)))] 9 [vi (1 : Int32)] Q
      refine sX9_part_9 (d := d) M _ (1 : Int32) ?_
      refine zneg (show ¬ ((1 : Int32) = 0) from by decide) ?_
      exact k
    · show Z E YX9_part (d + 1) M [(0, vr (some (a0, 8, 0)))] 9 [vi (0 : Int32)] Q
      refine sX9_part_9 (d := d) M _ (0 : Int32) ?_
      refine zpos (show (0 : Int32) = 0 from by decide) ?_
      exact k
  · show Z E YX9_part (d + 1) M [(0, vr (some (a0, 8, 0)))] 9 [vi (0 : Int32)] Q
    refine sX9_part_9 (d := d) M _ (0 : Int32) ?_
    refine zpos (show (0 : Int32) = 0 from by decide) ?_
    exact k
theorem iX9_part_52 {E : zE} {d : Nat} {Q : zO → zM → Prop} (M : zM) (a0 : Nat) (r1 : Option zP) (s0 : Int32) (u1 : Option zP) (k : ∃ b12246 : Nat, u1 = some (b12246, 10, 0) ∧ (16 ≤ b12246 ∧ (∃ b12248 : Nat, (gr M a0 3) = some (b12248, 10, 0) ∧ (if (gr M b12248 1) = none then (∃ b12250 : Nat, (gr M b12248 3) = some (b12250, 11, 0) ∧ (Z E YJ2_add d (si M b12246 7 s0) (zargs 0 [vr (some (b12250, 11, 0)), vr r1]) 0 [] (zafter E YX9_part (d + 1) [(0, vr (some (a0, 8, 0))), (1, vr r1)] 84 3 [] Q))) else (∃ b12251 : Nat, r1 = some (b12251, 10, 0) ∧ (Z E YX11_add d (si M b12246 7 s0) (zargs 0 [vr (some (b12248, 10, 0)), vi (gi (si M b12246 7 s0) b12251 7)]) 0 [] (zafter E YX9_part (d + 1) [(0, vr (some (a0, 8, 0))), (1, vr (some (b12251, 10, 0)))] 73 3 [] Q))))))) : Z E YX9_part (d + 1) M [(0, vr (some (a0, 8, 0))), (1, vr r1)] 52 [vi s0, vr u1] Q := by
  refine sX9_part_52 (d := d) M a0 r1 s0 u1 ?_
  obtain ⟨b12246, h12246, k⟩ := k
  refine ⟨b12246, h12246, ?_⟩
  refine zand k (fun h12247 k => ?_)
  obtain ⟨b12248, h12248, k⟩ := k
  refine ⟨b12248, h12248, ?_⟩
  refine zite k (fun h12249 k => ?_) (fun h12249 k => ?_)
  · refine sX9_part_76 (d := d) (si M b12246 7 s0) _ r1 ?_
    refine ⟨b12248, h12248, ?_⟩
    exact k
  · obtain ⟨b12251, h12251, k⟩ := k
    refine ⟨b12251, h12251, ?_⟩
    refine ⟨b12248, h12248, ?_⟩
    exact k
theorem jX18_init {E : zE} {d : Nat} {Q : zO → zM → Prop} (M : zM) (a0 : Nat) (l1 : Int32) (l2 : Int32) (k : 16 ≤ a0 ∧ (Q (.inl none) (si (si M a0 0 l1) a0 1 l2))) : Z E YX18_init (d + 2) M [(0, vr (some (a0, 24, 0))), (1, vi l1), (2, vi l2)] 0 [] Q := by
  refine sX18_init_0 (d := (d + 1)) M a0 l1 l2 ?_
  refine sX13_init_0 (d := d) M _ 24 ?_
  show Z E YX18_init ((d + 1) + 1) M [(0, vr (some (a0, 24, 0))), (1, vi l1), (2, vi l2)] 4 [] Q
  refine sX18_init_4 (d := (d + 1)) M _ l1 l2 ?_
  refine zand k (fun h12266 k => ?_)
  refine ⟨h12266, ?_⟩
  exact k
theorem jX17_init {E : zE} {d : Nat} {Q : zO → zM → Prop} (M : zM) (a0 : Nat) (l1 : Int32) (k : 16 ≤ a0 ∧ (Q (.inl none) (si M a0 0 l1))) : Z E YX17_init (d + 2) M [(0, vr (some (a0, 23, 0))), (1, vi l1)] 0 [] Q := by
  refine sX17_init_0 (d := (d + 1)) M a0 l1 ?_
  refine sX13_init_0 (d := d) M _ 23 ?_
  show Z E YX17_init ((d + 1) + 1) M [(0, vr (some (a0, 23, 0))), (1, vi l1)] 4 [] Q
  refine sX17_init_4 (d := (d + 1)) M _ l1 ?_
  exact k
theorem jX23_init {E : zE} {d : Nat} {Q : zO → zM → Prop} (M : zM) (a0 : Nat) (l1 : Int32) (k : 16 ≤ (zsz M) ∧ (16 ≤ a0 ∧ (zfit .boolean l1 ∧ (if l1 = 0 then (Q (.inl none) (sr (zn (si (sr (sr (si (zn M 3) (zsz M) 0 (0 : Int32)) (zsz M) 1 (some (1, 110, 0))) a0 1 (some ((zsz M), 11, 0))) a0 0 l1) 16) a0 2 (some ((zsz (sr (si (zn M 3) (zsz M) 0 (0 : Int32)) (zsz M) 1 (some (1, 110, 0)))), 100, 16)))) else (Q (.inl none) (sr (si (sr (sr (si (zn M 3) (zsz M) 0 (0 : Int32)) (zsz M) 1 (some (1, 110, 0))) a0 1 (some ((zsz M), 11, 0))) a0 0 l1) a0 2 none)))))) : Z E YX23_init (d + 4) M [(0, vr (some (a0, 29, 0))), (1, vi l1)] 0 [] Q := by
  refine sX23_init_0 (d := (d + 3)) M a0 l1 ?_
  refine sX13_init_0 (d := (d + 2)) M _ 29 ?_
  show Z E YX23_init ((d + 3) + 1) M [(0, vr (some (a0, 29, 0))), (1, vi l1)] 4 [] Q
  refine sX23_init_4 (d := (d + 3)) M _ l1 ?_
  refine sX23_init_8 (d := (d + 3)) (zn M 3) _ l1 (zsz M) ?_
  refine jJ2_init (d := d) (zn M 3) (zsz M) ?_
  refine zand k (fun h12293 k => ?_)
  show Z E YX23_init ((d + 3) + 1) (sr (si (zn M 3) (zsz M) 0 (0 : Int32)) (zsz M) 1 (some (1, 110, 0))) [(0, vr (some (a0, 29, 0))), (1, vi l1)] 12 [vr (some ((zsz M), 11, 0)), vr (some (a0, 29, 0))] Q
  refine sX23_init_12 (d := (d + 3)) (sr (si (zn M 3) (zsz M) 0 (0 : Int32)) (zsz M) 1 (some (1, 110, 0))) _ l1 (zsz M) ?_
  refine zand k (fun h12294 k => ?_)
  refine ⟨h12294, ?_⟩
  refine zand k (fun h12295 k => ?_)
  refine zite k (fun h12296 k => ?_) (fun h12296 k => ?_)
  · refine sX23_init_33 (d := (d + 3)) (zn (si (sr (sr (si (zn M 3) (zsz M) 0 (0 : Int32)) (zsz M) 1 (some (1, 110, 0))) a0 1 (some ((zsz M), 11, 0))) a0 0 l1) 16) (some ((zsz (sr (si (zn M 3) (zsz M) 0 (0 : Int32)) (zsz M) 1 (some (1, 110, 0)))), 100, 16)) _ ?_
    refine ⟨h12294, ?_⟩
    exact k
  · refine sX23_init_33 (d := (d + 3)) (si (sr (sr (si (zn M 3) (zsz M) 0 (0 : Int32)) (zsz M) 1 (some (1, 110, 0))) a0 1 (some ((zsz M), 11, 0))) a0 0 l1) none _ ?_
    refine ⟨h12294, ?_⟩
    exact k
theorem jX21_init {E : zE} {d : Nat} {Q : zO → zM → Prop} (M : zM) (a0 : Nat) (r1 : Option zP) (k : 16 ≤ a0 ∧ (Q (.inl none) (sr M a0 0 r1))) : Z E YX21_init (d + 2) M [(0, vr (some (a0, 27, 0))), (1, vr r1)] 0 [] Q := by
  refine sX21_init_0 (d := (d + 1)) M a0 r1 ?_
  refine sX13_init_0 (d := d) M _ 27 ?_
  show Z E YX21_init ((d + 1) + 1) M [(0, vr (some (a0, 27, 0))), (1, vr r1)] 4 [] Q
  refine sX21_init_4 (d := (d + 1)) M _ r1 ?_
  exact k
theorem iX9_primary_0 {E : zE} {d : Nat} {Q : zO → zM → Prop} (M : zM) (a0 : Nat) (k : ∃ b12267 : Nat, (gr M a0 1) = some (b12267, 9, 0) ∧ (if (gi M b12267 3) = (1 : Int32) then (∃ b12269 : Nat, (gr (zn M 1) a0 1) = some (b12269, 9, 0) ∧ (Z E YX10_needName (d + 2) (zn M 1) (zargs 0 [vr (some (b12269, 9, 0))]) 0 [] (zafter E YX9_primary ((d + 2) + 1) [] 19 3 [vr (some ((zsz M), 23, 0)), vr (some ((zsz M), 23, 0))] Q))) else (if (gi M b12267 3) = (3 : Int32) then (∃ b12271 : Nat, (gr (zn M 2) a0 1) = some (b12271, 9, 0) ∧ (16 ≤ (zsz M) ∧ (Z E YX10_next (d + 2) (si (si (zn M 2) (zsz M) 0 (5 : Int32)) (zsz M) 1 (gi (zn M 2) b12271 7)) (zargs 0 [vr (some (b12271, 9, 0))]) 0 [] (zafter E YX9_primary ((d + 2) + 1) [(1, vr (some ((zsz M), 24, 0)))] 57 3 [] Q)))) else (if (gi M b12267 3) = (4 : Int32) then (∃ b12274 : Nat, (gr (zn M 2) a0 1) = some (b12274, 9, 0) ∧ (16 ≤ (zsz M) ∧ (Z E YX10_next (d + 2) (si (si (zn M 2) (zsz M) 0 (6 : Int32)) (zsz M) 1 (gi (zn M 2) b12274 6)) (zargs 0 [vr (some (b12274, 9, 0))]) 0 [] (zafter E YX9_primary ((d + 2) + 1) [(1, vr (some ((zsz M), 24, 0)))] 94 3 [] Q)))) else (if (gi M b12267 3) = (2 : Int32) then (Z E YX9_wordAlone (d + 2) M (zargs 0 [vr (some (a0, 8, 0))]) 0 [] (zafter E YX9_primary ((d + 2) + 1) [] 111 3 [] Q)) else (if (gi M b12267 3) = (5 : Int32) then (if (gi M b12267 6) = (2 : Int32) then (Z E YX9_opens (d + 2) M (zargs 0 [vr (some (a0, 8, 0))]) 0 [] (zafter E YX9_primary ((d + 2) + 1) [(0, vr (some (a0, 8, 0)))] 127 3 [] Q)) else (if (gi M b12267 6) = (4 : Int32) then (Z E YX9_opens (d + 2) M (zargs 0 [vr (some (a0, 8, 0))]) 0 [] (zafter E YX9_primary ((d + 2) + 1) [(0, vr (some (a0, 8, 0)))] 202 3 [] Q)) else (if (gi M b12267 6) = (0 : Int32) then (Z E YX9_opens (d + 2) M (zargs 0 [vr (some (a0, 8, 0))]) 0 [] (zafter E YX9_primary ((d + 2) + 1) [(0, vr (some (a0, 8, 0)))] 202 3 [] Q)) else (Z E YX10_fault (d + 2) M (zargs 0 [vr (some (b12267, 9, 0)), vi (2 : Int32)]) 0 [] (zafter E YX9_primary ((d + 2) + 1) [] 197 3 [] Q))))) else (Z E YX10_fault (d + 2) M (zargs 0 [vr (some (b12267, 9, 0)), vi (2 : Int32)]) 0 [] (zafter E YX9_primary ((d + 2) + 1) [] 197 3 [] Q)))))))) : Z E YX9_primary (d + 3) M [(0, vr (some (a0, 8, 0)))] 0 [] Q := by
  refine sX9_primary_0 (d := (d + 2)) M a0 ?_
  obtain ⟨b12267, h12267, k⟩ := k
  refine ⟨b12267, h12267, ?_⟩
  refine zite k (fun h12268 k => ?_) (fun h12268 k => ?_)
  · refine sX9_primary_14 (d := (d + 2)) (zn M 1) _ (zsz M) ?_
    exact k
  · refine ⟨b12267, h12267, ?_⟩
    refine zite k (fun h12270 k => ?_) (fun h12270 k => ?_)
    · refine sX9_primary_40 (d := (d + 2)) (zn M 2) _ (zsz M) ?_
      obtain ⟨b12271, h12271, k⟩ := k
      refine ⟨b12271, h12271, ?_⟩
      refine jX18_init (d := d) (zn M 2) (zsz M) (5 : Int32) (gi (zn M 2) b12271 7) ?_
      refine zand k (fun h12272 k => ?_)
      show Z E YX9_primary ((d + 2) + 1) (si (si (zn M 2) (zsz M) 0 (5 : Int32)) (zsz M) 1 (gi (zn M 2) b12271 7)) [(0, vr (some (a0, 8, 0)))] 52 [vr (some ((zsz M), 24, 0))] Q
      refine sX9_primary_52 (d := (d + 2)) (si (si (zn M 2) (zsz M) 0 (5 : Int32)) (zsz M) 1 (gi (zn M 2) b12271 7)) _ (zsz M) ?_
      refine ⟨b12271, h12271, ?_⟩
      exact k
    · refine ⟨b12267, h12267, ?_⟩
      refine zite k (fun h12273 k => ?_) (fun h12273 k => ?_)
      · refine sX9_primary_76 (d := (d + 2)) (zn M 2) _ (zsz M) ?_
        obtain ⟨b12274, h12274, k⟩ := k
        refine ⟨b12274, h12274, ?_⟩
        refine jX18_init (d := d) (zn M 2) (zsz M) (6 : Int32) (gi (zn M 2) b12274 6) ?_
        refine zand k (fun h12275 k => ?_)
        show Z E YX9_primary ((d + 2) + 1) (si (si (zn M 2) (zsz M) 0 (6 : Int32)) (zsz M) 1 (gi (zn M 2) b12274 6)) [(0, vr (some (a0, 8, 0)))] 89 [vr (some ((zsz M), 24, 0))] Q
        refine sX9_primary_89 (d := (d + 2)) (si (si (zn M 2) (zsz M) 0 (6 : Int32)) (zsz M) 1 (gi (zn M 2) b12274 6)) _ (zsz M) ?_
        refine ⟨b12274, h12274, ?_⟩
        exact k
      · refine ⟨b12267, h12267, ?_⟩
        refine zite k (fun h12276 k => ?_) (fun h12276 k => ?_)
        · exact k
        · refine ⟨b12267, h12267, ?_⟩
          refine sX10_is_0 (d := (d + 2)) M b12267 (2 : Int32) ?_
          refine zite k (fun h12283 k => ?_) (fun h12283 k => ?_)
          · refine zite k (fun h12284 k => ?_) (fun h12284 k => ?_)
            · show Z E YX9_primary ((d + 2) + 1) M [(0, vr (some (a0, 8, 0)))] 123 [vi (1 : Int32)] Q
              refine sX9_primary_123 (d := (d + 2)) M _ (1 : Int32) ?_
              refine zneg (show ¬ ((1 : Int32) = 0) from by decide) ?_
              exact k
            · show Z E YX9_primary ((d + 2) + 1) M [(0, vr (some (a0, 8, 0)))] 123 [vi (0 : Int32)] Q
              refine sX9_primary_123 (d := (d + 2)) M _ (0 : Int32) ?_
              refine zpos (show (0 : Int32) = 0 from by decide) ?_
              refine ⟨b12267, h12267, ?_⟩
              refine sX10_is_0 (d := (d + 2)) M b12267 (4 : Int32) ?_
              refine zpos h12283 ?_
              refine zite k (fun h12285 k => ?_) (fun h12285 k => ?_)
              · show Z E YX9_primary ((d + 2) + 1) M [(0, vr (some (a0, 8, 0)))] 178 [vi (1 : Int32)] Q
                refine sX9_primary_178 (d := (d + 2)) M _ (1 : Int32) ?_
                refine zneg (show ¬ ((1 : Int32) = 0) from by decide) ?_
                exact k
              · show Z E YX9_primary ((d + 2) + 1) M [(0, vr (some (a0, 8, 0)))] 178 [vi (0 : Int32)] Q
                refine sX9_primary_178 (d := (d + 2)) M _ (0 : Int32) ?_
                refine zpos (show (0 : Int32) = 0 from by decide) ?_
                refine ⟨b12267, h12267, ?_⟩
                refine sX10_is_0 (d := (d + 2)) M b12267 (0 : Int32) ?_
                refine zpos h12283 ?_
                refine zite k (fun h12286 k => ?_) (fun h12286 k => ?_)
                · show Z E YX9_primary ((d + 2) + 1) M [(0, vr (some (a0, 8, 0)))] 189 [vi (1 : Int32)] Q
                  refine sX9_primary_189 (d := (d + 2)) M _ (1 : Int32) ?_
                  refine zneg (show ¬ ((1 : Int32) = 0) from by decide) ?_
                  exact k
                · show Z E YX9_primary ((d + 2) + 1) M [(0, vr (some (a0, 8, 0)))] 189 [vi (0 : Int32)] Q
                  refine sX9_primary_189 (d := (d + 2)) M _ (0 : Int32) ?_
                  refine zpos (show (0 : Int32) = 0 from by decide) ?_
                  refine ⟨b12267, h12267, ?_⟩
                  exact k
          · show Z E YX9_primary ((d + 2) + 1) M [(0, vr (some (a0, 8, 0)))] 123 [vi (0 : Int32)] Q
            refine sX9_primary_123 (d := (d + 2)) M _ (0 : Int32) ?_
            refine zpos (show (0 : Int32) = 0 from by decide) ?_
            refine ⟨b12267, h12267, ?_⟩
            refine sX10_is_0 (d := (d + 2)) M b12267 (4 : Int32) ?_
            refine zneg h12283 ?_
            show Z E YX9_primary ((d + 2) + 1) M [(0, vr (some (a0, 8, 0)))] 178 [vi (0 : Int32)] Q
            refine sX9_primary_178 (d := (d + 2)) M _ (0 : Int32) ?_
            refine zpos (show (0 : Int32) = 0 from by decide) ?_
            refine ⟨b12267, h12267, ?_⟩
            refine sX10_is_0 (d := (d + 2)) M b12267 (0 : Int32) ?_
            refine zneg h12283 ?_
            show Z E YX9_primary ((d + 2) + 1) M [(0, vr (some (a0, 8, 0)))] 189 [vi (0 : Int32)] Q
            refine sX9_primary_189 (d := (d + 2)) M _ (0 : Int32) ?_
            refine zpos (show (0 : Int32) = 0 from by decide) ?_
            refine ⟨b12267, h12267, ?_⟩
            exact k
theorem iX9_primary_22 {E : zE} {d : Nat} {Q : zO → zM → Prop} (M : zM) (s0 : Int32) (p1 : Nat) (p2 : Nat) (k : 16 ≤ p1 ∧ (Q (.inl (some (vr (some (p2, 23, 0))))) (si M p1 0 s0))) : Z E YX9_primary (d + 3) M [] 22 [vi s0, vr (some (p1, 23, 0)), vr (some (p2, 23, 0))] Q := by
  refine sX9_primary_22 (d := (d + 2)) M s0 p1 p2 ?_
  refine jX17_init (d := d) M p1 s0 ?_
  refine zand k (fun h12288 k => ?_)
  show Z E YX9_primary ((d + 2) + 1) (si M p1 0 s0) [] 25 [vr (some (p2, 23, 0))] Q
  refine sX9_primary_25 (d := (d + 2)) (si M p1 0 s0) p2 ?_
  exact k
theorem iX9_primary_205 {E : zE} {d : Nat} {Q : zO → zM → Prop} (M : zM) (a0 : Nat) (k : ∃ b12290 : Nat, (gr M a0 1) = some (b12290, 9, 0) ∧ (if (gi M b12290 3) = (5 : Int32) then (if (gi M b12290 6) = (4 : Int32) then (Z E YX9_items d M (zargs 0 [vr (some (a0, 8, 0)), vi (1 : Int32)]) 0 [] (zafter E YX9_primary (d + 1) [(0, vr (some (a0, 8, 0)))] 214 3 [] Q)) else (Z E YX9_items d M (zargs 0 [vr (some (a0, 8, 0)), vi (0 : Int32)]) 0 [] (zafter E YX9_primary (d + 1) [(0, vr (some (a0, 8, 0)))] 214 3 [] Q))) else (Z E YX9_items d M (zargs 0 [vr (some (a0, 8, 0)), vi (0 : Int32)]) 0 [] (zafter E YX9_primary (d + 1) [(0, vr (some (a0, 8, 0)))] 214 3 [] Q)))) : Z E YX9_primary (d + 1) M [(0, vr (some (a0, 8, 0)))] 205 [] Q := by
  refine sX9_primary_205 (d := d) M a0 ?_
  obtain ⟨b12290, h12290, k⟩ := k
  refine ⟨b12290, h12290, ?_⟩
  refine sX10_is_0 (d := d) M b12290 (4 : Int32) ?_
  refine zite k (fun h12291 k => ?_) (fun h12291 k => ?_)
  · refine zite k (fun h12292 k => ?_) (fun h12292 k => ?_)
    · show Z E YX9_primary (d + 1) M [(0, vr (some (a0, 8, 0)))] 214 [vi (1 : Int32), vr (some (a0, 8, 0))] Q
      refine sX9_primary_214 (d := d) M _ (1 : Int32) ?_
      exact k
    · show Z E YX9_primary (d + 1) M [(0, vr (some (a0, 8, 0)))] 214 [vi (0 : Int32), vr (some (a0, 8, 0))] Q
      refine sX9_primary_214 (d := d) M _ (0 : Int32) ?_
      exact k
  · show Z E YX9_primary (d + 1) M [(0, vr (some (a0, 8, 0)))] 214 [vi (0 : Int32), vr (some (a0, 8, 0))] Q
    refine sX9_primary_214 (d := d) M _ (0 : Int32) ?_
    exact k
theorem iX9_primary_137 {E : zE} {d : Nat} {Q : zO → zM → Prop} (M : zM) (a0 : Nat) (k : Z E YX9_expression d (zn M 1) (zargs 0 [vr (some (a0, 8, 0)), vi (1 : Int32)]) 0 [] (zafter E YX9_primary (d + 1) [(0, vr (some (a0, 8, 0)))] 143 3 [vr (some ((zsz M), 27, 0)), vr (some ((zsz M), 27, 0))] Q)) : Z E YX9_primary (d + 1) M [(0, vr (some (a0, 8, 0)))] 137 [] Q := by
  refine sX9_primary_137 (d := d) M a0 ?_
  refine sX9_primary_140 (d := d) (zn M 1) _ (zsz M) ?_
  exact k
theorem iX9_primary_146 {E : zE} {d : Nat} {Q : zO → zM → Prop} (M : zM) (a0 : Nat) (u0 : Option zP) (p1 : Nat) (p2 : Nat) (k : 16 ≤ p1 ∧ (∃ b12306 : Nat, (gr (sr M p1 0 u0) a0 1) = some (b12306, 9, 0) ∧ (Z E YX10_need (d + 2) (sr M p1 0 u0) (zargs 0 [vr (some (b12306, 9, 0)), vi (3 : Int32)]) 0 [] (zafter E YX9_primary ((d + 2) + 1) [(0, vr (some (a0, 8, 0))), (1, vr (some (p2, 27, 0)))] 155 3 [] Q)))) : Z E YX9_primary (d + 3) M [(0, vr (some (a0, 8, 0)))] 146 [vr u0, vr (some (p1, 27, 0)), vr (some (p2, 27, 0))] Q := by
  refine sX9_primary_146 (d := (d + 2)) M a0 u0 p1 p2 ?_
  refine jX21_init (d := d) M p1 u0 ?_
  refine zand k (fun h12305 k => ?_)
  show Z E YX9_primary ((d + 2) + 1) (sr M p1 0 u0) [(0, vr (some (a0, 8, 0)))] 149 [vr (some (p2, 27, 0))] Q
  refine sX9_primary_149 (d := (d + 2)) (sr M p1 0 u0) _ p2 ?_
  exact k
theorem iX9_script_0 {E : zE} {d : Nat} {Q : zO → zM → Prop} (M : zM) (a0 : Nat) (k : Z E YX11_init d (zn M 10) (zargs 0 [vr (some ((zsz M), 10, 0)), vi (0 : Int32), vr none]) 0 [] (zafter E YX9_script (d + 1) [(0, vr (some (a0, 8, 0)))] 7 3 [vr (some ((zsz M), 10, 0)), vr (some (a0, 8, 0))] Q)) : Z E YX9_script (d + 1) M [(0, vr (some (a0, 8, 0)))] 0 [] Q := by
  refine sX9_script_0 (d := d) M a0 ?_
  refine sX9_script_4 (d := d) (zn M 10) _ (zsz M) ?_
  exact k
theorem iX9_startsExpression_8 {E : zE} {d : Nat} {Q : zO → zM → Prop} (M : zM) (a0 : Nat) (s0 : Int32) (k : if s0 = 0 then (∃ b12328 : Nat, (gr M a0 1) = some (b12328, 9, 0) ∧ (if (gi M b12328 3) = (5 : Int32) then (if (gi M b12328 6) = (4 : Int32) then (Q (.inl (some (vi (1 : Int32)))) M) else (if (gi M b12328 6) = (17 : Int32) then (Q (.inl (some (vi (1 : Int32)))) M) else (if (gi M b12328 6) = (18 : Int32) then (Q (.inl (some (vi (1 : Int32)))) M) else (if (gi M b12328 6) = (22 : Int32) then (Q (.inl (some (vi (1 : Int32)))) M) else (if (gi M b12328 6) = (23 : Int32) then (Q (.inl (some (vi (1 : Int32)))) M) else (if (gi M b12328 6) = (30 : Int32) then (Q (.inl (some (vi (1 : Int32)))) M) else (if (gi M b12328 6) = (31 : Int32) then (Q (.inl (some (vi (1 : Int32)))) M) else (Q (.inl (some (vi (0 : Int32)))) M)))))))) else (Q (.inl (some (vi (0 : Int32)))) M))) else (Q (.inl (some (vi (1 : Int32)))) M)) : Z E YX9_startsExpression (d + 1) M [(0, vr (some (a0, 8, 0)))] 8 [vi s0] Q := by
  refine sX9_startsExpression_8 (d := d) M a0 s0 ?_
  refine zite k (fun h12327 k => ?_) (fun h12327 k => ?_)
  · obtain ⟨b12328, h12328, k⟩ := k
    refine ⟨b12328, h12328, ?_⟩
    refine sX10_is_0 (d := d) M b12328 (4 : Int32) ?_
    refine zite k (fun h12329 k => ?_) (fun h12329 k => ?_)
    · refine zite k (fun h12330 k => ?_) (fun h12330 k => ?_)
      · show Z E YX9_startsExpression (d + 1) M [(0, vr (some (a0, 8, 0)))] 19 [vi (1 : Int32)] Q
        refine sX9_startsExpression_19 (d := d) M _ (1 : Int32) ?_
        refine zneg (show ¬ ((1 : Int32) = 0) from by decide) ?_
        exact k
      · show Z E YX9_startsExpression (d + 1) M [(0, vr (some (a0, 8, 0)))] 19 [vi (0 : Int32)] Q
        refine sX9_startsExpression_19 (d := d) M _ (0 : Int32) ?_
        refine zpos (show (0 : Int32) = 0 from by decide) ?_
        refine ⟨b12328, h12328, ?_⟩
        refine sX10_is_0 (d := d) M b12328 (17 : Int32) ?_
        refine zpos h12329 ?_
        refine zite k (fun h12331 k => ?_) (fun h12331 k => ?_)
        · show Z E YX9_startsExpression (d + 1) M [(0, vr (some (a0, 8, 0)))] 31 [vi (1 : Int32)] Q
          refine sX9_startsExpression_31 (d := d) M _ (1 : Int32) ?_
          refine zneg (show ¬ ((1 : Int32) = 0) from by decide) ?_
          exact k
        · show Z E YX9_startsExpression (d + 1) M [(0, vr (some (a0, 8, 0)))] 31 [vi (0 : Int32)] Q
          refine sX9_startsExpression_31 (d := d) M _ (0 : Int32) ?_
          refine zpos (show (0 : Int32) = 0 from by decide) ?_
          refine ⟨b12328, h12328, ?_⟩
          refine sX10_is_0 (d := d) M b12328 (18 : Int32) ?_
          refine zpos h12329 ?_
          refine zite k (fun h12332 k => ?_) (fun h12332 k => ?_)
          · show Z E YX9_startsExpression (d + 1) M [(0, vr (some (a0, 8, 0)))] 43 [vi (1 : Int32)] Q
            refine sX9_startsExpression_43 (d := d) M _ (1 : Int32) ?_
            refine zneg (show ¬ ((1 : Int32) = 0) from by decide) ?_
            exact k
          · show Z E YX9_startsExpression (d + 1) M [(0, vr (some (a0, 8, 0)))] 43 [vi (0 : Int32)] Q
            refine sX9_startsExpression_43 (d := d) M _ (0 : Int32) ?_
            refine zpos (show (0 : Int32) = 0 from by decide) ?_
            refine ⟨b12328, h12328, ?_⟩
            refine sX10_is_0 (d := d) M b12328 (22 : Int32) ?_
            refine zpos h12329 ?_
            refine zite k (fun h12333 k => ?_) (fun h12333 k => ?_)
            · show Z E YX9_startsExpression (d + 1) M [(0, vr (some (a0, 8, 0)))] 55 [vi (1 : Int32)] Q
              refine sX9_startsExpression_55 (d := d) M _ (1 : Int32) ?_
              refine zneg (show ¬ ((1 : Int32) = 0) from by decide) ?_
              exact k
            · show Z E YX9_startsExpression (d + 1) M [(0, vr (some (a0, 8, 0)))] 55 [vi (0 : Int32)] Q
              refine sX9_startsExpression_55 (d := d) M _ (0 : Int32) ?_
              refine zpos (show (0 : Int32) = 0 from by decide) ?_
              refine ⟨b12328, h12328, ?_⟩
              refine sX10_is_0 (d := d) M b12328 (23 : Int32) ?_
              refine zpos h12329 ?_
              refine zite k (fun h12334 k => ?_) (fun h12334 k => ?_)
              · show Z E YX9_startsExpression (d + 1) M [(0, vr (some (a0, 8, 0)))] 67 [vi (1 : Int32)] Q
                refine sX9_startsExpression_67 (d := d) M _ (1 : Int32) ?_
                refine zneg (show ¬ ((1 : Int32) = 0) from by decide) ?_
                exact k
              · show Z E YX9_startsExpression (d + 1) M [(0, vr (some (a0, 8, 0)))] 67 [vi (0 : Int32)] Q
                refine sX9_startsExpression_67 (d := d) M _ (0 : Int32) ?_
                refine zpos (show (0 : Int32) = 0 from by decide) ?_
                refine ⟨b12328, h12328, ?_⟩
                refine sX10_is_0 (d := d) M b12328 (30 : Int32) ?_
                refine zpos h12329 ?_
                refine zite k (fun h12335 k => ?_) (fun h12335 k => ?_)
                · show Z E YX9_startsExpression (d + 1) M [(0, vr (some (a0, 8, 0)))] 79 [vi (1 : Int32)] Q
                  refine sX9_startsExpression_79 (d := d) M _ (1 : Int32) ?_
                  refine zneg (show ¬ ((1 : Int32) = 0) from by decide) ?_
                  exact k
                · show Z E YX9_startsExpression (d + 1) M [(0, vr (some (a0, 8, 0)))] 79 [vi (0 : Int32)] Q
                  refine sX9_startsExpression_79 (d := d) M _ (0 : Int32) ?_
                  refine zpos (show (0 : Int32) = 0 from by decide) ?_
                  refine ⟨b12328, h12328, ?_⟩
                  refine sX10_is_0 (d := d) M b12328 (31 : Int32) ?_
                  refine zpos h12329 ?_
                  refine zite k (fun h12336 k => ?_) (fun h12336 k => ?_)
                  · show Z E YX9_startsExpression (d + 1) M [] 91 [vi (1 : Int32)] Q
                    refine sX9_startsExpression_91 (d := d) M (1 : Int32) ?_
                    refine zneg (show ¬ ((1 : Int32) = 0) from by decide) ?_
                    exact k
                  · show Z E YX9_startsExpression (d + 1) M [] 91 [vi (0 : Int32)] Q
                    refine sX9_startsExpression_91 (d := d) M (0 : Int32) ?_
                    refine zpos (show (0 : Int32) = 0 from by decide) ?_
                    exact k
    · show Z E YX9_startsExpression (d + 1) M [(0, vr (some (a0, 8, 0)))] 19 [vi (0 : Int32)] Q
      refine sX9_startsExpression_19 (d := d) M _ (0 : Int32) ?_
      refine zpos (show (0 : Int32) = 0 from by decide) ?_
      refine ⟨b12328, h12328, ?_⟩
      refine sX10_is_0 (d := d) M b12328 (17 : Int32) ?_
      refine zneg h12329 ?_
      show Z E YX9_startsExpression (d + 1) M [(0, vr (some (a0, 8, 0)))] 31 [vi (0 : Int32)] Q
      refine sX9_startsExpression_31 (d := d) M _ (0 : Int32) ?_
      refine zpos (show (0 : Int32) = 0 from by decide) ?_
      refine ⟨b12328, h12328, ?_⟩
      refine sX10_is_0 (d := d) M b12328 (18 : Int32) ?_
      refine zneg h12329 ?_
      show Z E YX9_startsExpression (d + 1) M [(0, vr (some (a0, 8, 0)))] 43 [vi (0 : Int32)] Q
      refine sX9_startsExpression_43 (d := d) M _ (0 : Int32) ?_
      refine zpos (show (0 : Int32) = 0 from by decide) ?_
      refine ⟨b12328, h12328, ?_⟩
      refine sX10_is_0 (d := d) M b12328 (22 : Int32) ?_
      refine zneg h12329 ?_
      show Z E YX9_startsExpression (d + 1) M [(0, vr (some (a0, 8, 0)))] 55 [vi (0 : Int32)] Q
      refine sX9_startsExpression_55 (d := d) M _ (0 : Int32) ?_
      refine zpos (show (0 : Int32) = 0 from by decide) ?_
      refine ⟨b12328, h12328, ?_⟩
      refine sX10_is_0 (d := d) M b12328 (23 : Int32) ?_
      refine zneg h12329 ?_
      show Z E YX9_startsExpression (d + 1) M [(0, vr (some (a0, 8, 0)))] 67 [vi (0 : Int32)] Q
      refine sX9_startsExpression_67 (d := d) M _ (0 : Int32) ?_
      refine zpos (show (0 : Int32) = 0 from by decide) ?_
      refine ⟨b12328, h12328, ?_⟩
      refine sX10_is_0 (d := d) M b12328 (30 : Int32) ?_
      refine zneg h12329 ?_
      show Z E YX9_startsExpression (d + 1) M [(0, vr (some (a0, 8, 0)))] 79 [vi (0 : Int32)] Q
      refine sX9_startsExpression_79 (d := d) M _ (0 : Int32) ?_
      refine zpos (show (0 : Int32) = 0 from by decide) ?_
      refine ⟨b12328, h12328, ?_⟩
      refine sX10_is_0 (d := d) M b12328 (31 : Int32) ?_
      refine zneg h12329 ?_
      show Z E YX9_startsExpression (d + 1) M [] 91 [vi (0 : Int32)] Q
      refine sX9_startsExpression_91 (d := d) M (0 : Int32) ?_
      refine zpos (show (0 : Int32) = 0 from by decide) ?_
      exact k
  · exact k
theorem jX15_init {E : zE} {d : Nat} {Q : zO → zM → Prop} (M : zM) (a0 : Nat) (r1 : Option zP) (k : 16 ≤ a0 ∧ (Q (.inl none) (sr M a0 0 r1))) : Z E YX15_init (d + 2) M [(0, vr (some (a0, 21, 0))), (1, vr r1)] 0 [] Q := by
  refine sX15_init_0 (d := (d + 1)) M a0 r1 ?_
  refine sX13_init_0 (d := d) M _ 21 ?_
  show Z E YX15_init ((d + 1) + 1) M [(0, vr (some (a0, 21, 0))), (1, vr r1)] 4 [] Q
  refine sX15_init_4 (d := (d + 1)) M _ r1 ?_
  exact k
theorem iX9_statement_0 {E : zE} {d : Nat} {Q : zO → zM → Prop} (M : zM) (a0 : Nat) (k : ∃ b12337 : Nat, (gr M a0 1) = some (b12337, 9, 0) ∧ (if (gi M b12337 3) = 0 then (Z E YX10_fault d M (zargs 0 [vr (some (b12337, 9, 0)), vi (2 : Int32)]) 0 [] (zafter E YX9_statement (d + 1) [] 27 3 [] Q)) else (if (gi M b12337 3) = (2 : Int32) then (if (gi M b12337 6) = (11 : Int32) then (Z E YX10_fault d M (zargs 0 [vr (some (b12337, 9, 0)), vi (2 : Int32)]) 0 [] (zafter E YX9_statement (d + 1) [] 27 3 [] Q)) else (Z E YX9_byWord d M (zargs 0 [vr (some (a0, 8, 0))]) 0 [] (zafter E YX9_statement (d + 1) [(0, vr (some (a0, 8, 0)))] 43 3 [] Q))) else (if (gi M b12337 3) = (5 : Int32) then (Z E YX9_startsExpression d M (zargs 0 [vr (some (a0, 8, 0))]) 0 [] (zafter E YX9_statement (d + 1) [(0, vr (some (a0, 8, 0)))] 65 3 [] Q)) else (Z E YX9_opens d M (zargs 0 [vr (some (a0, 8, 0))]) 0 [] (zafter E YX9_statement (d + 1) [(0, vr (some (a0, 8, 0)))] 104 3 [] Q)))))) : Z E YX9_statement (d + 1) M [(0, vr (some (a0, 8, 0)))] 0 [] Q := by
  refine sX9_statement_0 (d := d) M a0 ?_
  obtain ⟨b12337, h12337, k⟩ := k
  refine ⟨b12337, h12337, ?_⟩
  refine zite k (fun h12338 k => ?_) (fun h12338 k => ?_)
  · refine ⟨b12337, h12337, ?_⟩
    exact k
  · refine ⟨b12337, h12337, ?_⟩
    refine sX10_isWord_0 (d := d) M b12337 (11 : Int32) ?_
    refine zite k (fun h12339 k => ?_) (fun h12339 k => ?_)
    · refine zite k (fun h12340 k => ?_) (fun h12340 k => ?_)
      · show Z E YX9_statement (d + 1) M [(0, vr (some (a0, 8, 0)))] 19 [vi (1 : Int32)] Q
        refine sX9_statement_19 (d := d) M _ (1 : Int32) ?_
        refine zneg (show ¬ ((1 : Int32) = 0) from by decide) ?_
        refine ⟨b12337, h12337, ?_⟩
        exact k
      · show Z E YX9_statement (d + 1) M [(0, vr (some (a0, 8, 0)))] 19 [vi (0 : Int32)] Q
        refine sX9_statement_19 (d := d) M _ (0 : Int32) ?_
        refine zpos (show (0 : Int32) = 0 from by decide) ?_
        refine ⟨b12337, h12337, ?_⟩
        refine zpos h12339 ?_
        exact k
    · show Z E YX9_statement (d + 1) M [(0, vr (some (a0, 8, 0)))] 19 [vi (0 : Int32)] Q
      refine sX9_statement_19 (d := d) M _ (0 : Int32) ?_
      refine zpos (show (0 : Int32) = 0 from by decide) ?_
      refine ⟨b12337, h12337, ?_⟩
      refine zneg h12339 ?_
      refine sX9_statement_53 (d := d) M _ ?_
      refine ⟨b12337, h12337, ?_⟩
      exact k
theorem iX9_statement_46 {E : zE} {d : Nat} {Q : zO → zM → Prop} (M : zM) (a0 : Nat) (u0 : Option zP) (k : if u0 = none then (∃ b12347 : Nat, (gr M a0 1) = some (b12347, 9, 0) ∧ (if (gi M b12347 3) = (5 : Int32) then (Z E YX9_startsExpression d M (zargs 0 [vr (some (a0, 8, 0))]) 0 [] (zafter E YX9_statement (d + 1) [(0, vr (some (a0, 8, 0)))] 65 3 [] Q)) else (Z E YX9_opens d M (zargs 0 [vr (some (a0, 8, 0))]) 0 [] (zafter E YX9_statement (d + 1) [(0, vr (some (a0, 8, 0)))] 104 3 [] Q)))) else (Q (.inl (some (vr u0))) M)) : Z E YX9_statement (d + 1) M [(0, vr (some (a0, 8, 0)))] 46 [vr u0] Q := by
  refine sX9_statement_46 (d := d) M a0 u0 ?_
  refine zite k (fun h12346 k => ?_) (fun h12346 k => ?_)
  · refine sX9_statement_53 (d := d) M _ ?_
    exact k
  · exact k
theorem iX9_statement_68 {E : zE} {d : Nat} {Q : zO → zM → Prop} (M : zM) (a0 : Nat) (s0 : Int32) (k : if s0 = 0 then (∃ b12350 : Nat, (gr M a0 1) = some (b12350, 9, 0) ∧ (if (gi M b12350 3) = (5 : Int32) then (if (gi M b12350 6) = (0 : Int32) then (Z E YX9_opens d M (zargs 0 [vr (some (a0, 8, 0))]) 0 [] (zafter E YX9_statement (d + 1) [(0, vr (some (a0, 8, 0)))] 104 3 [] Q)) else (if (gi M b12350 6) = (7 : Int32) then (Z E YX9_opens d M (zargs 0 [vr (some (a0, 8, 0))]) 0 [] (zafter E YX9_statement (d + 1) [(0, vr (some (a0, 8, 0)))] 104 3 [] Q)) else (Z E YX10_fault d M (zargs 0 [vr (some (b12350, 9, 0)), vi (2 : Int32)]) 0 [] (zafter E YX9_statement (d + 1) [] 99 3 [] Q)))) else (Z E YX10_fault d M (zargs 0 [vr (some (b12350, 9, 0)), vi (2 : Int32)]) 0 [] (zafter E YX9_statement (d + 1) [] 99 3 [] Q)))) else (Z E YX9_opens d M (zargs 0 [vr (some (a0, 8, 0))]) 0 [] (zafter E YX9_statement (d + 1) [(0, vr (some (a0, 8, 0)))] 104 3 [] Q))) : Z E YX9_statement (d + 1) M [(0, vr (some (a0, 8, 0)))] 68 [vi s0] Q := by
  refine sX9_statement_68 (d := d) M a0 s0 ?_
  refine zite k (fun h12349 k => ?_) (fun h12349 k => ?_)
  · obtain ⟨b12350, h12350, k⟩ := k
    refine ⟨b12350, h12350, ?_⟩
    refine sX10_is_0 (d := d) M b12350 (0 : Int32) ?_
    refine zite k (fun h12351 k => ?_) (fun h12351 k => ?_)
    · refine zite k (fun h12352 k => ?_) (fun h12352 k => ?_)
      · show Z E YX9_statement (d + 1) M [(0, vr (some (a0, 8, 0)))] 79 [vi (1 : Int32)] Q
        refine sX9_statement_79 (d := d) M _ (1 : Int32) ?_
        refine zneg (show ¬ ((1 : Int32) = 0) from by decide) ?_
        exact k
      · show Z E YX9_statement (d + 1) M [(0, vr (some (a0, 8, 0)))] 79 [vi (0 : Int32)] Q
        refine sX9_statement_79 (d := d) M _ (0 : Int32) ?_
        refine zpos (show (0 : Int32) = 0 from by decide) ?_
        refine ⟨b12350, h12350, ?_⟩
        refine sX10_is_0 (d := d) M b12350 (7 : Int32) ?_
        refine zpos h12351 ?_
        refine zite k (fun h12353 k => ?_) (fun h12353 k => ?_)
        · show Z E YX9_statement (d + 1) M [(0, vr (some (a0, 8, 0)))] 91 [vi (1 : Int32)] Q
          refine sX9_statement_91 (d := d) M _ (1 : Int32) ?_
          refine zneg (show ¬ ((1 : Int32) = 0) from by decide) ?_
          exact k
        · show Z E YX9_statement (d + 1) M [(0, vr (some (a0, 8, 0)))] 91 [vi (0 : Int32)] Q
          refine sX9_statement_91 (d := d) M _ (0 : Int32) ?_
          refine zpos (show (0 : Int32) = 0 from by decide) ?_
          refine ⟨b12350, h12350, ?_⟩
          exact k
    · show Z E YX9_statement (d + 1) M [(0, vr (some (a0, 8, 0)))] 79 [vi (0 : Int32)] Q
      refine sX9_statement_79 (d := d) M _ (0 : Int32) ?_
      refine zpos (show (0 : Int32) = 0 from by decide) ?_
      refine ⟨b12350, h12350, ?_⟩
      refine sX10_is_0 (d := d) M b12350 (7 : Int32) ?_
      refine zneg h12351 ?_
      show Z E YX9_statement (d + 1) M [(0, vr (some (a0, 8, 0)))] 91 [vi (0 : Int32)] Q
      refine sX9_statement_91 (d := d) M _ (0 : Int32) ?_
      refine zpos (show (0 : Int32) = 0 from by decide) ?_
      refine ⟨b12350, h12350, ?_⟩
      exact k
  · exact k
theorem iX9_statement_107 {E : zE} {d : Nat} {Q : zO → zM → Prop} (M : zM) (a0 : Nat) (k : ∃ b12354 : Nat, (gr M a0 1) = some (b12354, 9, 0) ∧ (if (gi M b12354 3) = (5 : Int32) then (if (gi M b12354 6) = (0 : Int32) then (Z E YX9_block d M (zargs 0 [vr (some (a0, 8, 0))]) 0 [] (zafter E YX9_statement (d + 1) [(0, vr (some (a0, 8, 0)))] 119 3 [] Q)) else (Z E YX10_takes d M (zargs 0 [vr (some (b12354, 9, 0)), vi (7 : Int32)]) 0 [] (zafter E YX9_statement (d + 1) [(0, vr (some (a0, 8, 0)))] 132 3 [] Q))) else (Z E YX10_takes d M (zargs 0 [vr (some (b12354, 9, 0)), vi (7 : Int32)]) 0 [] (zafter E YX9_statement (d + 1) [(0, vr (some (a0, 8, 0)))] 132 3 [] Q)))) : Z E YX9_statement (d + 1) M [(0, vr (some (a0, 8, 0)))] 107 [] Q := by
  refine sX9_statement_107 (d := d) M a0 ?_
  obtain ⟨b12354, h12354, k⟩ := k
  refine ⟨b12354, h12354, ?_⟩
  refine sX10_is_0 (d := d) M b12354 (0 : Int32) ?_
  refine zite k (fun h12355 k => ?_) (fun h12355 k => ?_)
  · refine zite k (fun h12356 k => ?_) (fun h12356 k => ?_)
    · show Z E YX9_statement (d + 1) M [(0, vr (some (a0, 8, 0)))] 115 [vi (1 : Int32)] Q
      refine sX9_statement_115 (d := d) M _ (1 : Int32) ?_
      refine zneg (show ¬ ((1 : Int32) = 0) from by decide) ?_
      exact k
    · show Z E YX9_statement (d + 1) M [(0, vr (some (a0, 8, 0)))] 115 [vi (0 : Int32)] Q
      refine sX9_statement_115 (d := d) M _ (0 : Int32) ?_
      refine zpos (show (0 : Int32) = 0 from by decide) ?_
      refine ⟨b12354, h12354, ?_⟩
      exact k
  · show Z E YX9_statement (d + 1) M [(0, vr (some (a0, 8, 0)))] 115 [vi (0 : Int32)] Q
    refine sX9_statement_115 (d := d) M _ (0 : Int32) ?_
    refine zpos (show (0 : Int32) = 0 from by decide) ?_
    refine ⟨b12354, h12354, ?_⟩
    exact k
theorem iX9_statement_122 {E : zE} {d : Nat} {Q : zO → zM → Prop} (M : zM) (a0 : Nat) (u0 : Option zP) (k : 16 ≤ a0 ∧ (Q (.inl (some (vr u0))) (si M a0 4 ((gi M a0 4) - (1 : Int32))))) : Z E YX9_statement (d + 1) M [(0, vr (some (a0, 8, 0)))] 122 [vr u0] Q := by
  refine sX9_statement_122 (d := d) M a0 u0 ?_
  refine sX9_statement_166 (d := d) M _ u0 ?_
  exact k
theorem iX9_statement_135 {E : zE} {d : Nat} {Q : zO → zM → Prop} (M : zM) (a0 : Nat) (s0 : Int32) (k : if s0 = 0 then (Z E YX9_expression (d + 4) (zn M 1) (zargs 0 [vr (some (a0, 8, 0)), vi (1 : Int32)]) 0 [] (zafter E YX9_statement ((d + 4) + 1) [(0, vr (some (a0, 8, 0)))] 155 3 [vr (some ((zsz M), 21, 0)), vr (some ((zsz M), 21, 0))] Q)) else (16 ≤ (zsz (zn M 1)) ∧ (16 ≤ (zsz M) ∧ (16 ≤ a0 ∧ (Q (.inl (some (vr (some ((zsz M), 20, 0))))) (si (sr (sr (si (zn (zn M 1) 3) (zsz (zn M 1)) 0 (0 : Int32)) (zsz (zn M 1)) 1 (some (1, 110, 0))) (zsz M) 0 (some ((zsz (zn M 1)), 11, 0))) a0 4 ((gi (si (zn (zn M 1) 3) (zsz (zn M 1)) 0 (0 : Int32)) a0 4) - (1 : Int32)))))))) : Z E YX9_statement (d + 5) M [(0, vr (some (a0, 8, 0)))] 135 [vi s0] Q := by
  refine sX9_statement_135 (d := (d + 4)) M a0 s0 ?_
  refine zite k (fun h12360 k => ?_) (fun h12360 k => ?_)
  · refine sX9_statement_152 (d := (d + 4)) (zn M 1) _ (zsz M) ?_
    exact k
  · refine sX9_statement_141 (d := (d + 4)) (zn M 1) _ (zsz M) ?_
    refine jX14_init (d := d) (zn M 1) (zsz M) ?_
    refine zand k (fun h12361 k => ?_)
    refine zand k (fun h12362 k => ?_)
    show Z E YX9_statement ((d + 4) + 1) (sr (sr (si (zn (zn M 1) 3) (zsz (zn M 1)) 0 (0 : Int32)) (zsz (zn M 1)) 1 (some (1, 110, 0))) (zsz M) 0 (some ((zsz (zn M 1)), 11, 0))) [(0, vr (some (a0, 8, 0)))] 145 [vr (some ((zsz M), 20, 0))] Q
    refine sX9_statement_145 (d := (d + 4)) (sr (sr (si (zn (zn M 1) 3) (zsz (zn M 1)) 0 (0 : Int32)) (zsz (zn M 1)) 1 (some (1, 110, 0))) (zsz M) 0 (some ((zsz (zn M 1)), 11, 0))) _ (zsz M) ?_
    refine sX9_statement_166 (d := (d + 4)) (sr (sr (si (zn (zn M 1) 3) (zsz (zn M 1)) 0 (0 : Int32)) (zsz (zn M 1)) 1 (some (1, 110, 0))) (zsz M) 0 (some ((zsz (zn M 1)), 11, 0))) _ (some ((zsz M), 20, 0)) ?_
    exact k
theorem iX9_statement_158 {E : zE} {d : Nat} {Q : zO → zM → Prop} (M : zM) (a0 : Nat) (u0 : Option zP) (p1 : Nat) (p2 : Nat) (k : 16 ≤ p1 ∧ (Z E YX9_semicolon (d + 2) (sr M p1 0 u0) (zargs 0 [vr (some (a0, 8, 0))]) 0 [] (zafter E YX9_statement ((d + 2) + 1) [(0, vr (some (a0, 8, 0))), (1, vr (some (p2, 21, 0)))] 163 3 [] Q))) : Z E YX9_statement (d + 3) M [(0, vr (some (a0, 8, 0)))] 158 [vr u0, vr (some (p1, 21, 0)), vr (some (p2, 21, 0))] Q := by
  refine sX9_statement_158 (d := (d + 2)) M a0 u0 p1 p2 ?_
  refine jX15_init (d := d) M p1 u0 ?_
  refine zand k (fun h12365 k => ?_)
  show Z E YX9_statement ((d + 2) + 1) (sr M p1 0 u0) [(0, vr (some (a0, 8, 0)))] 161 [vr (some (p2, 21, 0))] Q
  refine sX9_statement_161 (d := (d + 2)) (sr M p1 0 u0) _ p2 ?_
  exact k
theorem jX28_init {E : zE} {d : Nat} {Q : zO → zM → Prop} (M : zM) (a0 : Nat) (l1 : Int32) (r2 : Option zP) (k : 16 ≤ a0 ∧ (Q (.inl none) (sr (si M a0 0 l1) a0 1 r2))) : Z E YX28_init (d + 2) M [(0, vr (some (a0, 33, 0))), (1, vi l1), (2, vr r2)] 0 [] Q := by
  refine sX28_init_0 (d := (d + 1)) M a0 l1 r2 ?_
  refine sX13_init_0 (d := d) M _ 33 ?_
  show Z E YX28_init ((d + 1) + 1) M [(0, vr (some (a0, 33, 0))), (1, vi l1), (2, vr r2)] 4 [] Q
  refine sX28_init_4 (d := (d + 1)) M _ l1 r2 ?_
  refine zand k (fun h12373 k => ?_)
  refine ⟨h12373, ?_⟩
  exact k
theorem iX9_unit_30 {E : zE} {d : Nat} {Q : zO → zM → Prop} (M : zM) (a0 : Nat) (l1 : Int32) (u0 : Option zP) (k : 16 ≤ a0 ∧ (if l1 ≤ (6 : Int32) then (if l1 = (6 : Int32) then (∃ b12377 t12377 : Nat, u0 = some (b12377, t12377, 0) ∧ (∃ Y_ : zY, vt_isMember t12377 = some Y_ ∧ Z E Y_ (d + 2) (si M a0 4 ((gi M a0 4) - (1 : Int32))) (zargs 0 [vr (some (b12377, t12377, 0))]) 0 [] (zafter E YX9_unit ((d + 2) + 1) [(0, vr (some (a0, 8, 0))), (1, vi l1), (2, vr (some (b12377, t12377, 0)))] 91 3 [] Q))) else (16 ≤ (zsz M) ∧ (Q (.inl (some (vr (some ((zsz M), 33, 0))))) (sr (si (zn (si M a0 4 ((gi M a0 4) - (1 : Int32))) 2) (zsz M) 0 l1) (zsz M) 1 u0)))) else (∃ b12379 t12379 : Nat, u0 = some (b12379, t12379, 0) ∧ (∃ Y_ : zY, vt_isName t12379 = some Y_ ∧ Z E Y_ (d + 2) (si M a0 4 ((gi M a0 4) - (1 : Int32))) (zargs 0 [vr (some (b12379, t12379, 0))]) 0 [] (zafter E YX9_unit ((d + 2) + 1) [(0, vr (some (a0, 8, 0))), (1, vi l1), (2, vr (some (b12379, t12379, 0)))] 48 3 [] Q))))) : Z E YX9_unit (d + 3) M [(0, vr (some (a0, 8, 0))), (1, vi l1)] 30 [vr u0] Q := by
  refine sX9_unit_30 (d := (d + 2)) M a0 l1 u0 ?_
  refine zand k (fun h12374 k => ?_)
  refine zite k (fun h12375 k => ?_) (fun h12375 k => ?_)
  · refine zite k (fun h12376 k => ?_) (fun h12376 k => ?_)
    · exact k
    · refine sX9_unit_109 (d := (d + 2)) (zn (si M a0 4 ((gi M a0 4) - (1 : Int32))) 2) l1 u0 (zsz M) ?_
      refine jX28_init (d := d) (zn (si M a0 4 ((gi M a0 4) - (1 : Int32))) 2) (zsz M) l1 u0 ?_
      refine zand k (fun h12378 k => ?_)
      show Z E YX9_unit ((d + 2) + 1) (sr (si (zn (si M a0 4 ((gi M a0 4) - (1 : Int32))) 2) (zsz M) 0 l1) (zsz M) 1 u0) [] 115 [vr (some ((zsz M), 33, 0))] Q
      refine sX9_unit_115 (d := (d + 2)) (sr (si (zn (si M a0 4 ((gi M a0 4) - (1 : Int32))) 2) (zsz M) 0 l1) (zsz M) 1 u0) (zsz M) ?_
      exact k
  · exact k
theorem iX9_unit_94 {E : zE} {d : Nat} {Q : zO → zM → Prop} (M : zM) (a0 : Nat) (l1 : Int32) (a2 : Nat) (ta2 : Nat) (s0 : Int32) (k : if s0 = 0 then (∃ b12383 : Nat, (gr M a0 1) = some (b12383, 9, 0) ∧ (Z E YX10_fault (d + 2) M (zargs 0 [vr (some (b12383, 9, 0)), vi (3 : Int32)]) 0 [] (zafter E YX9_unit ((d + 2) + 1) [] 102 3 [] Q))) else (16 ≤ (zsz M) ∧ (Q (.inl (some (vr (some ((zsz M), 33, 0))))) (sr (si (zn M 2) (zsz M) 0 l1) (zsz M) 1 (some (a2, ta2, 0)))))) : Z E YX9_unit (d + 3) M [(0, vr (some (a0, 8, 0))), (1, vi l1), (2, vr (some (a2, ta2, 0)))] 94 [vi s0] Q := by
  refine sX9_unit_94 (d := (d + 2)) M a0 l1 a2 ta2 s0 ?_
  refine zite k (fun h12382 k => ?_) (fun h12382 k => ?_)
  · exact k
  · refine sX9_unit_109 (d := (d + 2)) (zn M 2) l1 (some (a2, ta2, 0)) (zsz M) ?_
    refine jX28_init (d := d) (zn M 2) (zsz M) l1 (some (a2, ta2, 0)) ?_
    refine zand k (fun h12384 k => ?_)
    show Z E YX9_unit ((d + 2) + 1) (sr (si (zn M 2) (zsz M) 0 l1) (zsz M) 1 (some (a2, ta2, 0))) [] 115 [vr (some ((zsz M), 33, 0))] Q
    refine sX9_unit_115 (d := (d + 2)) (sr (si (zn M 2) (zsz M) 0 l1) (zsz M) 1 (some (a2, ta2, 0))) (zsz M) ?_
    exact k
theorem iX9_unit_51 {E : zE} {d : Nat} {Q : zO → zM → Prop} (M : zM) (a0 : Nat) (l1 : Int32) (a2 : Nat) (ta2 : Nat) (s0 : Int32) (k : if s0 = 0 then (∃ Y_ : zY, vt_isMember ta2 = some Y_ ∧ Z E Y_ (d + 2) M (zargs 0 [vr (some (a2, ta2, 0))]) 0 [] (zafter E YX9_unit ((d + 2) + 1) [(0, vr (some (a0, 8, 0))), (1, vi l1), (2, vr (some (a2, ta2, 0)))] 55 3 [] Q)) else (16 ≤ (zsz M) ∧ (zfit .boolean (0 : Int32) ∧ (Q (.inl (some (vr (some ((zsz M), 32, 0))))) (sr (si (si (zn M 3) (zsz M) 0 (l1 - (7 : Int32))) (zsz M) 1 (0 : Int32)) (zsz M) 2 (some (a2, ta2, 0))))))) : Z E YX9_unit (d + 3) M [(0, vr (some (a0, 8, 0))), (1, vi l1), (2, vr (some (a2, ta2, 0)))] 51 [vi s0] Q := by
  refine sX9_unit_51 (d := (d + 2)) M a0 l1 a2 ta2 s0 ?_
  refine zite k (fun h12386 k => ?_) (fun h12386 k => ?_)
  · exact k
  · refine sX9_unit_70 (d := (d + 2)) M l1 _ _ ?_
    refine sX9_unit_73 (d := (d + 2)) (zn M 3) l1 _ _ (zsz M) ?_
    refine jX27_init (d := d) (zn M 3) (zsz M) (l1 - (7 : Int32)) (0 : Int32) (some (a2, ta2, 0)) ?_
    refine zand k (fun h12387 k => ?_)
    refine zand k (fun h12388 k => ?_)
    show Z E YX9_unit ((d + 2) + 1) (sr (si (si (zn M 3) (zsz M) 0 (l1 - (7 : Int32))) (zsz M) 1 (0 : Int32)) (zsz M) 2 (some (a2, ta2, 0))) [] 83 [vr (some ((zsz M), 32, 0))] Q
    refine sX9_unit_83 (d := (d + 2)) (sr (si (si (zn M 3) (zsz M) 0 (l1 - (7 : Int32))) (zsz M) 1 (0 : Int32)) (zsz M) 2 (some (a2, ta2, 0))) (zsz M) ?_
    exact k
theorem iX9_unit_58 {E : zE} {d : Nat} {Q : zO → zM → Prop} (M : zM) (a0 : Nat) (l1 : Int32) (a2 : Nat) (ta2 : Nat) (s0 : Int32) (k : if s0 = 0 then (∃ b12393 : Nat, (gr M a0 1) = some (b12393, 9, 0) ∧ (Z E YX10_fault (d + 2) M (zargs 0 [vr (some (b12393, 9, 0)), vi (3 : Int32)]) 0 [] (zafter E YX9_unit ((d + 2) + 1) [] 66 3 [] Q))) else (16 ≤ (zsz M) ∧ (zfit .boolean (0 : Int32) ∧ (Q (.inl (some (vr (some ((zsz M), 32, 0))))) (sr (si (si (zn M 3) (zsz M) 0 (l1 - (7 : Int32))) (zsz M) 1 (0 : Int32)) (zsz M) 2 (some (a2, ta2, 0))))))) : Z E YX9_unit (d + 3) M [(0, vr (some (a0, 8, 0))), (1, vi l1), (2, vr (some (a2, ta2, 0)))] 58 [vi s0] Q := by
  refine sX9_unit_58 (d := (d + 2)) M a0 l1 a2 ta2 s0 ?_
  refine zite k (fun h12392 k => ?_) (fun h12392 k => ?_)
  · exact k
  · refine sX9_unit_70 (d := (d + 2)) M l1 _ _ ?_
    refine sX9_unit_73 (d := (d + 2)) (zn M 3) l1 _ _ (zsz M) ?_
    refine jX27_init (d := d) (zn M 3) (zsz M) (l1 - (7 : Int32)) (0 : Int32) (some (a2, ta2, 0)) ?_
    refine zand k (fun h12394 k => ?_)
    refine zand k (fun h12395 k => ?_)
    show Z E YX9_unit ((d + 2) + 1) (sr (si (si (zn M 3) (zsz M) 0 (l1 - (7 : Int32))) (zsz M) 1 (0 : Int32)) (zsz M) 2 (some (a2, ta2, 0))) [] 83 [vr (some ((zsz M), 32, 0))] Q
    refine sX9_unit_83 (d := (d + 2)) (sr (si (si (zn M 3) (zsz M) 0 (l1 - (7 : Int32))) (zsz M) 1 (0 : Int32)) (zsz M) 2 (some (a2, ta2, 0))) (zsz M) ?_
    exact k
theorem iX9_variables_0 {E : zE} {d : Nat} {Q : zO → zM → Prop} (M : zM) (a0 : Nat) (l1 : Int32) (k : 16 ≤ (zsz (zn M 1)) ∧ (16 ≤ (zsz M) ∧ (Z E YX9_variables ((d + 4) + 1) (sr (sr (si (zn (zn M 1) 3) (zsz (zn M 1)) 0 (0 : Int32)) (zsz (zn M 1)) 1 (some (1, 110, 0))) (zsz M) 0 (some ((zsz (zn M 1)), 11, 0))) [(0, vr (some (a0, 8, 0))), (1, vi l1), (2, vr (some ((zsz M), 20, 0))), (3, vi (0 : Int32))] 10 [] Q))) : Z E YX9_variables (d + 5) M [(0, vr (some (a0, 8, 0))), (1, vi l1)] 0 [] Q := by
  refine sX9_variables_0 (d := (d + 4)) M a0 l1 ?_
  refine sX9_variables_3 (d := (d + 4)) (zn M 1) _ l1 (zsz M) ?_
  refine jX14_init (d := d) (zn M 1) (zsz M) ?_
  refine zand k (fun h12397 k => ?_)
  refine zand k (fun h12398 k => ?_)
  show Z E YX9_variables ((d + 4) + 1) (sr (sr (si (zn (zn M 1) 3) (zsz (zn M 1)) 0 (0 : Int32)) (zsz (zn M 1)) 1 (some (1, 110, 0))) (zsz M) 0 (some ((zsz (zn M 1)), 11, 0))) [(0, vr (some (a0, 8, 0))), (1, vi l1)] 7 [vr (some ((zsz M), 20, 0))] Q
  refine sX9_variables_7 (d := (d + 4)) (sr (sr (si (zn (zn M 1) 3) (zsz (zn M 1)) 0 (0 : Int32)) (zsz (zn M 1)) 1 (some (1, 110, 0))) (zsz M) 0 (some ((zsz (zn M 1)), 11, 0))) _ l1 (zsz M) ?_
  exact k
theorem iX9_variables_31 {E : zE} {d : Nat} {Q : zO → zM → Prop} (M : zM) (a0 : Nat) (l1 : Int32) (a2 : Nat) (l3 : Int32) (l4 : Int32) (k : ∃ b12401 : Nat, (gr M a0 1) = some (b12401, 9, 0) ∧ (if (gi M b12401 3) = (5 : Int32) then (if (gi M b12401 6) = (36 : Int32) then (Z E YX10_next d M (zargs 0 [vr (some (b12401, 9, 0))]) 0 [] (zafter E YX9_variables (d + 1) [(0, vr (some (a0, 8, 0))), (1, vi l1), (2, vr (some (a2, 20, 0))), (3, vi l3), (4, vi l4)] 47 3 [] Q)) else (Z E YX10_takes d M (zargs 0 [vr (some (b12401, 9, 0)), vi (8 : Int32)]) 0 [] (zafter E YX9_variables (d + 1) [(0, vr (some (a0, 8, 0))), (1, vi l1), (2, vr (some (a2, 20, 0))), (3, vi l3)] 93 3 [] Q))) else (Z E YX10_takes d M (zargs 0 [vr (some (b12401, 9, 0)), vi (8 : Int32)]) 0 [] (zafter E YX9_variables (d + 1) [(0, vr (some (a0, 8, 0))), (1, vi l1), (2, vr (some (a2, 20, 0))), (3, vi l3)] 93 3 [] Q)))) : Z E YX9_variables (d + 1) M [(0, vr (some (a0, 8, 0))), (1, vi l1), (2, vr (some (a2, 20, 0))), (3, vi l3), (4, vi l4)] 31 [] Q := by
  refine sX9_variables_31 (d := d) M a0 l1 a2 l3 l4 ?_
  obtain ⟨b12401, h12401, k⟩ := k
  refine ⟨b12401, h12401, ?_⟩
  refine sX10_is_0 (d := d) M b12401 (36 : Int32) ?_
  refine zite k (fun h12402 k => ?_) (fun h12402 k => ?_)
  · refine zite k (fun h12403 k => ?_) (fun h12403 k => ?_)
    · show Z E YX9_variables (d + 1) M [(0, vr (some (a0, 8, 0))), (1, vi l1), (2, vr (some (a2, 20, 0))), (3, vi l3), (4, vi l4)] 40 [vi (1 : Int32)] Q
      refine sX9_variables_40 (d := d) M _ l1 _ l3 l4 (1 : Int32) ?_
      refine zneg (show ¬ ((1 : Int32) = 0) from by decide) ?_
      refine ⟨b12401, h12401, ?_⟩
      exact k
    · show Z E YX9_variables (d + 1) M [(0, vr (some (a0, 8, 0))), (1, vi l1), (2, vr (some (a2, 20, 0))), (3, vi l3), (4, vi l4)] 40 [vi (0 : Int32)] Q
      refine sX9_variables_40 (d := d) M _ l1 _ l3 l4 (0 : Int32) ?_
      refine zpos (show (0 : Int32) = 0 from by decide) ?_
      refine ⟨b12401, h12401, ?_⟩
      exact k
  · show Z E YX9_variables (d + 1) M [(0, vr (some (a0, 8, 0))), (1, vi l1), (2, vr (some (a2, 20, 0))), (3, vi l3), (4, vi l4)] 40 [vi (0 : Int32)] Q
    refine sX9_variables_40 (d := d) M _ l1 _ l3 l4 (0 : Int32) ?_
    refine zpos (show (0 : Int32) = 0 from by decide) ?_
    refine ⟨b12401, h12401, ?_⟩
    exact k
theorem iX9_variables_50 {E : zE} {d : Nat} {Q : zO → zM → Prop} (M : zM) (a0 : Nat) (l1 : Int32) (a2 : Nat) (l3 : Int32) (l4 : Int32) (k : 16 ≤ (zsz (zn (zn M 1) 3)) ∧ (Z E YX9_within (d + 2) (si (zn (zn (zn M 1) 3) 1) (zsz (zn (zn M 1) 3)) 0 l4) (zargs 0 [vr (some (a0, 8, 0)), vi l1]) 0 [] (zafter E YX9_variables ((d + 2) + 1) [(0, vr (some (a0, 8, 0))), (1, vi l1), (2, vr (some (a2, 20, 0))), (3, vi l3)] 74 3 [vr (some ((zsz (zn (zn M 1) 3)), 23, 0)), vi (-1 : Int32), vr (some ((zsz (zn M 1)), 22, 0)), vr (some ((zsz (zn M 1)), 22, 0)), vr (some ((zsz M), 21, 0)), vr (some ((zsz M), 21, 0)), vr (gr M a2 0)] Q))) : Z E YX9_variables (d + 3) M [(0, vr (some (a0, 8, 0))), (1, vi l1), (2, vr (some (a2, 20, 0))), (3, vi l3), (4, vi l4)] 50 [] Q := by
  refine sX9_variables_50 (d := (d + 2)) M a0 l1 a2 l3 l4 ?_
  refine sX9_variables_57 (d := (d + 2)) (zn M 1) _ l1 _ l3 l4 (zsz M) (gr M a2 0) ?_
  refine sX9_variables_61 (d := (d + 2)) (zn (zn M 1) 3) _ l1 _ l3 l4 (zsz (zn M 1)) (zsz M) (zsz M) (gr M a2 0) ?_
  refine sX9_variables_66 (d := (d + 2)) (zn (zn (zn M 1) 3) 1) _ l1 _ l3 l4 (zsz (zn (zn M 1) 3)) (-1 : Int32) (zsz (zn M 1)) (zsz (zn M 1)) (zsz M) (zsz M) (gr M a2 0) ?_
  refine jX17_init (d := d) (zn (zn (zn M 1) 3) 1) (zsz (zn (zn M 1) 3)) l4 ?_
  refine zand k (fun h12404 k => ?_)
  show Z E YX9_variables ((d + 2) + 1) (si (zn (zn (zn M 1) 3) 1) (zsz (zn (zn M 1) 3)) 0 l4) [(0, vr (some (a0, 8, 0))), (1, vi l1), (2, vr (some (a2, 20, 0))), (3, vi l3)] 72 [vr (some ((zsz (zn (zn M 1) 3)), 23, 0)), vi (-1 : Int32), vr (some ((zsz (zn M 1)), 22, 0)), vr (some ((zsz (zn M 1)), 22, 0)), vr (some ((zsz M), 21, 0)), vr (some ((zsz M), 21, 0)), vr (gr M a2 0)] Q
  refine sX9_variables_72 (d := (d + 2)) (si (zn (zn (zn M 1) 3) 1) (zsz (zn (zn M 1) 3)) 0 l4) _ l1 _ l3 (zsz (zn (zn M 1) 3)) (-1 : Int32) (zsz (zn M 1)) (zsz (zn M 1)) (zsz M) (zsz M) (gr M a2 0) ?_
  exact k
theorem iX9_variables_77 {E : zE} {d : Nat} {Q : zO → zM → Prop} (M : zM) (a0 : Nat) (l1 : Int32) (a2 : Nat) (l3 : Int32) (u0 : Option zP) (p1 : Nat) (s2 : Int32) (p3 : Nat) (p4 : Nat) (p5 : Nat) (p6 : Nat) (u7 : Option zP) (k : 16 ≤ p3 ∧ (16 ≤ p5 ∧ (∃ b12411 : Nat, u7 = some (b12411, 11, 0) ∧ (Z E YJ2_add (d + 2) (sr (sr (sr (si M p3 0 s2) p3 1 (some (p1, 23, 0))) p3 2 u0) p5 0 (some (p4, 22, 0))) (zargs 0 [vr (some (b12411, 11, 0)), vr (some (p6, 21, 0))]) 0 [] (zafter E YX9_variables ((d + 2) + 1) [(0, vr (some (a0, 8, 0))), (1, vi l1), (2, vr (some (a2, 20, 0))), (3, vi l3)] 83 3 [] Q))))) : Z E YX9_variables (d + 3) M [(0, vr (some (a0, 8, 0))), (1, vi l1), (2, vr (some (a2, 20, 0))), (3, vi l3)] 77 [vr u0, vr (some (p1, 23, 0)), vi s2, vr (some (p3, 22, 0)), vr (some (p4, 22, 0)), vr (some (p5, 21, 0)), vr (some (p6, 21, 0)), vr u7] Q := by
  refine sX9_variables_77 (d := (d + 2)) M a0 l1 a2 l3 u0 p1 s2 p3 p4 p5 p6 u7 ?_
  refine jX16_init (d := d) M p3 s2 (some (p1, 23, 0)) u0 ?_
  refine zand k (fun h12409 k => ?_)
  show Z E YX9_variables ((d + 2) + 1) (sr (sr (si M p3 0 s2) p3 1 (some (p1, 23, 0))) p3 2 u0) [(0, vr (some (a0, 8, 0))), (1, vi l1), (2, vr (some (a2, 20, 0))), (3, vi l3)] 80 [vr (some (p4, 22, 0)), vr (some (p5, 21, 0)), vr (some (p6, 21, 0)), vr u7] Q
  refine sX9_variables_80 (d := (d + 2)) (sr (sr (si M p3 0 s2) p3 1 (some (p1, 23, 0))) p3 2 u0) _ l1 _ l3 p4 p5 p6 u7 ?_
  refine jX15_init (d := d) (sr (sr (si M p3 0 s2) p3 1 (some (p1, 23, 0))) p3 2 u0) p5 (some (p4, 22, 0)) ?_
  refine zand k (fun h12410 k => ?_)
  show Z E YX9_variables ((d + 2) + 1) (sr (sr (sr (si M p3 0 s2) p3 1 (some (p1, 23, 0))) p3 2 u0) p5 0 (some (p4, 22, 0))) [(0, vr (some (a0, 8, 0))), (1, vi l1), (2, vr (some (a2, 20, 0))), (3, vi l3)] 83 [vr (some (p6, 21, 0)), vr u7] Q
  refine sX9_variables_83 (d := (d + 2)) (sr (sr (sr (si M p3 0 s2) p3 1 (some (p1, 23, 0))) p3 2 u0) p5 0 (some (p4, 22, 0))) _ l1 _ l3 p6 u7 ?_
  exact k
theorem jX19_init {E : zE} {d : Nat} {Q : zO → zM → Prop} (M : zM) (a0 : Nat) (k : Q (.inl none) M) : Z E YX19_init (d + 2) M [(0, vr (some (a0, 25, 0)))] 0 [] Q := by
  refine sX19_init_0 (d := (d + 1)) M a0 ?_
  refine sX13_init_0 (d := d) M _ 25 ?_
  show Z E YX19_init ((d + 1) + 1) M [] 4 [] Q
  refine sX19_init_4 (d := (d + 1)) M  ?_
  exact k
theorem jX20_init {E : zE} {d : Nat} {Q : zO → zM → Prop} (M : zM) (a0 : Nat) (l1 : Int32) (k : 16 ≤ a0 ∧ (Q (.inl none) (si M a0 0 l1))) : Z E YX20_init (d + 2) M [(0, vr (some (a0, 26, 0))), (1, vi l1)] 0 [] Q := by
  refine sX20_init_0 (d := (d + 1)) M a0 l1 ?_
  refine sX13_init_0 (d := d) M _ 26 ?_
  show Z E YX20_init ((d + 1) + 1) M [(0, vr (some (a0, 26, 0))), (1, vi l1)] 4 [] Q
  refine sX20_init_4 (d := (d + 1)) M _ l1 ?_
  exact k
theorem iX9_wordAlone_145 {E : zE} {d : Nat} {Q : zO → zM → Prop} (M : zM) (a0 : Nat) (p0 : Nat) (k : 16 ≤ p0 ∧ (∃ b12514 : Nat, (gr M a0 1) = some (b12514, 9, 0) ∧ (Z E YX10_next (d + 2) (si (si M p0 0 (3 : Int32)) p0 1 (0 : Int32)) (zargs 0 [vr (some (b12514, 9, 0))]) 0 [] (zafter E YX9_wordAlone ((d + 2) + 1) [(1, vr (some (p0, 24, 0)))] 246 3 [] Q)))) : Z E YX9_wordAlone (d + 3) M [(0, vr (some (a0, 8, 0)))] 145 [vr (some (p0, 24, 0))] Q := by
  refine sX9_wordAlone_145 (d := (d + 2)) M a0 p0 ?_
  refine jX18_init (d := d) M p0 (3 : Int32) (0 : Int32) ?_
  refine zand k (fun h12513 k => ?_)
  show Z E YX9_wordAlone ((d + 2) + 1) (si (si M p0 0 (3 : Int32)) p0 1 (0 : Int32)) [(0, vr (some (a0, 8, 0)))] 151 [vr (some (p0, 24, 0))] Q
  refine sX9_wordAlone_151 (d := (d + 2)) (si (si M p0 0 (3 : Int32)) p0 1 (0 : Int32)) _ _ ?_
  exact k
theorem iX9_wordAlone_158 {E : zE} {d : Nat} {Q : zO → zM → Prop} (M : zM) (a0 : Nat) (p0 : Nat) (k : 16 ≤ p0 ∧ (∃ b12518 : Nat, (gr M a0 1) = some (b12518, 9, 0) ∧ (Z E YX10_next (d + 2) (si (si M p0 0 (4 : Int32)) p0 1 (0 : Int32)) (zargs 0 [vr (some (b12518, 9, 0))]) 0 [] (zafter E YX9_wordAlone ((d + 2) + 1) [(1, vr (some (p0, 24, 0)))] 246 3 [] Q)))) : Z E YX9_wordAlone (d + 3) M [(0, vr (some (a0, 8, 0)))] 158 [vr (some (p0, 24, 0))] Q := by
  refine sX9_wordAlone_158 (d := (d + 2)) M a0 p0 ?_
  refine jX18_init (d := d) M p0 (4 : Int32) (0 : Int32) ?_
  refine zand k (fun h12517 k => ?_)
  show Z E YX9_wordAlone ((d + 2) + 1) (si (si M p0 0 (4 : Int32)) p0 1 (0 : Int32)) [(0, vr (some (a0, 8, 0)))] 164 [vr (some (p0, 24, 0))] Q
  refine sX9_wordAlone_164 (d := (d + 2)) (si (si M p0 0 (4 : Int32)) p0 1 (0 : Int32)) _ _ ?_
  exact k
theorem iX9_wordAlone_119 {E : zE} {d : Nat} {Q : zO → zM → Prop} (M : zM) (a0 : Nat) (p0 : Nat) (k : 16 ≤ p0 ∧ (∃ b12520 : Nat, (gr M a0 1) = some (b12520, 9, 0) ∧ (Z E YX10_next (d + 2) (si (si M p0 0 (1 : Int32)) p0 1 (0 : Int32)) (zargs 0 [vr (some (b12520, 9, 0))]) 0 [] (zafter E YX9_wordAlone ((d + 2) + 1) [(1, vr (some (p0, 24, 0)))] 246 3 [] Q)))) : Z E YX9_wordAlone (d + 3) M [(0, vr (some (a0, 8, 0)))] 119 [vr (some (p0, 24, 0))] Q := by
  refine sX9_wordAlone_119 (d := (d + 2)) M a0 p0 ?_
  refine jX18_init (d := d) M p0 (1 : Int32) (0 : Int32) ?_
  refine zand k (fun h12519 k => ?_)
  show Z E YX9_wordAlone ((d + 2) + 1) (si (si M p0 0 (1 : Int32)) p0 1 (0 : Int32)) [(0, vr (some (a0, 8, 0)))] 125 [vr (some (p0, 24, 0))] Q
  refine sX9_wordAlone_125 (d := (d + 2)) (si (si M p0 0 (1 : Int32)) p0 1 (0 : Int32)) _ _ ?_
  exact k
theorem iX9_wordAlone_95 {E : zE} {d : Nat} {Q : zO → zM → Prop} (M : zM) (a0 : Nat) (p0 : Nat) (k : ∃ b12521 : Nat, (gr M a0 1) = some (b12521, 9, 0) ∧ (Z E YX10_next (d + 2) M (zargs 0 [vr (some (b12521, 9, 0))]) 0 [] (zafter E YX9_wordAlone ((d + 2) + 1) [(1, vr (some (p0, 25, 0)))] 246 3 [] Q))) : Z E YX9_wordAlone (d + 3) M [(0, vr (some (a0, 8, 0)))] 95 [vr (some (p0, 25, 0))] Q := by
  refine sX9_wordAlone_95 (d := (d + 2)) M a0 p0 ?_
  refine jX19_init (d := d) M p0 ?_
  show Z E YX9_wordAlone ((d + 2) + 1) M [(0, vr (some (a0, 8, 0)))] 99 [vr (some (p0, 25, 0))] Q
  refine sX9_wordAlone_99 (d := (d + 2)) M _ _ ?_
  exact k
theorem iX9_wordAlone_132 {E : zE} {d : Nat} {Q : zO → zM → Prop} (M : zM) (a0 : Nat) (p0 : Nat) (k : 16 ≤ p0 ∧ (∃ b12523 : Nat, (gr M a0 1) = some (b12523, 9, 0) ∧ (Z E YX10_next (d + 2) (si (si M p0 0 (2 : Int32)) p0 1 (0 : Int32)) (zargs 0 [vr (some (b12523, 9, 0))]) 0 [] (zafter E YX9_wordAlone ((d + 2) + 1) [(1, vr (some (p0, 24, 0)))] 246 3 [] Q)))) : Z E YX9_wordAlone (d + 3) M [(0, vr (some (a0, 8, 0)))] 132 [vr (some (p0, 24, 0))] Q := by
  refine sX9_wordAlone_132 (d := (d + 2)) M a0 p0 ?_
  refine jX18_init (d := d) M p0 (2 : Int32) (0 : Int32) ?_
  refine zand k (fun h12522 k => ?_)
  show Z E YX9_wordAlone ((d + 2) + 1) (si (si M p0 0 (2 : Int32)) p0 1 (0 : Int32)) [(0, vr (some (a0, 8, 0)))] 138 [vr (some (p0, 24, 0))] Q
  refine sX9_wordAlone_138 (d := (d + 2)) (si (si M p0 0 (2 : Int32)) p0 1 (0 : Int32)) _ _ ?_
  exact k
theorem iX9_wordAlone_106 {E : zE} {d : Nat} {Q : zO → zM → Prop} (M : zM) (a0 : Nat) (p0 : Nat) (k : 16 ≤ p0 ∧ (∃ b12525 : Nat, (gr M a0 1) = some (b12525, 9, 0) ∧ (Z E YX10_next (d + 2) (si (si M p0 0 (0 : Int32)) p0 1 (0 : Int32)) (zargs 0 [vr (some (b12525, 9, 0))]) 0 [] (zafter E YX9_wordAlone ((d + 2) + 1) [(1, vr (some (p0, 24, 0)))] 246 3 [] Q)))) : Z E YX9_wordAlone (d + 3) M [(0, vr (some (a0, 8, 0)))] 106 [vr (some (p0, 24, 0))] Q := by
  refine sX9_wordAlone_106 (d := (d + 2)) M a0 p0 ?_
  refine jX18_init (d := d) M p0 (0 : Int32) (0 : Int32) ?_
  refine zand k (fun h12524 k => ?_)
  show Z E YX9_wordAlone ((d + 2) + 1) (si (si M p0 0 (0 : Int32)) p0 1 (0 : Int32)) [(0, vr (some (a0, 8, 0)))] 112 [vr (some (p0, 24, 0))] Q
  refine sX9_wordAlone_112 (d := (d + 2)) (si (si M p0 0 (0 : Int32)) p0 1 (0 : Int32)) _ _ ?_
  exact k
theorem iX9_wordAlone_183 {E : zE} {d : Nat} {Q : zO → zM → Prop} (M : zM) (a0 : Nat) (u0 : Option zP) (k : ∃ b12526 : Nat, (gr M a0 1) = some (b12526, 9, 0) ∧ (if (gi M b12526 3) = (1 : Int32) then (Z E YX10_needName d M (zargs 0 [vr (some (b12526, 9, 0))]) 0 [] (zafter E YX9_wordAlone (d + 1) [(0, vr (some (a0, 8, 0))), (2, vr u0)] 200 3 [vr u0] Q)) else (Z E YX9_inside d M (zargs 0 [vr (some (a0, 8, 0)), vr u0]) 0 [] (zafter E YX9_wordAlone (d + 1) [(0, vr (some (a0, 8, 0))), (2, vr u0)] 208 3 [] Q)))) : Z E YX9_wordAlone (d + 1) M [(0, vr (some (a0, 8, 0)))] 183 [vr u0] Q := by
  refine sX9_wordAlone_183 (d := d) M a0 u0 ?_
  obtain ⟨b12526, h12526, k⟩ := k
  refine ⟨b12526, h12526, ?_⟩
  refine zite k (fun h12527 k => ?_) (fun h12527 k => ?_)
  · refine ⟨b12526, h12526, ?_⟩
    exact k
  · exact k
theorem iX9_wordAlone_211 {E : zE} {d : Nat} {Q : zO → zM → Prop} (M : zM) (a0 : Nat) (r2 : Option zP) (k : 16 ≤ a0 ∧ (∃ b12534 : Nat, r2 = some (b12534, 10, 0) ∧ (16 ≤ (zsz M) ∧ (Q (.inl (some (vr (some ((zsz M), 26, 0))))) (si (zn (si M a0 4 ((gi M a0 4) - (1 : Int32))) 1) (zsz M) 0 (gi (zn (si M a0 4 ((gi M a0 4) - (1 : Int32))) 1) b12534 0)))))) : Z E YX9_wordAlone (d + 3) M [(0, vr (some (a0, 8, 0))), (2, vr r2)] 211 [] Q := by
  refine sX9_wordAlone_211 (d := (d + 2)) M a0 r2 ?_
  refine zand k (fun h12533 k => ?_)
  refine sX9_wordAlone_224 (d := (d + 2)) (zn (si M a0 4 ((gi M a0 4) - (1 : Int32))) 1) r2 (zsz M) ?_
  obtain ⟨b12534, h12534, k⟩ := k
  refine ⟨b12534, h12534, ?_⟩
  refine jX20_init (d := d) (zn (si M a0 4 ((gi M a0 4) - (1 : Int32))) 1) (zsz M) (gi (zn (si M a0 4 ((gi M a0 4) - (1 : Int32))) 1) b12534 0) ?_
  refine zand k (fun h12535 k => ?_)
  show Z E YX9_wordAlone ((d + 2) + 1) (si (zn (si M a0 4 ((gi M a0 4) - (1 : Int32))) 1) (zsz M) 0 (gi (zn (si M a0 4 ((gi M a0 4) - (1 : Int32))) 1) b12534 0)) [] 232 [vr (some ((zsz M), 26, 0))] Q
  refine sX9_wordAlone_232 (d := (d + 2)) (si (zn (si M a0 4 ((gi M a0 4) - (1 : Int32))) 1) (zsz M) 0 (gi (zn (si M a0 4 ((gi M a0 4) - (1 : Int32))) 1) b12534 0)) (zsz M) ?_
  exact k
theorem iX11_add_5 {E : zE} {d : Nat} {Q : zO → zM → Prop} (M : zM) (a0 : Nat) (l1 : Int32) (s0 : Int32) (k : if s0 = 0 then (∃ b12537 m12537 : Nat, (gr M a0 4) = some (b12537, 100, m12537) ∧ (if (gi M a0 5) = (Int32.ofNat m12537) then ((¬ ((2 : Int32) * (gi M a0 5)) < 0 ∧ (((2 : Int32) * (gi M a0 5))).toNatClampNeg * 8 ≤ 536870912) ∧ (∃ b12540 m12540 : Nat, (gr (zn M (((2 : Int32) * (gi M a0 5))).toNatClampNeg) a0 4) = some (b12540, 100, m12540) ∧ (16 ≤ (zsz M) ∧ ((1 ≤ (d + 1)) ∧ (((¬ (0 : Int32) < 0 ∧ ¬ (0 : Int32) < 0 ∧ ¬ (gi (zn M (((2 : Int32) * (gi M a0 5))).toNatClampNeg) a0 5) < 0) ∧ ((0 : Int32)).toNatClampNeg + ((gi (zn M (((2 : Int32) * (gi M a0 5))).toNatClampNeg) a0 5)).toNatClampNeg ≤ m12540 ∧ ((0 : Int32)).toNatClampNeg + ((gi (zn M (((2 : Int32) * (gi M a0 5))).toNatClampNeg) a0 5)).toNatClampNeg ≤ (((2 : Int32) * (gi M a0 5))).toNatClampNeg) ∧ (16 ≤ a0 ∧ (∃ b12545 m12545 : Nat, (gr (sr (cpi (zn M (((2 : Int32) * (gi M a0 5))).toNatClampNeg) b12540 ((0 : Int32)).toNatClampNeg (zsz M) ((0 : Int32)).toNatClampNeg ((gi (zn M (((2 : Int32) * (gi M a0 5))).toNatClampNeg) a0 5)).toNatClampNeg) a0 4 (some ((zsz M), 100, (((2 : Int32) * (gi M a0 5))).toNatClampNeg))) a0 4) = some (b12545, 100, m12545) ∧ (16 ≤ b12545 ∧ (vp_in (gi (cpi (zn M (((2 : Int32) * (gi M a0 5))).toNatClampNeg) b12540 ((0 : Int32)).toNatClampNeg (zsz M) ((0 : Int32)).toNatClampNeg ((gi (zn M (((2 : Int32) * (gi M a0 5))).toNatClampNeg) a0 5)).toNatClampNeg) a0 5) m12545 ∧ (Q (.inl none) (si (si (sr (cpi (zn M (((2 : Int32) * (gi M a0 5))).toNatClampNeg) b12540 ((0 : Int32)).toNatClampNeg (zsz M) ((0 : Int32)).toNatClampNeg ((gi (zn M (((2 : Int32) * (gi M a0 5))).toNatClampNeg) a0 5)).toNatClampNeg) a0 4 (some ((zsz M), 100, (((2 : Int32) * (gi M a0 5))).toNatClampNeg))) a0 5 ((gi (cpi (zn M (((2 : Int32) * (gi M a0 5))).toNatClampNeg) b12540 ((0 : Int32)).toNatClampNeg (zsz M) ((0 : Int32)).toNatClampNeg ((gi (zn M (((2 : Int32) * (gi M a0 5))).toNatClampNeg) a0 5)).toNatClampNeg) a0 5) + (1 : Int32))) b12545 ((gi (cpi (zn M (((2 : Int32) * (gi M a0 5))).toNatClampNeg) b12540 ((0 : Int32)).toNatClampNeg (zsz M) ((0 : Int32)).toNatClampNeg ((gi (zn M (((2 : Int32) * (gi M a0 5))).toNatClampNeg) a0 5)).toNatClampNeg) a0 5)).toNatClampNeg l1))))))))))) else (16 ≤ a0 ∧ (16 ≤ b12537 ∧ (vp_in (gi M a0 5) m12537 ∧ (Q (.inl none) (si (si M a0 5 ((gi M a0 5) + (1 : Int32))) b12537 ((gi M a0 5)).toNatClampNeg l1))))))) else (Q (.inl none) M)) : Z E YX11_add (d + 1) M [(0, vr (some (a0, 10, 0))), (1, vi l1)] 5 [vi s0] Q := by
  refine sX11_add_5 (d := d) M a0 l1 s0 ?_
  refine zite k (fun h12536 k => ?_) (fun h12536 k => ?_)
  · obtain ⟨b12537, m12537, h12537, k⟩ := k
    refine ⟨b12537, m12537, h12537, ?_⟩
    refine zite k (fun h12538 k => ?_) (fun h12538 k => ?_)
    · refine zand k (fun h12539 k => ?_)
      refine sX11_add_29 (d := d) (zn M (((2 : Int32) * (gi M a0 5))).toNatClampNeg) _ l1 (zsz M) ((((2 : Int32) * (gi M a0 5))).toNatClampNeg) ?_
      obtain ⟨b12540, m12540, h12540, k⟩ := k
      refine ⟨b12540, m12540, h12540, ?_⟩
      refine zand k (fun h12541 k => ?_)
      refine zand k (fun h12542 k => ?_)
      refine zand k (fun h12543 k => ?_)
      refine sX11_add_44 (d := d) (cpi (zn M (((2 : Int32) * (gi M a0 5))).toNatClampNeg) b12540 ((0 : Int32)).toNatClampNeg (zsz M) ((0 : Int32)).toNatClampNeg ((gi (zn M (((2 : Int32) * (gi M a0 5))).toNatClampNeg) a0 5)).toNatClampNeg) _ l1 (zsz M) ((((2 : Int32) * (gi M a0 5))).toNatClampNeg) ?_
      refine zand k (fun h12544 k => ?_)
      refine sX11_add_49 (d := d) (sr (cpi (zn M (((2 : Int32) * (gi M a0 5))).toNatClampNeg) b12540 ((0 : Int32)).toNatClampNeg (zsz M) ((0 : Int32)).toNatClampNeg ((gi (zn M (((2 : Int32) * (gi M a0 5))).toNatClampNeg) a0 5)).toNatClampNeg) a0 4 (some ((zsz M), 100, (((2 : Int32) * (gi M a0 5))).toNatClampNeg))) _ l1 ?_
      refine ⟨h12544, ?_⟩
      exact k
    · refine sX11_add_49 (d := d) M _ l1 ?_
      refine zand k (fun h12548 k => ?_)
      refine ⟨b12537, m12537, h12537, ?_⟩
      exact k
  · exact k
theorem iX11_init_0 {E : zE} {d : Nat} {Q : zO → zM → Prop} (M : zM) (a0 : Nat) (l1 : Int32) (r2 : Option zP) (k : 16 ≤ (zsz M) ∧ (16 ≤ a0 ∧ (16 ≤ (zsz (sr (si (zn M 3) (zsz M) 0 (0 : Int32)) (zsz M) 1 (some (1, 110, 0)))) ∧ (Q (.inl none) (sr (si (si (si (sr (zn (sr (sr (si (zn (sr (sr (si (zn M 3) (zsz M) 0 (0 : Int32)) (zsz M) 1 (some (1, 110, 0))) a0 2 (some ((zsz M), 11, 0))) 3) (zsz (sr (si (zn M 3) (zsz M) 0 (0 : Int32)) (zsz M) 1 (some (1, 110, 0)))) 0 (0 : Int32)) (zsz (sr (si (zn M 3) (zsz M) 0 (0 : Int32)) (zsz M) 1 (some (1, 110, 0)))) 1 (some (1, 110, 0))) a0 3 (some ((zsz (sr (si (zn M 3) (zsz M) 0 (0 : Int32)) (zsz M) 1 (some (1, 110, 0)))), 11, 0))) 12) a0 4 (some ((zsz (sr (si (zn (sr (sr (si (zn M 3) (zsz M) 0 (0 : Int32)) (zsz M) 1 (some (1, 110, 0))) a0 2 (some ((zsz M), 11, 0))) 3) (zsz (sr (si (zn M 3) (zsz M) 0 (0 : Int32)) (zsz M) 1 (some (1, 110, 0)))) 0 (0 : Int32)) (zsz (sr (si (zn M 3) (zsz M) 0 (0 : Int32)) (zsz M) 1 (some (1, 110, 0)))) 1 (some (1, 110, 0)))), 100, 12))) a0 7 (-1 : Int32)) a0 8 (-1 : Int32)) a0 0 l1) a0 1 r2))))) : Z E YX11_init (d + 4) M [(0, vr (some (a0, 10, 0))), (1, vi l1), (2, vr r2)] 0 [] Q := by
  refine sX11_init_0 (d := (d + 3)) M a0 l1 r2 ?_
  refine sX11_init_8 (d := (d + 3)) (zn M 3) _ l1 r2 (zsz M) ?_
  refine jJ2_init (d := d) (zn M 3) (zsz M) ?_
  refine zand k (fun h12555 k => ?_)
  show Z E YX11_init ((d + 3) + 1) (sr (si (zn M 3) (zsz M) 0 (0 : Int32)) (zsz M) 1 (some (1, 110, 0))) [(0, vr (some (a0, 10, 0))), (1, vi l1), (2, vr r2)] 12 [vr (some ((zsz M), 11, 0)), vr (some (a0, 10, 0))] Q
  refine sX11_init_12 (d := (d + 3)) (sr (si (zn M 3) (zsz M) 0 (0 : Int32)) (zsz M) 1 (some (1, 110, 0))) _ l1 r2 (zsz M) ?_
  refine zand k (fun h12556 k => ?_)
  refine sX11_init_19 (d := (d + 3)) (zn (sr (sr (si (zn M 3) (zsz M) 0 (0 : Int32)) (zsz M) 1 (some (1, 110, 0))) a0 2 (some ((zsz M), 11, 0))) 3) _ l1 r2 (zsz (sr (si (zn M 3) (zsz M) 0 (0 : Int32)) (zsz M) 1 (some (1, 110, 0)))) ?_
  refine jJ2_init (d := d) (zn (sr (sr (si (zn M 3) (zsz M) 0 (0 : Int32)) (zsz M) 1 (some (1, 110, 0))) a0 2 (some ((zsz M), 11, 0))) 3) (zsz (sr (si (zn M 3) (zsz M) 0 (0 : Int32)) (zsz M) 1 (some (1, 110, 0)))) ?_
  refine zand k (fun h12557 k => ?_)
  show Z E YX11_init ((d + 3) + 1) (sr (si (zn (sr (sr (si (zn M 3) (zsz M) 0 (0 : Int32)) (zsz M) 1 (some (1, 110, 0))) a0 2 (some ((zsz M), 11, 0))) 3) (zsz (sr (si (zn M 3) (zsz M) 0 (0 : Int32)) (zsz M) 1 (some (1, 110, 0)))) 0 (0 : Int32)) (zsz (sr (si (zn M 3) (zsz M) 0 (0 : Int32)) (zsz M) 1 (some (1, 110, 0)))) 1 (some (1, 110, 0))) [(0, vr (some (a0, 10, 0))), (1, vi l1), (2, vr r2)] 23 [vr (some ((zsz (sr (si (zn M 3) (zsz M) 0 (0 : Int32)) (zsz M) 1 (some (1, 110, 0)))), 11, 0)), vr (some (a0, 10, 0))] Q
  refine sX11_init_23 (d := (d + 3)) (sr (si (zn (sr (sr (si (zn M 3) (zsz M) 0 (0 : Int32)) (zsz M) 1 (some (1, 110, 0))) a0 2 (some ((zsz M), 11, 0))) 3) (zsz (sr (si (zn M 3) (zsz M) 0 (0 : Int32)) (zsz M) 1 (some (1, 110, 0)))) 0 (0 : Int32)) (zsz (sr (si (zn M 3) (zsz M) 0 (0 : Int32)) (zsz M) 1 (some (1, 110, 0)))) 1 (some (1, 110, 0))) _ l1 r2 (zsz (sr (si (zn M 3) (zsz M) 0 (0 : Int32)) (zsz M) 1 (some (1, 110, 0)))) ?_
  refine ⟨h12556, ?_⟩
  refine sX11_init_31 (d := (d + 3)) (zn (sr (sr (si (zn (sr (sr (si (zn M 3) (zsz M) 0 (0 : Int32)) (zsz M) 1 (some (1, 110, 0))) a0 2 (some ((zsz M), 11, 0))) 3) (zsz (sr (si (zn M 3) (zsz M) 0 (0 : Int32)) (zsz M) 1 (some (1, 110, 0)))) 0 (0 : Int32)) (zsz (sr (si (zn M 3) (zsz M) 0 (0 : Int32)) (zsz M) 1 (some (1, 110, 0)))) 1 (some (1, 110, 0))) a0 3 (some ((zsz (sr (si (zn M 3) (zsz M) 0 (0 : Int32)) (zsz M) 1 (some (1, 110, 0)))), 11, 0))) 12) _ l1 r2 (zsz (sr (si (zn (sr (sr (si (zn M 3) (zsz M) 0 (0 : Int32)) (zsz M) 1 (some (1, 110, 0))) a0 2 (some ((zsz M), 11, 0))) 3) (zsz (sr (si (zn M 3) (zsz M) 0 (0 : Int32)) (zsz M) 1 (some (1, 110, 0)))) 0 (0 : Int32)) (zsz (sr (si (zn M 3) (zsz M) 0 (0 : Int32)) (zsz M) 1 (some (1, 110, 0)))) 1 (some (1, 110, 0)))) ?_
  refine ⟨h12556, ?_⟩
  refine ⟨h12556, ?_⟩
  refine ⟨h12556, ?_⟩
  refine ⟨h12556, ?_⟩
  refine ⟨h12556, ?_⟩
  exact k
theorem iX9_arguments_0 {E : zE} {d : Nat} {Q : zO → zM → Prop} (M : zM) (a0 : Nat) (k : 16 ≤ (zsz M) ∧ (Z E YX9_opens (d + 3) (sr (si (zn M 3) (zsz M) 0 (0 : Int32)) (zsz M) 1 (some (1, 110, 0))) (zargs 0 [vr (some (a0, 8, 0))]) 0 [] (zafter E YX9_arguments ((d + 3) + 1) [(0, vr (some (a0, 8, 0))), (1, vr (some ((zsz M), 11, 0)))] 9 3 [] Q))) : Z E YX9_arguments (d + 4) M [(0, vr (some (a0, 8, 0)))] 0 [] Q := by
  refine sX9_arguments_0 (d := (d + 3)) M a0 ?_
  refine sX9_arguments_3 (d := (d + 3)) (zn M 3) _ (zsz M) ?_
  refine jJ2_init (d := d) (zn M 3) (zsz M) ?_
  refine zand k (fun h12558 k => ?_)
  show Z E YX9_arguments ((d + 3) + 1) (sr (si (zn M 3) (zsz M) 0 (0 : Int32)) (zsz M) 1 (some (1, 110, 0))) [(0, vr (some (a0, 8, 0)))] 7 [vr (some ((zsz M), 11, 0))] Q
  refine sX9_arguments_7 (d := (d + 3)) (sr (si (zn M 3) (zsz M) 0 (0 : Int32)) (zsz M) 1 (some (1, 110, 0))) _ (zsz M) ?_
  exact k
theorem iX9_arguments_19 {E : zE} {d : Nat} {Q : zO → zM → Prop} (M : zM) (a0 : Nat) (a1 : Nat) (k : ∃ b12560 : Nat, (gr M a0 1) = some (b12560, 9, 0) ∧ (if (gi M b12560 3) = (5 : Int32) then (if (gi M b12560 6) = (3 : Int32) then (Z E YX10_need d M (zargs 0 [vr (some (b12560, 9, 0)), vi (3 : Int32)]) 0 [] (zafter E YX9_arguments (d + 1) [(0, vr (some (a0, 8, 0))), (1, vr (some (a1, 11, 0)))] 95 3 [] Q)) else (Z E YX9_assignment d M (zargs 0 [vr (some (a0, 8, 0)), vi (1 : Int32)]) 0 [] (zafter E YX9_arguments (d + 1) [(0, vr (some (a0, 8, 0))), (1, vr (some (a1, 11, 0)))] 33 3 [vr (some (a1, 11, 0))] Q))) else (Z E YX9_assignment d M (zargs 0 [vr (some (a0, 8, 0)), vi (1 : Int32)]) 0 [] (zafter E YX9_arguments (d + 1) [(0, vr (some (a0, 8, 0))), (1, vr (some (a1, 11, 0)))] 33 3 [vr (some (a1, 11, 0))] Q)))) : Z E YX9_arguments (d + 1) M [(0, vr (some (a0, 8, 0))), (1, vr (some (a1, 11, 0)))] 19 [] Q := by
  refine sX9_arguments_19 (d := d) M a0 a1 ?_
  obtain ⟨b12560, h12560, k⟩ := k
  refine ⟨b12560, h12560, ?_⟩
  refine sX10_is_0 (d := d) M b12560 (3 : Int32) ?_
  refine zite k (fun h12561 k => ?_) (fun h12561 k => ?_)
  · refine zite k (fun h12562 k => ?_) (fun h12562 k => ?_)
    · show Z E YX9_arguments (d + 1) M [(0, vr (some (a0, 8, 0))), (1, vr (some (a1, 11, 0)))] 27 [vi (1 : Int32)] Q
      refine sX9_arguments_27 (d := d) M _ _ (1 : Int32) ?_
      refine zneg (show ¬ ((1 : Int32) = 0) from by decide) ?_
      refine ⟨b12560, h12560, ?_⟩
      exact k
    · show Z E YX9_arguments (d + 1) M [(0, vr (some (a0, 8, 0))), (1, vr (some (a1, 11, 0)))] 27 [vi (0 : Int32)] Q
      refine sX9_arguments_27 (d := d) M _ _ (0 : Int32) ?_
      refine zpos (show (0 : Int32) = 0 from by decide) ?_
      exact k
  · show Z E YX9_arguments (d + 1) M [(0, vr (some (a0, 8, 0))), (1, vr (some (a1, 11, 0)))] 27 [vi (0 : Int32)] Q
    refine sX9_arguments_27 (d := d) M _ _ (0 : Int32) ?_
    refine zpos (show (0 : Int32) = 0 from by decide) ?_
    exact k
theorem iX9_arguments_40 {E : zE} {d : Nat} {Q : zO → zM → Prop} (M : zM) (a0 : Nat) (a1 : Nat) (k : ∃ b12564 : Nat, (gr M a0 1) = some (b12564, 9, 0) ∧ (if (gi M b12564 3) = (5 : Int32) then (if (gi M b12564 6) = (8 : Int32) then (if (gi M a1 2) = (8 : Int32) then (Z E YX10_fault d M (zargs 0 [vr (some (b12564, 9, 0)), vi (2 : Int32)]) 0 [] (zafter E YX9_arguments (d + 1) [] 66 3 [] Q)) else (Z E YX10_next d M (zargs 0 [vr (some (b12564, 9, 0))]) 0 [] (zafter E YX9_arguments (d + 1) [(0, vr (some (a0, 8, 0))), (1, vr (some (a1, 11, 0)))] 74 3 [] Q))) else (Z E YX10_need d M (zargs 0 [vr (some (b12564, 9, 0)), vi (3 : Int32)]) 0 [] (zafter E YX9_arguments (d + 1) [(0, vr (some (a0, 8, 0))), (1, vr (some (a1, 11, 0)))] 95 3 [] Q))) else (Z E YX10_need d M (zargs 0 [vr (some (b12564, 9, 0)), vi (3 : Int32)]) 0 [] (zafter E YX9_arguments (d + 1) [(0, vr (some (a0, 8, 0))), (1, vr (some (a1, 11, 0)))] 95 3 [] Q)))) : Z E YX9_arguments (d + 1) M [(0, vr (some (a0, 8, 0))), (1, vr (some (a1, 11, 0)))] 40 [] Q := by
  refine sX9_arguments_40 (d := d) M a0 a1 ?_
  obtain ⟨b12564, h12564, k⟩ := k
  refine ⟨b12564, h12564, ?_⟩
  refine sX10_is_0 (d := d) M b12564 (8 : Int32) ?_
  refine zite k (fun h12565 k => ?_) (fun h12565 k => ?_)
  · refine zite k (fun h12566 k => ?_) (fun h12566 k => ?_)
    · show Z E YX9_arguments (d + 1) M [(0, vr (some (a0, 8, 0))), (1, vr (some (a1, 11, 0)))] 49 [vi (1 : Int32)] Q
      refine sX9_arguments_49 (d := d) M _ _ (1 : Int32) ?_
      refine zneg (show ¬ ((1 : Int32) = 0) from by decide) ?_
      refine sJ2_size_0 (d := d) M a1 ?_
      show Z E YX9_arguments (d + 1) M [(0, vr (some (a0, 8, 0))), (1, vr (some (a1, 11, 0)))] 56 [vi (gi M a1 2)] Q
      refine sX9_arguments_56 (d := d) M _ _ (gi M a1 2) ?_
      refine zite k (fun h12567 k => ?_) (fun h12567 k => ?_)
      · refine ⟨b12564, h12564, ?_⟩
        exact k
      · refine ⟨b12564, h12564, ?_⟩
        exact k
    · show Z E YX9_arguments (d + 1) M [(0, vr (some (a0, 8, 0))), (1, vr (some (a1, 11, 0)))] 49 [vi (0 : Int32)] Q
      refine sX9_arguments_49 (d := d) M _ _ (0 : Int32) ?_
      refine zpos (show (0 : Int32) = 0 from by decide) ?_
      refine ⟨b12564, h12564, ?_⟩
      exact k
  · show Z E YX9_arguments (d + 1) M [(0, vr (some (a0, 8, 0))), (1, vr (some (a1, 11, 0)))] 49 [vi (0 : Int32)] Q
    refine sX9_arguments_49 (d := d) M _ _ (0 : Int32) ?_
    refine zpos (show (0 : Int32) = 0 from by decide) ?_
    refine ⟨b12564, h12564, ?_⟩
    exact k
theorem iX9_assigns_0 {E : zE} {d : Nat} {Q : zO → zM → Prop} (M : zM) (a0 : Nat) (k : ∃ b12569 : Nat, (gr M a0 1) = some (b12569, 9, 0) ∧ (if (gi M b12569 3) = (5 : Int32) then (if (36 : Int32) ≤ (gi M b12569 6) then (if (gi M b12569 6) = (36 : Int32) then (Q (.inl (some (vi (-1 : Int32)))) M) else (Q (.inl (some (vi (((gi M b12569 6) - (36 : Int32)) - (1 : Int32))))) M)) else (Q (.inl (some (vi (-2 : Int32)))) M)) else (Q (.inl (some (vi (-2 : Int32)))) M))) : Z E YX9_assigns d M [(0, vr (some (a0, 8, 0)))] 0 [] Q := by
  refine sX9_assigns_0 (d := d) M a0 ?_
  obtain ⟨b12569, h12569, k⟩ := k
  refine ⟨b12569, h12569, ?_⟩
  refine zite k (fun h12570 k => ?_) (fun h12570 k => ?_)
  · refine ⟨b12569, h12569, ?_⟩
    refine zite k (fun h12571 k => ?_) (fun h12571 k => ?_)
    · refine ⟨b12569, h12569, ?_⟩
      refine zite k (fun h12572 k => ?_) (fun h12572 k => ?_)
      · exact k
      · refine ⟨b12569, h12569, ?_⟩
        exact k
    · exact k
  · exact k
theorem iX9_block_8 {E : zE} {d : Nat} {Q : zO → zM → Prop} (M : zM) (a0 : Nat) (k : 16 ≤ (zsz (zn M 1)) ∧ (16 ≤ (zsz M) ∧ (Z E YX9_block ((d + 4) + 1) (sr (sr (si (zn (zn M 1) 3) (zsz (zn M 1)) 0 (0 : Int32)) (zsz (zn M 1)) 1 (some (1, 110, 0))) (zsz M) 0 (some ((zsz (zn M 1)), 11, 0))) [(0, vr (some (a0, 8, 0))), (1, vr (some ((zsz M), 20, 0)))] 16 [] Q))) : Z E YX9_block (d + 5) M [(0, vr (some (a0, 8, 0)))] 8 [] Q := by
  refine sX9_block_8 (d := (d + 4)) M a0 ?_
  refine sX9_block_11 (d := (d + 4)) (zn M 1) _ (zsz M) ?_
  refine jX14_init (d := d) (zn M 1) (zsz M) ?_
  refine zand k (fun h12574 k => ?_)
  refine zand k (fun h12575 k => ?_)
  show Z E YX9_block ((d + 4) + 1) (sr (sr (si (zn (zn M 1) 3) (zsz (zn M 1)) 0 (0 : Int32)) (zsz (zn M 1)) 1 (some (1, 110, 0))) (zsz M) 0 (some ((zsz (zn M 1)), 11, 0))) [(0, vr (some (a0, 8, 0)))] 15 [vr (some ((zsz M), 20, 0))] Q
  refine sX9_block_15 (d := (d + 4)) (sr (sr (si (zn (zn M 1) 3) (zsz (zn M 1)) 0 (0 : Int32)) (zsz (zn M 1)) 1 (some (1, 110, 0))) (zsz M) 0 (some ((zsz (zn M 1)), 11, 0))) _ (zsz M) ?_
  exact k
theorem iX9_block_16 {E : zE} {d : Nat} {Q : zO → zM → Prop} (M : zM) (a0 : Nat) (a1 : Nat) (k : ∃ b12576 : Nat, (gr M a0 1) = some (b12576, 9, 0) ∧ (if (gi M b12576 3) = (5 : Int32) then (if (gi M b12576 6) = (1 : Int32) then (Z E YX10_next d M (zargs 0 [vr (some (b12576, 9, 0))]) 0 [] (zafter E YX9_block (d + 1) [(1, vr (some (a1, 20, 0)))] 46 3 [] Q)) else (Z E YX9_statement d M (zargs 0 [vr (some (a0, 8, 0))]) 0 [] (zafter E YX9_block (d + 1) [(0, vr (some (a0, 8, 0))), (1, vr (some (a1, 20, 0)))] 32 3 [vr (gr M a1 0)] Q))) else (Z E YX9_statement d M (zargs 0 [vr (some (a0, 8, 0))]) 0 [] (zafter E YX9_block (d + 1) [(0, vr (some (a0, 8, 0))), (1, vr (some (a1, 20, 0)))] 32 3 [vr (gr M a1 0)] Q)))) : Z E YX9_block (d + 1) M [(0, vr (some (a0, 8, 0))), (1, vr (some (a1, 20, 0)))] 16 [] Q := by
  refine sX9_block_16 (d := d) M a0 a1 ?_
  obtain ⟨b12576, h12576, k⟩ := k
  refine ⟨b12576, h12576, ?_⟩
  refine sX10_is_0 (d := d) M b12576 (1 : Int32) ?_
  refine zite k (fun h12577 k => ?_) (fun h12577 k => ?_)
  · refine zite k (fun h12578 k => ?_) (fun h12578 k => ?_)
    · show Z E YX9_block (d + 1) M [(0, vr (some (a0, 8, 0))), (1, vr (some (a1, 20, 0)))] 24 [vi (1 : Int32)] Q
      refine sX9_block_24 (d := d) M _ _ (1 : Int32) ?_
      refine zneg (show ¬ ((1 : Int32) = 0) from by decide) ?_
      refine ⟨b12576, h12576, ?_⟩
      exact k
    · show Z E YX9_block (d + 1) M [(0, vr (some (a0, 8, 0))), (1, vr (some (a1, 20, 0)))] 24 [vi (0 : Int32)] Q
      refine sX9_block_24 (d := d) M _ _ (0 : Int32) ?_
      refine zpos (show (0 : Int32) = 0 from by decide) ?_
      exact k
  · show Z E YX9_block (d + 1) M [(0, vr (some (a0, 8, 0))), (1, vr (some (a1, 20, 0)))] 24 [vi (0 : Int32)] Q
    refine sX9_block_24 (d := d) M _ _ (0 : Int32) ?_
    refine zpos (show (0 : Int32) = 0 from by decide) ?_
    exact k
theorem iX9_chosen_0 {E : zE} {d : Nat} {Q : zO → zM → Prop} (M : zM) (a0 : Nat) (k : Z E YX9_inRound d (zn M 4) (zargs 0 [vr (some (a0, 8, 0))]) 0 [] (zafter E YX9_chosen (d + 1) [(0, vr (some (a0, 8, 0)))] 5 3 [vr (some ((zsz M), 44, 0)), vr (some ((zsz M), 44, 0))] Q)) : Z E YX9_chosen (d + 1) M [(0, vr (some (a0, 8, 0)))] 0 [] Q := by
  refine sX9_chosen_0 (d := d) M a0 ?_
  refine sX9_chosen_3 (d := d) (zn M 4) _ (zsz M) ?_
  exact k
theorem iX9_chosen_32 {E : zE} {d : Nat} {Q : zO → zM → Prop} (M : zM) (a0 : Nat) (a1 : Nat) (l2 : Int32) (k : ∃ b12585 : Nat, (gr M a0 1) = some (b12585, 9, 0) ∧ (if (gi M b12585 3) = (5 : Int32) then (if (gi M b12585 6) = (1 : Int32) then (16 ≤ a0 ∧ (Z E YX10_next d (si M a0 6 ((gi M a0 6) - (1 : Int32))) (zargs 0 [vr (some (b12585, 9, 0))]) 0 [] (zafter E YX9_chosen (d + 1) [(1, vr (some (a1, 44, 0)))] 202 3 [] Q))) else (if (gi M b12585 3) = (2 : Int32) then (if (gi M b12585 6) = (4 : Int32) then (if l2 = 0 then (Z E YX10_takesWord d M (zargs 0 [vr (some (b12585, 9, 0)), vi (4 : Int32)]) 0 [] (zafter E YX9_chosen (d + 1) [(0, vr (some (a0, 8, 0))), (1, vr (some (a1, 44, 0))), (2, vi l2), (3, vr none)] 74 3 [] Q)) else (Z E YX10_fault d M (zargs 0 [vr (some (b12585, 9, 0)), vi (3 : Int32)]) 0 [] (zafter E YX9_chosen (d + 1) [] 63 3 [] Q))) else (Z E YX10_takesWord d M (zargs 0 [vr (some (b12585, 9, 0)), vi (4 : Int32)]) 0 [] (zafter E YX9_chosen (d + 1) [(0, vr (some (a0, 8, 0))), (1, vr (some (a1, 44, 0))), (2, vi l2), (3, vr none)] 74 3 [] Q))) else (Z E YX10_takesWord d M (zargs 0 [vr (some (b12585, 9, 0)), vi (4 : Int32)]) 0 [] (zafter E YX9_chosen (d + 1) [(0, vr (some (a0, 8, 0))), (1, vr (some (a1, 44, 0))), (2, vi l2), (3, vr none)] 74 3 [] Q)))) else (if (gi M b12585 3) = (2 : Int32) then (if (gi M b12585 6) = (4 : Int32) then (if l2 = 0 then (Z E YX10_takesWord d M (zargs 0 [vr (some (b12585, 9, 0)), vi (4 : Int32)]) 0 [] (zafter E YX9_chosen (d + 1) [(0, vr (some (a0, 8, 0))), (1, vr (some (a1, 44, 0))), (2, vi l2), (3, vr none)] 74 3 [] Q)) else (Z E YX10_fault d M (zargs 0 [vr (some (b12585, 9, 0)), vi (3 : Int32)]) 0 [] (zafter E YX9_chosen (d + 1) [] 63 3 [] Q))) else (Z E YX10_takesWord d M (zargs 0 [vr (some (b12585, 9, 0)), vi (4 : Int32)]) 0 [] (zafter E YX9_chosen (d + 1) [(0, vr (some (a0, 8, 0))), (1, vr (some (a1, 44, 0))), (2, vi l2), (3, vr none)] 74 3 [] Q))) else (Z E YX10_takesWord d M (zargs 0 [vr (some (b12585, 9, 0)), vi (4 : Int32)]) 0 [] (zafter E YX9_chosen (d + 1) [(0, vr (some (a0, 8, 0))), (1, vr (some (a1, 44, 0))), (2, vi l2), (3, vr none)] 74 3 [] Q))))) : Z E YX9_chosen (d + 1) M [(0, vr (some (a0, 8, 0))), (1, vr (some (a1, 44, 0))), (2, vi l2)] 32 [] Q := by
  refine sX9_chosen_32 (d := d) M a0 a1 l2 ?_
  obtain ⟨b12585, h12585, k⟩ := k
  refine ⟨b12585, h12585, ?_⟩
  refine sX10_is_0 (d := d) M b12585 (1 : Int32) ?_
  refine zite k (fun h12586 k => ?_) (fun h12586 k => ?_)
  · refine zite k (fun h12587 k => ?_) (fun h12587 k => ?_)
    · show Z E YX9_chosen (d + 1) M [(0, vr (some (a0, 8, 0))), (1, vr (some (a1, 44, 0))), (2, vi l2)] 40 [vi (1 : Int32)] Q
      refine sX9_chosen_40 (d := d) M _ _ l2 (1 : Int32) ?_
      refine zneg (show ¬ ((1 : Int32) = 0) from by decide) ?_
      refine zand k (fun h12588 k => ?_)
      refine ⟨b12585, h12585, ?_⟩
      exact k
    · show Z E YX9_chosen (d + 1) M [(0, vr (some (a0, 8, 0))), (1, vr (some (a1, 44, 0))), (2, vi l2)] 40 [vi (0 : Int32)] Q
      refine sX9_chosen_40 (d := d) M _ _ l2 (0 : Int32) ?_
      refine zpos (show (0 : Int32) = 0 from by decide) ?_
      refine ⟨b12585, h12585, ?_⟩
      refine sX10_isWord_0 (d := d) M b12585 (4 : Int32) ?_
      refine zite k (fun h12589 k => ?_) (fun h12589 k => ?_)
      · refine zite k (fun h12590 k => ?_) (fun h12590 k => ?_)
        · show Z E YX9_chosen (d + 1) M [(0, vr (some (a0, 8, 0))), (1, vr (some (a1, 44, 0))), (2, vi l2)] 51 [vi (1 : Int32)] Q
          refine sX9_chosen_51 (d := d) M _ _ l2 (1 : Int32) ?_
          refine zneg (show ¬ ((1 : Int32) = 0) from by decide) ?_
          refine zite k (fun h12591 k => ?_) (fun h12591 k => ?_)
          · refine ⟨b12585, h12585, ?_⟩
            exact k
          · refine ⟨b12585, h12585, ?_⟩
            exact k
        · show Z E YX9_chosen (d + 1) M [(0, vr (some (a0, 8, 0))), (1, vr (some (a1, 44, 0))), (2, vi l2)] 51 [vi (0 : Int32)] Q
          refine sX9_chosen_51 (d := d) M _ _ l2 (0 : Int32) ?_
          refine zpos (show (0 : Int32) = 0 from by decide) ?_
          refine ⟨b12585, h12585, ?_⟩
          exact k
      · show Z E YX9_chosen (d + 1) M [(0, vr (some (a0, 8, 0))), (1, vr (some (a1, 44, 0))), (2, vi l2)] 51 [vi (0 : Int32)] Q
        refine sX9_chosen_51 (d := d) M _ _ l2 (0 : Int32) ?_
        refine zpos (show (0 : Int32) = 0 from by decide) ?_
        refine ⟨b12585, h12585, ?_⟩
        exact k
  · show Z E YX9_chosen (d + 1) M [(0, vr (some (a0, 8, 0))), (1, vr (some (a1, 44, 0))), (2, vi l2)] 40 [vi (0 : Int32)] Q
    refine sX9_chosen_40 (d := d) M _ _ l2 (0 : Int32) ?_
    refine zpos (show (0 : Int32) = 0 from by decide) ?_
    refine ⟨b12585, h12585, ?_⟩
    refine sX10_isWord_0 (d := d) M b12585 (4 : Int32) ?_
    refine zite k (fun h12592 k => ?_) (fun h12592 k => ?_)
    · refine zite k (fun h12593 k => ?_) (fun h12593 k => ?_)
      · show Z E YX9_chosen (d + 1) M [(0, vr (some (a0, 8, 0))), (1, vr (some (a1, 44, 0))), (2, vi l2)] 51 [vi (1 : Int32)] Q
        refine sX9_chosen_51 (d := d) M _ _ l2 (1 : Int32) ?_
        refine zneg (show ¬ ((1 : Int32) = 0) from by decide) ?_
        refine zite k (fun h12594 k => ?_) (fun h12594 k => ?_)
        · refine ⟨b12585, h12585, ?_⟩
          exact k
        · refine ⟨b12585, h12585, ?_⟩
          exact k
      · show Z E YX9_chosen (d + 1) M [(0, vr (some (a0, 8, 0))), (1, vr (some (a1, 44, 0))), (2, vi l2)] 51 [vi (0 : Int32)] Q
        refine sX9_chosen_51 (d := d) M _ _ l2 (0 : Int32) ?_
        refine zpos (show (0 : Int32) = 0 from by decide) ?_
        refine ⟨b12585, h12585, ?_⟩
        exact k
    · show Z E YX9_chosen (d + 1) M [(0, vr (some (a0, 8, 0))), (1, vr (some (a1, 44, 0))), (2, vi l2)] 51 [vi (0 : Int32)] Q
      refine sX9_chosen_51 (d := d) M _ _ l2 (0 : Int32) ?_
      refine zpos (show (0 : Int32) = 0 from by decide) ?_
      refine ⟨b12585, h12585, ?_⟩
      exact k
theorem iX9_chosen_108 {E : zE} {d : Nat} {Q : zO → zM → Prop} (M : zM) (a0 : Nat) (a1 : Nat) (l2 : Int32) (r3 : Option zP) (k : 16 ≤ (zsz (zn M 1)) ∧ (16 ≤ (zsz M) ∧ (Z E YX9_chosen ((d + 4) + 1) (sr (sr (si (zn (zn M 1) 3) (zsz (zn M 1)) 0 (0 : Int32)) (zsz (zn M 1)) 1 (some (1, 110, 0))) (zsz M) 0 (some ((zsz (zn M 1)), 11, 0))) [(0, vr (some (a0, 8, 0))), (1, vr (some (a1, 44, 0))), (2, vi l2), (3, vr r3), (4, vr (some ((zsz M), 20, 0)))] 117 [] Q))) : Z E YX9_chosen (d + 5) M [(0, vr (some (a0, 8, 0))), (1, vr (some (a1, 44, 0))), (2, vi l2), (3, vr r3)] 108 [] Q := by
  refine sX9_chosen_108 (d := (d + 4)) M a0 a1 l2 r3 ?_
  refine sX9_chosen_111 (d := (d + 4)) (zn M 1) _ _ l2 r3 (zsz M) ?_
  refine jX14_init (d := d) (zn M 1) (zsz M) ?_
  refine zand k (fun h12599 k => ?_)
  refine zand k (fun h12600 k => ?_)
  show Z E YX9_chosen ((d + 4) + 1) (sr (sr (si (zn (zn M 1) 3) (zsz (zn M 1)) 0 (0 : Int32)) (zsz (zn M 1)) 1 (some (1, 110, 0))) (zsz M) 0 (some ((zsz (zn M 1)), 11, 0))) [(0, vr (some (a0, 8, 0))), (1, vr (some (a1, 44, 0))), (2, vi l2), (3, vr r3)] 115 [vr (some ((zsz M), 20, 0))] Q
  refine sX9_chosen_115 (d := (d + 4)) (sr (sr (si (zn (zn M 1) 3) (zsz (zn M 1)) 0 (0 : Int32)) (zsz (zn M 1)) 1 (some (1, 110, 0))) (zsz M) 0 (some ((zsz (zn M 1)), 11, 0))) _ _ l2 r3 (zsz M) ?_
  exact k
theorem iX9_chosen_117 {E : zE} {d : Nat} {Q : zO → zM → Prop} (M : zM) (a0 : Nat) (a1 : Nat) (l2 : Int32) (r3 : Option zP) (a4 : Nat) (k : ∃ b12602 : Nat, (gr M a0 1) = some (b12602, 9, 0) ∧ (if (gi M b12602 3) = (5 : Int32) then (if (gi M b12602 6) = (1 : Int32) then (∃ b12605 : Nat, (gr M a1 1) = some (b12605, 11, 0) ∧ (Z E YJ2_add d M (zargs 0 [vr (some (b12605, 11, 0)), vr r3]) 0 [] (zafter E YX9_chosen (d + 1) [(0, vr (some (a0, 8, 0))), (1, vr (some (a1, 44, 0))), (2, vi l2), (4, vr (some (a4, 20, 0)))] 171 3 [] Q))) else (if (gi M b12602 3) = (2 : Int32) then (if (gi M b12602 6) = (4 : Int32) then (∃ b12608 : Nat, (gr M a1 1) = some (b12608, 11, 0) ∧ (Z E YJ2_add d M (zargs 0 [vr (some (b12608, 11, 0)), vr r3]) 0 [] (zafter E YX9_chosen (d + 1) [(0, vr (some (a0, 8, 0))), (1, vr (some (a1, 44, 0))), (2, vi l2), (4, vr (some (a4, 20, 0)))] 171 3 [] Q))) else (Z E YX9_statement d M (zargs 0 [vr (some (a0, 8, 0))]) 0 [] (zafter E YX9_chosen (d + 1) [(0, vr (some (a0, 8, 0))), (1, vr (some (a1, 44, 0))), (2, vi l2), (3, vr r3), (4, vr (some (a4, 20, 0)))] 156 3 [vr (gr M a4 0)] Q))) else (Z E YX9_statement d M (zargs 0 [vr (some (a0, 8, 0))]) 0 [] (zafter E YX9_chosen (d + 1) [(0, vr (some (a0, 8, 0))), (1, vr (some (a1, 44, 0))), (2, vi l2), (3, vr r3), (4, vr (some (a4, 20, 0)))] 156 3 [vr (gr M a4 0)] Q)))) else (if (gi M b12602 3) = (2 : Int32) then (if (gi M b12602 6) = (1 : Int32) then (∃ b12611 : Nat, (gr M a1 1) = some (b12611, 11, 0) ∧ (Z E YJ2_add d M (zargs 0 [vr (some (b12611, 11, 0)), vr r3]) 0 [] (zafter E YX9_chosen (d + 1) [(0, vr (some (a0, 8, 0))), (1, vr (some (a1, 44, 0))), (2, vi l2), (4, vr (some (a4, 20, 0)))] 171 3 [] Q))) else (if (gi M b12602 6) = (4 : Int32) then (∃ b12613 : Nat, (gr M a1 1) = some (b12613, 11, 0) ∧ (Z E YJ2_add d M (zargs 0 [vr (some (b12613, 11, 0)), vr r3]) 0 [] (zafter E YX9_chosen (d + 1) [(0, vr (some (a0, 8, 0))), (1, vr (some (a1, 44, 0))), (2, vi l2), (4, vr (some (a4, 20, 0)))] 171 3 [] Q))) else (Z E YX9_statement d M (zargs 0 [vr (some (a0, 8, 0))]) 0 [] (zafter E YX9_chosen (d + 1) [(0, vr (some (a0, 8, 0))), (1, vr (some (a1, 44, 0))), (2, vi l2), (3, vr r3), (4, vr (some (a4, 20, 0)))] 156 3 [vr (gr M a4 0)] Q)))) else (Z E YX9_statement d M (zargs 0 [vr (some (a0, 8, 0))]) 0 [] (zafter E YX9_chosen (d + 1) [(0, vr (some (a0, 8, 0))), (1, vr (some (a1, 44, 0))), (2, vi l2), (3, vr r3), (4, vr (some (a4, 20, 0)))] 156 3 [vr (gr M a4 0)] Q))))) : Z E YX9_chosen (d + 1) M [(0, vr (some (a0, 8, 0))), (1, vr (some (a1, 44, 0))), (2, vi l2), (3, vr r3), (4, vr (some (a4, 20, 0)))] 117 [] Q := by
  refine sX9_chosen_117 (d := d) M a0 a1 l2 r3 a4 ?_
  obtain ⟨b12602, h12602, k⟩ := k
  refine ⟨b12602, h12602, ?_⟩
  refine sX10_is_0 (d := d) M b12602 (1 : Int32) ?_
  refine zite k (fun h12603 k => ?_) (fun h12603 k => ?_)
  · refine zite k (fun h12604 k => ?_) (fun h12604 k => ?_)
    · show Z E YX9_chosen (d + 1) M [(0, vr (some (a0, 8, 0))), (1, vr (some (a1, 44, 0))), (2, vi l2), (3, vr r3), (4, vr (some (a4, 20, 0)))] 125 [vi (1 : Int32)] Q
      refine sX9_chosen_125 (d := d) M _ _ l2 r3 _ (1 : Int32) ?_
      refine zneg (show ¬ ((1 : Int32) = 0) from by decide) ?_
      exact k
    · show Z E YX9_chosen (d + 1) M [(0, vr (some (a0, 8, 0))), (1, vr (some (a1, 44, 0))), (2, vi l2), (3, vr r3), (4, vr (some (a4, 20, 0)))] 125 [vi (0 : Int32)] Q
      refine sX9_chosen_125 (d := d) M _ _ l2 r3 _ (0 : Int32) ?_
      refine zpos (show (0 : Int32) = 0 from by decide) ?_
      refine ⟨b12602, h12602, ?_⟩
      refine sX10_isWord_0 (d := d) M b12602 (1 : Int32) ?_
      refine zite k (fun h12606 k => ?_) (fun h12606 k => ?_)
      · refine zneg h12604 ?_
        show Z E YX9_chosen (d + 1) M [(0, vr (some (a0, 8, 0))), (1, vr (some (a1, 44, 0))), (2, vi l2), (3, vr r3), (4, vr (some (a4, 20, 0)))] 136 [vi (0 : Int32)] Q
        refine sX9_chosen_136 (d := d) M _ _ l2 r3 _ (0 : Int32) ?_
        refine zpos (show (0 : Int32) = 0 from by decide) ?_
        refine ⟨b12602, h12602, ?_⟩
        refine sX10_isWord_0 (d := d) M b12602 (4 : Int32) ?_
        refine zpos h12606 ?_
        refine zite k (fun h12607 k => ?_) (fun h12607 k => ?_)
        · show Z E YX9_chosen (d + 1) M [(0, vr (some (a0, 8, 0))), (1, vr (some (a1, 44, 0))), (2, vi l2), (3, vr r3), (4, vr (some (a4, 20, 0)))] 147 [vi (1 : Int32)] Q
          refine sX9_chosen_147 (d := d) M _ _ l2 r3 _ (1 : Int32) ?_
          refine zneg (show ¬ ((1 : Int32) = 0) from by decide) ?_
          exact k
        · show Z E YX9_chosen (d + 1) M [(0, vr (some (a0, 8, 0))), (1, vr (some (a1, 44, 0))), (2, vi l2), (3, vr r3), (4, vr (some (a4, 20, 0)))] 147 [vi (0 : Int32)] Q
          refine sX9_chosen_147 (d := d) M _ _ l2 r3 _ (0 : Int32) ?_
          refine zpos (show (0 : Int32) = 0 from by decide) ?_
          exact k
      · show Z E YX9_chosen (d + 1) M [(0, vr (some (a0, 8, 0))), (1, vr (some (a1, 44, 0))), (2, vi l2), (3, vr r3), (4, vr (some (a4, 20, 0)))] 136 [vi (0 : Int32)] Q
        refine sX9_chosen_136 (d := d) M _ _ l2 r3 _ (0 : Int32) ?_
        refine zpos (show (0 : Int32) = 0 from by decide) ?_
        refine ⟨b12602, h12602, ?_⟩
        refine sX10_isWord_0 (d := d) M b12602 (4 : Int32) ?_
        refine zneg h12606 ?_
        show Z E YX9_chosen (d + 1) M [(0, vr (some (a0, 8, 0))), (1, vr (some (a1, 44, 0))), (2, vi l2), (3, vr r3), (4, vr (some (a4, 20, 0)))] 147 [vi (0 : Int32)] Q
        refine sX9_chosen_147 (d := d) M _ _ l2 r3 _ (0 : Int32) ?_
        refine zpos (show (0 : Int32) = 0 from by decide) ?_
        exact k
  · show Z E YX9_chosen (d + 1) M [(0, vr (some (a0, 8, 0))), (1, vr (some (a1, 44, 0))), (2, vi l2), (3, vr r3), (4, vr (some (a4, 20, 0)))] 125 [vi (0 : Int32)] Q
    refine sX9_chosen_125 (d := d) M _ _ l2 r3 _ (0 : Int32) ?_
    refine zpos (show (0 : Int32) = 0 from by decide) ?_
    refine ⟨b12602, h12602, ?_⟩
    refine sX10_isWord_0 (d := d) M b12602 (1 : Int32) ?_
    refine zite k (fun h12609 k => ?_) (fun h12609 k => ?_)
    · refine zite k (fun h12610 k => ?_) (fun h12610 k => ?_)
      · show Z E YX9_chosen (d + 1) M [(0, vr (some (a0, 8, 0))), (1, vr (some (a1, 44, 0))), (2, vi l2), (3, vr r3), (4, vr (some (a4, 20, 0)))] 136 [vi (1 : Int32)] Q
        refine sX9_chosen_136 (d := d) M _ _ l2 r3 _ (1 : Int32) ?_
        refine zneg (show ¬ ((1 : Int32) = 0) from by decide) ?_
        exact k
      · show Z E YX9_chosen (d + 1) M [(0, vr (some (a0, 8, 0))), (1, vr (some (a1, 44, 0))), (2, vi l2), (3, vr r3), (4, vr (some (a4, 20, 0)))] 136 [vi (0 : Int32)] Q
        refine sX9_chosen_136 (d := d) M _ _ l2 r3 _ (0 : Int32) ?_
        refine zpos (show (0 : Int32) = 0 from by decide) ?_
        refine ⟨b12602, h12602, ?_⟩
        refine sX10_isWord_0 (d := d) M b12602 (4 : Int32) ?_
        refine zpos h12609 ?_
        refine zite k (fun h12612 k => ?_) (fun h12612 k => ?_)
        · show Z E YX9_chosen (d + 1) M [(0, vr (some (a0, 8, 0))), (1, vr (some (a1, 44, 0))), (2, vi l2), (3, vr r3), (4, vr (some (a4, 20, 0)))] 147 [vi (1 : Int32)] Q
          refine sX9_chosen_147 (d := d) M _ _ l2 r3 _ (1 : Int32) ?_
          refine zneg (show ¬ ((1 : Int32) = 0) from by decide) ?_
          exact k
        · show Z E YX9_chosen (d + 1) M [(0, vr (some (a0, 8, 0))), (1, vr (some (a1, 44, 0))), (2, vi l2), (3, vr r3), (4, vr (some (a4, 20, 0)))] 147 [vi (0 : Int32)] Q
          refine sX9_chosen_147 (d := d) M _ _ l2 r3 _ (0 : Int32) ?_
          refine zpos (show (0 : Int32) = 0 from by decide) ?_
          exact k
    · show Z E YX9_chosen (d + 1) M [(0, vr (some (a0, 8, 0))), (1, vr (some (a1, 44, 0))), (2, vi l2), (3, vr r3), (4, vr (some (a4, 20, 0)))] 136 [vi (0 : Int32)] Q
      refine sX9_chosen_136 (d := d) M _ _ l2 r3 _ (0 : Int32) ?_
      refine zpos (show (0 : Int32) = 0 from by decide) ?_
      refine ⟨b12602, h12602, ?_⟩
      refine sX10_isWord_0 (d := d) M b12602 (4 : Int32) ?_
      refine zneg h12609 ?_
      show Z E YX9_chosen (d + 1) M [(0, vr (some (a0, 8, 0))), (1, vr (some (a1, 44, 0))), (2, vi l2), (3, vr r3), (4, vr (some (a4, 20, 0)))] 147 [vi (0 : Int32)] Q
      refine sX9_chosen_147 (d := d) M _ _ l2 r3 _ (0 : Int32) ?_
      refine zpos (show (0 : Int32) = 0 from by decide) ?_
      exact k
theorem jX34_init {E : zE} {d : Nat} {Q : zO → zM → Prop} (M : zM) (a0 : Nat) (l1 : Int32) (r2 : Option zP) (r3 : Option zP) (k : 16 ≤ a0 ∧ (Q (.inl none) (sr (sr (si M a0 0 l1) a0 1 r2) a0 2 r3))) : Z E YX34_init (d + 2) M [(0, vr (some (a0, 39, 0))), (1, vi l1), (2, vr r2), (3, vr r3)] 0 [] Q := by
  refine sX34_init_0 (d := (d + 1)) M a0 l1 r2 r3 ?_
  refine sX13_init_0 (d := d) M _ 39 ?_
  show Z E YX34_init ((d + 1) + 1) M [(0, vr (some (a0, 39, 0))), (1, vi l1), (2, vr r2), (3, vr r3)] 4 [] Q
  refine sX34_init_4 (d := (d + 1)) M _ l1 r2 r3 ?_
  refine zand k (fun h12618 k => ?_)
  refine ⟨h12618, ?_⟩
  refine ⟨h12618, ?_⟩
  exact k
theorem iX9_each_21 {E : zE} {d : Nat} {Q : zO → zM → Prop} (M : zM) (a0 : Nat) (l1 : Int32) (r2 : Option zP) (k : Z E YX9_looped d (zn M 3) (zargs 0 [vr (some (a0, 8, 0))]) 0 [] (zafter E YX9_each (d + 1) [] 28 3 [vr r2, vi l1, vr (some ((zsz M), 39, 0)), vr (some ((zsz M), 39, 0))] Q)) : Z E YX9_each (d + 1) M [(0, vr (some (a0, 8, 0))), (1, vi l1), (2, vr r2)] 21 [] Q := by
  refine sX9_each_21 (d := d) M a0 l1 r2 ?_
  refine sX9_each_24 (d := d) (zn M 3) _ l1 r2 (zsz M) ?_
  exact k
theorem iX9_each_31 {E : zE} {d : Nat} {Q : zO → zM → Prop} (M : zM) (u0 : Option zP) (u1 : Option zP) (s2 : Int32) (p3 : Nat) (p4 : Nat) (k : 16 ≤ p3 ∧ (Q (.inl (some (vr (some (p4, 39, 0))))) (sr (sr (si M p3 0 s2) p3 1 u1) p3 2 u0))) : Z E YX9_each (d + 3) M [] 31 [vr u0, vr u1, vi s2, vr (some (p3, 39, 0)), vr (some (p4, 39, 0))] Q := by
  refine sX9_each_31 (d := (d + 2)) M u0 u1 s2 p3 p4 ?_
  refine jX34_init (d := d) M p3 s2 u1 u0 ?_
  refine zand k (fun h12619 k => ?_)
  show Z E YX9_each ((d + 2) + 1) (sr (sr (si M p3 0 s2) p3 1 u1) p3 2 u0) [] 34 [vr (some (p4, 39, 0))] Q
  refine sX9_each_34 (d := (d + 2)) (sr (sr (si M p3 0 s2) p3 1 u1) p3 2 u0) p4 ?_
  exact k
theorem jX22_init {E : zE} {d : Nat} {Q : zO → zM → Prop} (M : zM) (a0 : Nat) (k : 16 ≤ (zsz M) ∧ (16 ≤ a0 ∧ (Q (.inl none) (sr (sr (si (zn M 3) (zsz M) 0 (0 : Int32)) (zsz M) 1 (some (1, 110, 0))) a0 0 (some ((zsz M), 11, 0)))))) : Z E YX22_init (d + 4) M [(0, vr (some (a0, 28, 0)))] 0 [] Q := by
  refine sX22_init_0 (d := (d + 3)) M a0 ?_
  refine sX13_init_0 (d := (d + 2)) M _ 28 ?_
  show Z E YX22_init ((d + 3) + 1) M [(0, vr (some (a0, 28, 0)))] 4 [] Q
  refine sX22_init_4 (d := (d + 3)) M _ ?_
  refine sX22_init_8 (d := (d + 3)) (zn M 3) (zsz M) _ ?_
  refine jJ2_init (d := d) (zn M 3) (zsz M) ?_
  refine zand k (fun h12623 k => ?_)
  show Z E YX22_init ((d + 3) + 1) (sr (si (zn M 3) (zsz M) 0 (0 : Int32)) (zsz M) 1 (some (1, 110, 0))) [] 12 [vr (some ((zsz M), 11, 0)), vr (some (a0, 28, 0))] Q
  refine sX22_init_12 (d := (d + 3)) (sr (si (zn M 3) (zsz M) 0 (0 : Int32)) (zsz M) 1 (some (1, 110, 0))) (zsz M) _ ?_
  exact k
theorem iX9_expression_5 {E : zE} {d : Nat} {Q : zO → zM → Prop} (M : zM) (a0 : Nat) (l1 : Int32) (u0 : Option zP) (k : ∃ b12625 : Nat, (gr M a0 1) = some (b12625, 9, 0) ∧ (if (gi M b12625 3) = (5 : Int32) then (if (gi M b12625 6) = (8 : Int32) then (16 ≤ (zsz (zn M 1)) ∧ (16 ≤ (zsz M) ∧ (∃ b12630 : Nat, (gr (sr (sr (si (zn (zn M 1) 3) (zsz (zn M 1)) 0 (0 : Int32)) (zsz (zn M 1)) 1 (some (1, 110, 0))) (zsz M) 0 (some ((zsz (zn M 1)), 11, 0))) (zsz M) 0) = some (b12630, 11, 0) ∧ (Z E YJ2_add (d + 4) (sr (sr (si (zn (zn M 1) 3) (zsz (zn M 1)) 0 (0 : Int32)) (zsz (zn M 1)) 1 (some (1, 110, 0))) (zsz M) 0 (some ((zsz (zn M 1)), 11, 0))) (zargs 0 [vr (some (b12630, 11, 0)), vr u0]) 0 [] (zafter E YX9_expression ((d + 4) + 1) [(0, vr (some (a0, 8, 0))), (1, vi l1), (3, vr (some ((zsz M), 28, 0)))] 33 3 [] Q))))) else (Q (.inl (some (vr u0))) M)) else (Q (.inl (some (vr u0))) M))) : Z E YX9_expression (d + 5) M [(0, vr (some (a0, 8, 0))), (1, vi l1)] 5 [vr u0] Q := by
  refine sX9_expression_5 (d := (d + 4)) M a0 l1 u0 ?_
  obtain ⟨b12625, h12625, k⟩ := k
  refine ⟨b12625, h12625, ?_⟩
  refine sX10_is_0 (d := (d + 4)) M b12625 (8 : Int32) ?_
  refine zite k (fun h12626 k => ?_) (fun h12626 k => ?_)
  · refine zite k (fun h12627 k => ?_) (fun h12627 k => ?_)
    · show Z E YX9_expression ((d + 4) + 1) M [(0, vr (some (a0, 8, 0))), (1, vi l1), (2, vr u0)] 15 [vi (1 : Int32)] Q
      refine sX9_expression_15 (d := (d + 4)) M _ l1 u0 (1 : Int32) ?_
      refine zneg (show ¬ ((1 : Int32) = 0) from by decide) ?_
      refine sX9_expression_23 (d := (d + 4)) (zn M 1) _ l1 u0 (zsz M) ?_
      refine jX22_init (d := d) (zn M 1) (zsz M) ?_
      refine zand k (fun h12628 k => ?_)
      refine zand k (fun h12629 k => ?_)
      show Z E YX9_expression ((d + 4) + 1) (sr (sr (si (zn (zn M 1) 3) (zsz (zn M 1)) 0 (0 : Int32)) (zsz (zn M 1)) 1 (some (1, 110, 0))) (zsz M) 0 (some ((zsz (zn M 1)), 11, 0))) [(0, vr (some (a0, 8, 0))), (1, vi l1), (2, vr u0)] 27 [vr (some ((zsz M), 28, 0))] Q
      refine sX9_expression_27 (d := (d + 4)) (sr (sr (si (zn (zn M 1) 3) (zsz (zn M 1)) 0 (0 : Int32)) (zsz (zn M 1)) 1 (some (1, 110, 0))) (zsz M) 0 (some ((zsz (zn M 1)), 11, 0))) _ l1 u0 (zsz M) ?_
      exact k
    · show Z E YX9_expression ((d + 4) + 1) M [(0, vr (some (a0, 8, 0))), (1, vi l1), (2, vr u0)] 15 [vi (0 : Int32)] Q
      refine sX9_expression_15 (d := (d + 4)) M _ l1 u0 (0 : Int32) ?_
      refine zpos (show (0 : Int32) = 0 from by decide) ?_
      exact k
  · show Z E YX9_expression ((d + 4) + 1) M [(0, vr (some (a0, 8, 0))), (1, vi l1), (2, vr u0)] 15 [vi (0 : Int32)] Q
    refine sX9_expression_15 (d := (d + 4)) M _ l1 u0 (0 : Int32) ?_
    refine zpos (show (0 : Int32) = 0 from by decide) ?_
    exact k
theorem iX9_inside_0 {E : zE} {d : Nat} {Q : zO → zM → Prop} (M : zM) (a0 : Nat) (r1 : Option zP) (k : 16 ≤ a0 ∧ (∃ b12637 : Nat, (gr (sr (si (si M a0 5 (0 : Int32)) a0 6 (0 : Int32)) a0 3 r1) a0 1) = some (b12637, 9, 0) ∧ (Z E YX10_need d (sr (si (si M a0 5 (0 : Int32)) a0 6 (0 : Int32)) a0 3 r1) (zargs 0 [vr (some (b12637, 9, 0)), vi (2 : Int32)]) 0 [] (zafter E YX9_inside (d + 1) [(0, vr (some (a0, 8, 0))), (1, vr r1), (2, vi (gi M a0 5)), (3, vi (gi M a0 6))] 30 3 [] Q)))) : Z E YX9_inside (d + 1) M [(0, vr (some (a0, 8, 0))), (1, vr r1)] 0 [] Q := by
  refine sX9_inside_0 (d := d) M a0 r1 ?_
  refine zand k (fun h12636 k => ?_)
  refine ⟨h12636, ?_⟩
  refine ⟨h12636, ?_⟩
  exact k
theorem iX9_inside_33 {E : zE} {d : Nat} {Q : zO → zM → Prop} (M : zM) (a0 : Nat) (r1 : Option zP) (l2 : Int32) (l3 : Int32) (k : ∃ b12638 : Nat, (gr M a0 1) = some (b12638, 9, 0) ∧ (if (gi M b12638 3) = (5 : Int32) then (if (gi M b12638 6) = (3 : Int32) then (Z E YX10_next d M (zargs 0 [vr (some (b12638, 9, 0))]) 0 [] (zafter E YX9_inside (d + 1) [(0, vr (some (a0, 8, 0))), (1, vr r1), (2, vi l2), (3, vi l3)] 170 3 [] Q)) else (if (gi M b12638 3) = (1 : Int32) then (∃ b12642 : Nat, r1 = some (b12642, 10, 0) ∧ (Z E YX11_has d M (zargs 0 [vr (some (b12642, 10, 0)), vi (gi M b12638 6)]) 0 [] (zafter E YX9_inside (d + 1) [(0, vr (some (a0, 8, 0))), (1, vr (some (b12642, 10, 0))), (2, vi l2), (3, vi l3)] 72 3 [] Q))) else (Z E YX10_fault d M (zargs 0 [vr (some (b12638, 9, 0)), vi (2 : Int32)]) 0 [] (zafter E YX9_inside (d + 1) [] 60 3 [] Q)))) else (if (gi M b12638 3) = (1 : Int32) then (∃ b12644 : Nat, r1 = some (b12644, 10, 0) ∧ (Z E YX11_has d M (zargs 0 [vr (some (b12644, 10, 0)), vi (gi M b12638 6)]) 0 [] (zafter E YX9_inside (d + 1) [(0, vr (some (a0, 8, 0))), (1, vr (some (b12644, 10, 0))), (2, vi l2), (3, vi l3)] 72 3 [] Q))) else (Z E YX10_fault d M (zargs 0 [vr (some (b12638, 9, 0)), vi (2 : Int32)]) 0 [] (zafter E YX9_inside (d + 1) [] 60 3 [] Q))))) : Z E YX9_inside (d + 1) M [(0, vr (some (a0, 8, 0))), (1, vr r1), (2, vi l2), (3, vi l3)] 33 [] Q := by
  refine sX9_inside_33 (d := d) M a0 r1 l2 l3 ?_
  obtain ⟨b12638, h12638, k⟩ := k
  refine ⟨b12638, h12638, ?_⟩
  refine sX10_is_0 (d := d) M b12638 (3 : Int32) ?_
  refine zite k (fun h12639 k => ?_) (fun h12639 k => ?_)
  · refine zite k (fun h12640 k => ?_) (fun h12640 k => ?_)
    · show Z E YX9_inside (d + 1) M [(0, vr (some (a0, 8, 0))), (1, vr r1), (2, vi l2), (3, vi l3)] 41 [vi (1 : Int32)] Q
      refine sX9_inside_41 (d := d) M _ r1 l2 l3 (1 : Int32) ?_
      refine zneg (show ¬ ((1 : Int32) = 0) from by decide) ?_
      refine ⟨b12638, h12638, ?_⟩
      exact k
    · show Z E YX9_inside (d + 1) M [(0, vr (some (a0, 8, 0))), (1, vr r1), (2, vi l2), (3, vi l3)] 41 [vi (0 : Int32)] Q
      refine sX9_inside_41 (d := d) M _ r1 l2 l3 (0 : Int32) ?_
      refine zpos (show (0 : Int32) = 0 from by decide) ?_
      refine ⟨b12638, h12638, ?_⟩
      refine zite k (fun h12641 k => ?_) (fun h12641 k => ?_)
      · refine ⟨b12638, h12638, ?_⟩
        exact k
      · refine ⟨b12638, h12638, ?_⟩
        exact k
  · show Z E YX9_inside (d + 1) M [(0, vr (some (a0, 8, 0))), (1, vr r1), (2, vi l2), (3, vi l3)] 41 [vi (0 : Int32)] Q
    refine sX9_inside_41 (d := d) M _ r1 l2 l3 (0 : Int32) ?_
    refine zpos (show (0 : Int32) = 0 from by decide) ?_
    refine ⟨b12638, h12638, ?_⟩
    refine zite k (fun h12643 k => ?_) (fun h12643 k => ?_)
    · refine ⟨b12638, h12638, ?_⟩
      exact k
    · refine ⟨b12638, h12638, ?_⟩
      exact k
theorem iX9_inside_173 {E : zE} {d : Nat} {Q : zO → zM → Prop} (M : zM) (a0 : Nat) (r1 : Option zP) (l2 : Int32) (l3 : Int32) (k : ∃ b12645 : Nat, r1 = some (b12645, 10, 0) ∧ (if (gi M b12645 8) = (-1 : Int32) then (∃ b12647 : Nat, (gr M a0 1) = some (b12647, 9, 0) ∧ (Z E YX10_need d M (zargs 0 [vr (some (b12647, 9, 0)), vi (0 : Int32)]) 0 [] (zafter E YX9_inside (d + 1) [(0, vr (some (a0, 8, 0))), (1, vr (some (b12645, 10, 0))), (2, vi l2), (3, vi l3)] 194 3 [] Q))) else (Z E YX11_add d M (zargs 0 [vr (some (b12645, 10, 0)), vi (gi M b12645 8)]) 0 [] (zafter E YX9_inside (d + 1) [(0, vr (some (a0, 8, 0))), (1, vr (some (b12645, 10, 0))), (2, vi l2), (3, vi l3)] 186 3 [] Q)))) : Z E YX9_inside (d + 1) M [(0, vr (some (a0, 8, 0))), (1, vr r1), (2, vi l2), (3, vi l3)] 173 [] Q := by
  refine sX9_inside_173 (d := d) M a0 r1 l2 l3 ?_
  obtain ⟨b12645, h12645, k⟩ := k
  refine ⟨b12645, h12645, ?_⟩
  refine zite k (fun h12646 k => ?_) (fun h12646 k => ?_)
  · refine sX9_inside_189 (d := d) M _ b12645 l2 l3 ?_
    exact k
  · exact k
theorem iX9_inside_197 {E : zE} {d : Nat} {Q : zO → zM → Prop} (M : zM) (a0 : Nat) (a1 : Nat) (l2 : Int32) (l3 : Int32) (k : ∃ b12652 : Nat, (gr M a0 1) = some (b12652, 9, 0) ∧ (if (gi M b12652 3) = (5 : Int32) then (if (gi M b12652 6) = (1 : Int32) then (16 ≤ a0 ∧ (∃ b12656 : Nat, (gr (sr M a0 3 (gr M a1 1)) a0 1) = some (b12656, 9, 0) ∧ (Z E YX10_next d (si (si (sr M a0 3 (gr M a1 1)) a0 5 l2) a0 6 l3) (zargs 0 [vr (some (b12656, 9, 0))]) 0 [] (zafter E YX9_inside (d + 1) [] 256 3 [] Q)))) else (if (gi M b12652 3) = 0 then (Z E YX10_fault d M (zargs 0 [vr (some (b12652, 9, 0)), vi (2 : Int32)]) 0 [] (zafter E YX9_inside (d + 1) [] 223 3 [] Q)) else (Z E YX9_part d M (zargs 0 [vr (some (a0, 8, 0))]) 0 [] (zafter E YX9_inside (d + 1) [(0, vr (some (a0, 8, 0))), (1, vr (some (a1, 10, 0))), (2, vi l2), (3, vi l3)] 228 3 [] Q)))) else (if (gi M b12652 3) = 0 then (Z E YX10_fault d M (zargs 0 [vr (some (b12652, 9, 0)), vi (2 : Int32)]) 0 [] (zafter E YX9_inside (d + 1) [] 223 3 [] Q)) else (Z E YX9_part d M (zargs 0 [vr (some (a0, 8, 0))]) 0 [] (zafter E YX9_inside (d + 1) [(0, vr (some (a0, 8, 0))), (1, vr (some (a1, 10, 0))), (2, vi l2), (3, vi l3)] 228 3 [] Q))))) : Z E YX9_inside (d + 1) M [(0, vr (some (a0, 8, 0))), (1, vr (some (a1, 10, 0))), (2, vi l2), (3, vi l3)] 197 [] Q := by
  refine sX9_inside_197 (d := d) M a0 a1 l2 l3 ?_
  obtain ⟨b12652, h12652, k⟩ := k
  refine ⟨b12652, h12652, ?_⟩
  refine sX10_is_0 (d := d) M b12652 (1 : Int32) ?_
  refine zite k (fun h12653 k => ?_) (fun h12653 k => ?_)
  · refine zite k (fun h12654 k => ?_) (fun h12654 k => ?_)
    · show Z E YX9_inside (d + 1) M [(0, vr (some (a0, 8, 0))), (1, vr (some (a1, 10, 0))), (2, vi l2), (3, vi l3)] 205 [vi (1 : Int32)] Q
      refine sX9_inside_205 (d := d) M _ _ l2 l3 (1 : Int32) ?_
      refine zneg (show ¬ ((1 : Int32) = 0) from by decide) ?_
      refine zand k (fun h12655 k => ?_)
      refine ⟨h12655, ?_⟩
      refine ⟨h12655, ?_⟩
      exact k
    · show Z E YX9_inside (d + 1) M [(0, vr (some (a0, 8, 0))), (1, vr (some (a1, 10, 0))), (2, vi l2), (3, vi l3)] 205 [vi (0 : Int32)] Q
      refine sX9_inside_205 (d := d) M _ _ l2 l3 (0 : Int32) ?_
      refine zpos (show (0 : Int32) = 0 from by decide) ?_
      refine ⟨b12652, h12652, ?_⟩
      refine zite k (fun h12657 k => ?_) (fun h12657 k => ?_)
      · refine ⟨b12652, h12652, ?_⟩
        exact k
      · exact k
  · show Z E YX9_inside (d + 1) M [(0, vr (some (a0, 8, 0))), (1, vr (some (a1, 10, 0))), (2, vi l2), (3, vi l3)] 205 [vi (0 : Int32)] Q
    refine sX9_inside_205 (d := d) M _ _ l2 l3 (0 : Int32) ?_
    refine zpos (show (0 : Int32) = 0 from by decide) ?_
    refine ⟨b12652, h12652, ?_⟩
    refine zite k (fun h12658 k => ?_) (fun h12658 k => ?_)
    · refine ⟨b12652, h12652, ?_⟩
      exact k
    · exact k
theorem iX9_inside_98 {E : zE} {d : Nat} {Q : zO → zM → Prop} (M : zM) (a0 : Nat) (a1 : Nat) (l2 : Int32) (l3 : Int32) (k : 16 ≤ a1 ∧ (∃ b12663 : Nat, (gr M a0 1) = some (b12663, 9, 0) ∧ (if (gi (si M a1 6 ((gi M a1 6) + (1 : Int32))) b12663 3) = (5 : Int32) then (if (gi (si M a1 6 ((gi M a1 6) + (1 : Int32))) b12663 6) = (3 : Int32) then (Z E YX9_inside (d + 1) (si M a1 6 ((gi M a1 6) + (1 : Int32))) [(0, vr (some (a0, 8, 0))), (1, vr (some (a1, 10, 0))), (2, vi l2), (3, vi l3)] 33 [] Q) else (if (gi (si M a1 6 ((gi M a1 6) + (1 : Int32))) a1 6) = (8 : Int32) then (Z E YX10_fault d (si M a1 6 ((gi M a1 6) + (1 : Int32))) (zargs 0 [vr (some (b12663, 9, 0)), vi (2 : Int32)]) 0 [] (zafter E YX9_inside (d + 1) [] 133 3 [] Q)) else (Z E YX10_need d (si M a1 6 ((gi M a1 6) + (1 : Int32))) (zargs 0 [vr (some (b12663, 9, 0)), vi (8 : Int32)]) 0 [] (zafter E YX9_inside (d + 1) [(0, vr (some (a0, 8, 0))), (1, vr (some (a1, 10, 0))), (2, vi l2), (3, vi l3)] 143 3 [] Q)))) else (if (gi (si M a1 6 ((gi M a1 6) + (1 : Int32))) a1 6) = (8 : Int32) then (Z E YX10_fault d (si M a1 6 ((gi M a1 6) + (1 : Int32))) (zargs 0 [vr (some (b12663, 9, 0)), vi (2 : Int32)]) 0 [] (zafter E YX9_inside (d + 1) [] 133 3 [] Q)) else (Z E YX10_need d (si M a1 6 ((gi M a1 6) + (1 : Int32))) (zargs 0 [vr (some (b12663, 9, 0)), vi (8 : Int32)]) 0 [] (zafter E YX9_inside (d + 1) [(0, vr (some (a0, 8, 0))), (1, vr (some (a1, 10, 0))), (2, vi l2), (3, vi l3)] 143 3 [] Q)))))) : Z E YX9_inside (d + 1) M [(0, vr (some (a0, 8, 0))), (1, vr (some (a1, 10, 0))), (2, vi l2), (3, vi l3)] 98 [] Q := by
  refine sX9_inside_98 (d := d) M a0 a1 l2 l3 ?_
  refine zand k (fun h12662 k => ?_)
  obtain ⟨b12663, h12663, k⟩ := k
  refine ⟨b12663, h12663, ?_⟩
  refine sX10_is_0 (d := d) (si M a1 6 ((gi M a1 6) + (1 : Int32))) b12663 (3 : Int32) ?_
  refine zite k (fun h12664 k => ?_) (fun h12664 k => ?_)
  · refine zite k (fun h12665 k => ?_) (fun h12665 k => ?_)
    · show Z E YX9_inside (d + 1) (si M a1 6 ((gi M a1 6) + (1 : Int32))) [(0, vr (some (a0, 8, 0))), (1, vr (some (a1, 10, 0))), (2, vi l2), (3, vi l3)] 116 [vi (1 : Int32)] Q
      refine sX9_inside_116 (d := d) (si M a1 6 ((gi M a1 6) + (1 : Int32))) _ _ l2 l3 (1 : Int32) ?_
      refine zneg (show ¬ ((1 : Int32) = 0) from by decide) ?_
      exact k
    · show Z E YX9_inside (d + 1) (si M a1 6 ((gi M a1 6) + (1 : Int32))) [(0, vr (some (a0, 8, 0))), (1, vr (some (a1, 10, 0))), (2, vi l2), (3, vi l3)] 116 [vi (0 : Int32)] Q
      refine sX9_inside_116 (d := d) (si M a1 6 ((gi M a1 6) + (1 : Int32))) _ _ l2 l3 (0 : Int32) ?_
      refine zpos (show (0 : Int32) = 0 from by decide) ?_
      refine zite k (fun h12666 k => ?_) (fun h12666 k => ?_)
      · refine ⟨b12663, h12663, ?_⟩
        exact k
      · refine ⟨b12663, h12663, ?_⟩
        exact k
  · show Z E YX9_inside (d + 1) (si M a1 6 ((gi M a1 6) + (1 : Int32))) [(0, vr (some (a0, 8, 0))), (1, vr (some (a1, 10, 0))), (2, vi l2), (3, vi l3)] 116 [vi (0 : Int32)] Q
    refine sX9_inside_116 (d := d) (si M a1 6 ((gi M a1 6) + (1 : Int32))) _ _ l2 l3 (0 : Int32) ?_
    refine zpos (show (0 : Int32) = 0 from by decide) ?_
    refine zite k (fun h12667 k => ?_) (fun h12667 k => ?_)
    · refine ⟨b12663, h12663, ?_⟩
      exact k
    · refine ⟨b12663, h12663, ?_⟩
      exact k
theorem iX9_inside_146 {E : zE} {d : Nat} {Q : zO → zM → Prop} (M : zM) (a0 : Nat) (a1 : Nat) (l2 : Int32) (l3 : Int32) (k : ∃ b12669 : Nat, (gr M a0 1) = some (b12669, 9, 0) ∧ (if (gi M b12669 3) = (1 : Int32) then (Z E YX9_inside (d + 1) M [(0, vr (some (a0, 8, 0))), (1, vr (some (a1, 10, 0))), (2, vi l2), (3, vi l3)] 33 [] Q) else (Z E YX10_fault d M (zargs 0 [vr (some (b12669, 9, 0)), vi (2 : Int32)]) 0 [] (zafter E YX9_inside (d + 1) [] 162 3 [] Q)))) : Z E YX9_inside (d + 1) M [(0, vr (some (a0, 8, 0))), (1, vr (some (a1, 10, 0))), (2, vi l2), (3, vi l3)] 146 [] Q := by
  refine sX9_inside_146 (d := d) M a0 a1 l2 l3 ?_
  obtain ⟨b12669, h12669, k⟩ := k
  refine ⟨b12669, h12669, ?_⟩
  refine zite k (fun h12670 k => ?_) (fun h12670 k => ?_)
  · exact k
  · refine ⟨b12669, h12669, ?_⟩
    exact k
theorem iX9_itemKey_0 {E : zE} {d : Nat} {Q : zO → zM → Prop} (M : zM) (a0 : Nat) (k : ∃ b12672 : Nat, (gr M a0 1) = some (b12672, 9, 0) ∧ (if (gi M b12672 3) = (4 : Int32) then (Z E YX10_next d M (zargs 0 [vr (some (b12672, 9, 0))]) 0 [] (zafter E YX9_itemKey (d + 1) [(1, vi (gi M b12672 6))] 23 3 [] Q)) else (if (gi M b12672 3) = (3 : Int32) then (∃ b12675 : Nat, (gr M a0 0) = some (b12675, 0, 0) ∧ (Z E YX1_clearRow d M (zargs 0 [vr (some (b12675, 0, 0))]) 0 [] (zafter E YX9_itemKey (d + 1) [(0, vr (some (a0, 8, 0)))] 51 3 [] Q))) else (Z E YX10_key d M (zargs 0 [vr (some (b12672, 9, 0))]) 0 [] (zafter E YX9_itemKey (d + 1) [] 43 3 [] Q))))) : Z E YX9_itemKey (d + 1) M [(0, vr (some (a0, 8, 0)))] 0 [] Q := by
  refine sX9_itemKey_0 (d := d) M a0 ?_
  obtain ⟨b12672, h12672, k⟩ := k
  refine ⟨b12672, h12672, ?_⟩
  refine zite k (fun h12673 k => ?_) (fun h12673 k => ?_)
  · refine ⟨b12672, h12672, ?_⟩
    refine ⟨b12672, h12672, ?_⟩
    exact k
  · refine ⟨b12672, h12672, ?_⟩
    refine zite k (fun h12674 k => ?_) (fun h12674 k => ?_)
    · exact k
    · refine ⟨b12672, h12672, ?_⟩
      exact k
theorem iX9_items_0 {E : zE} {d : Nat} {Q : zO → zM → Prop} (M : zM) (a0 : Nat) (l1 : Int32) (k : 16 ≤ (zsz (zn M 3)) ∧ (16 ≤ (zsz M) ∧ (zfit .boolean l1 ∧ (if l1 = 0 then (∃ b12702 : Nat, (gr (sr (zn (si (sr (sr (si (zn (zn M 3) 3) (zsz (zn M 3)) 0 (0 : Int32)) (zsz (zn M 3)) 1 (some (1, 110, 0))) (zsz M) 1 (some ((zsz (zn M 3)), 11, 0))) (zsz M) 0 l1) 16) (zsz M) 2 (some ((zsz (sr (si (zn (zn M 3) 3) (zsz (zn M 3)) 0 (0 : Int32)) (zsz (zn M 3)) 1 (some (1, 110, 0)))), 100, 16))) a0 1) = some (b12702, 9, 0) ∧ (Z E YX10_next (d + 4) (sr (zn (si (sr (sr (si (zn (zn M 3) 3) (zsz (zn M 3)) 0 (0 : Int32)) (zsz (zn M 3)) 1 (some (1, 110, 0))) (zsz M) 1 (some ((zsz (zn M 3)), 11, 0))) (zsz M) 0 l1) 16) (zsz M) 2 (some ((zsz (sr (si (zn (zn M 3) 3) (zsz (zn M 3)) 0 (0 : Int32)) (zsz (zn M 3)) 1 (some (1, 110, 0)))), 100, 16))) (zargs 0 [vr (some (b12702, 9, 0))]) 0 [] (zafter E YX9_items ((d + 4) + 1) [(0, vr (some (a0, 8, 0))), (1, vi l1), (2, vr (some ((zsz M), 29, 0))), (3, vi (1 : Int32))] 23 3 [] Q))) else (∃ b12703 : Nat, (gr (sr (si (sr (sr (si (zn (zn M 3) 3) (zsz (zn M 3)) 0 (0 : Int32)) (zsz (zn M 3)) 1 (some (1, 110, 0))) (zsz M) 1 (some ((zsz (zn M 3)), 11, 0))) (zsz M) 0 l1) (zsz M) 2 none) a0 1) = some (b12703, 9, 0) ∧ (Z E YX10_next (d + 4) (sr (si (sr (sr (si (zn (zn M 3) 3) (zsz (zn M 3)) 0 (0 : Int32)) (zsz (zn M 3)) 1 (some (1, 110, 0))) (zsz M) 1 (some ((zsz (zn M 3)), 11, 0))) (zsz M) 0 l1) (zsz M) 2 none) (zargs 0 [vr (some (b12703, 9, 0))]) 0 [] (zafter E YX9_items ((d + 4) + 1) [(0, vr (some (a0, 8, 0))), (1, vi l1), (2, vr (some ((zsz M), 29, 0))), (3, vi (5 : Int32))] 23 3 [] Q))))))) : Z E YX9_items (d + 5) M [(0, vr (some (a0, 8, 0))), (1, vi l1)] 0 [] Q := by
  refine sX9_items_0 (d := (d + 4)) M a0 l1 ?_
  refine sX9_items_3 (d := (d + 4)) (zn M 3) _ l1 (zsz M) ?_
  refine jX23_init (d := d) (zn M 3) (zsz M) l1 ?_
  refine zand k (fun h12698 k => ?_)
  refine zand k (fun h12699 k => ?_)
  refine zand k (fun h12700 k => ?_)
  refine zite k (fun h12701 k => ?_) (fun h12701 k => ?_)
  · show Z E YX9_items ((d + 4) + 1) (sr (zn (si (sr (sr (si (zn (zn M 3) 3) (zsz (zn M 3)) 0 (0 : Int32)) (zsz (zn M 3)) 1 (some (1, 110, 0))) (zsz M) 1 (some ((zsz (zn M 3)), 11, 0))) (zsz M) 0 l1) 16) (zsz M) 2 (some ((zsz (sr (si (zn (zn M 3) 3) (zsz (zn M 3)) 0 (0 : Int32)) (zsz (zn M 3)) 1 (some (1, 110, 0)))), 100, 16))) [(0, vr (some (a0, 8, 0))), (1, vi l1)] 8 [vr (some ((zsz M), 29, 0))] Q
    refine sX9_items_8 (d := (d + 4)) (sr (zn (si (sr (sr (si (zn (zn M 3) 3) (zsz (zn M 3)) 0 (0 : Int32)) (zsz (zn M 3)) 1 (some (1, 110, 0))) (zsz M) 1 (some ((zsz (zn M 3)), 11, 0))) (zsz M) 0 l1) 16) (zsz M) 2 (some ((zsz (sr (si (zn (zn M 3) 3) (zsz (zn M 3)) 0 (0 : Int32)) (zsz (zn M 3)) 1 (some (1, 110, 0)))), 100, 16))) _ l1 (zsz M) ?_
    refine zpos h12701 ?_
    exact k
  · show Z E YX9_items ((d + 4) + 1) (sr (si (sr (sr (si (zn (zn M 3) 3) (zsz (zn M 3)) 0 (0 : Int32)) (zsz (zn M 3)) 1 (some (1, 110, 0))) (zsz M) 1 (some ((zsz (zn M 3)), 11, 0))) (zsz M) 0 l1) (zsz M) 2 none) [(0, vr (some (a0, 8, 0))), (1, vi l1)] 8 [vr (some ((zsz M), 29, 0))] Q
    refine sX9_items_8 (d := (d + 4)) (sr (si (sr (sr (si (zn (zn M 3) 3) (zsz (zn M 3)) 0 (0 : Int32)) (zsz (zn M 3)) 1 (some (1, 110, 0))) (zsz M) 1 (some ((zsz (zn M 3)), 11, 0))) (zsz M) 0 l1) (zsz M) 2 none) _ l1 (zsz M) ?_
    refine zneg h12701 ?_
    exact k
theorem iX9_items_26 {E : zE} {d : Nat} {Q : zO → zM → Prop} (M : zM) (a0 : Nat) (l1 : Int32) (a2 : Nat) (l3 : Int32) (k : ∃ b12704 : Nat, (gr M a0 1) = some (b12704, 9, 0) ∧ (if (gi M b12704 3) = (5 : Int32) then (if (gi M b12704 6) = l3 then (Z E YX10_next d M (zargs 0 [vr (some (b12704, 9, 0))]) 0 [] (zafter E YX9_items (d + 1) [(2, vr (some (a2, 29, 0)))] 136 3 [] Q)) else (∃ b12707 : Nat, (gr M a2 1) = some (b12707, 11, 0) ∧ (if (gi M b12707 2) ≤ 0 then (if l1 = 0 then (Z E YX9_itemKey d M (zargs 0 [vr (some (a0, 8, 0))]) 0 [] (zafter E YX9_items (d + 1) [(0, vr (some (a0, 8, 0))), (1, vi l1), (2, vr (some (a2, 29, 0))), (3, vi l3)] 103 3 [vi (gi M b12707 2), vr (gr M a2 2)] Q)) else (Z E YX9_assignment d M (zargs 0 [vr (some (a0, 8, 0)), vi (1 : Int32)]) 0 [] (zafter E YX9_items (d + 1) [(0, vr (some (a0, 8, 0))), (1, vi l1), (2, vr (some (a2, 29, 0))), (3, vi l3)] 122 3 [vr (gr M a2 1)] Q))) else (if (gi M b12704 6) = (8 : Int32) then (if (gi M b12707 2) = (16 : Int32) then (Z E YX10_fault d M (zargs 0 [vr (some (b12704, 9, 0)), vi (2 : Int32)]) 0 [] (zafter E YX9_items (d + 1) [] 76 3 [] Q)) else (Z E YX10_next d M (zargs 0 [vr (some (b12704, 9, 0))]) 0 [] (zafter E YX9_items (d + 1) [(0, vr (some (a0, 8, 0))), (1, vi l1), (2, vr (some (a2, 29, 0))), (3, vi l3)] 84 3 [] Q))) else (Z E YX10_fault d M (zargs 0 [vr (some (b12704, 9, 0)), vi (2 : Int32)]) 0 [] (zafter E YX9_items (d + 1) [] 76 3 [] Q)))))) else (∃ b12714 : Nat, (gr M a2 1) = some (b12714, 11, 0) ∧ (if (gi M b12714 2) ≤ 0 then (if l1 = 0 then (Z E YX9_itemKey d M (zargs 0 [vr (some (a0, 8, 0))]) 0 [] (zafter E YX9_items (d + 1) [(0, vr (some (a0, 8, 0))), (1, vi l1), (2, vr (some (a2, 29, 0))), (3, vi l3)] 103 3 [vi (gi M b12714 2), vr (gr M a2 2)] Q)) else (Z E YX9_assignment d M (zargs 0 [vr (some (a0, 8, 0)), vi (1 : Int32)]) 0 [] (zafter E YX9_items (d + 1) [(0, vr (some (a0, 8, 0))), (1, vi l1), (2, vr (some (a2, 29, 0))), (3, vi l3)] 122 3 [vr (gr M a2 1)] Q))) else (Z E YX10_fault d M (zargs 0 [vr (some (b12704, 9, 0)), vi (2 : Int32)]) 0 [] (zafter E YX9_items (d + 1) [] 76 3 [] Q)))))) : Z E YX9_items (d + 1) M [(0, vr (some (a0, 8, 0))), (1, vi l1), (2, vr (some (a2, 29, 0))), (3, vi l3)] 26 [] Q := by
  refine sX9_items_26 (d := d) M a0 l1 a2 l3 ?_
  obtain ⟨b12704, h12704, k⟩ := k
  refine ⟨b12704, h12704, ?_⟩
  refine sX10_is_0 (d := d) M b12704 l3 ?_
  refine zite k (fun h12705 k => ?_) (fun h12705 k => ?_)
  · refine zite k (fun h12706 k => ?_) (fun h12706 k => ?_)
    · show Z E YX9_items (d + 1) M [(0, vr (some (a0, 8, 0))), (1, vi l1), (2, vr (some (a2, 29, 0))), (3, vi l3)] 34 [vi (1 : Int32)] Q
      refine sX9_items_34 (d := d) M _ l1 _ l3 (1 : Int32) ?_
      refine zneg (show ¬ ((1 : Int32) = 0) from by decide) ?_
      refine ⟨b12704, h12704, ?_⟩
      exact k
    · show Z E YX9_items (d + 1) M [(0, vr (some (a0, 8, 0))), (1, vi l1), (2, vr (some (a2, 29, 0))), (3, vi l3)] 34 [vi (0 : Int32)] Q
      refine sX9_items_34 (d := d) M _ l1 _ l3 (0 : Int32) ?_
      refine zpos (show (0 : Int32) = 0 from by decide) ?_
      obtain ⟨b12707, h12707, k⟩ := k
      refine ⟨b12707, h12707, ?_⟩
      refine sJ2_size_0 (d := d) M b12707 ?_
      show Z E YX9_items (d + 1) M [(0, vr (some (a0, 8, 0))), (1, vi l1), (2, vr (some (a2, 29, 0))), (3, vi l3)] 44 [vi (gi M b12707 2)] Q
      refine sX9_items_44 (d := d) M _ l1 _ l3 (gi M b12707 2) ?_
      refine zite k (fun h12708 k => ?_) (fun h12708 k => ?_)
      · refine sX9_items_87 (d := d) M _ l1 _ l3 ?_
        refine zite k (fun h12709 k => ?_) (fun h12709 k => ?_)
        · refine ⟨b12707, h12707, ?_⟩
          refine sJ2_size_0 (d := d) M b12707 ?_
          show Z E YX9_items (d + 1) M [(0, vr (some (a0, 8, 0))), (1, vi l1), (2, vr (some (a2, 29, 0))), (3, vi l3)] 102 [vi (gi M b12707 2), vr (gr M a2 2)] Q
          refine sX9_items_102 (d := d) M _ l1 _ l3 (gi M b12707 2) (gr M a2 2) ?_
          exact k
        · refine sX9_items_116 (d := d) M _ l1 _ l3 ?_
          exact k
      · refine ⟨b12704, h12704, ?_⟩
        refine sX10_is_0 (d := d) M b12704 (8 : Int32) ?_
        refine zpos h12705 ?_
        refine zite k (fun h12712 k => ?_) (fun h12712 k => ?_)
        · show Z E YX9_items (d + 1) M [(0, vr (some (a0, 8, 0))), (1, vi l1), (2, vr (some (a2, 29, 0))), (3, vi l3)] 56 [vi (1 : Int32)] Q
          refine sX9_items_56 (d := d) M _ l1 _ l3 (1 : Int32) ?_
          refine zneg (show ¬ ((1 : Int32) = 0) from by decide) ?_
          refine ⟨b12707, h12707, ?_⟩
          refine sJ2_size_0 (d := d) M b12707 ?_
          show Z E YX9_items (d + 1) M [(0, vr (some (a0, 8, 0))), (1, vi l1), (2, vr (some (a2, 29, 0))), (3, vi l3)] 66 [vi (gi M b12707 2)] Q
          refine sX9_items_66 (d := d) M _ l1 _ l3 (gi M b12707 2) ?_
          refine zite k (fun h12713 k => ?_) (fun h12713 k => ?_)
          · refine ⟨b12704, h12704, ?_⟩
            exact k
          · refine ⟨b12704, h12704, ?_⟩
            exact k
        · show Z E YX9_items (d + 1) M [(0, vr (some (a0, 8, 0))), (1, vi l1), (2, vr (some (a2, 29, 0))), (3, vi l3)] 56 [vi (0 : Int32)] Q
          refine sX9_items_56 (d := d) M _ l1 _ l3 (0 : Int32) ?_
          refine zpos (show (0 : Int32) = 0 from by decide) ?_
          refine ⟨b12704, h12704, ?_⟩
          exact k
  · show Z E YX9_items (d + 1) M [(0, vr (some (a0, 8, 0))), (1, vi l1), (2, vr (some (a2, 29, 0))), (3, vi l3)] 34 [vi (0 : Int32)] Q
    refine sX9_items_34 (d := d) M _ l1 _ l3 (0 : Int32) ?_
    refine zpos (show (0 : Int32) = 0 from by decide) ?_
    obtain ⟨b12714, h12714, k⟩ := k
    refine ⟨b12714, h12714, ?_⟩
    refine sJ2_size_0 (d := d) M b12714 ?_
    show Z E YX9_items (d + 1) M [(0, vr (some (a0, 8, 0))), (1, vi l1), (2, vr (some (a2, 29, 0))), (3, vi l3)] 44 [vi (gi M b12714 2)] Q
    refine sX9_items_44 (d := d) M _ l1 _ l3 (gi M b12714 2) ?_
    refine zite k (fun h12715 k => ?_) (fun h12715 k => ?_)
    · refine sX9_items_87 (d := d) M _ l1 _ l3 ?_
      refine zite k (fun h12716 k => ?_) (fun h12716 k => ?_)
      · refine ⟨b12714, h12714, ?_⟩
        refine sJ2_size_0 (d := d) M b12714 ?_
        show Z E YX9_items (d + 1) M [(0, vr (some (a0, 8, 0))), (1, vi l1), (2, vr (some (a2, 29, 0))), (3, vi l3)] 102 [vi (gi M b12714 2), vr (gr M a2 2)] Q
        refine sX9_items_102 (d := d) M _ l1 _ l3 (gi M b12714 2) (gr M a2 2) ?_
        exact k
      · refine sX9_items_116 (d := d) M _ l1 _ l3 ?_
        exact k
    · refine ⟨b12704, h12704, ?_⟩
      refine sX10_is_0 (d := d) M b12704 (8 : Int32) ?_
      refine zneg h12705 ?_
      show Z E YX9_items (d + 1) M [(0, vr (some (a0, 8, 0))), (1, vi l1), (2, vr (some (a2, 29, 0))), (3, vi l3)] 56 [vi (0 : Int32)] Q
      refine sX9_items_56 (d := d) M _ l1 _ l3 (0 : Int32) ?_
      refine zpos (show (0 : Int32) = 0 from by decide) ?_
      refine ⟨b12704, h12704, ?_⟩
      exact k
theorem iX9_items_87 {E : zE} {d : Nat} {Q : zO → zM → Prop} (M : zM) (a0 : Nat) (l1 : Int32) (a2 : Nat) (l3 : Int32) (k : if l1 = 0 then (∃ b12724 : Nat, (gr M a2 1) = some (b12724, 11, 0) ∧ (Z E YX9_itemKey d M (zargs 0 [vr (some (a0, 8, 0))]) 0 [] (zafter E YX9_items (d + 1) [(0, vr (some (a0, 8, 0))), (1, vi l1), (2, vr (some (a2, 29, 0))), (3, vi l3)] 103 3 [vi (gi M b12724 2), vr (gr M a2 2)] Q))) else (Z E YX9_assignment d M (zargs 0 [vr (some (a0, 8, 0)), vi (1 : Int32)]) 0 [] (zafter E YX9_items (d + 1) [(0, vr (some (a0, 8, 0))), (1, vi l1), (2, vr (some (a2, 29, 0))), (3, vi l3)] 122 3 [vr (gr M a2 1)] Q))) : Z E YX9_items (d + 1) M [(0, vr (some (a0, 8, 0))), (1, vi l1), (2, vr (some (a2, 29, 0))), (3, vi l3)] 87 [] Q := by
  refine sX9_items_87 (d := d) M a0 l1 a2 l3 ?_
  refine zite k (fun h12723 k => ?_) (fun h12723 k => ?_)
  · obtain ⟨b12724, h12724, k⟩ := k
    refine ⟨b12724, h12724, ?_⟩
    refine sJ2_size_0 (d := d) M b12724 ?_
    show Z E YX9_items (d + 1) M [(0, vr (some (a0, 8, 0))), (1, vi l1), (2, vr (some (a2, 29, 0))), (3, vi l3)] 102 [vi (gi M b12724 2), vr (gr M a2 2)] Q
    refine sX9_items_102 (d := d) M _ l1 _ l3 (gi M b12724 2) (gr M a2 2) ?_
    exact k
  · refine sX9_items_116 (d := d) M _ l1 _ l3 ?_
    exact k
theorem iX9_loop_19 {E : zE} {d : Nat} {Q : zO → zM → Prop} (M : zM) (a0 : Nat) (s0 : Int32) (k : if s0 = 0 then (∃ b12728 : Nat, (gr M a0 1) = some (b12728, 9, 0) ∧ (if (gi M b12728 3) = (5 : Int32) then (if (gi M b12728 6) = (7 : Int32) then (Z E YX10_need d M (zargs 0 [vr (some (b12728, 9, 0)), vi (7 : Int32)]) 0 [] (zafter E YX9_loop (d + 1) [(0, vr (some (a0, 8, 0))), (1, vr none)] 158 3 [] Q)) else (Z E YX9_expression d M (zargs 0 [vr (some (a0, 8, 0)), vi (0 : Int32)]) 0 [] (zafter E YX9_loop (d + 1) [(0, vr (some (a0, 8, 0)))] 108 3 [] Q))) else (Z E YX9_expression d M (zargs 0 [vr (some (a0, 8, 0)), vi (0 : Int32)]) 0 [] (zafter E YX9_loop (d + 1) [(0, vr (some (a0, 8, 0)))] 108 3 [] Q)))) else (∃ b12731 : Nat, (gr M a0 1) = some (b12731, 9, 0) ∧ (if (gi M b12731 3) = (1 : Int32) then (Z E YX9_variables d M (zargs 0 [vr (some (a0, 8, 0)), vi (0 : Int32)]) 0 [] (zafter E YX9_loop (d + 1) [(0, vr (some (a0, 8, 0))), (2, vi (gi M b12731 6))] 47 3 [] Q)) else (Z E YX9_variables d M (zargs 0 [vr (some (a0, 8, 0)), vi (0 : Int32)]) 0 [] (zafter E YX9_loop (d + 1) [(0, vr (some (a0, 8, 0))), (2, vi (-1 : Int32))] 47 3 [] Q))))) : Z E YX9_loop (d + 1) M [(0, vr (some (a0, 8, 0))), (1, vr none)] 19 [vi s0] Q := by
  refine sX9_loop_19 (d := d) M a0 s0 ?_
  refine zite k (fun h12727 k => ?_) (fun h12727 k => ?_)
  · obtain ⟨b12728, h12728, k⟩ := k
    refine ⟨b12728, h12728, ?_⟩
    refine sX10_is_0 (d := d) M b12728 (7 : Int32) ?_
    refine zite k (fun h12729 k => ?_) (fun h12729 k => ?_)
    · refine zite k (fun h12730 k => ?_) (fun h12730 k => ?_)
      · show Z E YX9_loop (d + 1) M [(0, vr (some (a0, 8, 0))), (1, vr none)] 103 [vi (1 : Int32)] Q
        refine sX9_loop_103 (d := d) M _ (1 : Int32) ?_
        refine zneg (show ¬ ((1 : Int32) = 0) from by decide) ?_
        refine ⟨b12728, h12728, ?_⟩
        exact k
      · show Z E YX9_loop (d + 1) M [(0, vr (some (a0, 8, 0))), (1, vr none)] 103 [vi (0 : Int32)] Q
        refine sX9_loop_103 (d := d) M _ (0 : Int32) ?_
        refine zpos (show (0 : Int32) = 0 from by decide) ?_
        exact k
    · show Z E YX9_loop (d + 1) M [(0, vr (some (a0, 8, 0))), (1, vr none)] 103 [vi (0 : Int32)] Q
      refine sX9_loop_103 (d := d) M _ (0 : Int32) ?_
      refine zpos (show (0 : Int32) = 0 from by decide) ?_
      exact k
  · obtain ⟨b12731, h12731, k⟩ := k
    refine ⟨b12731, h12731, ?_⟩
    refine zite k (fun h12732 k => ?_) (fun h12732 k => ?_)
    · refine ⟨b12731, h12731, ?_⟩
      exact k
    · exact k
theorem iX9_loop_161 {E : zE} {d : Nat} {Q : zO → zM → Prop} (M : zM) (a0 : Nat) (r1 : Option zP) (k : ∃ b12733 : Nat, (gr M a0 1) = some (b12733, 9, 0) ∧ (if (gi M b12733 3) = (5 : Int32) then (if (gi M b12733 6) = (7 : Int32) then (Z E YX10_need d M (zargs 0 [vr (some (b12733, 9, 0)), vi (7 : Int32)]) 0 [] (zafter E YX9_loop (d + 1) [(0, vr (some (a0, 8, 0))), (1, vr r1), (2, vr none)] 189 3 [] Q)) else (Z E YX9_expression d M (zargs 0 [vr (some (a0, 8, 0)), vi (1 : Int32)]) 0 [] (zafter E YX9_loop (d + 1) [(0, vr (some (a0, 8, 0))), (1, vr r1)] 179 3 [] Q))) else (Z E YX9_expression d M (zargs 0 [vr (some (a0, 8, 0)), vi (1 : Int32)]) 0 [] (zafter E YX9_loop (d + 1) [(0, vr (some (a0, 8, 0))), (1, vr r1)] 179 3 [] Q)))) : Z E YX9_loop (d + 1) M [(0, vr (some (a0, 8, 0))), (1, vr r1)] 161 [] Q := by
  refine sX9_loop_161 (d := d) M a0 r1 ?_
  obtain ⟨b12733, h12733, k⟩ := k
  refine ⟨b12733, h12733, ?_⟩
  refine sX10_is_0 (d := d) M b12733 (7 : Int32) ?_
  refine zite k (fun h12734 k => ?_) (fun h12734 k => ?_)
  · refine zite k (fun h12735 k => ?_) (fun h12735 k => ?_)
    · show Z E YX9_loop (d + 1) M [(0, vr (some (a0, 8, 0))), (1, vr r1)] 170 [vi (1 : Int32)] Q
      refine sX9_loop_170 (d := d) M _ r1 (1 : Int32) ?_
      refine zneg (show ¬ ((1 : Int32) = 0) from by decide) ?_
      refine sX9_loop_182 (d := d) M _ r1 none ?_
      refine ⟨b12733, h12733, ?_⟩
      exact k
    · show Z E YX9_loop (d + 1) M [(0, vr (some (a0, 8, 0))), (1, vr r1)] 170 [vi (0 : Int32)] Q
      refine sX9_loop_170 (d := d) M _ r1 (0 : Int32) ?_
      refine zpos (show (0 : Int32) = 0 from by decide) ?_
      exact k
  · show Z E YX9_loop (d + 1) M [(0, vr (some (a0, 8, 0))), (1, vr r1)] 170 [vi (0 : Int32)] Q
    refine sX9_loop_170 (d := d) M _ r1 (0 : Int32) ?_
    refine zpos (show (0 : Int32) = 0 from by decide) ?_
    exact k
theorem iX9_loop_111 {E : zE} {d : Nat} {Q : zO → zM → Prop} (M : zM) (a0 : Nat) (u0 : Option zP) (k : ∃ b12740 : Nat, (gr M a0 1) = some (b12740, 9, 0) ∧ (if (gi M b12740 3) = (2 : Int32) then (if (gi M b12740 6) = (13 : Int32) then (∃ b12743 t12743 : Nat, u0 = some (b12743, t12743, 0) ∧ (∃ Y_ : zY, vt_isName t12743 = some Y_ ∧ Z E Y_ (d + 2) M (zargs 0 [vr (some (b12743, t12743, 0))]) 0 [] (zafter E YX9_loop ((d + 2) + 1) [(0, vr (some (a0, 8, 0))), (2, vr (some (b12743, t12743, 0)))] 125 3 [] Q))) else (16 ≤ (zsz M) ∧ (∃ b12745 : Nat, (gr (sr (zn M 1) (zsz M) 0 u0) a0 1) = some (b12745, 9, 0) ∧ (Z E YX10_need (d + 2) (sr (zn M 1) (zsz M) 0 u0) (zargs 0 [vr (some (b12745, 9, 0)), vi (7 : Int32)]) 0 [] (zafter E YX9_loop ((d + 2) + 1) [(0, vr (some (a0, 8, 0))), (1, vr (some ((zsz M), 21, 0)))] 158 3 [] Q))))) else (16 ≤ (zsz M) ∧ (∃ b12747 : Nat, (gr (sr (zn M 1) (zsz M) 0 u0) a0 1) = some (b12747, 9, 0) ∧ (Z E YX10_need (d + 2) (sr (zn M 1) (zsz M) 0 u0) (zargs 0 [vr (some (b12747, 9, 0)), vi (7 : Int32)]) 0 [] (zafter E YX9_loop ((d + 2) + 1) [(0, vr (some (a0, 8, 0))), (1, vr (some ((zsz M), 21, 0)))] 158 3 [] Q)))))) : Z E YX9_loop (d + 3) M [(0, vr (some (a0, 8, 0)))] 111 [vr u0] Q := by
  refine sX9_loop_111 (d := (d + 2)) M a0 u0 ?_
  obtain ⟨b12740, h12740, k⟩ := k
  refine ⟨b12740, h12740, ?_⟩
  refine sX10_isWord_0 (d := (d + 2)) M b12740 (13 : Int32) ?_
  refine zite k (fun h12741 k => ?_) (fun h12741 k => ?_)
  · refine zite k (fun h12742 k => ?_) (fun h12742 k => ?_)
    · show Z E YX9_loop ((d + 2) + 1) M [(0, vr (some (a0, 8, 0))), (2, vr u0)] 121 [vi (1 : Int32)] Q
      refine sX9_loop_121 (d := (d + 2)) M _ u0 (1 : Int32) ?_
      refine zneg (show ¬ ((1 : Int32) = 0) from by decide) ?_
      exact k
    · show Z E YX9_loop ((d + 2) + 1) M [(0, vr (some (a0, 8, 0))), (2, vr u0)] 121 [vi (0 : Int32)] Q
      refine sX9_loop_121 (d := (d + 2)) M _ u0 (0 : Int32) ?_
      refine zpos (show (0 : Int32) = 0 from by decide) ?_
      refine sX9_loop_146 (d := (d + 2)) (zn M 1) _ u0 (zsz M) ?_
      refine jX15_init (d := d) (zn M 1) (zsz M) u0 ?_
      refine zand k (fun h12744 k => ?_)
      show Z E YX9_loop ((d + 2) + 1) (sr (zn M 1) (zsz M) 0 u0) [(0, vr (some (a0, 8, 0)))] 151 [vr (some ((zsz M), 21, 0))] Q
      refine sX9_loop_151 (d := (d + 2)) (sr (zn M 1) (zsz M) 0 u0) _ (zsz M) ?_
      exact k
  · show Z E YX9_loop ((d + 2) + 1) M [(0, vr (some (a0, 8, 0))), (2, vr u0)] 121 [vi (0 : Int32)] Q
    refine sX9_loop_121 (d := (d + 2)) M _ u0 (0 : Int32) ?_
    refine zpos (show (0 : Int32) = 0 from by decide) ?_
    refine sX9_loop_146 (d := (d + 2)) (zn M 1) _ u0 (zsz M) ?_
    refine jX15_init (d := d) (zn M 1) (zsz M) u0 ?_
    refine zand k (fun h12746 k => ?_)
    show Z E YX9_loop ((d + 2) + 1) (sr (zn M 1) (zsz M) 0 u0) [(0, vr (some (a0, 8, 0)))] 151 [vr (some ((zsz M), 21, 0))] Q
    refine sX9_loop_151 (d := (d + 2)) (sr (zn M 1) (zsz M) 0 u0) _ (zsz M) ?_
    exact k
theorem iX9_loop_50 {E : zE} {d : Nat} {Q : zO → zM → Prop} (M : zM) (a0 : Nat) (l2 : Int32) (u0 : Option zP) (k : ∃ b12748 : Nat, u0 = some (b12748, 20, 0) ∧ (∃ b12749 : Nat, (gr M a0 1) = some (b12749, 9, 0) ∧ (if (gi M b12749 3) = (2 : Int32) then (if (gi M b12749 6) = (13 : Int32) then (∃ b12752 : Nat, (gr M b12748 0) = some (b12752, 11, 0) ∧ (if (gi M b12752 2) = 0 then (if (gi M a0 7) = 0 then (Z E YX10_need d M (zargs 0 [vr (some (b12749, 9, 0)), vi (7 : Int32)]) 0 [] (zafter E YX9_loop (d + 1) [(0, vr (some (a0, 8, 0))), (1, vr (some (b12748, 20, 0)))] 158 3 [] Q)) else (Z E YX9_each d M (zargs 0 [vr (some (a0, 8, 0)), vi l2]) 0 [] (zafter E YX9_loop (d + 1) [] 85 3 [] Q))) else (Z E YX10_need d M (zargs 0 [vr (some (b12749, 9, 0)), vi (7 : Int32)]) 0 [] (zafter E YX9_loop (d + 1) [(0, vr (some (a0, 8, 0))), (1, vr (some (b12748, 20, 0)))] 158 3 [] Q)))) else (Z E YX10_need d M (zargs 0 [vr (some (b12749, 9, 0)), vi (7 : Int32)]) 0 [] (zafter E YX9_loop (d + 1) [(0, vr (some (a0, 8, 0))), (1, vr (some (b12748, 20, 0)))] 158 3 [] Q))) else (Z E YX10_need d M (zargs 0 [vr (some (b12749, 9, 0)), vi (7 : Int32)]) 0 [] (zafter E YX9_loop (d + 1) [(0, vr (some (a0, 8, 0))), (1, vr (some (b12748, 20, 0)))] 158 3 [] Q))))) : Z E YX9_loop (d + 1) M [(0, vr (some (a0, 8, 0))), (2, vi l2)] 50 [vr u0] Q := by
  refine sX9_loop_50 (d := d) M a0 l2 u0 ?_
  obtain ⟨b12748, h12748, k⟩ := k
  refine ⟨b12748, h12748, ?_⟩
  obtain ⟨b12749, h12749, k⟩ := k
  refine ⟨b12749, h12749, ?_⟩
  refine sX10_isWord_0 (d := d) M b12749 (13 : Int32) ?_
  refine zite k (fun h12750 k => ?_) (fun h12750 k => ?_)
  · refine zite k (fun h12751 k => ?_) (fun h12751 k => ?_)
    · show Z E YX9_loop (d + 1) M [(0, vr (some (a0, 8, 0))), (2, vi l2), (3, vr (some (b12748, 20, 0)))] 63 [vi (1 : Int32)] Q
      refine sX9_loop_63 (d := d) M _ l2 b12748 (1 : Int32) ?_
      refine zneg (show ¬ ((1 : Int32) = 0) from by decide) ?_
      obtain ⟨b12752, h12752, k⟩ := k
      refine ⟨b12752, h12752, ?_⟩
      refine sJ2_isEmpty_0 (d := d) M b12752 ?_
      refine zite k (fun h12754 k => ?_) (fun h12754 k => ?_)
      · show Z E YX9_loop (d + 1) M [(0, vr (some (a0, 8, 0))), (2, vi l2), (3, vr (some (b12748, 20, 0)))] 73 [vi (1 : Int32)] Q
        refine sX9_loop_73 (d := d) M _ l2 b12748 (1 : Int32) ?_
        refine zneg (show ¬ ((1 : Int32) = 0) from by decide) ?_
        refine zite k (fun h12755 k => ?_) (fun h12755 k => ?_)
        · refine ⟨b12749, h12749, ?_⟩
          exact k
        · exact k
      · show Z E YX9_loop (d + 1) M [(0, vr (some (a0, 8, 0))), (2, vi l2), (3, vr (some (b12748, 20, 0)))] 73 [vi (0 : Int32)] Q
        refine sX9_loop_73 (d := d) M _ l2 b12748 (0 : Int32) ?_
        refine zpos (show (0 : Int32) = 0 from by decide) ?_
        refine ⟨b12749, h12749, ?_⟩
        exact k
    · show Z E YX9_loop (d + 1) M [(0, vr (some (a0, 8, 0))), (2, vi l2), (3, vr (some (b12748, 20, 0)))] 63 [vi (0 : Int32)] Q
      refine sX9_loop_63 (d := d) M _ l2 b12748 (0 : Int32) ?_
      refine zpos (show (0 : Int32) = 0 from by decide) ?_
      refine ⟨b12749, h12749, ?_⟩
      exact k
  · show Z E YX9_loop (d + 1) M [(0, vr (some (a0, 8, 0))), (2, vi l2), (3, vr (some (b12748, 20, 0)))] 63 [vi (0 : Int32)] Q
    refine sX9_loop_63 (d := d) M _ l2 b12748 (0 : Int32) ?_
    refine zpos (show (0 : Int32) = 0 from by decide) ?_
    refine ⟨b12749, h12749, ?_⟩
    exact k
theorem iX9_loop_192 {E : zE} {d : Nat} {Q : zO → zM → Prop} (M : zM) (a0 : Nat) (r1 : Option zP) (r2 : Option zP) (k : ∃ b12757 : Nat, (gr M a0 1) = some (b12757, 9, 0) ∧ (if (gi M b12757 3) = (5 : Int32) then (if (gi M b12757 6) = (3 : Int32) then (Z E YX10_need d M (zargs 0 [vr (some (b12757, 9, 0)), vi (3 : Int32)]) 0 [] (zafter E YX9_loop (d + 1) [(0, vr (some (a0, 8, 0))), (1, vr r1), (2, vr r2), (3, vr none)] 225 3 [] Q)) else (Z E YX9_expression d (zn M 1) (zargs 0 [vr (some (a0, 8, 0)), vi (1 : Int32)]) 0 [] (zafter E YX9_loop (d + 1) [(0, vr (some (a0, 8, 0))), (1, vr r1), (2, vr r2)] 213 3 [vr (some ((zsz M), 21, 0)), vr (some ((zsz M), 21, 0))] Q))) else (Z E YX9_expression d (zn M 1) (zargs 0 [vr (some (a0, 8, 0)), vi (1 : Int32)]) 0 [] (zafter E YX9_loop (d + 1) [(0, vr (some (a0, 8, 0))), (1, vr r1), (2, vr r2)] 213 3 [vr (some ((zsz M), 21, 0)), vr (some ((zsz M), 21, 0))] Q)))) : Z E YX9_loop (d + 1) M [(0, vr (some (a0, 8, 0))), (1, vr r1), (2, vr r2)] 192 [] Q := by
  refine sX9_loop_192 (d := d) M a0 r1 r2 ?_
  obtain ⟨b12757, h12757, k⟩ := k
  refine ⟨b12757, h12757, ?_⟩
  refine sX10_is_0 (d := d) M b12757 (3 : Int32) ?_
  refine zite k (fun h12758 k => ?_) (fun h12758 k => ?_)
  · refine zite k (fun h12759 k => ?_) (fun h12759 k => ?_)
    · show Z E YX9_loop (d + 1) M [(0, vr (some (a0, 8, 0))), (1, vr r1), (2, vr r2)] 200 [vi (1 : Int32)] Q
      refine sX9_loop_200 (d := d) M _ r1 r2 (1 : Int32) ?_
      refine zneg (show ¬ ((1 : Int32) = 0) from by decide) ?_
      refine sX9_loop_219 (d := d) M _ r1 r2 none ?_
      refine ⟨b12757, h12757, ?_⟩
      exact k
    · show Z E YX9_loop (d + 1) M [(0, vr (some (a0, 8, 0))), (1, vr r1), (2, vr r2)] 200 [vi (0 : Int32)] Q
      refine sX9_loop_200 (d := d) M _ r1 r2 (0 : Int32) ?_
      refine zpos (show (0 : Int32) = 0 from by decide) ?_
      refine sX9_loop_210 (d := d) (zn M 1) _ r1 r2 (zsz M) ?_
      exact k
  · show Z E YX9_loop (d + 1) M [(0, vr (some (a0, 8, 0))), (1, vr r1), (2, vr r2)] 200 [vi (0 : Int32)] Q
    refine sX9_loop_200 (d := d) M _ r1 r2 (0 : Int32) ?_
    refine zpos (show (0 : Int32) = 0 from by decide) ?_
    refine sX9_loop_210 (d := d) (zn M 1) _ r1 r2 (zsz M) ?_
    exact k
theorem iX9_loop_128 {E : zE} {d : Nat} {Q : zO → zM → Prop} (M : zM) (a0 : Nat) (a2 : Nat) (ta2 : Nat) (s0 : Int32) (k : if s0 = 0 then (16 ≤ (zsz M) ∧ (∃ b12764 : Nat, (gr (sr (zn M 1) (zsz M) 0 (some (a2, ta2, 0))) a0 1) = some (b12764, 9, 0) ∧ (Z E YX10_need (d + 2) (sr (zn M 1) (zsz M) 0 (some (a2, ta2, 0))) (zargs 0 [vr (some (b12764, 9, 0)), vi (7 : Int32)]) 0 [] (zafter E YX9_loop ((d + 2) + 1) [(0, vr (some (a0, 8, 0))), (1, vr (some ((zsz M), 21, 0)))] 158 3 [] Q)))) else (ta2 = 23 ∧ (Z E YX9_each (d + 2) M (zargs 0 [vr (some (a0, 8, 0)), vi (gi M a2 0)]) 0 [] (zafter E YX9_loop ((d + 2) + 1) [] 139 3 [] Q)))) : Z E YX9_loop (d + 3) M [(0, vr (some (a0, 8, 0))), (2, vr (some (a2, ta2, 0)))] 128 [vi s0] Q := by
  refine sX9_loop_128 (d := (d + 2)) M a0 a2 ta2 s0 ?_
  refine zite k (fun h12762 k => ?_) (fun h12762 k => ?_)
  · refine sX9_loop_146 (d := (d + 2)) (zn M 1) _ (some (a2, ta2, 0)) (zsz M) ?_
    refine jX15_init (d := d) (zn M 1) (zsz M) (some (a2, ta2, 0)) ?_
    refine zand k (fun h12763 k => ?_)
    show Z E YX9_loop ((d + 2) + 1) (sr (zn M 1) (zsz M) 0 (some (a2, ta2, 0))) [(0, vr (some (a0, 8, 0)))] 151 [vr (some ((zsz M), 21, 0))] Q
    refine sX9_loop_151 (d := (d + 2)) (sr (zn M 1) (zsz M) 0 (some (a2, ta2, 0))) _ (zsz M) ?_
    exact k
  · exact k
theorem iX9_loop_228 {E : zE} {d : Nat} {Q : zO → zM → Prop} (M : zM) (a0 : Nat) (r1 : Option zP) (r2 : Option zP) (r3 : Option zP) (k : Z E YX9_looped d (zn M 5) (zargs 0 [vr (some (a0, 8, 0))]) 0 [] (zafter E YX9_loop (d + 1) [] 237 3 [vr r3, vr r2, vr r1, vi (2 : Int32), vr (some ((zsz M), 38, 0)), vr (some ((zsz M), 38, 0))] Q)) : Z E YX9_loop (d + 1) M [(0, vr (some (a0, 8, 0))), (1, vr r1), (2, vr r2), (3, vr r3)] 228 [] Q := by
  refine sX9_loop_228 (d := d) M a0 r1 r2 r3 ?_
  refine sX9_loop_231 (d := d) (zn M 5) _ r1 r2 r3 (zsz M) ?_
  exact k
theorem iX9_loop_216 {E : zE} {d : Nat} {Q : zO → zM → Prop} (M : zM) (a0 : Nat) (r1 : Option zP) (r2 : Option zP) (u0 : Option zP) (p1 : Nat) (p2 : Nat) (k : 16 ≤ p1 ∧ (∃ b12767 : Nat, (gr (sr M p1 0 u0) a0 1) = some (b12767, 9, 0) ∧ (Z E YX10_need (d + 2) (sr M p1 0 u0) (zargs 0 [vr (some (b12767, 9, 0)), vi (3 : Int32)]) 0 [] (zafter E YX9_loop ((d + 2) + 1) [(0, vr (some (a0, 8, 0))), (1, vr r1), (2, vr r2), (3, vr (some (p2, 21, 0)))] 225 3 [] Q)))) : Z E YX9_loop (d + 3) M [(0, vr (some (a0, 8, 0))), (1, vr r1), (2, vr r2)] 216 [vr u0, vr (some (p1, 21, 0)), vr (some (p2, 21, 0))] Q := by
  refine sX9_loop_216 (d := (d + 2)) M a0 r1 r2 u0 p1 p2 ?_
  refine jX15_init (d := d) M p1 u0 ?_
  refine zand k (fun h12766 k => ?_)
  show Z E YX9_loop ((d + 2) + 1) (sr M p1 0 u0) [(0, vr (some (a0, 8, 0))), (1, vr r1), (2, vr r2)] 219 [vr (some (p2, 21, 0))] Q
  refine sX9_loop_219 (d := (d + 2)) (sr M p1 0 u0) _ r1 r2 (some (p2, 21, 0)) ?_
  exact k
theorem iX9_loop_240 {E : zE} {d : Nat} {Q : zO → zM → Prop} (M : zM) (u0 : Option zP) (u1 : Option zP) (u2 : Option zP) (u3 : Option zP) (s4 : Int32) (p5 : Nat) (p6 : Nat) (k : 16 ≤ p5 ∧ (Q (.inl (some (vr (some (p6, 38, 0))))) (sr (sr (sr (sr (si M p5 0 s4) p5 1 u3) p5 2 u2) p5 3 u1) p5 4 u0))) : Z E YX9_loop (d + 3) M [] 240 [vr u0, vr u1, vr u2, vr u3, vi s4, vr (some (p5, 38, 0)), vr (some (p6, 38, 0))] Q := by
  refine sX9_loop_240 (d := (d + 2)) M u0 u1 u2 u3 s4 p5 p6 ?_
  refine jX33_init (d := d) M p5 s4 u3 u2 u1 u0 ?_
  refine zand k (fun h12768 k => ?_)
  show Z E YX9_loop ((d + 2) + 1) (sr (sr (sr (sr (si M p5 0 s4) p5 1 u3) p5 2 u2) p5 3 u1) p5 4 u0) [] 243 [vr (some (p6, 38, 0))] Q
  refine sX9_loop_243 (d := (d + 2)) (sr (sr (sr (sr (si M p5 0 s4) p5 1 u3) p5 2 u2) p5 3 u1) p5 4 u0) p6 ?_
  exact k
theorem iX9_member_9 {E : zE} {d : Nat} {Q : zO → zM → Prop} (M : zM) (a0 : Nat) (s0 : Int32) (k : if s0 = 0 then (Z E YX9_opens d M (zargs 0 [vr (some (a0, 8, 0))]) 0 [] (zafter E YX9_member (d + 1) [(0, vr (some (a0, 8, 0)))] 30 3 [] Q)) else (∃ b12773 : Nat, (gr (zn M 3) a0 1) = some (b12773, 9, 0) ∧ (Z E YX10_key d (zn M 3) (zargs 0 [vr (some (b12773, 9, 0))]) 0 [] (zafter E YX9_member (d + 1) [] 20 3 [vr (some ((zsz M), 19, 0)), vr (some ((zsz M), 19, 0))] Q)))) : Z E YX9_member (d + 1) M [(0, vr (some (a0, 8, 0)))] 9 [vi s0] Q := by
  refine sX9_member_9 (d := d) M a0 s0 ?_
  refine zite k (fun h12772 k => ?_) (fun h12772 k => ?_)
  · exact k
  · refine sX9_member_15 (d := d) (zn M 3) _ (zsz M) ?_
    exact k
theorem iX9_member_23 {E : zE} {d : Nat} {Q : zO → zM → Prop} (M : zM) (s0 : Int32) (p1 : Nat) (p2 : Nat) (k : 16 ≤ p1 ∧ (Q (.inl (some (vr (some (p2, 19, 0))))) (sr (sr (si M p1 0 s0) p1 1 none) p1 2 none))) : Z E YX9_member (d + 2) M [] 23 [vi s0, vr (some (p1, 19, 0)), vr (some (p2, 19, 0))] Q := by
  refine sX9_member_23 (d := (d + 1)) M s0 p1 p2 ?_
  refine jX25_init (d := d) M p1 s0 none none ?_
  refine zand k (fun h12775 k => ?_)
  show Z E YX9_member ((d + 1) + 1) (sr (sr (si M p1 0 s0) p1 1 none) p1 2 none) [] 28 [vr (some (p2, 19, 0))] Q
  refine sX9_member_28 (d := (d + 1)) (sr (sr (si M p1 0 s0) p1 1 none) p1 2 none) p2 ?_
  exact k
theorem iX9_member_54 {E : zE} {d : Nat} {Q : zO → zM → Prop} (M : zM) (a0 : Nat) (r1 : Option zP) (k : 16 ≤ a0 ∧ (16 ≤ (zsz M) ∧ (Q (.inl (some (vr (some ((zsz M), 19, 0))))) (sr (sr (si (zn (si M a0 4 ((gi M a0 4) - (1 : Int32))) 3) (zsz M) 0 (-1 : Int32)) (zsz M) 1 r1) (zsz M) 2 none)))) : Z E YX9_member (d + 2) M [(0, vr (some (a0, 8, 0))), (1, vr r1)] 54 [] Q := by
  refine sX9_member_54 (d := (d + 1)) M a0 r1 ?_
  refine zand k (fun h12778 k => ?_)
  refine sX9_member_67 (d := (d + 1)) (zn (si M a0 4 ((gi M a0 4) - (1 : Int32))) 3) r1 (zsz M) ?_
  refine jX25_init (d := d) (zn (si M a0 4 ((gi M a0 4) - (1 : Int32))) 3) (zsz M) (-1 : Int32) r1 none ?_
  refine zand k (fun h12779 k => ?_)
  show Z E YX9_member ((d + 1) + 1) (sr (sr (si (zn (si M a0 4 ((gi M a0 4) - (1 : Int32))) 3) (zsz M) 0 (-1 : Int32)) (zsz M) 1 r1) (zsz M) 2 none) [] 74 [vr (some ((zsz M), 19, 0))] Q
  refine sX9_member_74 (d := (d + 1)) (sr (sr (si (zn (si M a0 4 ((gi M a0 4) - (1 : Int32))) 3) (zsz M) 0 (-1 : Int32)) (zsz M) 1 r1) (zsz M) 2 none) (zsz M) ?_
  exact k
theorem iX9_semicolon_9 {E : zE} {d : Nat} {Q : zO → zM → Prop} (M : zM) (a0 : Nat) (s0 : Int32) (k : if s0 = 0 then (∃ b12782 : Nat, (gr M a0 1) = some (b12782, 9, 0) ∧ (if (gi M b12782 3) = (5 : Int32) then (if (gi M b12782 6) = (1 : Int32) then (Q (.inl none) M) else (if (gi M b12782 3) = 0 then (Q (.inl none) M) else (if (gi M b12782 4) ≤ (gi M b12782 5) then (Z E YX10_fault d M (zargs 0 [vr (some (b12782, 9, 0)), vi (2 : Int32)]) 0 [] (zafter E YX9_semicolon (d + 1) [] 49 3 [] Q)) else (Q (.inl none) M)))) else (if (gi M b12782 3) = 0 then (Q (.inl none) M) else (if (gi M b12782 4) ≤ (gi M b12782 5) then (Z E YX10_fault d M (zargs 0 [vr (some (b12782, 9, 0)), vi (2 : Int32)]) 0 [] (zafter E YX9_semicolon (d + 1) [] 49 3 [] Q)) else (Q (.inl none) M))))) else (Q (.inl none) M)) : Z E YX9_semicolon (d + 1) M [(0, vr (some (a0, 8, 0)))] 9 [vi s0] Q := by
  refine sX9_semicolon_9 (d := d) M a0 s0 ?_
  refine zite k (fun h12781 k => ?_) (fun h12781 k => ?_)
  · obtain ⟨b12782, h12782, k⟩ := k
    refine ⟨b12782, h12782, ?_⟩
    refine sX10_is_0 (d := d) M b12782 (1 : Int32) ?_
    refine zite k (fun h12783 k => ?_) (fun h12783 k => ?_)
    · refine zite k (fun h12784 k => ?_) (fun h12784 k => ?_)
      · show Z E YX9_semicolon (d + 1) M [(0, vr (some (a0, 8, 0)))] 20 [vi (1 : Int32)] Q
        refine sX9_semicolon_20 (d := d) M _ (1 : Int32) ?_
        refine zneg (show ¬ ((1 : Int32) = 0) from by decide) ?_
        exact k
      · show Z E YX9_semicolon (d + 1) M [(0, vr (some (a0, 8, 0)))] 20 [vi (0 : Int32)] Q
        refine sX9_semicolon_20 (d := d) M _ (0 : Int32) ?_
        refine zpos (show (0 : Int32) = 0 from by decide) ?_
        refine ⟨b12782, h12782, ?_⟩
        refine zite k (fun h12785 k => ?_) (fun h12785 k => ?_)
        · exact k
        · refine ⟨b12782, h12782, ?_⟩
          refine sX10_onLaterLine_0 (d := d) M b12782 ?_
          refine zite k (fun h12786 k => ?_) (fun h12786 k => ?_)
          · show Z E YX9_semicolon (d + 1) M [(0, vr (some (a0, 8, 0)))] 40 [vi (0 : Int32)] Q
            refine sX9_semicolon_40 (d := d) M _ (0 : Int32) ?_
            refine zpos (show (0 : Int32) = 0 from by decide) ?_
            refine ⟨b12782, h12782, ?_⟩
            exact k
          · show Z E YX9_semicolon (d + 1) M [(0, vr (some (a0, 8, 0)))] 40 [vi (1 : Int32)] Q
            refine sX9_semicolon_40 (d := d) M _ (1 : Int32) ?_
            refine zneg (show ¬ ((1 : Int32) = 0) from by decide) ?_
            exact k
    · show Z E YX9_semicolon (d + 1) M [(0, vr (some (a0, 8, 0)))] 20 [vi (0 : Int32)] Q
      refine sX9_semicolon_20 (d := d) M _ (0 : Int32) ?_
      refine zpos (show (0 : Int32) = 0 from by decide) ?_
      refine ⟨b12782, h12782, ?_⟩
      refine zite k (fun h12787 k => ?_) (fun h12787 k => ?_)
      · exact k
      · refine ⟨b12782, h12782, ?_⟩
        refine sX10_onLaterLine_0 (d := d) M b12782 ?_
        refine zite k (fun h12788 k => ?_) (fun h12788 k => ?_)
        · show Z E YX9_semicolon (d + 1) M [(0, vr (some (a0, 8, 0)))] 40 [vi (0 : Int32)] Q
          refine sX9_semicolon_40 (d := d) M _ (0 : Int32) ?_
          refine zpos (show (0 : Int32) = 0 from by decide) ?_
          refine ⟨b12782, h12782, ?_⟩
          exact k
        · show Z E YX9_semicolon (d + 1) M [(0, vr (some (a0, 8, 0)))] 40 [vi (1 : Int32)] Q
          refine sX9_semicolon_40 (d := d) M _ (1 : Int32) ?_
          refine zneg (show ¬ ((1 : Int32) = 0) from by decide) ?_
          exact k
  · exact k
theorem iX9_strength_0 {E : zE} {d : Nat} {Q : zO → zM → Prop} (M : zM) (a0 : Nat) (l1 : Int32) (k : ∃ b12790 : Nat, (gr M a0 1) = some (b12790, 9, 0) ∧ (Z E YX10_isWord d M (zargs 0 [vr (some (b12790, 9, 0)), vi (13 : Int32)]) 0 [] (zafter E YX9_strength (d + 1) [(0, vr (some (a0, 8, 0))), (1, vi l1)] 6 3 [] Q))) : Z E YX9_strength (d + 1) M [(0, vr (some (a0, 8, 0))), (1, vi l1)] 0 [] Q := by
  refine sX9_strength_0 (d := d) M a0 l1 ?_
  exact k
theorem iX9_strength_9 {E : zE} {d : Nat} {Q : zO → zM → Prop} (M : zM) (a0 : Nat) (l1 : Int32) (s0 : Int32) (k : if s0 = 0 then (∃ b12885 : Nat, (gr M a0 1) = some (b12885, 9, 0) ∧ (Z E YX10_isWord d M (zargs 0 [vr (some (b12885, 9, 0)), vi (14 : Int32)]) 0 [] (zafter E YX9_strength (d + 1) [(0, vr (some (a0, 8, 0))), (1, vi l1)] 18 3 [] Q))) else (∃ b12979 : Nat, (gr M a0 1) = some (b12979, 9, 0) ∧ (if (gi M b12979 6) = (13 : Int32) then (Z E YX9_strength (d + 1) M [(0, vr (some (a0, 8, 0))), (1, vi l1)] 44 [vi (19 : Int32), vr (some (a0, 8, 0))] Q) else (Z E YX9_strength (d + 1) M [(0, vr (some (a0, 8, 0))), (1, vi l1)] 44 [vi (20 : Int32), vr (some (a0, 8, 0))] Q)))) : Z E YX9_strength (d + 1) M [(0, vr (some (a0, 8, 0))), (1, vi l1)] 9 [vi s0] Q := by
  refine sX9_strength_9 (d := d) M a0 l1 s0 ?_
  refine zite k (fun h12884 k => ?_) (fun h12884 k => ?_)
  · exact k
  · refine sX9_strength_24 (d := d) M _ l1 ?_
    exact k
theorem iX9_strength_21 {E : zE} {d : Nat} {Q : zO → zM → Prop} (M : zM) (a0 : Nat) (l1 : Int32) (s0 : Int32) (k : if s0 = 0 then (∃ b12982 : Nat, (gr M a0 1) = some (b12982, 9, 0) ∧ (if (gi M b12982 3) = (5 : Int32) then (if (gi M b12982 6) = 9 then (16 ≤ a0 ∧ (Q (.inl (some (vi (6 : Int32)))) (si M a0 8 ((gi M b12982 6) + (6 : Int32))))) else (if (gi M b12982 6) = 10 then (16 ≤ a0 ∧ (Q (.inl (some (vi (6 : Int32)))) (si M a0 8 ((gi M b12982 6) + (6 : Int32))))) else (if (gi M b12982 6) = 11 then (16 ≤ a0 ∧ (Q (.inl (some (vi (6 : Int32)))) (si M a0 8 ((gi M b12982 6) + (6 : Int32))))) else (if (gi M b12982 6) = 12 then (16 ≤ a0 ∧ (Q (.inl (some (vi (6 : Int32)))) (si M a0 8 ((gi M b12982 6) + (6 : Int32))))) else (if (gi M b12982 6) = 13 then (16 ≤ a0 ∧ (Q (.inl (some (vi (5 : Int32)))) (si M a0 8 ((gi M b12982 6) - (2 : Int32))))) else (if (gi M b12982 6) = 14 then (16 ≤ a0 ∧ (Q (.inl (some (vi (5 : Int32)))) (si M a0 8 ((gi M b12982 6) - (2 : Int32))))) else (if (gi M b12982 6) = 15 then (16 ≤ a0 ∧ (Q (.inl (some (vi (5 : Int32)))) (si M a0 8 ((gi M b12982 6) - (2 : Int32))))) else (if (gi M b12982 6) = 16 then (16 ≤ a0 ∧ (Q (.inl (some (vi (5 : Int32)))) (si M a0 8 ((gi M b12982 6) - (2 : Int32))))) else (if (gi M b12982 6) = 17 then (16 ≤ a0 ∧ (Q (.inl (some (vi (8 : Int32)))) (si M a0 8 ((gi M b12982 6) - (17 : Int32))))) else (if (gi M b12982 6) = 18 then (16 ≤ a0 ∧ (Q (.inl (some (vi (8 : Int32)))) (si M a0 8 ((gi M b12982 6) - (17 : Int32))))) else (if (gi M b12982 6) = 19 then (16 ≤ a0 ∧ (Q (.inl (some (vi (9 : Int32)))) (si M a0 8 (2 : Int32)))) else (if (gi M b12982 6) = 20 then (16 ≤ a0 ∧ (Q (.inl (some (vi (9 : Int32)))) (si M a0 8 (4 : Int32)))) else (if (gi M b12982 6) = 21 then (16 ≤ a0 ∧ (Q (.inl (some (vi (9 : Int32)))) (si M a0 8 (3 : Int32)))) else (if (gi M b12982 6) = 22 then (Q (.inl (some (vi (-1 : Int32)))) M) else (if (gi M b12982 6) = 23 then (Q (.inl (some (vi (-1 : Int32)))) M) else (if (gi M b12982 6) = 24 then (16 ≤ a0 ∧ (Q (.inl (some (vi (7 : Int32)))) (si M a0 8 ((gi M b12982 6) - (19 : Int32))))) else (if (gi M b12982 6) = 25 then (16 ≤ a0 ∧ (Q (.inl (some (vi (7 : Int32)))) (si M a0 8 ((gi M b12982 6) - (19 : Int32))))) else (if (gi M b12982 6) = 26 then (16 ≤ a0 ∧ (Q (.inl (some (vi (7 : Int32)))) (si M a0 8 ((gi M b12982 6) - (19 : Int32))))) else (if (gi M b12982 6) = 27 then (16 ≤ a0 ∧ (Q (.inl (some (vi (4 : Int32)))) (si M a0 8 (8 : Int32)))) else (if (gi M b12982 6) = 28 then (16 ≤ a0 ∧ (Q (.inl (some (vi (2 : Int32)))) (si M a0 8 (9 : Int32)))) else (if (gi M b12982 6) = 29 then (16 ≤ a0 ∧ (Q (.inl (some (vi (3 : Int32)))) (si M a0 8 (10 : Int32)))) else (if (gi M b12982 6) = 30 then (Q (.inl (some (vi (-1 : Int32)))) M) else (if (gi M b12982 6) = 31 then (Q (.inl (some (vi (-1 : Int32)))) M) else (if (gi M b12982 6) = 32 then (Q (.inl (some (vi (1 : Int32)))) M) else (if (gi M b12982 6) = 33 then (Q (.inl (some (vi (0 : Int32)))) M) else (Q (.inl (some (vi (-1 : Int32)))) M)))))))))))))))))))))))))) else (Q (.inl (some (vi (-1 : Int32)))) M))) else (∃ b13028 : Nat, (gr M a0 1) = some (b13028, 9, 0) ∧ (if (gi M b13028 6) = (13 : Int32) then (Z E YX9_strength (d + 1) M [(0, vr (some (a0, 8, 0))), (1, vi l1)] 44 [vi (19 : Int32), vr (some (a0, 8, 0))] Q) else (Z E YX9_strength (d + 1) M [(0, vr (some (a0, 8, 0))), (1, vi l1)] 44 [vi (20 : Int32), vr (some (a0, 8, 0))] Q)))) : Z E YX9_strength (d + 1) M [(0, vr (some (a0, 8, 0))), (1, vi l1)] 21 [vi s0] Q := by
  refine sX9_strength_21 (d := d) M a0 l1 s0 ?_
  refine zite k (fun h12981 k => ?_) (fun h12981 k => ?_)
  · obtain ⟨b12982, h12982, k⟩ := k
    refine ⟨b12982, h12982, ?_⟩
    refine zite k (fun h12983 k => ?_) (fun h12983 k => ?_)
    · refine ⟨b12982, h12982, ?_⟩
      refine zite k (fun h12984 k => ?_) (fun h12984 k => ?_)
      · refine ⟨b12982, h12982, ?_⟩
        exact k
      · refine zite k (fun h12986 k => ?_) (fun h12986 k => ?_)
        · refine ⟨b12982, h12982, ?_⟩
          exact k
        · refine zite k (fun h12988 k => ?_) (fun h12988 k => ?_)
          · refine ⟨b12982, h12982, ?_⟩
            exact k
          · refine zite k (fun h12990 k => ?_) (fun h12990 k => ?_)
            · refine ⟨b12982, h12982, ?_⟩
              exact k
            · refine zite k (fun h12992 k => ?_) (fun h12992 k => ?_)
              · refine ⟨b12982, h12982, ?_⟩
                exact k
              · refine zite k (fun h12994 k => ?_) (fun h12994 k => ?_)
                · refine ⟨b12982, h12982, ?_⟩
                  exact k
                · refine zite k (fun h12996 k => ?_) (fun h12996 k => ?_)
                  · refine ⟨b12982, h12982, ?_⟩
                    exact k
                  · refine zite k (fun h12998 k => ?_) (fun h12998 k => ?_)
                    · refine ⟨b12982, h12982, ?_⟩
                      exact k
                    · refine zite k (fun h13000 k => ?_) (fun h13000 k => ?_)
                      · refine ⟨b12982, h12982, ?_⟩
                        exact k
                      · refine zite k (fun h13002 k => ?_) (fun h13002 k => ?_)
                        · refine ⟨b12982, h12982, ?_⟩
                          exact k
                        · refine zite k (fun h13004 k => ?_) (fun h13004 k => ?_)
                          · exact k
                          · refine zite k (fun h13006 k => ?_) (fun h13006 k => ?_)
                            · exact k
                            · refine zite k (fun h13008 k => ?_) (fun h13008 k => ?_)
                              · exact k
                              · refine zite k (fun h13010 k => ?_) (fun h13010 k => ?_)
                                · exact k
                                · refine zite k (fun h13011 k => ?_) (fun h13011 k => ?_)
                                  · exact k
                                  · refine zite k (fun h13012 k => ?_) (fun h13012 k => ?_)
                                    · refine ⟨b12982, h12982, ?_⟩
                                      exact k
                                    · refine zite k (fun h13014 k => ?_) (fun h13014 k => ?_)
                                      · refine ⟨b12982, h12982, ?_⟩
                                        exact k
                                      · refine zite k (fun h13016 k => ?_) (fun h13016 k => ?_)
                                        · refine ⟨b12982, h12982, ?_⟩
                                          exact k
                                        · exact k
    · exact k
  · refine sX9_strength_24 (d := d) M _ l1 ?_
    exact k
theorem jX38_init {E : zE} {d : Nat} {Q : zO → zM → Prop} (M : zM) (a0 : Nat) (r1 : Option zP) (l2 : Int32) (r3 : Option zP) (k : 16 ≤ a0 ∧ (Q (.inl none) (sr (si (sr M a0 0 r1) a0 2 l2) a0 1 r3))) : Z E YX38_init (d + 2) M [(0, vr (some (a0, 43, 0))), (1, vr r1), (2, vi l2), (3, vr r3)] 0 [] Q := by
  refine sX38_init_0 (d := (d + 1)) M a0 r1 l2 r3 ?_
  refine sX13_init_0 (d := d) M _ 43 ?_
  show Z E YX38_init ((d + 1) + 1) M [(0, vr (some (a0, 43, 0))), (1, vr r1), (2, vi l2), (3, vr r3)] 4 [] Q
  refine sX38_init_4 (d := (d + 1)) M _ r1 l2 r3 ?_
  refine zand k (fun h13047 k => ?_)
  refine ⟨h13047, ?_⟩
  refine ⟨h13047, ?_⟩
  exact k
theorem iX9_tried_0 {E : zE} {d : Nat} {Q : zO → zM → Prop} (M : zM) (a0 : Nat) (k : ∃ b13034 : Nat, (gr M a0 1) = some (b13034, 9, 0) ∧ (if (gi M b13034 3) = (5 : Int32) then (if (gi M b13034 6) = (0 : Int32) then (Z E YX9_block d M (zargs 0 [vr (some (a0, 8, 0))]) 0 [] (zafter E YX9_tried (d + 1) [(0, vr (some (a0, 8, 0)))] 21 3 [] Q)) else (Z E YX10_fault d M (zargs 0 [vr (some (b13034, 9, 0)), vi (2 : Int32)]) 0 [] (zafter E YX9_tried (d + 1) [] 16 3 [] Q))) else (Z E YX10_fault d M (zargs 0 [vr (some (b13034, 9, 0)), vi (2 : Int32)]) 0 [] (zafter E YX9_tried (d + 1) [] 16 3 [] Q)))) : Z E YX9_tried (d + 1) M [(0, vr (some (a0, 8, 0)))] 0 [] Q := by
  refine sX9_tried_0 (d := d) M a0 ?_
  obtain ⟨b13034, h13034, k⟩ := k
  refine ⟨b13034, h13034, ?_⟩
  refine sX10_is_0 (d := d) M b13034 (0 : Int32) ?_
  refine zite k (fun h13035 k => ?_) (fun h13035 k => ?_)
  · refine zite k (fun h13036 k => ?_) (fun h13036 k => ?_)
    · show Z E YX9_tried (d + 1) M [(0, vr (some (a0, 8, 0)))] 8 [vi (1 : Int32)] Q
      refine sX9_tried_8 (d := d) M _ (1 : Int32) ?_
      refine zneg (show ¬ ((1 : Int32) = 0) from by decide) ?_
      exact k
    · show Z E YX9_tried (d + 1) M [(0, vr (some (a0, 8, 0)))] 8 [vi (0 : Int32)] Q
      refine sX9_tried_8 (d := d) M _ (0 : Int32) ?_
      refine zpos (show (0 : Int32) = 0 from by decide) ?_
      refine ⟨b13034, h13034, ?_⟩
      exact k
  · show Z E YX9_tried (d + 1) M [(0, vr (some (a0, 8, 0)))] 8 [vi (0 : Int32)] Q
    refine sX9_tried_8 (d := d) M _ (0 : Int32) ?_
    refine zpos (show (0 : Int32) = 0 from by decide) ?_
    refine ⟨b13034, h13034, ?_⟩
    exact k
theorem iX9_tried_33 {E : zE} {d : Nat} {Q : zO → zM → Prop} (M : zM) (a0 : Nat) (r1 : Option zP) (s0 : Int32) (k : if s0 = 0 then (∃ b13040 : Nat, (gr M a0 1) = some (b13040, 9, 0) ∧ (if (gi M b13040 3) = (2 : Int32) then (if (gi M b13040 6) = (9 : Int32) then (Z E YX10_takesWord d M (zargs 0 [vr (some (b13040, 9, 0)), vi (9 : Int32)]) 0 [] (zafter E YX9_tried (d + 1) [(0, vr (some (a0, 8, 0))), (1, vr r1)] 115 3 [] Q)) else (Z E YX10_fault d M (zargs 0 [vr (some (b13040, 9, 0)), vi (2 : Int32)]) 0 [] (zafter E YX9_tried (d + 1) [] 105 3 [] Q))) else (Z E YX10_fault d M (zargs 0 [vr (some (b13040, 9, 0)), vi (2 : Int32)]) 0 [] (zafter E YX9_tried (d + 1) [] 105 3 [] Q)))) else (∃ b13043 : Nat, (gr M a0 1) = some (b13043, 9, 0) ∧ (Z E YX10_need d M (zargs 0 [vr (some (b13043, 9, 0)), vi (2 : Int32)]) 0 [] (zafter E YX9_tried (d + 1) [(0, vr (some (a0, 8, 0))), (1, vr r1), (2, vi s0)] 43 3 [] Q)))) : Z E YX9_tried (d + 1) M [(0, vr (some (a0, 8, 0))), (1, vr r1)] 33 [vi s0] Q := by
  refine sX9_tried_33 (d := d) M a0 r1 s0 ?_
  refine zite k (fun h13039 k => ?_) (fun h13039 k => ?_)
  · refine sX9_tried_84 (d := d) M _ r1 s0 ?_
    refine zpos h13039 ?_
    obtain ⟨b13040, h13040, k⟩ := k
    refine ⟨b13040, h13040, ?_⟩
    refine sX10_isWord_0 (d := d) M b13040 (9 : Int32) ?_
    refine zite k (fun h13041 k => ?_) (fun h13041 k => ?_)
    · refine zite k (fun h13042 k => ?_) (fun h13042 k => ?_)
      · show Z E YX9_tried (d + 1) M [(0, vr (some (a0, 8, 0))), (1, vr r1)] 97 [vi (1 : Int32)] Q
        refine sX9_tried_97 (d := d) M _ r1 (1 : Int32) ?_
        refine zneg (show ¬ ((1 : Int32) = 0) from by decide) ?_
        refine ⟨b13040, h13040, ?_⟩
        exact k
      · show Z E YX9_tried (d + 1) M [(0, vr (some (a0, 8, 0))), (1, vr r1)] 97 [vi (0 : Int32)] Q
        refine sX9_tried_97 (d := d) M _ r1 (0 : Int32) ?_
        refine zpos (show (0 : Int32) = 0 from by decide) ?_
        refine ⟨b13040, h13040, ?_⟩
        exact k
    · show Z E YX9_tried (d + 1) M [(0, vr (some (a0, 8, 0))), (1, vr r1)] 97 [vi (0 : Int32)] Q
      refine sX9_tried_97 (d := d) M _ r1 (0 : Int32) ?_
      refine zpos (show (0 : Int32) = 0 from by decide) ?_
      refine ⟨b13040, h13040, ?_⟩
      exact k
  · exact k
theorem iX9_tried_118 {E : zE} {d : Nat} {Q : zO → zM → Prop} (M : zM) (a0 : Nat) (r1 : Option zP) (s0 : Int32) (k : if s0 = 0 then (Q (.inl (some (vr r1))) M) else (Z E YX9_block d (zn M 3) (zargs 0 [vr (some (a0, 8, 0))]) 0 [] (zafter E YX9_tried (d + 1) [] 128 3 [vi (-1 : Int32), vr r1, vr (some ((zsz M), 43, 0)), vr (some ((zsz M), 43, 0))] Q))) : Z E YX9_tried (d + 1) M [(0, vr (some (a0, 8, 0))), (1, vr r1)] 118 [vi s0] Q := by
  refine sX9_tried_118 (d := d) M a0 r1 s0 ?_
  refine zite k (fun h13044 k => ?_) (fun h13044 k => ?_)
  · exact k
  · refine sX9_tried_124 (d := d) (zn M 3) _ r1 (zsz M) ?_
    exact k
theorem iX9_tried_131 {E : zE} {d : Nat} {Q : zO → zM → Prop} (M : zM) (u0 : Option zP) (s1 : Int32) (u2 : Option zP) (p3 : Nat) (p4 : Nat) (k : 16 ≤ p3 ∧ (Q (.inl (some (vr (some (p4, 43, 0))))) (sr (si (sr M p3 0 u2) p3 2 s1) p3 1 u0))) : Z E YX9_tried (d + 3) M [] 131 [vr u0, vi s1, vr u2, vr (some (p3, 43, 0)), vr (some (p4, 43, 0))] Q := by
  refine sX9_tried_131 (d := (d + 2)) M u0 s1 u2 p3 p4 ?_
  refine jX38_init (d := d) M p3 u2 s1 u0 ?_
  refine zand k (fun h13048 k => ?_)
  show Z E YX9_tried ((d + 2) + 1) (sr (si (sr M p3 0 u2) p3 2 s1) p3 1 u0) [] 134 [vr (some (p4, 43, 0))] Q
  refine sX9_tried_134 (d := (d + 2)) (sr (si (sr M p3 0 u2) p3 2 s1) p3 1 u0) p4 ?_
  exact k
theorem iX9_tried_70 {E : zE} {d : Nat} {Q : zO → zM → Prop} (M : zM) (a0 : Nat) (r1 : Option zP) (l2 : Int32) (l3 : Int32) (k : Z E YX9_block d (zn M 3) (zargs 0 [vr (some (a0, 8, 0))]) 0 [] (zafter E YX9_tried (d + 1) [(0, vr (some (a0, 8, 0))), (2, vi l2)] 77 3 [vi l3, vr r1, vr (some ((zsz M), 43, 0)), vr (some ((zsz M), 43, 0))] Q)) : Z E YX9_tried (d + 1) M [(0, vr (some (a0, 8, 0))), (1, vr r1), (2, vi l2), (3, vi l3)] 70 [] Q := by
  refine sX9_tried_70 (d := d) M a0 r1 l2 l3 ?_
  refine sX9_tried_73 (d := d) (zn M 3) _ r1 l2 l3 (zsz M) ?_
  exact k
theorem iX9_tried_80 {E : zE} {d : Nat} {Q : zO → zM → Prop} (M : zM) (a0 : Nat) (l2 : Int32) (u0 : Option zP) (s1 : Int32) (u2 : Option zP) (p3 : Nat) (p4 : Nat) (k : 16 ≤ p3 ∧ (if l2 = 0 then (∃ b13053 : Nat, (gr (sr (si (sr M p3 0 u2) p3 2 s1) p3 1 u0) a0 1) = some (b13053, 9, 0) ∧ (if (gi (si (sr M p3 0 u2) p3 2 s1) b13053 3) = (2 : Int32) then (if (gi (si (sr M p3 0 u2) p3 2 s1) b13053 6) = (9 : Int32) then (Z E YX10_takesWord (d + 2) (sr (si (sr M p3 0 u2) p3 2 s1) p3 1 u0) (zargs 0 [vr (some (b13053, 9, 0)), vi (9 : Int32)]) 0 [] (zafter E YX9_tried ((d + 2) + 1) [(0, vr (some (a0, 8, 0))), (1, vr (some (p4, 43, 0)))] 115 3 [] Q)) else (Z E YX10_fault (d + 2) (sr (si (sr M p3 0 u2) p3 2 s1) p3 1 u0) (zargs 0 [vr (some (b13053, 9, 0)), vi (2 : Int32)]) 0 [] (zafter E YX9_tried ((d + 2) + 1) [] 105 3 [] Q))) else (Z E YX10_fault (d + 2) (sr (si (sr M p3 0 u2) p3 2 s1) p3 1 u0) (zargs 0 [vr (some (b13053, 9, 0)), vi (2 : Int32)]) 0 [] (zafter E YX9_tried ((d + 2) + 1) [] 105 3 [] Q)))) else (∃ b13056 : Nat, (gr (sr (si (sr M p3 0 u2) p3 2 s1) p3 1 u0) a0 1) = some (b13056, 9, 0) ∧ (Z E YX10_takesWord (d + 2) (sr (si (sr M p3 0 u2) p3 2 s1) p3 1 u0) (zargs 0 [vr (some (b13056, 9, 0)), vi (9 : Int32)]) 0 [] (zafter E YX9_tried ((d + 2) + 1) [(0, vr (some (a0, 8, 0))), (1, vr (some (p4, 43, 0)))] 115 3 [] Q))))) : Z E YX9_tried (d + 3) M [(0, vr (some (a0, 8, 0))), (2, vi l2)] 80 [vr u0, vi s1, vr u2, vr (some (p3, 43, 0)), vr (some (p4, 43, 0))] Q := by
  refine sX9_tried_80 (d := (d + 2)) M a0 l2 u0 s1 u2 p3 p4 ?_
  refine jX38_init (d := d) M p3 u2 s1 u0 ?_
  refine zand k (fun h13051 k => ?_)
  show Z E YX9_tried ((d + 2) + 1) (sr (si (sr M p3 0 u2) p3 2 s1) p3 1 u0) [(0, vr (some (a0, 8, 0))), (2, vi l2)] 83 [vr (some (p4, 43, 0))] Q
  refine sX9_tried_83 (d := (d + 2)) (sr (si (sr M p3 0 u2) p3 2 s1) p3 1 u0) _ l2 p4 ?_
  refine sX9_tried_84 (d := (d + 2)) (sr (si (sr M p3 0 u2) p3 2 s1) p3 1 u0) _ (some (p4, 43, 0)) l2 ?_
  refine zite k (fun h13052 k => ?_) (fun h13052 k => ?_)
  · obtain ⟨b13053, h13053, k⟩ := k
    refine ⟨b13053, h13053, ?_⟩
    refine sX10_isWord_0 (d := (d + 2)) (sr (si (sr M p3 0 u2) p3 2 s1) p3 1 u0) b13053 (9 : Int32) ?_
    refine zite k (fun h13054 k => ?_) (fun h13054 k => ?_)
    · refine zite k (fun h13055 k => ?_) (fun h13055 k => ?_)
      · show Z E YX9_tried ((d + 2) + 1) (sr (si (sr M p3 0 u2) p3 2 s1) p3 1 u0) [(0, vr (some (a0, 8, 0))), (1, vr (some (p4, 43, 0)))] 97 [vi (1 : Int32)] Q
        refine sX9_tried_97 (d := (d + 2)) (sr (si (sr M p3 0 u2) p3 2 s1) p3 1 u0) _ (some (p4, 43, 0)) (1 : Int32) ?_
        refine zneg (show ¬ ((1 : Int32) = 0) from by decide) ?_
        refine ⟨b13053, h13053, ?_⟩
        exact k
      · show Z E YX9_tried ((d + 2) + 1) (sr (si (sr M p3 0 u2) p3 2 s1) p3 1 u0) [(0, vr (some (a0, 8, 0))), (1, vr (some (p4, 43, 0)))] 97 [vi (0 : Int32)] Q
        refine sX9_tried_97 (d := (d + 2)) (sr (si (sr M p3 0 u2) p3 2 s1) p3 1 u0) _ (some (p4, 43, 0)) (0 : Int32) ?_
        refine zpos (show (0 : Int32) = 0 from by decide) ?_
        refine ⟨b13053, h13053, ?_⟩
        exact k
    · show Z E YX9_tried ((d + 2) + 1) (sr (si (sr M p3 0 u2) p3 2 s1) p3 1 u0) [(0, vr (some (a0, 8, 0))), (1, vr (some (p4, 43, 0)))] 97 [vi (0 : Int32)] Q
      refine sX9_tried_97 (d := (d + 2)) (sr (si (sr M p3 0 u2) p3 2 s1) p3 1 u0) _ (some (p4, 43, 0)) (0 : Int32) ?_
      refine zpos (show (0 : Int32) = 0 from by decide) ?_
      refine ⟨b13053, h13053, ?_⟩
      exact k
  · exact k
theorem iX14_code_2 {E : zE} {d : Nat} {Q : zO → zM → Prop} (M : zM) (a0 : Nat) (r1 : Option zP) (l2 : Int32) (k : ∃ b13057 : Nat, (gr M a0 0) = some (b13057, 11, 0) ∧ (if (gi M b13057 2) ≤ l2 then (Q (.inl none) M) else (Z E YJ2_get d M (zargs 0 [vr (some (b13057, 11, 0)), vi l2]) 0 [] (zafter E YX14_code (d + 1) [(0, vr (some (a0, 20, 0))), (1, vr r1), (2, vi l2)] 18 3 [] Q)))) : Z E YX14_code (d + 1) M [(0, vr (some (a0, 20, 0))), (1, vr r1), (2, vi l2)] 2 [] Q := by
  refine sX14_code_2 (d := d) M a0 r1 l2 ?_
  obtain ⟨b13057, h13057, k⟩ := k
  refine ⟨b13057, h13057, ?_⟩
  refine sJ2_size_0 (d := d) M b13057 ?_
  show Z E YX14_code (d + 1) M [(0, vr (some (a0, 20, 0))), (1, vr r1), (2, vi l2)] 10 [vi (gi M b13057 2), vi l2] Q
  refine sX14_code_10 (d := d) M _ r1 l2 (gi M b13057 2) l2 ?_
  refine zite k (fun h13058 k => ?_) (fun h13058 k => ?_)
  · exact k
  · refine ⟨b13057, h13057, ?_⟩
    exact k
theorem iX14_init_0 {E : zE} {d : Nat} {Q : zO → zM → Prop} (M : zM) (a0 : Nat) (k : 16 ≤ (zsz M) ∧ (16 ≤ a0 ∧ (Q (.inl none) (sr (sr (si (zn M 3) (zsz M) 0 (0 : Int32)) (zsz M) 1 (some (1, 110, 0))) a0 0 (some ((zsz M), 11, 0)))))) : Z E YX14_init (d + 4) M [(0, vr (some (a0, 20, 0)))] 0 [] Q := by
  refine sX14_init_0 (d := (d + 3)) M a0 ?_
  refine sX13_init_0 (d := (d + 2)) M _ 20 ?_
  show Z E YX14_init ((d + 3) + 1) M [(0, vr (some (a0, 20, 0)))] 4 [] Q
  refine sX14_init_4 (d := (d + 3)) M _ ?_
  refine sX14_init_8 (d := (d + 3)) (zn M 3) (zsz M) _ ?_
  refine jJ2_init (d := d) (zn M 3) (zsz M) ?_
  refine zand k (fun h13061 k => ?_)
  show Z E YX14_init ((d + 3) + 1) (sr (si (zn M 3) (zsz M) 0 (0 : Int32)) (zsz M) 1 (some (1, 110, 0))) [] 12 [vr (some ((zsz M), 11, 0)), vr (some (a0, 20, 0))] Q
  refine sX14_init_12 (d := (d + 3)) (sr (si (zn M 3) (zsz M) 0 (0 : Int32)) (zsz M) 1 (some (1, 110, 0))) (zsz M) _ ?_
  exact k
theorem iX15_init_0 {E : zE} {d : Nat} {Q : zO → zM → Prop} (M : zM) (a0 : Nat) (r1 : Option zP) (k : 16 ≤ a0 ∧ (Q (.inl none) (sr M a0 0 r1))) : Z E YX15_init (d + 2) M [(0, vr (some (a0, 21, 0))), (1, vr r1)] 0 [] Q := by
  refine sX15_init_0 (d := (d + 1)) M a0 r1 ?_
  refine sX13_init_0 (d := d) M _ 21 ?_
  show Z E YX15_init ((d + 1) + 1) M [(0, vr (some (a0, 21, 0))), (1, vr r1)] 4 [] Q
  refine sX15_init_4 (d := (d + 1)) M _ r1 ?_
  exact k
theorem iX16_code_7 {E : zE} {d : Nat} {Q : zO → zM → Prop} (M : zM) (a0 : Nat) (r1 : Option zP) (s0 : Int32) (k : if s0 = 0 then (if (gi M a0 0) = (-1 : Int32) then (∃ b13074 t13074 : Nat, (gr M a0 2) = some (b13074, t13074, 0) ∧ (∃ Y_ : zY, vt_code t13074 = some Y_ ∧ Z E Y_ d M (zargs 0 [vr (some (b13074, t13074, 0)), vr r1]) 0 [] (zafter E YX16_code (d + 1) [(0, vr (some (a0, 22, 0))), (1, vr r1)] 106 3 [] Q))) else (∃ b13075 t13075 : Nat, (gr M a0 1) = some (b13075, t13075, 0) ∧ (∃ Y_ : zY, vt_code t13075 = some Y_ ∧ Z E Y_ d M (zargs 0 [vr (some (b13075, t13075, 0)), vr r1]) 0 [] (zafter E YX16_code (d + 1) [(0, vr (some (a0, 22, 0))), (1, vr r1)] 98 3 [] Q)))) else (∃ b13076 : Nat, (gr M a0 1) = some (b13076, 30, 0) ∧ (Z E YX24_place d M (zargs 0 [vr (some (b13076, 30, 0)), vr r1]) 0 [] (zafter E YX16_code (d + 1) [(0, vr (some (a0, 22, 0))), (1, vr r1)] 18 3 [] Q)))) : Z E YX16_code (d + 1) M [(0, vr (some (a0, 22, 0))), (1, vr r1)] 7 [vi s0] Q := by
  refine sX16_code_7 (d := d) M a0 r1 s0 ?_
  refine zite k (fun h13072 k => ?_) (fun h13072 k => ?_)
  · refine zite k (fun h13073 k => ?_) (fun h13073 k => ?_)
    · refine sX16_code_101 (d := d) M _ r1 ?_
      exact k
    · exact k
  · exact k
theorem iX16_init_0 {E : zE} {d : Nat} {Q : zO → zM → Prop} (M : zM) (a0 : Nat) (l1 : Int32) (r2 : Option zP) (r3 : Option zP) (k : 16 ≤ a0 ∧ (Q (.inl none) (sr (sr (si M a0 0 l1) a0 1 r2) a0 2 r3))) : Z E YX16_init (d + 2) M [(0, vr (some (a0, 22, 0))), (1, vi l1), (2, vr r2), (3, vr r3)] 0 [] Q := by
  refine sX16_init_0 (d := (d + 1)) M a0 l1 r2 r3 ?_
  refine sX13_init_0 (d := d) M _ 22 ?_
  show Z E YX16_init ((d + 1) + 1) M [(0, vr (some (a0, 22, 0))), (1, vi l1), (2, vr r2), (3, vr r3)] 4 [] Q
  refine sX16_init_4 (d := (d + 1)) M _ l1 r2 r3 ?_
  refine zand k (fun h13096 k => ?_)
  refine ⟨h13096, ?_⟩
  refine ⟨h13096, ?_⟩
  exact k
theorem iX17_init_0 {E : zE} {d : Nat} {Q : zO → zM → Prop} (M : zM) (a0 : Nat) (l1 : Int32) (k : 16 ≤ a0 ∧ (Q (.inl none) (si M a0 0 l1))) : Z E YX17_init (d + 2) M [(0, vr (some (a0, 23, 0))), (1, vi l1)] 0 [] Q := by
  refine sX17_init_0 (d := (d + 1)) M a0 l1 ?_
  refine sX13_init_0 (d := d) M _ 23 ?_
  show Z E YX17_init ((d + 1) + 1) M [(0, vr (some (a0, 23, 0))), (1, vi l1)] 4 [] Q
  refine sX17_init_4 (d := (d + 1)) M _ l1 ?_
  exact k
theorem iX18_init_0 {E : zE} {d : Nat} {Q : zO → zM → Prop} (M : zM) (a0 : Nat) (l1 : Int32) (l2 : Int32) (k : 16 ≤ a0 ∧ (Q (.inl none) (si (si M a0 0 l1) a0 1 l2))) : Z E YX18_init (d + 2) M [(0, vr (some (a0, 24, 0))), (1, vi l1), (2, vi l2)] 0 [] Q := by
  refine sX18_init_0 (d := (d + 1)) M a0 l1 l2 ?_
  refine sX13_init_0 (d := d) M _ 24 ?_
  show Z E YX18_init ((d + 1) + 1) M [(0, vr (some (a0, 24, 0))), (1, vi l1), (2, vi l2)] 4 [] Q
  refine sX18_init_4 (d := (d + 1)) M _ l1 l2 ?_
  refine zand k (fun h13100 k => ?_)
  refine ⟨h13100, ?_⟩
  exact k
theorem iX19_init_0 {E : zE} {d : Nat} {Q : zO → zM → Prop} (M : zM) (a0 : Nat) (k : Q (.inl none) M) : Z E YX19_init (d + 2) M [(0, vr (some (a0, 25, 0)))] 0 [] Q := by
  refine sX19_init_0 (d := (d + 1)) M a0 ?_
  refine sX13_init_0 (d := d) M _ 25 ?_
  show Z E YX19_init ((d + 1) + 1) M [] 4 [] Q
  refine sX19_init_4 (d := (d + 1)) M  ?_
  exact k
theorem iX20_init_0 {E : zE} {d : Nat} {Q : zO → zM → Prop} (M : zM) (a0 : Nat) (l1 : Int32) (k : 16 ≤ a0 ∧ (Q (.inl none) (si M a0 0 l1))) : Z E YX20_init (d + 2) M [(0, vr (some (a0, 26, 0))), (1, vi l1)] 0 [] Q := by
  refine sX20_init_0 (d := (d + 1)) M a0 l1 ?_
  refine sX13_init_0 (d := d) M _ 26 ?_
  show Z E YX20_init ((d + 1) + 1) M [(0, vr (some (a0, 26, 0))), (1, vi l1)] 4 [] Q
  refine sX20_init_4 (d := (d + 1)) M _ l1 ?_
  exact k
theorem iX21_init_0 {E : zE} {d : Nat} {Q : zO → zM → Prop} (M : zM) (a0 : Nat) (r1 : Option zP) (k : 16 ≤ a0 ∧ (Q (.inl none) (sr M a0 0 r1))) : Z E YX21_init (d + 2) M [(0, vr (some (a0, 27, 0))), (1, vr r1)] 0 [] Q := by
  refine sX21_init_0 (d := (d + 1)) M a0 r1 ?_
  refine sX13_init_0 (d := d) M _ 27 ?_
  show Z E YX21_init ((d + 1) + 1) M [(0, vr (some (a0, 27, 0))), (1, vr r1)] 4 [] Q
  refine sX21_init_4 (d := (d + 1)) M _ r1 ?_
  exact k
theorem iX22_code_2 {E : zE} {d : Nat} {Q : zO → zM → Prop} (M : zM) (a0 : Nat) (r1 : Option zP) (l2 : Int32) (k : ∃ b13106 : Nat, (gr M a0 0) = some (b13106, 11, 0) ∧ (if (gi M b13106 2) ≤ l2 then (Q (.inl none) M) else (if l2 ≤ 0 then (Z E YJ2_get d M (zargs 0 [vr (some (b13106, 11, 0)), vi l2]) 0 [] (zafter E YX22_code (d + 1) [(0, vr (some (a0, 28, 0))), (1, vr r1), (2, vi l2)] 31 3 [] Q)) else (∃ b13109 : Nat, r1 = some (b13109, 3, 0) ∧ (Z E YX3_put d M (zargs 0 [vr (some (b13109, 3, 0)), vi (17 : Int32), vi (0 : Int32), vi (0 : Int32)]) 0 [] (zafter E YX22_code (d + 1) [(0, vr (some (a0, 28, 0))), (1, vr (some (b13109, 3, 0))), (2, vi l2)] 22 3 [] Q)))))) : Z E YX22_code (d + 1) M [(0, vr (some (a0, 28, 0))), (1, vr r1), (2, vi l2)] 2 [] Q := by
  refine sX22_code_2 (d := d) M a0 r1 l2 ?_
  obtain ⟨b13106, h13106, k⟩ := k
  refine ⟨b13106, h13106, ?_⟩
  refine sJ2_size_0 (d := d) M b13106 ?_
  show Z E YX22_code (d + 1) M [(0, vr (some (a0, 28, 0))), (1, vr r1), (2, vi l2)] 10 [vi (gi M b13106 2), vi l2] Q
  refine sX22_code_10 (d := d) M _ r1 l2 (gi M b13106 2) l2 ?_
  refine zite k (fun h13107 k => ?_) (fun h13107 k => ?_)
  · exact k
  · refine zite k (fun h13108 k => ?_) (fun h13108 k => ?_)
    · refine ⟨b13106, h13106, ?_⟩
      exact k
    · exact k
theorem iX22_init_0 {E : zE} {d : Nat} {Q : zO → zM → Prop} (M : zM) (a0 : Nat) (k : 16 ≤ (zsz M) ∧ (16 ≤ a0 ∧ (Q (.inl none) (sr (sr (si (zn M 3) (zsz M) 0 (0 : Int32)) (zsz M) 1 (some (1, 110, 0))) a0 0 (some ((zsz M), 11, 0)))))) : Z E YX22_init (d + 4) M [(0, vr (some (a0, 28, 0)))] 0 [] Q := by
  refine sX22_init_0 (d := (d + 3)) M a0 ?_
  refine sX13_init_0 (d := (d + 2)) M _ 28 ?_
  show Z E YX22_init ((d + 3) + 1) M [(0, vr (some (a0, 28, 0)))] 4 [] Q
  refine sX22_init_4 (d := (d + 3)) M _ ?_
  refine sX22_init_8 (d := (d + 3)) (zn M 3) (zsz M) _ ?_
  refine jJ2_init (d := d) (zn M 3) (zsz M) ?_
  refine zand k (fun h13113 k => ?_)
  show Z E YX22_init ((d + 3) + 1) (sr (si (zn M 3) (zsz M) 0 (0 : Int32)) (zsz M) 1 (some (1, 110, 0))) [] 12 [vr (some ((zsz M), 11, 0)), vr (some (a0, 28, 0))] Q
  refine sX22_init_12 (d := (d + 3)) (sr (si (zn M 3) (zsz M) 0 (0 : Int32)) (zsz M) 1 (some (1, 110, 0))) (zsz M) _ ?_
  exact k
theorem iX23_code_21 {E : zE} {d : Nat} {Q : zO → zM → Prop} (M : zM) (a0 : Nat) (a1 : Nat) (l2 : Int32) (k : ∃ b13120 : Nat, (gr M a0 1) = some (b13120, 11, 0) ∧ (if (gi M b13120 2) ≤ l2 then (Q (.inl none) M) else (Z E YX3_put d M (zargs 0 [vr (some (a1, 3, 0)), vi (18 : Int32), vi (0 : Int32), vi (0 : Int32)]) 0 [] (zafter E YX23_code (d + 1) [(0, vr (some (a0, 29, 0))), (1, vr (some (a1, 3, 0))), (2, vi l2)] 37 3 [] Q)))) : Z E YX23_code (d + 1) M [(0, vr (some (a0, 29, 0))), (1, vr (some (a1, 3, 0))), (2, vi l2)] 21 [] Q := by
  refine sX23_code_21 (d := d) M a0 a1 l2 ?_
  obtain ⟨b13120, h13120, k⟩ := k
  refine ⟨b13120, h13120, ?_⟩
  refine sJ2_size_0 (d := d) M b13120 ?_
  show Z E YX23_code (d + 1) M [(0, vr (some (a0, 29, 0))), (1, vr (some (a1, 3, 0))), (2, vi l2)] 29 [vi (gi M b13120 2), vi l2] Q
  refine sX23_code_29 (d := d) M _ _ l2 (gi M b13120 2) l2 ?_
  exact k
theorem iX23_init_0 {E : zE} {d : Nat} {Q : zO → zM → Prop} (M : zM) (a0 : Nat) (l1 : Int32) (k : 16 ≤ (zsz M) ∧ (16 ≤ a0 ∧ (zfit .boolean l1 ∧ (if l1 = 0 then (Q (.inl none) (sr (zn (si (sr (sr (si (zn M 3) (zsz M) 0 (0 : Int32)) (zsz M) 1 (some (1, 110, 0))) a0 1 (some ((zsz M), 11, 0))) a0 0 l1) 16) a0 2 (some ((zsz (sr (si (zn M 3) (zsz M) 0 (0 : Int32)) (zsz M) 1 (some (1, 110, 0)))), 100, 16)))) else (Q (.inl none) (sr (si (sr (sr (si (zn M 3) (zsz M) 0 (0 : Int32)) (zsz M) 1 (some (1, 110, 0))) a0 1 (some ((zsz M), 11, 0))) a0 0 l1) a0 2 none)))))) : Z E YX23_init (d + 4) M [(0, vr (some (a0, 29, 0))), (1, vi l1)] 0 [] Q := by
  refine sX23_init_0 (d := (d + 3)) M a0 l1 ?_
  refine sX13_init_0 (d := (d + 2)) M _ 29 ?_
  show Z E YX23_init ((d + 3) + 1) M [(0, vr (some (a0, 29, 0))), (1, vi l1)] 4 [] Q
  refine sX23_init_4 (d := (d + 3)) M _ l1 ?_
  refine sX23_init_8 (d := (d + 3)) (zn M 3) _ l1 (zsz M) ?_
  refine jJ2_init (d := d) (zn M 3) (zsz M) ?_
  refine zand k (fun h13129 k => ?_)
  show Z E YX23_init ((d + 3) + 1) (sr (si (zn M 3) (zsz M) 0 (0 : Int32)) (zsz M) 1 (some (1, 110, 0))) [(0, vr (some (a0, 29, 0))), (1, vi l1)] 12 [vr (some ((zsz M), 11, 0)), vr (some (a0, 29, 0))] Q
  refine sX23_init_12 (d := (d + 3)) (sr (si (zn M 3) (zsz M) 0 (0 : Int32)) (zsz M) 1 (some (1, 110, 0))) _ l1 (zsz M) ?_
  refine zand k (fun h13130 k => ?_)
  refine ⟨h13130, ?_⟩
  refine zand k (fun h13131 k => ?_)
  refine zite k (fun h13132 k => ?_) (fun h13132 k => ?_)
  · refine sX23_init_33 (d := (d + 3)) (zn (si (sr (sr (si (zn M 3) (zsz M) 0 (0 : Int32)) (zsz M) 1 (some (1, 110, 0))) a0 1 (some ((zsz M), 11, 0))) a0 0 l1) 16) (some ((zsz (sr (si (zn M 3) (zsz M) 0 (0 : Int32)) (zsz M) 1 (some (1, 110, 0)))), 100, 16)) _ ?_
    refine ⟨h13130, ?_⟩
    exact k
  · refine sX23_init_33 (d := (d + 3)) (si (sr (sr (si (zn M 3) (zsz M) 0 (0 : Int32)) (zsz M) 1 (some (1, 110, 0))) a0 1 (some ((zsz M), 11, 0))) a0 0 l1) none _ ?_
    refine ⟨h13130, ?_⟩
    exact k
theorem iX24_code_0 {E : zE} {d : Nat} {Q : zO → zM → Prop} (M : zM) (a0 : Nat) (r1 : Option zP) (k : ∃ b13133 : Nat, (gr M a0 1) = some (b13133, 11, 0) ∧ (Z E YX24_upTo d M (zargs 0 [vr (some (a0, 30, 0)), vr r1, vi (gi M b13133 2)]) 0 [] (zafter E YX24_code (d + 1) [] 9 3 [] Q))) : Z E YX24_code (d + 1) M [(0, vr (some (a0, 30, 0))), (1, vr r1)] 0 [] Q := by
  refine sX24_code_0 (d := d) M a0 r1 ?_
  obtain ⟨b13133, h13133, k⟩ := k
  refine ⟨b13133, h13133, ?_⟩
  refine sJ2_size_0 (d := d) M b13133 ?_
  show Z E YX24_code (d + 1) M [] 9 [vi (gi M b13133 2), vr r1, vr (some (a0, 30, 0))] Q
  refine sX24_code_9 (d := d) M (gi M b13133 2) r1 _ ?_
  exact k
theorem iX24_init_0 {E : zE} {d : Nat} {Q : zO → zM → Prop} (M : zM) (a0 : Nat) (r1 : Option zP) (k : 16 ≤ (zsz M) ∧ (16 ≤ a0 ∧ (Q (.inl none) (sr (sr (sr (si (zn M 3) (zsz M) 0 (0 : Int32)) (zsz M) 1 (some (1, 110, 0))) a0 1 (some ((zsz M), 11, 0))) a0 0 r1)))) : Z E YX24_init (d + 4) M [(0, vr (some (a0, 30, 0))), (1, vr r1)] 0 [] Q := by
  refine sX24_init_0 (d := (d + 3)) M a0 r1 ?_
  refine sX13_init_0 (d := (d + 2)) M _ 30 ?_
  show Z E YX24_init ((d + 3) + 1) M [(0, vr (some (a0, 30, 0))), (1, vr r1)] 4 [] Q
  refine sX24_init_4 (d := (d + 3)) M _ r1 ?_
  refine sX24_init_8 (d := (d + 3)) (zn M 3) _ r1 (zsz M) ?_
  refine jJ2_init (d := d) (zn M 3) (zsz M) ?_
  refine zand k (fun h13134 k => ?_)
  show Z E YX24_init ((d + 3) + 1) (sr (si (zn M 3) (zsz M) 0 (0 : Int32)) (zsz M) 1 (some (1, 110, 0))) [(0, vr (some (a0, 30, 0))), (1, vr r1)] 12 [vr (some ((zsz M), 11, 0)), vr (some (a0, 30, 0))] Q
  refine sX24_init_12 (d := (d + 3)) (sr (si (zn M 3) (zsz M) 0 (0 : Int32)) (zsz M) 1 (some (1, 110, 0))) _ r1 (zsz M) ?_
  refine zand k (fun h13135 k => ?_)
  refine ⟨h13135, ?_⟩
  exact k
theorem iX24_isMember_0 {E : zE} {d : Nat} {Q : zO → zM → Prop} (M : zM) (a0 : Nat) (k : ∃ b13136 : Nat, (gr M a0 1) = some (b13136, 11, 0) ∧ (Z E YJ2_get d M (zargs 0 [vr (some (b13136, 11, 0)), vi ((gi M b13136 2) - (1 : Int32))]) 0 [] (zafter E YX24_isMember (d + 1) [] 13 3 [] Q))) : Z E YX24_isMember (d + 1) M [(0, vr (some (a0, 30, 0)))] 0 [] Q := by
  refine sX24_isMember_0 (d := d) M a0 ?_
  obtain ⟨b13136, h13136, k⟩ := k
  refine ⟨b13136, h13136, ?_⟩
  refine sJ2_size_0 (d := d) M b13136 ?_
  show Z E YX24_isMember (d + 1) M [] 11 [vi (gi M b13136 2), vr (some (b13136, 11, 0))] Q
  refine sX24_isMember_11 (d := d) M (gi M b13136 2) b13136 ?_
  exact k
theorem iX24_place_0 {E : zE} {d : Nat} {Q : zO → zM → Prop} (M : zM) (a0 : Nat) (r1 : Option zP) (k : ∃ b13146 : Nat, (gr M a0 1) = some (b13146, 11, 0) ∧ (Z E YX24_upTo d M (zargs 0 [vr (some (a0, 30, 0)), vr r1, vi ((gi M b13146 2) - (1 : Int32))]) 0 [] (zafter E YX24_place (d + 1) [(0, vr (some (a0, 30, 0))), (1, vr r1)] 11 3 [] Q))) : Z E YX24_place (d + 1) M [(0, vr (some (a0, 30, 0))), (1, vr r1)] 0 [] Q := by
  refine sX24_place_0 (d := d) M a0 r1 ?_
  obtain ⟨b13146, h13146, k⟩ := k
  refine ⟨b13146, h13146, ?_⟩
  refine sJ2_size_0 (d := d) M b13146 ?_
  show Z E YX24_place (d + 1) M [(0, vr (some (a0, 30, 0))), (1, vr r1)] 9 [vi (gi M b13146 2), vr r1, vr (some (a0, 30, 0))] Q
  refine sX24_place_9 (d := d) M _ r1 (gi M b13146 2) r1 ?_
  exact k
theorem iX24_place_14 {E : zE} {d : Nat} {Q : zO → zM → Prop} (M : zM) (a0 : Nat) (r1 : Option zP) (k : ∃ b13147 : Nat, (gr M a0 1) = some (b13147, 11, 0) ∧ (Z E YJ2_get d M (zargs 0 [vr (some (b13147, 11, 0)), vi ((gi M b13147 2) - (1 : Int32))]) 0 [] (zafter E YX24_place (d + 1) [(1, vr r1)] 27 3 [] Q))) : Z E YX24_place (d + 1) M [(0, vr (some (a0, 30, 0))), (1, vr r1)] 14 [] Q := by
  refine sX24_place_14 (d := d) M a0 r1 ?_
  obtain ⟨b13147, h13147, k⟩ := k
  refine ⟨b13147, h13147, ?_⟩
  refine sJ2_size_0 (d := d) M b13147 ?_
  show Z E YX24_place (d + 1) M [(1, vr r1)] 25 [vi (gi M b13147 2), vr (some (b13147, 11, 0))] Q
  refine sX24_place_25 (d := d) M r1 (gi M b13147 2) b13147 ?_
  exact k
theorem iX24_upTo_121 {E : zE} {d : Nat} {Q : zO → zM → Prop} (M : zM) (a0 : Nat) (r1 : Option zP) (l2 : Int32) (l3 : Int32) (a4 : Nat) (l5 : Int32) (k : ∃ b13165 : Nat, (gr M a4 2) = some (b13165, 11, 0) ∧ (if (gi M b13165 2) ≤ l5 then (∃ b13167 : Nat, r1 = some (b13167, 3, 0) ∧ (Z E YX3_put d M (zargs 0 [vr (some (b13167, 3, 0)), vi (15 : Int32), vi (gi M b13165 2), vi (0 : Int32)]) 0 [] (zafter E YX24_upTo (d + 1) [(0, vr (some (a0, 30, 0))), (1, vr r1), (2, vi l2), (3, vi l3)] 169 3 [] Q))) else (Z E YJ2_get d M (zargs 0 [vr (some (b13165, 11, 0)), vi l5]) 0 [] (zafter E YX24_upTo (d + 1) [(0, vr (some (a0, 30, 0))), (1, vr r1), (2, vi l2), (3, vi l3), (4, vr (some (a4, 19, 0))), (5, vi l5)] 141 3 [] Q)))) : Z E YX24_upTo (d + 1) M [(0, vr (some (a0, 30, 0))), (1, vr r1), (2, vi l2), (3, vi l3), (4, vr (some (a4, 19, 0))), (5, vi l5)] 121 [] Q := by
  refine sX24_upTo_121 (d := d) M a0 r1 l2 l3 a4 l5 ?_
  obtain ⟨b13165, h13165, k⟩ := k
  refine ⟨b13165, h13165, ?_⟩
  refine sJ2_size_0 (d := d) M b13165 ?_
  show Z E YX24_upTo (d + 1) M [(0, vr (some (a0, 30, 0))), (1, vr r1), (2, vi l2), (3, vi l3), (4, vr (some (a4, 19, 0))), (5, vi l5)] 131 [vi (gi M b13165 2), vi l5] Q
  refine sX24_upTo_131 (d := d) M _ r1 l2 l3 _ l5 (gi M b13165 2) l5 ?_
  refine zite k (fun h13166 k => ?_) (fun h13166 k => ?_)
  · refine ⟨b13165, h13165, ?_⟩
    refine sJ2_size_0 (d := d) M b13165 ?_
    show Z E YX24_upTo (d + 1) M [(0, vr (some (a0, 30, 0))), (1, vr r1), (2, vi l2), (3, vi l3)] 168 [vi (gi M b13165 2), vi (15 : Int32), vr r1] Q
    refine sX24_upTo_168 (d := d) M _ r1 l2 l3 (gi M b13165 2) (15 : Int32) r1 ?_
    exact k
  · refine ⟨b13165, h13165, ?_⟩
    exact k
theorem iX25_init_0 {E : zE} {d : Nat} {Q : zO → zM → Prop} (M : zM) (a0 : Nat) (l1 : Int32) (r2 : Option zP) (r3 : Option zP) (k : 16 ≤ a0 ∧ (Q (.inl none) (sr (sr (si M a0 0 l1) a0 1 r2) a0 2 r3))) : Z E YX25_init (d + 1) M [(0, vr (some (a0, 19, 0))), (1, vi l1), (2, vr r2), (3, vr r3)] 0 [] Q := by
  refine sX25_init_0 (d := d) M a0 l1 r2 r3 ?_
  refine zand k (fun h13170 k => ?_)
  refine ⟨h13170, ?_⟩
  refine ⟨h13170, ?_⟩
  exact k
theorem iX26_code_10 {E : zE} {d : Nat} {Q : zO → zM → Prop} (M : zM) (a0 : Nat) (r1 : Option zP) (l2 : Int32) (k : ∃ b13175 : Nat, (gr M a0 1) = some (b13175, 11, 0) ∧ (if (gi M b13175 2) ≤ l2 then (∃ b13177 : Nat, r1 = some (b13177, 3, 0) ∧ (Z E YX3_site d M (zargs 0 [vr (some (b13177, 3, 0)), vi (16 : Int32), vi (gi M b13175 2)]) 0 [] (zafter E YX26_code (d + 1) [] 52 3 [] Q))) else (Z E YJ2_get d M (zargs 0 [vr (some (b13175, 11, 0)), vi l2]) 0 [] (zafter E YX26_code (d + 1) [(0, vr (some (a0, 31, 0))), (1, vr r1), (2, vi l2)] 26 3 [] Q)))) : Z E YX26_code (d + 1) M [(0, vr (some (a0, 31, 0))), (1, vr r1), (2, vi l2)] 10 [] Q := by
  refine sX26_code_10 (d := d) M a0 r1 l2 ?_
  obtain ⟨b13175, h13175, k⟩ := k
  refine ⟨b13175, h13175, ?_⟩
  refine sJ2_size_0 (d := d) M b13175 ?_
  show Z E YX26_code (d + 1) M [(0, vr (some (a0, 31, 0))), (1, vr r1), (2, vi l2)] 18 [vi (gi M b13175 2), vi l2] Q
  refine sX26_code_18 (d := d) M _ r1 l2 (gi M b13175 2) l2 ?_
  refine zite k (fun h13176 k => ?_) (fun h13176 k => ?_)
  · refine ⟨b13175, h13175, ?_⟩
    refine sJ2_size_0 (d := d) M b13175 ?_
    show Z E YX26_code (d + 1) M [] 52 [vi (gi M b13175 2), vi (16 : Int32), vr r1] Q
    refine sX26_code_52 (d := d) M (gi M b13175 2) (16 : Int32) r1 ?_
    exact k
  · refine ⟨b13175, h13175, ?_⟩
    exact k
theorem iX26_init_0 {E : zE} {d : Nat} {Q : zO → zM → Prop} (M : zM) (a0 : Nat) (r1 : Option zP) (r2 : Option zP) (k : 16 ≤ a0 ∧ (Q (.inl none) (sr (sr M a0 0 r1) a0 1 r2))) : Z E YX26_init (d + 2) M [(0, vr (some (a0, 31, 0))), (1, vr r1), (2, vr r2)] 0 [] Q := by
  refine sX26_init_0 (d := (d + 1)) M a0 r1 r2 ?_
  refine sX13_init_0 (d := d) M _ 31 ?_
  show Z E YX26_init ((d + 1) + 1) M [(0, vr (some (a0, 31, 0))), (1, vr r1), (2, vr r2)] 4 [] Q
  refine sX26_init_4 (d := (d + 1)) M _ r1 r2 ?_
  refine zand k (fun h13180 k => ?_)
  refine ⟨h13180, ?_⟩
  exact k
theorem iX27_code_40 {E : zE} {d : Nat} {Q : zO → zM → Prop} (M : zM) (a0 : Nat) (a1 : Nat) (l2 : Int32) (s0 : Int32) (k : Z E YX3_put d M (zargs 0 [vr (some (a1, 3, 0)), vi (13 : Int32), vi (0 : Int32), vi (0 : Int32)]) 0 [] (zafter E YX27_code (d + 1) [(0, vr (some (a0, 32, 0))), (1, vr (some (a1, 3, 0))), (2, vi l2)] 57 3 [] Q)) : Z E YX27_code (d + 1) M [(0, vr (some (a0, 32, 0))), (1, vr (some (a1, 3, 0))), (2, vi l2)] 40 [vi s0] Q := by
  refine sX27_code_40 (d := d) M a0 a1 l2 s0 ?_
  refine sX27_code_52 (d := d) M _ (some (a1, 3, 0)) l2 ?_
  refine ⟨a1, rfl, ?_⟩
  exact k
theorem iX27_code_118 {E : zE} {d : Nat} {Q : zO → zM → Prop} (M : zM) (a0 : Nat) (a1 : Nat) (s0 : Int32) (k : if (gi M a0 1) = 0 then (Q (.inl none) M) else (Z E YX3_put d M (zargs 0 [vr (some (a1, 3, 0)), vi (17 : Int32), vi (0 : Int32), vi (0 : Int32)]) 0 [] (zafter E YX27_code (d + 1) [] 148 3 [] Q))) : Z E YX27_code (d + 1) M [(0, vr (some (a0, 32, 0))), (1, vr (some (a1, 3, 0)))] 118 [vi s0] Q := by
  refine sX27_code_118 (d := d) M a0 a1 s0 ?_
  refine sX27_code_136 (d := d) M _ _ ?_
  exact k
theorem iX27_init_0 {E : zE} {d : Nat} {Q : zO → zM → Prop} (M : zM) (a0 : Nat) (l1 : Int32) (l2 : Int32) (r3 : Option zP) (k : 16 ≤ a0 ∧ (zfit .boolean l2 ∧ (Q (.inl none) (sr (si (si M a0 0 l1) a0 1 l2) a0 2 r3)))) : Z E YX27_init (d + 2) M [(0, vr (some (a0, 32, 0))), (1, vi l1), (2, vi l2), (3, vr r3)] 0 [] Q := by
  refine sX27_init_0 (d := (d + 1)) M a0 l1 l2 r3 ?_
  refine sX13_init_0 (d := d) M _ 32 ?_
  show Z E YX27_init ((d + 1) + 1) M [(0, vr (some (a0, 32, 0))), (1, vi l1), (2, vi l2), (3, vr r3)] 4 [] Q
  refine sX27_init_4 (d := (d + 1)) M _ l1 l2 r3 ?_
  refine zand k (fun h13193 k => ?_)
  refine ⟨h13193, ?_⟩
  refine zand k (fun h13194 k => ?_)
  refine ⟨h13193, ?_⟩
  exact k
theorem iX28_init_0 {E : zE} {d : Nat} {Q : zO → zM → Prop} (M : zM) (a0 : Nat) (l1 : Int32) (r2 : Option zP) (k : 16 ≤ a0 ∧ (Q (.inl none) (sr (si M a0 0 l1) a0 1 r2))) : Z E YX28_init (d + 2) M [(0, vr (some (a0, 33, 0))), (1, vi l1), (2, vr r2)] 0 [] Q := by
  refine sX28_init_0 (d := (d + 1)) M a0 l1 r2 ?_
  refine sX13_init_0 (d := d) M _ 33 ?_
  show Z E YX28_init ((d + 1) + 1) M [(0, vr (some (a0, 33, 0))), (1, vi l1), (2, vr r2)] 4 [] Q
  refine sX28_init_4 (d := (d + 1)) M _ l1 r2 ?_
  refine zand k (fun h13211 k => ?_)
  refine ⟨h13211, ?_⟩
  exact k
theorem jX3_goal {E : zE} {d : Nat} {Q : zO → zM → Prop} (M : zM) (l1 : Int32) (hw : cw M) (k : if l1 = (-1 : Int32) then (Q (.inl none) M) else (if (600 : Int32) ≤ l1 then (Q (.inl none) M) else (vp_in l1 600 ∧ (Q (.inl none) (si M 31 (l1).toNatClampNeg (vp_nar .short ((gi M 29 7)).toInt16.toInt32)))))) : Z E YX3_goal (d + 1) M [(0, vr (some (29, 3, 0))), (1, vi l1)] 0 [] Q := by
  refine sX3_goal_0 (d := d) M l1 hw ?_
  refine sX3_goalAt_0 (d := d) M l1 (gi M 29 7) hw ?_
  refine zite k (fun h13224 k => ?_) (fun h13224 k => ?_)
  · show Z E YX3_goal (d + 1) M [] 9 [] Q
    refine sX3_goal_9 (d := d) M hw ?_
    exact k
  · refine zite k (fun h13225 k => ?_) (fun h13225 k => ?_)
    · show Z E YX3_goal (d + 1) M [] 9 [] Q
      refine sX3_goal_9 (d := d) M hw ?_
      exact k
    · refine zand k (fun h13226 k => ?_)
      show Z E YX3_goal (d + 1) (si M 31 (l1).toNatClampNeg (vp_nar .short ((gi M 29 7)).toInt16.toInt32)) [] 9 [] Q
      refine sX3_goal_9 (d := d) (si M 31 (l1).toNatClampNeg (vp_nar .short ((gi M 29 7)).toInt16.toInt32)) hw ?_
      exact k
theorem iX29_code_17 {E : zE} {d : Nat} {Q : zO → zM → Prop} (M : zM) (a0 : Nat) (r1 : Option zP) (l2 : Int32) (k : ∃ b13215 : Nat, (gr M a0 1) = some (b13215, 11, 0) ∧ (if (gi M b13215 2) ≤ l2 then (Q (.inl none) M) else (∃ b13217 : Nat, r1 = some (b13217, 3, 0) ∧ (Z E YX3_put d M (zargs 0 [vr (some (b13217, 3, 0)), vi (gi M a0 0), vi (0 : Int32), vi (0 : Int32)]) 0 [] (zafter E YX29_code (d + 1) [(0, vr (some (a0, 34, 0))), (1, vr (some (b13217, 3, 0))), (2, vi l2)] 35 3 [] Q))))) : Z E YX29_code (d + 1) M [(0, vr (some (a0, 34, 0))), (1, vr r1), (2, vi l2)] 17 [] Q := by
  refine sX29_code_17 (d := d) M a0 r1 l2 ?_
  obtain ⟨b13215, h13215, k⟩ := k
  refine ⟨b13215, h13215, ?_⟩
  refine sJ2_size_0 (d := d) M b13215 ?_
  show Z E YX29_code (d + 1) M [(0, vr (some (a0, 34, 0))), (1, vr r1), (2, vi l2)] 25 [vi (gi M b13215 2), vi l2] Q
  refine sX29_code_25 (d := d) M _ r1 l2 (gi M b13215 2) l2 ?_
  exact k
theorem iX29_init_0 {E : zE} {d : Nat} {Q : zO → zM → Prop} (M : zM) (a0 : Nat) (l1 : Int32) (r2 : Option zP) (k : 16 ≤ (zsz M) ∧ (16 ≤ a0 ∧ (∃ b13229 : Nat, (gr (sr (sr (si (zn M 3) (zsz M) 0 (0 : Int32)) (zsz M) 1 (some (1, 110, 0))) a0 1 (some ((zsz M), 11, 0))) a0 1) = some (b13229, 11, 0) ∧ (Z E YJ2_add (d + 3) (si (sr (sr (si (zn M 3) (zsz M) 0 (0 : Int32)) (zsz M) 1 (some (1, 110, 0))) a0 1 (some ((zsz M), 11, 0))) a0 0 l1) (zargs 0 [vr (some (b13229, 11, 0)), vr r2]) 0 [] (zafter E YX29_init ((d + 3) + 1) [] 25 3 [] Q))))) : Z E YX29_init (d + 4) M [(0, vr (some (a0, 34, 0))), (1, vi l1), (2, vr r2)] 0 [] Q := by
  refine sX29_init_0 (d := (d + 3)) M a0 l1 r2 ?_
  refine sX13_init_0 (d := (d + 2)) M _ 34 ?_
  show Z E YX29_init ((d + 3) + 1) M [(0, vr (some (a0, 34, 0))), (1, vi l1), (2, vr r2)] 4 [] Q
  refine sX29_init_4 (d := (d + 3)) M _ l1 r2 ?_
  refine sX29_init_8 (d := (d + 3)) (zn M 3) _ l1 r2 (zsz M) ?_
  refine jJ2_init (d := d) (zn M 3) (zsz M) ?_
  refine zand k (fun h13227 k => ?_)
  show Z E YX29_init ((d + 3) + 1) (sr (si (zn M 3) (zsz M) 0 (0 : Int32)) (zsz M) 1 (some (1, 110, 0))) [(0, vr (some (a0, 34, 0))), (1, vi l1), (2, vr r2)] 12 [vr (some ((zsz M), 11, 0)), vr (some (a0, 34, 0))] Q
  refine sX29_init_12 (d := (d + 3)) (sr (si (zn M 3) (zsz M) 0 (0 : Int32)) (zsz M) 1 (some (1, 110, 0))) _ l1 r2 (zsz M) ?_
  refine zand k (fun h13228 k => ?_)
  refine ⟨h13228, ?_⟩
  exact k
theorem iX30_add_0 {E : zE} {d : Nat} {Q : zO → zM → Prop} (M : zM) (a0 : Nat) (l1 : Int32) (r2 : Option zP) (k : ∃ b13230 : Nat, (gr M a0 0) = some (b13230, 11, 0) ∧ (∃ b13231 m13231 : Nat, (gr M a0 1) = some (b13231, 100, m13231) ∧ (if (gi M b13230 2) ≤ (Int32.ofNat m13231) then (16 ≤ b13231 ∧ (vp_in ((gi M b13230 2) - (1 : Int32)) m13231 ∧ (Z E YJ2_add d (si M b13231 (((gi M b13230 2) - (1 : Int32))).toNatClampNeg l1) (zargs 0 [vr (some (b13230, 11, 0)), vr r2]) 0 [] (zafter E YX30_add (d + 1) [] 64 3 [] Q)))) else ((¬ ((2 : Int32) * (Int32.ofNat m13231)) < 0 ∧ (((2 : Int32) * (Int32.ofNat m13231))).toNatClampNeg * 8 ≤ 536870912) ∧ (∃ b13236 m13236 : Nat, (gr (zn M (((2 : Int32) * (Int32.ofNat m13231))).toNatClampNeg) a0 1) = some (b13236, 100, m13236) ∧ (16 ≤ (zsz M) ∧ ((1 ≤ (d + 1)) ∧ (((¬ (0 : Int32) < 0 ∧ ¬ (0 : Int32) < 0 ∧ ¬ (Int32.ofNat m13236) < 0) ∧ ((0 : Int32)).toNatClampNeg + ((Int32.ofNat m13236)).toNatClampNeg ≤ m13236 ∧ ((0 : Int32)).toNatClampNeg + ((Int32.ofNat m13236)).toNatClampNeg ≤ (((2 : Int32) * (Int32.ofNat m13231))).toNatClampNeg) ∧ (16 ≤ a0 ∧ (∃ b13241 m13241 : Nat, (gr (sr (cpi (zn M (((2 : Int32) * (Int32.ofNat m13231))).toNatClampNeg) b13236 ((0 : Int32)).toNatClampNeg (zsz M) ((0 : Int32)).toNatClampNeg ((Int32.ofNat m13236)).toNatClampNeg) a0 1 (some ((zsz M), 100, (((2 : Int32) * (Int32.ofNat m13231))).toNatClampNeg))) a0 1) = some (b13241, 100, m13241) ∧ (16 ≤ b13241 ∧ (vp_in ((gi M b13230 2) - (1 : Int32)) m13241 ∧ (∃ b13244 : Nat, (gr (sr (cpi (zn M (((2 : Int32) * (Int32.ofNat m13231))).toNatClampNeg) b13236 ((0 : Int32)).toNatClampNeg (zsz M) ((0 : Int32)).toNatClampNeg ((Int32.ofNat m13236)).toNatClampNeg) a0 1 (some ((zsz M), 100, (((2 : Int32) * (Int32.ofNat m13231))).toNatClampNeg))) a0 0) = some (b13244, 11, 0) ∧ (Z E YJ2_add d (si (sr (cpi (zn M (((2 : Int32) * (Int32.ofNat m13231))).toNatClampNeg) b13236 ((0 : Int32)).toNatClampNeg (zsz M) ((0 : Int32)).toNatClampNeg ((Int32.ofNat m13236)).toNatClampNeg) a0 1 (some ((zsz M), 100, (((2 : Int32) * (Int32.ofNat m13231))).toNatClampNeg))) b13241 (((gi M b13230 2) - (1 : Int32))).toNatClampNeg l1) (zargs 0 [vr (some (b13244, 11, 0)), vr r2]) 0 [] (zafter E YX30_add (d + 1) [] 64 3 [] Q))))))))))))))) : Z E YX30_add (d + 1) M [(0, vr (some (a0, 35, 0))), (1, vi l1), (2, vr r2)] 0 [] Q := by
  refine sX30_add_0 (d := d) M a0 l1 r2 ?_
  obtain ⟨b13230, h13230, k⟩ := k
  refine ⟨b13230, h13230, ?_⟩
  refine sJ2_size_0 (d := d) M b13230 ?_
  show Z E YX30_add (d + 1) M [(0, vr (some (a0, 35, 0))), (1, vi l1), (2, vr r2)] 7 [vi (gi M b13230 2)] Q
  refine sX30_add_7 (d := d) M _ l1 r2 (gi M b13230 2) ?_
  obtain ⟨b13231, m13231, h13231, k⟩ := k
  refine ⟨b13231, m13231, h13231, ?_⟩
  refine zite k (fun h13232 k => ?_) (fun h13232 k => ?_)
  · refine sX30_add_50 (d := d) M _ l1 r2 (gi M b13230 2) ?_
    refine ⟨b13231, m13231, h13231, ?_⟩
    refine zand k (fun h13233 k => ?_)
    refine zand k (fun h13234 k => ?_)
    refine ⟨b13230, h13230, ?_⟩
    exact k
  · refine ⟨b13231, m13231, h13231, ?_⟩
    refine zand k (fun h13235 k => ?_)
    refine sX30_add_26 (d := d) (zn M (((2 : Int32) * (Int32.ofNat m13231))).toNatClampNeg) _ l1 r2 (gi M b13230 2) (zsz M) ((((2 : Int32) * (Int32.ofNat m13231))).toNatClampNeg) ?_
    obtain ⟨b13236, m13236, h13236, k⟩ := k
    refine ⟨b13236, m13236, h13236, ?_⟩
    refine zand k (fun h13237 k => ?_)
    refine zand k (fun h13238 k => ?_)
    refine zand k (fun h13239 k => ?_)
    refine sX30_add_44 (d := d) (cpi (zn M (((2 : Int32) * (Int32.ofNat m13231))).toNatClampNeg) b13236 ((0 : Int32)).toNatClampNeg (zsz M) ((0 : Int32)).toNatClampNeg ((Int32.ofNat m13236)).toNatClampNeg) _ l1 r2 (gi M b13230 2) (zsz M) ((((2 : Int32) * (Int32.ofNat m13231))).toNatClampNeg) ?_
    refine zand k (fun h13240 k => ?_)
    refine sX30_add_50 (d := d) (sr (cpi (zn M (((2 : Int32) * (Int32.ofNat m13231))).toNatClampNeg) b13236 ((0 : Int32)).toNatClampNeg (zsz M) ((0 : Int32)).toNatClampNeg ((Int32.ofNat m13236)).toNatClampNeg) a0 1 (some ((zsz M), 100, (((2 : Int32) * (Int32.ofNat m13231))).toNatClampNeg))) _ l1 r2 (gi M b13230 2) ?_
    exact k
theorem iX30_code_17 {E : zE} {d : Nat} {Q : zO → zM → Prop} (M : zM) (a0 : Nat) (r1 : Option zP) (l2 : Int32) (k : ∃ b13248 : Nat, (gr M a0 0) = some (b13248, 11, 0) ∧ (if (gi M b13248 2) ≤ l2 then (Q (.inl none) M) else (Z E YJ2_get d M (zargs 0 [vr (some (b13248, 11, 0)), vi l2]) 0 [] (zafter E YX30_code (d + 1) [(0, vr (some (a0, 35, 0))), (1, vr r1), (2, vi l2)] 33 3 [] Q)))) : Z E YX30_code (d + 1) M [(0, vr (some (a0, 35, 0))), (1, vr r1), (2, vi l2)] 17 [] Q := by
  refine sX30_code_17 (d := d) M a0 r1 l2 ?_
  obtain ⟨b13248, h13248, k⟩ := k
  refine ⟨b13248, h13248, ?_⟩
  refine sJ2_size_0 (d := d) M b13248 ?_
  show Z E YX30_code (d + 1) M [(0, vr (some (a0, 35, 0))), (1, vr r1), (2, vi l2)] 25 [vi (gi M b13248 2), vi l2] Q
  refine sX30_code_25 (d := d) M _ r1 l2 (gi M b13248 2) l2 ?_
  refine zite k (fun h13249 k => ?_) (fun h13249 k => ?_)
  · exact k
  · refine ⟨b13248, h13248, ?_⟩
    exact k
theorem iX30_init_0 {E : zE} {d : Nat} {Q : zO → zM → Prop} (M : zM) (a0 : Nat) (r1 : Option zP) (k : 16 ≤ (zsz M) ∧ (16 ≤ a0 ∧ (∃ b13257 : Nat, (gr (sr (zn (sr (sr (si (zn M 3) (zsz M) 0 (0 : Int32)) (zsz M) 1 (some (1, 110, 0))) a0 0 (some ((zsz M), 11, 0))) 8) a0 1 (some ((zsz (sr (si (zn M 3) (zsz M) 0 (0 : Int32)) (zsz M) 1 (some (1, 110, 0)))), 100, 8))) a0 0) = some (b13257, 11, 0) ∧ (Z E YJ2_add (d + 3) (sr (zn (sr (sr (si (zn M 3) (zsz M) 0 (0 : Int32)) (zsz M) 1 (some (1, 110, 0))) a0 0 (some ((zsz M), 11, 0))) 8) a0 1 (some ((zsz (sr (si (zn M 3) (zsz M) 0 (0 : Int32)) (zsz M) 1 (some (1, 110, 0)))), 100, 8))) (zargs 0 [vr (some (b13257, 11, 0)), vr r1]) 0 [] (zafter E YX30_init ((d + 3) + 1) [] 28 3 [] Q))))) : Z E YX30_init (d + 4) M [(0, vr (some (a0, 35, 0))), (1, vr r1)] 0 [] Q := by
  refine sX30_init_0 (d := (d + 3)) M a0 r1 ?_
  refine sX13_init_0 (d := (d + 2)) M _ 35 ?_
  show Z E YX30_init ((d + 3) + 1) M [(0, vr (some (a0, 35, 0))), (1, vr r1)] 4 [] Q
  refine sX30_init_4 (d := (d + 3)) M _ r1 ?_
  refine sX30_init_8 (d := (d + 3)) (zn M 3) _ r1 (zsz M) ?_
  refine jJ2_init (d := d) (zn M 3) (zsz M) ?_
  refine zand k (fun h13255 k => ?_)
  show Z E YX30_init ((d + 3) + 1) (sr (si (zn M 3) (zsz M) 0 (0 : Int32)) (zsz M) 1 (some (1, 110, 0))) [(0, vr (some (a0, 35, 0))), (1, vr r1)] 12 [vr (some ((zsz M), 11, 0)), vr (some (a0, 35, 0))] Q
  refine sX30_init_12 (d := (d + 3)) (sr (si (zn M 3) (zsz M) 0 (0 : Int32)) (zsz M) 1 (some (1, 110, 0))) _ r1 (zsz M) ?_
  refine zand k (fun h13256 k => ?_)
  refine sX30_init_20 (d := (d + 3)) (zn (sr (sr (si (zn M 3) (zsz M) 0 (0 : Int32)) (zsz M) 1 (some (1, 110, 0))) a0 0 (some ((zsz M), 11, 0))) 8) _ r1 (zsz (sr (si (zn M 3) (zsz M) 0 (0 : Int32)) (zsz M) 1 (some (1, 110, 0)))) ?_
  refine ⟨h13256, ?_⟩
  exact k
theorem iX31_init_0 {E : zE} {d : Nat} {Q : zO → zM → Prop} (M : zM) (a0 : Nat) (r1 : Option zP) (r2 : Option zP) (r3 : Option zP) (k : 16 ≤ a0 ∧ (Q (.inl none) (sr (sr (sr M a0 0 r1) a0 1 r2) a0 2 r3))) : Z E YX31_init (d + 2) M [(0, vr (some (a0, 36, 0))), (1, vr r1), (2, vr r2), (3, vr r3)] 0 [] Q := by
  refine sX31_init_0 (d := (d + 1)) M a0 r1 r2 r3 ?_
  refine sX13_init_0 (d := d) M _ 36 ?_
  show Z E YX31_init ((d + 1) + 1) M [(0, vr (some (a0, 36, 0))), (1, vr r1), (2, vr r2), (3, vr r3)] 4 [] Q
  refine sX31_init_4 (d := (d + 1)) M _ r1 r2 r3 ?_
  refine zand k (fun h13262 k => ?_)
  refine ⟨h13262, ?_⟩
  refine ⟨h13262, ?_⟩
  exact k
theorem iX32_init_0 {E : zE} {d : Nat} {Q : zO → zM → Prop} (M : zM) (a0 : Nat) (r1 : Option zP) (r2 : Option zP) (r3 : Option zP) (k : 16 ≤ a0 ∧ (Q (.inl none) (sr (sr (sr M a0 0 r1) a0 1 r2) a0 2 r3))) : Z E YX32_init (d + 2) M [(0, vr (some (a0, 37, 0))), (1, vr r1), (2, vr r2), (3, vr r3)] 0 [] Q := by
  refine sX32_init_0 (d := (d + 1)) M a0 r1 r2 r3 ?_
  refine sX13_init_0 (d := d) M _ 37 ?_
  show Z E YX32_init ((d + 1) + 1) M [(0, vr (some (a0, 37, 0))), (1, vr r1), (2, vr r2), (3, vr r3)] 4 [] Q
  refine sX32_init_4 (d := (d + 1)) M _ r1 r2 r3 ?_
  refine zand k (fun h13268 k => ?_)
  refine ⟨h13268, ?_⟩
  refine ⟨h13268, ?_⟩
  exact k
theorem iX33_code_0 {E : zE} {d : Nat} {Q : zO → zM → Prop} (M : zM) (a0 : Nat) (r1 : Option zP) (k : if (gr M a0 1) = none then (∃ b13270 : Nat, r1 = some (b13270, 3, 0) ∧ (Z E YX3_enter d M (zargs 0 [vr (some (b13270, 3, 0)), vi (0 : Int32)]) 0 [] (zafter E YX33_code (d + 1) [(0, vr (some (a0, 38, 0))), (1, vr (some (b13270, 3, 0)))] 17 3 [] Q))) else (∃ b13272 t13272 : Nat, (gr M a0 1) = some (b13272, t13272, 0) ∧ (∃ Y_ : zY, vt_code t13272 = some Y_ ∧ Z E Y_ d M (zargs 0 [vr (some (b13272, t13272, 0)), vr r1]) 0 [] (zafter E YX33_code (d + 1) [(0, vr (some (a0, 38, 0))), (1, vr r1)] 12 3 [] Q)))) : Z E YX33_code (d + 1) M [(0, vr (some (a0, 38, 0))), (1, vr r1)] 0 [] Q := by
  refine sX33_code_0 (d := d) M a0 r1 ?_
  refine zite k (fun h13269 k => ?_) (fun h13269 k => ?_)
  · refine sX33_code_15 (d := d) M _ r1 ?_
    exact k
  · exact k
theorem iX33_code_70 {E : zE} {d : Nat} {Q : zO → zM → Prop} (M : zM) (a0 : Nat) (a1 : Nat) (r2 : Option zP) (l3 : Int32) (l4 : Int32) (k : ∃ b13279 : Nat, r2 = some (b13279, 17, 0) ∧ (if (gi M a0 0) = 0 then (∃ b13281 : Nat, (gr M b13279 2) = some (b13281, 18, 0) ∧ (Z E YX41_goAll d M (zargs 0 [vr (some (b13281, 18, 0)), vr (some (a1, 3, 0)), vi l3]) 0 [] (zafter E YX33_code (d + 1) [(0, vr (some (a0, 38, 0))), (1, vr (some (a1, 3, 0))), (2, vr (some (b13279, 17, 0))), (3, vi l3), (4, vi l4)] 90 3 [] Q))) else (Z E YX3_place d M (zargs 0 [vr (some (a1, 3, 0))]) 0 [] (zafter E YX33_code (d + 1) [(0, vr (some (a0, 38, 0))), (1, vr (some (a1, 3, 0))), (2, vr (some (b13279, 17, 0))), (3, vi l3), (4, vi l4)] 87 3 [vr (some (a1, 3, 0)), vr (gr M b13279 2)] Q)))) : Z E YX33_code (d + 1) M [(0, vr (some (a0, 38, 0))), (1, vr (some (a1, 3, 0))), (2, vr r2), (3, vi l3), (4, vi l4)] 70 [] Q := by
  refine sX33_code_70 (d := d) M a0 a1 r2 l3 l4 ?_
  obtain ⟨b13279, h13279, k⟩ := k
  refine ⟨b13279, h13279, ?_⟩
  refine zite k (fun h13280 k => ?_) (fun h13280 k => ?_)
  · refine sX33_code_90 (d := d) M _ _ b13279 l3 l4 l3 a1 (gr M b13279 2) ?_
    exact k
  · exact k
theorem iX33_code_93 {E : zE} {d : Nat} {Q : zO → zM → Prop} (M : zM) (a0 : Nat) (a1 : Nat) (a2 : Nat) (l3 : Int32) (l4 : Int32) (k : if (gi M a0 0) = (1 : Int32) then (∃ b13287 t13287 : Nat, (gr M a0 2) = some (b13287, t13287, 0) ∧ (∃ Y_ : zY, vt_code t13287 = some Y_ ∧ Z E Y_ d M (zargs 0 [vr (some (b13287, t13287, 0)), vr (some (a1, 3, 0))]) 0 [] (zafter E YX33_code (d + 1) [(0, vr (some (a0, 38, 0))), (1, vr (some (a1, 3, 0))), (2, vr (some (a2, 17, 0))), (3, vi l3)] 106 3 [] Q))) else (if (gr M a0 3) = none then (Z E YX3_put d M (zargs 0 [vr (some (a1, 3, 0)), vi (21 : Int32), vi l3, vi (0 : Int32)]) 0 [] (zafter E YX33_code (d + 1) [(1, vr (some (a1, 3, 0))), (2, vr (some (a2, 17, 0))), (4, vi l4)] 139 3 [] Q)) else (∃ b13289 t13289 : Nat, (gr M a0 3) = some (b13289, t13289, 0) ∧ (∃ Y_ : zY, vt_code t13289 = some Y_ ∧ Z E Y_ d M (zargs 0 [vr (some (b13289, t13289, 0)), vr (some (a1, 3, 0))]) 0 [] (zafter E YX33_code (d + 1) [(1, vr (some (a1, 3, 0))), (2, vr (some (a2, 17, 0))), (3, vi l3), (4, vi l4)] 131 3 [] Q))))) : Z E YX33_code (d + 1) M [(0, vr (some (a0, 38, 0))), (1, vr (some (a1, 3, 0))), (2, vr (some (a2, 17, 0))), (3, vi l3), (4, vi l4)] 93 [] Q := by
  refine sX33_code_93 (d := d) M a0 a1 a2 l3 l4 ?_
  refine zite k (fun h13286 k => ?_) (fun h13286 k => ?_)
  · exact k
  · refine zite k (fun h13288 k => ?_) (fun h13288 k => ?_)
    · refine sX33_code_134 (d := d) M _ _ l3 l4 ?_
      exact k
    · exact k
theorem iX33_code_117 {E : zE} {d : Nat} {Q : zO → zM → Prop} (M : zM) (a0 : Nat) (a1 : Nat) (a2 : Nat) (l3 : Int32) (s0 : Int32) (k : if (gr M a0 3) = none then (Z E YX3_put d M (zargs 0 [vr (some (a1, 3, 0)), vi (21 : Int32), vi l3, vi (0 : Int32)]) 0 [] (zafter E YX33_code (d + 1) [(1, vr (some (a1, 3, 0))), (2, vr (some (a2, 17, 0))), (4, vi s0)] 139 3 [] Q)) else (∃ b13293 t13293 : Nat, (gr M a0 3) = some (b13293, t13293, 0) ∧ (∃ Y_ : zY, vt_code t13293 = some Y_ ∧ Z E Y_ d M (zargs 0 [vr (some (b13293, t13293, 0)), vr (some (a1, 3, 0))]) 0 [] (zafter E YX33_code (d + 1) [(1, vr (some (a1, 3, 0))), (2, vr (some (a2, 17, 0))), (3, vi l3), (4, vi s0)] 131 3 [] Q)))) : Z E YX33_code (d + 1) M [(0, vr (some (a0, 38, 0))), (1, vr (some (a1, 3, 0))), (2, vr (some (a2, 17, 0))), (3, vi l3)] 117 [vi s0] Q := by
  refine sX33_code_117 (d := d) M a0 a1 a2 l3 s0 ?_
  refine zite k (fun h13292 k => ?_) (fun h13292 k => ?_)
  · refine sX33_code_134 (d := d) M _ _ l3 s0 ?_
    exact k
  · exact k
theorem iX33_init_0 {E : zE} {d : Nat} {Q : zO → zM → Prop} (M : zM) (a0 : Nat) (l1 : Int32) (r2 : Option zP) (r3 : Option zP) (r4 : Option zP) (r5 : Option zP) (k : 16 ≤ a0 ∧ (Q (.inl none) (sr (sr (sr (sr (si M a0 0 l1) a0 1 r2) a0 2 r3) a0 3 r4) a0 4 r5))) : Z E YX33_init (d + 2) M [(0, vr (some (a0, 38, 0))), (1, vi l1), (2, vr r2), (3, vr r3), (4, vr r4), (5, vr r5)] 0 [] Q := by
  refine sX33_init_0 (d := (d + 1)) M a0 l1 r2 r3 r4 r5 ?_
  refine sX13_init_0 (d := d) M _ 38 ?_
  show Z E YX33_init ((d + 1) + 1) M [(0, vr (some (a0, 38, 0))), (1, vi l1), (2, vr r2), (3, vr r3), (4, vr r4), (5, vr r5)] 4 [] Q
  refine sX33_init_4 (d := (d + 1)) M _ l1 r2 r3 r4 r5 ?_
  refine zand k (fun h13296 k => ?_)
  refine ⟨h13296, ?_⟩
  refine ⟨h13296, ?_⟩
  refine ⟨h13296, ?_⟩
  refine ⟨h13296, ?_⟩
  exact k
theorem iX3_code_78 {E : zE} {d : Nat} {Q : zO → zM → Prop} (M : zM) (a1 : Nat) (l2 : Int32) (hw : cw M) (k : ∃ b13301 : Nat, (gr M a1 3) = some (b13301, 11, 0) ∧ (if (gi M b13301 2) ≤ l2 then (Z E YX3_code (d + 1) M [(0, vr (some (29, 3, 0))), (1, vr (some (a1, 10, 0))), (2, vi (0 : Int32))] 146 [] Q) else (Z E YJ2_get d M (zargs 0 [vr (some (b13301, 11, 0)), vi l2]) 0 [] (zafter E YX3_code (d + 1) [(0, vr (some (29, 3, 0))), (1, vr (some (a1, 10, 0))), (2, vi l2)] 97 3 [vi (9 : Int32), vr (some (29, 3, 0))] Q)))) : Z E YX3_code (d + 1) M [(0, vr (some (29, 3, 0))), (1, vr (some (a1, 10, 0))), (2, vi l2)] 78 [] Q := by
  refine sX3_code_78 (d := d) M a1 l2 hw ?_
  obtain ⟨b13301, h13301, k⟩ := k
  refine ⟨b13301, h13301, ?_⟩
  refine sJ2_size_0 (d := d) M b13301 ?_
  show Z E YX3_code (d + 1) M [(0, vr (some (29, 3, 0))), (1, vr (some (a1, 10, 0))), (2, vi l2)] 86 [vi (gi M b13301 2), vi l2] Q
  refine sX3_code_86 (d := d) M _ l2 (gi M b13301 2) l2 hw ?_
  refine zite k (fun h13302 k => ?_) (fun h13302 k => ?_)
  · exact k
  · refine ⟨b13301, h13301, ?_⟩
    exact k
theorem iX3_code_146 {E : zE} {d : Nat} {Q : zO → zM → Prop} (M : zM) (a1 : Nat) (l2 : Int32) (hw : cw M) (k : ∃ b13305 : Nat, (gr M a1 2) = some (b13305, 11, 0) ∧ (if (gi M b13305 2) ≤ l2 then (Z E YX3_put d M (zargs 0 [vr (some (29, 3, 0)), vi (0 : Int32), vi (0 : Int32), vi (0 : Int32)]) 0 [] (zafter E YX3_code (d + 1) [(0, vr (some (29, 3, 0)))] 182 3 [] Q)) else (Z E YJ2_get d M (zargs 0 [vr (some (b13305, 11, 0)), vi l2]) 0 [] (zafter E YX3_code (d + 1) [(0, vr (some (29, 3, 0))), (1, vr (some (a1, 10, 0))), (2, vi l2)] 162 3 [] Q)))) : Z E YX3_code (d + 1) M [(0, vr (some (29, 3, 0))), (1, vr (some (a1, 10, 0))), (2, vi l2)] 146 [] Q := by
  refine sX3_code_146 (d := d) M a1 l2 hw ?_
  obtain ⟨b13305, h13305, k⟩ := k
  refine ⟨b13305, h13305, ?_⟩
  refine sJ2_size_0 (d := d) M b13305 ?_
  show Z E YX3_code (d + 1) M [(0, vr (some (29, 3, 0))), (1, vr (some (a1, 10, 0))), (2, vi l2)] 154 [vi (gi M b13305 2), vi l2] Q
  refine sX3_code_154 (d := d) M _ l2 (gi M b13305 2) l2 hw ?_
  refine zite k (fun h13306 k => ?_) (fun h13306 k => ?_)
  · exact k
  · refine ⟨b13305, h13305, ?_⟩
    exact k
theorem jX41_init {E : zE} {d : Nat} {Q : zO → zM → Prop} (M : zM) (a0 : Nat) (k : 16 ≤ a0 ∧ (Q (.inl none) (sr (zn M 4) a0 0 (some ((zsz M), 100, 4))))) : Z E YX41_init (d + 1) M [(0, vr (some (a0, 18, 0)))] 0 [] Q := by
  refine sX41_init_0 (d := d) M a0 ?_
  refine sX41_init_8 (d := d) (zn M 4) (zsz M) _ ?_
  exact k
theorem jX40_begin {E : zE} {d : Nat} {Q : zO → zM → Prop} (M : zM) (a0 : Nat) (l1 : Int32) (r2 : Option zP) (k : 16 ≤ a0 ∧ (∃ b13319 : Nat, (gr (sr (sr (sr (si M a0 3 l1) a0 4 r2) a0 5 none) a0 6 none) a0 1) = some (b13319, 18, 0) ∧ (16 ≤ b13319 ∧ (∃ b13321 : Nat, (gr (sr (sr (sr (si M a0 3 l1) a0 4 r2) a0 5 none) a0 6 none) a0 2) = some (b13321, 18, 0) ∧ (16 ≤ b13321 ∧ (Q (.inl none) (si (si (si (si (sr (sr (sr (si M a0 3 l1) a0 4 r2) a0 5 none) a0 6 none) a0 7 (0 : Int32)) a0 8 (1 : Int32)) b13319 1 (0 : Int32)) b13321 1 (0 : Int32)))))))) : Z E YX40_begin d M [(0, vr (some (a0, 17, 0))), (1, vi l1), (2, vr r2)] 0 [] Q := by
  refine sX40_begin_0 (d := d) M a0 l1 r2 ?_
  refine zand k (fun h13318 k => ?_)
  refine ⟨h13318, ?_⟩
  refine ⟨h13318, ?_⟩
  refine ⟨h13318, ?_⟩
  refine ⟨h13318, ?_⟩
  refine ⟨h13318, ?_⟩
  exact k
theorem iX3_enter_0 {E : zE} {d : Nat} {Q : zO → zM → Prop} (M : zM) (l1 : Int32) (hw : cw M) (k : if (gi M 29 11) = (gi M 37 2) then (Z E YX3_enter (d + 1) (zn M 9) [(0, vr (some (29, 3, 0))), (1, vi l1)] 21 [vr (some ((zsz M), 17, 0)), vr (some (37, 11, 0))] Q) else (Z E YJ2_get d M (zargs 0 [vr (some (37, 11, 0)), vi (gi M 29 11)]) 0 [] (zafter E YX3_enter (d + 1) [(0, vr (some (29, 3, 0))), (1, vi l1)] 41 3 [] Q))) : Z E YX3_enter (d + 1) M [(0, vr (some (29, 3, 0))), (1, vi l1)] 0 [] Q := by
  refine sX3_enter_0 (d := d) M l1 hw ?_
  refine sJ2_size_0 (d := d) M 37 ?_
  show Z E YX3_enter (d + 1) M [(0, vr (some (29, 3, 0))), (1, vi l1)] 11 [vi (gi M 37 2), vi (gi M 29 11)] Q
  refine sX3_enter_11 (d := d) M l1 (gi M 37 2) (gi M 29 11) hw ?_
  exact k
theorem iX3_get_5 {E : zE} {d : Nat} {Q : zO → zM → Prop} (M : zM) (l1 : Int32) (s0 : Int32) (hw : cw M) (k : if s0 = (-1 : Int32) then (Z E YX3_put d M (zargs 0 [vr (some (29, 3, 0)), vi (3 : Int32), vi (0 : Int32), vi l1]) 0 [] (zafter E YX3_get (d + 1) [] 28 3 [] Q)) else (Z E YX3_put d M (zargs 0 [vr (some (29, 3, 0)), vi (1 : Int32), vi s0, vi l1]) 0 [] (zafter E YX3_get (d + 1) [] 28 3 [] Q))) : Z E YX3_get (d + 1) M [(0, vr (some (29, 3, 0))), (1, vi l1)] 5 [vi s0] Q := by
  refine sX3_get_5 (d := d) M l1 s0 hw ?_
  refine zite k (fun h13328 k => ?_) (fun h13328 k => ?_)
  · refine sX3_get_17 (d := d) M l1 s0 (3 : Int32) hw ?_
    refine zpos h13328 ?_
    exact k
  · refine sX3_get_17 (d := d) M l1 s0 (1 : Int32) hw ?_
    refine zneg h13328 ?_
    exact k
theorem iX3_goBack_15 {E : zE} {d : Nat} {Q : zO → zM → Prop} (M : zM) (r1 : Option zP) (l2 : Int32) (l3 : Int32) (r4 : Option zP) (hw : cw M) (k : if r4 = none then (Z E YX3_put d (sr M 29 9 none) (zargs 0 [vr (some (29, 3, 0)), vi (25 : Int32), vi (0 : Int32), vi (0 : Int32)]) 0 [] (zafter E YX3_goBack (d + 1) [(0, vr (some (29, 3, 0))), (1, vr r1), (3, vi l3)] 132 3 [] Q)) else (∃ b13330 : Nat, r4 = some (b13330, 17, 0) ∧ (if (gi M b13330 3) = (3 : Int32) then (if (gi M b13330 3) = (2 : Int32) then (Z E YX3_put d (sr M 29 9 (some (b13330, 17, 0))) (zargs 0 [vr (some (29, 3, 0)), vi (28 : Int32), vi (0 : Int32), vi (0 : Int32)]) 0 [] (zafter E YX3_goBack (d + 1) [(0, vr (some (29, 3, 0))), (1, vr r1), (2, vi (l2 + (gi M b13330 8))), (3, vi l3), (4, vr (some (b13330, 17, 0)))] 60 3 [] Q)) else (Z E YX3_goBack (d + 1) M [(0, vr (some (29, 3, 0))), (1, vr r1), (2, vi (l2 + (gi M b13330 8))), (3, vi l3), (4, vr (gr M b13330 4))] 15 [] Q)) else (if (gi M b13330 3) = (2 : Int32) then (Z E YX3_put d (sr M 29 9 (some (b13330, 17, 0))) (zargs 0 [vr (some (29, 3, 0)), vi (28 : Int32), vi (0 : Int32), vi (0 : Int32)]) 0 [] (zafter E YX3_goBack (d + 1) [(0, vr (some (29, 3, 0))), (1, vr r1), (2, vi l2), (3, vi l3), (4, vr (some (b13330, 17, 0)))] 60 3 [] Q)) else (Z E YX3_goBack (d + 1) M [(0, vr (some (29, 3, 0))), (1, vr r1), (2, vi l2), (3, vi l3), (4, vr (gr M b13330 4))] 15 [] Q))))) : Z E YX3_goBack (d + 1) M [(0, vr (some (29, 3, 0))), (1, vr r1), (2, vi l2), (3, vi l3), (4, vr r4)] 15 [] Q := by
  refine sX3_goBack_15 (d := d) M r1 l2 l3 r4 hw ?_
  refine zite k (fun h13329 k => ?_) (fun h13329 k => ?_)
  · exact k
  · obtain ⟨b13330, h13330, k⟩ := k
    refine ⟨b13330, h13330, ?_⟩
    refine zite k (fun h13331 k => ?_) (fun h13331 k => ?_)
    · refine sX3_goBack_37 (d := d) M r1 (l2 + (gi M b13330 8)) l3 b13330 hw ?_
      refine zite k (fun h13332 k => ?_) (fun h13332 k => ?_)
      · exact k
      · refine sX3_goBack_112 (d := d) M r1 (l2 + (gi M b13330 8)) l3 b13330 hw ?_
        exact k
    · refine sX3_goBack_37 (d := d) M r1 l2 l3 b13330 hw ?_
      refine zite k (fun h13333 k => ?_) (fun h13333 k => ?_)
      · exact k
      · refine sX3_goBack_112 (d := d) M r1 l2 l3 b13330 hw ?_
        exact k
theorem iX3_goOut_37 {E : zE} {d : Nat} {Q : zO → zM → Prop} (M : zM) (l1 : Int32) (r2 : Option zP) (a3 : Nat) (hw : cw M) (k : (zcmp (gr M 29 9) ∧ zcmp (some (a3, 17, 0))) ∧ (if zfst (gr M 29 9) = zfst (some (a3, 17, 0)) then (if l1 = 0 then (Z E YX3_put d M (zargs 0 [vr (some (29, 3, 0)), vi (21 : Int32), vi (0 : Int32), vi (0 : Int32)]) 0 [] (zafter E YX3_goOut (d + 1) [(0, vr (some (29, 3, 0))), (2, vr r2)] 180 3 [vr (gr M a3 1)] Q)) else (Z E YX3_put d M (zargs 0 [vr (some (29, 3, 0)), vi (21 : Int32), vi (0 : Int32), vi (0 : Int32)]) 0 [] (zafter E YX3_goOut (d + 1) [(0, vr (some (29, 3, 0))), (2, vr r2)] 180 3 [vr (gr M a3 2)] Q))) else (if l1 = 0 then (Z E YX3_goOut (d + 1) M [(0, vr (some (29, 3, 0))), (1, vi l1), (2, vr r2), (3, vr (some (a3, 17, 0))), (4, vr (gr M 29 9)), (5, vi (0 : Int32))] 69 [] Q) else ((zcmp (gr M 29 9) ∧ zcmp (gr M a3 5)) ∧ (if zfst (gr M 29 9) = zfst (gr M a3 5) then (Z E YX3_put d M (zargs 0 [vr (some (29, 3, 0)), vi (21 : Int32), vi (0 : Int32), vi (0 : Int32)]) 0 [] (zafter E YX3_goOut (d + 1) [(0, vr (some (29, 3, 0))), (2, vr r2)] 180 3 [vr (gr M a3 2)] Q)) else (Z E YX3_goOut (d + 1) M [(0, vr (some (29, 3, 0))), (1, vi l1), (2, vr r2), (3, vr (some (a3, 17, 0))), (4, vr (gr M 29 9)), (5, vi (0 : Int32))] 69 [] Q)))))) : Z E YX3_goOut (d + 1) M [(0, vr (some (29, 3, 0))), (1, vi l1), (2, vr r2), (3, vr (some (a3, 17, 0)))] 37 [] Q := by
  refine sX3_goOut_37 (d := d) M l1 r2 a3 hw ?_
  refine zand k (fun h13343 k => ?_)
  refine zite k (fun h13344 k => ?_) (fun h13344 k => ?_)
  · refine sX3_goOut_160 (d := d) M l1 r2 _ hw ?_
    exact k
  · refine zite k (fun h13346 k => ?_) (fun h13346 k => ?_)
    · exact k
    · refine zand k (fun h13347 k => ?_)
      refine zite k (fun h13348 k => ?_) (fun h13348 k => ?_)
      · refine sX3_goOut_160 (d := d) M l1 r2 _ hw ?_
        refine zneg h13346 ?_
        exact k
      · exact k
theorem iX3_goOut_69 {E : zE} {d : Nat} {Q : zO → zM → Prop} (M : zM) (l1 : Int32) (r2 : Option zP) (a3 : Nat) (r4 : Option zP) (l5 : Int32) (hw : cw M) (k : ∃ b13364 : Nat, r4 = some (b13364, 17, 0) ∧ (if (gi M b13364 3) = (3 : Int32) then (if (gi M b13364 8) ≤ l5 then (if (gi M b13364 3) = (2 : Int32) then (Z E YX3_put d M (zargs 0 [vr (some (29, 3, 0)), vi (28 : Int32), vi (0 : Int32), vi (0 : Int32)]) 0 [] (zafter E YX3_goOut (d + 1) [(0, vr (some (29, 3, 0))), (1, vi l1), (2, vr r2), (3, vr (some (a3, 17, 0))), (4, vr (some (b13364, 17, 0)))] 117 3 [] Q)) else (Z E YX3_goOut (d + 1) M [(0, vr (some (29, 3, 0))), (1, vi l1), (2, vr r2), (3, vr (some (a3, 17, 0))), (4, vr (some (b13364, 17, 0)))] 121 [] Q)) else (Z E YX3_put d M (zargs 0 [vr (some (29, 3, 0)), vi (17 : Int32), vi (0 : Int32), vi (0 : Int32)]) 0 [] (zafter E YX3_goOut (d + 1) [(0, vr (some (29, 3, 0))), (1, vi l1), (2, vr r2), (3, vr (some (a3, 17, 0))), (4, vr (some (b13364, 17, 0))), (5, vi l5)] 93 3 [] Q))) else (if (gi M b13364 3) = (2 : Int32) then (Z E YX3_put d M (zargs 0 [vr (some (29, 3, 0)), vi (28 : Int32), vi (0 : Int32), vi (0 : Int32)]) 0 [] (zafter E YX3_goOut (d + 1) [(0, vr (some (29, 3, 0))), (1, vi l1), (2, vr r2), (3, vr (some (a3, 17, 0))), (4, vr (some (b13364, 17, 0)))] 117 3 [] Q)) else (Z E YX3_goOut (d + 1) M [(0, vr (some (29, 3, 0))), (1, vi l1), (2, vr r2), (3, vr (some (a3, 17, 0))), (4, vr (some (b13364, 17, 0)))] 121 [] Q)))) : Z E YX3_goOut (d + 1) M [(0, vr (some (29, 3, 0))), (1, vi l1), (2, vr r2), (3, vr (some (a3, 17, 0))), (4, vr r4), (5, vi l5)] 69 [] Q := by
  refine sX3_goOut_69 (d := d) M l1 r2 a3 r4 l5 hw ?_
  obtain ⟨b13364, h13364, k⟩ := k
  refine ⟨b13364, h13364, ?_⟩
  refine zite k (fun h13365 k => ?_) (fun h13365 k => ?_)
  · refine zite k (fun h13366 k => ?_) (fun h13366 k => ?_)
    · refine sX3_goOut_103 (d := d) M l1 r2 _ b13364 hw ?_
      exact k
    · exact k
  · refine sX3_goOut_103 (d := d) M l1 r2 _ b13364 hw ?_
    exact k
theorem iX3_goal_0 {E : zE} {d : Nat} {Q : zO → zM → Prop} (M : zM) (l1 : Int32) (hw : cw M) (k : if l1 = (-1 : Int32) then (Q (.inl none) M) else (if (600 : Int32) ≤ l1 then (Q (.inl none) M) else (vp_in l1 600 ∧ (Q (.inl none) (si M 31 (l1).toNatClampNeg (vp_nar .short ((gi M 29 7)).toInt16.toInt32)))))) : Z E YX3_goal (d + 1) M [(0, vr (some (29, 3, 0))), (1, vi l1)] 0 [] Q := by
  refine sX3_goal_0 (d := d) M l1 hw ?_
  refine sX3_goalAt_0 (d := d) M l1 (gi M 29 7) hw ?_
  refine zite k (fun h13372 k => ?_) (fun h13372 k => ?_)
  · show Z E YX3_goal (d + 1) M [] 9 [] Q
    refine sX3_goal_9 (d := d) M hw ?_
    exact k
  · refine zite k (fun h13373 k => ?_) (fun h13373 k => ?_)
    · show Z E YX3_goal (d + 1) M [] 9 [] Q
      refine sX3_goal_9 (d := d) M hw ?_
      exact k
    · refine zand k (fun h13374 k => ?_)
      show Z E YX3_goal (d + 1) (si M 31 (l1).toNatClampNeg (vp_nar .short ((gi M 29 7)).toInt16.toInt32)) [] 9 [] Q
      refine sX3_goal_9 (d := d) (si M 31 (l1).toNatClampNeg (vp_nar .short ((gi M 29 7)).toInt16.toInt32)) hw ?_
      exact k
theorem iX3_init_0 {E : zE} {d : Nat} {Q : zO → zM → Prop} (M : zM) (a0 : Nat) (k : 16 ≤ a0 ∧ (Z E YX3_init (d + 1) (zn (sr (zn (sr (zn (sr (zn (sr (zn (sr (zn (sr (zn M 600) a0 0 (some ((zsz M), 101, 600))) 600) a0 1 (some ((zsz (zn M 600)), 102, 600))) 600) a0 2 (some ((zsz (zn (sr (zn M 600) a0 0 (some ((zsz M), 101, 600))) 600)), 102, 600))) 600) a0 3 (some ((zsz (zn (sr (zn (sr (zn M 600) a0 0 (some ((zsz M), 101, 600))) 600) a0 1 (some ((zsz (zn M 600)), 102, 600))) 600)), 102, 600))) 600) a0 4 (some ((zsz (zn (sr (zn (sr (zn (sr (zn M 600) a0 0 (some ((zsz M), 101, 600))) 600) a0 1 (some ((zsz (zn M 600)), 102, 600))) 600) a0 2 (some ((zsz (zn (sr (zn M 600) a0 0 (some ((zsz M), 101, 600))) 600)), 102, 600))) 600)), 100, 600))) 600) a0 5 (some ((zsz (zn (sr (zn (sr (zn (sr (zn (sr (zn M 600) a0 0 (some ((zsz M), 101, 600))) 600) a0 1 (some ((zsz (zn M 600)), 102, 600))) 600) a0 2 (some ((zsz (zn (sr (zn M 600) a0 0 (some ((zsz M), 101, 600))) 600)), 102, 600))) 600) a0 3 (some ((zsz (zn (sr (zn (sr (zn M 600) a0 0 (some ((zsz M), 101, 600))) 600) a0 1 (some ((zsz (zn M 600)), 102, 600))) 600)), 102, 600))) 600)), 101, 600))) 20) [(0, vr (some (a0, 3, 0)))] 63 [vr (some ((zsz (zn (sr (zn (sr (zn (sr (zn (sr (zn (sr (zn M 600) a0 0 (some ((zsz M), 101, 600))) 600) a0 1 (some ((zsz (zn M 600)), 102, 600))) 600) a0 2 (some ((zsz (zn (sr (zn M 600) a0 0 (some ((zsz M), 101, 600))) 600)), 102, 600))) 600) a0 3 (some ((zsz (zn (sr (zn (sr (zn M 600) a0 0 (some ((zsz M), 101, 600))) 600) a0 1 (some ((zsz (zn M 600)), 102, 600))) 600)), 102, 600))) 600) a0 4 (some ((zsz (zn (sr (zn (sr (zn (sr (zn M 600) a0 0 (some ((zsz M), 101, 600))) 600) a0 1 (some ((zsz (zn M 600)), 102, 600))) 600) a0 2 (some ((zsz (zn (sr (zn M 600) a0 0 (some ((zsz M), 101, 600))) 600)), 102, 600))) 600)), 100, 600))) 600)), 100, 20)), vr (some (a0, 3, 0))] Q)) : Z E YX3_init (d + 1) M [(0, vr (some (a0, 3, 0)))] 0 [] Q := by
  refine sX3_init_0 (d := d) M a0 ?_
  refine sX3_init_10 (d := d) (zn M 600) _ (zsz M) ?_
  refine zand k (fun h13381 k => ?_)
  refine sX3_init_19 (d := d) (zn (sr (zn M 600) a0 0 (some ((zsz M), 101, 600))) 600) _ (zsz (zn M 600)) ?_
  refine ⟨h13381, ?_⟩
  refine sX3_init_28 (d := d) (zn (sr (zn (sr (zn M 600) a0 0 (some ((zsz M), 101, 600))) 600) a0 1 (some ((zsz (zn M 600)), 102, 600))) 600) _ (zsz (zn (sr (zn M 600) a0 0 (some ((zsz M), 101, 600))) 600)) ?_
  refine ⟨h13381, ?_⟩
  refine sX3_init_37 (d := d) (zn (sr (zn (sr (zn (sr (zn M 600) a0 0 (some ((zsz M), 101, 600))) 600) a0 1 (some ((zsz (zn M 600)), 102, 600))) 600) a0 2 (some ((zsz (zn (sr (zn M 600) a0 0 (some ((zsz M), 101, 600))) 600)), 102, 600))) 600) _ (zsz (zn (sr (zn (sr (zn M 600) a0 0 (some ((zsz M), 101, 600))) 600) a0 1 (some ((zsz (zn M 600)), 102, 600))) 600)) ?_
  refine ⟨h13381, ?_⟩
  refine sX3_init_46 (d := d) (zn (sr (zn (sr (zn (sr (zn (sr (zn M 600) a0 0 (some ((zsz M), 101, 600))) 600) a0 1 (some ((zsz (zn M 600)), 102, 600))) 600) a0 2 (some ((zsz (zn (sr (zn M 600) a0 0 (some ((zsz M), 101, 600))) 600)), 102, 600))) 600) a0 3 (some ((zsz (zn (sr (zn (sr (zn M 600) a0 0 (some ((zsz M), 101, 600))) 600) a0 1 (some ((zsz (zn M 600)), 102, 600))) 600)), 102, 600))) 600) _ (zsz (zn (sr (zn (sr (zn (sr (zn M 600) a0 0 (some ((zsz M), 101, 600))) 600) a0 1 (some ((zsz (zn M 600)), 102, 600))) 600) a0 2 (some ((zsz (zn (sr (zn M 600) a0 0 (some ((zsz M), 101, 600))) 600)), 102, 600))) 600)) ?_
  refine ⟨h13381, ?_⟩
  refine sX3_init_55 (d := d) (zn (sr (zn (sr (zn (sr (zn (sr (zn (sr (zn M 600) a0 0 (some ((zsz M), 101, 600))) 600) a0 1 (some ((zsz (zn M 600)), 102, 600))) 600) a0 2 (some ((zsz (zn (sr (zn M 600) a0 0 (some ((zsz M), 101, 600))) 600)), 102, 600))) 600) a0 3 (some ((zsz (zn (sr (zn (sr (zn M 600) a0 0 (some ((zsz M), 101, 600))) 600) a0 1 (some ((zsz (zn M 600)), 102, 600))) 600)), 102, 600))) 600) a0 4 (some ((zsz (zn (sr (zn (sr (zn (sr (zn M 600) a0 0 (some ((zsz M), 101, 600))) 600) a0 1 (some ((zsz (zn M 600)), 102, 600))) 600) a0 2 (some ((zsz (zn (sr (zn M 600) a0 0 (some ((zsz M), 101, 600))) 600)), 102, 600))) 600)), 100, 600))) 600) _ (zsz (zn (sr (zn (sr (zn (sr (zn (sr (zn M 600) a0 0 (some ((zsz M), 101, 600))) 600) a0 1 (some ((zsz (zn M 600)), 102, 600))) 600) a0 2 (some ((zsz (zn (sr (zn M 600) a0 0 (some ((zsz M), 101, 600))) 600)), 102, 600))) 600) a0 3 (some ((zsz (zn (sr (zn (sr (zn M 600) a0 0 (some ((zsz M), 101, 600))) 600) a0 1 (some ((zsz (zn M 600)), 102, 600))) 600)), 102, 600))) 600)) ?_
  refine ⟨h13381, ?_⟩
  exact k
theorem iX3_init_63 {E : zE} {d : Nat} {Q : zO → zM → Prop} (M : zM) (a0 : Nat) (p0 : Nat) (k : 16 ≤ a0 ∧ (16 ≤ (zsz M) ∧ (Q (.inl none) (sr (sr (si (zn (sr M a0 6 (some (p0, 100, 20))) 3) (zsz M) 0 (0 : Int32)) (zsz M) 1 (some (1, 110, 0))) a0 10 (some ((zsz M), 11, 0)))))) : Z E YX3_init (d + 4) M [(0, vr (some (a0, 3, 0)))] 63 [vr (some (p0, 100, 20)), vr (some (a0, 3, 0))] Q := by
  refine sX3_init_63 (d := (d + 3)) M a0 p0 ?_
  refine zand k (fun h13383 k => ?_)
  refine sX3_init_70 (d := (d + 3)) (zn (sr M a0 6 (some (p0, 100, 20))) 3) (zsz M) _ ?_
  refine jJ2_init (d := d) (zn (sr M a0 6 (some (p0, 100, 20))) 3) (zsz M) ?_
  refine zand k (fun h13384 k => ?_)
  show Z E YX3_init ((d + 3) + 1) (sr (si (zn (sr M a0 6 (some (p0, 100, 20))) 3) (zsz M) 0 (0 : Int32)) (zsz M) 1 (some (1, 110, 0))) [] 74 [vr (some ((zsz M), 11, 0)), vr (some (a0, 3, 0))] Q
  refine sX3_init_74 (d := (d + 3)) (sr (si (zn (sr M a0 6 (some (p0, 100, 20))) 3) (zsz M) 0 (0 : Int32)) (zsz M) 1 (some (1, 110, 0))) (zsz M) _ ?_
  refine ⟨h13383, ?_⟩
  exact k
theorem iX3_put_0 {E : zE} {d : Nat} {Q : zO → zM → Prop} (M : zM) (l1 : Int32) (l2 : Int32) (l3 : Int32) (hw : cw M) (k : if (600 : Int32) ≤ (gi M 29 7) then (Q (.inl (some (vi (gi M 29 7)))) (si M 29 7 ((gi M 29 7) + (1 : Int32)))) else (vp_in (gi M 29 7) 600 ∧ (Z E YX3_openTry d (si (si (si M 30 ((gi M 29 7)).toNatClampNeg (vp_nar .byte (l1).toInt8.toInt32)) 31 ((gi M 29 7)).toNatClampNeg (vp_nar .short (l2).toInt16.toInt32)) 34 ((gi M 29 7)).toNatClampNeg l3) (zargs 0 [vr (some (29, 3, 0))]) 0 [] (zafter E YX3_put (d + 1) [(0, vr (some (29, 3, 0)))] 51 3 [vi (gi M 29 7), vr (some (32, 102, 600))] Q)))) : Z E YX3_put (d + 1) M [(0, vr (some (29, 3, 0))), (1, vi l1), (2, vi l2), (3, vi l3)] 0 [] Q := by
  refine sX3_put_0 (d := d) M l1 l2 l3 hw ?_
  refine zite k (fun h13390 k => ?_) (fun h13390 k => ?_)
  · refine sX3_put_87 (d := d) M hw ?_
    exact k
  · refine zand k (fun h13391 k => ?_)
    refine ⟨h13391, ?_⟩
    refine ⟨h13391, ?_⟩
    exact k
theorem iX3_put_68 {E : zE} {d : Nat} {Q : zO → zM → Prop} (M : zM) (s0 : Int32) (s1 : Int32) (hw : cw M) (k : vp_in s1 600 ∧ (∃ b13397 : Nat, (gr M 29 12) = some (b13397, 10, 0) ∧ (vp_in (gi M 29 7) 600 ∧ (Q (.inl (some (vi (gi M 29 7)))) (si (si (si M 33 (s1).toNatClampNeg (vp_nar .short (s0).toInt16.toInt32)) 35 ((gi M 29 7)).toNatClampNeg (vp_nar .byte ((gi (si M 33 (s1).toNatClampNeg (vp_nar .short (s0).toInt16.toInt32)) b13397 0)).toInt8.toInt32)) 29 7 ((gi M 29 7) + (1 : Int32))))))) : Z E YX3_put (d + 1) M [(0, vr (some (29, 3, 0)))] 68 [vi s0, vi s1, vr (some (33, 102, 600))] Q := by
  refine sX3_put_68 (d := d) M s0 s1 hw ?_
  refine zand k (fun h13396 k => ?_)
  obtain ⟨b13397, h13397, k⟩ := k
  refine ⟨b13397, h13397, ?_⟩
  refine zand k (fun h13398 k => ?_)
  refine sX3_put_87 (d := d) (si (si M 33 (s1).toNatClampNeg (vp_nar .short (s0).toInt16.toInt32)) 35 ((gi M 29 7)).toNatClampNeg (vp_nar .byte ((gi (si M 33 (s1).toNatClampNeg (vp_nar .short (s0).toInt16.toInt32)) b13397 0)).toInt8.toInt32)) hw ?_
  exact k
theorem iX3_set_5 {E : zE} {d : Nat} {Q : zO → zM → Prop} (M : zM) (l1 : Int32) (s0 : Int32) (hw : cw M) (k : if s0 = (-1 : Int32) then (Z E YX3_put d M (zargs 0 [vr (some (29, 3, 0)), vi (4 : Int32), vi (0 : Int32), vi l1]) 0 [] (zafter E YX3_set (d + 1) [] 28 3 [] Q)) else (Z E YX3_put d M (zargs 0 [vr (some (29, 3, 0)), vi (2 : Int32), vi s0, vi l1]) 0 [] (zafter E YX3_set (d + 1) [] 28 3 [] Q))) : Z E YX3_set (d + 1) M [(0, vr (some (29, 3, 0))), (1, vi l1)] 5 [vi s0] Q := by
  refine sX3_set_5 (d := d) M l1 s0 hw ?_
  refine zite k (fun h13399 k => ?_) (fun h13399 k => ?_)
  · refine sX3_set_17 (d := d) M l1 s0 (4 : Int32) hw ?_
    refine zpos h13399 ?_
    exact k
  · refine sX3_set_17 (d := d) M l1 s0 (2 : Int32) hw ?_
    refine zneg h13399 ?_
    exact k
theorem iX3_site_0 {E : zE} {d : Nat} {Q : zO → zM → Prop} (M : zM) (l1 : Int32) (l2 : Int32) (hw : cw M) (k : if (19 : Int32) < (gi M 29 8) then (if l1 = (16 : Int32) then (Z E YX3_put d M (zargs 0 [vr (some (29, 3, 0)), vi l1, vi l2, vi (gi M 29 8)]) 0 [] (zafter E YX3_site (d + 1) [(0, vr (some (29, 3, 0)))] 35 3 [] Q)) else (Z E YX3_put d M (zargs 0 [vr (some (29, 3, 0)), vi l1, vi (gi M 29 8), vi (0 : Int32)]) 0 [] (zafter E YX3_site (d + 1) [(0, vr (some (29, 3, 0)))] 49 3 [] Q))) else (vp_in (gi M 29 8) 20 ∧ (if l1 = (16 : Int32) then (Z E YX3_put d (si M 36 ((gi M 29 8)).toNatClampNeg (gi M 29 7)) (zargs 0 [vr (some (29, 3, 0)), vi l1, vi l2, vi (gi M 29 8)]) 0 [] (zafter E YX3_site (d + 1) [(0, vr (some (29, 3, 0)))] 35 3 [] Q)) else (Z E YX3_put d (si M 36 ((gi M 29 8)).toNatClampNeg (gi M 29 7)) (zargs 0 [vr (some (29, 3, 0)), vi l1, vi (gi M 29 8), vi (0 : Int32)]) 0 [] (zafter E YX3_site (d + 1) [(0, vr (some (29, 3, 0)))] 49 3 [] Q))))) : Z E YX3_site (d + 1) M [(0, vr (some (29, 3, 0))), (1, vi l1), (2, vi l2)] 0 [] Q := by
  refine sX3_site_0 (d := d) M l1 l2 hw ?_
  refine zite k (fun h13400 k => ?_) (fun h13400 k => ?_)
  · refine sX3_site_22 (d := d) M l1 l2 hw ?_
    exact k
  · refine zand k (fun h13402 k => ?_)
    refine sX3_site_22 (d := d) (si M 36 ((gi M 29 8)).toNatClampNeg (gi M 29 7)) l1 l2 hw ?_
    exact k
theorem iX1_count_12 {E : zE} {d : Nat} {Q : zO → zM → Prop} (M : zM) (l1 : Int32) (s0 : Int32) (hw : cw M) (k : if l1 = 0 then (if (gi M 16 10) = 0 then (Q (.inl (some (vi (0 : Int32)))) M) else (Q (.inl (some (vi (gi M 29 7)))) M)) else (if l1 = 1 then (if (gi M 16 10) = 0 then (Q (.inl (some (vi (0 : Int32)))) M) else (∃ b13412 : Nat, (gr M 16 8) = some (b13412, 11, 0) ∧ (Q (.inl (some (vi (gi M b13412 2)))) M))) else (if l1 = 2 then (if (gi M 16 10) = 0 then (Q (.inl (some (vi (0 : Int32)))) M) else (Q (.inl (some (vi (gi M 16 1)))) M)) else (if l1 = 3 then (if (gi M 16 10) = 0 then (Q (.inl (some (vi (0 : Int32)))) M) else (Q (.inl (some (vi (gi M 16 11)))) M)) else (if l1 = 4 then (if (gi M 16 10) = 0 then (Q (.inl (some (vi (0 : Int32)))) M) else (Q (.inl (some (vi (gi M 16 12)))) M)) else (if l1 = 5 then (Q (.inl (some (vi (gi M 16 5)))) M) else (if l1 = 6 then (Q (.inl (some (vi (gi M 16 51)))) M) else (if l1 = 7 then (if s0 = 0 then (Q (.inl (some (vi (0 : Int32)))) M) else (Q (.inl (some (vi (gi M 16 52)))) M)) else (if l1 = 8 then (if s0 = 0 then (Q (.inl (some (vi (0 : Int32)))) M) else (Q (.inl (some (vi (gi M 16 26)))) M)) else (if l1 = 9 then (if s0 = 0 then (Q (.inl (some (vi (0 : Int32)))) M) else (Q (.inl (some (vi (gi M 17 2)))) M)) else (if l1 = 10 then (if s0 = 0 then (Q (.inl (some (vi (0 : Int32)))) M) else (Q (.inl (some (vi (gi M 16 53)))) M)) else (if l1 = 11 then (if s0 = 0 then (Q (.inl (some (vi (0 : Int32)))) M) else (Q (.inl (some (vi (gi M 16 49)))) M)) else (if l1 = 12 then (if (gi M 16 62) = 0 then (Q (.inl (some (vi (-1 : Int32)))) M) else (Q (.inl (some (vi (gi M 16 63)))) M)) else (Q (.inl (some (vi (-1 : Int32)))) M)))))))))))))) : Z E YX1_count (d + 1) M [(0, vr (some (16, 0, 0))), (1, vi l1)] 12 [vi s0] Q := by
  refine sX1_count_12 (d := d) M l1 s0 hw ?_
  refine zite k (fun h13408 k => ?_) (fun h13408 k => ?_)
  · exact k
  · refine zite k (fun h13410 k => ?_) (fun h13410 k => ?_)
    · refine zite k (fun h13411 k => ?_) (fun h13411 k => ?_)
      · exact k
      · obtain ⟨b13412, h13412, k⟩ := k
        refine ⟨b13412, h13412, ?_⟩
        refine sJ2_size_0 (d := d) M b13412 ?_
        show Z E YX1_count (d + 1) M [] 113 [vi (gi M b13412 2)] Q
        refine sX1_count_113 (d := d) M (gi M b13412 2) hw ?_
        exact k
    · exact k
theorem iX1_letter_0 {E : zE} {d : Nat} {Q : zO → zM → Prop} (M : zM) (l1 : Int32) (l2 : Int32) (hw : cw M) (k : if (gi M 16 10) = 0 then (Q (.inl (some (vi (-1 : Int32)))) M) else (if l1 < 0 then (Q (.inl (some (vi (-1 : Int32)))) M) else (if (gi M 17 2) ≤ l1 then (Q (.inl (some (vi (-1 : Int32)))) M) else (if l2 < 0 then (Q (.inl (some (vi (-1 : Int32)))) M) else (∃ b13448 m13448 : Nat, (gr M 17 1) = some (b13448, 100, m13448) ∧ (vp_in (l1 + (1 : Int32)) m13448 ∧ (vp_in l1 m13448 ∧ (if l2 < ((gi M b13448 ((l1 + (1 : Int32))).toNatClampNeg) - (gi M b13448 (l1).toNatClampNeg)) then (∃ b13452 m13452 : Nat, (gr M 17 0) = some (b13452, 101, m13452) ∧ (vp_in ((gi M b13448 (l1).toNatClampNeg) + l2) m13452 ∧ (Q (.inl (some (vi (gi M b13452 (((gi M b13448 (l1).toNatClampNeg) + l2)).toNatClampNeg)))) M))) else (Q (.inl (some (vi (-1 : Int32)))) M))))))))) : Z E YX1_letter (d + 1) M [(0, vr (some (16, 0, 0))), (1, vi l1), (2, vi l2)] 0 [] Q := by
  refine sX1_letter_0 (d := d) M l1 l2 hw ?_
  refine zite k (fun h13444 k => ?_) (fun h13444 k => ?_)
  · refine sX1_letter_51 (d := d) M (-1 : Int32) hw ?_
    exact k
  · refine zite k (fun h13445 k => ?_) (fun h13445 k => ?_)
    · refine sX1_letter_51 (d := d) M (-1 : Int32) hw ?_
      exact k
    · refine zite k (fun h13446 k => ?_) (fun h13446 k => ?_)
      · refine sX1_letter_51 (d := d) M (-1 : Int32) hw ?_
        exact k
      · refine zite k (fun h13447 k => ?_) (fun h13447 k => ?_)
        · refine sX1_letter_51 (d := d) M (-1 : Int32) hw ?_
          exact k
        · refine jX2_length (d := d) M 17 l1 ?_
          obtain ⟨b13448, m13448, h13448, k⟩ := k
          refine ⟨b13448, m13448, h13448, ?_⟩
          refine zand k (fun h13449 k => ?_)
          refine zand k (fun h13450 k => ?_)
          show Z E YX1_letter (d + 1) M [(0, vr (some (16, 0, 0))), (1, vi l1), (2, vi l2)] 35 [vi ((gi M b13448 ((l1 + (1 : Int32))).toNatClampNeg) - (gi M b13448 (l1).toNatClampNeg)), vi l2] Q
          refine sX1_letter_35 (d := d) M l1 l2 ((gi M b13448 ((l1 + (1 : Int32))).toNatClampNeg) - (gi M b13448 (l1).toNatClampNeg)) l2 hw ?_
          refine zite k (fun h13451 k => ?_) (fun h13451 k => ?_)
          · refine sX2_sign_0 (d := d) M 17 l1 l2 ?_
            refine ⟨b13448, m13448, h13448, ?_⟩
            refine ⟨h13450, ?_⟩
            obtain ⟨b13452, m13452, h13452, k⟩ := k
            refine ⟨b13452, m13452, h13452, ?_⟩
            refine zand k (fun h13453 k => ?_)
            show Z E YX1_letter (d + 1) M [] 51 [vi (gi M b13452 (((gi M b13448 (l1).toNatClampNeg) + l2)).toNatClampNeg)] Q
            refine sX1_letter_51 (d := d) M (gi M b13452 (((gi M b13448 (l1).toNatClampNeg) + l2)).toNatClampNeg) hw ?_
            exact k
          · refine sX1_letter_51 (d := d) M (-1 : Int32) hw ?_
            exact k
theorem iX1_read_54 {E : zE} {d : Nat} {Q : zO → zM → Prop} (M : zM) (l2 : Int32) (hw : cw M) (k : ∃ b13459 : Nat, (gr M 16 8) = some (b13459, 11, 0) ∧ (if (gi M b13459 2) ≤ l2 then (Z E YX1_tooLarge d (si M 16 1 (gi M 17 2)) (zargs 0 [vr (some (16, 0, 0))]) 0 [] (zafter E YX1_read (d + 1) [(0, vr (some (16, 0, 0)))] 115 3 [vr (some (16, 0, 0))] Q)) else (if (600 : Int32) < (gi M 29 7) then (Z E YX1_tooLarge d (si M 16 1 (gi M 17 2)) (zargs 0 [vr (some (16, 0, 0))]) 0 [] (zafter E YX1_read (d + 1) [(0, vr (some (16, 0, 0)))] 115 3 [vr (some (16, 0, 0))] Q)) else (Z E YJ2_get d M (zargs 0 [vr (some (b13459, 11, 0)), vi l2]) 0 [] (zafter E YX1_read (d + 1) [(0, vr (some (16, 0, 0))), (2, vi l2)] 87 3 [vr (some (29, 3, 0))] Q))))) : Z E YX1_read (d + 1) M [(0, vr (some (16, 0, 0))), (2, vi l2)] 54 [] Q := by
  refine sX1_read_54 (d := d) M l2 hw ?_
  obtain ⟨b13459, h13459, k⟩ := k
  refine ⟨b13459, h13459, ?_⟩
  refine sJ2_size_0 (d := d) M b13459 ?_
  show Z E YX1_read (d + 1) M [(0, vr (some (16, 0, 0))), (2, vi l2)] 62 [vi (gi M b13459 2), vi l2] Q
  refine sX1_read_62 (d := d) M l2 (gi M b13459 2) l2 hw ?_
  refine zite k (fun h13460 k => ?_) (fun h13460 k => ?_)
  · refine sX1_read_102 (d := d) M hw ?_
    exact k
  · refine zite k (fun h13471 k => ?_) (fun h13471 k => ?_)
    · refine sX1_read_102 (d := d) M hw ?_
      exact k
    · refine ⟨b13459, h13459, ?_⟩
      exact k
theorem iX1_read_118 {E : zE} {d : Nat} {Q : zO → zM → Prop} (M : zM) (s0 : Int32) (hw : cw M) (k : if s0 = 0 then (zfit .boolean (1 : Int32) ∧ (Q (.inl (some (vi (0 : Int32)))) (si (si (si M 16 10 (1 : Int32)) 16 5 (0 : Int32)) 16 12 (gi M 29 8)))) else (zfit .boolean (0 : Int32) ∧ (Z E YX1_firstNames d (si (si M 16 10 (0 : Int32)) 16 5 (0 : Int32)) (zargs 0 [vr (some (16, 0, 0))]) 0 [] (zafter E YX1_read (d + 1) [] 142 3 [] Q)))) : Z E YX1_read (d + 1) M [(0, vr (some (16, 0, 0)))] 118 [vi s0, vr (some (16, 0, 0))] Q := by
  refine sX1_read_118 (d := d) M s0 hw ?_
  refine zite k (fun h13472 k => ?_) (fun h13472 k => ?_)
  · refine sX1_read_126 (d := d) M (1 : Int32) hw ?_
    refine zand k (fun h13473 k => ?_)
    refine zneg (show ¬ ((1 : Int32) = 0) from by decide) ?_
    exact k
  · refine sX1_read_126 (d := d) M (0 : Int32) hw ?_
    refine zand k (fun h13474 k => ?_)
    refine zpos (show (0 : Int32) = 0 from by decide) ?_
    exact k
theorem iX1_tooLarge_0 {E : zE} {d : Nat} {Q : zO → zM → Prop} (M : zM) (hw : cw M) (k : ∃ b13478 : Nat, (gr M 16 8) = some (b13478, 11, 0) ∧ (if (10 : Int32) < ((gi M b13478 2) - (1 : Int32)) then (Z E YX1_tooLarge (d + 1) (si M 16 11 (((29 : Int32) + ((6 : Int32) * ((gi M b13478 2) - (1 : Int32)))) + ((2 : Int32) * (gi M 29 8)))) [(0, vr (some (16, 0, 0))), (1, vi ((gi M b13478 2) - (1 : Int32))), (2, vi (1 : Int32)), (3, vi (1 : Int32))] 79 [] Q) else (if (19 : Int32) < (gi M 29 8) then (Z E YX1_tooLarge (d + 1) (si M 16 11 (((29 : Int32) + ((6 : Int32) * ((gi M b13478 2) - (1 : Int32)))) + ((2 : Int32) * (gi M 29 8)))) [(0, vr (some (16, 0, 0))), (1, vi ((gi M b13478 2) - (1 : Int32))), (2, vi (1 : Int32)), (3, vi (1 : Int32))] 79 [] Q) else (if (90 : Int32) < (gi M 16 1) then (Z E YX1_tooLarge (d + 1) (si M 16 11 (((29 : Int32) + ((6 : Int32) * ((gi M b13478 2) - (1 : Int32)))) + ((2 : Int32) * (gi M 29 8)))) [(0, vr (some (16, 0, 0))), (1, vi ((gi M b13478 2) - (1 : Int32))), (2, vi (1 : Int32)), (3, vi (1 : Int32))] 79 [] Q) else (if (gi M 29 7) ≤ (600 : Int32) then (Z E YX1_tooLarge (d + 1) (si M 16 11 (((29 : Int32) + ((6 : Int32) * ((gi M b13478 2) - (1 : Int32)))) + ((2 : Int32) * (gi M 29 8)))) [(0, vr (some (16, 0, 0))), (1, vi ((gi M b13478 2) - (1 : Int32))), (2, vi (0 : Int32)), (3, vi (1 : Int32))] 79 [] Q) else (Z E YX1_tooLarge (d + 1) (si M 16 11 (((29 : Int32) + ((6 : Int32) * ((gi M b13478 2) - (1 : Int32)))) + ((2 : Int32) * (gi M 29 8)))) [(0, vr (some (16, 0, 0))), (1, vi ((gi M b13478 2) - (1 : Int32))), (2, vi (1 : Int32)), (3, vi (1 : Int32))] 79 [] Q)))))) : Z E YX1_tooLarge (d + 1) M [(0, vr (some (16, 0, 0)))] 0 [] Q := by
  refine sX1_tooLarge_0 (d := d) M hw ?_
  obtain ⟨b13478, h13478, k⟩ := k
  refine ⟨b13478, h13478, ?_⟩
  refine sJ2_size_0 (d := d) M b13478 ?_
  show Z E YX1_tooLarge (d + 1) M [(0, vr (some (16, 0, 0)))] 7 [vi (gi M b13478 2)] Q
  refine sX1_tooLarge_7 (d := d) M (gi M b13478 2) hw ?_
  exact k
theorem iX1_tooLarge_79 {E : zE} {d : Nat} {Q : zO → zM → Prop} (M : zM) (l1 : Int32) (l2 : Int32) (l3 : Int32) (hw : cw M) (k : if l1 < l3 then (if l2 = 0 then (∃ b13485 : Nat, (gr M 16 8) = some (b13485, 11, 0) ∧ (if (lg_cmp (((((gi M 29 7) + ((2 : Int32) * (gi M b13485 2)))).toInt64 * ((gi M 16 11)).toInt64) * ((gi M 16 1)).toInt64) (450000 : Int64)) ≤ 0 then (Q (.inl (some (vi (0 : Int32)))) M) else (Q (.inl (some (vi (1 : Int32)))) M))) else (Q (.inl (some (vi (1 : Int32)))) M)) else (if l2 = 0 then (∃ b13488 : Nat, (gr M 16 8) = some (b13488, 11, 0) ∧ (Z E YJ2_get d M (zargs 0 [vr (some (b13488, 11, 0)), vi l3]) 0 [] (zafter E YX1_tooLarge (d + 1) [(0, vr (some (16, 0, 0))), (1, vi l1), (3, vi l3)] 93 3 [] Q))) else (Z E YX1_tooLarge (d + 1) M [(0, vr (some (16, 0, 0))), (1, vi l1), (2, vi (1 : Int32)), (3, vi (l3 + (1 : Int32)))] 79 [] Q))) : Z E YX1_tooLarge (d + 1) M [(0, vr (some (16, 0, 0))), (1, vi l1), (2, vi l2), (3, vi l3)] 79 [] Q := by
  refine sX1_tooLarge_79 (d := d) M l1 l2 l3 hw ?_
  refine zite k (fun h13483 k => ?_) (fun h13483 k => ?_)
  · refine zite k (fun h13484 k => ?_) (fun h13484 k => ?_)
    · obtain ⟨b13485, h13485, k⟩ := k
      refine ⟨b13485, h13485, ?_⟩
      refine sJ2_size_0 (d := d) M b13485 ?_
      show Z E YX1_tooLarge (d + 1) M [(0, vr (some (16, 0, 0)))] 138 [vi (gi M b13485 2), vi (2 : Int32), vi (gi M 29 7)] Q
      refine sX1_tooLarge_138 (d := d) M (gi M b13485 2) (2 : Int32) (gi M 29 7) hw ?_
      exact k
    · exact k
  · exact k
theorem iX34_init_0 {E : zE} {d : Nat} {Q : zO → zM → Prop} (M : zM) (a0 : Nat) (l1 : Int32) (r2 : Option zP) (r3 : Option zP) (k : 16 ≤ a0 ∧ (Q (.inl none) (sr (sr (si M a0 0 l1) a0 1 r2) a0 2 r3))) : Z E YX34_init (d + 2) M [(0, vr (some (a0, 39, 0))), (1, vi l1), (2, vr r2), (3, vr r3)] 0 [] Q := by
  refine sX34_init_0 (d := (d + 1)) M a0 l1 r2 r3 ?_
  refine sX13_init_0 (d := d) M _ 39 ?_
  show Z E YX34_init ((d + 1) + 1) M [(0, vr (some (a0, 39, 0))), (1, vi l1), (2, vr r2), (3, vr r3)] 4 [] Q
  refine sX34_init_4 (d := (d + 1)) M _ l1 r2 r3 ?_
  refine zand k (fun h13499 k => ?_)
  refine ⟨h13499, ?_⟩
  refine ⟨h13499, ?_⟩
  exact k
theorem iX35_init_0 {E : zE} {d : Nat} {Q : zO → zM → Prop} (M : zM) (a0 : Nat) (l1 : Int32) (k : 16 ≤ a0 ∧ (zfit .boolean l1 ∧ (Q (.inl none) (si M a0 0 l1)))) : Z E YX35_init (d + 2) M [(0, vr (some (a0, 40, 0))), (1, vi l1)] 0 [] Q := by
  refine sX35_init_0 (d := (d + 1)) M a0 l1 ?_
  refine sX13_init_0 (d := d) M _ 40 ?_
  show Z E YX35_init ((d + 1) + 1) M [(0, vr (some (a0, 40, 0))), (1, vi l1)] 4 [] Q
  refine sX35_init_4 (d := (d + 1)) M _ l1 ?_
  exact k
theorem iX36_code_14 {E : zE} {d : Nat} {Q : zO → zM → Prop} (M : zM) (a1 : Nat) (s0 : Int32) (k : Z E YX3_goBack d M (zargs 0 [vr (some (a1, 3, 0))]) 0 [] (zafter E YX36_code (d + 1) [] 27 3 [] Q)) : Z E YX36_code (d + 1) M [(1, vr (some (a1, 3, 0)))] 14 [vi s0] Q := by
  refine sX36_code_14 (d := d) M a1 s0 ?_
  refine sX36_code_26 (d := d) M (some (a1, 3, 0)) ?_
  refine ⟨a1, rfl, ?_⟩
  exact k
theorem iX36_init_0 {E : zE} {d : Nat} {Q : zO → zM → Prop} (M : zM) (a0 : Nat) (r1 : Option zP) (k : 16 ≤ a0 ∧ (Q (.inl none) (sr M a0 0 r1))) : Z E YX36_init (d + 2) M [(0, vr (some (a0, 41, 0))), (1, vr r1)] 0 [] Q := by
  refine sX36_init_0 (d := (d + 1)) M a0 r1 ?_
  refine sX13_init_0 (d := d) M _ 41 ?_
  show Z E YX36_init ((d + 1) + 1) M [(0, vr (some (a0, 41, 0))), (1, vr r1)] 4 [] Q
  refine sX36_init_4 (d := (d + 1)) M _ r1 ?_
  exact k
theorem iX37_init_0 {E : zE} {d : Nat} {Q : zO → zM → Prop} (M : zM) (a0 : Nat) (r1 : Option zP) (k : 16 ≤ a0 ∧ (Q (.inl none) (sr M a0 0 r1))) : Z E YX37_init (d + 2) M [(0, vr (some (a0, 42, 0))), (1, vr r1)] 0 [] Q := by
  refine sX37_init_0 (d := (d + 1)) M a0 r1 ?_
  refine sX13_init_0 (d := d) M _ 42 ?_
  show Z E YX37_init ((d + 1) + 1) M [(0, vr (some (a0, 42, 0))), (1, vr r1)] 4 [] Q
  refine sX37_init_4 (d := (d + 1)) M _ r1 ?_
  exact k
theorem iX38_code_25 {E : zE} {d : Nat} {Q : zO → zM → Prop} (M : zM) (a0 : Nat) (a1 : Nat) (l2 : Int32) (u0 : Option zP) (k : ∃ b13519 : Nat, u0 = some (b13519, 17, 0) ∧ (16 ≤ b13519 ∧ (if (gi (si M b13519 7 l2) a0 2) = (-1 : Int32) then (∃ b13522 t13522 : Nat, (gr (sr (si M b13519 7 l2) b13519 6 (gr M a0 1)) a0 0) = some (b13522, t13522, 0) ∧ (∃ Y_ : zY, vt_code t13522 = some Y_ ∧ Z E Y_ d (sr (si M b13519 7 l2) b13519 6 (gr M a0 1)) (zargs 0 [vr (some (b13522, t13522, 0)), vr (some (a1, 3, 0))]) 0 [] (zafter E YX38_code (d + 1) [(0, vr (some (a0, 43, 0))), (1, vr (some (a1, 3, 0))), (2, vi l2), (3, vr (some (b13519, 17, 0)))] 56 3 [] Q))) else (∃ b13523 t13523 : Nat, (gr (sr (si M b13519 7 l2) b13519 6 none) a0 0) = some (b13523, t13523, 0) ∧ (∃ Y_ : zY, vt_code t13523 = some Y_ ∧ Z E Y_ d (sr (si M b13519 7 l2) b13519 6 none) (zargs 0 [vr (some (b13523, t13523, 0)), vr (some (a1, 3, 0))]) 0 [] (zafter E YX38_code (d + 1) [(0, vr (some (a0, 43, 0))), (1, vr (some (a1, 3, 0))), (2, vi l2), (3, vr (some (b13519, 17, 0)))] 56 3 [] Q)))))) : Z E YX38_code (d + 1) M [(0, vr (some (a0, 43, 0))), (1, vr (some (a1, 3, 0))), (2, vi l2)] 25 [vr u0] Q := by
  refine sX38_code_25 (d := d) M a0 a1 l2 u0 ?_
  obtain ⟨b13519, h13519, k⟩ := k
  refine ⟨b13519, h13519, ?_⟩
  refine zand k (fun h13520 k => ?_)
  refine zite k (fun h13521 k => ?_) (fun h13521 k => ?_)
  · refine ⟨h13520, ?_⟩
    exact k
  · refine ⟨h13520, ?_⟩
    exact k
theorem iX38_code_73 {E : zE} {d : Nat} {Q : zO → zM → Prop} (M : zM) (a0 : Nat) (a1 : Nat) (l2 : Int32) (k : if (gi M a0 2) = (-1 : Int32) then (∃ b13525 t13525 : Nat, (gr M a0 1) = some (b13525, t13525, 0) ∧ (∃ Y_ : zY, vt_code t13525 = some Y_ ∧ Z E Y_ d M (zargs 0 [vr (some (b13525, t13525, 0)), vr (some (a1, 3, 0))]) 0 [] (zafter E YX38_code (d + 1) [(0, vr (some (a0, 43, 0))), (1, vr (some (a1, 3, 0))), (2, vi l2)] 86 3 [] Q))) else (Z E YX3_put d M (zargs 0 [vr (some (a1, 3, 0)), vi (21 : Int32), vi (0 : Int32), vi (0 : Int32)]) 0 [] (zafter E YX38_code (d + 1) [(0, vr (some (a0, 43, 0))), (1, vr (some (a1, 3, 0))), (2, vi l2)] 94 3 [] Q))) : Z E YX38_code (d + 1) M [(0, vr (some (a0, 43, 0))), (1, vr (some (a1, 3, 0))), (2, vi l2)] 73 [] Q := by
  refine sX38_code_73 (d := d) M a0 a1 l2 ?_
  refine zite k (fun h13524 k => ?_) (fun h13524 k => ?_)
  · exact k
  · refine sX38_code_89 (d := d) M _ _ l2 ?_
    exact k
theorem iX38_init_0 {E : zE} {d : Nat} {Q : zO → zM → Prop} (M : zM) (a0 : Nat) (r1 : Option zP) (l2 : Int32) (r3 : Option zP) (k : 16 ≤ a0 ∧ (Q (.inl none) (sr (si (sr M a0 0 r1) a0 2 l2) a0 1 r3))) : Z E YX38_init (d + 2) M [(0, vr (some (a0, 43, 0))), (1, vr r1), (2, vi l2), (3, vr r3)] 0 [] Q := by
  refine sX38_init_0 (d := (d + 1)) M a0 r1 l2 r3 ?_
  refine sX13_init_0 (d := d) M _ 43 ?_
  show Z E YX38_init ((d + 1) + 1) M [(0, vr (some (a0, 43, 0))), (1, vr r1), (2, vi l2), (3, vr r3)] 4 [] Q
  refine sX38_init_4 (d := (d + 1)) M _ r1 l2 r3 ?_
  refine zand k (fun h13529 k => ?_)
  refine ⟨h13529, ?_⟩
  refine ⟨h13529, ?_⟩
  exact k
theorem iX39_code_14 {E : zE} {d : Nat} {Q : zO → zM → Prop} (M : zM) (a0 : Nat) (a1 : Nat) (r2 : Option zP) (k : if (gr M a0 3) = none then (∃ b13533 : Nat, (gr M a0 1) = some (b13533, 11, 0) ∧ ((¬ (gi M b13533 2) < 0 ∧ ((gi M b13533 2)).toNatClampNeg * 8 ≤ 536870912) ∧ (16 ≤ a0 ∧ (Z E YX39_code (d + 1) (sr (zn M ((gi M b13533 2)).toNatClampNeg) a0 3 (some ((zsz M), 100, ((gi M b13533 2)).toNatClampNeg))) [(0, vr (some (a0, 44, 0))), (1, vr (some (a1, 3, 0))), (2, vr r2), (3, vi (-1 : Int32)), (4, vi (0 : Int32))] 39 [] Q)))) else (Z E YX39_code (d + 1) M [(0, vr (some (a0, 44, 0))), (1, vr (some (a1, 3, 0))), (2, vr r2), (3, vi (-1 : Int32)), (4, vi (0 : Int32))] 39 [] Q)) : Z E YX39_code (d + 1) M [(0, vr (some (a0, 44, 0))), (1, vr (some (a1, 3, 0))), (2, vr r2)] 14 [] Q := by
  refine sX39_code_14 (d := d) M a0 a1 r2 ?_
  refine zite k (fun h13532 k => ?_) (fun h13532 k => ?_)
  · obtain ⟨b13533, h13533, k⟩ := k
    refine ⟨b13533, h13533, ?_⟩
    refine sJ2_size_0 (d := d) M b13533 ?_
    show Z E YX39_code (d + 1) M [(0, vr (some (a0, 44, 0))), (1, vr (some (a1, 3, 0))), (2, vr r2)] 29 [vi (gi M b13533 2), vr (some (a0, 44, 0))] Q
    refine sX39_code_29 (d := d) M _ _ r2 (gi M b13533 2) ?_
    refine zand k (fun h13534 k => ?_)
    refine sX39_code_31 (d := d) (zn M ((gi M b13533 2)).toNatClampNeg) _ _ r2 (zsz M) (((gi M b13533 2)).toNatClampNeg) ?_
    exact k
  · exact k
theorem iX39_code_58 {E : zE} {d : Nat} {Q : zO → zM → Prop} (M : zM) (a0 : Nat) (a1 : Nat) (r2 : Option zP) (l3 : Int32) (l4 : Int32) (u0 : Option zP) (k : if u0 = none then (Z E YX39_code (d + 1) M [(0, vr (some (a0, 44, 0))), (1, vr (some (a1, 3, 0))), (2, vr r2), (3, vi l4), (4, vi (l4 + (1 : Int32)))] 39 [] Q) else (Z E YX3_put d M (zargs 0 [vr (some (a1, 3, 0)), vi (18 : Int32), vi (0 : Int32), vi (0 : Int32)]) 0 [] (zafter E YX39_code (d + 1) [(0, vr (some (a0, 44, 0))), (1, vr (some (a1, 3, 0))), (2, vr r2), (3, vi l3), (4, vi l4)] 72 3 [] Q))) : Z E YX39_code (d + 1) M [(0, vr (some (a0, 44, 0))), (1, vr (some (a1, 3, 0))), (2, vr r2), (3, vi l3), (4, vi l4)] 58 [vr u0] Q := by
  refine sX39_code_58 (d := d) M a0 a1 r2 l3 l4 u0 ?_
  refine zite k (fun h13539 k => ?_) (fun h13539 k => ?_)
  · refine sX39_code_142 (d := d) M _ _ r2 l4 l4 ?_
    exact k
  · exact k
theorem iX39_code_170 {E : zE} {d : Nat} {Q : zO → zM → Prop} (M : zM) (a0 : Nat) (a1 : Nat) (r2 : Option zP) (l3 : Int32) (l4 : Int32) (l5 : Int32) (k : ∃ b13541 m13541 : Nat, (gr M a0 3) = some (b13541, 100, m13541) ∧ (if (Int32.ofNat m13541) ≤ l5 then (if l3 = (-1 : Int32) then (Z E YX3_goal d M (zargs 0 [vr (some (a1, 3, 0)), vi l4]) 0 [] (zafter E YX39_code (d + 1) [(1, vr (some (a1, 3, 0))), (2, vr r2)] 232 3 [] Q)) else (∃ b13544 : Nat, r2 = some (b13544, 17, 0) ∧ (Z E YX3_place d M (zargs 0 [vr (some (a1, 3, 0))]) 0 [] (zafter E YX39_code (d + 1) [(1, vr (some (a1, 3, 0))), (2, vr (some (b13544, 17, 0)))] 241 3 [vr (some (a1, 3, 0)), vr (gr M b13544 1)] Q)))) else (if l5 = l3 then (Z E YX3_goal d M (zargs 0 [vr (some (a1, 3, 0)), vi l4]) 0 [] (zafter E YX39_code (d + 1) [(0, vr (some (a0, 44, 0))), (1, vr (some (a1, 3, 0))), (2, vr r2), (3, vi l3), (4, vi l4), (5, vi l5)] 199 3 [] Q)) else (vp_in l5 m13541 ∧ (Z E YX3_goal d M (zargs 0 [vr (some (a1, 3, 0)), vi (gi M b13541 (l5).toNatClampNeg)]) 0 [] (zafter E YX39_code (d + 1) [(0, vr (some (a0, 44, 0))), (1, vr (some (a1, 3, 0))), (2, vr r2), (3, vi l3), (4, vi l4), (5, vi l5)] 199 3 [] Q)))))) : Z E YX39_code (d + 1) M [(0, vr (some (a0, 44, 0))), (1, vr (some (a1, 3, 0))), (2, vr r2), (3, vi l3), (4, vi l4), (5, vi l5)] 170 [] Q := by
  refine sX39_code_170 (d := d) M a0 a1 r2 l3 l4 l5 ?_
  obtain ⟨b13541, m13541, h13541, k⟩ := k
  refine ⟨b13541, m13541, h13541, ?_⟩
  refine zite k (fun h13542 k => ?_) (fun h13542 k => ?_)
  · refine zite k (fun h13543 k => ?_) (fun h13543 k => ?_)
    · exact k
    · refine sX39_code_235 (d := d) M _ r2 ?_
      exact k
  · refine zite k (fun h13545 k => ?_) (fun h13545 k => ?_)
    · exact k
    · refine ⟨b13541, m13541, h13541, ?_⟩
      exact k
theorem iX39_init_0 {E : zE} {d : Nat} {Q : zO → zM → Prop} (M : zM) (a0 : Nat) (r1 : Option zP) (k : 16 ≤ (zsz M) ∧ (16 ≤ a0 ∧ (16 ≤ (zsz (sr (si (zn M 3) (zsz M) 0 (0 : Int32)) (zsz M) 1 (some (1, 110, 0)))) ∧ (Q (.inl none) (sr (sr (sr (si (zn (sr (sr (si (zn M 3) (zsz M) 0 (0 : Int32)) (zsz M) 1 (some (1, 110, 0))) a0 1 (some ((zsz M), 11, 0))) 3) (zsz (sr (si (zn M 3) (zsz M) 0 (0 : Int32)) (zsz M) 1 (some (1, 110, 0)))) 0 (0 : Int32)) (zsz (sr (si (zn M 3) (zsz M) 0 (0 : Int32)) (zsz M) 1 (some (1, 110, 0)))) 1 (some (1, 110, 0))) a0 2 (some ((zsz (sr (si (zn M 3) (zsz M) 0 (0 : Int32)) (zsz M) 1 (some (1, 110, 0)))), 11, 0))) a0 0 r1))))) : Z E YX39_init (d + 4) M [(0, vr (some (a0, 44, 0))), (1, vr r1)] 0 [] Q := by
  refine sX39_init_0 (d := (d + 3)) M a0 r1 ?_
  refine sX13_init_0 (d := (d + 2)) M _ 44 ?_
  show Z E YX39_init ((d + 3) + 1) M [(0, vr (some (a0, 44, 0))), (1, vr r1)] 4 [] Q
  refine sX39_init_4 (d := (d + 3)) M _ r1 ?_
  refine sX39_init_8 (d := (d + 3)) (zn M 3) _ r1 (zsz M) ?_
  refine jJ2_init (d := d) (zn M 3) (zsz M) ?_
  refine zand k (fun h13558 k => ?_)
  show Z E YX39_init ((d + 3) + 1) (sr (si (zn M 3) (zsz M) 0 (0 : Int32)) (zsz M) 1 (some (1, 110, 0))) [(0, vr (some (a0, 44, 0))), (1, vr r1)] 12 [vr (some ((zsz M), 11, 0)), vr (some (a0, 44, 0))] Q
  refine sX39_init_12 (d := (d + 3)) (sr (si (zn M 3) (zsz M) 0 (0 : Int32)) (zsz M) 1 (some (1, 110, 0))) _ r1 (zsz M) ?_
  refine zand k (fun h13559 k => ?_)
  refine sX39_init_19 (d := (d + 3)) (zn (sr (sr (si (zn M 3) (zsz M) 0 (0 : Int32)) (zsz M) 1 (some (1, 110, 0))) a0 1 (some ((zsz M), 11, 0))) 3) _ r1 (zsz (sr (si (zn M 3) (zsz M) 0 (0 : Int32)) (zsz M) 1 (some (1, 110, 0)))) ?_
  refine jJ2_init (d := d) (zn (sr (sr (si (zn M 3) (zsz M) 0 (0 : Int32)) (zsz M) 1 (some (1, 110, 0))) a0 1 (some ((zsz M), 11, 0))) 3) (zsz (sr (si (zn M 3) (zsz M) 0 (0 : Int32)) (zsz M) 1 (some (1, 110, 0)))) ?_
  refine zand k (fun h13560 k => ?_)
  show Z E YX39_init ((d + 3) + 1) (sr (si (zn (sr (sr (si (zn M 3) (zsz M) 0 (0 : Int32)) (zsz M) 1 (some (1, 110, 0))) a0 1 (some ((zsz M), 11, 0))) 3) (zsz (sr (si (zn M 3) (zsz M) 0 (0 : Int32)) (zsz M) 1 (some (1, 110, 0)))) 0 (0 : Int32)) (zsz (sr (si (zn M 3) (zsz M) 0 (0 : Int32)) (zsz M) 1 (some (1, 110, 0)))) 1 (some (1, 110, 0))) [(0, vr (some (a0, 44, 0))), (1, vr r1)] 23 [vr (some ((zsz (sr (si (zn M 3) (zsz M) 0 (0 : Int32)) (zsz M) 1 (some (1, 110, 0)))), 11, 0)), vr (some (a0, 44, 0))] Q
  refine sX39_init_23 (d := (d + 3)) (sr (si (zn (sr (sr (si (zn M 3) (zsz M) 0 (0 : Int32)) (zsz M) 1 (some (1, 110, 0))) a0 1 (some ((zsz M), 11, 0))) 3) (zsz (sr (si (zn M 3) (zsz M) 0 (0 : Int32)) (zsz M) 1 (some (1, 110, 0)))) 0 (0 : Int32)) (zsz (sr (si (zn M 3) (zsz M) 0 (0 : Int32)) (zsz M) 1 (some (1, 110, 0)))) 1 (some (1, 110, 0))) _ r1 (zsz (sr (si (zn M 3) (zsz M) 0 (0 : Int32)) (zsz M) 1 (some (1, 110, 0)))) ?_
  refine ⟨h13559, ?_⟩
  refine ⟨h13559, ?_⟩
  exact k
theorem iX40_begin_0 {E : zE} {d : Nat} {Q : zO → zM → Prop} (M : zM) (a0 : Nat) (l1 : Int32) (r2 : Option zP) (k : 16 ≤ a0 ∧ (∃ b13562 : Nat, (gr (sr (sr (sr (si M a0 3 l1) a0 4 r2) a0 5 none) a0 6 none) a0 1) = some (b13562, 18, 0) ∧ (16 ≤ b13562 ∧ (∃ b13564 : Nat, (gr (sr (sr (sr (si M a0 3 l1) a0 4 r2) a0 5 none) a0 6 none) a0 2) = some (b13564, 18, 0) ∧ (16 ≤ b13564 ∧ (Q (.inl none) (si (si (si (si (sr (sr (sr (si M a0 3 l1) a0 4 r2) a0 5 none) a0 6 none) a0 7 (0 : Int32)) a0 8 (1 : Int32)) b13562 1 (0 : Int32)) b13564 1 (0 : Int32)))))))) : Z E YX40_begin d M [(0, vr (some (a0, 17, 0))), (1, vi l1), (2, vr r2)] 0 [] Q := by
  refine sX40_begin_0 (d := d) M a0 l1 r2 ?_
  refine zand k (fun h13561 k => ?_)
  refine ⟨h13561, ?_⟩
  refine ⟨h13561, ?_⟩
  refine ⟨h13561, ?_⟩
  refine ⟨h13561, ?_⟩
  refine ⟨h13561, ?_⟩
  exact k
theorem iX40_init_0 {E : zE} {d : Nat} {Q : zO → zM → Prop} (M : zM) (a0 : Nat) (l1 : Int32) (k : 16 ≤ (zsz M) ∧ (16 ≤ a0 ∧ (16 ≤ (zsz (sr (zn (zn M 2) 4) (zsz M) 0 (some ((zsz (zn M 2)), 100, 4)))) ∧ (Q (.inl none) (si (sr (sr (zn (zn (sr (sr (zn (zn M 2) 4) (zsz M) 0 (some ((zsz (zn M 2)), 100, 4))) a0 1 (some ((zsz M), 18, 0))) 2) 4) (zsz (sr (zn (zn M 2) 4) (zsz M) 0 (some ((zsz (zn M 2)), 100, 4)))) 0 (some ((zsz (zn (sr (sr (zn (zn M 2) 4) (zsz M) 0 (some ((zsz (zn M 2)), 100, 4))) a0 1 (some ((zsz M), 18, 0))) 2)), 100, 4))) a0 2 (some ((zsz (sr (zn (zn M 2) 4) (zsz M) 0 (some ((zsz (zn M 2)), 100, 4)))), 18, 0))) a0 0 l1))))) : Z E YX40_init (d + 2) M [(0, vr (some (a0, 17, 0))), (1, vi l1)] 0 [] Q := by
  refine sX40_init_0 (d := (d + 1)) M a0 l1 ?_
  refine sX40_init_8 (d := (d + 1)) (zn M 2) _ l1 (zsz M) ?_
  refine jX41_init (d := d) (zn M 2) (zsz M) ?_
  refine zand k (fun h13566 k => ?_)
  show Z E YX40_init ((d + 1) + 1) (sr (zn (zn M 2) 4) (zsz M) 0 (some ((zsz (zn M 2)), 100, 4))) [(0, vr (some (a0, 17, 0))), (1, vi l1)] 12 [vr (some ((zsz M), 18, 0)), vr (some (a0, 17, 0))] Q
  refine sX40_init_12 (d := (d + 1)) (sr (zn (zn M 2) 4) (zsz M) 0 (some ((zsz (zn M 2)), 100, 4))) _ l1 (zsz M) ?_
  refine zand k (fun h13567 k => ?_)
  refine sX40_init_19 (d := (d + 1)) (zn (sr (sr (zn (zn M 2) 4) (zsz M) 0 (some ((zsz (zn M 2)), 100, 4))) a0 1 (some ((zsz M), 18, 0))) 2) _ l1 (zsz (sr (zn (zn M 2) 4) (zsz M) 0 (some ((zsz (zn M 2)), 100, 4)))) ?_
  refine jX41_init (d := d) (zn (sr (sr (zn (zn M 2) 4) (zsz M) 0 (some ((zsz (zn M 2)), 100, 4))) a0 1 (some ((zsz M), 18, 0))) 2) (zsz (sr (zn (zn M 2) 4) (zsz M) 0 (some ((zsz (zn M 2)), 100, 4)))) ?_
  refine zand k (fun h13568 k => ?_)
  show Z E YX40_init ((d + 1) + 1) (sr (zn (zn (sr (sr (zn (zn M 2) 4) (zsz M) 0 (some ((zsz (zn M 2)), 100, 4))) a0 1 (some ((zsz M), 18, 0))) 2) 4) (zsz (sr (zn (zn M 2) 4) (zsz M) 0 (some ((zsz (zn M 2)), 100, 4)))) 0 (some ((zsz (zn (sr (sr (zn (zn M 2) 4) (zsz M) 0 (some ((zsz (zn M 2)), 100, 4))) a0 1 (some ((zsz M), 18, 0))) 2)), 100, 4))) [(0, vr (some (a0, 17, 0))), (1, vi l1)] 23 [vr (some ((zsz (sr (zn (zn M 2) 4) (zsz M) 0 (some ((zsz (zn M 2)), 100, 4)))), 18, 0)), vr (some (a0, 17, 0))] Q
  refine sX40_init_23 (d := (d + 1)) (sr (zn (zn (sr (sr (zn (zn M 2) 4) (zsz M) 0 (some ((zsz (zn M 2)), 100, 4))) a0 1 (some ((zsz M), 18, 0))) 2) 4) (zsz (sr (zn (zn M 2) 4) (zsz M) 0 (some ((zsz (zn M 2)), 100, 4)))) 0 (some ((zsz (zn (sr (sr (zn (zn M 2) 4) (zsz M) 0 (some ((zsz (zn M 2)), 100, 4))) a0 1 (some ((zsz M), 18, 0))) 2)), 100, 4))) _ l1 (zsz (sr (zn (zn M 2) 4) (zsz M) 0 (some ((zsz (zn M 2)), 100, 4)))) ?_
  refine ⟨h13567, ?_⟩
  refine ⟨h13567, ?_⟩
  exact k
theorem iX41_add_0 {E : zE} {d : Nat} {Q : zO → zM → Prop} (M : zM) (a0 : Nat) (l1 : Int32) (k : ∃ b13569 m13569 : Nat, (gr M a0 0) = some (b13569, 100, m13569) ∧ (if (gi M a0 1) = (Int32.ofNat m13569) then ((¬ ((2 : Int32) * (gi M a0 1)) < 0 ∧ (((2 : Int32) * (gi M a0 1))).toNatClampNeg * 8 ≤ 536870912) ∧ (∃ b13572 m13572 : Nat, (gr (zn M (((2 : Int32) * (gi M a0 1))).toNatClampNeg) a0 0) = some (b13572, 100, m13572) ∧ (16 ≤ (zsz M) ∧ ((1 ≤ d) ∧ (((¬ (0 : Int32) < 0 ∧ ¬ (0 : Int32) < 0 ∧ ¬ (gi (zn M (((2 : Int32) * (gi M a0 1))).toNatClampNeg) a0 1) < 0) ∧ ((0 : Int32)).toNatClampNeg + ((gi (zn M (((2 : Int32) * (gi M a0 1))).toNatClampNeg) a0 1)).toNatClampNeg ≤ m13572 ∧ ((0 : Int32)).toNatClampNeg + ((gi (zn M (((2 : Int32) * (gi M a0 1))).toNatClampNeg) a0 1)).toNatClampNeg ≤ (((2 : Int32) * (gi M a0 1))).toNatClampNeg) ∧ (16 ≤ a0 ∧ (∃ b13577 m13577 : Nat, (gr (sr (cpi (zn M (((2 : Int32) * (gi M a0 1))).toNatClampNeg) b13572 ((0 : Int32)).toNatClampNeg (zsz M) ((0 : Int32)).toNatClampNeg ((gi (zn M (((2 : Int32) * (gi M a0 1))).toNatClampNeg) a0 1)).toNatClampNeg) a0 0 (some ((zsz M), 100, (((2 : Int32) * (gi M a0 1))).toNatClampNeg))) a0 0) = some (b13577, 100, m13577) ∧ (16 ≤ b13577 ∧ (vp_in (gi (cpi (zn M (((2 : Int32) * (gi M a0 1))).toNatClampNeg) b13572 ((0 : Int32)).toNatClampNeg (zsz M) ((0 : Int32)).toNatClampNeg ((gi (zn M (((2 : Int32) * (gi M a0 1))).toNatClampNeg) a0 1)).toNatClampNeg) a0 1) m13577 ∧ (Q (.inl none) (si (si (sr (cpi (zn M (((2 : Int32) * (gi M a0 1))).toNatClampNeg) b13572 ((0 : Int32)).toNatClampNeg (zsz M) ((0 : Int32)).toNatClampNeg ((gi (zn M (((2 : Int32) * (gi M a0 1))).toNatClampNeg) a0 1)).toNatClampNeg) a0 0 (some ((zsz M), 100, (((2 : Int32) * (gi M a0 1))).toNatClampNeg))) a0 1 ((gi (cpi (zn M (((2 : Int32) * (gi M a0 1))).toNatClampNeg) b13572 ((0 : Int32)).toNatClampNeg (zsz M) ((0 : Int32)).toNatClampNeg ((gi (zn M (((2 : Int32) * (gi M a0 1))).toNatClampNeg) a0 1)).toNatClampNeg) a0 1) + (1 : Int32))) b13577 ((gi (cpi (zn M (((2 : Int32) * (gi M a0 1))).toNatClampNeg) b13572 ((0 : Int32)).toNatClampNeg (zsz M) ((0 : Int32)).toNatClampNeg ((gi (zn M (((2 : Int32) * (gi M a0 1))).toNatClampNeg) a0 1)).toNatClampNeg) a0 1)).toNatClampNeg l1))))))))))) else (16 ≤ a0 ∧ (16 ≤ b13569 ∧ (vp_in (gi M a0 1) m13569 ∧ (Q (.inl none) (si (si M a0 1 ((gi M a0 1) + (1 : Int32))) b13569 ((gi M a0 1)).toNatClampNeg l1))))))) : Z E YX41_add d M [(0, vr (some (a0, 18, 0))), (1, vi l1)] 0 [] Q := by
  refine sX41_add_0 (d := d) M a0 l1 ?_
  obtain ⟨b13569, m13569, h13569, k⟩ := k
  refine ⟨b13569, m13569, h13569, ?_⟩
  refine zite k (fun h13570 k => ?_) (fun h13570 k => ?_)
  · refine zand k (fun h13571 k => ?_)
    refine sX41_add_20 (d := d) (zn M (((2 : Int32) * (gi M a0 1))).toNatClampNeg) _ l1 (zsz M) ((((2 : Int32) * (gi M a0 1))).toNatClampNeg) ?_
    obtain ⟨b13572, m13572, h13572, k⟩ := k
    refine ⟨b13572, m13572, h13572, ?_⟩
    refine zand k (fun h13573 k => ?_)
    refine zand k (fun h13574 k => ?_)
    refine zand k (fun h13575 k => ?_)
    refine sX41_add_35 (d := d) (cpi (zn M (((2 : Int32) * (gi M a0 1))).toNatClampNeg) b13572 ((0 : Int32)).toNatClampNeg (zsz M) ((0 : Int32)).toNatClampNeg ((gi (zn M (((2 : Int32) * (gi M a0 1))).toNatClampNeg) a0 1)).toNatClampNeg) _ l1 (zsz M) ((((2 : Int32) * (gi M a0 1))).toNatClampNeg) ?_
    refine zand k (fun h13576 k => ?_)
    refine sX41_add_40 (d := d) (sr (cpi (zn M (((2 : Int32) * (gi M a0 1))).toNatClampNeg) b13572 ((0 : Int32)).toNatClampNeg (zsz M) ((0 : Int32)).toNatClampNeg ((gi (zn M (((2 : Int32) * (gi M a0 1))).toNatClampNeg) a0 1)).toNatClampNeg) a0 0 (some ((zsz M), 100, (((2 : Int32) * (gi M a0 1))).toNatClampNeg))) _ l1 ?_
    refine ⟨h13576, ?_⟩
    exact k
  · refine sX41_add_40 (d := d) M _ l1 ?_
    refine zand k (fun h13580 k => ?_)
    refine ⟨b13569, m13569, h13569, ?_⟩
    exact k
theorem iX41_init_0 {E : zE} {d : Nat} {Q : zO → zM → Prop} (M : zM) (a0 : Nat) (k : 16 ≤ a0 ∧ (Q (.inl none) (sr (zn M 4) a0 0 (some ((zsz M), 100, 4))))) : Z E YX41_init (d + 1) M [(0, vr (some (a0, 18, 0)))] 0 [] Q := by
  refine sX41_init_0 (d := d) M a0 ?_
  refine sX41_init_8 (d := d) (zn M 4) (zsz M) _ ?_
  exact k
theorem iX1_asNative_0 {E : zE} {d : Nat} {Q : zO → zM → Prop} (M : zM) (l1 : Int32) (l2 : Int32) (hw : cw M) (k : vp_in l1 300 ∧ (if l2 = (-1 : Int32) then (Q (.inl none) (si (si M 38 (l1).toNatClampNeg (vp_nar .byte (1 : Int32))) 39 (l1).toNatClampNeg (vp_nar .byte ((-l1)).toInt8.toInt32))) else (Z E YX1_setOwn d (si (si M 38 (l1).toNatClampNeg (vp_nar .byte (1 : Int32))) 39 (l1).toNatClampNeg (vp_nar .byte ((-l1)).toInt8.toInt32)) (zargs 0 [vr (some (16, 0, 0)), vi l1, vi (1 : Int32), vi (7 : Int32), vi l2]) 0 [] (zafter E YX1_asNative (d + 1) [] 27 3 [] Q)))) : Z E YX1_asNative (d + 1) M [(0, vr (some (16, 0, 0))), (1, vi l1), (2, vi l2)] 0 [] Q := by
  refine sX1_asNative_0 (d := d) M l1 l2 hw ?_
  refine zand k (fun h13595 k => ?_)
  refine ⟨h13595, ?_⟩
  refine zite k (fun h13596 k => ?_) (fun h13596 k => ?_)
  · refine sX1_asNative_30 (d := d) (si (si M 38 (l1).toNatClampNeg (vp_nar .byte (1 : Int32))) 39 (l1).toNatClampNeg (vp_nar .byte ((-l1)).toInt8.toInt32)) hw ?_
    exact k
  · exact k
theorem iX1_born_0 {E : zE} {d : Nat} {Q : zO → zM → Prop} (M : zM) (l1 : Int32) (l2 : Int32) (l3 : Int32) (l4 : Int32) (hw : cw M) (k : if (gi M 16 26) = (300 : Int32) then (Q (.inr (51, 13, 0)) M) else (vp_in (gi M 16 26) 300 ∧ (vp_in l2 160 ∧ (Q (.inl (some (vi (gi M 16 26)))) (si (si (si (si (si (si (si (si (si M 16 26 ((gi M 16 26) + (1 : Int32))) 38 ((gi M 16 26)).toNatClampNeg (vp_nar .byte (l1).toInt8.toInt32)) 39 ((gi M 16 26)).toNatClampNeg (vp_nar .byte (0 : Int32))) 40 ((gi M 16 26)).toNatClampNeg (vp_nar .short (l2).toInt16.toInt32)) 41 ((gi M 16 26)).toNatClampNeg (vp_nar .short (l3).toInt16.toInt32)) 42 ((gi M 16 26)).toNatClampNeg (vp_nar .short (l4).toInt16.toInt32)) 43 ((gi M 16 26)).toNatClampNeg (vp_nar .short (-1 : Int32))) 44 ((gi M 16 26)).toNatClampNeg (vp_nar .short (-1 : Int32))) 45 (l2).toNatClampNeg (vp_nar .short ((gi M 16 26)).toInt16.toInt32)))))) : Z E YX1_born d M [(0, vr (some (16, 0, 0))), (1, vi l1), (2, vi l2), (3, vi l3), (4, vi l4)] 0 [] Q := by
  refine sX1_born_0 (d := d) M l1 l2 l3 l4 hw ?_
  refine zite k (fun h13601 k => ?_) (fun h13601 k => ?_)
  · exact k
  · refine zand k (fun h13602 k => ?_)
    refine ⟨h13602, ?_⟩
    refine ⟨h13602, ?_⟩
    refine ⟨h13602, ?_⟩
    refine ⟨h13602, ?_⟩
    refine ⟨h13602, ?_⟩
    refine ⟨h13602, ?_⟩
    exact k
theorem iX1_closure_0 {E : zE} {d : Nat} {Q : zO → zM → Prop} (M : zM) (l1 : Int32) (l2 : Int32) (hw : cw M) (k : Z E YX1_born d M (zargs 0 [vr (some (16, 0, 0)), vi (1 : Int32), vi (((29 : Int32) + ((6 : Int32) * (l1 - (1 : Int32)))) + (2 : Int32)), vi (2 : Int32), vi l2]) 0 [] (zafter E YX1_closure (d + 1) [(0, vr (some (16, 0, 0))), (1, vi l1)] 11 3 [] Q)) : Z E YX1_closure (d + 1) M [(0, vr (some (16, 0, 0))), (1, vi l1), (2, vi l2)] 0 [] Q := by
  refine sX1_closure_0 (d := d) M l1 l2 hw ?_
  refine sX1_scopePair_0 (d := d) M l1 hw ?_
  show Z E YX1_closure (d + 1) M [(0, vr (some (16, 0, 0))), (1, vi l1), (2, vi l2)] 7 [vi ((29 : Int32) + ((6 : Int32) * (l1 - (1 : Int32)))), vi (1 : Int32), vr (some (16, 0, 0))] Q
  refine sX1_closure_7 (d := d) M l1 l2 ((29 : Int32) + ((6 : Int32) * (l1 - (1 : Int32)))) (1 : Int32) hw ?_
  exact k
theorem iX1_closure_14 {E : zE} {d : Nat} {Q : zO → zM → Prop} (M : zM) (l1 : Int32) (s0 : Int32) (hw : cw M) (k : Z E YX1_born d M (zargs 0 [vr (some (16, 0, 0)), vi (0 : Int32), vi (((29 : Int32) + ((6 : Int32) * (l1 - (1 : Int32)))) + (4 : Int32)), vi (1 : Int32), vi (-1 : Int32)]) 0 [] (zafter E YX1_closure (d + 1) [(0, vr (some (16, 0, 0))), (1, vi l1), (3, vi s0)] 26 3 [] Q)) : Z E YX1_closure (d + 1) M [(0, vr (some (16, 0, 0))), (1, vi l1)] 14 [vi s0] Q := by
  refine sX1_closure_14 (d := d) M l1 s0 hw ?_
  refine sX1_scopePair_0 (d := d) M l1 hw ?_
  show Z E YX1_closure (d + 1) M [(0, vr (some (16, 0, 0))), (1, vi l1), (3, vi s0)] 22 [vi ((29 : Int32) + ((6 : Int32) * (l1 - (1 : Int32)))), vi (0 : Int32), vr (some (16, 0, 0))] Q
  refine sX1_closure_22 (d := d) M l1 s0 ((29 : Int32) + ((6 : Int32) * (l1 - (1 : Int32)))) (0 : Int32) hw ?_
  exact k
theorem iX1_comes_0 {E : zE} {d : Nat} {Q : zO → zM → Prop} (M : zM) (l1 : Int32) (l2 : Int32) (l3 : Int32) (l4 : Int32) (l5 : Int32) (hw : cw M) (k : vp_in (gi M 16 49) 24 ∧ (∃ b13606 : Nat, (gr M 16 8) = some (b13606, 11, 0) ∧ (Z E YJ2_get d (si (si M 57 ((gi M 16 49)).toNatClampNeg (vp_nar .short (l1).toInt16.toInt32)) 58 ((gi M 16 49)).toNatClampNeg (vp_nar .short (l2).toInt16.toInt32)) (zargs 0 [vr (some (b13606, 11, 0)), vi l1]) 0 [] (zafter E YX1_comes (d + 1) [(0, vr (some (16, 0, 0))), (3, vi l3), (4, vi l4), (5, vi l5)] 35 3 [vi (gi M 16 49), vr (some (59, 102, 24))] Q)))) : Z E YX1_comes (d + 1) M [(0, vr (some (16, 0, 0))), (1, vi l1), (2, vi l2), (3, vi l3), (4, vi l4), (5, vi l5)] 0 [] Q := by
  refine sX1_comes_0 (d := d) M l1 l2 l3 l4 l5 hw ?_
  refine zand k (fun h13605 k => ?_)
  refine ⟨h13605, ?_⟩
  exact k
theorem iX1_comes_38 {E : zE} {d : Nat} {Q : zO → zM → Prop} (M : zM) (l3 : Int32) (l4 : Int32) (l5 : Int32) (u0 : Option zP) (s1 : Int32) (hw : cw M) (k : ∃ b13607 : Nat, u0 = some (b13607, 10, 0) ∧ (vp_in s1 24 ∧ (vp_in (gi M 16 49) 24 ∧ (Q (.inl none) (si (si (si (si (si (si (si M 59 (s1).toNatClampNeg (vp_nar .short ((gi M b13607 9)).toInt16.toInt32)) 60 ((gi M 16 49)).toNatClampNeg (vp_nar .short ((gi M 16 38)).toInt16.toInt32)) 61 ((gi M 16 49)).toNatClampNeg (vp_nar .short (l5).toInt16.toInt32)) 62 ((gi M 16 49)).toNatClampNeg (vp_nar .short ((gi M 16 50)).toInt16.toInt32)) 63 ((gi M 16 49)).toNatClampNeg (vp_nar .byte (l3).toInt8.toInt32)) 64 ((gi M 16 49)).toNatClampNeg l4) 16 49 ((gi M 16 49) + (1 : Int32))))))) : Z E YX1_comes (d + 1) M [(0, vr (some (16, 0, 0))), (3, vi l3), (4, vi l4), (5, vi l5)] 38 [vr u0, vi s1, vr (some (59, 102, 24))] Q := by
  refine sX1_comes_38 (d := d) M l3 l4 l5 u0 s1 hw ?_
  obtain ⟨b13607, h13607, k⟩ := k
  refine ⟨b13607, h13607, ?_⟩
  refine zand k (fun h13608 k => ?_)
  refine zand k (fun h13609 k => ?_)
  refine ⟨h13609, ?_⟩
  refine ⟨h13609, ?_⟩
  refine ⟨h13609, ?_⟩
  refine ⟨h13609, ?_⟩
  exact k
theorem jX1_givesTruth {E : zE} {d : Nat} {Q : zO → zM → Prop} (M : zM) (l1 : Int32) (hw : cw M) (k : if l1 = 0 then (Q (.inl none) (si (si M 16 33 (3 : Int32)) 16 32 (0 : Int32))) else (Q (.inl none) (si (si M 16 33 (2 : Int32)) 16 32 (0 : Int32)))) : Z E YX1_givesTruth (d + 1) M [(0, vr (some (16, 0, 0))), (1, vi l1)] 0 [] Q := by
  refine sX1_givesTruth_0 (d := d) M l1 hw ?_
  refine zite k (fun h13629 k => ?_) (fun h13629 k => ?_)
  · refine sX1_gives_0 (d := d) M (3 : Int32) (0 : Int32) hw ?_
    show Z E YX1_givesTruth (d + 1) (si (si M 16 33 (3 : Int32)) 16 32 (0 : Int32)) [] 14 [] Q
    refine sX1_givesTruth_14 (d := d) (si (si M 16 33 (3 : Int32)) 16 32 (0 : Int32)) hw ?_
    exact k
  · refine sX1_gives_0 (d := d) M (2 : Int32) (0 : Int32) hw ?_
    show Z E YX1_givesTruth (d + 1) (si (si M 16 33 (2 : Int32)) 16 32 (0 : Int32)) [] 14 [] Q
    refine sX1_givesTruth_14 (d := d) (si (si M 16 33 (2 : Int32)) 16 32 (0 : Int32)) hw ?_
    exact k
theorem jX1_push {E : zE} {d : Nat} {Q : zO → zM → Prop} (M : zM) (l1 : Int32) (l2 : Int32) (hw : cw M) (k : vp_in (gi M 16 38) 14500 ∧ (Q (.inl none) (si (si (si M 53 ((gi M 16 38)).toNatClampNeg (vp_nar .byte (l1).toInt8.toInt32)) 16 38 ((gi M 16 38) + (1 : Int32))) 54 ((gi M 16 38)).toNatClampNeg l2))) : Z E YX1_push d M [(0, vr (some (16, 0, 0))), (1, vi l1), (2, vi l2)] 0 [] Q := by
  refine sX1_push_0 (d := d) M l1 l2 hw ?_
  refine zand k (fun h13632 k => ?_)
  refine ⟨h13632, ?_⟩
  exact k
theorem jX1_leaves {E : zE} {d : Nat} {Q : zO → zM → Prop} (M : zM) (l1 : Int32) (hw : cw M) (k : vp_in ((gi M 16 38) - l1) 14500 ∧ (Q (.inl none) (si (si (si (si M 16 38 ((gi M 16 38) - l1)) 53 (((gi M 16 38) - l1)).toNatClampNeg (vp_nar .byte ((gi M 16 33)).toInt8.toInt32)) 16 38 (((gi M 16 38) - l1) + (1 : Int32))) 54 (((gi M 16 38) - l1)).toNatClampNeg (gi M 16 32)))) : Z E YX1_leaves (d + 1) M [(0, vr (some (16, 0, 0))), (1, vi l1)] 0 [] Q := by
  refine sX1_leaves_0 (d := d) M l1 hw ?_
  refine jX1_push (d := d) (si M 16 38 ((gi M 16 38) - l1)) (gi M 16 33) (gi M 16 32) hw ?_
  refine zand k (fun h13633 k => ?_)
  show Z E YX1_leaves (d + 1) (si (si (si (si M 16 38 ((gi M 16 38) - l1)) 53 (((gi M 16 38) - l1)).toNatClampNeg (vp_nar .byte ((gi M 16 33)).toInt8.toInt32)) 16 38 (((gi M 16 38) - l1) + (1 : Int32))) 54 (((gi M 16 38) - l1)).toNatClampNeg (gi M 16 32)) [] 22 [] Q
  refine sX1_leaves_22 (d := d) (si (si (si (si M 16 38 ((gi M 16 38) - l1)) 53 (((gi M 16 38) - l1)).toNatClampNeg (vp_nar .byte ((gi M 16 33)).toInt8.toInt32)) 16 38 (((gi M 16 38) - l1) + (1 : Int32))) 54 (((gi M 16 38) - l1)).toNatClampNeg (gi M 16 32)) hw ?_
  exact k
theorem iX1_deleteIn_0 {E : zE} {d : Nat} {Q : zO → zM → Prop} (M : zM) (hw : cw M) (k : vp_in ((gi M 16 38) - (2 : Int32)) 14500 ∧ (vp_in ((gi M 16 38) - (1 : Int32)) 14500 ∧ (Z E YX1_textOf d M (zargs 0 [vr (some (16, 0, 0)), vi (gi M 53 (((gi M 16 38) - (1 : Int32))).toNatClampNeg), vi (gi M 54 (((gi M 16 38) - (1 : Int32))).toNatClampNeg)]) 0 [] (zafter E YX1_deleteIn (d + 1) [(0, vr (some (16, 0, 0))), (1, vi (gi M 53 (((gi M 16 38) - (2 : Int32))).toNatClampNeg)), (2, vi (gi M 54 (((gi M 16 38) - (2 : Int32))).toNatClampNeg))] 47 3 [] Q)))) : Z E YX1_deleteIn (d + 1) M [(0, vr (some (16, 0, 0)))] 0 [] Q := by
  refine sX1_deleteIn_0 (d := d) M hw ?_
  refine zand k (fun h13610 k => ?_)
  refine ⟨h13610, ?_⟩
  refine zand k (fun h13611 k => ?_)
  refine ⟨h13611, ?_⟩
  exact k
theorem iX1_deleteIn_50 {E : zE} {d : Nat} {Q : zO → zM → Prop} (M : zM) (l1 : Int32) (l2 : Int32) (s0 : Int32) (hw : cw M) (k : if (2 : Int32) ≤ l1 then (if l1 = (7 : Int32) then (vp_in l2 300 ∧ (if (gi M 38 (l2).toNatClampNeg) = (2 : Int32) then (if s0 = 0 then (Z E YX1_deleteIn (d + 1) M [(0, vr (some (16, 0, 0))), (1, vi l1), (2, vi l2), (3, vi s0)] 80 [vi (1 : Int32)] Q) else (Z E YX1_deleteIn (d + 1) M [(0, vr (some (16, 0, 0))), (1, vi l1), (2, vi l2), (3, vi s0)] 80 [vi (0 : Int32)] Q)) else (Z E YX1_deleteIn (d + 1) M [(0, vr (some (16, 0, 0))), (1, vi l1), (2, vi l2), (3, vi s0)] 80 [vi (0 : Int32)] Q))) else (Z E YX1_deleteIn (d + 1) M [(0, vr (some (16, 0, 0))), (1, vi l1), (2, vi l2), (3, vi s0)] 80 [vi (0 : Int32)] Q)) else (Z E YX1_error d M (zargs 0 [vr (some (16, 0, 0)), vi (0 : Int32)]) 0 [] (zafter E YX1_deleteIn (d + 1) [] 58 3 [] Q))) : Z E YX1_deleteIn (d + 1) M [(0, vr (some (16, 0, 0))), (1, vi l1), (2, vi l2)] 50 [vi s0] Q := by
  refine sX1_deleteIn_50 (d := d) M l1 l2 s0 hw ?_
  refine zite k (fun h13614 k => ?_) (fun h13614 k => ?_)
  · refine sX1_isArray_0 (d := d) M l1 l2 hw ?_
    refine zite k (fun h13618 k => ?_) (fun h13618 k => ?_)
    · refine zand k (fun h13619 k => ?_)
      refine zite k (fun h13620 k => ?_) (fun h13620 k => ?_)
      · show Z E YX1_deleteIn (d + 1) M [(0, vr (some (16, 0, 0))), (1, vi l1), (2, vi l2), (3, vi s0)] 68 [vi (1 : Int32)] Q
        refine sX1_deleteIn_68 (d := d) M l1 l2 s0 (1 : Int32) hw ?_
        refine zneg (show ¬ ((1 : Int32) = 0) from by decide) ?_
        exact k
      · show Z E YX1_deleteIn (d + 1) M [(0, vr (some (16, 0, 0))), (1, vi l1), (2, vi l2), (3, vi s0)] 68 [vi (0 : Int32)] Q
        refine sX1_deleteIn_68 (d := d) M l1 l2 s0 (0 : Int32) hw ?_
        refine zpos (show (0 : Int32) = 0 from by decide) ?_
        exact k
    · show Z E YX1_deleteIn (d + 1) M [(0, vr (some (16, 0, 0))), (1, vi l1), (2, vi l2), (3, vi s0)] 68 [vi (0 : Int32)] Q
      refine sX1_deleteIn_68 (d := d) M l1 l2 s0 (0 : Int32) hw ?_
      refine zpos (show (0 : Int32) = 0 from by decide) ?_
      exact k
  · exact k
theorem iX1_deleteIn_80 {E : zE} {d : Nat} {Q : zO → zM → Prop} (M : zM) (l1 : Int32) (l2 : Int32) (l3 : Int32) (s0 : Int32) (hw : cw M) (k : if l1 = (7 : Int32) then (if s0 = 0 then (Z E YX1_remove (d + 1) M (zargs 0 [vr (some (16, 0, 0)), vi l2, vi l3]) 0 [] (zafter E YX1_deleteIn ((d + 1) + 1) [(0, vr (some (16, 0, 0))), (4, vi s0)] 96 3 [] Q)) else (vp_in ((gi M 16 38) - (2 : Int32)) 14500 ∧ (Q (.inl none) (si (si (si (si (si (si M 16 33 (3 : Int32)) 16 32 (0 : Int32)) 16 38 ((gi M 16 38) - (2 : Int32))) 53 (((gi M 16 38) - (2 : Int32))).toNatClampNeg (vp_nar .byte ((3 : Int32)).toInt8.toInt32)) 16 38 (((gi M 16 38) - (2 : Int32)) + (1 : Int32))) 54 (((gi M 16 38) - (2 : Int32))).toNatClampNeg (0 : Int32))))) else (if s0 = 0 then (vp_in ((gi M 16 38) - (2 : Int32)) 14500 ∧ (Q (.inl none) (si (si (si (si (si (si M 16 33 (2 : Int32)) 16 32 (0 : Int32)) 16 38 ((gi M 16 38) - (2 : Int32))) 53 (((gi M 16 38) - (2 : Int32))).toNatClampNeg (vp_nar .byte ((2 : Int32)).toInt8.toInt32)) 16 38 (((gi M 16 38) - (2 : Int32)) + (1 : Int32))) 54 (((gi M 16 38) - (2 : Int32))).toNatClampNeg (0 : Int32)))) else (vp_in ((gi M 16 38) - (2 : Int32)) 14500 ∧ (Q (.inl none) (si (si (si (si (si (si M 16 33 (3 : Int32)) 16 32 (0 : Int32)) 16 38 ((gi M 16 38) - (2 : Int32))) 53 (((gi M 16 38) - (2 : Int32))).toNatClampNeg (vp_nar .byte ((3 : Int32)).toInt8.toInt32)) 16 38 (((gi M 16 38) - (2 : Int32)) + (1 : Int32))) 54 (((gi M 16 38) - (2 : Int32))).toNatClampNeg (0 : Int32)))))) : Z E YX1_deleteIn (d + 2) M [(0, vr (some (16, 0, 0))), (1, vi l1), (2, vi l2), (3, vi l3)] 80 [vi s0] Q := by
  refine sX1_deleteIn_80 (d := (d + 1)) M l1 l2 l3 s0 hw ?_
  refine zite k (fun h13630 k => ?_) (fun h13630 k => ?_)
  · refine zite k (fun h13631 k => ?_) (fun h13631 k => ?_)
    · exact k
    · refine sX1_deleteIn_99 (d := (d + 1)) M s0 hw ?_
      refine zneg h13631 ?_
      refine jX1_givesTruth (d := d) M (0 : Int32) hw ?_
      refine zpos (show (0 : Int32) = 0 from by decide) ?_
      show Z E YX1_deleteIn ((d + 1) + 1) (si (si M 16 33 (3 : Int32)) 16 32 (0 : Int32)) [(0, vr (some (16, 0, 0)))] 113 [] Q
      refine sX1_deleteIn_113 (d := (d + 1)) (si (si M 16 33 (3 : Int32)) 16 32 (0 : Int32)) hw ?_
      refine jX1_leaves (d := d) (si (si M 16 33 (3 : Int32)) 16 32 (0 : Int32)) (2 : Int32) hw ?_
      refine zand k (fun h13634 k => ?_)
      show Z E YX1_deleteIn ((d + 1) + 1) (si (si (si (si (si (si M 16 33 (3 : Int32)) 16 32 (0 : Int32)) 16 38 ((gi M 16 38) - (2 : Int32))) 53 (((gi M 16 38) - (2 : Int32))).toNatClampNeg (vp_nar .byte ((3 : Int32)).toInt8.toInt32)) 16 38 (((gi M 16 38) - (2 : Int32)) + (1 : Int32))) 54 (((gi M 16 38) - (2 : Int32))).toNatClampNeg (0 : Int32)) [] 118 [] Q
      refine sX1_deleteIn_118 (d := (d + 1)) (si (si (si (si (si (si M 16 33 (3 : Int32)) 16 32 (0 : Int32)) 16 38 ((gi M 16 38) - (2 : Int32))) 53 (((gi M 16 38) - (2 : Int32))).toNatClampNeg (vp_nar .byte ((3 : Int32)).toInt8.toInt32)) 16 38 (((gi M 16 38) - (2 : Int32)) + (1 : Int32))) 54 (((gi M 16 38) - (2 : Int32))).toNatClampNeg (0 : Int32)) hw ?_
      exact k
  · refine sX1_deleteIn_99 (d := (d + 1)) M s0 hw ?_
    refine zite k (fun h13635 k => ?_) (fun h13635 k => ?_)
    · refine jX1_givesTruth (d := d) M (1 : Int32) hw ?_
      refine zneg (show ¬ ((1 : Int32) = 0) from by decide) ?_
      show Z E YX1_deleteIn ((d + 1) + 1) (si (si M 16 33 (2 : Int32)) 16 32 (0 : Int32)) [(0, vr (some (16, 0, 0)))] 113 [] Q
      refine sX1_deleteIn_113 (d := (d + 1)) (si (si M 16 33 (2 : Int32)) 16 32 (0 : Int32)) hw ?_
      refine jX1_leaves (d := d) (si (si M 16 33 (2 : Int32)) 16 32 (0 : Int32)) (2 : Int32) hw ?_
      refine zand k (fun h13636 k => ?_)
      show Z E YX1_deleteIn ((d + 1) + 1) (si (si (si (si (si (si M 16 33 (2 : Int32)) 16 32 (0 : Int32)) 16 38 ((gi M 16 38) - (2 : Int32))) 53 (((gi M 16 38) - (2 : Int32))).toNatClampNeg (vp_nar .byte ((2 : Int32)).toInt8.toInt32)) 16 38 (((gi M 16 38) - (2 : Int32)) + (1 : Int32))) 54 (((gi M 16 38) - (2 : Int32))).toNatClampNeg (0 : Int32)) [] 118 [] Q
      refine sX1_deleteIn_118 (d := (d + 1)) (si (si (si (si (si (si M 16 33 (2 : Int32)) 16 32 (0 : Int32)) 16 38 ((gi M 16 38) - (2 : Int32))) 53 (((gi M 16 38) - (2 : Int32))).toNatClampNeg (vp_nar .byte ((2 : Int32)).toInt8.toInt32)) 16 38 (((gi M 16 38) - (2 : Int32)) + (1 : Int32))) 54 (((gi M 16 38) - (2 : Int32))).toNatClampNeg (0 : Int32)) hw ?_
      exact k
    · refine jX1_givesTruth (d := d) M (0 : Int32) hw ?_
      refine zpos (show (0 : Int32) = 0 from by decide) ?_
      show Z E YX1_deleteIn ((d + 1) + 1) (si (si M 16 33 (3 : Int32)) 16 32 (0 : Int32)) [(0, vr (some (16, 0, 0)))] 113 [] Q
      refine sX1_deleteIn_113 (d := (d + 1)) (si (si M 16 33 (3 : Int32)) 16 32 (0 : Int32)) hw ?_
      refine jX1_leaves (d := d) (si (si M 16 33 (3 : Int32)) 16 32 (0 : Int32)) (2 : Int32) hw ?_
      refine zand k (fun h13637 k => ?_)
      show Z E YX1_deleteIn ((d + 1) + 1) (si (si (si (si (si (si M 16 33 (3 : Int32)) 16 32 (0 : Int32)) 16 38 ((gi M 16 38) - (2 : Int32))) 53 (((gi M 16 38) - (2 : Int32))).toNatClampNeg (vp_nar .byte ((3 : Int32)).toInt8.toInt32)) 16 38 (((gi M 16 38) - (2 : Int32)) + (1 : Int32))) 54 (((gi M 16 38) - (2 : Int32))).toNatClampNeg (0 : Int32)) [] 118 [] Q
      refine sX1_deleteIn_118 (d := (d + 1)) (si (si (si (si (si (si M 16 33 (3 : Int32)) 16 32 (0 : Int32)) 16 38 ((gi M 16 38) - (2 : Int32))) 53 (((gi M 16 38) - (2 : Int32))).toNatClampNeg (vp_nar .byte ((3 : Int32)).toInt8.toInt32)) 16 38 (((gi M 16 38) - (2 : Int32)) + (1 : Int32))) 54 (((gi M 16 38) - (2 : Int32))).toNatClampNeg (0 : Int32)) hw ?_
      exact k
theorem iX1_deleteIn_99 {E : zE} {d : Nat} {Q : zO → zM → Prop} (M : zM) (l4 : Int32) (hw : cw M) (k : if l4 = 0 then (vp_in ((gi M 16 38) - (2 : Int32)) 14500 ∧ (Q (.inl none) (si (si (si (si (si (si M 16 33 (2 : Int32)) 16 32 (0 : Int32)) 16 38 ((gi M 16 38) - (2 : Int32))) 53 (((gi M 16 38) - (2 : Int32))).toNatClampNeg (vp_nar .byte ((2 : Int32)).toInt8.toInt32)) 16 38 (((gi M 16 38) - (2 : Int32)) + (1 : Int32))) 54 (((gi M 16 38) - (2 : Int32))).toNatClampNeg (0 : Int32)))) else (vp_in ((gi M 16 38) - (2 : Int32)) 14500 ∧ (Q (.inl none) (si (si (si (si (si (si M 16 33 (3 : Int32)) 16 32 (0 : Int32)) 16 38 ((gi M 16 38) - (2 : Int32))) 53 (((gi M 16 38) - (2 : Int32))).toNatClampNeg (vp_nar .byte ((3 : Int32)).toInt8.toInt32)) 16 38 (((gi M 16 38) - (2 : Int32)) + (1 : Int32))) 54 (((gi M 16 38) - (2 : Int32))).toNatClampNeg (0 : Int32))))) : Z E YX1_deleteIn (d + 2) M [(0, vr (some (16, 0, 0))), (4, vi l4)] 99 [] Q := by
  refine sX1_deleteIn_99 (d := (d + 1)) M l4 hw ?_
  refine zite k (fun h13640 k => ?_) (fun h13640 k => ?_)
  · refine jX1_givesTruth (d := d) M (1 : Int32) hw ?_
    refine zneg (show ¬ ((1 : Int32) = 0) from by decide) ?_
    show Z E YX1_deleteIn ((d + 1) + 1) (si (si M 16 33 (2 : Int32)) 16 32 (0 : Int32)) [(0, vr (some (16, 0, 0)))] 113 [] Q
    refine sX1_deleteIn_113 (d := (d + 1)) (si (si M 16 33 (2 : Int32)) 16 32 (0 : Int32)) hw ?_
    refine jX1_leaves (d := d) (si (si M 16 33 (2 : Int32)) 16 32 (0 : Int32)) (2 : Int32) hw ?_
    refine zand k (fun h13641 k => ?_)
    show Z E YX1_deleteIn ((d + 1) + 1) (si (si (si (si (si (si M 16 33 (2 : Int32)) 16 32 (0 : Int32)) 16 38 ((gi M 16 38) - (2 : Int32))) 53 (((gi M 16 38) - (2 : Int32))).toNatClampNeg (vp_nar .byte ((2 : Int32)).toInt8.toInt32)) 16 38 (((gi M 16 38) - (2 : Int32)) + (1 : Int32))) 54 (((gi M 16 38) - (2 : Int32))).toNatClampNeg (0 : Int32)) [] 118 [] Q
    refine sX1_deleteIn_118 (d := (d + 1)) (si (si (si (si (si (si M 16 33 (2 : Int32)) 16 32 (0 : Int32)) 16 38 ((gi M 16 38) - (2 : Int32))) 53 (((gi M 16 38) - (2 : Int32))).toNatClampNeg (vp_nar .byte ((2 : Int32)).toInt8.toInt32)) 16 38 (((gi M 16 38) - (2 : Int32)) + (1 : Int32))) 54 (((gi M 16 38) - (2 : Int32))).toNatClampNeg (0 : Int32)) hw ?_
    exact k
  · refine jX1_givesTruth (d := d) M (0 : Int32) hw ?_
    refine zpos (show (0 : Int32) = 0 from by decide) ?_
    show Z E YX1_deleteIn ((d + 1) + 1) (si (si M 16 33 (3 : Int32)) 16 32 (0 : Int32)) [(0, vr (some (16, 0, 0)))] 113 [] Q
    refine sX1_deleteIn_113 (d := (d + 1)) (si (si M 16 33 (3 : Int32)) 16 32 (0 : Int32)) hw ?_
    refine jX1_leaves (d := d) (si (si M 16 33 (3 : Int32)) 16 32 (0 : Int32)) (2 : Int32) hw ?_
    refine zand k (fun h13642 k => ?_)
    show Z E YX1_deleteIn ((d + 1) + 1) (si (si (si (si (si (si M 16 33 (3 : Int32)) 16 32 (0 : Int32)) 16 38 ((gi M 16 38) - (2 : Int32))) 53 (((gi M 16 38) - (2 : Int32))).toNatClampNeg (vp_nar .byte ((3 : Int32)).toInt8.toInt32)) 16 38 (((gi M 16 38) - (2 : Int32)) + (1 : Int32))) 54 (((gi M 16 38) - (2 : Int32))).toNatClampNeg (0 : Int32)) [] 118 [] Q
    refine sX1_deleteIn_118 (d := (d + 1)) (si (si (si (si (si (si M 16 33 (3 : Int32)) 16 32 (0 : Int32)) 16 38 ((gi M 16 38) - (2 : Int32))) 53 (((gi M 16 38) - (2 : Int32))).toNatClampNeg (vp_nar .byte ((3 : Int32)).toInt8.toInt32)) 16 38 (((gi M 16 38) - (2 : Int32)) + (1 : Int32))) 54 (((gi M 16 38) - (2 : Int32))).toNatClampNeg (0 : Int32)) hw ?_
    exact k
theorem iX1_error_17 {E : zE} {d : Nat} {Q : zO → zM → Prop} (M : zM) (s0 : Int32) (s1 : Int32) (hw : cw M) (k : Q (.inl (some (vr (some (52, 14, 0))))) (si (si M 16 57 s1) 16 58 s0)) : Z E YX1_error (d + 1) M [] 17 [vi s0, vi s1, vr (some (16, 0, 0))] Q := by
  refine sX1_error_17 (d := d) M s0 s1 hw ?_
  refine sX1_raises_0 (d := d) M s1 s0 hw ?_
  show Z E YX1_error (d + 1) (si (si M 16 57 s1) 16 58 s0) [] 20 [vr (some (52, 14, 0))] Q
  refine sX1_error_20 (d := d) (si (si M 16 57 s1) 16 58 s0) (some (52, 14, 0)) hw ?_
  exact k
theorem iX1_following_0 {E : zE} {d : Nat} {Q : zO → zM → Prop} (M : zM) (l1 : Int32) (hw : cw M) (k : vp_in l1 14500 ∧ (if (gi M 54 (l1).toNatClampNeg) = (-1 : Int32) then (Q (.inl (some (vi (-1 : Int32)))) M) else (vp_in (gi M 54 (l1).toNatClampNeg) 300 ∧ (Z E YX1_following d M [(0, vr (some (16, 0, 0))), (1, vi l1), (2, vi (gi M 43 ((gi M 54 (l1).toNatClampNeg)).toNatClampNeg))] 24 [] Q)))) : Z E YX1_following d M [(0, vr (some (16, 0, 0))), (1, vi l1)] 0 [] Q := by
  refine sX1_following_0 (d := d) M l1 hw ?_
  refine zand k (fun h13661 k => ?_)
  refine zite k (fun h13662 k => ?_) (fun h13662 k => ?_)
  · exact k
  · refine ⟨h13661, ?_⟩
    exact k
theorem iX1_following_24 {E : zE} {d : Nat} {Q : zO → zM → Prop} (M : zM) (l1 : Int32) (l2 : Int32) (hw : cw M) (k : if l2 = (-1 : Int32) then (Z E YX1_following d M [(0, vr (some (16, 0, 0))), (1, vi l1), (2, vi l2)] 78 [] Q) else (vp_in l2 3000 ∧ (vp_in l1 14500 ∧ (if (gi M 50 (l2).toNatClampNeg) ≤ (gi M 56 (l1).toNatClampNeg) then (Z E YX1_following d M [(0, vr (some (16, 0, 0))), (1, vi l1), (2, vi (gi M 47 (l2).toNatClampNeg))] 24 [] Q) else (vp_in (gi M 54 (l1).toNatClampNeg) 300 ∧ (if (gi M 38 ((gi M 54 (l1).toNatClampNeg)).toNatClampNeg) = (2 : Int32) then (if (gi M 46 (l2).toNatClampNeg) = 0 then (Z E YX1_following d M [(0, vr (some (16, 0, 0))), (1, vi l1), (2, vi (gi M 47 (l2).toNatClampNeg))] 24 [] Q) else (Z E YX1_following d M [(0, vr (some (16, 0, 0))), (1, vi l1), (2, vi l2)] 78 [] Q)) else (Z E YX1_following d M [(0, vr (some (16, 0, 0))), (1, vi l1), (2, vi l2)] 78 [] Q))))))) : Z E YX1_following d M [(0, vr (some (16, 0, 0))), (1, vi l1), (2, vi l2)] 24 [] Q := by
  refine sX1_following_24 (d := d) M l1 l2 hw ?_
  refine zite k (fun h13664 k => ?_) (fun h13664 k => ?_)
  · exact k
  · refine zand k (fun h13665 k => ?_)
    refine zand k (fun h13666 k => ?_)
    refine zite k (fun h13667 k => ?_) (fun h13667 k => ?_)
    · refine ⟨h13665, ?_⟩
      exact k
    · refine ⟨h13666, ?_⟩
      refine zand k (fun h13668 k => ?_)
      refine zite k (fun h13669 k => ?_) (fun h13669 k => ?_)
      · refine ⟨h13665, ?_⟩
        refine zite k (fun h13670 k => ?_) (fun h13670 k => ?_)
        · refine ⟨h13665, ?_⟩
          exact k
        · exact k
      · exact k
theorem iX1_frame_0 {E : zE} {d : Nat} {Q : zO → zM → Prop} (M : zM) (l1 : Int32) (l2 : Int32) (hw : cw M) (k : if (gi M 16 51) = 0 then (Q (.inl (some (vi (-1 : Int32)))) M) else (if l1 < 0 then (Q (.inl (some (vi (-1 : Int32)))) M) else (if l1 < (gi M 16 49) then (if l1 = 0 then (Z E YX1_frame d M [(0, vr (some (16, 0, 0))), (2, vi l2), (3, vi (((gi M 16 49) - (1 : Int32)) - l1)), (4, vi (gi M 16 38))] 70 [vi (gi M 16 50)] Q) else (vp_in ((((gi M 16 49) - (1 : Int32)) - l1) + (1 : Int32)) 24 ∧ (Z E YX1_frame d M [(0, vr (some (16, 0, 0))), (2, vi l2), (3, vi (((gi M 16 49) - (1 : Int32)) - l1)), (4, vi (gi M 60 (((((gi M 16 49) - (1 : Int32)) - l1) + (1 : Int32))).toNatClampNeg))] 70 [vi (gi M 62 (((((gi M 16 49) - (1 : Int32)) - l1) + (1 : Int32))).toNatClampNeg)] Q))) else (Q (.inl (some (vi (-1 : Int32)))) M)))) : Z E YX1_frame d M [(0, vr (some (16, 0, 0))), (1, vi l1), (2, vi l2)] 0 [] Q := by
  refine sX1_frame_0 (d := d) M l1 l2 hw ?_
  refine zite k (fun h13675 k => ?_) (fun h13675 k => ?_)
  · exact k
  · refine zite k (fun h13676 k => ?_) (fun h13676 k => ?_)
    · exact k
    · refine zite k (fun h13677 k => ?_) (fun h13677 k => ?_)
      · refine zite k (fun h13678 k => ?_) (fun h13678 k => ?_)
        · refine sX1_frame_49 (d := d) M l1 l2 (((gi M 16 49) - (1 : Int32)) - l1) (gi M 16 38) hw ?_
          refine zpos h13678 ?_
          exact k
        · refine zand k (fun h13679 k => ?_)
          refine sX1_frame_49 (d := d) M l1 l2 (((gi M 16 49) - (1 : Int32)) - l1) (gi M 60 (((((gi M 16 49) - (1 : Int32)) - l1) + (1 : Int32))).toNatClampNeg) hw ?_
          refine zneg h13678 ?_
          refine ⟨h13679, ?_⟩
          exact k
      · exact k
theorem jX1_givesProperty {E : zE} {d : Nat} {Q : zO → zM → Prop} (M : zM) (l1 : Int32) (hw : cw M) (k : if l1 = (-1 : Int32) then (Q (.inl none) (si (si M 16 33 (0 : Int32)) 16 32 (0 : Int32))) else (vp_in l1 3000 ∧ (Q (.inl none) (si (si M 16 33 (gi M 48 (l1).toNatClampNeg)) 16 32 (gi M 49 (l1).toNatClampNeg))))) : Z E YX1_givesProperty (d + 1) M [(0, vr (some (16, 0, 0))), (1, vi l1)] 0 [] Q := by
  refine sX1_givesProperty_0 (d := d) M l1 hw ?_
  refine zite k (fun h13709 k => ?_) (fun h13709 k => ?_)
  · refine sX1_gives_0 (d := d) M (0 : Int32) (0 : Int32) hw ?_
    show Z E YX1_givesProperty (d + 1) (si (si M 16 33 (0 : Int32)) 16 32 (0 : Int32)) [] 11 [] Q
    refine sX1_givesProperty_11 (d := d) (si (si M 16 33 (0 : Int32)) 16 32 (0 : Int32)) hw ?_
    refine sX1_givesProperty_30 (d := d) (si (si M 16 33 (0 : Int32)) 16 32 (0 : Int32)) hw ?_
    exact k
  · refine zand k (fun h13710 k => ?_)
    refine ⟨h13710, ?_⟩
    refine sX1_gives_0 (d := d) M (gi M 48 (l1).toNatClampNeg) (gi M 49 (l1).toNatClampNeg) hw ?_
    show Z E YX1_givesProperty (d + 1) (si (si M 16 33 (gi M 48 (l1).toNatClampNeg)) 16 32 (gi M 49 (l1).toNatClampNeg)) [] 30 [] Q
    refine sX1_givesProperty_30 (d := d) (si (si M 16 33 (gi M 48 (l1).toNatClampNeg)) 16 32 (gi M 49 (l1).toNatClampNeg)) hw ?_
    exact k
theorem iX1_getOf_0 {E : zE} {d : Nat} {Q : zO → zM → Prop} (M : zM) (hw : cw M) (k : vp_in ((gi M 16 38) - (2 : Int32)) 14500 ∧ (vp_in ((gi M 16 38) - (1 : Int32)) 14500 ∧ (Z E YX1_textOf d M (zargs 0 [vr (some (16, 0, 0)), vi (gi M 53 (((gi M 16 38) - (1 : Int32))).toNatClampNeg), vi (gi M 54 (((gi M 16 38) - (1 : Int32))).toNatClampNeg)]) 0 [] (zafter E YX1_getOf (d + 1) [(0, vr (some (16, 0, 0))), (1, vi (gi M 53 (((gi M 16 38) - (2 : Int32))).toNatClampNeg)), (2, vi (gi M 54 (((gi M 16 38) - (2 : Int32))).toNatClampNeg))] 47 3 [] Q)))) : Z E YX1_getOf (d + 1) M [(0, vr (some (16, 0, 0)))] 0 [] Q := by
  refine sX1_getOf_0 (d := d) M hw ?_
  refine zand k (fun h13690 k => ?_)
  refine ⟨h13690, ?_⟩
  refine zand k (fun h13691 k => ?_)
  refine ⟨h13691, ?_⟩
  exact k
theorem iX1_getOf_50 {E : zE} {d : Nat} {Q : zO → zM → Prop} (M : zM) (l1 : Int32) (l2 : Int32) (s0 : Int32) (hw : cw M) (k : if (2 : Int32) ≤ l1 then (if l1 = (7 : Int32) then (Z E YX1_find (d + 1) M (zargs 0 [vr (some (16, 0, 0)), vi l2, vi s0]) 0 [] (zafter E YX1_getOf ((d + 1) + 1) [(0, vr (some (16, 0, 0)))] 72 3 [vr (some (16, 0, 0))] Q)) else (if l1 = (6 : Int32) then (if s0 = 0 then (∃ b13704 m13704 : Nat, (gr M 17 1) = some (b13704, 100, m13704) ∧ (vp_in (l2 + (1 : Int32)) m13704 ∧ (vp_in l2 m13704 ∧ (vp_in ((gi M 16 38) - (2 : Int32)) 14500 ∧ (Q (.inl none) (si (si (si (si (si (si M 16 33 (5 : Int32)) 16 32 ((gi M b13704 ((l2 + (1 : Int32))).toNatClampNeg) - (gi M b13704 (l2).toNatClampNeg))) 16 38 ((gi M 16 38) - (2 : Int32))) 53 (((gi M 16 38) - (2 : Int32))).toNatClampNeg (vp_nar .byte ((5 : Int32)).toInt8.toInt32)) 16 38 (((gi M 16 38) - (2 : Int32)) + (1 : Int32))) 54 (((gi M 16 38) - (2 : Int32))).toNatClampNeg ((gi M b13704 ((l2 + (1 : Int32))).toNatClampNeg) - (gi M b13704 (l2).toNatClampNeg)))))))) else (Z E YX1_find (d + 1) M (zargs 0 [vr (some (16, 0, 0)), vi (4 : Int32), vi s0]) 0 [] (zafter E YX1_getOf ((d + 1) + 1) [(0, vr (some (16, 0, 0)))] 117 3 [vr (some (16, 0, 0))] Q))) else (vp_in ((gi M 16 38) - (2 : Int32)) 14500 ∧ (Q (.inl none) (si (si (si (si (si (si M 16 33 (0 : Int32)) 16 32 (0 : Int32)) 16 38 ((gi M 16 38) - (2 : Int32))) 53 (((gi M 16 38) - (2 : Int32))).toNatClampNeg (vp_nar .byte ((0 : Int32)).toInt8.toInt32)) 16 38 (((gi M 16 38) - (2 : Int32)) + (1 : Int32))) 54 (((gi M 16 38) - (2 : Int32))).toNatClampNeg (0 : Int32)))))) else (Z E YX1_error (d + 1) M (zargs 0 [vr (some (16, 0, 0)), vi (0 : Int32)]) 0 [] (zafter E YX1_getOf ((d + 1) + 1) [] 58 3 [] Q))) : Z E YX1_getOf (d + 2) M [(0, vr (some (16, 0, 0))), (1, vi l1), (2, vi l2)] 50 [vi s0] Q := by
  refine sX1_getOf_50 (d := (d + 1)) M l1 l2 s0 hw ?_
  refine zite k (fun h13700 k => ?_) (fun h13700 k => ?_)
  · refine zite k (fun h13701 k => ?_) (fun h13701 k => ?_)
    · exact k
    · refine zite k (fun h13702 k => ?_) (fun h13702 k => ?_)
      · refine zite k (fun h13703 k => ?_) (fun h13703 k => ?_)
        · refine jX2_length (d := (d + 1)) M 17 l2 ?_
          obtain ⟨b13704, m13704, h13704, k⟩ := k
          refine ⟨b13704, m13704, h13704, ?_⟩
          refine zand k (fun h13705 k => ?_)
          refine zand k (fun h13706 k => ?_)
          show Z E YX1_getOf ((d + 1) + 1) M [(0, vr (some (16, 0, 0)))] 101 [vi ((gi M b13704 ((l2 + (1 : Int32))).toNatClampNeg) - (gi M b13704 (l2).toNatClampNeg)), vi (5 : Int32), vr (some (16, 0, 0))] Q
          refine sX1_getOf_101 (d := (d + 1)) M ((gi M b13704 ((l2 + (1 : Int32))).toNatClampNeg) - (gi M b13704 (l2).toNatClampNeg)) (5 : Int32) hw ?_
          refine sX1_gives_0 (d := (d + 1)) M (5 : Int32) ((gi M b13704 ((l2 + (1 : Int32))).toNatClampNeg) - (gi M b13704 (l2).toNatClampNeg)) hw ?_
          show Z E YX1_getOf ((d + 1) + 1) (si (si M 16 33 (5 : Int32)) 16 32 ((gi M b13704 ((l2 + (1 : Int32))).toNatClampNeg) - (gi M b13704 (l2).toNatClampNeg))) [(0, vr (some (16, 0, 0)))] 104 [] Q
          refine sX1_getOf_104 (d := (d + 1)) (si (si M 16 33 (5 : Int32)) 16 32 ((gi M b13704 ((l2 + (1 : Int32))).toNatClampNeg) - (gi M b13704 (l2).toNatClampNeg))) hw ?_
          refine sX1_getOf_132 (d := (d + 1)) (si (si M 16 33 (5 : Int32)) 16 32 ((gi M b13704 ((l2 + (1 : Int32))).toNatClampNeg) - (gi M b13704 (l2).toNatClampNeg))) hw ?_
          refine jX1_leaves (d := d) (si (si M 16 33 (5 : Int32)) 16 32 ((gi M b13704 ((l2 + (1 : Int32))).toNatClampNeg) - (gi M b13704 (l2).toNatClampNeg))) (2 : Int32) hw ?_
          refine zand k (fun h13707 k => ?_)
          show Z E YX1_getOf ((d + 1) + 1) (si (si (si (si (si (si M 16 33 (5 : Int32)) 16 32 ((gi M b13704 ((l2 + (1 : Int32))).toNatClampNeg) - (gi M b13704 (l2).toNatClampNeg))) 16 38 ((gi M 16 38) - (2 : Int32))) 53 (((gi M 16 38) - (2 : Int32))).toNatClampNeg (vp_nar .byte ((5 : Int32)).toInt8.toInt32)) 16 38 (((gi M 16 38) - (2 : Int32)) + (1 : Int32))) 54 (((gi M 16 38) - (2 : Int32))).toNatClampNeg ((gi M b13704 ((l2 + (1 : Int32))).toNatClampNeg) - (gi M b13704 (l2).toNatClampNeg))) [] 137 [] Q
          refine sX1_getOf_137 (d := (d + 1)) (si (si (si (si (si (si M 16 33 (5 : Int32)) 16 32 ((gi M b13704 ((l2 + (1 : Int32))).toNatClampNeg) - (gi M b13704 (l2).toNatClampNeg))) 16 38 ((gi M 16 38) - (2 : Int32))) 53 (((gi M 16 38) - (2 : Int32))).toNatClampNeg (vp_nar .byte ((5 : Int32)).toInt8.toInt32)) 16 38 (((gi M 16 38) - (2 : Int32)) + (1 : Int32))) 54 (((gi M 16 38) - (2 : Int32))).toNatClampNeg ((gi M b13704 ((l2 + (1 : Int32))).toNatClampNeg) - (gi M b13704 (l2).toNatClampNeg))) hw ?_
          exact k
        · refine sX1_getOf_107 (d := (d + 1)) M l1 s0 hw ?_
          refine zpos h13702 ?_
          exact k
      · refine sX1_getOf_107 (d := (d + 1)) M l1 s0 hw ?_
        refine zneg h13702 ?_
        refine sX1_gives_0 (d := (d + 1)) M (0 : Int32) (0 : Int32) hw ?_
        show Z E YX1_getOf ((d + 1) + 1) (si (si M 16 33 (0 : Int32)) 16 32 (0 : Int32)) [(0, vr (some (16, 0, 0)))] 132 [] Q
        refine sX1_getOf_132 (d := (d + 1)) (si (si M 16 33 (0 : Int32)) 16 32 (0 : Int32)) hw ?_
        refine jX1_leaves (d := d) (si (si M 16 33 (0 : Int32)) 16 32 (0 : Int32)) (2 : Int32) hw ?_
        refine zand k (fun h13708 k => ?_)
        show Z E YX1_getOf ((d + 1) + 1) (si (si (si (si (si (si M 16 33 (0 : Int32)) 16 32 (0 : Int32)) 16 38 ((gi M 16 38) - (2 : Int32))) 53 (((gi M 16 38) - (2 : Int32))).toNatClampNeg (vp_nar .byte ((0 : Int32)).toInt8.toInt32)) 16 38 (((gi M 16 38) - (2 : Int32)) + (1 : Int32))) 54 (((gi M 16 38) - (2 : Int32))).toNatClampNeg (0 : Int32)) [] 137 [] Q
        refine sX1_getOf_137 (d := (d + 1)) (si (si (si (si (si (si M 16 33 (0 : Int32)) 16 32 (0 : Int32)) 16 38 ((gi M 16 38) - (2 : Int32))) 53 (((gi M 16 38) - (2 : Int32))).toNatClampNeg (vp_nar .byte ((0 : Int32)).toInt8.toInt32)) 16 38 (((gi M 16 38) - (2 : Int32)) + (1 : Int32))) 54 (((gi M 16 38) - (2 : Int32))).toNatClampNeg (0 : Int32)) hw ?_
        exact k
  · exact k
theorem iX1_getOf_75 {E : zE} {d : Nat} {Q : zO → zM → Prop} (M : zM) (s0 : Int32) (hw : cw M) (k : if s0 = (-1 : Int32) then (vp_in ((gi M 16 38) - (2 : Int32)) 14500 ∧ (Q (.inl none) (si (si (si (si (si (si M 16 33 (0 : Int32)) 16 32 (0 : Int32)) 16 38 ((gi M 16 38) - (2 : Int32))) 53 (((gi M 16 38) - (2 : Int32))).toNatClampNeg (vp_nar .byte ((0 : Int32)).toInt8.toInt32)) 16 38 (((gi M 16 38) - (2 : Int32)) + (1 : Int32))) 54 (((gi M 16 38) - (2 : Int32))).toNatClampNeg (0 : Int32)))) else (vp_in s0 3000 ∧ (vp_in ((gi M 16 38) - (2 : Int32)) 14500 ∧ (Q (.inl none) (si (si (si (si (si (si M 16 33 (gi M 48 (s0).toNatClampNeg)) 16 32 (gi M 49 (s0).toNatClampNeg)) 16 38 ((gi M 16 38) - (2 : Int32))) 53 (((gi M 16 38) - (2 : Int32))).toNatClampNeg (vp_nar .byte ((gi M 48 (s0).toNatClampNeg)).toInt8.toInt32)) 16 38 (((gi M 16 38) - (2 : Int32)) + (1 : Int32))) 54 (((gi M 16 38) - (2 : Int32))).toNatClampNeg (gi M 49 (s0).toNatClampNeg)))))) : Z E YX1_getOf (d + 2) M [(0, vr (some (16, 0, 0)))] 75 [vi s0, vr (some (16, 0, 0))] Q := by
  refine sX1_getOf_75 (d := (d + 1)) M s0 hw ?_
  refine jX1_givesProperty (d := d) M s0 hw ?_
  refine zite k (fun h13711 k => ?_) (fun h13711 k => ?_)
  · show Z E YX1_getOf ((d + 1) + 1) (si (si M 16 33 (0 : Int32)) 16 32 (0 : Int32)) [(0, vr (some (16, 0, 0)))] 78 [] Q
    refine sX1_getOf_78 (d := (d + 1)) (si (si M 16 33 (0 : Int32)) 16 32 (0 : Int32)) hw ?_
    refine sX1_getOf_132 (d := (d + 1)) (si (si M 16 33 (0 : Int32)) 16 32 (0 : Int32)) hw ?_
    refine jX1_leaves (d := d) (si (si M 16 33 (0 : Int32)) 16 32 (0 : Int32)) (2 : Int32) hw ?_
    refine zand k (fun h13712 k => ?_)
    show Z E YX1_getOf ((d + 1) + 1) (si (si (si (si (si (si M 16 33 (0 : Int32)) 16 32 (0 : Int32)) 16 38 ((gi M 16 38) - (2 : Int32))) 53 (((gi M 16 38) - (2 : Int32))).toNatClampNeg (vp_nar .byte ((0 : Int32)).toInt8.toInt32)) 16 38 (((gi M 16 38) - (2 : Int32)) + (1 : Int32))) 54 (((gi M 16 38) - (2 : Int32))).toNatClampNeg (0 : Int32)) [] 137 [] Q
    refine sX1_getOf_137 (d := (d + 1)) (si (si (si (si (si (si M 16 33 (0 : Int32)) 16 32 (0 : Int32)) 16 38 ((gi M 16 38) - (2 : Int32))) 53 (((gi M 16 38) - (2 : Int32))).toNatClampNeg (vp_nar .byte ((0 : Int32)).toInt8.toInt32)) 16 38 (((gi M 16 38) - (2 : Int32)) + (1 : Int32))) 54 (((gi M 16 38) - (2 : Int32))).toNatClampNeg (0 : Int32)) hw ?_
    exact k
  · refine zand k (fun h13713 k => ?_)
    show Z E YX1_getOf ((d + 1) + 1) (si (si M 16 33 (gi M 48 (s0).toNatClampNeg)) 16 32 (gi M 49 (s0).toNatClampNeg)) [(0, vr (some (16, 0, 0)))] 78 [] Q
    refine sX1_getOf_78 (d := (d + 1)) (si (si M 16 33 (gi M 48 (s0).toNatClampNeg)) 16 32 (gi M 49 (s0).toNatClampNeg)) hw ?_
    refine sX1_getOf_132 (d := (d + 1)) (si (si M 16 33 (gi M 48 (s0).toNatClampNeg)) 16 32 (gi M 49 (s0).toNatClampNeg)) hw ?_
    refine jX1_leaves (d := d) (si (si M 16 33 (gi M 48 (s0).toNatClampNeg)) 16 32 (gi M 49 (s0).toNatClampNeg)) (2 : Int32) hw ?_
    refine zand k (fun h13714 k => ?_)
    show Z E YX1_getOf ((d + 1) + 1) (si (si (si (si (si (si M 16 33 (gi M 48 (s0).toNatClampNeg)) 16 32 (gi M 49 (s0).toNatClampNeg)) 16 38 ((gi M 16 38) - (2 : Int32))) 53 (((gi M 16 38) - (2 : Int32))).toNatClampNeg (vp_nar .byte ((gi M 48 (s0).toNatClampNeg)).toInt8.toInt32)) 16 38 (((gi M 16 38) - (2 : Int32)) + (1 : Int32))) 54 (((gi M 16 38) - (2 : Int32))).toNatClampNeg (gi M 49 (s0).toNatClampNeg)) [] 137 [] Q
    refine sX1_getOf_137 (d := (d + 1)) (si (si (si (si (si (si M 16 33 (gi M 48 (s0).toNatClampNeg)) 16 32 (gi M 49 (s0).toNatClampNeg)) 16 38 ((gi M 16 38) - (2 : Int32))) 53 (((gi M 16 38) - (2 : Int32))).toNatClampNeg (vp_nar .byte ((gi M 48 (s0).toNatClampNeg)).toInt8.toInt32)) 16 38 (((gi M 16 38) - (2 : Int32)) + (1 : Int32))) 54 (((gi M 16 38) - (2 : Int32))).toNatClampNeg (gi M 49 (s0).toNatClampNeg)) hw ?_
    exact k
theorem iX1_getOf_120 {E : zE} {d : Nat} {Q : zO → zM → Prop} (M : zM) (s0 : Int32) (hw : cw M) (k : if s0 = (-1 : Int32) then (vp_in ((gi M 16 38) - (2 : Int32)) 14500 ∧ (Q (.inl none) (si (si (si (si (si (si M 16 33 (0 : Int32)) 16 32 (0 : Int32)) 16 38 ((gi M 16 38) - (2 : Int32))) 53 (((gi M 16 38) - (2 : Int32))).toNatClampNeg (vp_nar .byte ((0 : Int32)).toInt8.toInt32)) 16 38 (((gi M 16 38) - (2 : Int32)) + (1 : Int32))) 54 (((gi M 16 38) - (2 : Int32))).toNatClampNeg (0 : Int32)))) else (vp_in s0 3000 ∧ (vp_in ((gi M 16 38) - (2 : Int32)) 14500 ∧ (Q (.inl none) (si (si (si (si (si (si M 16 33 (gi M 48 (s0).toNatClampNeg)) 16 32 (gi M 49 (s0).toNatClampNeg)) 16 38 ((gi M 16 38) - (2 : Int32))) 53 (((gi M 16 38) - (2 : Int32))).toNatClampNeg (vp_nar .byte ((gi M 48 (s0).toNatClampNeg)).toInt8.toInt32)) 16 38 (((gi M 16 38) - (2 : Int32)) + (1 : Int32))) 54 (((gi M 16 38) - (2 : Int32))).toNatClampNeg (gi M 49 (s0).toNatClampNeg)))))) : Z E YX1_getOf (d + 2) M [(0, vr (some (16, 0, 0)))] 120 [vi s0, vr (some (16, 0, 0))] Q := by
  refine sX1_getOf_120 (d := (d + 1)) M s0 hw ?_
  refine jX1_givesProperty (d := d) M s0 hw ?_
  refine zite k (fun h13715 k => ?_) (fun h13715 k => ?_)
  · show Z E YX1_getOf ((d + 1) + 1) (si (si M 16 33 (0 : Int32)) 16 32 (0 : Int32)) [(0, vr (some (16, 0, 0)))] 123 [] Q
    refine sX1_getOf_123 (d := (d + 1)) (si (si M 16 33 (0 : Int32)) 16 32 (0 : Int32)) hw ?_
    refine sX1_getOf_132 (d := (d + 1)) (si (si M 16 33 (0 : Int32)) 16 32 (0 : Int32)) hw ?_
    refine jX1_leaves (d := d) (si (si M 16 33 (0 : Int32)) 16 32 (0 : Int32)) (2 : Int32) hw ?_
    refine zand k (fun h13716 k => ?_)
    show Z E YX1_getOf ((d + 1) + 1) (si (si (si (si (si (si M 16 33 (0 : Int32)) 16 32 (0 : Int32)) 16 38 ((gi M 16 38) - (2 : Int32))) 53 (((gi M 16 38) - (2 : Int32))).toNatClampNeg (vp_nar .byte ((0 : Int32)).toInt8.toInt32)) 16 38 (((gi M 16 38) - (2 : Int32)) + (1 : Int32))) 54 (((gi M 16 38) - (2 : Int32))).toNatClampNeg (0 : Int32)) [] 137 [] Q
    refine sX1_getOf_137 (d := (d + 1)) (si (si (si (si (si (si M 16 33 (0 : Int32)) 16 32 (0 : Int32)) 16 38 ((gi M 16 38) - (2 : Int32))) 53 (((gi M 16 38) - (2 : Int32))).toNatClampNeg (vp_nar .byte ((0 : Int32)).toInt8.toInt32)) 16 38 (((gi M 16 38) - (2 : Int32)) + (1 : Int32))) 54 (((gi M 16 38) - (2 : Int32))).toNatClampNeg (0 : Int32)) hw ?_
    exact k
  · refine zand k (fun h13717 k => ?_)
    show Z E YX1_getOf ((d + 1) + 1) (si (si M 16 33 (gi M 48 (s0).toNatClampNeg)) 16 32 (gi M 49 (s0).toNatClampNeg)) [(0, vr (some (16, 0, 0)))] 123 [] Q
    refine sX1_getOf_123 (d := (d + 1)) (si (si M 16 33 (gi M 48 (s0).toNatClampNeg)) 16 32 (gi M 49 (s0).toNatClampNeg)) hw ?_
    refine sX1_getOf_132 (d := (d + 1)) (si (si M 16 33 (gi M 48 (s0).toNatClampNeg)) 16 32 (gi M 49 (s0).toNatClampNeg)) hw ?_
    refine jX1_leaves (d := d) (si (si M 16 33 (gi M 48 (s0).toNatClampNeg)) 16 32 (gi M 49 (s0).toNatClampNeg)) (2 : Int32) hw ?_
    refine zand k (fun h13718 k => ?_)
    show Z E YX1_getOf ((d + 1) + 1) (si (si (si (si (si (si M 16 33 (gi M 48 (s0).toNatClampNeg)) 16 32 (gi M 49 (s0).toNatClampNeg)) 16 38 ((gi M 16 38) - (2 : Int32))) 53 (((gi M 16 38) - (2 : Int32))).toNatClampNeg (vp_nar .byte ((gi M 48 (s0).toNatClampNeg)).toInt8.toInt32)) 16 38 (((gi M 16 38) - (2 : Int32)) + (1 : Int32))) 54 (((gi M 16 38) - (2 : Int32))).toNatClampNeg (gi M 49 (s0).toNatClampNeg)) [] 137 [] Q
    refine sX1_getOf_137 (d := (d + 1)) (si (si (si (si (si (si M 16 33 (gi M 48 (s0).toNatClampNeg)) 16 32 (gi M 49 (s0).toNatClampNeg)) 16 38 ((gi M 16 38) - (2 : Int32))) 53 (((gi M 16 38) - (2 : Int32))).toNatClampNeg (vp_nar .byte ((gi M 48 (s0).toNatClampNeg)).toInt8.toInt32)) 16 38 (((gi M 16 38) - (2 : Int32)) + (1 : Int32))) 54 (((gi M 16 38) - (2 : Int32))).toNatClampNeg (gi M 49 (s0).toNatClampNeg)) hw ?_
    exact k
theorem iX1_givesProperty_0 {E : zE} {d : Nat} {Q : zO → zM → Prop} (M : zM) (l1 : Int32) (hw : cw M) (k : if l1 = (-1 : Int32) then (Q (.inl none) (si (si M 16 33 (0 : Int32)) 16 32 (0 : Int32))) else (vp_in l1 3000 ∧ (Q (.inl none) (si (si M 16 33 (gi M 48 (l1).toNatClampNeg)) 16 32 (gi M 49 (l1).toNatClampNeg))))) : Z E YX1_givesProperty (d + 1) M [(0, vr (some (16, 0, 0))), (1, vi l1)] 0 [] Q := by
  refine sX1_givesProperty_0 (d := d) M l1 hw ?_
  refine zite k (fun h13720 k => ?_) (fun h13720 k => ?_)
  · refine sX1_gives_0 (d := d) M (0 : Int32) (0 : Int32) hw ?_
    show Z E YX1_givesProperty (d + 1) (si (si M 16 33 (0 : Int32)) 16 32 (0 : Int32)) [] 11 [] Q
    refine sX1_givesProperty_11 (d := d) (si (si M 16 33 (0 : Int32)) 16 32 (0 : Int32)) hw ?_
    refine sX1_givesProperty_30 (d := d) (si (si M 16 33 (0 : Int32)) 16 32 (0 : Int32)) hw ?_
    exact k
  · refine zand k (fun h13721 k => ?_)
    refine ⟨h13721, ?_⟩
    refine sX1_gives_0 (d := d) M (gi M 48 (l1).toNatClampNeg) (gi M 49 (l1).toNatClampNeg) hw ?_
    show Z E YX1_givesProperty (d + 1) (si (si M 16 33 (gi M 48 (l1).toNatClampNeg)) 16 32 (gi M 49 (l1).toNatClampNeg)) [] 30 [] Q
    refine sX1_givesProperty_30 (d := d) (si (si M 16 33 (gi M 48 (l1).toNatClampNeg)) 16 32 (gi M 49 (l1).toNatClampNeg)) hw ?_
    exact k
theorem iX1_indexOf_0 {E : zE} {d : Nat} {Q : zO → zM → Prop} (M : zM) (l1 : Int32) (hw : cw M) (k : ∃ b13722 m13722 : Nat, (gr M 17 1) = some (b13722, 100, m13722) ∧ (vp_in (l1 + (1 : Int32)) m13722 ∧ (vp_in l1 m13722 ∧ (if ((gi M b13722 ((l1 + (1 : Int32))).toNatClampNeg) - (gi M b13722 (l1).toNatClampNeg)) = 0 then (Q (.inl (some (vi (-1 : Int32)))) M) else (if (2 : Int32) < ((gi M b13722 ((l1 + (1 : Int32))).toNatClampNeg) - (gi M b13722 (l1).toNatClampNeg)) then (Q (.inl (some (vi (-1 : Int32)))) M) else (if ((gi M b13722 ((l1 + (1 : Int32))).toNatClampNeg) - (gi M b13722 (l1).toNatClampNeg)) = (2 : Int32) then (∃ b13728 m13728 : Nat, (gr M 17 0) = some (b13728, 101, m13728) ∧ (vp_in ((gi M b13722 (l1).toNatClampNeg) + (0 : Int32)) m13728 ∧ (if (gi M b13728 (((gi M b13722 (l1).toNatClampNeg) + (0 : Int32))).toNatClampNeg) = (48 : Int32) then (Q (.inl (some (vi (-1 : Int32)))) M) else (Z E YX1_indexOf (d + 1) M [(0, vr (some (16, 0, 0))), (1, vi l1), (2, vi ((gi M b13722 ((l1 + (1 : Int32))).toNatClampNeg) - (gi M b13722 (l1).toNatClampNeg))), (3, vi (0 : Int32)), (4, vi (0 : Int32))] 44 [] Q)))) else (Z E YX1_indexOf (d + 1) M [(0, vr (some (16, 0, 0))), (1, vi l1), (2, vi ((gi M b13722 ((l1 + (1 : Int32))).toNatClampNeg) - (gi M b13722 (l1).toNatClampNeg))), (3, vi (0 : Int32)), (4, vi (0 : Int32))] 44 [] Q))))))) : Z E YX1_indexOf (d + 1) M [(0, vr (some (16, 0, 0))), (1, vi l1)] 0 [] Q := by
  refine sX1_indexOf_0 (d := d) M l1 hw ?_
  refine jX2_length (d := d) M 17 l1 ?_
  obtain ⟨b13722, m13722, h13722, k⟩ := k
  refine ⟨b13722, m13722, h13722, ?_⟩
  refine zand k (fun h13723 k => ?_)
  refine zand k (fun h13724 k => ?_)
  show Z E YX1_indexOf (d + 1) M [(0, vr (some (16, 0, 0))), (1, vi l1)] 8 [vi ((gi M b13722 ((l1 + (1 : Int32))).toNatClampNeg) - (gi M b13722 (l1).toNatClampNeg))] Q
  refine sX1_indexOf_8 (d := d) M l1 ((gi M b13722 ((l1 + (1 : Int32))).toNatClampNeg) - (gi M b13722 (l1).toNatClampNeg)) hw ?_
  refine zite k (fun h13725 k => ?_) (fun h13725 k => ?_)
  · exact k
  · refine zite k (fun h13726 k => ?_) (fun h13726 k => ?_)
    · exact k
    · refine zite k (fun h13727 k => ?_) (fun h13727 k => ?_)
      · refine sX2_sign_0 (d := d) M 17 l1 (0 : Int32) ?_
        refine ⟨b13722, m13722, h13722, ?_⟩
        refine ⟨h13724, ?_⟩
        obtain ⟨b13728, m13728, h13728, k⟩ := k
        refine ⟨b13728, m13728, h13728, ?_⟩
        refine zand k (fun h13729 k => ?_)
        show Z E YX1_indexOf (d + 1) M [(0, vr (some (16, 0, 0))), (1, vi l1), (2, vi ((gi M b13722 ((l1 + (1 : Int32))).toNatClampNeg) - (gi M b13722 (l1).toNatClampNeg)))] 32 [vi (gi M b13728 (((gi M b13722 (l1).toNatClampNeg) + (0 : Int32))).toNatClampNeg)] Q
        refine sX1_indexOf_32 (d := d) M l1 ((gi M b13722 ((l1 + (1 : Int32))).toNatClampNeg) - (gi M b13722 (l1).toNatClampNeg)) (gi M b13728 (((gi M b13722 (l1).toNatClampNeg) + (0 : Int32))).toNatClampNeg) hw ?_
        exact k
      · exact k
theorem iX1_indexOf_44 {E : zE} {d : Nat} {Q : zO → zM → Prop} (M : zM) (l1 : Int32) (l2 : Int32) (l3 : Int32) (l4 : Int32) (hw : cw M) (k : if l2 ≤ l4 then (Q (.inl (some (vi l3))) M) else (∃ b13732 m13732 : Nat, (gr M 17 1) = some (b13732, 100, m13732) ∧ (vp_in l1 m13732 ∧ (∃ b13734 m13734 : Nat, (gr M 17 0) = some (b13734, 101, m13734) ∧ (vp_in ((gi M b13732 (l1).toNatClampNeg) + l4) m13734 ∧ (if (gi M b13734 (((gi M b13732 (l1).toNatClampNeg) + l4)).toNatClampNeg) < (48 : Int32) then (Q (.inl (some (vi (-1 : Int32)))) M) else (if (57 : Int32) < (gi M b13734 (((gi M b13732 (l1).toNatClampNeg) + l4)).toNatClampNeg) then (Q (.inl (some (vi (-1 : Int32)))) M) else (Z E YX1_indexOf (d + 1) M [(0, vr (some (16, 0, 0))), (1, vi l1), (2, vi l2), (3, vi ((((10 : Int32) * l3) + (gi M b13734 (((gi M b13732 (l1).toNatClampNeg) + l4)).toNatClampNeg)) - (48 : Int32))), (4, vi (l4 + (1 : Int32)))] 44 [] Q)))))))) : Z E YX1_indexOf (d + 1) M [(0, vr (some (16, 0, 0))), (1, vi l1), (2, vi l2), (3, vi l3), (4, vi l4)] 44 [] Q := by
  refine sX1_indexOf_44 (d := d) M l1 l2 l3 l4 hw ?_
  refine zite k (fun h13731 k => ?_) (fun h13731 k => ?_)
  · exact k
  · refine sX2_sign_0 (d := d) M 17 l1 l4 ?_
    obtain ⟨b13732, m13732, h13732, k⟩ := k
    refine ⟨b13732, m13732, h13732, ?_⟩
    refine zand k (fun h13733 k => ?_)
    obtain ⟨b13734, m13734, h13734, k⟩ := k
    refine ⟨b13734, m13734, h13734, ?_⟩
    refine zand k (fun h13735 k => ?_)
    show Z E YX1_indexOf (d + 1) M [(0, vr (some (16, 0, 0))), (1, vi l1), (2, vi l2), (3, vi l3), (4, vi l4)] 60 [vi (gi M b13734 (((gi M b13732 (l1).toNatClampNeg) + l4)).toNatClampNeg)] Q
    refine sX1_indexOf_60 (d := d) M l1 l2 l3 l4 (gi M b13734 (((gi M b13732 (l1).toNatClampNeg) + l4)).toNatClampNeg) hw ?_
    refine sX1_digit_0 (d := d) M (gi M b13734 (((gi M b13732 (l1).toNatClampNeg) + l4)).toNatClampNeg) hw ?_
    refine zite k (fun h13736 k => ?_) (fun h13736 k => ?_)
    · show Z E YX1_indexOf (d + 1) M [(0, vr (some (16, 0, 0))), (1, vi l1), (2, vi l2), (3, vi l3), (4, vi l4)] 63 [vi (0 : Int32)] Q
      refine sX1_indexOf_63 (d := d) M l1 l2 l3 l4 (0 : Int32) hw ?_
      refine zpos (show (0 : Int32) = 0 from by decide) ?_
      exact k
    · refine zite k (fun h13737 k => ?_) (fun h13737 k => ?_)
      · show Z E YX1_indexOf (d + 1) M [(0, vr (some (16, 0, 0))), (1, vi l1), (2, vi l2), (3, vi l3), (4, vi l4)] 63 [vi (0 : Int32)] Q
        refine sX1_indexOf_63 (d := d) M l1 l2 l3 l4 (0 : Int32) hw ?_
        refine zpos (show (0 : Int32) = 0 from by decide) ?_
        exact k
      · show Z E YX1_indexOf (d + 1) M [(0, vr (some (16, 0, 0))), (1, vi l1), (2, vi l2), (3, vi l3), (4, vi l4)] 63 [vi (1 : Int32)] Q
        refine sX1_indexOf_63 (d := d) M l1 l2 l3 l4 (1 : Int32) hw ?_
        refine zneg (show ¬ ((1 : Int32) = 0) from by decide) ?_
        refine sX2_sign_0 (d := d) M 17 l1 l4 ?_
        refine ⟨b13732, m13732, h13732, ?_⟩
        refine ⟨h13733, ?_⟩
        refine ⟨b13734, m13734, h13734, ?_⟩
        refine ⟨h13735, ?_⟩
        show Z E YX1_indexOf (d + 1) M [(0, vr (some (16, 0, 0))), (1, vi l1), (2, vi l2), (4, vi l4)] 82 [vi (gi M b13734 (((gi M b13732 (l1).toNatClampNeg) + l4)).toNatClampNeg), vi ((10 : Int32) * l3)] Q
        refine sX1_indexOf_82 (d := d) M l1 l2 l4 (gi M b13734 (((gi M b13732 (l1).toNatClampNeg) + l4)).toNatClampNeg) ((10 : Int32) * l3) hw ?_
        exact k
theorem iX1_labelOf_0 {E : zE} {d : Nat} {Q : zO → zM → Prop} (M : zM) (l1 : Int32) (hw : cw M) (k : vp_in l1 300 ∧ (if (gi M 40 (l1).toNatClampNeg) < (29 : Int32) then (Q (.inl (some (vi (gi M 40 (l1).toNatClampNeg)))) M) else (vp_in (gi M 40 (l1).toNatClampNeg) 160 ∧ (if (gi M 45 ((gi M 40 (l1).toNatClampNeg)).toNatClampNeg) = l1 then (Q (.inl (some (vi (gi M 40 (l1).toNatClampNeg)))) M) else (Q (.inl (some (vi ((gi M 40 (l1).toNatClampNeg) + (1 : Int32))))) M))))) : Z E YX1_labelOf d M [(0, vr (some (16, 0, 0))), (1, vi l1)] 0 [] Q := by
  refine sX1_labelOf_0 (d := d) M l1 hw ?_
  refine zand k (fun h13744 k => ?_)
  refine zite k (fun h13745 k => ?_) (fun h13745 k => ?_)
  · refine ⟨h13744, ?_⟩
    exact k
  · refine ⟨h13744, ?_⟩
    refine zand k (fun h13746 k => ?_)
    refine zite k (fun h13747 k => ?_) (fun h13747 k => ?_)
    · refine ⟨h13744, ?_⟩
      exact k
    · refine ⟨h13744, ?_⟩
      exact k
theorem iX1_leaves_0 {E : zE} {d : Nat} {Q : zO → zM → Prop} (M : zM) (l1 : Int32) (hw : cw M) (k : vp_in ((gi M 16 38) - l1) 14500 ∧ (Q (.inl none) (si (si (si (si M 16 38 ((gi M 16 38) - l1)) 53 (((gi M 16 38) - l1)).toNatClampNeg (vp_nar .byte ((gi M 16 33)).toInt8.toInt32)) 16 38 (((gi M 16 38) - l1) + (1 : Int32))) 54 (((gi M 16 38) - l1)).toNatClampNeg (gi M 16 32)))) : Z E YX1_leaves (d + 1) M [(0, vr (some (16, 0, 0))), (1, vi l1)] 0 [] Q := by
  refine sX1_leaves_0 (d := d) M l1 hw ?_
  refine jX1_push (d := d) (si M 16 38 ((gi M 16 38) - l1)) (gi M 16 33) (gi M 16 32) hw ?_
  refine zand k (fun h13748 k => ?_)
  show Z E YX1_leaves (d + 1) (si (si (si (si M 16 38 ((gi M 16 38) - l1)) 53 (((gi M 16 38) - l1)).toNatClampNeg (vp_nar .byte ((gi M 16 33)).toInt8.toInt32)) 16 38 (((gi M 16 38) - l1) + (1 : Int32))) 54 (((gi M 16 38) - l1)).toNatClampNeg (gi M 16 32)) [] 22 [] Q
  refine sX1_leaves_22 (d := d) (si (si (si (si M 16 38 ((gi M 16 38) - l1)) 53 (((gi M 16 38) - l1)).toNatClampNeg (vp_nar .byte ((gi M 16 33)).toInt8.toInt32)) 16 38 (((gi M 16 38) - l1) + (1 : Int32))) 54 (((gi M 16 38) - l1)).toNatClampNeg (gi M 16 32)) hw ?_
  exact k
theorem jX1_labelOf {E : zE} {d : Nat} {Q : zO → zM → Prop} (M : zM) (l1 : Int32) (hw : cw M) (k : vp_in l1 300 ∧ (if (gi M 40 (l1).toNatClampNeg) < (29 : Int32) then (Q (.inl (some (vi (gi M 40 (l1).toNatClampNeg)))) M) else (vp_in (gi M 40 (l1).toNatClampNeg) 160 ∧ (if (gi M 45 ((gi M 40 (l1).toNatClampNeg)).toNatClampNeg) = l1 then (Q (.inl (some (vi (gi M 40 (l1).toNatClampNeg)))) M) else (Q (.inl (some (vi ((gi M 40 (l1).toNatClampNeg) + (1 : Int32))))) M))))) : Z E YX1_labelOf d M [(0, vr (some (16, 0, 0))), (1, vi l1)] 0 [] Q := by
  refine sX1_labelOf_0 (d := d) M l1 hw ?_
  refine zand k (fun h13771 k => ?_)
  refine zite k (fun h13772 k => ?_) (fun h13772 k => ?_)
  · refine ⟨h13771, ?_⟩
    exact k
  · refine ⟨h13771, ?_⟩
    refine zand k (fun h13773 k => ?_)
    refine zite k (fun h13774 k => ?_) (fun h13774 k => ?_)
    · refine ⟨h13771, ?_⟩
      exact k
    · refine ⟨h13771, ?_⟩
      exact k
theorem iX1_object_0 {E : zE} {d : Nat} {Q : zO → zM → Prop} (M : zM) (l1 : Int32) (l2 : Int32) (hw : cw M) (k : if (gi M 16 51) = 0 then (Q (.inl (some (vi (-1 : Int32)))) M) else (if l1 < 0 then (Q (.inl (some (vi (-1 : Int32)))) M) else (if (gi M 16 26) ≤ l1 then (Q (.inl (some (vi (-1 : Int32)))) M) else (if l2 = 0 then (vp_in l1 300 ∧ (if (gi M 40 (l1).toNatClampNeg) < (29 : Int32) then (Q (.inl (some (vi (gi M 40 (l1).toNatClampNeg)))) M) else (vp_in (gi M 40 (l1).toNatClampNeg) 160 ∧ (if (gi M 45 ((gi M 40 (l1).toNatClampNeg)).toNatClampNeg) = l1 then (Q (.inl (some (vi (gi M 40 (l1).toNatClampNeg)))) M) else (Q (.inl (some (vi ((gi M 40 (l1).toNatClampNeg) + (1 : Int32))))) M))))) else (if l2 = 1 then (vp_in l1 300 ∧ (Q (.inl (some (vi (gi M 41 (l1).toNatClampNeg)))) M)) else (if l2 = 2 then (vp_in l1 300 ∧ (Q (.inl (some (vi (gi M 42 (l1).toNatClampNeg)))) M)) else (if l2 = 3 then (vp_in l1 300 ∧ (Z E YX1_object (d + 1) M [(0, vr (some (16, 0, 0))), (3, vi (0 : Int32)), (4, vi (gi M 43 (l1).toNatClampNeg))] 74 [] Q)) else (if l2 = 4 then (vp_in l1 300 ∧ (Q (.inl (some (vi (gi M 38 (l1).toNatClampNeg)))) M)) else (Q (.inl (some (vi (-1 : Int32)))) M))))))))) : Z E YX1_object (d + 1) M [(0, vr (some (16, 0, 0))), (1, vi l1), (2, vi l2)] 0 [] Q := by
  refine sX1_object_0 (d := d) M l1 l2 hw ?_
  refine sX1_isObject_0 (d := d) M l1 hw ?_
  refine zite k (fun h13767 k => ?_) (fun h13767 k => ?_)
  · show Z E YX1_object (d + 1) M [(0, vr (some (16, 0, 0))), (1, vi l1), (2, vi l2)] 5 [vi (0 : Int32)] Q
    refine sX1_object_5 (d := d) M l1 l2 (0 : Int32) hw ?_
    refine zpos (show (0 : Int32) = 0 from by decide) ?_
    exact k
  · refine zite k (fun h13768 k => ?_) (fun h13768 k => ?_)
    · show Z E YX1_object (d + 1) M [(0, vr (some (16, 0, 0))), (1, vi l1), (2, vi l2)] 5 [vi (0 : Int32)] Q
      refine sX1_object_5 (d := d) M l1 l2 (0 : Int32) hw ?_
      refine zpos (show (0 : Int32) = 0 from by decide) ?_
      exact k
    · refine zite k (fun h13769 k => ?_) (fun h13769 k => ?_)
      · show Z E YX1_object (d + 1) M [(0, vr (some (16, 0, 0))), (1, vi l1), (2, vi l2)] 5 [vi (0 : Int32)] Q
        refine sX1_object_5 (d := d) M l1 l2 (0 : Int32) hw ?_
        refine zpos (show (0 : Int32) = 0 from by decide) ?_
        exact k
      · show Z E YX1_object (d + 1) M [(0, vr (some (16, 0, 0))), (1, vi l1), (2, vi l2)] 5 [vi (1 : Int32)] Q
        refine sX1_object_5 (d := d) M l1 l2 (1 : Int32) hw ?_
        refine zneg (show ¬ ((1 : Int32) = 0) from by decide) ?_
        refine zite k (fun h13770 k => ?_) (fun h13770 k => ?_)
        · refine jX1_labelOf (d := d) M l1 hw ?_
          refine zand k (fun h13775 k => ?_)
          refine zite k (fun h13776 k => ?_) (fun h13776 k => ?_)
          · show Z E YX1_object (d + 1) M [] 49 [vi (gi M 40 (l1).toNatClampNeg)] Q
            refine sX1_object_49 (d := d) M (gi M 40 (l1).toNatClampNeg) hw ?_
            exact k
          · refine zand k (fun h13777 k => ?_)
            refine zite k (fun h13778 k => ?_) (fun h13778 k => ?_)
            · show Z E YX1_object (d + 1) M [] 49 [vi (gi M 40 (l1).toNatClampNeg)] Q
              refine sX1_object_49 (d := d) M (gi M 40 (l1).toNatClampNeg) hw ?_
              exact k
            · show Z E YX1_object (d + 1) M [] 49 [vi ((gi M 40 (l1).toNatClampNeg) + (1 : Int32))] Q
              refine sX1_object_49 (d := d) M ((gi M 40 (l1).toNatClampNeg) + (1 : Int32)) hw ?_
              exact k
        · exact k
