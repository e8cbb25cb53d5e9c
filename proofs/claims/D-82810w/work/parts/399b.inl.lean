theorem iX8_named_9 {E : zE} {d : Nat} {Q : zO → zM → Prop} (M : zM) (l1 : Int32) (l2 : Int32) (l3 : Int32) (l4 : Int32) (l5 : Int32) (k : if l4 ≤ 0 then (if (gi M 97 46) = (600 : Int32) then (Q (.inl none) (si M 97 47 (1 : Int32))) else (vp_in (gi M 97 46) 600 ∧ (Q (.inl none) (si (si (si (si (si M 123 ((gi M 97 46)).toNatClampNeg l3) 124 ((gi M 97 46)).toNatClampNeg (0 : Int32)) 125 ((gi M 97 46)).toNatClampNeg l1) 126 ((gi M 97 46)).toNatClampNeg (gi M 97 56)) 97 46 ((gi M 97 46) + (1 : Int32)))))) else (Zm E YX8_isVariable d M (zargs 0 [vr (some (97, 1, 0)), vi l4, vi l1]) 0 [] (zma E YX8_named (d + 1) [(0, vr (some (97, 1, 0))), (1, vi l1), (2, vi l2), (3, vi l3), (4, vi l4), (5, vi l5)] 18 3 [] Q))) : Zm E YX8_named (d + 1) M [(0, vr (some (97, 1, 0))), (1, vi l1), (2, vi l2), (3, vi l3), (4, vi l4), (5, vi l5)] 9 [] Q := by
  refine sX8_named_9 (d := d) M l1 l2 l3 l4 l5 ?_
  refine zite k (fun h3756 k => ?_) (fun h3756 k => ?_)
  · refine sX8_named_39 (d := d) M l1 l2 l3 l4 l5 ?_
    refine zpos h3756 ?_
    refine jX8_emit (d := d) M l3 (0 : Int32) l1 ?_
    refine zite k (fun h3757 k => ?_) (fun h3757 k => ?_)
    · show Zm E YX8_named (d + 1) (si M 97 47 (1 : Int32)) [] 62 [] Q
      refine sX8_named_62 (d := d) (si M 97 47 (1 : Int32))  ?_
      exact k
    · refine zand k (fun h3758 k => ?_)
      show Zm E YX8_named (d + 1) (si (si (si (si (si M 123 ((gi M 97 46)).toNatClampNeg l3) 124 ((gi M 97 46)).toNatClampNeg (0 : Int32)) 125 ((gi M 97 46)).toNatClampNeg l1) 126 ((gi M 97 46)).toNatClampNeg (gi M 97 56)) 97 46 ((gi M 97 46) + (1 : Int32))) [] 62 [] Q
      refine sX8_named_62 (d := d) (si (si (si (si (si M 123 ((gi M 97 46)).toNatClampNeg l3) 124 ((gi M 97 46)).toNatClampNeg (0 : Int32)) 125 ((gi M 97 46)).toNatClampNeg l1) 126 ((gi M 97 46)).toNatClampNeg (gi M 97 56)) 97 46 ((gi M 97 46) + (1 : Int32)))  ?_
      exact k
  · exact k
theorem iX8_named_21 {E : zE} {d : Nat} {Q : zO → zM → Prop} (M : zM) (l1 : Int32) (l2 : Int32) (l3 : Int32) (l4 : Int32) (l5 : Int32) (s0 : Int32) (k : if s0 = 0 then (vp_in l4 12 ∧ (Zm E YX8_named (d + 1) M [(0, vr (some (97, 1, 0))), (1, vi l1), (2, vi l2), (3, vi l3), (4, vi (gi M 118 (l4).toNatClampNeg)), (5, vi (l5 + (1 : Int32)))] 9 [] Q)) else (if l4 ≤ 0 then (if (gi M 97 46) = (600 : Int32) then (Q (.inl none) (si M 97 47 (1 : Int32))) else (vp_in (gi M 97 46) 600 ∧ (Q (.inl none) (si (si (si (si (si M 123 ((gi M 97 46)).toNatClampNeg l3) 124 ((gi M 97 46)).toNatClampNeg (0 : Int32)) 125 ((gi M 97 46)).toNatClampNeg l1) 126 ((gi M 97 46)).toNatClampNeg (gi M 97 56)) 97 46 ((gi M 97 46) + (1 : Int32)))))) else (if (gi M 97 46) = (600 : Int32) then (Q (.inl none) (si M 97 47 (1 : Int32))) else (vp_in (gi M 97 46) 600 ∧ (Q (.inl none) (si (si (si (si (si M 123 ((gi M 97 46)).toNatClampNeg l2) 124 ((gi M 97 46)).toNatClampNeg l5) 125 ((gi M 97 46)).toNatClampNeg l1) 126 ((gi M 97 46)).toNatClampNeg (gi M 97 56)) 97 46 ((gi M 97 46) + (1 : Int32)))))))) : Zm E YX8_named (d + 1) M [(0, vr (some (97, 1, 0))), (1, vi l1), (2, vi l2), (3, vi l3), (4, vi l4), (5, vi l5)] 21 [vi s0] Q := by
  refine sX8_named_21 (d := d) M l1 l2 l3 l4 l5 s0 ?_
  refine zite k (fun h3759 k => ?_) (fun h3759 k => ?_)
  · exact k
  · refine sX8_named_39 (d := d) M l1 l2 l3 l4 l5 ?_
    refine zite k (fun h3761 k => ?_) (fun h3761 k => ?_)
    · refine jX8_emit (d := d) M l3 (0 : Int32) l1 ?_
      refine zite k (fun h3762 k => ?_) (fun h3762 k => ?_)
      · show Zm E YX8_named (d + 1) (si M 97 47 (1 : Int32)) [] 62 [] Q
        refine sX8_named_62 (d := d) (si M 97 47 (1 : Int32))  ?_
        exact k
      · refine zand k (fun h3763 k => ?_)
        show Zm E YX8_named (d + 1) (si (si (si (si (si M 123 ((gi M 97 46)).toNatClampNeg l3) 124 ((gi M 97 46)).toNatClampNeg (0 : Int32)) 125 ((gi M 97 46)).toNatClampNeg l1) 126 ((gi M 97 46)).toNatClampNeg (gi M 97 56)) 97 46 ((gi M 97 46) + (1 : Int32))) [] 62 [] Q
        refine sX8_named_62 (d := d) (si (si (si (si (si M 123 ((gi M 97 46)).toNatClampNeg l3) 124 ((gi M 97 46)).toNatClampNeg (0 : Int32)) 125 ((gi M 97 46)).toNatClampNeg l1) 126 ((gi M 97 46)).toNatClampNeg (gi M 97 56)) 97 46 ((gi M 97 46) + (1 : Int32)))  ?_
        exact k
    · refine jX8_emit (d := d) M l2 l5 l1 ?_
      refine zite k (fun h3764 k => ?_) (fun h3764 k => ?_)
      · show Zm E YX8_named (d + 1) (si M 97 47 (1 : Int32)) [] 52 [] Q
        refine sX8_named_52 (d := d) (si M 97 47 (1 : Int32))  ?_
        refine sX8_named_62 (d := d) (si M 97 47 (1 : Int32))  ?_
        exact k
      · refine zand k (fun h3765 k => ?_)
        show Zm E YX8_named (d + 1) (si (si (si (si (si M 123 ((gi M 97 46)).toNatClampNeg l2) 124 ((gi M 97 46)).toNatClampNeg l5) 125 ((gi M 97 46)).toNatClampNeg l1) 126 ((gi M 97 46)).toNatClampNeg (gi M 97 56)) 97 46 ((gi M 97 46) + (1 : Int32))) [] 52 [] Q
        refine sX8_named_52 (d := d) (si (si (si (si (si M 123 ((gi M 97 46)).toNatClampNeg l2) 124 ((gi M 97 46)).toNatClampNeg l5) 125 ((gi M 97 46)).toNatClampNeg l1) 126 ((gi M 97 46)).toNatClampNeg (gi M 97 56)) 97 46 ((gi M 97 46) + (1 : Int32)))  ?_
        refine sX8_named_62 (d := d) (si (si (si (si (si M 123 ((gi M 97 46)).toNatClampNeg l2) 124 ((gi M 97 46)).toNatClampNeg l5) 125 ((gi M 97 46)).toNatClampNeg l1) 126 ((gi M 97 46)).toNatClampNeg (gi M 97 56)) 97 46 ((gi M 97 46) + (1 : Int32)))  ?_
        exact k
theorem iX8_object_0 {E : zE} {d : Nat} {Q : zO → zM → Prop} (M : zM) (l1 : Int32) (k : if (gi M 97 46) = (600 : Int32) then (Zm E YX8_object (d + 1) (si (si M 97 47 (1 : Int32)) 97 55 ((gi M 97 55) + (1 : Int32))) [(0, vr (some (97, 1, 0))), (2, vi l1)] 23 [] Q) else (vp_in (gi M 97 46) 600 ∧ (Zm E YX8_object (d + 1) (si (si (si (si (si (si M 123 ((gi M 97 46)).toNatClampNeg (7 : Int32)) 124 ((gi M 97 46)).toNatClampNeg (gi M 97 55)) 125 ((gi M 97 46)).toNatClampNeg (0 : Int32)) 126 ((gi M 97 46)).toNatClampNeg (gi M 97 56)) 97 46 ((gi M 97 46) + (1 : Int32))) 97 55 ((gi M 97 55) + (1 : Int32))) [(0, vr (some (97, 1, 0))), (2, vi l1)] 23 [] Q))) : Zm E YX8_object (d + 1) M [(0, vr (some (97, 1, 0))), (1, vi l1)] 0 [] Q := by
  refine sX8_object_0 (d := d) M l1 ?_
  refine jX8_emit (d := d) M (7 : Int32) (gi M 97 55) (0 : Int32) ?_
  refine zite k (fun h3766 k => ?_) (fun h3766 k => ?_)
  · show Zm E YX8_object (d + 1) (si M 97 47 (1 : Int32)) [(0, vr (some (97, 1, 0))), (1, vi l1)] 11 [] Q
    refine sX8_object_11 (d := d) (si M 97 47 (1 : Int32)) l1 ?_
    exact k
  · refine zand k (fun h3767 k => ?_)
    show Zm E YX8_object (d + 1) (si (si (si (si (si M 123 ((gi M 97 46)).toNatClampNeg (7 : Int32)) 124 ((gi M 97 46)).toNatClampNeg (gi M 97 55)) 125 ((gi M 97 46)).toNatClampNeg (0 : Int32)) 126 ((gi M 97 46)).toNatClampNeg (gi M 97 56)) 97 46 ((gi M 97 46) + (1 : Int32))) [(0, vr (some (97, 1, 0))), (1, vi l1)] 11 [] Q
    refine sX8_object_11 (d := d) (si (si (si (si (si M 123 ((gi M 97 46)).toNatClampNeg (7 : Int32)) 124 ((gi M 97 46)).toNatClampNeg (gi M 97 55)) 125 ((gi M 97 46)).toNatClampNeg (0 : Int32)) 126 ((gi M 97 46)).toNatClampNeg (gi M 97 56)) 97 46 ((gi M 97 46) + (1 : Int32))) l1 ?_
    exact k
theorem iX8_object_41 {E : zE} {d : Nat} {Q : zO → zM → Prop} (M : zM) (l2 : Int32) (k : vp_in (((5 : Int32) * l2) + (1 : Int32)) 60000 ∧ (if (gi M 97 46) = (600 : Int32) then (vp_in (((5 : Int32) * l2) + (0 : Int32)) 60000 ∧ (Zm E YX8_value (d + 1) (si M 97 47 (1 : Int32)) (zargs 0 [vr (some (97, 1, 0)), vi (gi M 109 ((((5 : Int32) * l2) + (0 : Int32))).toNatClampNeg)]) 0 [] (zma E YX8_object ((d + 1) + 1) [(0, vr (some (97, 1, 0))), (2, vi l2)] 60 3 [] Q))) else (vp_in (gi M 97 46) 600 ∧ (vp_in (((5 : Int32) * l2) + (0 : Int32)) 60000 ∧ (Zm E YX8_value (d + 1) (si (si (si (si (si M 123 ((gi M 97 46)).toNatClampNeg (0 : Int32)) 124 ((gi M 97 46)).toNatClampNeg (6 : Int32)) 125 ((gi M 97 46)).toNatClampNeg (gi M 109 ((((5 : Int32) * l2) + (1 : Int32))).toNatClampNeg)) 126 ((gi M 97 46)).toNatClampNeg (gi M 97 56)) 97 46 ((gi M 97 46) + (1 : Int32))) (zargs 0 [vr (some (97, 1, 0)), vi (gi M 109 ((((5 : Int32) * l2) + (0 : Int32))).toNatClampNeg)]) 0 [] (zma E YX8_object ((d + 1) + 1) [(0, vr (some (97, 1, 0))), (2, vi l2)] 60 3 [] Q)))))) : Zm E YX8_object (d + 2) M [(0, vr (some (97, 1, 0))), (2, vi l2)] 41 [] Q := by
  refine sX8_object_41 (d := (d + 1)) M l2 ?_
  refine sX8_part_0 (d := (d + 1)) M l2 (1 : Int32) ?_
  refine zand k (fun h3797 k => ?_)
  show Zm E YX8_object ((d + 1) + 1) M [(0, vr (some (97, 1, 0))), (2, vi l2)] 50 [vi (gi M 109 ((((5 : Int32) * l2) + (1 : Int32))).toNatClampNeg), vi (6 : Int32), vr (some (97, 1, 0))] Q
  refine sX8_object_50 (d := (d + 1)) M l2 (gi M 109 ((((5 : Int32) * l2) + (1 : Int32))).toNatClampNeg) (6 : Int32) ?_
  refine jX8_constant (d := d) M (6 : Int32) (gi M 109 ((((5 : Int32) * l2) + (1 : Int32))).toNatClampNeg) ?_
  refine zite k (fun h3798 k => ?_) (fun h3798 k => ?_)
  · show Zm E YX8_object ((d + 1) + 1) (si M 97 47 (1 : Int32)) [(0, vr (some (97, 1, 0))), (2, vi l2)] 53 [] Q
    refine sX8_object_53 (d := (d + 1)) (si M 97 47 (1 : Int32)) l2 ?_
    refine sX8_part_0 (d := (d + 1)) (si M 97 47 (1 : Int32)) l2 (0 : Int32) ?_
    refine zand k (fun h3799 k => ?_)
    show Zm E YX8_object ((d + 1) + 1) (si M 97 47 (1 : Int32)) [(0, vr (some (97, 1, 0))), (2, vi l2)] 60 [vi (gi M 109 ((((5 : Int32) * l2) + (0 : Int32))).toNatClampNeg), vr (some (97, 1, 0))] Q
    refine sX8_object_60 (d := (d + 1)) (si M 97 47 (1 : Int32)) l2 (gi M 109 ((((5 : Int32) * l2) + (0 : Int32))).toNatClampNeg) ?_
    exact k
  · refine zand k (fun h3800 k => ?_)
    show Zm E YX8_object ((d + 1) + 1) (si (si (si (si (si M 123 ((gi M 97 46)).toNatClampNeg (0 : Int32)) 124 ((gi M 97 46)).toNatClampNeg (6 : Int32)) 125 ((gi M 97 46)).toNatClampNeg (gi M 109 ((((5 : Int32) * l2) + (1 : Int32))).toNatClampNeg)) 126 ((gi M 97 46)).toNatClampNeg (gi M 97 56)) 97 46 ((gi M 97 46) + (1 : Int32))) [(0, vr (some (97, 1, 0))), (2, vi l2)] 53 [] Q
    refine sX8_object_53 (d := (d + 1)) (si (si (si (si (si M 123 ((gi M 97 46)).toNatClampNeg (0 : Int32)) 124 ((gi M 97 46)).toNatClampNeg (6 : Int32)) 125 ((gi M 97 46)).toNatClampNeg (gi M 109 ((((5 : Int32) * l2) + (1 : Int32))).toNatClampNeg)) 126 ((gi M 97 46)).toNatClampNeg (gi M 97 56)) 97 46 ((gi M 97 46) + (1 : Int32))) l2 ?_
    refine sX8_part_0 (d := (d + 1)) (si (si (si (si (si M 123 ((gi M 97 46)).toNatClampNeg (0 : Int32)) 124 ((gi M 97 46)).toNatClampNeg (6 : Int32)) 125 ((gi M 97 46)).toNatClampNeg (gi M 109 ((((5 : Int32) * l2) + (1 : Int32))).toNatClampNeg)) 126 ((gi M 97 46)).toNatClampNeg (gi M 97 56)) 97 46 ((gi M 97 46) + (1 : Int32))) l2 (0 : Int32) ?_
    refine zand k (fun h3801 k => ?_)
    show Zm E YX8_object ((d + 1) + 1) (si (si (si (si (si M 123 ((gi M 97 46)).toNatClampNeg (0 : Int32)) 124 ((gi M 97 46)).toNatClampNeg (6 : Int32)) 125 ((gi M 97 46)).toNatClampNeg (gi M 109 ((((5 : Int32) * l2) + (1 : Int32))).toNatClampNeg)) 126 ((gi M 97 46)).toNatClampNeg (gi M 97 56)) 97 46 ((gi M 97 46) + (1 : Int32))) [(0, vr (some (97, 1, 0))), (2, vi l2)] 60 [vi (gi M 109 ((((5 : Int32) * l2) + (0 : Int32))).toNatClampNeg), vr (some (97, 1, 0))] Q
    refine sX8_object_60 (d := (d + 1)) (si (si (si (si (si M 123 ((gi M 97 46)).toNatClampNeg (0 : Int32)) 124 ((gi M 97 46)).toNatClampNeg (6 : Int32)) 125 ((gi M 97 46)).toNatClampNeg (gi M 109 ((((5 : Int32) * l2) + (1 : Int32))).toNatClampNeg)) 126 ((gi M 97 46)).toNatClampNeg (gi M 97 56)) 97 46 ((gi M 97 46) + (1 : Int32))) l2 (gi M 109 ((((5 : Int32) * l2) + (0 : Int32))).toNatClampNeg) ?_
    exact k
theorem iX8_object_63 {E : zE} {d : Nat} {Q : zO → zM → Prop} (M : zM) (l2 : Int32) (k : if (gi M 97 46) = (600 : Int32) then (vp_in l2 12000 ∧ (Zm E YX8_object ((d + 1) + 1) (si (si M 97 47 (1 : Int32)) 97 47 (1 : Int32)) [(0, vr (some (97, 1, 0))), (2, vi (gi M 110 (l2).toNatClampNeg))] 23 [] Q)) else (vp_in (gi M 97 46) 600 ∧ (if ((gi M 97 46) + (1 : Int32)) = (600 : Int32) then (vp_in l2 12000 ∧ (Zm E YX8_object ((d + 1) + 1) (si (si (si (si (si (si M 123 ((gi M 97 46)).toNatClampNeg (11 : Int32)) 124 ((gi M 97 46)).toNatClampNeg (0 : Int32)) 125 ((gi M 97 46)).toNatClampNeg (0 : Int32)) 126 ((gi M 97 46)).toNatClampNeg (gi M 97 56)) 97 46 ((gi M 97 46) + (1 : Int32))) 97 47 (1 : Int32)) [(0, vr (some (97, 1, 0))), (2, vi (gi M 110 (l2).toNatClampNeg))] 23 [] Q)) else (vp_in ((gi M 97 46) + (1 : Int32)) 600 ∧ (vp_in l2 12000 ∧ (Zm E YX8_object ((d + 1) + 1) (si (si (si (si (si (si (si (si (si (si M 123 ((gi M 97 46)).toNatClampNeg (11 : Int32)) 124 ((gi M 97 46)).toNatClampNeg (0 : Int32)) 125 ((gi M 97 46)).toNatClampNeg (0 : Int32)) 126 ((gi M 97 46)).toNatClampNeg (gi M 97 56)) 97 46 ((gi M 97 46) + (1 : Int32))) 123 (((gi M 97 46) + (1 : Int32))).toNatClampNeg (17 : Int32)) 124 (((gi M 97 46) + (1 : Int32))).toNatClampNeg (0 : Int32)) 125 (((gi M 97 46) + (1 : Int32))).toNatClampNeg (0 : Int32)) 126 (((gi M 97 46) + (1 : Int32))).toNatClampNeg (gi M 97 56)) 97 46 (((gi M 97 46) + (1 : Int32)) + (1 : Int32))) [(0, vr (some (97, 1, 0))), (2, vi (gi M 110 (l2).toNatClampNeg))] 23 [] Q)))))) : Zm E YX8_object (d + 2) M [(0, vr (some (97, 1, 0))), (2, vi l2)] 63 [] Q := by
  refine sX8_object_63 (d := (d + 1)) M l2 ?_
  refine jX8_emit_2 (d := d) M (11 : Int32) ?_
  refine zite k (fun h3802 k => ?_) (fun h3802 k => ?_)
  · show Zm E YX8_object ((d + 1) + 1) (si M 97 47 (1 : Int32)) [(0, vr (some (97, 1, 0))), (2, vi l2)] 69 [] Q
    refine sX8_object_69 (d := (d + 1)) (si M 97 47 (1 : Int32)) l2 ?_
    refine jX8_emit_2 (d := d) (si M 97 47 (1 : Int32)) (17 : Int32) ?_
    refine zpos h3802 ?_
    show Zm E YX8_object ((d + 1) + 1) (si (si M 97 47 (1 : Int32)) 97 47 (1 : Int32)) [(0, vr (some (97, 1, 0))), (2, vi l2)] 75 [] Q
    refine sX8_object_75 (d := (d + 1)) (si (si M 97 47 (1 : Int32)) 97 47 (1 : Int32)) l2 ?_
    exact k
  · refine zand k (fun h3804 k => ?_)
    show Zm E YX8_object ((d + 1) + 1) (si (si (si (si (si M 123 ((gi M 97 46)).toNatClampNeg (11 : Int32)) 124 ((gi M 97 46)).toNatClampNeg (0 : Int32)) 125 ((gi M 97 46)).toNatClampNeg (0 : Int32)) 126 ((gi M 97 46)).toNatClampNeg (gi M 97 56)) 97 46 ((gi M 97 46) + (1 : Int32))) [(0, vr (some (97, 1, 0))), (2, vi l2)] 69 [] Q
    refine sX8_object_69 (d := (d + 1)) (si (si (si (si (si M 123 ((gi M 97 46)).toNatClampNeg (11 : Int32)) 124 ((gi M 97 46)).toNatClampNeg (0 : Int32)) 125 ((gi M 97 46)).toNatClampNeg (0 : Int32)) 126 ((gi M 97 46)).toNatClampNeg (gi M 97 56)) 97 46 ((gi M 97 46) + (1 : Int32))) l2 ?_
    refine jX8_emit_2 (d := d) (si (si (si (si (si M 123 ((gi M 97 46)).toNatClampNeg (11 : Int32)) 124 ((gi M 97 46)).toNatClampNeg (0 : Int32)) 125 ((gi M 97 46)).toNatClampNeg (0 : Int32)) 126 ((gi M 97 46)).toNatClampNeg (gi M 97 56)) 97 46 ((gi M 97 46) + (1 : Int32))) (17 : Int32) ?_
    refine zite k (fun h3805 k => ?_) (fun h3805 k => ?_)
    · show Zm E YX8_object ((d + 1) + 1) (si (si (si (si (si (si M 123 ((gi M 97 46)).toNatClampNeg (11 : Int32)) 124 ((gi M 97 46)).toNatClampNeg (0 : Int32)) 125 ((gi M 97 46)).toNatClampNeg (0 : Int32)) 126 ((gi M 97 46)).toNatClampNeg (gi M 97 56)) 97 46 ((gi M 97 46) + (1 : Int32))) 97 47 (1 : Int32)) [(0, vr (some (97, 1, 0))), (2, vi l2)] 75 [] Q
      refine sX8_object_75 (d := (d + 1)) (si (si (si (si (si (si M 123 ((gi M 97 46)).toNatClampNeg (11 : Int32)) 124 ((gi M 97 46)).toNatClampNeg (0 : Int32)) 125 ((gi M 97 46)).toNatClampNeg (0 : Int32)) 126 ((gi M 97 46)).toNatClampNeg (gi M 97 56)) 97 46 ((gi M 97 46) + (1 : Int32))) 97 47 (1 : Int32)) l2 ?_
      exact k
    · refine zand k (fun h3807 k => ?_)
      show Zm E YX8_object ((d + 1) + 1) (si (si (si (si (si (si (si (si (si (si M 123 ((gi M 97 46)).toNatClampNeg (11 : Int32)) 124 ((gi M 97 46)).toNatClampNeg (0 : Int32)) 125 ((gi M 97 46)).toNatClampNeg (0 : Int32)) 126 ((gi M 97 46)).toNatClampNeg (gi M 97 56)) 97 46 ((gi M 97 46) + (1 : Int32))) 123 (((gi M 97 46) + (1 : Int32))).toNatClampNeg (17 : Int32)) 124 (((gi M 97 46) + (1 : Int32))).toNatClampNeg (0 : Int32)) 125 (((gi M 97 46) + (1 : Int32))).toNatClampNeg (0 : Int32)) 126 (((gi M 97 46) + (1 : Int32))).toNatClampNeg (gi M 97 56)) 97 46 (((gi M 97 46) + (1 : Int32)) + (1 : Int32))) [(0, vr (some (97, 1, 0))), (2, vi l2)] 75 [] Q
      refine sX8_object_75 (d := (d + 1)) (si (si (si (si (si (si (si (si (si (si M 123 ((gi M 97 46)).toNatClampNeg (11 : Int32)) 124 ((gi M 97 46)).toNatClampNeg (0 : Int32)) 125 ((gi M 97 46)).toNatClampNeg (0 : Int32)) 126 ((gi M 97 46)).toNatClampNeg (gi M 97 56)) 97 46 ((gi M 97 46) + (1 : Int32))) 123 (((gi M 97 46) + (1 : Int32))).toNatClampNeg (17 : Int32)) 124 (((gi M 97 46) + (1 : Int32))).toNatClampNeg (0 : Int32)) 125 (((gi M 97 46) + (1 : Int32))).toNatClampNeg (0 : Int32)) 126 (((gi M 97 46) + (1 : Int32))).toNatClampNeg (gi M 97 56)) 97 46 (((gi M 97 46) + (1 : Int32)) + (1 : Int32))) l2 ?_
      exact k
theorem iX8_row_0 {E : zE} {d : Nat} {Q : zO → zM → Prop} (M : zM) (l1 : Int32) (k : if (gi M 97 46) = (600 : Int32) then (Zm E YX8_row (d + 1) (si (si M 97 47 (1 : Int32)) 97 55 ((gi M 97 55) + (1 : Int32))) [(0, vr (some (97, 1, 0))), (2, vi (0 : Int32)), (3, vi l1)] 25 [] Q) else (vp_in (gi M 97 46) 600 ∧ (Zm E YX8_row (d + 1) (si (si (si (si (si (si M 123 ((gi M 97 46)).toNatClampNeg (8 : Int32)) 124 ((gi M 97 46)).toNatClampNeg (gi M 97 55)) 125 ((gi M 97 46)).toNatClampNeg (0 : Int32)) 126 ((gi M 97 46)).toNatClampNeg (gi M 97 56)) 97 46 ((gi M 97 46) + (1 : Int32))) 97 55 ((gi M 97 55) + (1 : Int32))) [(0, vr (some (97, 1, 0))), (2, vi (0 : Int32)), (3, vi l1)] 25 [] Q))) : Zm E YX8_row (d + 1) M [(0, vr (some (97, 1, 0))), (1, vi l1)] 0 [] Q := by
  refine sX8_row_0 (d := d) M l1 ?_
  refine jX8_emit (d := d) M (8 : Int32) (gi M 97 55) (0 : Int32) ?_
  refine zite k (fun h3810 k => ?_) (fun h3810 k => ?_)
  · show Zm E YX8_row (d + 1) (si M 97 47 (1 : Int32)) [(0, vr (some (97, 1, 0))), (1, vi l1)] 11 [] Q
    refine sX8_row_11 (d := d) (si M 97 47 (1 : Int32)) l1 ?_
    exact k
  · refine zand k (fun h3811 k => ?_)
    show Zm E YX8_row (d + 1) (si (si (si (si (si M 123 ((gi M 97 46)).toNatClampNeg (8 : Int32)) 124 ((gi M 97 46)).toNatClampNeg (gi M 97 55)) 125 ((gi M 97 46)).toNatClampNeg (0 : Int32)) 126 ((gi M 97 46)).toNatClampNeg (gi M 97 56)) 97 46 ((gi M 97 46) + (1 : Int32))) [(0, vr (some (97, 1, 0))), (1, vi l1)] 11 [] Q
    refine sX8_row_11 (d := d) (si (si (si (si (si M 123 ((gi M 97 46)).toNatClampNeg (8 : Int32)) 124 ((gi M 97 46)).toNatClampNeg (gi M 97 55)) 125 ((gi M 97 46)).toNatClampNeg (0 : Int32)) 126 ((gi M 97 46)).toNatClampNeg (gi M 97 56)) 97 46 ((gi M 97 46) + (1 : Int32))) l1 ?_
    exact k
theorem iX8_row_43 {E : zE} {d : Nat} {Q : zO → zM → Prop} (M : zM) (l2 : Int32) (l3 : Int32) (k : if (gi M 97 46) = (600 : Int32) then (vp_in (((5 : Int32) * l3) + (0 : Int32)) 60000 ∧ (Zm E YX8_value (d + 1) (si M 97 47 (1 : Int32)) (zargs 0 [vr (some (97, 1, 0)), vi (gi M 109 ((((5 : Int32) * l3) + (0 : Int32))).toNatClampNeg)]) 0 [] (zma E YX8_row ((d + 1) + 1) [(0, vr (some (97, 1, 0))), (2, vi l2), (3, vi l3)] 56 3 [] Q))) else (vp_in (gi M 97 46) 600 ∧ (vp_in (((5 : Int32) * l3) + (0 : Int32)) 60000 ∧ (Zm E YX8_value (d + 1) (si (si (si (si (si M 123 ((gi M 97 46)).toNatClampNeg (0 : Int32)) 124 ((gi M 97 46)).toNatClampNeg (5 : Int32)) 125 ((gi M 97 46)).toNatClampNeg l2) 126 ((gi M 97 46)).toNatClampNeg (gi M 97 56)) 97 46 ((gi M 97 46) + (1 : Int32))) (zargs 0 [vr (some (97, 1, 0)), vi (gi M 109 ((((5 : Int32) * l3) + (0 : Int32))).toNatClampNeg)]) 0 [] (zma E YX8_row ((d + 1) + 1) [(0, vr (some (97, 1, 0))), (2, vi l2), (3, vi l3)] 56 3 [] Q))))) : Zm E YX8_row (d + 2) M [(0, vr (some (97, 1, 0))), (2, vi l2), (3, vi l3)] 43 [] Q := by
  refine sX8_row_43 (d := (d + 1)) M l2 l3 ?_
  refine jX8_constant (d := d) M (5 : Int32) l2 ?_
  refine zite k (fun h3836 k => ?_) (fun h3836 k => ?_)
  · show Zm E YX8_row ((d + 1) + 1) (si M 97 47 (1 : Int32)) [(0, vr (some (97, 1, 0))), (2, vi l2), (3, vi l3)] 49 [] Q
    refine sX8_row_49 (d := (d + 1)) (si M 97 47 (1 : Int32)) l2 l3 ?_
    refine sX8_part_0 (d := (d + 1)) (si M 97 47 (1 : Int32)) l3 (0 : Int32) ?_
    refine zand k (fun h3837 k => ?_)
    show Zm E YX8_row ((d + 1) + 1) (si M 97 47 (1 : Int32)) [(0, vr (some (97, 1, 0))), (2, vi l2), (3, vi l3)] 56 [vi (gi M 109 ((((5 : Int32) * l3) + (0 : Int32))).toNatClampNeg), vr (some (97, 1, 0))] Q
    refine sX8_row_56 (d := (d + 1)) (si M 97 47 (1 : Int32)) l2 l3 (gi M 109 ((((5 : Int32) * l3) + (0 : Int32))).toNatClampNeg) ?_
    exact k
  · refine zand k (fun h3838 k => ?_)
    show Zm E YX8_row ((d + 1) + 1) (si (si (si (si (si M 123 ((gi M 97 46)).toNatClampNeg (0 : Int32)) 124 ((gi M 97 46)).toNatClampNeg (5 : Int32)) 125 ((gi M 97 46)).toNatClampNeg l2) 126 ((gi M 97 46)).toNatClampNeg (gi M 97 56)) 97 46 ((gi M 97 46) + (1 : Int32))) [(0, vr (some (97, 1, 0))), (2, vi l2), (3, vi l3)] 49 [] Q
    refine sX8_row_49 (d := (d + 1)) (si (si (si (si (si M 123 ((gi M 97 46)).toNatClampNeg (0 : Int32)) 124 ((gi M 97 46)).toNatClampNeg (5 : Int32)) 125 ((gi M 97 46)).toNatClampNeg l2) 126 ((gi M 97 46)).toNatClampNeg (gi M 97 56)) 97 46 ((gi M 97 46) + (1 : Int32))) l2 l3 ?_
    refine sX8_part_0 (d := (d + 1)) (si (si (si (si (si M 123 ((gi M 97 46)).toNatClampNeg (0 : Int32)) 124 ((gi M 97 46)).toNatClampNeg (5 : Int32)) 125 ((gi M 97 46)).toNatClampNeg l2) 126 ((gi M 97 46)).toNatClampNeg (gi M 97 56)) 97 46 ((gi M 97 46) + (1 : Int32))) l3 (0 : Int32) ?_
    refine zand k (fun h3839 k => ?_)
    show Zm E YX8_row ((d + 1) + 1) (si (si (si (si (si M 123 ((gi M 97 46)).toNatClampNeg (0 : Int32)) 124 ((gi M 97 46)).toNatClampNeg (5 : Int32)) 125 ((gi M 97 46)).toNatClampNeg l2) 126 ((gi M 97 46)).toNatClampNeg (gi M 97 56)) 97 46 ((gi M 97 46) + (1 : Int32))) [(0, vr (some (97, 1, 0))), (2, vi l2), (3, vi l3)] 56 [vi (gi M 109 ((((5 : Int32) * l3) + (0 : Int32))).toNatClampNeg), vr (some (97, 1, 0))] Q
    refine sX8_row_56 (d := (d + 1)) (si (si (si (si (si M 123 ((gi M 97 46)).toNatClampNeg (0 : Int32)) 124 ((gi M 97 46)).toNatClampNeg (5 : Int32)) 125 ((gi M 97 46)).toNatClampNeg l2) 126 ((gi M 97 46)).toNatClampNeg (gi M 97 56)) 97 46 ((gi M 97 46) + (1 : Int32))) l2 l3 (gi M 109 ((((5 : Int32) * l3) + (0 : Int32))).toNatClampNeg) ?_
    exact k
theorem iX8_row_59 {E : zE} {d : Nat} {Q : zO → zM → Prop} (M : zM) (l2 : Int32) (l3 : Int32) (k : if (gi M 97 46) = (600 : Int32) then (vp_in l3 12000 ∧ (Zm E YX8_row ((d + 1) + 1) (si (si M 97 47 (1 : Int32)) 97 47 (1 : Int32)) [(0, vr (some (97, 1, 0))), (2, vi (l2 + (1 : Int32))), (3, vi (gi M 110 (l3).toNatClampNeg))] 25 [] Q)) else (vp_in (gi M 97 46) 600 ∧ (if ((gi M 97 46) + (1 : Int32)) = (600 : Int32) then (vp_in l3 12000 ∧ (Zm E YX8_row ((d + 1) + 1) (si (si (si (si (si (si M 123 ((gi M 97 46)).toNatClampNeg (11 : Int32)) 124 ((gi M 97 46)).toNatClampNeg (0 : Int32)) 125 ((gi M 97 46)).toNatClampNeg (0 : Int32)) 126 ((gi M 97 46)).toNatClampNeg (gi M 97 56)) 97 46 ((gi M 97 46) + (1 : Int32))) 97 47 (1 : Int32)) [(0, vr (some (97, 1, 0))), (2, vi (l2 + (1 : Int32))), (3, vi (gi M 110 (l3).toNatClampNeg))] 25 [] Q)) else (vp_in ((gi M 97 46) + (1 : Int32)) 600 ∧ (vp_in l3 12000 ∧ (Zm E YX8_row ((d + 1) + 1) (si (si (si (si (si (si (si (si (si (si M 123 ((gi M 97 46)).toNatClampNeg (11 : Int32)) 124 ((gi M 97 46)).toNatClampNeg (0 : Int32)) 125 ((gi M 97 46)).toNatClampNeg (0 : Int32)) 126 ((gi M 97 46)).toNatClampNeg (gi M 97 56)) 97 46 ((gi M 97 46) + (1 : Int32))) 123 (((gi M 97 46) + (1 : Int32))).toNatClampNeg (17 : Int32)) 124 (((gi M 97 46) + (1 : Int32))).toNatClampNeg (0 : Int32)) 125 (((gi M 97 46) + (1 : Int32))).toNatClampNeg (0 : Int32)) 126 (((gi M 97 46) + (1 : Int32))).toNatClampNeg (gi M 97 56)) 97 46 (((gi M 97 46) + (1 : Int32)) + (1 : Int32))) [(0, vr (some (97, 1, 0))), (2, vi (l2 + (1 : Int32))), (3, vi (gi M 110 (l3).toNatClampNeg))] 25 [] Q)))))) : Zm E YX8_row (d + 2) M [(0, vr (some (97, 1, 0))), (2, vi l2), (3, vi l3)] 59 [] Q := by
  refine sX8_row_59 (d := (d + 1)) M l2 l3 ?_
  refine jX8_emit_2 (d := d) M (11 : Int32) ?_
  refine zite k (fun h3840 k => ?_) (fun h3840 k => ?_)
  · show Zm E YX8_row ((d + 1) + 1) (si M 97 47 (1 : Int32)) [(0, vr (some (97, 1, 0))), (2, vi l2), (3, vi l3)] 65 [] Q
    refine sX8_row_65 (d := (d + 1)) (si M 97 47 (1 : Int32)) l2 l3 ?_
    refine jX8_emit_2 (d := d) (si M 97 47 (1 : Int32)) (17 : Int32) ?_
    refine zpos h3840 ?_
    show Zm E YX8_row ((d + 1) + 1) (si (si M 97 47 (1 : Int32)) 97 47 (1 : Int32)) [(0, vr (some (97, 1, 0))), (2, vi l2), (3, vi l3)] 71 [] Q
    refine sX8_row_71 (d := (d + 1)) (si (si M 97 47 (1 : Int32)) 97 47 (1 : Int32)) l2 l3 ?_
    exact k
  · refine zand k (fun h3842 k => ?_)
    show Zm E YX8_row ((d + 1) + 1) (si (si (si (si (si M 123 ((gi M 97 46)).toNatClampNeg (11 : Int32)) 124 ((gi M 97 46)).toNatClampNeg (0 : Int32)) 125 ((gi M 97 46)).toNatClampNeg (0 : Int32)) 126 ((gi M 97 46)).toNatClampNeg (gi M 97 56)) 97 46 ((gi M 97 46) + (1 : Int32))) [(0, vr (some (97, 1, 0))), (2, vi l2), (3, vi l3)] 65 [] Q
    refine sX8_row_65 (d := (d + 1)) (si (si (si (si (si M 123 ((gi M 97 46)).toNatClampNeg (11 : Int32)) 124 ((gi M 97 46)).toNatClampNeg (0 : Int32)) 125 ((gi M 97 46)).toNatClampNeg (0 : Int32)) 126 ((gi M 97 46)).toNatClampNeg (gi M 97 56)) 97 46 ((gi M 97 46) + (1 : Int32))) l2 l3 ?_
    refine jX8_emit_2 (d := d) (si (si (si (si (si M 123 ((gi M 97 46)).toNatClampNeg (11 : Int32)) 124 ((gi M 97 46)).toNatClampNeg (0 : Int32)) 125 ((gi M 97 46)).toNatClampNeg (0 : Int32)) 126 ((gi M 97 46)).toNatClampNeg (gi M 97 56)) 97 46 ((gi M 97 46) + (1 : Int32))) (17 : Int32) ?_
    refine zite k (fun h3843 k => ?_) (fun h3843 k => ?_)
    · show Zm E YX8_row ((d + 1) + 1) (si (si (si (si (si (si M 123 ((gi M 97 46)).toNatClampNeg (11 : Int32)) 124 ((gi M 97 46)).toNatClampNeg (0 : Int32)) 125 ((gi M 97 46)).toNatClampNeg (0 : Int32)) 126 ((gi M 97 46)).toNatClampNeg (gi M 97 56)) 97 46 ((gi M 97 46) + (1 : Int32))) 97 47 (1 : Int32)) [(0, vr (some (97, 1, 0))), (2, vi l2), (3, vi l3)] 71 [] Q
      refine sX8_row_71 (d := (d + 1)) (si (si (si (si (si (si M 123 ((gi M 97 46)).toNatClampNeg (11 : Int32)) 124 ((gi M 97 46)).toNatClampNeg (0 : Int32)) 125 ((gi M 97 46)).toNatClampNeg (0 : Int32)) 126 ((gi M 97 46)).toNatClampNeg (gi M 97 56)) 97 46 ((gi M 97 46) + (1 : Int32))) 97 47 (1 : Int32)) l2 l3 ?_
      exact k
    · refine zand k (fun h3845 k => ?_)
      show Zm E YX8_row ((d + 1) + 1) (si (si (si (si (si (si (si (si (si (si M 123 ((gi M 97 46)).toNatClampNeg (11 : Int32)) 124 ((gi M 97 46)).toNatClampNeg (0 : Int32)) 125 ((gi M 97 46)).toNatClampNeg (0 : Int32)) 126 ((gi M 97 46)).toNatClampNeg (gi M 97 56)) 97 46 ((gi M 97 46) + (1 : Int32))) 123 (((gi M 97 46) + (1 : Int32))).toNatClampNeg (17 : Int32)) 124 (((gi M 97 46) + (1 : Int32))).toNatClampNeg (0 : Int32)) 125 (((gi M 97 46) + (1 : Int32))).toNatClampNeg (0 : Int32)) 126 (((gi M 97 46) + (1 : Int32))).toNatClampNeg (gi M 97 56)) 97 46 (((gi M 97 46) + (1 : Int32)) + (1 : Int32))) [(0, vr (some (97, 1, 0))), (2, vi l2), (3, vi l3)] 71 [] Q
      refine sX8_row_71 (d := (d + 1)) (si (si (si (si (si (si (si (si (si (si M 123 ((gi M 97 46)).toNatClampNeg (11 : Int32)) 124 ((gi M 97 46)).toNatClampNeg (0 : Int32)) 125 ((gi M 97 46)).toNatClampNeg (0 : Int32)) 126 ((gi M 97 46)).toNatClampNeg (gi M 97 56)) 97 46 ((gi M 97 46) + (1 : Int32))) 123 (((gi M 97 46) + (1 : Int32))).toNatClampNeg (17 : Int32)) 124 (((gi M 97 46) + (1 : Int32))).toNatClampNeg (0 : Int32)) 125 (((gi M 97 46) + (1 : Int32))).toNatClampNeg (0 : Int32)) 126 (((gi M 97 46) + (1 : Int32))).toNatClampNeg (gi M 97 56)) 97 46 (((gi M 97 46) + (1 : Int32)) + (1 : Int32))) l2 l3 ?_
      exact k
theorem iX8_single_14 {E : zE} {d : Nat} {Q : zO → zM → Prop} (M : zM) (l1 : Int32) (s0 : Int32) (k : vp_in (((5 : Int32) * l1) + (1 : Int32)) 60000 ∧ (vp_in l1 12000 ∧ (if (gi M 108 (l1).toNatClampNeg) = 0 then (Zm E YX8_constant d M (zargs 0 [vr (some (97, 1, 0)), vi s0, vi (gi M 109 ((((5 : Int32) * l1) + (1 : Int32))).toNatClampNeg)]) 0 [] (zma E YX8_single (d + 1) [] 115 3 [] Q)) else (if (gi M 108 (l1).toNatClampNeg) = 1 then (Zm E YX8_emit_2 d M (zargs 0 [vr (some (97, 1, 0)), vi (6 : Int32)]) 0 [] (zma E YX8_single (d + 1) [] 124 3 [] Q)) else (if (gi M 108 (l1).toNatClampNeg) = 2 then (Zm E YX8_get d M (zargs 0 [vr (some (97, 1, 0)), vi s0]) 0 [] (zma E YX8_single (d + 1) [] 132 3 [] Q)) else (if (gi M 108 (l1).toNatClampNeg) = 3 then (Zm E YX8_stepBehind d M (zargs 0 [vr (some (97, 1, 0)), vi s0, vi (gi M 109 ((((5 : Int32) * l1) + (1 : Int32))).toNatClampNeg)]) 0 [] (zma E YX8_single (d + 1) [] 303 3 [] Q)) else (if (gi M 108 (l1).toNatClampNeg) = 4 then (Zm E YX8_row d M (zargs 0 [vr (some (97, 1, 0)), vi s0]) 0 [] (zma E YX8_single (d + 1) [] 140 3 [] Q)) else (if (gi M 108 (l1).toNatClampNeg) = 5 then (Zm E YX8_object d M (zargs 0 [vr (some (97, 1, 0)), vi s0]) 0 [] (zma E YX8_single (d + 1) [] 148 3 [] Q)) else (if (gi M 108 (l1).toNatClampNeg) = 6 then (Zm E YX8_emit d M (zargs 0 [vr (some (97, 1, 0)), vi (9 : Int32), vi s0, vi (0 : Int32)]) 0 [] (zma E YX8_single (d + 1) [] 159 3 [] Q)) else (if (gi M 108 (l1).toNatClampNeg) = 7 then (Zm E YX8_stepBehind d M (zargs 0 [vr (some (97, 1, 0)), vi s0, vi (gi M 109 ((((5 : Int32) * l1) + (1 : Int32))).toNatClampNeg)]) 0 [] (zma E YX8_single (d + 1) [] 303 3 [] Q)) else (if (gi M 108 (l1).toNatClampNeg) = 8 then (Zm E YX8_stepBehind d M (zargs 0 [vr (some (97, 1, 0)), vi s0, vi (gi M 109 ((((5 : Int32) * l1) + (1 : Int32))).toNatClampNeg)]) 0 [] (zma E YX8_single (d + 1) [] 303 3 [] Q)) else (if (gi M 108 (l1).toNatClampNeg) = 9 then (Zm E YX8_value d M (zargs 0 [vr (some (97, 1, 0)), vi s0]) 0 [] (zma E YX8_single (d + 1) [(0, vr (some (97, 1, 0))), (3, vi (gi M 109 ((((5 : Int32) * l1) + (1 : Int32))).toNatClampNeg))] 167 3 [] Q)) else (if (gi M 108 (l1).toNatClampNeg) = 10 then (Zm E YX8_unary d M (zargs 0 [vr (some (97, 1, 0)), vi s0, vi (gi M 109 ((((5 : Int32) * l1) + (1 : Int32))).toNatClampNeg)]) 0 [] (zma E YX8_single (d + 1) [] 205 3 [] Q)) else (if (gi M 108 (l1).toNatClampNeg) = 11 then (Zm E YX8_stepBehind d M (zargs 0 [vr (some (97, 1, 0)), vi s0, vi (gi M 109 ((((5 : Int32) * l1) + (1 : Int32))).toNatClampNeg)]) 0 [] (zma E YX8_single (d + 1) [] 303 3 [] Q)) else (if (gi M 108 (l1).toNatClampNeg) = 12 then (Zm E YX8_stepBehind d M (zargs 0 [vr (some (97, 1, 0)), vi s0, vi (gi M 109 ((((5 : Int32) * l1) + (1 : Int32))).toNatClampNeg)]) 0 [] (zma E YX8_single (d + 1) [] 303 3 [] Q)) else (if (gi M 108 (l1).toNatClampNeg) = 13 then (Zm E YX8_stepBehind d M (zargs 0 [vr (some (97, 1, 0)), vi s0, vi (gi M 109 ((((5 : Int32) * l1) + (1 : Int32))).toNatClampNeg)]) 0 [] (zma E YX8_single (d + 1) [] 303 3 [] Q)) else (if (gi M 108 (l1).toNatClampNeg) = 14 then (Zm E YX8_value d (si (si M 97 53 ((gi M 97 53) + (1 : Int32))) 97 53 (((gi M 97 53) + (1 : Int32)) + (1 : Int32))) (zargs 0 [vr (some (97, 1, 0)), vi s0]) 0 [] (zma E YX8_single (d + 1) [(0, vr (some (97, 1, 0))), (1, vi l1), (3, vi (gi M 109 ((((5 : Int32) * l1) + (1 : Int32))).toNatClampNeg)), (4, vi (((gi M 97 53) + (1 : Int32)) - (1 : Int32))), (5, vi ((((gi M 97 53) + (1 : Int32)) + (1 : Int32)) - (1 : Int32)))] 225 3 [] Q)) else (if (gi M 108 (l1).toNatClampNeg) = 15 then (vp_in (((5 : Int32) * l1) + (2 : Int32)) 60000 ∧ (Zm E YX8_give d M (zargs 0 [vr (some (97, 1, 0)), vi s0, vi (gi M 109 ((((5 : Int32) * l1) + (1 : Int32))).toNatClampNeg), vi (gi M 109 ((((5 : Int32) * l1) + (2 : Int32))).toNatClampNeg)]) 0 [] (zma E YX8_single (d + 1) [] 285 3 [] Q))) else (if (gi M 108 (l1).toNatClampNeg) = 16 then (Zm E YX8_step d M (zargs 0 [vr (some (97, 1, 0)), vi s0, vi (gi M 109 ((((5 : Int32) * l1) + (1 : Int32))).toNatClampNeg)]) 0 [] (zma E YX8_single (d + 1) [] 294 3 [] Q)) else (Zm E YX8_stepBehind d M (zargs 0 [vr (some (97, 1, 0)), vi s0, vi (gi M 109 ((((5 : Int32) * l1) + (1 : Int32))).toNatClampNeg)]) 0 [] (zma E YX8_single (d + 1) [] 303 3 [] Q))))))))))))))))))))) : Zm E YX8_single (d + 1) M [(0, vr (some (97, 1, 0))), (1, vi l1)] 14 [vi s0] Q := by
  refine sX8_single_14 (d := d) M l1 s0 ?_
  refine sX8_part_0 (d := d) M l1 (1 : Int32) ?_
  refine zand k (fun h4029 k => ?_)
  show Zm E YX8_single (d + 1) M [(0, vr (some (97, 1, 0))), (1, vi l1), (2, vi s0)] 21 [vi (gi M 109 ((((5 : Int32) * l1) + (1 : Int32))).toNatClampNeg)] Q
  refine sX8_single_21 (d := d) M l1 s0 (gi M 109 ((((5 : Int32) * l1) + (1 : Int32))).toNatClampNeg) ?_
  refine zand k (fun h4030 k => ?_)
  refine zite k (fun h4031 k => ?_) (fun h4031 k => ?_)
  · exact k
  · refine zite k (fun h4032 k => ?_) (fun h4032 k => ?_)
    · exact k
    · refine zite k (fun h4033 k => ?_) (fun h4033 k => ?_)
      · exact k
      · refine zite k (fun h4034 k => ?_) (fun h4034 k => ?_)
        · exact k
        · refine zite k (fun h4035 k => ?_) (fun h4035 k => ?_)
          · exact k
          · refine zite k (fun h4036 k => ?_) (fun h4036 k => ?_)
            · exact k
            · refine zite k (fun h4037 k => ?_) (fun h4037 k => ?_)
              · exact k
              · refine zite k (fun h4038 k => ?_) (fun h4038 k => ?_)
                · exact k
                · refine zite k (fun h4039 k => ?_) (fun h4039 k => ?_)
                  · exact k
                  · refine zite k (fun h4040 k => ?_) (fun h4040 k => ?_)
                    · exact k
                    · refine zite k (fun h4041 k => ?_) (fun h4041 k => ?_)
                      · exact k
                      · refine zite k (fun h4042 k => ?_) (fun h4042 k => ?_)
                        · exact k
                        · refine zite k (fun h4043 k => ?_) (fun h4043 k => ?_)
                          · exact k
                          · refine zite k (fun h4044 k => ?_) (fun h4044 k => ?_)
                            · exact k
                            · refine zite k (fun h4045 k => ?_) (fun h4045 k => ?_)
                              · refine sX8_mark_0 (d := d) M  ?_
                                show Zm E YX8_single (d + 1) (si M 97 53 ((gi M 97 53) + (1 : Int32))) [(0, vr (some (97, 1, 0))), (1, vi l1), (2, vi s0), (3, vi (gi M 109 ((((5 : Int32) * l1) + (1 : Int32))).toNatClampNeg))] 215 [vi (((gi M 97 53) + (1 : Int32)) - (1 : Int32))] Q
                                refine sX8_single_215 (d := d) (si M 97 53 ((gi M 97 53) + (1 : Int32))) l1 s0 (gi M 109 ((((5 : Int32) * l1) + (1 : Int32))).toNatClampNeg) (((gi M 97 53) + (1 : Int32)) - (1 : Int32)) ?_
                                refine sX8_mark_0 (d := d) (si M 97 53 ((gi M 97 53) + (1 : Int32)))  ?_
                                show Zm E YX8_single (d + 1) (si (si M 97 53 ((gi M 97 53) + (1 : Int32))) 97 53 (((gi M 97 53) + (1 : Int32)) + (1 : Int32))) [(0, vr (some (97, 1, 0))), (1, vi l1), (2, vi s0), (3, vi (gi M 109 ((((5 : Int32) * l1) + (1 : Int32))).toNatClampNeg)), (4, vi (((gi M 97 53) + (1 : Int32)) - (1 : Int32)))] 221 [vi ((((gi M 97 53) + (1 : Int32)) + (1 : Int32)) - (1 : Int32))] Q
                                refine sX8_single_221 (d := d) (si (si M 97 53 ((gi M 97 53) + (1 : Int32))) 97 53 (((gi M 97 53) + (1 : Int32)) + (1 : Int32))) l1 s0 (gi M 109 ((((5 : Int32) * l1) + (1 : Int32))).toNatClampNeg) (((gi M 97 53) + (1 : Int32)) - (1 : Int32)) ((((gi M 97 53) + (1 : Int32)) + (1 : Int32)) - (1 : Int32)) ?_
                                exact k
                              · refine zite k (fun h4046 k => ?_) (fun h4046 k => ?_)
                                · refine sX8_part_0 (d := d) M l1 (2 : Int32) ?_
                                  refine zand k (fun h4047 k => ?_)
                                  show Zm E YX8_single (d + 1) M [] 285 [vi (gi M 109 ((((5 : Int32) * l1) + (2 : Int32))).toNatClampNeg), vi (gi M 109 ((((5 : Int32) * l1) + (1 : Int32))).toNatClampNeg), vi s0, vr (some (97, 1, 0))] Q
                                  refine sX8_single_285 (d := d) M (gi M 109 ((((5 : Int32) * l1) + (2 : Int32))).toNatClampNeg) (gi M 109 ((((5 : Int32) * l1) + (1 : Int32))).toNatClampNeg) s0 ?_
                                  exact k
                                · exact k
theorem iX8_single_118 {E : zE} {d : Nat} {Q : zO → zM → Prop} (M : zM)  (k : Q (.inl none) M) : Zm E YX8_single (d + 1) M [] 118 [] Q := by
  refine sX8_single_118 (d := d) M  ?_
  refine sX8_single_306 (d := d) M  ?_
  exact k
theorem iX8_single_127 {E : zE} {d : Nat} {Q : zO → zM → Prop} (M : zM)  (k : Q (.inl none) M) : Zm E YX8_single (d + 1) M [] 127 [] Q := by
  refine sX8_single_127 (d := d) M  ?_
  refine sX8_single_306 (d := d) M  ?_
  exact k
theorem iX8_single_135 {E : zE} {d : Nat} {Q : zO → zM → Prop} (M : zM)  (k : Q (.inl none) M) : Zm E YX8_single (d + 1) M [] 135 [] Q := by
  refine sX8_single_135 (d := d) M  ?_
  refine sX8_single_306 (d := d) M  ?_
  exact k
theorem iX8_single_143 {E : zE} {d : Nat} {Q : zO → zM → Prop} (M : zM)  (k : Q (.inl none) M) : Zm E YX8_single (d + 1) M [] 143 [] Q := by
  refine sX8_single_143 (d := d) M  ?_
  refine sX8_single_306 (d := d) M  ?_
  exact k
theorem iX8_single_151 {E : zE} {d : Nat} {Q : zO → zM → Prop} (M : zM)  (k : Q (.inl none) M) : Zm E YX8_single (d + 1) M [] 151 [] Q := by
  refine sX8_single_151 (d := d) M  ?_
  refine sX8_single_306 (d := d) M  ?_
  exact k
theorem iX8_single_162 {E : zE} {d : Nat} {Q : zO → zM → Prop} (M : zM)  (k : Q (.inl none) M) : Zm E YX8_single (d + 1) M [] 162 [] Q := by
  refine sX8_single_162 (d := d) M  ?_
  refine sX8_single_306 (d := d) M  ?_
  exact k
theorem iX8_single_208 {E : zE} {d : Nat} {Q : zO → zM → Prop} (M : zM)  (k : Q (.inl none) M) : Zm E YX8_single (d + 1) M [] 208 [] Q := by
  refine sX8_single_208 (d := d) M  ?_
  refine sX8_single_306 (d := d) M  ?_
  exact k
theorem iX8_single_228 {E : zE} {d : Nat} {Q : zO → zM → Prop} (M : zM) (l1 : Int32) (l3 : Int32) (l4 : Int32) (l5 : Int32) (k : if (gi M 97 46) = (600 : Int32) then (Zm E YX8_value d (si M 97 47 (1 : Int32)) (zargs 0 [vr (some (97, 1, 0)), vi l3]) 0 [] (zma E YX8_single (d + 1) [(0, vr (some (97, 1, 0))), (1, vi l1), (4, vi l4), (5, vi l5)] 239 3 [] Q)) else (vp_in (gi M 97 46) 600 ∧ (Zm E YX8_value d (si (si (si (si (si M 123 ((gi M 97 46)).toNatClampNeg (22 : Int32)) 124 ((gi M 97 46)).toNatClampNeg l4) 125 ((gi M 97 46)).toNatClampNeg (0 : Int32)) 126 ((gi M 97 46)).toNatClampNeg (gi M 97 56)) 97 46 ((gi M 97 46) + (1 : Int32))) (zargs 0 [vr (some (97, 1, 0)), vi l3]) 0 [] (zma E YX8_single (d + 1) [(0, vr (some (97, 1, 0))), (1, vi l1), (4, vi l4), (5, vi l5)] 239 3 [] Q)))) : Zm E YX8_single (d + 1) M [(0, vr (some (97, 1, 0))), (1, vi l1), (3, vi l3), (4, vi l4), (5, vi l5)] 228 [] Q := by
  refine sX8_single_228 (d := d) M l1 l3 l4 l5 ?_
  refine jX8_emit (d := d) M (22 : Int32) l4 (0 : Int32) ?_
  refine zite k (fun h4051 k => ?_) (fun h4051 k => ?_)
  · show Zm E YX8_single (d + 1) (si M 97 47 (1 : Int32)) [(0, vr (some (97, 1, 0))), (1, vi l1), (3, vi l3), (4, vi l4), (5, vi l5)] 237 [] Q
    refine sX8_single_237 (d := d) (si M 97 47 (1 : Int32)) l1 l3 l4 l5 ?_
    exact k
  · refine zand k (fun h4052 k => ?_)
    show Zm E YX8_single (d + 1) (si (si (si (si (si M 123 ((gi M 97 46)).toNatClampNeg (22 : Int32)) 124 ((gi M 97 46)).toNatClampNeg l4) 125 ((gi M 97 46)).toNatClampNeg (0 : Int32)) 126 ((gi M 97 46)).toNatClampNeg (gi M 97 56)) 97 46 ((gi M 97 46) + (1 : Int32))) [(0, vr (some (97, 1, 0))), (1, vi l1), (3, vi l3), (4, vi l4), (5, vi l5)] 237 [] Q
    refine sX8_single_237 (d := d) (si (si (si (si (si M 123 ((gi M 97 46)).toNatClampNeg (22 : Int32)) 124 ((gi M 97 46)).toNatClampNeg l4) 125 ((gi M 97 46)).toNatClampNeg (0 : Int32)) 126 ((gi M 97 46)).toNatClampNeg (gi M 97 56)) 97 46 ((gi M 97 46) + (1 : Int32))) l1 l3 l4 l5 ?_
    exact k
theorem iX8_single_288 {E : zE} {d : Nat} {Q : zO → zM → Prop} (M : zM)  (k : Q (.inl none) M) : Zm E YX8_single (d + 1) M [] 288 [] Q := by
  refine sX8_single_288 (d := d) M  ?_
  refine sX8_single_306 (d := d) M  ?_
  exact k
theorem iX8_single_297 {E : zE} {d : Nat} {Q : zO → zM → Prop} (M : zM)  (k : Q (.inl none) M) : Zm E YX8_single (d + 1) M [] 297 [] Q := by
  refine sX8_single_297 (d := d) M  ?_
  refine sX8_single_306 (d := d) M  ?_
  exact k
theorem iX8_single_175 {E : zE} {d : Nat} {Q : zO → zM → Prop} (M : zM) (s0 : Int32) (k : if (gi M 97 46) = (600 : Int32) then (Q (.inl none) (si (si M 97 47 (1 : Int32)) 97 55 ((gi M 97 55) + (1 : Int32)))) else (vp_in (gi M 97 46) 600 ∧ (Q (.inl none) (si (si (si (si (si (si M 123 ((gi M 97 46)).toNatClampNeg (16 : Int32)) 124 ((gi M 97 46)).toNatClampNeg s0) 125 ((gi M 97 46)).toNatClampNeg (gi M 97 55)) 126 ((gi M 97 46)).toNatClampNeg (gi M 97 56)) 97 46 ((gi M 97 46) + (1 : Int32))) 97 55 ((gi M 97 55) + (1 : Int32)))))) : Zm E YX8_single (d + 1) M [(0, vr (some (97, 1, 0)))] 175 [vi s0] Q := by
  refine sX8_single_175 (d := d) M s0 ?_
  refine jX8_emit (d := d) M (16 : Int32) s0 (gi M 97 55) ?_
  refine zite k (fun h4053 k => ?_) (fun h4053 k => ?_)
  · show Zm E YX8_single (d + 1) (si M 97 47 (1 : Int32)) [(0, vr (some (97, 1, 0)))] 189 [] Q
    refine sX8_single_189 (d := d) (si M 97 47 (1 : Int32))  ?_
    refine sX8_single_306 (d := d) (si (si M 97 47 (1 : Int32)) 97 55 ((gi M 97 55) + (1 : Int32)))  ?_
    exact k
  · refine zand k (fun h4054 k => ?_)
    show Zm E YX8_single (d + 1) (si (si (si (si (si M 123 ((gi M 97 46)).toNatClampNeg (16 : Int32)) 124 ((gi M 97 46)).toNatClampNeg s0) 125 ((gi M 97 46)).toNatClampNeg (gi M 97 55)) 126 ((gi M 97 46)).toNatClampNeg (gi M 97 56)) 97 46 ((gi M 97 46) + (1 : Int32))) [(0, vr (some (97, 1, 0)))] 189 [] Q
    refine sX8_single_189 (d := d) (si (si (si (si (si M 123 ((gi M 97 46)).toNatClampNeg (16 : Int32)) 124 ((gi M 97 46)).toNatClampNeg s0) 125 ((gi M 97 46)).toNatClampNeg (gi M 97 55)) 126 ((gi M 97 46)).toNatClampNeg (gi M 97 56)) 97 46 ((gi M 97 46) + (1 : Int32)))  ?_
    refine sX8_single_306 (d := d) (si (si (si (si (si (si M 123 ((gi M 97 46)).toNatClampNeg (16 : Int32)) 124 ((gi M 97 46)).toNatClampNeg s0) 125 ((gi M 97 46)).toNatClampNeg (gi M 97 55)) 126 ((gi M 97 46)).toNatClampNeg (gi M 97 56)) 97 46 ((gi M 97 46) + (1 : Int32))) 97 55 ((gi M 97 55) + (1 : Int32)))  ?_
    exact k
theorem iX8_single_242 {E : zE} {d : Nat} {Q : zO → zM → Prop} (M : zM) (l1 : Int32) (l4 : Int32) (l5 : Int32) (k : if (gi M 97 46) = (600 : Int32) then (vp_in l4 8000 ∧ (vp_in (((5 : Int32) * l1) + (2 : Int32)) 60000 ∧ (Zm E YX8_value d (si (si M 97 47 (1 : Int32)) 128 (l4).toNatClampNeg (gi M 97 46)) (zargs 0 [vr (some (97, 1, 0)), vi (gi M 109 ((((5 : Int32) * l1) + (2 : Int32))).toNatClampNeg)]) 0 [] (zma E YX8_single (d + 1) [(0, vr (some (97, 1, 0))), (5, vi l5)] 264 3 [] Q)))) else (vp_in (gi M 97 46) 600 ∧ (vp_in l4 8000 ∧ (vp_in (((5 : Int32) * l1) + (2 : Int32)) 60000 ∧ (Zm E YX8_value d (si (si (si (si (si (si M 123 ((gi M 97 46)).toNatClampNeg (21 : Int32)) 124 ((gi M 97 46)).toNatClampNeg l5) 125 ((gi M 97 46)).toNatClampNeg (0 : Int32)) 126 ((gi M 97 46)).toNatClampNeg (gi M 97 56)) 97 46 ((gi M 97 46) + (1 : Int32))) 128 (l4).toNatClampNeg ((gi M 97 46) + (1 : Int32))) (zargs 0 [vr (some (97, 1, 0)), vi (gi M 109 ((((5 : Int32) * l1) + (2 : Int32))).toNatClampNeg)]) 0 [] (zma E YX8_single (d + 1) [(0, vr (some (97, 1, 0))), (5, vi l5)] 264 3 [] Q)))))) : Zm E YX8_single (d + 1) M [(0, vr (some (97, 1, 0))), (1, vi l1), (4, vi l4), (5, vi l5)] 242 [] Q := by
  refine sX8_single_242 (d := d) M l1 l4 l5 ?_
  refine jX8_emit (d := d) M (21 : Int32) l5 (0 : Int32) ?_
  refine zite k (fun h4055 k => ?_) (fun h4055 k => ?_)
  · show Zm E YX8_single (d + 1) (si M 97 47 (1 : Int32)) [(0, vr (some (97, 1, 0))), (1, vi l1), (4, vi l4), (5, vi l5)] 251 [] Q
    refine sX8_single_251 (d := d) (si M 97 47 (1 : Int32)) l1 l4 l5 ?_
    refine sX8_here_0 (d := d) (si M 97 47 (1 : Int32)) l4 ?_
    refine zand k (fun h4056 k => ?_)
    show Zm E YX8_single (d + 1) (si (si M 97 47 (1 : Int32)) 128 (l4).toNatClampNeg (gi M 97 46)) [(0, vr (some (97, 1, 0))), (1, vi l1), (5, vi l5)] 257 [] Q
    refine sX8_single_257 (d := d) (si (si M 97 47 (1 : Int32)) 128 (l4).toNatClampNeg (gi M 97 46)) l1 l5 ?_
    refine sX8_part_0 (d := d) (si (si M 97 47 (1 : Int32)) 128 (l4).toNatClampNeg (gi M 97 46)) l1 (2 : Int32) ?_
    refine zand k (fun h4057 k => ?_)
    show Zm E YX8_single (d + 1) (si (si M 97 47 (1 : Int32)) 128 (l4).toNatClampNeg (gi M 97 46)) [(0, vr (some (97, 1, 0))), (5, vi l5)] 264 [vi (gi M 109 ((((5 : Int32) * l1) + (2 : Int32))).toNatClampNeg), vr (some (97, 1, 0))] Q
    refine sX8_single_264 (d := d) (si (si M 97 47 (1 : Int32)) 128 (l4).toNatClampNeg (gi M 97 46)) l5 (gi M 109 ((((5 : Int32) * l1) + (2 : Int32))).toNatClampNeg) ?_
    exact k
  · refine zand k (fun h4058 k => ?_)
    show Zm E YX8_single (d + 1) (si (si (si (si (si M 123 ((gi M 97 46)).toNatClampNeg (21 : Int32)) 124 ((gi M 97 46)).toNatClampNeg l5) 125 ((gi M 97 46)).toNatClampNeg (0 : Int32)) 126 ((gi M 97 46)).toNatClampNeg (gi M 97 56)) 97 46 ((gi M 97 46) + (1 : Int32))) [(0, vr (some (97, 1, 0))), (1, vi l1), (4, vi l4), (5, vi l5)] 251 [] Q
    refine sX8_single_251 (d := d) (si (si (si (si (si M 123 ((gi M 97 46)).toNatClampNeg (21 : Int32)) 124 ((gi M 97 46)).toNatClampNeg l5) 125 ((gi M 97 46)).toNatClampNeg (0 : Int32)) 126 ((gi M 97 46)).toNatClampNeg (gi M 97 56)) 97 46 ((gi M 97 46) + (1 : Int32))) l1 l4 l5 ?_
    refine sX8_here_0 (d := d) (si (si (si (si (si M 123 ((gi M 97 46)).toNatClampNeg (21 : Int32)) 124 ((gi M 97 46)).toNatClampNeg l5) 125 ((gi M 97 46)).toNatClampNeg (0 : Int32)) 126 ((gi M 97 46)).toNatClampNeg (gi M 97 56)) 97 46 ((gi M 97 46) + (1 : Int32))) l4 ?_
    refine zand k (fun h4059 k => ?_)
    show Zm E YX8_single (d + 1) (si (si (si (si (si (si M 123 ((gi M 97 46)).toNatClampNeg (21 : Int32)) 124 ((gi M 97 46)).toNatClampNeg l5) 125 ((gi M 97 46)).toNatClampNeg (0 : Int32)) 126 ((gi M 97 46)).toNatClampNeg (gi M 97 56)) 97 46 ((gi M 97 46) + (1 : Int32))) 128 (l4).toNatClampNeg ((gi M 97 46) + (1 : Int32))) [(0, vr (some (97, 1, 0))), (1, vi l1), (5, vi l5)] 257 [] Q
    refine sX8_single_257 (d := d) (si (si (si (si (si (si M 123 ((gi M 97 46)).toNatClampNeg (21 : Int32)) 124 ((gi M 97 46)).toNatClampNeg l5) 125 ((gi M 97 46)).toNatClampNeg (0 : Int32)) 126 ((gi M 97 46)).toNatClampNeg (gi M 97 56)) 97 46 ((gi M 97 46) + (1 : Int32))) 128 (l4).toNatClampNeg ((gi M 97 46) + (1 : Int32))) l1 l5 ?_
    refine sX8_part_0 (d := d) (si (si (si (si (si (si M 123 ((gi M 97 46)).toNatClampNeg (21 : Int32)) 124 ((gi M 97 46)).toNatClampNeg l5) 125 ((gi M 97 46)).toNatClampNeg (0 : Int32)) 126 ((gi M 97 46)).toNatClampNeg (gi M 97 56)) 97 46 ((gi M 97 46) + (1 : Int32))) 128 (l4).toNatClampNeg ((gi M 97 46) + (1 : Int32))) l1 (2 : Int32) ?_
    refine zand k (fun h4060 k => ?_)
    show Zm E YX8_single (d + 1) (si (si (si (si (si (si M 123 ((gi M 97 46)).toNatClampNeg (21 : Int32)) 124 ((gi M 97 46)).toNatClampNeg l5) 125 ((gi M 97 46)).toNatClampNeg (0 : Int32)) 126 ((gi M 97 46)).toNatClampNeg (gi M 97 56)) 97 46 ((gi M 97 46) + (1 : Int32))) 128 (l4).toNatClampNeg ((gi M 97 46) + (1 : Int32))) [(0, vr (some (97, 1, 0))), (5, vi l5)] 264 [vi (gi M 109 ((((5 : Int32) * l1) + (2 : Int32))).toNatClampNeg), vr (some (97, 1, 0))] Q
    refine sX8_single_264 (d := d) (si (si (si (si (si (si M 123 ((gi M 97 46)).toNatClampNeg (21 : Int32)) 124 ((gi M 97 46)).toNatClampNeg l5) 125 ((gi M 97 46)).toNatClampNeg (0 : Int32)) 126 ((gi M 97 46)).toNatClampNeg (gi M 97 56)) 97 46 ((gi M 97 46) + (1 : Int32))) 128 (l4).toNatClampNeg ((gi M 97 46) + (1 : Int32))) l5 (gi M 109 ((((5 : Int32) * l1) + (2 : Int32))).toNatClampNeg) ?_
    exact k
theorem iX8_single_267 {E : zE} {d : Nat} {Q : zO → zM → Prop} (M : zM) (l5 : Int32) (k : vp_in l5 8000 ∧ (Q (.inl none) (si M 128 (l5).toNatClampNeg (gi M 97 46)))) : Zm E YX8_single (d + 1) M [(0, vr (some (97, 1, 0))), (5, vi l5)] 267 [] Q := by
  refine sX8_single_267 (d := d) M l5 ?_
  refine sX8_here_0 (d := d) M l5 ?_
  refine zand k (fun h4061 k => ?_)
  show Zm E YX8_single (d + 1) (si M 128 (l5).toNatClampNeg (gi M 97 46)) [] 273 [] Q
  refine sX8_single_273 (d := d) (si M 128 (l5).toNatClampNeg (gi M 97 46))  ?_
  refine sX8_single_306 (d := d) (si M 128 (l5).toNatClampNeg (gi M 97 46))  ?_
  exact k
theorem iX8_step_0 {E : zE} {d : Nat} {Q : zO → zM → Prop} (M : zM) (l1 : Int32) (l2 : Int32) (k : vp_in l2 12000 ∧ (if (gi M 108 (l2).toNatClampNeg) = (2 : Int32) then (vp_in (((5 : Int32) * l2) + (0 : Int32)) 60000 ∧ (Zm E YX8_get d M (zargs 0 [vr (some (97, 1, 0)), vi (gi M 109 ((((5 : Int32) * l2) + (0 : Int32))).toNatClampNeg)]) 0 [] (zma E YX8_step (d + 1) [(0, vr (some (97, 1, 0))), (1, vi l1), (2, vi l2)] 17 3 [] Q))) else (vp_in (((5 : Int32) * l2) + (0 : Int32)) 60000 ∧ (Zm E YX8_value d M (zargs 0 [vr (some (97, 1, 0)), vi (gi M 109 ((((5 : Int32) * l2) + (0 : Int32))).toNatClampNeg)]) 0 [] (zma E YX8_step (d + 1) [(0, vr (some (97, 1, 0))), (1, vi l1), (2, vi l2)] 30 3 [] Q))))) : Zm E YX8_step (d + 1) M [(0, vr (some (97, 1, 0))), (1, vi l1), (2, vi l2)] 0 [] Q := by
  refine sX8_step_0 (d := d) M l1 l2 ?_
  refine zand k (fun h4062 k => ?_)
  refine zite k (fun h4063 k => ?_) (fun h4063 k => ?_)
  · refine sX8_part_0 (d := d) M l2 (0 : Int32) ?_
    refine zand k (fun h4064 k => ?_)
    show Zm E YX8_step (d + 1) M [(0, vr (some (97, 1, 0))), (1, vi l1), (2, vi l2)] 17 [vi (gi M 109 ((((5 : Int32) * l2) + (0 : Int32))).toNatClampNeg), vr (some (97, 1, 0))] Q
    refine sX8_step_17 (d := d) M l1 l2 (gi M 109 ((((5 : Int32) * l2) + (0 : Int32))).toNatClampNeg) ?_
    exact k
  · refine sX8_part_0 (d := d) M l2 (0 : Int32) ?_
    refine zand k (fun h4065 k => ?_)
    show Zm E YX8_step (d + 1) M [(0, vr (some (97, 1, 0))), (1, vi l1), (2, vi l2)] 30 [vi (gi M 109 ((((5 : Int32) * l2) + (0 : Int32))).toNatClampNeg), vr (some (97, 1, 0))] Q
    refine sX8_step_30 (d := d) M l1 l2 (gi M 109 ((((5 : Int32) * l2) + (0 : Int32))).toNatClampNeg) ?_
    exact k
theorem iX8_step_20 {E : zE} {d : Nat} {Q : zO → zM → Prop} (M : zM) (l1 : Int32) (l2 : Int32) (k : Zm E YX8_emit d M (zargs 0 [vr (some (97, 1, 0)), vi (13 : Int32), vi (0 : Int32), vi (0 : Int32)]) 0 [] (zma E YX8_step (d + 1) [(0, vr (some (97, 1, 0))), (1, vi l1), (2, vi l2)] 60 3 [] Q)) : Zm E YX8_step (d + 1) M [(0, vr (some (97, 1, 0))), (1, vi l1), (2, vi l2)] 20 [] Q := by
  refine sX8_step_20 (d := d) M l1 l2 ?_
  refine sX8_step_55 (d := d) M l1 l2 ?_
  exact k
theorem iX8_step_33 {E : zE} {d : Nat} {Q : zO → zM → Prop} (M : zM) (l1 : Int32) (l2 : Int32) (k : vp_in (((5 : Int32) * l2) + (1 : Int32)) 60000 ∧ (Zm E YX8_value d M (zargs 0 [vr (some (97, 1, 0)), vi (gi M 109 ((((5 : Int32) * l2) + (1 : Int32))).toNatClampNeg)]) 0 [] (zma E YX8_step (d + 1) [(0, vr (some (97, 1, 0))), (1, vi l1), (2, vi l2)] 40 3 [] Q))) : Zm E YX8_step (d + 1) M [(0, vr (some (97, 1, 0))), (1, vi l1), (2, vi l2)] 33 [] Q := by
  refine sX8_step_33 (d := d) M l1 l2 ?_
  refine sX8_part_0 (d := d) M l2 (1 : Int32) ?_
  refine zand k (fun h4098 k => ?_)
  show Zm E YX8_step (d + 1) M [(0, vr (some (97, 1, 0))), (1, vi l1), (2, vi l2)] 40 [vi (gi M 109 ((((5 : Int32) * l2) + (1 : Int32))).toNatClampNeg), vr (some (97, 1, 0))] Q
  refine sX8_step_40 (d := d) M l1 l2 (gi M 109 ((((5 : Int32) * l2) + (1 : Int32))).toNatClampNeg) ?_
  exact k
theorem iX8_step_69 {E : zE} {d : Nat} {Q : zO → zM → Prop} (M : zM) (l1 : Int32) (l2 : Int32) (k : if (gi M 97 46) = (600 : Int32) then (vp_in l2 12000 ∧ (if (gi M 108 (l2).toNatClampNeg) = (2 : Int32) then (vp_in (((5 : Int32) * l2) + (0 : Int32)) 60000 ∧ (Zm E YX8_set (d + 1) (si M 97 47 (1 : Int32)) (zargs 0 [vr (some (97, 1, 0)), vi (gi M 109 ((((5 : Int32) * l2) + (0 : Int32))).toNatClampNeg)]) 0 [] (zma E YX8_step ((d + 1) + 1) [] 94 3 [] Q))) else (Q (.inl none) (si (si M 97 47 (1 : Int32)) 97 47 (1 : Int32))))) else (vp_in (gi M 97 46) 600 ∧ (vp_in l2 12000 ∧ (if (gi M 108 (l2).toNatClampNeg) = (2 : Int32) then (vp_in (((5 : Int32) * l2) + (0 : Int32)) 60000 ∧ (Zm E YX8_set (d + 1) (si (si (si (si (si M 123 ((gi M 97 46)).toNatClampNeg (14 : Int32)) 124 ((gi M 97 46)).toNatClampNeg l1) 125 ((gi M 97 46)).toNatClampNeg (0 : Int32)) 126 ((gi M 97 46)).toNatClampNeg (gi M 97 56)) 97 46 ((gi M 97 46) + (1 : Int32))) (zargs 0 [vr (some (97, 1, 0)), vi (gi M 109 ((((5 : Int32) * l2) + (0 : Int32))).toNatClampNeg)]) 0 [] (zma E YX8_step ((d + 1) + 1) [] 94 3 [] Q))) else (if ((gi M 97 46) + (1 : Int32)) = (600 : Int32) then (Q (.inl none) (si (si (si (si (si (si M 123 ((gi M 97 46)).toNatClampNeg (14 : Int32)) 124 ((gi M 97 46)).toNatClampNeg l1) 125 ((gi M 97 46)).toNatClampNeg (0 : Int32)) 126 ((gi M 97 46)).toNatClampNeg (gi M 97 56)) 97 46 ((gi M 97 46) + (1 : Int32))) 97 47 (1 : Int32))) else (vp_in ((gi M 97 46) + (1 : Int32)) 600 ∧ (Q (.inl none) (si (si (si (si (si (si (si (si (si (si M 123 ((gi M 97 46)).toNatClampNeg (14 : Int32)) 124 ((gi M 97 46)).toNatClampNeg l1) 125 ((gi M 97 46)).toNatClampNeg (0 : Int32)) 126 ((gi M 97 46)).toNatClampNeg (gi M 97 56)) 97 46 ((gi M 97 46) + (1 : Int32))) 123 (((gi M 97 46) + (1 : Int32))).toNatClampNeg (11 : Int32)) 124 (((gi M 97 46) + (1 : Int32))).toNatClampNeg (0 : Int32)) 125 (((gi M 97 46) + (1 : Int32))).toNatClampNeg (0 : Int32)) 126 (((gi M 97 46) + (1 : Int32))).toNatClampNeg (gi M 97 56)) 97 46 (((gi M 97 46) + (1 : Int32)) + (1 : Int32)))))))))) : Zm E YX8_step (d + 2) M [(0, vr (some (97, 1, 0))), (1, vi l1), (2, vi l2)] 69 [] Q := by
  refine sX8_step_69 (d := (d + 1)) M l1 l2 ?_
  refine jX8_emit (d := (d + 1)) M (14 : Int32) l1 (0 : Int32) ?_
  refine zite k (fun h4163 k => ?_) (fun h4163 k => ?_)
  · show Zm E YX8_step ((d + 1) + 1) (si M 97 47 (1 : Int32)) [(0, vr (some (97, 1, 0))), (2, vi l2)] 77 [] Q
    refine sX8_step_77 (d := (d + 1)) (si M 97 47 (1 : Int32)) l2 ?_
    refine zand k (fun h4164 k => ?_)
    refine zite k (fun h4165 k => ?_) (fun h4165 k => ?_)
    · refine sX8_part_0 (d := (d + 1)) (si M 97 47 (1 : Int32)) l2 (0 : Int32) ?_
      refine zand k (fun h4166 k => ?_)
      show Zm E YX8_step ((d + 1) + 1) (si M 97 47 (1 : Int32)) [] 94 [vi (gi M 109 ((((5 : Int32) * l2) + (0 : Int32))).toNatClampNeg), vr (some (97, 1, 0))] Q
      refine sX8_step_94 (d := (d + 1)) (si M 97 47 (1 : Int32)) (gi M 109 ((((5 : Int32) * l2) + (0 : Int32))).toNatClampNeg) ?_
      exact k
    · refine jX8_emit_2 (d := d) (si M 97 47 (1 : Int32)) (11 : Int32) ?_
      refine zpos h4163 ?_
      show Zm E YX8_step ((d + 1) + 1) (si (si M 97 47 (1 : Int32)) 97 47 (1 : Int32)) [] 106 [] Q
      refine sX8_step_106 (d := (d + 1)) (si (si M 97 47 (1 : Int32)) 97 47 (1 : Int32))  ?_
      exact k
  · refine zand k (fun h4167 k => ?_)
    show Zm E YX8_step ((d + 1) + 1) (si (si (si (si (si M 123 ((gi M 97 46)).toNatClampNeg (14 : Int32)) 124 ((gi M 97 46)).toNatClampNeg l1) 125 ((gi M 97 46)).toNatClampNeg (0 : Int32)) 126 ((gi M 97 46)).toNatClampNeg (gi M 97 56)) 97 46 ((gi M 97 46) + (1 : Int32))) [(0, vr (some (97, 1, 0))), (2, vi l2)] 77 [] Q
    refine sX8_step_77 (d := (d + 1)) (si (si (si (si (si M 123 ((gi M 97 46)).toNatClampNeg (14 : Int32)) 124 ((gi M 97 46)).toNatClampNeg l1) 125 ((gi M 97 46)).toNatClampNeg (0 : Int32)) 126 ((gi M 97 46)).toNatClampNeg (gi M 97 56)) 97 46 ((gi M 97 46) + (1 : Int32))) l2 ?_
    refine zand k (fun h4168 k => ?_)
    refine zite k (fun h4169 k => ?_) (fun h4169 k => ?_)
    · refine sX8_part_0 (d := (d + 1)) (si (si (si (si (si M 123 ((gi M 97 46)).toNatClampNeg (14 : Int32)) 124 ((gi M 97 46)).toNatClampNeg l1) 125 ((gi M 97 46)).toNatClampNeg (0 : Int32)) 126 ((gi M 97 46)).toNatClampNeg (gi M 97 56)) 97 46 ((gi M 97 46) + (1 : Int32))) l2 (0 : Int32) ?_
      refine zand k (fun h4170 k => ?_)
      show Zm E YX8_step ((d + 1) + 1) (si (si (si (si (si M 123 ((gi M 97 46)).toNatClampNeg (14 : Int32)) 124 ((gi M 97 46)).toNatClampNeg l1) 125 ((gi M 97 46)).toNatClampNeg (0 : Int32)) 126 ((gi M 97 46)).toNatClampNeg (gi M 97 56)) 97 46 ((gi M 97 46) + (1 : Int32))) [] 94 [vi (gi M 109 ((((5 : Int32) * l2) + (0 : Int32))).toNatClampNeg), vr (some (97, 1, 0))] Q
      refine sX8_step_94 (d := (d + 1)) (si (si (si (si (si M 123 ((gi M 97 46)).toNatClampNeg (14 : Int32)) 124 ((gi M 97 46)).toNatClampNeg l1) 125 ((gi M 97 46)).toNatClampNeg (0 : Int32)) 126 ((gi M 97 46)).toNatClampNeg (gi M 97 56)) 97 46 ((gi M 97 46) + (1 : Int32))) (gi M 109 ((((5 : Int32) * l2) + (0 : Int32))).toNatClampNeg) ?_
      exact k
    · refine jX8_emit_2 (d := d) (si (si (si (si (si M 123 ((gi M 97 46)).toNatClampNeg (14 : Int32)) 124 ((gi M 97 46)).toNatClampNeg l1) 125 ((gi M 97 46)).toNatClampNeg (0 : Int32)) 126 ((gi M 97 46)).toNatClampNeg (gi M 97 56)) 97 46 ((gi M 97 46) + (1 : Int32))) (11 : Int32) ?_
      refine zite k (fun h4171 k => ?_) (fun h4171 k => ?_)
      · show Zm E YX8_step ((d + 1) + 1) (si (si (si (si (si (si M 123 ((gi M 97 46)).toNatClampNeg (14 : Int32)) 124 ((gi M 97 46)).toNatClampNeg l1) 125 ((gi M 97 46)).toNatClampNeg (0 : Int32)) 126 ((gi M 97 46)).toNatClampNeg (gi M 97 56)) 97 46 ((gi M 97 46) + (1 : Int32))) 97 47 (1 : Int32)) [] 106 [] Q
        refine sX8_step_106 (d := (d + 1)) (si (si (si (si (si (si M 123 ((gi M 97 46)).toNatClampNeg (14 : Int32)) 124 ((gi M 97 46)).toNatClampNeg l1) 125 ((gi M 97 46)).toNatClampNeg (0 : Int32)) 126 ((gi M 97 46)).toNatClampNeg (gi M 97 56)) 97 46 ((gi M 97 46) + (1 : Int32))) 97 47 (1 : Int32))  ?_
        exact k
      · refine zand k (fun h4172 k => ?_)
        show Zm E YX8_step ((d + 1) + 1) (si (si (si (si (si (si (si (si (si (si M 123 ((gi M 97 46)).toNatClampNeg (14 : Int32)) 124 ((gi M 97 46)).toNatClampNeg l1) 125 ((gi M 97 46)).toNatClampNeg (0 : Int32)) 126 ((gi M 97 46)).toNatClampNeg (gi M 97 56)) 97 46 ((gi M 97 46) + (1 : Int32))) 123 (((gi M 97 46) + (1 : Int32))).toNatClampNeg (11 : Int32)) 124 (((gi M 97 46) + (1 : Int32))).toNatClampNeg (0 : Int32)) 125 (((gi M 97 46) + (1 : Int32))).toNatClampNeg (0 : Int32)) 126 (((gi M 97 46) + (1 : Int32))).toNatClampNeg (gi M 97 56)) 97 46 (((gi M 97 46) + (1 : Int32)) + (1 : Int32))) [] 106 [] Q
        refine sX8_step_106 (d := (d + 1)) (si (si (si (si (si (si (si (si (si (si M 123 ((gi M 97 46)).toNatClampNeg (14 : Int32)) 124 ((gi M 97 46)).toNatClampNeg l1) 125 ((gi M 97 46)).toNatClampNeg (0 : Int32)) 126 ((gi M 97 46)).toNatClampNeg (gi M 97 56)) 97 46 ((gi M 97 46) + (1 : Int32))) 123 (((gi M 97 46) + (1 : Int32))).toNatClampNeg (11 : Int32)) 124 (((gi M 97 46) + (1 : Int32))).toNatClampNeg (0 : Int32)) 125 (((gi M 97 46) + (1 : Int32))).toNatClampNeg (0 : Int32)) 126 (((gi M 97 46) + (1 : Int32))).toNatClampNeg (gi M 97 56)) 97 46 (((gi M 97 46) + (1 : Int32)) + (1 : Int32)))  ?_
        exact k
theorem iX8_step_97 {E : zE} {d : Nat} {Q : zO → zM → Prop} (M : zM)  (k : Q (.inl none) M) : Zm E YX8_step (d + 1) M [] 97 [] Q := by
  refine sX8_step_97 (d := d) M  ?_
  refine sX8_step_106 (d := d) M  ?_
  exact k
theorem iX8_stepBehind_0 {E : zE} {d : Nat} {Q : zO → zM → Prop} (M : zM) (l1 : Int32) (l2 : Int32) (k : vp_in l2 12000 ∧ (if (gi M 108 (l2).toNatClampNeg) = (2 : Int32) then (vp_in (((5 : Int32) * l2) + (0 : Int32)) 60000 ∧ (Zm E YX8_get d M (zargs 0 [vr (some (97, 1, 0)), vi (gi M 109 ((((5 : Int32) * l2) + (0 : Int32))).toNatClampNeg)]) 0 [] (zma E YX8_stepBehind (d + 1) [(0, vr (some (97, 1, 0))), (1, vi l1), (2, vi l2)] 17 3 [] Q))) else (vp_in (((5 : Int32) * l2) + (0 : Int32)) 60000 ∧ (Zm E YX8_value d M (zargs 0 [vr (some (97, 1, 0)), vi (gi M 109 ((((5 : Int32) * l2) + (0 : Int32))).toNatClampNeg)]) 0 [] (zma E YX8_stepBehind (d + 1) [(0, vr (some (97, 1, 0))), (1, vi l1), (2, vi l2)] 44 3 [] Q))))) : Zm E YX8_stepBehind (d + 1) M [(0, vr (some (97, 1, 0))), (1, vi l1), (2, vi l2)] 0 [] Q := by
  refine sX8_stepBehind_0 (d := d) M l1 l2 ?_
  refine zand k (fun h4235 k => ?_)
  refine zite k (fun h4236 k => ?_) (fun h4236 k => ?_)
  · refine sX8_part_0 (d := d) M l2 (0 : Int32) ?_
    refine zand k (fun h4237 k => ?_)
    show Zm E YX8_stepBehind (d + 1) M [(0, vr (some (97, 1, 0))), (1, vi l1), (2, vi l2)] 17 [vi (gi M 109 ((((5 : Int32) * l2) + (0 : Int32))).toNatClampNeg), vr (some (97, 1, 0))] Q
    refine sX8_stepBehind_17 (d := d) M l1 l2 (gi M 109 ((((5 : Int32) * l2) + (0 : Int32))).toNatClampNeg) ?_
    exact k
  · refine sX8_part_0 (d := d) M l2 (0 : Int32) ?_
    refine zand k (fun h4238 k => ?_)
    show Zm E YX8_stepBehind (d + 1) M [(0, vr (some (97, 1, 0))), (1, vi l1), (2, vi l2)] 44 [vi (gi M 109 ((((5 : Int32) * l2) + (0 : Int32))).toNatClampNeg), vr (some (97, 1, 0))] Q
    refine sX8_stepBehind_44 (d := d) M l1 l2 (gi M 109 ((((5 : Int32) * l2) + (0 : Int32))).toNatClampNeg) ?_
    exact k
theorem iX8_stepBehind_47 {E : zE} {d : Nat} {Q : zO → zM → Prop} (M : zM) (l1 : Int32) (l2 : Int32) (k : vp_in (((5 : Int32) * l2) + (1 : Int32)) 60000 ∧ (Zm E YX8_value d M (zargs 0 [vr (some (97, 1, 0)), vi (gi M 109 ((((5 : Int32) * l2) + (1 : Int32))).toNatClampNeg)]) 0 [] (zma E YX8_stepBehind (d + 1) [(0, vr (some (97, 1, 0))), (1, vi l1), (2, vi l2)] 54 3 [] Q))) : Zm E YX8_stepBehind (d + 1) M [(0, vr (some (97, 1, 0))), (1, vi l1), (2, vi l2)] 47 [] Q := by
  refine sX8_stepBehind_47 (d := d) M l1 l2 ?_
  refine sX8_part_0 (d := d) M l2 (1 : Int32) ?_
  refine zand k (fun h4271 k => ?_)
  show Zm E YX8_stepBehind (d + 1) M [(0, vr (some (97, 1, 0))), (1, vi l1), (2, vi l2)] 54 [vi (gi M 109 ((((5 : Int32) * l2) + (1 : Int32))).toNatClampNeg), vr (some (97, 1, 0))] Q
  refine sX8_stepBehind_54 (d := d) M l1 l2 (gi M 109 ((((5 : Int32) * l2) + (1 : Int32))).toNatClampNeg) ?_
  exact k
theorem iX8_stepBehind_34 {E : zE} {d : Nat} {Q : zO → zM → Prop} (M : zM) (l1 : Int32) (l2 : Int32) (k : Zm E YX8_constant d M (zargs 0 [vr (some (97, 1, 0)), vi (5 : Int32), vi (1 : Int32)]) 0 [] (zma E YX8_stepBehind (d + 1) [(0, vr (some (97, 1, 0))), (1, vi l1), (2, vi l2)] 86 3 [] Q)) : Zm E YX8_stepBehind (d + 1) M [(0, vr (some (97, 1, 0))), (1, vi l1), (2, vi l2)] 34 [] Q := by
  refine sX8_stepBehind_34 (d := d) M l1 l2 ?_
  refine sX8_stepBehind_83 (d := d) M l1 l2 ?_
  exact k
theorem iX8_stepBehind_97 {E : zE} {d : Nat} {Q : zO → zM → Prop} (M : zM) (l2 : Int32) (k : vp_in l2 12000 ∧ (if (gi M 108 (l2).toNatClampNeg) = (2 : Int32) then (vp_in (((5 : Int32) * l2) + (0 : Int32)) 60000 ∧ (Zm E YX8_set (d + 1) M (zargs 0 [vr (some (97, 1, 0)), vi (gi M 109 ((((5 : Int32) * l2) + (0 : Int32))).toNatClampNeg)]) 0 [] (zma E YX8_stepBehind ((d + 1) + 1) [(0, vr (some (97, 1, 0)))] 114 3 [] Q))) else (if (gi M 97 46) = (600 : Int32) then (Q (.inl none) (si (si M 97 47 (1 : Int32)) 97 47 (1 : Int32))) else (vp_in (gi M 97 46) 600 ∧ (if ((gi M 97 46) + (1 : Int32)) = (600 : Int32) then (Q (.inl none) (si (si (si (si (si (si M 123 ((gi M 97 46)).toNatClampNeg (11 : Int32)) 124 ((gi M 97 46)).toNatClampNeg (0 : Int32)) 125 ((gi M 97 46)).toNatClampNeg (0 : Int32)) 126 ((gi M 97 46)).toNatClampNeg (gi M 97 56)) 97 46 ((gi M 97 46) + (1 : Int32))) 97 47 (1 : Int32))) else (vp_in ((gi M 97 46) + (1 : Int32)) 600 ∧ (Q (.inl none) (si (si (si (si (si (si (si (si (si (si M 123 ((gi M 97 46)).toNatClampNeg (11 : Int32)) 124 ((gi M 97 46)).toNatClampNeg (0 : Int32)) 125 ((gi M 97 46)).toNatClampNeg (0 : Int32)) 126 ((gi M 97 46)).toNatClampNeg (gi M 97 56)) 97 46 ((gi M 97 46) + (1 : Int32))) 123 (((gi M 97 46) + (1 : Int32))).toNatClampNeg (17 : Int32)) 124 (((gi M 97 46) + (1 : Int32))).toNatClampNeg (0 : Int32)) 125 (((gi M 97 46) + (1 : Int32))).toNatClampNeg (0 : Int32)) 126 (((gi M 97 46) + (1 : Int32))).toNatClampNeg (gi M 97 56)) 97 46 (((gi M 97 46) + (1 : Int32)) + (1 : Int32)))))))))) : Zm E YX8_stepBehind (d + 2) M [(0, vr (some (97, 1, 0))), (2, vi l2)] 97 [] Q := by
  refine sX8_stepBehind_97 (d := (d + 1)) M l2 ?_
  refine zand k (fun h4453 k => ?_)
  refine zite k (fun h4454 k => ?_) (fun h4454 k => ?_)
  · refine sX8_part_0 (d := (d + 1)) M l2 (0 : Int32) ?_
    refine zand k (fun h4455 k => ?_)
    show Zm E YX8_stepBehind ((d + 1) + 1) M [(0, vr (some (97, 1, 0)))] 114 [vi (gi M 109 ((((5 : Int32) * l2) + (0 : Int32))).toNatClampNeg), vr (some (97, 1, 0))] Q
    refine sX8_stepBehind_114 (d := (d + 1)) M (gi M 109 ((((5 : Int32) * l2) + (0 : Int32))).toNatClampNeg) ?_
    exact k
  · refine jX8_emit_2 (d := d) M (11 : Int32) ?_
    refine zite k (fun h4456 k => ?_) (fun h4456 k => ?_)
    · show Zm E YX8_stepBehind ((d + 1) + 1) (si M 97 47 (1 : Int32)) [(0, vr (some (97, 1, 0)))] 126 [] Q
      refine sX8_stepBehind_126 (d := (d + 1)) (si M 97 47 (1 : Int32))  ?_
      refine jX8_emit_2 (d := d) (si M 97 47 (1 : Int32)) (17 : Int32) ?_
      refine zpos h4456 ?_
      show Zm E YX8_stepBehind ((d + 1) + 1) (si (si M 97 47 (1 : Int32)) 97 47 (1 : Int32)) [] 132 [] Q
      refine sX8_stepBehind_132 (d := (d + 1)) (si (si M 97 47 (1 : Int32)) 97 47 (1 : Int32))  ?_
      exact k
    · refine zand k (fun h4457 k => ?_)
      show Zm E YX8_stepBehind ((d + 1) + 1) (si (si (si (si (si M 123 ((gi M 97 46)).toNatClampNeg (11 : Int32)) 124 ((gi M 97 46)).toNatClampNeg (0 : Int32)) 125 ((gi M 97 46)).toNatClampNeg (0 : Int32)) 126 ((gi M 97 46)).toNatClampNeg (gi M 97 56)) 97 46 ((gi M 97 46) + (1 : Int32))) [(0, vr (some (97, 1, 0)))] 126 [] Q
      refine sX8_stepBehind_126 (d := (d + 1)) (si (si (si (si (si M 123 ((gi M 97 46)).toNatClampNeg (11 : Int32)) 124 ((gi M 97 46)).toNatClampNeg (0 : Int32)) 125 ((gi M 97 46)).toNatClampNeg (0 : Int32)) 126 ((gi M 97 46)).toNatClampNeg (gi M 97 56)) 97 46 ((gi M 97 46) + (1 : Int32)))  ?_
      refine jX8_emit_2 (d := d) (si (si (si (si (si M 123 ((gi M 97 46)).toNatClampNeg (11 : Int32)) 124 ((gi M 97 46)).toNatClampNeg (0 : Int32)) 125 ((gi M 97 46)).toNatClampNeg (0 : Int32)) 126 ((gi M 97 46)).toNatClampNeg (gi M 97 56)) 97 46 ((gi M 97 46) + (1 : Int32))) (17 : Int32) ?_
      refine zite k (fun h4458 k => ?_) (fun h4458 k => ?_)
      · show Zm E YX8_stepBehind ((d + 1) + 1) (si (si (si (si (si (si M 123 ((gi M 97 46)).toNatClampNeg (11 : Int32)) 124 ((gi M 97 46)).toNatClampNeg (0 : Int32)) 125 ((gi M 97 46)).toNatClampNeg (0 : Int32)) 126 ((gi M 97 46)).toNatClampNeg (gi M 97 56)) 97 46 ((gi M 97 46) + (1 : Int32))) 97 47 (1 : Int32)) [] 132 [] Q
        refine sX8_stepBehind_132 (d := (d + 1)) (si (si (si (si (si (si M 123 ((gi M 97 46)).toNatClampNeg (11 : Int32)) 124 ((gi M 97 46)).toNatClampNeg (0 : Int32)) 125 ((gi M 97 46)).toNatClampNeg (0 : Int32)) 126 ((gi M 97 46)).toNatClampNeg (gi M 97 56)) 97 46 ((gi M 97 46) + (1 : Int32))) 97 47 (1 : Int32))  ?_
        exact k
      · refine zand k (fun h4459 k => ?_)
        show Zm E YX8_stepBehind ((d + 1) + 1) (si (si (si (si (si (si (si (si (si (si M 123 ((gi M 97 46)).toNatClampNeg (11 : Int32)) 124 ((gi M 97 46)).toNatClampNeg (0 : Int32)) 125 ((gi M 97 46)).toNatClampNeg (0 : Int32)) 126 ((gi M 97 46)).toNatClampNeg (gi M 97 56)) 97 46 ((gi M 97 46) + (1 : Int32))) 123 (((gi M 97 46) + (1 : Int32))).toNatClampNeg (17 : Int32)) 124 (((gi M 97 46) + (1 : Int32))).toNatClampNeg (0 : Int32)) 125 (((gi M 97 46) + (1 : Int32))).toNatClampNeg (0 : Int32)) 126 (((gi M 97 46) + (1 : Int32))).toNatClampNeg (gi M 97 56)) 97 46 (((gi M 97 46) + (1 : Int32)) + (1 : Int32))) [] 132 [] Q
        refine sX8_stepBehind_132 (d := (d + 1)) (si (si (si (si (si (si (si (si (si (si M 123 ((gi M 97 46)).toNatClampNeg (11 : Int32)) 124 ((gi M 97 46)).toNatClampNeg (0 : Int32)) 125 ((gi M 97 46)).toNatClampNeg (0 : Int32)) 126 ((gi M 97 46)).toNatClampNeg (gi M 97 56)) 97 46 ((gi M 97 46) + (1 : Int32))) 123 (((gi M 97 46) + (1 : Int32))).toNatClampNeg (17 : Int32)) 124 (((gi M 97 46) + (1 : Int32))).toNatClampNeg (0 : Int32)) 125 (((gi M 97 46) + (1 : Int32))).toNatClampNeg (0 : Int32)) 126 (((gi M 97 46) + (1 : Int32))).toNatClampNeg (gi M 97 56)) 97 46 (((gi M 97 46) + (1 : Int32)) + (1 : Int32)))  ?_
        exact k
theorem iX8_stepBehind_117 {E : zE} {d : Nat} {Q : zO → zM → Prop} (M : zM)  (k : if (gi M 97 46) = (600 : Int32) then (Q (.inl none) (si M 97 47 (1 : Int32))) else (vp_in (gi M 97 46) 600 ∧ (Q (.inl none) (si (si (si (si (si M 123 ((gi M 97 46)).toNatClampNeg (17 : Int32)) 124 ((gi M 97 46)).toNatClampNeg (0 : Int32)) 125 ((gi M 97 46)).toNatClampNeg (0 : Int32)) 126 ((gi M 97 46)).toNatClampNeg (gi M 97 56)) 97 46 ((gi M 97 46) + (1 : Int32)))))) : Zm E YX8_stepBehind (d + 2) M [(0, vr (some (97, 1, 0)))] 117 [] Q := by
  refine sX8_stepBehind_117 (d := (d + 1)) M  ?_
  refine sX8_stepBehind_126 (d := (d + 1)) M  ?_
  refine jX8_emit_2 (d := d) M (17 : Int32) ?_
  refine zite k (fun h4490 k => ?_) (fun h4490 k => ?_)
  · show Zm E YX8_stepBehind ((d + 1) + 1) (si M 97 47 (1 : Int32)) [] 132 [] Q
    refine sX8_stepBehind_132 (d := (d + 1)) (si M 97 47 (1 : Int32))  ?_
    exact k
  · refine zand k (fun h4491 k => ?_)
    show Zm E YX8_stepBehind ((d + 1) + 1) (si (si (si (si (si M 123 ((gi M 97 46)).toNatClampNeg (17 : Int32)) 124 ((gi M 97 46)).toNatClampNeg (0 : Int32)) 125 ((gi M 97 46)).toNatClampNeg (0 : Int32)) 126 ((gi M 97 46)).toNatClampNeg (gi M 97 56)) 97 46 ((gi M 97 46) + (1 : Int32))) [] 132 [] Q
    refine sX8_stepBehind_132 (d := (d + 1)) (si (si (si (si (si M 123 ((gi M 97 46)).toNatClampNeg (17 : Int32)) 124 ((gi M 97 46)).toNatClampNeg (0 : Int32)) 125 ((gi M 97 46)).toNatClampNeg (0 : Int32)) 126 ((gi M 97 46)).toNatClampNeg (gi M 97 56)) 97 46 ((gi M 97 46) + (1 : Int32)))  ?_
    exact k
theorem iX8_toss_0 {E : zE} {d : Nat} {Q : zO → zM → Prop} (M : zM)  (k : vp_in ((gi M 97 20) + (1 : Int32)) 4002 ∧ (vp_in (((gi M 97 20) + (1 : Int32)) - (1 : Int32)) 4002 ∧ (if (gi M 107 (((gi M 97 20) + (1 : Int32))).toNatClampNeg) = (gi M 107 ((((gi M 97 20) + (1 : Int32)) - (1 : Int32))).toNatClampNeg) then (if (gi M 97 21) ≤ 0 then (Zm E YX8_expression d (si M 97 20 ((gi M 97 20) + (1 : Int32))) (zargs 0 [vr (some (97, 1, 0)), vi (1 : Int32)]) 0 [] (zma E YX8_toss (d + 1) [(0, vr (some (97, 1, 0)))] 55 3 [vi (32 : Int32), vr (some (97, 1, 0))] Q)) else (Zm E YX8_node d (si M 97 20 ((gi M 97 20) + (1 : Int32))) (zargs 0 [vr (some (97, 1, 0)), vi (32 : Int32), vi (-1 : Int32), vi (0 : Int32), vi (0 : Int32)]) 0 [] (zma E YX8_toss (d + 1) [(0, vr (some (97, 1, 0)))] 60 3 [] Q))) else (if (gi M 97 21) = 0 then (if (gi M 103 (((gi M 97 20) + (1 : Int32))).toNatClampNeg) = (6 : Int32) then (Zm E YX8_node d (si (si (si M 97 20 ((gi M 97 20) + (1 : Int32))) 97 21 (1 : Int32)) 97 22 (gi M 107 (((gi M 97 20) + (1 : Int32))).toNatClampNeg)) (zargs 0 [vr (some (97, 1, 0)), vi (32 : Int32), vi (-1 : Int32), vi (0 : Int32), vi (0 : Int32)]) 0 [] (zma E YX8_toss (d + 1) [(0, vr (some (97, 1, 0)))] 60 3 [] Q)) else (Zm E YX8_node d (si (si (si M 97 20 ((gi M 97 20) + (1 : Int32))) 97 21 (2 : Int32)) 97 22 (gi M 107 (((gi M 97 20) + (1 : Int32))).toNatClampNeg)) (zargs 0 [vr (some (97, 1, 0)), vi (32 : Int32), vi (-1 : Int32), vi (0 : Int32), vi (0 : Int32)]) 0 [] (zma E YX8_toss (d + 1) [(0, vr (some (97, 1, 0)))] 60 3 [] Q))) else (if (gi M 97 21) ≤ 0 then (Zm E YX8_expression d (si M 97 20 ((gi M 97 20) + (1 : Int32))) (zargs 0 [vr (some (97, 1, 0)), vi (1 : Int32)]) 0 [] (zma E YX8_toss (d + 1) [(0, vr (some (97, 1, 0)))] 55 3 [vi (32 : Int32), vr (some (97, 1, 0))] Q)) else (Zm E YX8_node d (si M 97 20 ((gi M 97 20) + (1 : Int32))) (zargs 0 [vr (some (97, 1, 0)), vi (32 : Int32), vi (-1 : Int32), vi (0 : Int32), vi (0 : Int32)]) 0 [] (zma E YX8_toss (d + 1) [(0, vr (some (97, 1, 0)))] 60 3 [] Q))))))) : Zm E YX8_toss (d + 1) M [(0, vr (some (97, 1, 0)))] 0 [] Q := by
  refine sX8_toss_0 (d := d) M  ?_
  refine zand k (fun h4522 k => ?_)
  refine zand k (fun h4523 k => ?_)
  refine zite k (fun h4524 k => ?_) (fun h4524 k => ?_)
  · refine sX8_toss_39 (d := d) (si M 97 20 ((gi M 97 20) + (1 : Int32)))  ?_
    refine zite k (fun h4525 k => ?_) (fun h4525 k => ?_)
    · exact k
    · refine sX8_toss_58 (d := d) (si M 97 20 ((gi M 97 20) + (1 : Int32))) (-1 : Int32) (32 : Int32) ?_
      exact k
  · refine jX8_fail (d := d) (si M 97 20 ((gi M 97 20) + (1 : Int32))) (2 : Int32) ?_
    refine zite k (fun h4526 k => ?_) (fun h4526 k => ?_)
    · refine ⟨h4522, ?_⟩
      refine zite k (fun h4527 k => ?_) (fun h4527 k => ?_)
      · show Zm E YX8_toss (d + 1) (si (si (si M 97 20 ((gi M 97 20) + (1 : Int32))) 97 21 (1 : Int32)) 97 22 (gi M 107 (((gi M 97 20) + (1 : Int32))).toNatClampNeg)) [(0, vr (some (97, 1, 0)))] 38 [vi (0 : Int32)] Q
        refine sX8_toss_38 (d := d) (si (si (si M 97 20 ((gi M 97 20) + (1 : Int32))) 97 21 (1 : Int32)) 97 22 (gi M 107 (((gi M 97 20) + (1 : Int32))).toNatClampNeg)) (0 : Int32) ?_
        refine sX8_toss_39 (d := d) (si (si (si M 97 20 ((gi M 97 20) + (1 : Int32))) 97 21 (1 : Int32)) 97 22 (gi M 107 (((gi M 97 20) + (1 : Int32))).toNatClampNeg))  ?_
        refine zneg (show ¬ ((1 : Int32) ≤ 0) from by decide) ?_
        refine sX8_toss_58 (d := d) (si (si (si M 97 20 ((gi M 97 20) + (1 : Int32))) 97 21 (1 : Int32)) 97 22 (gi M 107 (((gi M 97 20) + (1 : Int32))).toNatClampNeg)) (-1 : Int32) (32 : Int32) ?_
        exact k
      · show Zm E YX8_toss (d + 1) (si (si (si M 97 20 ((gi M 97 20) + (1 : Int32))) 97 21 (2 : Int32)) 97 22 (gi M 107 (((gi M 97 20) + (1 : Int32))).toNatClampNeg)) [(0, vr (some (97, 1, 0)))] 38 [vi (0 : Int32)] Q
        refine sX8_toss_38 (d := d) (si (si (si M 97 20 ((gi M 97 20) + (1 : Int32))) 97 21 (2 : Int32)) 97 22 (gi M 107 (((gi M 97 20) + (1 : Int32))).toNatClampNeg)) (0 : Int32) ?_
        refine sX8_toss_39 (d := d) (si (si (si M 97 20 ((gi M 97 20) + (1 : Int32))) 97 21 (2 : Int32)) 97 22 (gi M 107 (((gi M 97 20) + (1 : Int32))).toNatClampNeg))  ?_
        refine zneg (show ¬ ((2 : Int32) ≤ 0) from by decide) ?_
        refine sX8_toss_58 (d := d) (si (si (si M 97 20 ((gi M 97 20) + (1 : Int32))) 97 21 (2 : Int32)) 97 22 (gi M 107 (((gi M 97 20) + (1 : Int32))).toNatClampNeg)) (-1 : Int32) (32 : Int32) ?_
        exact k
    · show Zm E YX8_toss (d + 1) (si M 97 20 ((gi M 97 20) + (1 : Int32))) [(0, vr (some (97, 1, 0)))] 38 [vi (0 : Int32)] Q
      refine sX8_toss_38 (d := d) (si M 97 20 ((gi M 97 20) + (1 : Int32))) (0 : Int32) ?_
      refine sX8_toss_39 (d := d) (si M 97 20 ((gi M 97 20) + (1 : Int32)))  ?_
      refine zite k (fun h4528 k => ?_) (fun h4528 k => ?_)
      · exact k
      · refine sX8_toss_58 (d := d) (si M 97 20 ((gi M 97 20) + (1 : Int32))) (-1 : Int32) (32 : Int32) ?_
        exact k
theorem iX8_unary_0 {E : zE} {d : Nat} {Q : zO → zM → Prop} (M : zM) (l1 : Int32) (l2 : Int32) (k : if l1 = (6 : Int32) then (vp_in (((5 : Int32) * l2) + (0 : Int32)) 60000 ∧ (Zm E YX8_value d M (zargs 0 [vr (some (97, 1, 0)), vi (gi M 109 ((((5 : Int32) * l2) + (0 : Int32))).toNatClampNeg)]) 0 [] (zma E YX8_unary (d + 1) [(0, vr (some (97, 1, 0))), (2, vi l2)] 13 3 [] Q))) else (if l1 = (4 : Int32) then (vp_in l2 12000 ∧ (if (gi M 108 (l2).toNatClampNeg) = (2 : Int32) then (if (gi M 111 (l2).toNatClampNeg) = 0 then (vp_in (((5 : Int32) * l2) + (0 : Int32)) 60000 ∧ (Zm E YX8_named d M (zargs 0 [vr (some (97, 1, 0)), vi (gi M 109 ((((5 : Int32) * l2) + (0 : Int32))).toNatClampNeg), vi (1 : Int32), vi (5 : Int32)]) 0 [] (zma E YX8_unary (d + 1) [(0, vr (some (97, 1, 0)))] 68 3 [] Q))) else (Zm E YX8_value d M (zargs 0 [vr (some (97, 1, 0)), vi l2]) 0 [] (zma E YX8_unary (d + 1) [(0, vr (some (97, 1, 0))), (1, vi l1)] 99 3 [] Q))) else (Zm E YX8_value d M (zargs 0 [vr (some (97, 1, 0)), vi l2]) 0 [] (zma E YX8_unary (d + 1) [(0, vr (some (97, 1, 0))), (1, vi l1)] 99 3 [] Q)))) else (Zm E YX8_value d M (zargs 0 [vr (some (97, 1, 0)), vi l2]) 0 [] (zma E YX8_unary (d + 1) [(0, vr (some (97, 1, 0))), (1, vi l1)] 99 3 [] Q)))) : Zm E YX8_unary (d + 1) M [(0, vr (some (97, 1, 0))), (1, vi l1), (2, vi l2)] 0 [] Q := by
  refine sX8_unary_0 (d := d) M l1 l2 ?_
  refine zite k (fun h4529 k => ?_) (fun h4529 k => ?_)
  · refine sX8_part_0 (d := d) M l2 (0 : Int32) ?_
    refine zand k (fun h4530 k => ?_)
    show Zm E YX8_unary (d + 1) M [(0, vr (some (97, 1, 0))), (2, vi l2)] 13 [vi (gi M 109 ((((5 : Int32) * l2) + (0 : Int32))).toNatClampNeg), vr (some (97, 1, 0))] Q
    refine sX8_unary_13 (d := d) M l2 (gi M 109 ((((5 : Int32) * l2) + (0 : Int32))).toNatClampNeg) ?_
    exact k
  · refine zite k (fun h4531 k => ?_) (fun h4531 k => ?_)
    · refine zand k (fun h4532 k => ?_)
      refine zite k (fun h4533 k => ?_) (fun h4533 k => ?_)
      · refine ⟨h4532, ?_⟩
        refine zite k (fun h4534 k => ?_) (fun h4534 k => ?_)
        · refine sX8_part_0 (d := d) M l2 (0 : Int32) ?_
          refine zand k (fun h4535 k => ?_)
          show Zm E YX8_unary (d + 1) M [(0, vr (some (97, 1, 0)))] 66 [vi (gi M 109 ((((5 : Int32) * l2) + (0 : Int32))).toNatClampNeg), vr (some (97, 1, 0))] Q
          refine sX8_unary_66 (d := d) M (gi M 109 ((((5 : Int32) * l2) + (0 : Int32))).toNatClampNeg) ?_
          exact k
        · exact k
      · exact k
    · exact k
theorem iX8_unary_16 {E : zE} {d : Nat} {Q : zO → zM → Prop} (M : zM) (l2 : Int32) (k : vp_in (((5 : Int32) * l2) + (1 : Int32)) 60000 ∧ (Zm E YX8_value d M (zargs 0 [vr (some (97, 1, 0)), vi (gi M 109 ((((5 : Int32) * l2) + (1 : Int32))).toNatClampNeg)]) 0 [] (zma E YX8_unary (d + 1) [(0, vr (some (97, 1, 0)))] 23 3 [] Q))) : Zm E YX8_unary (d + 1) M [(0, vr (some (97, 1, 0))), (2, vi l2)] 16 [] Q := by
  refine sX8_unary_16 (d := d) M l2 ?_
  refine sX8_part_0 (d := d) M l2 (1 : Int32) ?_
  refine zand k (fun h4536 k => ?_)
  show Zm E YX8_unary (d + 1) M [(0, vr (some (97, 1, 0)))] 23 [vi (gi M 109 ((((5 : Int32) * l2) + (1 : Int32))).toNatClampNeg), vr (some (97, 1, 0))] Q
  refine sX8_unary_23 (d := d) M (gi M 109 ((((5 : Int32) * l2) + (1 : Int32))).toNatClampNeg) ?_
  exact k
theorem iX8_unary_71 {E : zE} {d : Nat} {Q : zO → zM → Prop} (M : zM)  (k : vp_in ((gi M 97 46) - (1 : Int32)) 600 ∧ (if (gi M 123 (((gi M 97 46) - (1 : Int32))).toNatClampNeg) = (1 : Int32) then (if (gi M 97 46) = (600 : Int32) then (Q (.inl none) (si M 97 47 (1 : Int32))) else (vp_in (gi M 97 46) 600 ∧ (Q (.inl none) (si (si (si (si (si M 123 ((gi M 97 46)).toNatClampNeg (13 : Int32)) 124 ((gi M 97 46)).toNatClampNeg (4 : Int32)) 125 ((gi M 97 46)).toNatClampNeg (0 : Int32)) 126 ((gi M 97 46)).toNatClampNeg (gi M 97 56)) 97 46 ((gi M 97 46) + (1 : Int32)))))) else (Q (.inl none) M))) : Zm E YX8_unary (d + 1) M [(0, vr (some (97, 1, 0)))] 71 [] Q := by
  refine sX8_unary_71 (d := d) M  ?_
  refine zand k (fun h4537 k => ?_)
  refine zite k (fun h4538 k => ?_) (fun h4538 k => ?_)
  · refine jX8_emit (d := d) M (13 : Int32) (4 : Int32) (0 : Int32) ?_
    refine zite k (fun h4539 k => ?_) (fun h4539 k => ?_)
    · show Zm E YX8_unary (d + 1) (si M 97 47 (1 : Int32)) [] 94 [] Q
      refine sX8_unary_94 (d := d) (si M 97 47 (1 : Int32))  ?_
      refine sX8_unary_130 (d := d) (si M 97 47 (1 : Int32))  ?_
      exact k
    · refine zand k (fun h4540 k => ?_)
      show Zm E YX8_unary (d + 1) (si (si (si (si (si M 123 ((gi M 97 46)).toNatClampNeg (13 : Int32)) 124 ((gi M 97 46)).toNatClampNeg (4 : Int32)) 125 ((gi M 97 46)).toNatClampNeg (0 : Int32)) 126 ((gi M 97 46)).toNatClampNeg (gi M 97 56)) 97 46 ((gi M 97 46) + (1 : Int32))) [] 94 [] Q
      refine sX8_unary_94 (d := d) (si (si (si (si (si M 123 ((gi M 97 46)).toNatClampNeg (13 : Int32)) 124 ((gi M 97 46)).toNatClampNeg (4 : Int32)) 125 ((gi M 97 46)).toNatClampNeg (0 : Int32)) 126 ((gi M 97 46)).toNatClampNeg (gi M 97 56)) 97 46 ((gi M 97 46) + (1 : Int32)))  ?_
      refine sX8_unary_130 (d := d) (si (si (si (si (si M 123 ((gi M 97 46)).toNatClampNeg (13 : Int32)) 124 ((gi M 97 46)).toNatClampNeg (4 : Int32)) 125 ((gi M 97 46)).toNatClampNeg (0 : Int32)) 126 ((gi M 97 46)).toNatClampNeg (gi M 97 56)) 97 46 ((gi M 97 46) + (1 : Int32)))  ?_
      exact k
  · refine sX8_unary_130 (d := d) M  ?_
    exact k
theorem iX8_unary_102 {E : zE} {d : Nat} {Q : zO → zM → Prop} (M : zM) (l1 : Int32) (k : if (5 : Int32) ≤ l1 then (if (gi M 97 46) = (600 : Int32) then (Q (.inl none) (si (si M 97 47 (1 : Int32)) 97 47 (1 : Int32))) else (vp_in (gi M 97 46) 600 ∧ (if ((gi M 97 46) + (1 : Int32)) = (600 : Int32) then (Q (.inl none) (si (si (si (si (si (si M 123 ((gi M 97 46)).toNatClampNeg (17 : Int32)) 124 ((gi M 97 46)).toNatClampNeg (0 : Int32)) 125 ((gi M 97 46)).toNatClampNeg (0 : Int32)) 126 ((gi M 97 46)).toNatClampNeg (gi M 97 56)) 97 46 ((gi M 97 46) + (1 : Int32))) 97 47 (1 : Int32))) else (vp_in ((gi M 97 46) + (1 : Int32)) 600 ∧ (Q (.inl none) (si (si (si (si (si (si (si (si (si (si M 123 ((gi M 97 46)).toNatClampNeg (17 : Int32)) 124 ((gi M 97 46)).toNatClampNeg (0 : Int32)) 125 ((gi M 97 46)).toNatClampNeg (0 : Int32)) 126 ((gi M 97 46)).toNatClampNeg (gi M 97 56)) 97 46 ((gi M 97 46) + (1 : Int32))) 123 (((gi M 97 46) + (1 : Int32))).toNatClampNeg (0 : Int32)) 124 (((gi M 97 46) + (1 : Int32))).toNatClampNeg (0 : Int32)) 125 (((gi M 97 46) + (1 : Int32))).toNatClampNeg (0 : Int32)) 126 (((gi M 97 46) + (1 : Int32))).toNatClampNeg (gi M 97 56)) 97 46 (((gi M 97 46) + (1 : Int32)) + (1 : Int32)))))))) else (if (gi M 97 46) = (600 : Int32) then (Q (.inl none) (si M 97 47 (1 : Int32))) else (vp_in (gi M 97 46) 600 ∧ (Q (.inl none) (si (si (si (si (si M 123 ((gi M 97 46)).toNatClampNeg (13 : Int32)) 124 ((gi M 97 46)).toNatClampNeg l1) 125 ((gi M 97 46)).toNatClampNeg (0 : Int32)) 126 ((gi M 97 46)).toNatClampNeg (gi M 97 56)) 97 46 ((gi M 97 46) + (1 : Int32))))))) : Zm E YX8_unary (d + 2) M [(0, vr (some (97, 1, 0))), (1, vi l1)] 102 [] Q := by
  refine sX8_unary_102 (d := (d + 1)) M l1 ?_
  refine zite k (fun h4542 k => ?_) (fun h4542 k => ?_)
  · refine jX8_emit_2 (d := d) M (17 : Int32) ?_
    refine zite k (fun h4543 k => ?_) (fun h4543 k => ?_)
    · show Zm E YX8_unary ((d + 1) + 1) (si M 97 47 (1 : Int32)) [(0, vr (some (97, 1, 0)))] 124 [] Q
      refine sX8_unary_124 (d := (d + 1)) (si M 97 47 (1 : Int32))  ?_
      refine jX8_constant (d := d) (si M 97 47 (1 : Int32)) (0 : Int32) (0 : Int32) ?_
      refine zpos h4543 ?_
      show Zm E YX8_unary ((d + 1) + 1) (si (si M 97 47 (1 : Int32)) 97 47 (1 : Int32)) [] 130 [] Q
      refine sX8_unary_130 (d := (d + 1)) (si (si M 97 47 (1 : Int32)) 97 47 (1 : Int32))  ?_
      exact k
    · refine zand k (fun h4544 k => ?_)
      show Zm E YX8_unary ((d + 1) + 1) (si (si (si (si (si M 123 ((gi M 97 46)).toNatClampNeg (17 : Int32)) 124 ((gi M 97 46)).toNatClampNeg (0 : Int32)) 125 ((gi M 97 46)).toNatClampNeg (0 : Int32)) 126 ((gi M 97 46)).toNatClampNeg (gi M 97 56)) 97 46 ((gi M 97 46) + (1 : Int32))) [(0, vr (some (97, 1, 0)))] 124 [] Q
      refine sX8_unary_124 (d := (d + 1)) (si (si (si (si (si M 123 ((gi M 97 46)).toNatClampNeg (17 : Int32)) 124 ((gi M 97 46)).toNatClampNeg (0 : Int32)) 125 ((gi M 97 46)).toNatClampNeg (0 : Int32)) 126 ((gi M 97 46)).toNatClampNeg (gi M 97 56)) 97 46 ((gi M 97 46) + (1 : Int32)))  ?_
      refine jX8_constant (d := d) (si (si (si (si (si M 123 ((gi M 97 46)).toNatClampNeg (17 : Int32)) 124 ((gi M 97 46)).toNatClampNeg (0 : Int32)) 125 ((gi M 97 46)).toNatClampNeg (0 : Int32)) 126 ((gi M 97 46)).toNatClampNeg (gi M 97 56)) 97 46 ((gi M 97 46) + (1 : Int32))) (0 : Int32) (0 : Int32) ?_
      refine zite k (fun h4545 k => ?_) (fun h4545 k => ?_)
      · show Zm E YX8_unary ((d + 1) + 1) (si (si (si (si (si (si M 123 ((gi M 97 46)).toNatClampNeg (17 : Int32)) 124 ((gi M 97 46)).toNatClampNeg (0 : Int32)) 125 ((gi M 97 46)).toNatClampNeg (0 : Int32)) 126 ((gi M 97 46)).toNatClampNeg (gi M 97 56)) 97 46 ((gi M 97 46) + (1 : Int32))) 97 47 (1 : Int32)) [] 130 [] Q
        refine sX8_unary_130 (d := (d + 1)) (si (si (si (si (si (si M 123 ((gi M 97 46)).toNatClampNeg (17 : Int32)) 124 ((gi M 97 46)).toNatClampNeg (0 : Int32)) 125 ((gi M 97 46)).toNatClampNeg (0 : Int32)) 126 ((gi M 97 46)).toNatClampNeg (gi M 97 56)) 97 46 ((gi M 97 46) + (1 : Int32))) 97 47 (1 : Int32))  ?_
        exact k
      · refine zand k (fun h4546 k => ?_)
        show Zm E YX8_unary ((d + 1) + 1) (si (si (si (si (si (si (si (si (si (si M 123 ((gi M 97 46)).toNatClampNeg (17 : Int32)) 124 ((gi M 97 46)).toNatClampNeg (0 : Int32)) 125 ((gi M 97 46)).toNatClampNeg (0 : Int32)) 126 ((gi M 97 46)).toNatClampNeg (gi M 97 56)) 97 46 ((gi M 97 46) + (1 : Int32))) 123 (((gi M 97 46) + (1 : Int32))).toNatClampNeg (0 : Int32)) 124 (((gi M 97 46) + (1 : Int32))).toNatClampNeg (0 : Int32)) 125 (((gi M 97 46) + (1 : Int32))).toNatClampNeg (0 : Int32)) 126 (((gi M 97 46) + (1 : Int32))).toNatClampNeg (gi M 97 56)) 97 46 (((gi M 97 46) + (1 : Int32)) + (1 : Int32))) [] 130 [] Q
        refine sX8_unary_130 (d := (d + 1)) (si (si (si (si (si (si (si (si (si (si M 123 ((gi M 97 46)).toNatClampNeg (17 : Int32)) 124 ((gi M 97 46)).toNatClampNeg (0 : Int32)) 125 ((gi M 97 46)).toNatClampNeg (0 : Int32)) 126 ((gi M 97 46)).toNatClampNeg (gi M 97 56)) 97 46 ((gi M 97 46) + (1 : Int32))) 123 (((gi M 97 46) + (1 : Int32))).toNatClampNeg (0 : Int32)) 124 (((gi M 97 46) + (1 : Int32))).toNatClampNeg (0 : Int32)) 125 (((gi M 97 46) + (1 : Int32))).toNatClampNeg (0 : Int32)) 126 (((gi M 97 46) + (1 : Int32))).toNatClampNeg (gi M 97 56)) 97 46 (((gi M 97 46) + (1 : Int32)) + (1 : Int32)))  ?_
        exact k
  · refine jX8_emit (d := (d + 1)) M (13 : Int32) l1 (0 : Int32) ?_
    refine zite k (fun h4547 k => ?_) (fun h4547 k => ?_)
    · show Zm E YX8_unary ((d + 1) + 1) (si M 97 47 (1 : Int32)) [] 115 [] Q
      refine sX8_unary_115 (d := (d + 1)) (si M 97 47 (1 : Int32))  ?_
      refine sX8_unary_130 (d := (d + 1)) (si M 97 47 (1 : Int32))  ?_
      exact k
    · refine zand k (fun h4548 k => ?_)
      show Zm E YX8_unary ((d + 1) + 1) (si (si (si (si (si M 123 ((gi M 97 46)).toNatClampNeg (13 : Int32)) 124 ((gi M 97 46)).toNatClampNeg l1) 125 ((gi M 97 46)).toNatClampNeg (0 : Int32)) 126 ((gi M 97 46)).toNatClampNeg (gi M 97 56)) 97 46 ((gi M 97 46) + (1 : Int32))) [] 115 [] Q
      refine sX8_unary_115 (d := (d + 1)) (si (si (si (si (si M 123 ((gi M 97 46)).toNatClampNeg (13 : Int32)) 124 ((gi M 97 46)).toNatClampNeg l1) 125 ((gi M 97 46)).toNatClampNeg (0 : Int32)) 126 ((gi M 97 46)).toNatClampNeg (gi M 97 56)) 97 46 ((gi M 97 46) + (1 : Int32)))  ?_
      refine sX8_unary_130 (d := (d + 1)) (si (si (si (si (si M 123 ((gi M 97 46)).toNatClampNeg (13 : Int32)) 124 ((gi M 97 46)).toNatClampNeg l1) 125 ((gi M 97 46)).toNatClampNeg (0 : Int32)) 126 ((gi M 97 46)).toNatClampNeg (gi M 97 56)) 97 46 ((gi M 97 46) + (1 : Int32)))  ?_
      exact k
theorem iX8_unary_26 {E : zE} {d : Nat} {Q : zO → zM → Prop} (M : zM)  (k : if (gi M 97 46) = (600 : Int32) then (Q (.inl none) (si M 97 47 (1 : Int32))) else (vp_in (gi M 97 46) 600 ∧ (Q (.inl none) (si (si (si (si (si M 123 ((gi M 97 46)).toNatClampNeg (12 : Int32)) 124 ((gi M 97 46)).toNatClampNeg (0 : Int32)) 125 ((gi M 97 46)).toNatClampNeg (0 : Int32)) 126 ((gi M 97 46)).toNatClampNeg (gi M 97 56)) 97 46 ((gi M 97 46) + (1 : Int32)))))) : Zm E YX8_unary (d + 2) M [(0, vr (some (97, 1, 0)))] 26 [] Q := by
  refine sX8_unary_26 (d := (d + 1)) M  ?_
  refine jX8_emit_2 (d := d) M (12 : Int32) ?_
  refine zite k (fun h4549 k => ?_) (fun h4549 k => ?_)
  · show Zm E YX8_unary ((d + 1) + 1) (si M 97 47 (1 : Int32)) [] 32 [] Q
    refine sX8_unary_32 (d := (d + 1)) (si M 97 47 (1 : Int32))  ?_
    refine sX8_unary_130 (d := (d + 1)) (si M 97 47 (1 : Int32))  ?_
    exact k
  · refine zand k (fun h4550 k => ?_)
    show Zm E YX8_unary ((d + 1) + 1) (si (si (si (si (si M 123 ((gi M 97 46)).toNatClampNeg (12 : Int32)) 124 ((gi M 97 46)).toNatClampNeg (0 : Int32)) 125 ((gi M 97 46)).toNatClampNeg (0 : Int32)) 126 ((gi M 97 46)).toNatClampNeg (gi M 97 56)) 97 46 ((gi M 97 46) + (1 : Int32))) [] 32 [] Q
    refine sX8_unary_32 (d := (d + 1)) (si (si (si (si (si M 123 ((gi M 97 46)).toNatClampNeg (12 : Int32)) 124 ((gi M 97 46)).toNatClampNeg (0 : Int32)) 125 ((gi M 97 46)).toNatClampNeg (0 : Int32)) 126 ((gi M 97 46)).toNatClampNeg (gi M 97 56)) 97 46 ((gi M 97 46) + (1 : Int32)))  ?_
    refine sX8_unary_130 (d := (d + 1)) (si (si (si (si (si M 123 ((gi M 97 46)).toNatClampNeg (12 : Int32)) 124 ((gi M 97 46)).toNatClampNeg (0 : Int32)) 125 ((gi M 97 46)).toNatClampNeg (0 : Int32)) 126 ((gi M 97 46)).toNatClampNeg (gi M 97 56)) 97 46 ((gi M 97 46) + (1 : Int32)))  ?_
    exact k
theorem iX8_value_19 {E : zE} {d : Nat} {Q : zO → zM → Prop} (M : zM) (l2 : Int32) (l3 : Int32) (s0 : Int32) (k : if s0 = (-1 : Int32) then (Zm E YX8_single (d + 1) M (zargs 0 [vr (some (97, 1, 0)), vi l3]) 0 [] (zma E YX8_value ((d + 1) + 1) [(0, vr (some (97, 1, 0))), (2, vi l2)] 79 3 [] Q)) else (vp_in l3 12000 ∧ (if (gi M 108 (l3).toNatClampNeg) = (8 : Int32) then (vp_in (((5 : Int32) * l3) + (0 : Int32)) 60000 ∧ (vp_in (gi M 109 ((((5 : Int32) * l3) + (0 : Int32))).toNatClampNeg) 12000 ∧ (if (gi M 108 ((gi M 109 ((((5 : Int32) * l3) + (0 : Int32))).toNatClampNeg)).toNatClampNeg) = (7 : Int32) then (if (gi M 111 ((gi M 109 ((((5 : Int32) * l3) + (0 : Int32))).toNatClampNeg)).toNatClampNeg) = 0 then (vp_in (gi M 97 66) 12000 ∧ (Zm E YX8_leftPart (d + 1) (si (si M 136 ((gi M 97 66)).toNatClampNeg l3) 97 66 ((gi M 97 66) + (1 : Int32))) (zargs 0 [vr (some (97, 1, 0)), vi l3]) 0 [] (zma E YX8_value ((d + 1) + 1) [(0, vr (some (97, 1, 0))), (2, vi l2)] 70 3 [] Q))) else (if (gi M 97 46) = (600 : Int32) then (vp_in (gi M 97 66) 12000 ∧ (Zm E YX8_leftPart (d + 1) (si (si (si M 97 47 (1 : Int32)) 136 ((gi M 97 66)).toNatClampNeg l3) 97 66 ((gi M 97 66) + (1 : Int32))) (zargs 0 [vr (some (97, 1, 0)), vi l3]) 0 [] (zma E YX8_value ((d + 1) + 1) [(0, vr (some (97, 1, 0))), (2, vi l2)] 70 3 [] Q))) else (vp_in (gi M 97 46) 600 ∧ (vp_in (gi M 97 66) 12000 ∧ (Zm E YX8_leftPart (d + 1) (si (si (si (si (si (si (si M 123 ((gi M 97 46)).toNatClampNeg (0 : Int32)) 124 ((gi M 97 46)).toNatClampNeg (0 : Int32)) 125 ((gi M 97 46)).toNatClampNeg (0 : Int32)) 126 ((gi M 97 46)).toNatClampNeg (gi M 97 56)) 97 46 ((gi M 97 46) + (1 : Int32))) 136 ((gi M 97 66)).toNatClampNeg l3) 97 66 ((gi M 97 66) + (1 : Int32))) (zargs 0 [vr (some (97, 1, 0)), vi l3]) 0 [] (zma E YX8_value ((d + 1) + 1) [(0, vr (some (97, 1, 0))), (2, vi l2)] 70 3 [] Q)))))) else (if (gi M 97 46) = (600 : Int32) then (vp_in (gi M 97 66) 12000 ∧ (Zm E YX8_leftPart (d + 1) (si (si (si M 97 47 (1 : Int32)) 136 ((gi M 97 66)).toNatClampNeg l3) 97 66 ((gi M 97 66) + (1 : Int32))) (zargs 0 [vr (some (97, 1, 0)), vi l3]) 0 [] (zma E YX8_value ((d + 1) + 1) [(0, vr (some (97, 1, 0))), (2, vi l2)] 70 3 [] Q))) else (vp_in (gi M 97 46) 600 ∧ (vp_in (gi M 97 66) 12000 ∧ (Zm E YX8_leftPart (d + 1) (si (si (si (si (si (si (si M 123 ((gi M 97 46)).toNatClampNeg (0 : Int32)) 124 ((gi M 97 46)).toNatClampNeg (0 : Int32)) 125 ((gi M 97 46)).toNatClampNeg (0 : Int32)) 126 ((gi M 97 46)).toNatClampNeg (gi M 97 56)) 97 46 ((gi M 97 46) + (1 : Int32))) 136 ((gi M 97 66)).toNatClampNeg l3) 97 66 ((gi M 97 66) + (1 : Int32))) (zargs 0 [vr (some (97, 1, 0)), vi l3]) 0 [] (zma E YX8_value ((d + 1) + 1) [(0, vr (some (97, 1, 0))), (2, vi l2)] 70 3 [] Q)))))))) else (vp_in (gi M 97 66) 12000 ∧ (Zm E YX8_leftPart (d + 1) (si (si M 136 ((gi M 97 66)).toNatClampNeg l3) 97 66 ((gi M 97 66) + (1 : Int32))) (zargs 0 [vr (some (97, 1, 0)), vi l3]) 0 [] (zma E YX8_value ((d + 1) + 1) [(0, vr (some (97, 1, 0))), (2, vi l2)] 70 3 [] Q)))))) : Zm E YX8_value (d + 2) M [(0, vr (some (97, 1, 0))), (2, vi l2), (3, vi l3)] 19 [vi s0] Q := by
  refine sX8_value_19 (d := (d + 1)) M l2 l3 s0 ?_
  refine zite k (fun h4571 k => ?_) (fun h4571 k => ?_)
  · exact k
  · refine zand k (fun h4572 k => ?_)
    refine zite k (fun h4573 k => ?_) (fun h4573 k => ?_)
    · refine jX8_isMemberCall (d := d) M l3 ?_
      refine zand k (fun h4574 k => ?_)
      refine zand k (fun h4575 k => ?_)
      refine zite k (fun h4576 k => ?_) (fun h4576 k => ?_)
      · refine zite k (fun h4577 k => ?_) (fun h4577 k => ?_)
        · show Zm E YX8_value ((d + 1) + 1) M [(0, vr (some (97, 1, 0))), (2, vi l2), (3, vi l3)] 39 [vi (1 : Int32)] Q
          refine sX8_value_39 (d := (d + 1)) M l2 l3 (1 : Int32) ?_
          refine zneg (show ¬ ((1 : Int32) = 0) from by decide) ?_
          refine sX8_value_48 (d := (d + 1)) M l2 l3 ?_
          exact k
        · show Zm E YX8_value ((d + 1) + 1) M [(0, vr (some (97, 1, 0))), (2, vi l2), (3, vi l3)] 39 [vi (0 : Int32)] Q
          refine sX8_value_39 (d := (d + 1)) M l2 l3 (0 : Int32) ?_
          refine zpos (show (0 : Int32) = 0 from by decide) ?_
          refine jX8_constant (d := d) M (0 : Int32) (0 : Int32) ?_
          refine zite k (fun h4579 k => ?_) (fun h4579 k => ?_)
          · show Zm E YX8_value ((d + 1) + 1) (si M 97 47 (1 : Int32)) [(0, vr (some (97, 1, 0))), (2, vi l2), (3, vi l3)] 48 [] Q
            refine sX8_value_48 (d := (d + 1)) (si M 97 47 (1 : Int32)) l2 l3 ?_
            exact k
          · refine zand k (fun h4581 k => ?_)
            show Zm E YX8_value ((d + 1) + 1) (si (si (si (si (si M 123 ((gi M 97 46)).toNatClampNeg (0 : Int32)) 124 ((gi M 97 46)).toNatClampNeg (0 : Int32)) 125 ((gi M 97 46)).toNatClampNeg (0 : Int32)) 126 ((gi M 97 46)).toNatClampNeg (gi M 97 56)) 97 46 ((gi M 97 46) + (1 : Int32))) [(0, vr (some (97, 1, 0))), (2, vi l2), (3, vi l3)] 48 [] Q
            refine sX8_value_48 (d := (d + 1)) (si (si (si (si (si M 123 ((gi M 97 46)).toNatClampNeg (0 : Int32)) 124 ((gi M 97 46)).toNatClampNeg (0 : Int32)) 125 ((gi M 97 46)).toNatClampNeg (0 : Int32)) 126 ((gi M 97 46)).toNatClampNeg (gi M 97 56)) 97 46 ((gi M 97 46) + (1 : Int32))) l2 l3 ?_
            exact k
      · show Zm E YX8_value ((d + 1) + 1) M [(0, vr (some (97, 1, 0))), (2, vi l2), (3, vi l3)] 39 [vi (0 : Int32)] Q
        refine sX8_value_39 (d := (d + 1)) M l2 l3 (0 : Int32) ?_
        refine zpos (show (0 : Int32) = 0 from by decide) ?_
        refine jX8_constant (d := d) M (0 : Int32) (0 : Int32) ?_
        refine zite k (fun h4583 k => ?_) (fun h4583 k => ?_)
        · show Zm E YX8_value ((d + 1) + 1) (si M 97 47 (1 : Int32)) [(0, vr (some (97, 1, 0))), (2, vi l2), (3, vi l3)] 48 [] Q
          refine sX8_value_48 (d := (d + 1)) (si M 97 47 (1 : Int32)) l2 l3 ?_
          exact k
        · refine zand k (fun h4585 k => ?_)
          show Zm E YX8_value ((d + 1) + 1) (si (si (si (si (si M 123 ((gi M 97 46)).toNatClampNeg (0 : Int32)) 124 ((gi M 97 46)).toNatClampNeg (0 : Int32)) 125 ((gi M 97 46)).toNatClampNeg (0 : Int32)) 126 ((gi M 97 46)).toNatClampNeg (gi M 97 56)) 97 46 ((gi M 97 46) + (1 : Int32))) [(0, vr (some (97, 1, 0))), (2, vi l2), (3, vi l3)] 48 [] Q
          refine sX8_value_48 (d := (d + 1)) (si (si (si (si (si M 123 ((gi M 97 46)).toNatClampNeg (0 : Int32)) 124 ((gi M 97 46)).toNatClampNeg (0 : Int32)) 125 ((gi M 97 46)).toNatClampNeg (0 : Int32)) 126 ((gi M 97 46)).toNatClampNeg (gi M 97 56)) 97 46 ((gi M 97 46) + (1 : Int32))) l2 l3 ?_
          exact k
    · refine sX8_value_48 (d := (d + 1)) M l2 l3 ?_
      exact k
theorem iX8_values_4 {E : zE} {d : Nat} {Q : zO → zM → Prop} (M : zM) (l2 : Int32) (l3 : Int32) (k : if l3 = (-1 : Int32) then (Q (.inl (some (vi l2))) M) else (vp_in (((5 : Int32) * l3) + (0 : Int32)) 60000 ∧ (Zm E YX8_value d M (zargs 0 [vr (some (97, 1, 0)), vi (gi M 109 ((((5 : Int32) * l3) + (0 : Int32))).toNatClampNeg)]) 0 [] (zma E YX8_values (d + 1) [(0, vr (some (97, 1, 0))), (2, vi l2), (3, vi l3)] 16 3 [] Q)))) : Zm E YX8_values (d + 1) M [(0, vr (some (97, 1, 0))), (2, vi l2), (3, vi l3)] 4 [] Q := by
  refine sX8_values_4 (d := d) M l2 l3 ?_
  refine zite k (fun h4600 k => ?_) (fun h4600 k => ?_)
  · exact k
  · refine sX8_part_0 (d := d) M l3 (0 : Int32) ?_
    refine zand k (fun h4601 k => ?_)
    show Zm E YX8_values (d + 1) M [(0, vr (some (97, 1, 0))), (2, vi l2), (3, vi l3)] 16 [vi (gi M 109 ((((5 : Int32) * l3) + (0 : Int32))).toNatClampNeg), vr (some (97, 1, 0))] Q
    refine sX8_values_16 (d := d) M l2 l3 (gi M 109 ((((5 : Int32) * l3) + (0 : Int32))).toNatClampNeg) ?_
    exact k
theorem iX8_begin_0 {E : zE} {d : Nat} {Q : zO → zM → Prop} (M : zM)  (k : if (gi M 97 72) = 0 then (Q (.inl none) (si M 97 0 (1 : Int32))) else (Zm E YX8_begin (d + 1) (si (si (si (si (si (si (si (si (si M 97 0 (0 : Int32)) 97 73 (1 : Int32)) 97 74 (0 : Int32)) 97 75 (0 : Int32)) 97 7 (gi M 97 8)) 97 76 (0 : Int32)) 97 84 (0 : Int32)) 97 86 (0 : Int32)) 97 85 (0 : Int32)) [(0, vr (some (97, 1, 0))), (1, vi (0 : Int32))] 69 [] Q)) : Zm E YX8_begin (d + 1) M [(0, vr (some (97, 1, 0)))] 0 [] Q := by
  refine sX8_begin_0 (d := d) M  ?_
  refine zite k (fun h4603 k => ?_) (fun h4603 k => ?_)
  · refine sX8_begin_13 (d := d) M (1 : Int32) ?_
    refine zneg (show ¬ ((1 : Int32) ≤ 0) from by decide) ?_
    exact k
  · refine sX8_begin_13 (d := d) M (0 : Int32) ?_
    refine zpos (show (0 : Int32) ≤ 0 from by decide) ?_
    exact k
theorem iX8_behind_174 {E : zE} {d : Nat} {Q : zO → zM → Prop} (M : zM) (l1 : Int32) (l3 : Int32) (s0 : Int32) (k : vp_in l1 12000 ∧ (if (gi M 108 (l1).toNatClampNeg) = (12 : Int32) then (if (gi M 97 46) = (600 : Int32) then (Zm E YX8_value d (si M 97 47 (1 : Int32)) (zargs 0 [vr (some (97, 1, 0)), vi l3]) 0 [] (zma E YX8_behind (d + 1) [(0, vr (some (97, 1, 0))), (4, vi s0)] 203 3 [] Q)) else (vp_in (gi M 97 46) 600 ∧ (Zm E YX8_value d (si (si (si (si (si M 123 ((gi M 97 46)).toNatClampNeg (23 : Int32)) 124 ((gi M 97 46)).toNatClampNeg s0) 125 ((gi M 97 46)).toNatClampNeg (0 : Int32)) 126 ((gi M 97 46)).toNatClampNeg (gi M 97 56)) 97 46 ((gi M 97 46) + (1 : Int32))) (zargs 0 [vr (some (97, 1, 0)), vi l3]) 0 [] (zma E YX8_behind (d + 1) [(0, vr (some (97, 1, 0))), (4, vi s0)] 203 3 [] Q)))) else (if (gi M 97 46) = (600 : Int32) then (Zm E YX8_value d (si M 97 47 (1 : Int32)) (zargs 0 [vr (some (97, 1, 0)), vi l3]) 0 [] (zma E YX8_behind (d + 1) [(0, vr (some (97, 1, 0))), (4, vi s0)] 203 3 [] Q)) else (vp_in (gi M 97 46) 600 ∧ (Zm E YX8_value d (si (si (si (si (si M 123 ((gi M 97 46)).toNatClampNeg (24 : Int32)) 124 ((gi M 97 46)).toNatClampNeg s0) 125 ((gi M 97 46)).toNatClampNeg (0 : Int32)) 126 ((gi M 97 46)).toNatClampNeg (gi M 97 56)) 97 46 ((gi M 97 46) + (1 : Int32))) (zargs 0 [vr (some (97, 1, 0)), vi l3]) 0 [] (zma E YX8_behind (d + 1) [(0, vr (some (97, 1, 0))), (4, vi s0)] 203 3 [] Q)))))) : Zm E YX8_behind (d + 1) M [(0, vr (some (97, 1, 0))), (1, vi l1), (3, vi l3)] 174 [vi s0] Q := by
  refine sX8_behind_174 (d := d) M l1 l3 s0 ?_
  refine zand k (fun h4983 k => ?_)
  refine zite k (fun h4984 k => ?_) (fun h4984 k => ?_)
  · refine jX8_emit (d := d) M (23 : Int32) s0 (0 : Int32) ?_
    refine zite k (fun h4985 k => ?_) (fun h4985 k => ?_)
    · show Zm E YX8_behind (d + 1) (si M 97 47 (1 : Int32)) [(0, vr (some (97, 1, 0))), (3, vi l3), (4, vi s0)] 201 [] Q
      refine sX8_behind_201 (d := d) (si M 97 47 (1 : Int32)) l3 s0 ?_
      exact k
    · refine zand k (fun h4986 k => ?_)
      show Zm E YX8_behind (d + 1) (si (si (si (si (si M 123 ((gi M 97 46)).toNatClampNeg (23 : Int32)) 124 ((gi M 97 46)).toNatClampNeg s0) 125 ((gi M 97 46)).toNatClampNeg (0 : Int32)) 126 ((gi M 97 46)).toNatClampNeg (gi M 97 56)) 97 46 ((gi M 97 46) + (1 : Int32))) [(0, vr (some (97, 1, 0))), (3, vi l3), (4, vi s0)] 201 [] Q
      refine sX8_behind_201 (d := d) (si (si (si (si (si M 123 ((gi M 97 46)).toNatClampNeg (23 : Int32)) 124 ((gi M 97 46)).toNatClampNeg s0) 125 ((gi M 97 46)).toNatClampNeg (0 : Int32)) 126 ((gi M 97 46)).toNatClampNeg (gi M 97 56)) 97 46 ((gi M 97 46) + (1 : Int32))) l3 s0 ?_
      exact k
  · refine jX8_emit (d := d) M (24 : Int32) s0 (0 : Int32) ?_
    refine zite k (fun h4987 k => ?_) (fun h4987 k => ?_)
    · show Zm E YX8_behind (d + 1) (si M 97 47 (1 : Int32)) [(0, vr (some (97, 1, 0))), (3, vi l3), (4, vi s0)] 201 [] Q
      refine sX8_behind_201 (d := d) (si M 97 47 (1 : Int32)) l3 s0 ?_
      exact k
    · refine zand k (fun h4988 k => ?_)
      show Zm E YX8_behind (d + 1) (si (si (si (si (si M 123 ((gi M 97 46)).toNatClampNeg (24 : Int32)) 124 ((gi M 97 46)).toNatClampNeg s0) 125 ((gi M 97 46)).toNatClampNeg (0 : Int32)) 126 ((gi M 97 46)).toNatClampNeg (gi M 97 56)) 97 46 ((gi M 97 46) + (1 : Int32))) [(0, vr (some (97, 1, 0))), (3, vi l3), (4, vi s0)] 201 [] Q
      refine sX8_behind_201 (d := d) (si (si (si (si (si M 123 ((gi M 97 46)).toNatClampNeg (24 : Int32)) 124 ((gi M 97 46)).toNatClampNeg s0) 125 ((gi M 97 46)).toNatClampNeg (0 : Int32)) 126 ((gi M 97 46)).toNatClampNeg (gi M 97 56)) 97 46 ((gi M 97 46) + (1 : Int32))) l3 s0 ?_
      exact k
theorem iX8_behind_91 {E : zE} {d : Nat} {Q : zO → zM → Prop} (M : zM)  (k : if (gi M 97 46) = (600 : Int32) then (Q (.inl none) (si M 97 47 (1 : Int32))) else (vp_in (gi M 97 46) 600 ∧ (Q (.inl none) (si (si (si (si (si M 123 ((gi M 97 46)).toNatClampNeg (10 : Int32)) 124 ((gi M 97 46)).toNatClampNeg (0 : Int32)) 125 ((gi M 97 46)).toNatClampNeg (0 : Int32)) 126 ((gi M 97 46)).toNatClampNeg (gi M 97 56)) 97 46 ((gi M 97 46) + (1 : Int32)))))) : Zm E YX8_behind (d + 2) M [(0, vr (some (97, 1, 0)))] 91 [] Q := by
  refine sX8_behind_91 (d := (d + 1)) M  ?_
  refine jX8_emit_2 (d := d) M (10 : Int32) ?_
  refine zite k (fun h4989 k => ?_) (fun h4989 k => ?_)
  · show Zm E YX8_behind ((d + 1) + 1) (si M 97 47 (1 : Int32)) [] 97 [] Q
    refine sX8_behind_97 (d := (d + 1)) (si M 97 47 (1 : Int32))  ?_
    refine sX8_behind_212 (d := (d + 1)) (si M 97 47 (1 : Int32))  ?_
    exact k
  · refine zand k (fun h4990 k => ?_)
    show Zm E YX8_behind ((d + 1) + 1) (si (si (si (si (si M 123 ((gi M 97 46)).toNatClampNeg (10 : Int32)) 124 ((gi M 97 46)).toNatClampNeg (0 : Int32)) 125 ((gi M 97 46)).toNatClampNeg (0 : Int32)) 126 ((gi M 97 46)).toNatClampNeg (gi M 97 56)) 97 46 ((gi M 97 46) + (1 : Int32))) [] 97 [] Q
    refine sX8_behind_97 (d := (d + 1)) (si (si (si (si (si M 123 ((gi M 97 46)).toNatClampNeg (10 : Int32)) 124 ((gi M 97 46)).toNatClampNeg (0 : Int32)) 125 ((gi M 97 46)).toNatClampNeg (0 : Int32)) 126 ((gi M 97 46)).toNatClampNeg (gi M 97 56)) 97 46 ((gi M 97 46) + (1 : Int32)))  ?_
    refine sX8_behind_212 (d := (d + 1)) (si (si (si (si (si M 123 ((gi M 97 46)).toNatClampNeg (10 : Int32)) 124 ((gi M 97 46)).toNatClampNeg (0 : Int32)) 125 ((gi M 97 46)).toNatClampNeg (0 : Int32)) 126 ((gi M 97 46)).toNatClampNeg (gi M 97 56)) 97 46 ((gi M 97 46) + (1 : Int32)))  ?_
    exact k
theorem iX8_behind_126 {E : zE} {d : Nat} {Q : zO → zM → Prop} (M : zM) (l2 : Int32) (l3 : Int32) (s0 : Int32) (k : if s0 = 0 then (Zm E YX8_values (d + 1) M (zargs 0 [vr (some (97, 1, 0)), vi l3]) 0 [] (zma E YX8_behind ((d + 1) + 1) [(0, vr (some (97, 1, 0)))] 153 3 [] Q)) else (if (gi M 97 46) = (600 : Int32) then (vp_in (((5 : Int32) * l2) + (1 : Int32)) 60000 ∧ (Zm E YX8_value (d + 1) (si M 97 47 (1 : Int32)) (zargs 0 [vr (some (97, 1, 0)), vi (gi M 109 ((((5 : Int32) * l2) + (1 : Int32))).toNatClampNeg)]) 0 [] (zma E YX8_behind ((d + 1) + 1) [(0, vr (some (97, 1, 0))), (3, vi l3)] 142 3 [] Q))) else (vp_in (gi M 97 46) 600 ∧ (vp_in (((5 : Int32) * l2) + (1 : Int32)) 60000 ∧ (Zm E YX8_value (d + 1) (si (si (si (si (si M 123 ((gi M 97 46)).toNatClampNeg (18 : Int32)) 124 ((gi M 97 46)).toNatClampNeg (0 : Int32)) 125 ((gi M 97 46)).toNatClampNeg (0 : Int32)) 126 ((gi M 97 46)).toNatClampNeg (gi M 97 56)) 97 46 ((gi M 97 46) + (1 : Int32))) (zargs 0 [vr (some (97, 1, 0)), vi (gi M 109 ((((5 : Int32) * l2) + (1 : Int32))).toNatClampNeg)]) 0 [] (zma E YX8_behind ((d + 1) + 1) [(0, vr (some (97, 1, 0))), (3, vi l3)] 142 3 [] Q)))))) : Zm E YX8_behind (d + 2) M [(0, vr (some (97, 1, 0))), (2, vi l2), (3, vi l3)] 126 [vi s0] Q := by
  refine sX8_behind_126 (d := (d + 1)) M l2 l3 s0 ?_
  refine zite k (fun h4992 k => ?_) (fun h4992 k => ?_)
  · refine sX8_behind_151 (d := (d + 1)) M l3 ?_
    exact k
  · refine jX8_emit_2 (d := d) M (18 : Int32) ?_
    refine zite k (fun h4993 k => ?_) (fun h4993 k => ?_)
    · show Zm E YX8_behind ((d + 1) + 1) (si M 97 47 (1 : Int32)) [(0, vr (some (97, 1, 0))), (2, vi l2), (3, vi l3)] 135 [] Q
      refine sX8_behind_135 (d := (d + 1)) (si M 97 47 (1 : Int32)) l2 l3 ?_
      refine sX8_part_0 (d := (d + 1)) (si M 97 47 (1 : Int32)) l2 (1 : Int32) ?_
      refine zand k (fun h4994 k => ?_)
      show Zm E YX8_behind ((d + 1) + 1) (si M 97 47 (1 : Int32)) [(0, vr (some (97, 1, 0))), (3, vi l3)] 142 [vi (gi M 109 ((((5 : Int32) * l2) + (1 : Int32))).toNatClampNeg), vr (some (97, 1, 0))] Q
      refine sX8_behind_142 (d := (d + 1)) (si M 97 47 (1 : Int32)) l3 (gi M 109 ((((5 : Int32) * l2) + (1 : Int32))).toNatClampNeg) ?_
      exact k
    · refine zand k (fun h4995 k => ?_)
      show Zm E YX8_behind ((d + 1) + 1) (si (si (si (si (si M 123 ((gi M 97 46)).toNatClampNeg (18 : Int32)) 124 ((gi M 97 46)).toNatClampNeg (0 : Int32)) 125 ((gi M 97 46)).toNatClampNeg (0 : Int32)) 126 ((gi M 97 46)).toNatClampNeg (gi M 97 56)) 97 46 ((gi M 97 46) + (1 : Int32))) [(0, vr (some (97, 1, 0))), (2, vi l2), (3, vi l3)] 135 [] Q
      refine sX8_behind_135 (d := (d + 1)) (si (si (si (si (si M 123 ((gi M 97 46)).toNatClampNeg (18 : Int32)) 124 ((gi M 97 46)).toNatClampNeg (0 : Int32)) 125 ((gi M 97 46)).toNatClampNeg (0 : Int32)) 126 ((gi M 97 46)).toNatClampNeg (gi M 97 56)) 97 46 ((gi M 97 46) + (1 : Int32))) l2 l3 ?_
      refine sX8_part_0 (d := (d + 1)) (si (si (si (si (si M 123 ((gi M 97 46)).toNatClampNeg (18 : Int32)) 124 ((gi M 97 46)).toNatClampNeg (0 : Int32)) 125 ((gi M 97 46)).toNatClampNeg (0 : Int32)) 126 ((gi M 97 46)).toNatClampNeg (gi M 97 56)) 97 46 ((gi M 97 46) + (1 : Int32))) l2 (1 : Int32) ?_
      refine zand k (fun h4996 k => ?_)
      show Zm E YX8_behind ((d + 1) + 1) (si (si (si (si (si M 123 ((gi M 97 46)).toNatClampNeg (18 : Int32)) 124 ((gi M 97 46)).toNatClampNeg (0 : Int32)) 125 ((gi M 97 46)).toNatClampNeg (0 : Int32)) 126 ((gi M 97 46)).toNatClampNeg (gi M 97 56)) 97 46 ((gi M 97 46) + (1 : Int32))) [(0, vr (some (97, 1, 0))), (3, vi l3)] 142 [vi (gi M 109 ((((5 : Int32) * l2) + (1 : Int32))).toNatClampNeg), vr (some (97, 1, 0))] Q
      refine sX8_behind_142 (d := (d + 1)) (si (si (si (si (si M 123 ((gi M 97 46)).toNatClampNeg (18 : Int32)) 124 ((gi M 97 46)).toNatClampNeg (0 : Int32)) 125 ((gi M 97 46)).toNatClampNeg (0 : Int32)) 126 ((gi M 97 46)).toNatClampNeg (gi M 97 56)) 97 46 ((gi M 97 46) + (1 : Int32))) l3 (gi M 109 ((((5 : Int32) * l2) + (1 : Int32))).toNatClampNeg) ?_
      exact k
theorem iX8_behind_83 {E : zE} {d : Nat} {Q : zO → zM → Prop} (M : zM)  (k : Q (.inl none) M) : Zm E YX8_behind (d + 1) M [] 83 [] Q := by
  refine sX8_behind_83 (d := d) M  ?_
  refine sX8_behind_212 (d := d) M  ?_
  exact k
theorem iX8_behind_206 {E : zE} {d : Nat} {Q : zO → zM → Prop} (M : zM) (l4 : Int32) (k : vp_in l4 8000 ∧ (Q (.inl none) (si M 128 (l4).toNatClampNeg (gi M 97 46)))) : Zm E YX8_behind (d + 1) M [(0, vr (some (97, 1, 0))), (4, vi l4)] 206 [] Q := by
  refine sX8_behind_206 (d := d) M l4 ?_
  refine sX8_here_0 (d := d) M l4 ?_
  refine zand k (fun h4997 k => ?_)
  show Zm E YX8_behind (d + 1) (si M 128 (l4).toNatClampNeg (gi M 97 46)) [] 212 [] Q
  refine sX8_behind_212 (d := d) (si M 128 (l4).toNatClampNeg (gi M 97 46))  ?_
  exact k
theorem iX8_behind_156 {E : zE} {d : Nat} {Q : zO → zM → Prop} (M : zM) (s0 : Int32) (k : if (gi M 97 46) = (600 : Int32) then (Q (.inl none) (si M 97 47 (1 : Int32))) else (vp_in (gi M 97 46) 600 ∧ (Q (.inl none) (si (si (si (si (si M 123 ((gi M 97 46)).toNatClampNeg (15 : Int32)) 124 ((gi M 97 46)).toNatClampNeg s0) 125 ((gi M 97 46)).toNatClampNeg (0 : Int32)) 126 ((gi M 97 46)).toNatClampNeg (gi M 97 56)) 97 46 ((gi M 97 46) + (1 : Int32)))))) : Zm E YX8_behind (d + 1) M [(0, vr (some (97, 1, 0)))] 156 [vi s0] Q := by
  refine sX8_behind_156 (d := d) M s0 ?_
  refine jX8_emit (d := d) M (15 : Int32) s0 (0 : Int32) ?_
  refine zite k (fun h4998 k => ?_) (fun h4998 k => ?_)
  · show Zm E YX8_behind (d + 1) (si M 97 47 (1 : Int32)) [] 167 [] Q
    refine sX8_behind_167 (d := d) (si M 97 47 (1 : Int32))  ?_
    refine sX8_behind_212 (d := d) (si M 97 47 (1 : Int32))  ?_
    exact k
  · refine zand k (fun h4999 k => ?_)
    show Zm E YX8_behind (d + 1) (si (si (si (si (si M 123 ((gi M 97 46)).toNatClampNeg (15 : Int32)) 124 ((gi M 97 46)).toNatClampNeg s0) 125 ((gi M 97 46)).toNatClampNeg (0 : Int32)) 126 ((gi M 97 46)).toNatClampNeg (gi M 97 56)) 97 46 ((gi M 97 46) + (1 : Int32))) [] 167 [] Q
    refine sX8_behind_167 (d := d) (si (si (si (si (si M 123 ((gi M 97 46)).toNatClampNeg (15 : Int32)) 124 ((gi M 97 46)).toNatClampNeg s0) 125 ((gi M 97 46)).toNatClampNeg (0 : Int32)) 126 ((gi M 97 46)).toNatClampNeg (gi M 97 56)) 97 46 ((gi M 97 46) + (1 : Int32)))  ?_
    refine sX8_behind_212 (d := d) (si (si (si (si (si M 123 ((gi M 97 46)).toNatClampNeg (15 : Int32)) 124 ((gi M 97 46)).toNatClampNeg s0) 125 ((gi M 97 46)).toNatClampNeg (0 : Int32)) 126 ((gi M 97 46)).toNatClampNeg (gi M 97 56)) 97 46 ((gi M 97 46) + (1 : Int32)))  ?_
    exact k
theorem iX8_behind_145 {E : zE} {d : Nat} {Q : zO → zM → Prop} (M : zM) (l3 : Int32) (k : if (gi M 97 46) = (600 : Int32) then (Zm E YX8_values (d + 1) (si M 97 47 (1 : Int32)) (zargs 0 [vr (some (97, 1, 0)), vi l3]) 0 [] (zma E YX8_behind ((d + 1) + 1) [(0, vr (some (97, 1, 0)))] 153 3 [] Q)) else (vp_in (gi M 97 46) 600 ∧ (Zm E YX8_values (d + 1) (si (si (si (si (si M 123 ((gi M 97 46)).toNatClampNeg (10 : Int32)) 124 ((gi M 97 46)).toNatClampNeg (0 : Int32)) 125 ((gi M 97 46)).toNatClampNeg (0 : Int32)) 126 ((gi M 97 46)).toNatClampNeg (gi M 97 56)) 97 46 ((gi M 97 46) + (1 : Int32))) (zargs 0 [vr (some (97, 1, 0)), vi l3]) 0 [] (zma E YX8_behind ((d + 1) + 1) [(0, vr (some (97, 1, 0)))] 153 3 [] Q)))) : Zm E YX8_behind (d + 2) M [(0, vr (some (97, 1, 0))), (3, vi l3)] 145 [] Q := by
  refine sX8_behind_145 (d := (d + 1)) M l3 ?_
  refine jX8_emit_2 (d := d) M (10 : Int32) ?_
  refine zite k (fun h5000 k => ?_) (fun h5000 k => ?_)
  · show Zm E YX8_behind ((d + 1) + 1) (si M 97 47 (1 : Int32)) [(0, vr (some (97, 1, 0))), (3, vi l3)] 151 [] Q
    refine sX8_behind_151 (d := (d + 1)) (si M 97 47 (1 : Int32)) l3 ?_
    exact k
  · refine zand k (fun h5001 k => ?_)
    show Zm E YX8_behind ((d + 1) + 1) (si (si (si (si (si M 123 ((gi M 97 46)).toNatClampNeg (10 : Int32)) 124 ((gi M 97 46)).toNatClampNeg (0 : Int32)) 125 ((gi M 97 46)).toNatClampNeg (0 : Int32)) 126 ((gi M 97 46)).toNatClampNeg (gi M 97 56)) 97 46 ((gi M 97 46) + (1 : Int32))) [(0, vr (some (97, 1, 0))), (3, vi l3)] 151 [] Q
    refine sX8_behind_151 (d := (d + 1)) (si (si (si (si (si M 123 ((gi M 97 46)).toNatClampNeg (10 : Int32)) 124 ((gi M 97 46)).toNatClampNeg (0 : Int32)) 125 ((gi M 97 46)).toNatClampNeg (0 : Int32)) 126 ((gi M 97 46)).toNatClampNeg (gi M 97 56)) 97 46 ((gi M 97 46) + (1 : Int32))) l3 ?_
    exact k
theorem iX8_behind_110 {E : zE} {d : Nat} {Q : zO → zM → Prop} (M : zM) (l2 : Int32) (k : if (gi M 97 46) = (600 : Int32) then (Q (.inl none) (si M 97 47 (1 : Int32))) else (vp_in (gi M 97 46) 600 ∧ (Q (.inl none) (si (si (si (si (si M 123 ((gi M 97 46)).toNatClampNeg (14 : Int32)) 124 ((gi M 97 46)).toNatClampNeg l2) 125 ((gi M 97 46)).toNatClampNeg (0 : Int32)) 126 ((gi M 97 46)).toNatClampNeg (gi M 97 56)) 97 46 ((gi M 97 46) + (1 : Int32)))))) : Zm E YX8_behind (d + 1) M [(0, vr (some (97, 1, 0))), (2, vi l2)] 110 [] Q := by
  refine sX8_behind_110 (d := d) M l2 ?_
  refine jX8_emit (d := d) M (14 : Int32) l2 (0 : Int32) ?_
  refine zite k (fun h5002 k => ?_) (fun h5002 k => ?_)
  · show Zm E YX8_behind (d + 1) (si M 97 47 (1 : Int32)) [] 118 [] Q
    refine sX8_behind_118 (d := d) (si M 97 47 (1 : Int32))  ?_
    refine sX8_behind_212 (d := d) (si M 97 47 (1 : Int32))  ?_
    exact k
  · refine zand k (fun h5003 k => ?_)
    show Zm E YX8_behind (d + 1) (si (si (si (si (si M 123 ((gi M 97 46)).toNatClampNeg (14 : Int32)) 124 ((gi M 97 46)).toNatClampNeg l2) 125 ((gi M 97 46)).toNatClampNeg (0 : Int32)) 126 ((gi M 97 46)).toNatClampNeg (gi M 97 56)) 97 46 ((gi M 97 46) + (1 : Int32))) [] 118 [] Q
    refine sX8_behind_118 (d := d) (si (si (si (si (si M 123 ((gi M 97 46)).toNatClampNeg (14 : Int32)) 124 ((gi M 97 46)).toNatClampNeg l2) 125 ((gi M 97 46)).toNatClampNeg (0 : Int32)) 126 ((gi M 97 46)).toNatClampNeg (gi M 97 56)) 97 46 ((gi M 97 46) + (1 : Int32)))  ?_
    refine sX8_behind_212 (d := d) (si (si (si (si (si M 123 ((gi M 97 46)).toNatClampNeg (14 : Int32)) 124 ((gi M 97 46)).toNatClampNeg l2) 125 ((gi M 97 46)).toNatClampNeg (0 : Int32)) 126 ((gi M 97 46)).toNatClampNeg (gi M 97 56)) 97 46 ((gi M 97 46) + (1 : Int32)))  ?_
    exact k
theorem iX8_codeAttempt_0 {E : zE} {d : Nat} {Q : zO → zM → Prop} (M : zM) (l1 : Int32) (k : vp_in (((5 : Int32) * l1) + (4 : Int32)) 60000 ∧ (if (2 : Int32) ≤ (gi M 109 ((((5 : Int32) * l1) + (4 : Int32))).toNatClampNeg) then (Zm E YX8_emit d (si (si M 97 53 ((gi M 97 53) + (1 : Int32))) 97 53 (((gi M 97 53) + (1 : Int32)) + (1 : Int32))) (zargs 0 [vr (some (97, 1, 0)), vi (27 : Int32), vi (((gi M 97 53) + (1 : Int32)) - (1 : Int32)), vi (0 : Int32)]) 0 [] (zma E YX8_codeAttempt (d + 1) [(0, vr (some (97, 1, 0))), (1, vi l1), (2, vi (gi M 109 ((((5 : Int32) * l1) + (4 : Int32))).toNatClampNeg)), (3, vi (((gi M 97 53) + (1 : Int32)) - (1 : Int32))), (4, vi ((((gi M 97 53) + (1 : Int32)) + (1 : Int32)) - (1 : Int32))), (5, vi (gi M 97 60)), (6, vi (gi M 97 59))] 46 3 [] Q)) else (Zm E YX8_codeCatch d M (zargs 0 [vr (some (97, 1, 0)), vi l1]) 0 [] (zma E YX8_codeAttempt (d + 1) [] 14 3 [] Q)))) : Zm E YX8_codeAttempt (d + 1) M [(0, vr (some (97, 1, 0))), (1, vi l1)] 0 [] Q := by
  refine sX8_codeAttempt_0 (d := d) M l1 ?_
  refine sX8_part_0 (d := d) M l1 (4 : Int32) ?_
  refine zand k (fun h5017 k => ?_)
  show Zm E YX8_codeAttempt (d + 1) M [(0, vr (some (97, 1, 0))), (1, vi l1)] 6 [vi (gi M 109 ((((5 : Int32) * l1) + (4 : Int32))).toNatClampNeg)] Q
  refine sX8_codeAttempt_6 (d := d) M l1 (gi M 109 ((((5 : Int32) * l1) + (4 : Int32))).toNatClampNeg) ?_
  refine zite k (fun h5018 k => ?_) (fun h5018 k => ?_)
  · refine sX8_mark_0 (d := d) M  ?_
    show Zm E YX8_codeAttempt (d + 1) (si M 97 53 ((gi M 97 53) + (1 : Int32))) [(0, vr (some (97, 1, 0))), (1, vi l1), (2, vi (gi M 109 ((((5 : Int32) * l1) + (4 : Int32))).toNatClampNeg))] 22 [vi (((gi M 97 53) + (1 : Int32)) - (1 : Int32))] Q
    refine sX8_codeAttempt_22 (d := d) (si M 97 53 ((gi M 97 53) + (1 : Int32))) l1 (gi M 109 ((((5 : Int32) * l1) + (4 : Int32))).toNatClampNeg) (((gi M 97 53) + (1 : Int32)) - (1 : Int32)) ?_
    refine sX8_mark_0 (d := d) (si M 97 53 ((gi M 97 53) + (1 : Int32)))  ?_
    show Zm E YX8_codeAttempt (d + 1) (si (si M 97 53 ((gi M 97 53) + (1 : Int32))) 97 53 (((gi M 97 53) + (1 : Int32)) + (1 : Int32))) [(0, vr (some (97, 1, 0))), (1, vi l1), (2, vi (gi M 109 ((((5 : Int32) * l1) + (4 : Int32))).toNatClampNeg)), (3, vi (((gi M 97 53) + (1 : Int32)) - (1 : Int32)))] 27 [vi ((((gi M 97 53) + (1 : Int32)) + (1 : Int32)) - (1 : Int32))] Q
    refine sX8_codeAttempt_27 (d := d) (si (si M 97 53 ((gi M 97 53) + (1 : Int32))) 97 53 (((gi M 97 53) + (1 : Int32)) + (1 : Int32))) l1 (gi M 109 ((((5 : Int32) * l1) + (4 : Int32))).toNatClampNeg) (((gi M 97 53) + (1 : Int32)) - (1 : Int32)) ((((gi M 97 53) + (1 : Int32)) + (1 : Int32)) - (1 : Int32)) ?_
    exact k
  · exact k
theorem iX8_codeAttempt_49 {E : zE} {d : Nat} {Q : zO → zM → Prop} (M : zM) (l1 : Int32) (l2 : Int32) (l3 : Int32) (l4 : Int32) (l5 : Int32) (l6 : Int32) (k : vp_in (((5 : Int32) * l1) + (3 : Int32)) 60000 ∧ (Zm E YX8_wrapIn d M (zargs 0 [vr (some (97, 1, 0)), vi (1 : Int32), vi (gi M 109 ((((5 : Int32) * l1) + (3 : Int32))).toNatClampNeg), vi (0 : Int32), vi (0 : Int32)]) 0 [] (zma E YX8_codeAttempt (d + 1) [(0, vr (some (97, 1, 0))), (1, vi l1), (2, vi l2), (3, vi l3), (4, vi l4), (5, vi l5), (6, vi l6)] 59 3 [] Q))) : Zm E YX8_codeAttempt (d + 1) M [(0, vr (some (97, 1, 0))), (1, vi l1), (2, vi l2), (3, vi l3), (4, vi l4), (5, vi l5), (6, vi l6)] 49 [] Q := by
  refine sX8_codeAttempt_49 (d := d) M l1 l2 l3 l4 l5 l6 ?_
  refine sX8_part_0 (d := d) M l1 (3 : Int32) ?_
  refine zand k (fun h5019 k => ?_)
  show Zm E YX8_codeAttempt (d + 1) M [(0, vr (some (97, 1, 0))), (1, vi l1), (2, vi l2), (3, vi l3), (4, vi l4), (5, vi l5), (6, vi l6)] 57 [vi (gi M 109 ((((5 : Int32) * l1) + (3 : Int32))).toNatClampNeg), vi (1 : Int32), vr (some (97, 1, 0))] Q
  refine sX8_codeAttempt_57 (d := d) M l1 l2 l3 l4 l5 l6 (gi M 109 ((((5 : Int32) * l1) + (3 : Int32))).toNatClampNeg) (1 : Int32) ?_
  exact k
theorem iX8_codeAttempt_62 {E : zE} {d : Nat} {Q : zO → zM → Prop} (M : zM) (l1 : Int32) (l2 : Int32) (l3 : Int32) (l4 : Int32) (l5 : Int32) (l6 : Int32) (k : if l2 = (3 : Int32) then (Zm E YX8_codeCatch d M (zargs 0 [vr (some (97, 1, 0)), vi l1]) 0 [] (zma E YX8_codeAttempt (d + 1) [(0, vr (some (97, 1, 0))), (1, vi l1), (3, vi l3), (4, vi l4), (5, vi l5), (6, vi l6)] 69 3 [] Q)) else (vp_in (((5 : Int32) * l1) + (0 : Int32)) 60000 ∧ (Zm E YX8_codes d M (zargs 0 [vr (some (97, 1, 0)), vi (gi M 109 ((((5 : Int32) * l1) + (0 : Int32))).toNatClampNeg)]) 0 [] (zma E YX8_codeAttempt (d + 1) [(0, vr (some (97, 1, 0))), (1, vi l1), (3, vi l3), (4, vi l4), (5, vi l5), (6, vi l6)] 82 3 [] Q)))) : Zm E YX8_codeAttempt (d + 1) M [(0, vr (some (97, 1, 0))), (1, vi l1), (2, vi l2), (3, vi l3), (4, vi l4), (5, vi l5), (6, vi l6)] 62 [] Q := by
  refine sX8_codeAttempt_62 (d := d) M l1 l2 l3 l4 l5 l6 ?_
  refine zite k (fun h5020 k => ?_) (fun h5020 k => ?_)
  · exact k
  · refine sX8_part_0 (d := d) M l1 (0 : Int32) ?_
    refine zand k (fun h5021 k => ?_)
    show Zm E YX8_codeAttempt (d + 1) M [(0, vr (some (97, 1, 0))), (1, vi l1), (3, vi l3), (4, vi l4), (5, vi l5), (6, vi l6)] 82 [vi (gi M 109 ((((5 : Int32) * l1) + (0 : Int32))).toNatClampNeg), vr (some (97, 1, 0))] Q
    refine sX8_codeAttempt_82 (d := d) M l1 l3 l4 l5 l6 (gi M 109 ((((5 : Int32) * l1) + (0 : Int32))).toNatClampNeg) ?_
    exact k
theorem iX8_codeAttempt_72 {E : zE} {d : Nat} {Q : zO → zM → Prop} (M : zM) (l1 : Int32) (l3 : Int32) (l4 : Int32) (l5 : Int32) (l6 : Int32) (k : if (gi M 97 46) = (600 : Int32) then (vp_in (((5 : Int32) * l1) + (3 : Int32)) 60000 ∧ (Zm E YX8_codes (d + 1) (si (si (si M 97 60 l5) 97 59 l6) 97 47 (1 : Int32)) (zargs 0 [vr (some (97, 1, 0)), vi (gi M 109 ((((5 : Int32) * l1) + (3 : Int32))).toNatClampNeg)]) 0 [] (zma E YX8_codeAttempt ((d + 1) + 1) [(0, vr (some (97, 1, 0))), (1, vi l1), (3, vi l3), (4, vi l4), (5, vi l5), (6, vi l6)] 106 3 [] Q))) else (vp_in (gi M 97 46) 600 ∧ (vp_in (((5 : Int32) * l1) + (3 : Int32)) 60000 ∧ (Zm E YX8_codes (d + 1) (si (si (si (si (si (si (si M 97 60 l5) 97 59 l6) 123 ((gi M 97 46)).toNatClampNeg (28 : Int32)) 124 ((gi M 97 46)).toNatClampNeg (0 : Int32)) 125 ((gi M 97 46)).toNatClampNeg (0 : Int32)) 126 ((gi M 97 46)).toNatClampNeg (gi M 97 56)) 97 46 ((gi M 97 46) + (1 : Int32))) (zargs 0 [vr (some (97, 1, 0)), vi (gi M 109 ((((5 : Int32) * l1) + (3 : Int32))).toNatClampNeg)]) 0 [] (zma E YX8_codeAttempt ((d + 1) + 1) [(0, vr (some (97, 1, 0))), (1, vi l1), (3, vi l3), (4, vi l4), (5, vi l5), (6, vi l6)] 106 3 [] Q))))) : Zm E YX8_codeAttempt (d + 2) M [(0, vr (some (97, 1, 0))), (1, vi l1), (3, vi l3), (4, vi l4), (5, vi l5), (6, vi l6)] 72 [] Q := by
  refine sX8_codeAttempt_72 (d := (d + 1)) M l1 l3 l4 l5 l6 ?_
  refine sX8_codeAttempt_85 (d := (d + 1)) M l1 l3 l4 l5 l6 ?_
  refine sX8_unwrap_0 (d := (d + 1)) M l5 l6 ?_
  show Zm E YX8_codeAttempt ((d + 1) + 1) (si (si M 97 60 l5) 97 59 l6) [(0, vr (some (97, 1, 0))), (1, vi l1), (3, vi l3), (4, vi l4), (5, vi l5), (6, vi l6)] 93 [] Q
  refine sX8_codeAttempt_93 (d := (d + 1)) (si (si M 97 60 l5) 97 59 l6) l1 l3 l4 l5 l6 ?_
  refine jX8_emit_2 (d := d) (si (si M 97 60 l5) 97 59 l6) (28 : Int32) ?_
  refine zite k (fun h5022 k => ?_) (fun h5022 k => ?_)
  · show Zm E YX8_codeAttempt ((d + 1) + 1) (si (si (si M 97 60 l5) 97 59 l6) 97 47 (1 : Int32)) [(0, vr (some (97, 1, 0))), (1, vi l1), (3, vi l3), (4, vi l4), (5, vi l5), (6, vi l6)] 99 [] Q
    refine sX8_codeAttempt_99 (d := (d + 1)) (si (si (si M 97 60 l5) 97 59 l6) 97 47 (1 : Int32)) l1 l3 l4 l5 l6 ?_
    refine sX8_part_0 (d := (d + 1)) (si (si (si M 97 60 l5) 97 59 l6) 97 47 (1 : Int32)) l1 (3 : Int32) ?_
    refine zand k (fun h5023 k => ?_)
    show Zm E YX8_codeAttempt ((d + 1) + 1) (si (si (si M 97 60 l5) 97 59 l6) 97 47 (1 : Int32)) [(0, vr (some (97, 1, 0))), (1, vi l1), (3, vi l3), (4, vi l4), (5, vi l5), (6, vi l6)] 106 [vi (gi M 109 ((((5 : Int32) * l1) + (3 : Int32))).toNatClampNeg), vr (some (97, 1, 0))] Q
    refine sX8_codeAttempt_106 (d := (d + 1)) (si (si (si M 97 60 l5) 97 59 l6) 97 47 (1 : Int32)) l1 l3 l4 l5 l6 (gi M 109 ((((5 : Int32) * l1) + (3 : Int32))).toNatClampNeg) ?_
    exact k
  · refine zand k (fun h5024 k => ?_)
    show Zm E YX8_codeAttempt ((d + 1) + 1) (si (si (si (si (si (si (si M 97 60 l5) 97 59 l6) 123 ((gi M 97 46)).toNatClampNeg (28 : Int32)) 124 ((gi M 97 46)).toNatClampNeg (0 : Int32)) 125 ((gi M 97 46)).toNatClampNeg (0 : Int32)) 126 ((gi M 97 46)).toNatClampNeg (gi M 97 56)) 97 46 ((gi M 97 46) + (1 : Int32))) [(0, vr (some (97, 1, 0))), (1, vi l1), (3, vi l3), (4, vi l4), (5, vi l5), (6, vi l6)] 99 [] Q
    refine sX8_codeAttempt_99 (d := (d + 1)) (si (si (si (si (si (si (si M 97 60 l5) 97 59 l6) 123 ((gi M 97 46)).toNatClampNeg (28 : Int32)) 124 ((gi M 97 46)).toNatClampNeg (0 : Int32)) 125 ((gi M 97 46)).toNatClampNeg (0 : Int32)) 126 ((gi M 97 46)).toNatClampNeg (gi M 97 56)) 97 46 ((gi M 97 46) + (1 : Int32))) l1 l3 l4 l5 l6 ?_
    refine sX8_part_0 (d := (d + 1)) (si (si (si (si (si (si (si M 97 60 l5) 97 59 l6) 123 ((gi M 97 46)).toNatClampNeg (28 : Int32)) 124 ((gi M 97 46)).toNatClampNeg (0 : Int32)) 125 ((gi M 97 46)).toNatClampNeg (0 : Int32)) 126 ((gi M 97 46)).toNatClampNeg (gi M 97 56)) 97 46 ((gi M 97 46) + (1 : Int32))) l1 (3 : Int32) ?_
    refine zand k (fun h5025 k => ?_)
    show Zm E YX8_codeAttempt ((d + 1) + 1) (si (si (si (si (si (si (si M 97 60 l5) 97 59 l6) 123 ((gi M 97 46)).toNatClampNeg (28 : Int32)) 124 ((gi M 97 46)).toNatClampNeg (0 : Int32)) 125 ((gi M 97 46)).toNatClampNeg (0 : Int32)) 126 ((gi M 97 46)).toNatClampNeg (gi M 97 56)) 97 46 ((gi M 97 46) + (1 : Int32))) [(0, vr (some (97, 1, 0))), (1, vi l1), (3, vi l3), (4, vi l4), (5, vi l5), (6, vi l6)] 106 [vi (gi M 109 ((((5 : Int32) * l1) + (3 : Int32))).toNatClampNeg), vr (some (97, 1, 0))] Q
    refine sX8_codeAttempt_106 (d := (d + 1)) (si (si (si (si (si (si (si M 97 60 l5) 97 59 l6) 123 ((gi M 97 46)).toNatClampNeg (28 : Int32)) 124 ((gi M 97 46)).toNatClampNeg (0 : Int32)) 125 ((gi M 97 46)).toNatClampNeg (0 : Int32)) 126 ((gi M 97 46)).toNatClampNeg (gi M 97 56)) 97 46 ((gi M 97 46) + (1 : Int32))) l1 l3 l4 l5 l6 (gi M 109 ((((5 : Int32) * l1) + (3 : Int32))).toNatClampNeg) ?_
    exact k
theorem iX8_codeAttempt_85 {E : zE} {d : Nat} {Q : zO → zM → Prop} (M : zM) (l1 : Int32) (l3 : Int32) (l4 : Int32) (l5 : Int32) (l6 : Int32) (k : if (gi M 97 46) = (600 : Int32) then (vp_in (((5 : Int32) * l1) + (3 : Int32)) 60000 ∧ (Zm E YX8_codes (d + 1) (si (si (si M 97 60 l5) 97 59 l6) 97 47 (1 : Int32)) (zargs 0 [vr (some (97, 1, 0)), vi (gi M 109 ((((5 : Int32) * l1) + (3 : Int32))).toNatClampNeg)]) 0 [] (zma E YX8_codeAttempt ((d + 1) + 1) [(0, vr (some (97, 1, 0))), (1, vi l1), (3, vi l3), (4, vi l4), (5, vi l5), (6, vi l6)] 106 3 [] Q))) else (vp_in (gi M 97 46) 600 ∧ (vp_in (((5 : Int32) * l1) + (3 : Int32)) 60000 ∧ (Zm E YX8_codes (d + 1) (si (si (si (si (si (si (si M 97 60 l5) 97 59 l6) 123 ((gi M 97 46)).toNatClampNeg (28 : Int32)) 124 ((gi M 97 46)).toNatClampNeg (0 : Int32)) 125 ((gi M 97 46)).toNatClampNeg (0 : Int32)) 126 ((gi M 97 46)).toNatClampNeg (gi M 97 56)) 97 46 ((gi M 97 46) + (1 : Int32))) (zargs 0 [vr (some (97, 1, 0)), vi (gi M 109 ((((5 : Int32) * l1) + (3 : Int32))).toNatClampNeg)]) 0 [] (zma E YX8_codeAttempt ((d + 1) + 1) [(0, vr (some (97, 1, 0))), (1, vi l1), (3, vi l3), (4, vi l4), (5, vi l5), (6, vi l6)] 106 3 [] Q))))) : Zm E YX8_codeAttempt (d + 2) M [(0, vr (some (97, 1, 0))), (1, vi l1), (3, vi l3), (4, vi l4), (5, vi l5), (6, vi l6)] 85 [] Q := by
  refine sX8_codeAttempt_85 (d := (d + 1)) M l1 l3 l4 l5 l6 ?_
  refine sX8_unwrap_0 (d := (d + 1)) M l5 l6 ?_
  show Zm E YX8_codeAttempt ((d + 1) + 1) (si (si M 97 60 l5) 97 59 l6) [(0, vr (some (97, 1, 0))), (1, vi l1), (3, vi l3), (4, vi l4), (5, vi l5), (6, vi l6)] 93 [] Q
  refine sX8_codeAttempt_93 (d := (d + 1)) (si (si M 97 60 l5) 97 59 l6) l1 l3 l4 l5 l6 ?_
  refine jX8_emit_2 (d := d) (si (si M 97 60 l5) 97 59 l6) (28 : Int32) ?_
  refine zite k (fun h5026 k => ?_) (fun h5026 k => ?_)
  · show Zm E YX8_codeAttempt ((d + 1) + 1) (si (si (si M 97 60 l5) 97 59 l6) 97 47 (1 : Int32)) [(0, vr (some (97, 1, 0))), (1, vi l1), (3, vi l3), (4, vi l4), (5, vi l5), (6, vi l6)] 99 [] Q
    refine sX8_codeAttempt_99 (d := (d + 1)) (si (si (si M 97 60 l5) 97 59 l6) 97 47 (1 : Int32)) l1 l3 l4 l5 l6 ?_
    refine sX8_part_0 (d := (d + 1)) (si (si (si M 97 60 l5) 97 59 l6) 97 47 (1 : Int32)) l1 (3 : Int32) ?_
    refine zand k (fun h5027 k => ?_)
    show Zm E YX8_codeAttempt ((d + 1) + 1) (si (si (si M 97 60 l5) 97 59 l6) 97 47 (1 : Int32)) [(0, vr (some (97, 1, 0))), (1, vi l1), (3, vi l3), (4, vi l4), (5, vi l5), (6, vi l6)] 106 [vi (gi M 109 ((((5 : Int32) * l1) + (3 : Int32))).toNatClampNeg), vr (some (97, 1, 0))] Q
    refine sX8_codeAttempt_106 (d := (d + 1)) (si (si (si M 97 60 l5) 97 59 l6) 97 47 (1 : Int32)) l1 l3 l4 l5 l6 (gi M 109 ((((5 : Int32) * l1) + (3 : Int32))).toNatClampNeg) ?_
    exact k
  · refine zand k (fun h5028 k => ?_)
    show Zm E YX8_codeAttempt ((d + 1) + 1) (si (si (si (si (si (si (si M 97 60 l5) 97 59 l6) 123 ((gi M 97 46)).toNatClampNeg (28 : Int32)) 124 ((gi M 97 46)).toNatClampNeg (0 : Int32)) 125 ((gi M 97 46)).toNatClampNeg (0 : Int32)) 126 ((gi M 97 46)).toNatClampNeg (gi M 97 56)) 97 46 ((gi M 97 46) + (1 : Int32))) [(0, vr (some (97, 1, 0))), (1, vi l1), (3, vi l3), (4, vi l4), (5, vi l5), (6, vi l6)] 99 [] Q
    refine sX8_codeAttempt_99 (d := (d + 1)) (si (si (si (si (si (si (si M 97 60 l5) 97 59 l6) 123 ((gi M 97 46)).toNatClampNeg (28 : Int32)) 124 ((gi M 97 46)).toNatClampNeg (0 : Int32)) 125 ((gi M 97 46)).toNatClampNeg (0 : Int32)) 126 ((gi M 97 46)).toNatClampNeg (gi M 97 56)) 97 46 ((gi M 97 46) + (1 : Int32))) l1 l3 l4 l5 l6 ?_
    refine sX8_part_0 (d := (d + 1)) (si (si (si (si (si (si (si M 97 60 l5) 97 59 l6) 123 ((gi M 97 46)).toNatClampNeg (28 : Int32)) 124 ((gi M 97 46)).toNatClampNeg (0 : Int32)) 125 ((gi M 97 46)).toNatClampNeg (0 : Int32)) 126 ((gi M 97 46)).toNatClampNeg (gi M 97 56)) 97 46 ((gi M 97 46) + (1 : Int32))) l1 (3 : Int32) ?_
    refine zand k (fun h5029 k => ?_)
    show Zm E YX8_codeAttempt ((d + 1) + 1) (si (si (si (si (si (si (si M 97 60 l5) 97 59 l6) 123 ((gi M 97 46)).toNatClampNeg (28 : Int32)) 124 ((gi M 97 46)).toNatClampNeg (0 : Int32)) 125 ((gi M 97 46)).toNatClampNeg (0 : Int32)) 126 ((gi M 97 46)).toNatClampNeg (gi M 97 56)) 97 46 ((gi M 97 46) + (1 : Int32))) [(0, vr (some (97, 1, 0))), (1, vi l1), (3, vi l3), (4, vi l4), (5, vi l5), (6, vi l6)] 106 [vi (gi M 109 ((((5 : Int32) * l1) + (3 : Int32))).toNatClampNeg), vr (some (97, 1, 0))] Q
    refine sX8_codeAttempt_106 (d := (d + 1)) (si (si (si (si (si (si (si M 97 60 l5) 97 59 l6) 123 ((gi M 97 46)).toNatClampNeg (28 : Int32)) 124 ((gi M 97 46)).toNatClampNeg (0 : Int32)) 125 ((gi M 97 46)).toNatClampNeg (0 : Int32)) 126 ((gi M 97 46)).toNatClampNeg (gi M 97 56)) 97 46 ((gi M 97 46) + (1 : Int32))) l1 l3 l4 l5 l6 (gi M 109 ((((5 : Int32) * l1) + (3 : Int32))).toNatClampNeg) ?_
    exact k
theorem iX8_codeAttempt_109 {E : zE} {d : Nat} {Q : zO → zM → Prop} (M : zM) (l1 : Int32) (l3 : Int32) (l4 : Int32) (l5 : Int32) (l6 : Int32) (k : if (gi M 97 46) = (600 : Int32) then (vp_in l3 8000 ∧ (Zm E YX8_wrapIn d (si (si M 97 47 (1 : Int32)) 128 (l3).toNatClampNeg (gi M 97 46)) (zargs 0 [vr (some (97, 1, 0)), vi (2 : Int32), vi (-1 : Int32), vi (0 : Int32), vi (0 : Int32)]) 0 [] (zma E YX8_codeAttempt (d + 1) [(0, vr (some (97, 1, 0))), (1, vi l1), (4, vi l4), (5, vi l5), (6, vi l6)] 128 3 [] Q))) else (vp_in (gi M 97 46) 600 ∧ (vp_in l3 8000 ∧ (Zm E YX8_wrapIn d (si (si (si (si (si (si M 123 ((gi M 97 46)).toNatClampNeg (21 : Int32)) 124 ((gi M 97 46)).toNatClampNeg l4) 125 ((gi M 97 46)).toNatClampNeg (0 : Int32)) 126 ((gi M 97 46)).toNatClampNeg (gi M 97 56)) 97 46 ((gi M 97 46) + (1 : Int32))) 128 (l3).toNatClampNeg ((gi M 97 46) + (1 : Int32))) (zargs 0 [vr (some (97, 1, 0)), vi (2 : Int32), vi (-1 : Int32), vi (0 : Int32), vi (0 : Int32)]) 0 [] (zma E YX8_codeAttempt (d + 1) [(0, vr (some (97, 1, 0))), (1, vi l1), (4, vi l4), (5, vi l5), (6, vi l6)] 128 3 [] Q))))) : Zm E YX8_codeAttempt (d + 1) M [(0, vr (some (97, 1, 0))), (1, vi l1), (3, vi l3), (4, vi l4), (5, vi l5), (6, vi l6)] 109 [] Q := by
  refine sX8_codeAttempt_109 (d := d) M l1 l3 l4 l5 l6 ?_
  refine jX8_emit (d := d) M (21 : Int32) l4 (0 : Int32) ?_
  refine zite k (fun h5030 k => ?_) (fun h5030 k => ?_)
  · show Zm E YX8_codeAttempt (d + 1) (si M 97 47 (1 : Int32)) [(0, vr (some (97, 1, 0))), (1, vi l1), (3, vi l3), (4, vi l4), (5, vi l5), (6, vi l6)] 118 [] Q
    refine sX8_codeAttempt_118 (d := d) (si M 97 47 (1 : Int32)) l1 l3 l4 l5 l6 ?_
    refine sX8_here_0 (d := d) (si M 97 47 (1 : Int32)) l3 ?_
    refine zand k (fun h5031 k => ?_)
    show Zm E YX8_codeAttempt (d + 1) (si (si M 97 47 (1 : Int32)) 128 (l3).toNatClampNeg (gi M 97 46)) [(0, vr (some (97, 1, 0))), (1, vi l1), (4, vi l4), (5, vi l5), (6, vi l6)] 123 [] Q
    refine sX8_codeAttempt_123 (d := d) (si (si M 97 47 (1 : Int32)) 128 (l3).toNatClampNeg (gi M 97 46)) l1 l4 l5 l6 ?_
    exact k
  · refine zand k (fun h5032 k => ?_)
    show Zm E YX8_codeAttempt (d + 1) (si (si (si (si (si M 123 ((gi M 97 46)).toNatClampNeg (21 : Int32)) 124 ((gi M 97 46)).toNatClampNeg l4) 125 ((gi M 97 46)).toNatClampNeg (0 : Int32)) 126 ((gi M 97 46)).toNatClampNeg (gi M 97 56)) 97 46 ((gi M 97 46) + (1 : Int32))) [(0, vr (some (97, 1, 0))), (1, vi l1), (3, vi l3), (4, vi l4), (5, vi l5), (6, vi l6)] 118 [] Q
    refine sX8_codeAttempt_118 (d := d) (si (si (si (si (si M 123 ((gi M 97 46)).toNatClampNeg (21 : Int32)) 124 ((gi M 97 46)).toNatClampNeg l4) 125 ((gi M 97 46)).toNatClampNeg (0 : Int32)) 126 ((gi M 97 46)).toNatClampNeg (gi M 97 56)) 97 46 ((gi M 97 46) + (1 : Int32))) l1 l3 l4 l5 l6 ?_
    refine sX8_here_0 (d := d) (si (si (si (si (si M 123 ((gi M 97 46)).toNatClampNeg (21 : Int32)) 124 ((gi M 97 46)).toNatClampNeg l4) 125 ((gi M 97 46)).toNatClampNeg (0 : Int32)) 126 ((gi M 97 46)).toNatClampNeg (gi M 97 56)) 97 46 ((gi M 97 46) + (1 : Int32))) l3 ?_
    refine zand k (fun h5033 k => ?_)
    show Zm E YX8_codeAttempt (d + 1) (si (si (si (si (si (si M 123 ((gi M 97 46)).toNatClampNeg (21 : Int32)) 124 ((gi M 97 46)).toNatClampNeg l4) 125 ((gi M 97 46)).toNatClampNeg (0 : Int32)) 126 ((gi M 97 46)).toNatClampNeg (gi M 97 56)) 97 46 ((gi M 97 46) + (1 : Int32))) 128 (l3).toNatClampNeg ((gi M 97 46) + (1 : Int32))) [(0, vr (some (97, 1, 0))), (1, vi l1), (4, vi l4), (5, vi l5), (6, vi l6)] 123 [] Q
    refine sX8_codeAttempt_123 (d := d) (si (si (si (si (si (si M 123 ((gi M 97 46)).toNatClampNeg (21 : Int32)) 124 ((gi M 97 46)).toNatClampNeg l4) 125 ((gi M 97 46)).toNatClampNeg (0 : Int32)) 126 ((gi M 97 46)).toNatClampNeg (gi M 97 56)) 97 46 ((gi M 97 46) + (1 : Int32))) 128 (l3).toNatClampNeg ((gi M 97 46) + (1 : Int32))) l1 l4 l5 l6 ?_
    exact k
theorem iX8_codeAttempt_131 {E : zE} {d : Nat} {Q : zO → zM → Prop} (M : zM) (l1 : Int32) (l4 : Int32) (l5 : Int32) (l6 : Int32) (k : vp_in (((5 : Int32) * l1) + (3 : Int32)) 60000 ∧ (Zm E YX8_codes d M (zargs 0 [vr (some (97, 1, 0)), vi (gi M 109 ((((5 : Int32) * l1) + (3 : Int32))).toNatClampNeg)]) 0 [] (zma E YX8_codeAttempt (d + 1) [(0, vr (some (97, 1, 0))), (4, vi l4), (5, vi l5), (6, vi l6)] 138 3 [] Q))) : Zm E YX8_codeAttempt (d + 1) M [(0, vr (some (97, 1, 0))), (1, vi l1), (4, vi l4), (5, vi l5), (6, vi l6)] 131 [] Q := by
  refine sX8_codeAttempt_131 (d := d) M l1 l4 l5 l6 ?_
  refine sX8_part_0 (d := d) M l1 (3 : Int32) ?_
  refine zand k (fun h5034 k => ?_)
  show Zm E YX8_codeAttempt (d + 1) M [(0, vr (some (97, 1, 0))), (4, vi l4), (5, vi l5), (6, vi l6)] 138 [vi (gi M 109 ((((5 : Int32) * l1) + (3 : Int32))).toNatClampNeg), vr (some (97, 1, 0))] Q
  refine sX8_codeAttempt_138 (d := d) M l4 l5 l6 (gi M 109 ((((5 : Int32) * l1) + (3 : Int32))).toNatClampNeg) ?_
  exact k
theorem iX8_codeAttempt_141 {E : zE} {d : Nat} {Q : zO → zM → Prop} (M : zM) (l4 : Int32) (l5 : Int32) (l6 : Int32) (k : if (gi M 97 46) = (600 : Int32) then (vp_in l4 8000 ∧ (Q (.inl none) (si (si (si (si M 97 60 l5) 97 59 l6) 97 47 (1 : Int32)) 128 (l4).toNatClampNeg (gi M 97 46)))) else (vp_in (gi M 97 46) 600 ∧ (vp_in l4 8000 ∧ (Q (.inl none) (si (si (si (si (si (si (si (si M 97 60 l5) 97 59 l6) 123 ((gi M 97 46)).toNatClampNeg (26 : Int32)) 124 ((gi M 97 46)).toNatClampNeg (0 : Int32)) 125 ((gi M 97 46)).toNatClampNeg (0 : Int32)) 126 ((gi M 97 46)).toNatClampNeg (gi M 97 56)) 97 46 ((gi M 97 46) + (1 : Int32))) 128 (l4).toNatClampNeg ((gi M 97 46) + (1 : Int32))))))) : Zm E YX8_codeAttempt (d + 2) M [(0, vr (some (97, 1, 0))), (4, vi l4), (5, vi l5), (6, vi l6)] 141 [] Q := by
  refine sX8_codeAttempt_141 (d := (d + 1)) M l4 l5 l6 ?_
  refine sX8_unwrap_0 (d := (d + 1)) M l5 l6 ?_
  show Zm E YX8_codeAttempt ((d + 1) + 1) (si (si M 97 60 l5) 97 59 l6) [(0, vr (some (97, 1, 0))), (4, vi l4)] 149 [] Q
  refine sX8_codeAttempt_149 (d := (d + 1)) (si (si M 97 60 l5) 97 59 l6) l4 ?_
  refine jX8_emit_2 (d := d) (si (si M 97 60 l5) 97 59 l6) (26 : Int32) ?_
  refine zite k (fun h5035 k => ?_) (fun h5035 k => ?_)
  · show Zm E YX8_codeAttempt ((d + 1) + 1) (si (si (si M 97 60 l5) 97 59 l6) 97 47 (1 : Int32)) [(0, vr (some (97, 1, 0))), (4, vi l4)] 155 [] Q
    refine sX8_codeAttempt_155 (d := (d + 1)) (si (si (si M 97 60 l5) 97 59 l6) 97 47 (1 : Int32)) l4 ?_
    refine sX8_here_0 (d := (d + 1)) (si (si (si M 97 60 l5) 97 59 l6) 97 47 (1 : Int32)) l4 ?_
    refine zand k (fun h5036 k => ?_)
    show Zm E YX8_codeAttempt ((d + 1) + 1) (si (si (si (si M 97 60 l5) 97 59 l6) 97 47 (1 : Int32)) 128 (l4).toNatClampNeg (gi M 97 46)) [] 161 [] Q
    refine sX8_codeAttempt_161 (d := (d + 1)) (si (si (si (si M 97 60 l5) 97 59 l6) 97 47 (1 : Int32)) 128 (l4).toNatClampNeg (gi M 97 46))  ?_
    exact k
  · refine zand k (fun h5037 k => ?_)
    show Zm E YX8_codeAttempt ((d + 1) + 1) (si (si (si (si (si (si (si M 97 60 l5) 97 59 l6) 123 ((gi M 97 46)).toNatClampNeg (26 : Int32)) 124 ((gi M 97 46)).toNatClampNeg (0 : Int32)) 125 ((gi M 97 46)).toNatClampNeg (0 : Int32)) 126 ((gi M 97 46)).toNatClampNeg (gi M 97 56)) 97 46 ((gi M 97 46) + (1 : Int32))) [(0, vr (some (97, 1, 0))), (4, vi l4)] 155 [] Q
    refine sX8_codeAttempt_155 (d := (d + 1)) (si (si (si (si (si (si (si M 97 60 l5) 97 59 l6) 123 ((gi M 97 46)).toNatClampNeg (26 : Int32)) 124 ((gi M 97 46)).toNatClampNeg (0 : Int32)) 125 ((gi M 97 46)).toNatClampNeg (0 : Int32)) 126 ((gi M 97 46)).toNatClampNeg (gi M 97 56)) 97 46 ((gi M 97 46) + (1 : Int32))) l4 ?_
    refine sX8_here_0 (d := (d + 1)) (si (si (si (si (si (si (si M 97 60 l5) 97 59 l6) 123 ((gi M 97 46)).toNatClampNeg (26 : Int32)) 124 ((gi M 97 46)).toNatClampNeg (0 : Int32)) 125 ((gi M 97 46)).toNatClampNeg (0 : Int32)) 126 ((gi M 97 46)).toNatClampNeg (gi M 97 56)) 97 46 ((gi M 97 46) + (1 : Int32))) l4 ?_
    refine zand k (fun h5038 k => ?_)
    show Zm E YX8_codeAttempt ((d + 1) + 1) (si (si (si (si (si (si (si (si M 97 60 l5) 97 59 l6) 123 ((gi M 97 46)).toNatClampNeg (26 : Int32)) 124 ((gi M 97 46)).toNatClampNeg (0 : Int32)) 125 ((gi M 97 46)).toNatClampNeg (0 : Int32)) 126 ((gi M 97 46)).toNatClampNeg (gi M 97 56)) 97 46 ((gi M 97 46) + (1 : Int32))) 128 (l4).toNatClampNeg ((gi M 97 46) + (1 : Int32))) [] 161 [] Q
    refine sX8_codeAttempt_161 (d := (d + 1)) (si (si (si (si (si (si (si (si M 97 60 l5) 97 59 l6) 123 ((gi M 97 46)).toNatClampNeg (26 : Int32)) 124 ((gi M 97 46)).toNatClampNeg (0 : Int32)) 125 ((gi M 97 46)).toNatClampNeg (0 : Int32)) 126 ((gi M 97 46)).toNatClampNeg (gi M 97 56)) 97 46 ((gi M 97 46) + (1 : Int32))) 128 (l4).toNatClampNeg ((gi M 97 46) + (1 : Int32)))  ?_
    exact k
theorem iX8_codeCases_5 {E : zE} {d : Nat} {Q : zO → zM → Prop} (M : zM) (l2 : Int32) (k : Zm E YX8_codeCases (d + 1) (si M 97 53 ((gi M 97 53) + (1 : Int32))) [(0, vr (some (97, 1, 0))), (2, vi l2), (3, vi (((gi M 97 53) + (1 : Int32)) - (1 : Int32))), (4, vi (-1 : Int32)), (6, vi l2)] 22 [] Q) : Zm E YX8_codeCases (d + 1) M [(0, vr (some (97, 1, 0))), (2, vi l2)] 5 [] Q := by
  refine sX8_codeCases_5 (d := d) M l2 ?_
  refine sX8_mark_0 (d := d) M  ?_
  show Zm E YX8_codeCases (d + 1) (si M 97 53 ((gi M 97 53) + (1 : Int32))) [(0, vr (some (97, 1, 0))), (2, vi l2)] 9 [vi (((gi M 97 53) + (1 : Int32)) - (1 : Int32))] Q
  refine sX8_codeCases_9 (d := d) (si M 97 53 ((gi M 97 53) + (1 : Int32))) l2 (((gi M 97 53) + (1 : Int32)) - (1 : Int32)) ?_
  exact k
theorem iX8_codeCases_22 {E : zE} {d : Nat} {Q : zO → zM → Prop} (M : zM) (l2 : Int32) (l3 : Int32) (l4 : Int32) (l6 : Int32) (k : if l6 = (-1 : Int32) then (Zm E YX8_codeCases (d + 1) M [(0, vr (some (97, 1, 0))), (2, vi l2), (3, vi l3), (4, vi l4), (6, vi l2)] 58 [] Q) else (vp_in (((5 : Int32) * l6) + (2 : Int32)) 60000 ∧ (vp_in l6 12000 ∧ (Zm E YX8_codeCases (d + 1) (si (si M 97 53 ((gi M 97 53) + (1 : Int32))) 109 ((((5 : Int32) * l6) + (2 : Int32))).toNatClampNeg (((gi M 97 53) + (1 : Int32)) - (1 : Int32))) [(0, vr (some (97, 1, 0))), (2, vi l2), (3, vi l3), (4, vi l4), (6, vi (gi M 110 (l6).toNatClampNeg))] 22 [] Q)))) : Zm E YX8_codeCases (d + 1) M [(0, vr (some (97, 1, 0))), (2, vi l2), (3, vi l3), (4, vi l4), (6, vi l6)] 22 [] Q := by
  refine sX8_codeCases_22 (d := d) M l2 l3 l4 l6 ?_
  refine zite k (fun h5039 k => ?_) (fun h5039 k => ?_)
  · exact k
  · refine sX8_mark_0 (d := d) M  ?_
    show Zm E YX8_codeCases (d + 1) (si M 97 53 ((gi M 97 53) + (1 : Int32))) [(0, vr (some (97, 1, 0))), (2, vi l2), (3, vi l3), (4, vi l4), (6, vi l6)] 42 [vi (((gi M 97 53) + (1 : Int32)) - (1 : Int32)), vi (((5 : Int32) * l6) + (2 : Int32)), vr (some (109, 100, 60000))] Q
    refine sX8_codeCases_42 (d := d) (si M 97 53 ((gi M 97 53) + (1 : Int32))) l2 l3 l4 l6 (((gi M 97 53) + (1 : Int32)) - (1 : Int32)) (((5 : Int32) * l6) + (2 : Int32)) ?_
    exact k
theorem iX8_codeCases_58 {E : zE} {d : Nat} {Q : zO → zM → Prop} (M : zM) (l2 : Int32) (l3 : Int32) (l4 : Int32) (l6 : Int32) (k : if l6 = (-1 : Int32) then (Zm E YX8_emit_2 d M (zargs 0 [vr (some (97, 1, 0)), vi (17 : Int32)]) 0 [] (zma E YX8_codeCases (d + 1) [(0, vr (some (97, 1, 0))), (2, vi l2), (3, vi l3), (4, vi l4)] 176 3 [] Q)) else (if (gi M 97 47) = 0 then (vp_in (((5 : Int32) * l6) + (0 : Int32)) 60000 ∧ (if (gi M 109 ((((5 : Int32) * l6) + (0 : Int32))).toNatClampNeg) = (-1 : Int32) then (vp_in (((5 : Int32) * l6) + (2 : Int32)) 60000 ∧ (vp_in l6 12000 ∧ (Zm E YX8_codeCases (d + 1) M [(0, vr (some (97, 1, 0))), (2, vi l2), (3, vi l3), (4, vi (gi M 109 ((((5 : Int32) * l6) + (2 : Int32))).toNatClampNeg)), (6, vi (gi M 110 (l6).toNatClampNeg))] 58 [] Q))) else (Zm E YX8_emit_2 d (si M 97 53 ((gi M 97 53) + (1 : Int32))) (zargs 0 [vr (some (97, 1, 0)), vi (18 : Int32)]) 0 [] (zma E YX8_codeCases (d + 1) [(0, vr (some (97, 1, 0))), (2, vi l2), (3, vi l3), (4, vi l4), (6, vi l6), (7, vi (((gi M 97 53) + (1 : Int32)) - (1 : Int32)))] 103 3 [] Q)))) else (Zm E YX8_emit_2 d M (zargs 0 [vr (some (97, 1, 0)), vi (17 : Int32)]) 0 [] (zma E YX8_codeCases (d + 1) [(0, vr (some (97, 1, 0))), (2, vi l2), (3, vi l3), (4, vi l4)] 176 3 [] Q)))) : Zm E YX8_codeCases (d + 1) M [(0, vr (some (97, 1, 0))), (2, vi l2), (3, vi l3), (4, vi l4), (6, vi l6)] 58 [] Q := by
  refine sX8_codeCases_58 (d := d) M l2 l3 l4 l6 ?_
  refine zite k (fun h5092 k => ?_) (fun h5092 k => ?_)
  · exact k
  · refine zite k (fun h5093 k => ?_) (fun h5093 k => ?_)
    · refine sX8_part_0 (d := d) M l6 (0 : Int32) ?_
      refine zand k (fun h5094 k => ?_)
      show Zm E YX8_codeCases (d + 1) M [(0, vr (some (97, 1, 0))), (2, vi l2), (3, vi l3), (4, vi l4), (6, vi l6)] 78 [vi (gi M 109 ((((5 : Int32) * l6) + (0 : Int32))).toNatClampNeg)] Q
      refine sX8_codeCases_78 (d := d) M l2 l3 l4 l6 (gi M 109 ((((5 : Int32) * l6) + (0 : Int32))).toNatClampNeg) ?_
      refine zite k (fun h5095 k => ?_) (fun h5095 k => ?_)
      · refine sX8_part_0 (d := d) M l6 (2 : Int32) ?_
        refine zand k (fun h5096 k => ?_)
        show Zm E YX8_codeCases (d + 1) M [(0, vr (some (97, 1, 0))), (2, vi l2), (3, vi l3), (6, vi l6)] 89 [vi (gi M 109 ((((5 : Int32) * l6) + (2 : Int32))).toNatClampNeg)] Q
        refine sX8_codeCases_89 (d := d) M l2 l3 l6 (gi M 109 ((((5 : Int32) * l6) + (2 : Int32))).toNatClampNeg) ?_
        refine sX8_codeCases_161 (d := d) M l2 l3 (gi M 109 ((((5 : Int32) * l6) + (2 : Int32))).toNatClampNeg) l6 ?_
        exact k
      · refine sX8_mark_0 (d := d) M  ?_
        show Zm E YX8_codeCases (d + 1) (si M 97 53 ((gi M 97 53) + (1 : Int32))) [(0, vr (some (97, 1, 0))), (2, vi l2), (3, vi l3), (4, vi l4), (6, vi l6)] 98 [vi (((gi M 97 53) + (1 : Int32)) - (1 : Int32))] Q
        refine sX8_codeCases_98 (d := d) (si M 97 53 ((gi M 97 53) + (1 : Int32))) l2 l3 l4 l6 (((gi M 97 53) + (1 : Int32)) - (1 : Int32)) ?_
        exact k
    · exact k
theorem iX8_codeCases_179 {E : zE} {d : Nat} {Q : zO → zM → Prop} (M : zM) (l2 : Int32) (l3 : Int32) (l4 : Int32) (k : if l4 = (-1 : Int32) then (if (gi M 97 46) = (600 : Int32) then (Zm E YX8_wrapIn d (si M 97 47 (1 : Int32)) (zargs 0 [vr (some (97, 1, 0)), vi (5 : Int32), vi (-1 : Int32), vi l3, vi (0 : Int32)]) 0 [] (zma E YX8_codeCases (d + 1) [(0, vr (some (97, 1, 0))), (2, vi l2), (3, vi l3), (6, vi (gi M 97 60)), (7, vi (gi M 97 59))] 215 3 [] Q)) else (vp_in (gi M 97 46) 600 ∧ (Zm E YX8_wrapIn d (si (si (si (si (si M 123 ((gi M 97 46)).toNatClampNeg (21 : Int32)) 124 ((gi M 97 46)).toNatClampNeg l3) 125 ((gi M 97 46)).toNatClampNeg (0 : Int32)) 126 ((gi M 97 46)).toNatClampNeg (gi M 97 56)) 97 46 ((gi M 97 46) + (1 : Int32))) (zargs 0 [vr (some (97, 1, 0)), vi (5 : Int32), vi (-1 : Int32), vi l3, vi (0 : Int32)]) 0 [] (zma E YX8_codeCases (d + 1) [(0, vr (some (97, 1, 0))), (2, vi l2), (3, vi l3), (6, vi (gi M 97 60)), (7, vi (gi M 97 59))] 215 3 [] Q)))) else (if (gi M 97 46) = (600 : Int32) then (Zm E YX8_wrapIn d (si M 97 47 (1 : Int32)) (zargs 0 [vr (some (97, 1, 0)), vi (5 : Int32), vi (-1 : Int32), vi l3, vi (0 : Int32)]) 0 [] (zma E YX8_codeCases (d + 1) [(0, vr (some (97, 1, 0))), (2, vi l2), (3, vi l3), (6, vi (gi M 97 60)), (7, vi (gi M 97 59))] 215 3 [] Q)) else (vp_in (gi M 97 46) 600 ∧ (Zm E YX8_wrapIn d (si (si (si (si (si M 123 ((gi M 97 46)).toNatClampNeg (21 : Int32)) 124 ((gi M 97 46)).toNatClampNeg l4) 125 ((gi M 97 46)).toNatClampNeg (0 : Int32)) 126 ((gi M 97 46)).toNatClampNeg (gi M 97 56)) 97 46 ((gi M 97 46) + (1 : Int32))) (zargs 0 [vr (some (97, 1, 0)), vi (5 : Int32), vi (-1 : Int32), vi l3, vi (0 : Int32)]) 0 [] (zma E YX8_codeCases (d + 1) [(0, vr (some (97, 1, 0))), (2, vi l2), (3, vi l3), (6, vi (gi M 97 60)), (7, vi (gi M 97 59))] 215 3 [] Q))))) : Zm E YX8_codeCases (d + 1) M [(0, vr (some (97, 1, 0))), (2, vi l2), (3, vi l3), (4, vi l4)] 179 [] Q := by
  refine sX8_codeCases_179 (d := d) M l2 l3 l4 ?_
  refine zite k (fun h5098 k => ?_) (fun h5098 k => ?_)
  · refine jX8_emit (d := d) M (21 : Int32) l3 (0 : Int32) ?_
    refine zite k (fun h5099 k => ?_) (fun h5099 k => ?_)
    · show Zm E YX8_codeCases (d + 1) (si M 97 47 (1 : Int32)) [(0, vr (some (97, 1, 0))), (2, vi l2), (3, vi l3)] 198 [] Q
      refine sX8_codeCases_198 (d := d) (si M 97 47 (1 : Int32)) l2 l3 ?_
      exact k
    · refine zand k (fun h5100 k => ?_)
      show Zm E YX8_codeCases (d + 1) (si (si (si (si (si M 123 ((gi M 97 46)).toNatClampNeg (21 : Int32)) 124 ((gi M 97 46)).toNatClampNeg l3) 125 ((gi M 97 46)).toNatClampNeg (0 : Int32)) 126 ((gi M 97 46)).toNatClampNeg (gi M 97 56)) 97 46 ((gi M 97 46) + (1 : Int32))) [(0, vr (some (97, 1, 0))), (2, vi l2), (3, vi l3)] 198 [] Q
      refine sX8_codeCases_198 (d := d) (si (si (si (si (si M 123 ((gi M 97 46)).toNatClampNeg (21 : Int32)) 124 ((gi M 97 46)).toNatClampNeg l3) 125 ((gi M 97 46)).toNatClampNeg (0 : Int32)) 126 ((gi M 97 46)).toNatClampNeg (gi M 97 56)) 97 46 ((gi M 97 46) + (1 : Int32))) l2 l3 ?_
      exact k
  · refine jX8_emit (d := d) M (21 : Int32) l4 (0 : Int32) ?_
    refine zite k (fun h5101 k => ?_) (fun h5101 k => ?_)
    · show Zm E YX8_codeCases (d + 1) (si M 97 47 (1 : Int32)) [(0, vr (some (97, 1, 0))), (2, vi l2), (3, vi l3)] 198 [] Q
      refine sX8_codeCases_198 (d := d) (si M 97 47 (1 : Int32)) l2 l3 ?_
      exact k
    · refine zand k (fun h5102 k => ?_)
      show Zm E YX8_codeCases (d + 1) (si (si (si (si (si M 123 ((gi M 97 46)).toNatClampNeg (21 : Int32)) 124 ((gi M 97 46)).toNatClampNeg l4) 125 ((gi M 97 46)).toNatClampNeg (0 : Int32)) 126 ((gi M 97 46)).toNatClampNeg (gi M 97 56)) 97 46 ((gi M 97 46) + (1 : Int32))) [(0, vr (some (97, 1, 0))), (2, vi l2), (3, vi l3)] 198 [] Q
      refine sX8_codeCases_198 (d := d) (si (si (si (si (si M 123 ((gi M 97 46)).toNatClampNeg (21 : Int32)) 124 ((gi M 97 46)).toNatClampNeg l4) 125 ((gi M 97 46)).toNatClampNeg (0 : Int32)) 126 ((gi M 97 46)).toNatClampNeg (gi M 97 56)) 97 46 ((gi M 97 46) + (1 : Int32))) l2 l3 ?_
      exact k
theorem iX8_codeCases_106 {E : zE} {d : Nat} {Q : zO → zM → Prop} (M : zM) (l2 : Int32) (l3 : Int32) (l4 : Int32) (l6 : Int32) (l7 : Int32) (k : vp_in (((5 : Int32) * l6) + (0 : Int32)) 60000 ∧ (Zm E YX8_value d M (zargs 0 [vr (some (97, 1, 0)), vi (gi M 109 ((((5 : Int32) * l6) + (0 : Int32))).toNatClampNeg)]) 0 [] (zma E YX8_codeCases (d + 1) [(0, vr (some (97, 1, 0))), (2, vi l2), (3, vi l3), (4, vi l4), (6, vi l6), (7, vi l7)] 114 3 [] Q))) : Zm E YX8_codeCases (d + 1) M [(0, vr (some (97, 1, 0))), (2, vi l2), (3, vi l3), (4, vi l4), (6, vi l6), (7, vi l7)] 106 [] Q := by
  refine sX8_codeCases_106 (d := d) M l2 l3 l4 l6 l7 ?_
  refine sX8_part_0 (d := d) M l6 (0 : Int32) ?_
  refine zand k (fun h5103 k => ?_)
  show Zm E YX8_codeCases (d + 1) M [(0, vr (some (97, 1, 0))), (2, vi l2), (3, vi l3), (4, vi l4), (6, vi l6), (7, vi l7)] 114 [vi (gi M 109 ((((5 : Int32) * l6) + (0 : Int32))).toNatClampNeg), vr (some (97, 1, 0))] Q
  refine sX8_codeCases_114 (d := d) M l2 l3 l4 l6 l7 (gi M 109 ((((5 : Int32) * l6) + (0 : Int32))).toNatClampNeg) ?_
  exact k
theorem iX8_codeCases_221 {E : zE} {d : Nat} {Q : zO → zM → Prop} (M : zM) (l3 : Int32) (l6 : Int32) (l7 : Int32) (l8 : Int32) (k : if l8 = (-1 : Int32) then (vp_in l3 8000 ∧ (Q (.inl none) (si (si (si M 97 60 l6) 97 59 l7) 128 (l3).toNatClampNeg (gi M 97 46)))) else (if (gi M 97 47) = 0 then (vp_in (((5 : Int32) * l8) + (2 : Int32)) 60000 ∧ (vp_in (gi M 109 ((((5 : Int32) * l8) + (2 : Int32))).toNatClampNeg) 8000 ∧ (vp_in (((5 : Int32) * l8) + (1 : Int32)) 60000 ∧ (Zm E YX8_codes d (si M 128 ((gi M 109 ((((5 : Int32) * l8) + (2 : Int32))).toNatClampNeg)).toNatClampNeg (gi M 97 46)) (zargs 0 [vr (some (97, 1, 0)), vi (gi M 109 ((((5 : Int32) * l8) + (1 : Int32))).toNatClampNeg)]) 0 [] (zma E YX8_codeCases (d + 1) [(0, vr (some (97, 1, 0))), (3, vi l3), (6, vi l6), (7, vi l7), (8, vi l8)] 253 3 [] Q))))) else (vp_in l3 8000 ∧ (Q (.inl none) (si (si (si M 97 60 l6) 97 59 l7) 128 (l3).toNatClampNeg (gi M 97 46)))))) : Zm E YX8_codeCases (d + 1) M [(0, vr (some (97, 1, 0))), (3, vi l3), (6, vi l6), (7, vi l7), (8, vi l8)] 221 [] Q := by
  refine sX8_codeCases_221 (d := d) M l3 l6 l7 l8 ?_
  refine zite k (fun h5134 k => ?_) (fun h5134 k => ?_)
  · refine sX8_unwrap_0 (d := d) M l6 l7 ?_
    show Zm E YX8_codeCases (d + 1) (si (si M 97 60 l6) 97 59 l7) [(0, vr (some (97, 1, 0))), (3, vi l3)] 276 [] Q
    refine sX8_codeCases_276 (d := d) (si (si M 97 60 l6) 97 59 l7) l3 ?_
    refine sX8_here_0 (d := d) (si (si M 97 60 l6) 97 59 l7) l3 ?_
    refine zand k (fun h5135 k => ?_)
    show Zm E YX8_codeCases (d + 1) (si (si (si M 97 60 l6) 97 59 l7) 128 (l3).toNatClampNeg (gi M 97 46)) [] 281 [] Q
    refine sX8_codeCases_281 (d := d) (si (si (si M 97 60 l6) 97 59 l7) 128 (l3).toNatClampNeg (gi M 97 46))  ?_
    exact k
  · refine zite k (fun h5136 k => ?_) (fun h5136 k => ?_)
    · refine sX8_part_0 (d := d) M l8 (2 : Int32) ?_
      refine zand k (fun h5137 k => ?_)
      show Zm E YX8_codeCases (d + 1) M [(0, vr (some (97, 1, 0))), (3, vi l3), (6, vi l6), (7, vi l7), (8, vi l8)] 242 [vi (gi M 109 ((((5 : Int32) * l8) + (2 : Int32))).toNatClampNeg), vr (some (97, 1, 0))] Q
      refine sX8_codeCases_242 (d := d) M l3 l6 l7 l8 (gi M 109 ((((5 : Int32) * l8) + (2 : Int32))).toNatClampNeg) ?_
      refine sX8_here_0 (d := d) M (gi M 109 ((((5 : Int32) * l8) + (2 : Int32))).toNatClampNeg) ?_
      refine zand k (fun h5138 k => ?_)
      show Zm E YX8_codeCases (d + 1) (si M 128 ((gi M 109 ((((5 : Int32) * l8) + (2 : Int32))).toNatClampNeg)).toNatClampNeg (gi M 97 46)) [(0, vr (some (97, 1, 0))), (3, vi l3), (6, vi l6), (7, vi l7), (8, vi l8)] 245 [] Q
      refine sX8_codeCases_245 (d := d) (si M 128 ((gi M 109 ((((5 : Int32) * l8) + (2 : Int32))).toNatClampNeg)).toNatClampNeg (gi M 97 46)) l3 l6 l7 l8 ?_
      refine sX8_part_0 (d := d) (si M 128 ((gi M 109 ((((5 : Int32) * l8) + (2 : Int32))).toNatClampNeg)).toNatClampNeg (gi M 97 46)) l8 (1 : Int32) ?_
      refine zand k (fun h5139 k => ?_)
      show Zm E YX8_codeCases (d + 1) (si M 128 ((gi M 109 ((((5 : Int32) * l8) + (2 : Int32))).toNatClampNeg)).toNatClampNeg (gi M 97 46)) [(0, vr (some (97, 1, 0))), (3, vi l3), (6, vi l6), (7, vi l7), (8, vi l8)] 253 [vi (gi M 109 ((((5 : Int32) * l8) + (1 : Int32))).toNatClampNeg), vr (some (97, 1, 0))] Q
      refine sX8_codeCases_253 (d := d) (si M 128 ((gi M 109 ((((5 : Int32) * l8) + (2 : Int32))).toNatClampNeg)).toNatClampNeg (gi M 97 46)) l3 l6 l7 l8 (gi M 109 ((((5 : Int32) * l8) + (1 : Int32))).toNatClampNeg) ?_
      exact k
    · refine sX8_unwrap_0 (d := d) M l6 l7 ?_
      show Zm E YX8_codeCases (d + 1) (si (si M 97 60 l6) 97 59 l7) [(0, vr (some (97, 1, 0))), (3, vi l3)] 276 [] Q
      refine sX8_codeCases_276 (d := d) (si (si M 97 60 l6) 97 59 l7) l3 ?_
      refine sX8_here_0 (d := d) (si (si M 97 60 l6) 97 59 l7) l3 ?_
      refine zand k (fun h5140 k => ?_)
      show Zm E YX8_codeCases (d + 1) (si (si (si M 97 60 l6) 97 59 l7) 128 (l3).toNatClampNeg (gi M 97 46)) [] 281 [] Q
      refine sX8_codeCases_281 (d := d) (si (si (si M 97 60 l6) 97 59 l7) 128 (l3).toNatClampNeg (gi M 97 46))  ?_
      exact k
theorem iX8_codeCases_141 {E : zE} {d : Nat} {Q : zO → zM → Prop} (M : zM) (l2 : Int32) (l3 : Int32) (l4 : Int32) (l6 : Int32) (l7 : Int32) (k : vp_in (((5 : Int32) * l6) + (2 : Int32)) 60000 ∧ (if (gi M 97 46) = (600 : Int32) then (vp_in l7 8000 ∧ (vp_in l6 12000 ∧ (Zm E YX8_codeCases (d + 1) (si (si M 97 47 (1 : Int32)) 128 (l7).toNatClampNeg (gi M 97 46)) [(0, vr (some (97, 1, 0))), (2, vi l2), (3, vi l3), (4, vi l4), (6, vi (gi M 110 (l6).toNatClampNeg))] 58 [] Q))) else (vp_in (gi M 97 46) 600 ∧ (vp_in l7 8000 ∧ (vp_in l6 12000 ∧ (Zm E YX8_codeCases (d + 1) (si (si (si (si (si (si M 123 ((gi M 97 46)).toNatClampNeg (21 : Int32)) 124 ((gi M 97 46)).toNatClampNeg (gi M 109 ((((5 : Int32) * l6) + (2 : Int32))).toNatClampNeg)) 125 ((gi M 97 46)).toNatClampNeg (0 : Int32)) 126 ((gi M 97 46)).toNatClampNeg (gi M 97 56)) 97 46 ((gi M 97 46) + (1 : Int32))) 128 (l7).toNatClampNeg ((gi M 97 46) + (1 : Int32))) [(0, vr (some (97, 1, 0))), (2, vi l2), (3, vi l3), (4, vi l4), (6, vi (gi M 110 (l6).toNatClampNeg))] 58 [] Q)))))) : Zm E YX8_codeCases (d + 1) M [(0, vr (some (97, 1, 0))), (2, vi l2), (3, vi l3), (4, vi l4), (6, vi l6), (7, vi l7)] 141 [] Q := by
  refine sX8_codeCases_141 (d := d) M l2 l3 l4 l6 l7 ?_
  refine sX8_part_0 (d := d) M l6 (2 : Int32) ?_
  refine zand k (fun h5194 k => ?_)
  show Zm E YX8_codeCases (d + 1) M [(0, vr (some (97, 1, 0))), (2, vi l2), (3, vi l3), (4, vi l4), (6, vi l6), (7, vi l7)] 151 [vi (gi M 109 ((((5 : Int32) * l6) + (2 : Int32))).toNatClampNeg), vi (21 : Int32), vr (some (97, 1, 0))] Q
  refine sX8_codeCases_151 (d := d) M l2 l3 l4 l6 l7 (gi M 109 ((((5 : Int32) * l6) + (2 : Int32))).toNatClampNeg) (21 : Int32) ?_
  refine jX8_emit (d := d) M (21 : Int32) (gi M 109 ((((5 : Int32) * l6) + (2 : Int32))).toNatClampNeg) (0 : Int32) ?_
  refine zite k (fun h5195 k => ?_) (fun h5195 k => ?_)
  · show Zm E YX8_codeCases (d + 1) (si M 97 47 (1 : Int32)) [(0, vr (some (97, 1, 0))), (2, vi l2), (3, vi l3), (4, vi l4), (6, vi l6), (7, vi l7)] 155 [] Q
    refine sX8_codeCases_155 (d := d) (si M 97 47 (1 : Int32)) l2 l3 l4 l6 l7 ?_
    refine sX8_here_0 (d := d) (si M 97 47 (1 : Int32)) l7 ?_
    refine zand k (fun h5196 k => ?_)
    show Zm E YX8_codeCases (d + 1) (si (si M 97 47 (1 : Int32)) 128 (l7).toNatClampNeg (gi M 97 46)) [(0, vr (some (97, 1, 0))), (2, vi l2), (3, vi l3), (4, vi l4), (6, vi l6)] 161 [] Q
    refine sX8_codeCases_161 (d := d) (si (si M 97 47 (1 : Int32)) 128 (l7).toNatClampNeg (gi M 97 46)) l2 l3 l4 l6 ?_
    exact k
  · refine zand k (fun h5198 k => ?_)
    show Zm E YX8_codeCases (d + 1) (si (si (si (si (si M 123 ((gi M 97 46)).toNatClampNeg (21 : Int32)) 124 ((gi M 97 46)).toNatClampNeg (gi M 109 ((((5 : Int32) * l6) + (2 : Int32))).toNatClampNeg)) 125 ((gi M 97 46)).toNatClampNeg (0 : Int32)) 126 ((gi M 97 46)).toNatClampNeg (gi M 97 56)) 97 46 ((gi M 97 46) + (1 : Int32))) [(0, vr (some (97, 1, 0))), (2, vi l2), (3, vi l3), (4, vi l4), (6, vi l6), (7, vi l7)] 155 [] Q
    refine sX8_codeCases_155 (d := d) (si (si (si (si (si M 123 ((gi M 97 46)).toNatClampNeg (21 : Int32)) 124 ((gi M 97 46)).toNatClampNeg (gi M 109 ((((5 : Int32) * l6) + (2 : Int32))).toNatClampNeg)) 125 ((gi M 97 46)).toNatClampNeg (0 : Int32)) 126 ((gi M 97 46)).toNatClampNeg (gi M 97 56)) 97 46 ((gi M 97 46) + (1 : Int32))) l2 l3 l4 l6 l7 ?_
    refine sX8_here_0 (d := d) (si (si (si (si (si M 123 ((gi M 97 46)).toNatClampNeg (21 : Int32)) 124 ((gi M 97 46)).toNatClampNeg (gi M 109 ((((5 : Int32) * l6) + (2 : Int32))).toNatClampNeg)) 125 ((gi M 97 46)).toNatClampNeg (0 : Int32)) 126 ((gi M 97 46)).toNatClampNeg (gi M 97 56)) 97 46 ((gi M 97 46) + (1 : Int32))) l7 ?_
    refine zand k (fun h5199 k => ?_)
    show Zm E YX8_codeCases (d + 1) (si (si (si (si (si (si M 123 ((gi M 97 46)).toNatClampNeg (21 : Int32)) 124 ((gi M 97 46)).toNatClampNeg (gi M 109 ((((5 : Int32) * l6) + (2 : Int32))).toNatClampNeg)) 125 ((gi M 97 46)).toNatClampNeg (0 : Int32)) 126 ((gi M 97 46)).toNatClampNeg (gi M 97 56)) 97 46 ((gi M 97 46) + (1 : Int32))) 128 (l7).toNatClampNeg ((gi M 97 46) + (1 : Int32))) [(0, vr (some (97, 1, 0))), (2, vi l2), (3, vi l3), (4, vi l4), (6, vi l6)] 161 [] Q
    refine sX8_codeCases_161 (d := d) (si (si (si (si (si (si M 123 ((gi M 97 46)).toNatClampNeg (21 : Int32)) 124 ((gi M 97 46)).toNatClampNeg (gi M 109 ((((5 : Int32) * l6) + (2 : Int32))).toNatClampNeg)) 125 ((gi M 97 46)).toNatClampNeg (0 : Int32)) 126 ((gi M 97 46)).toNatClampNeg (gi M 97 56)) 97 46 ((gi M 97 46) + (1 : Int32))) 128 (l7).toNatClampNeg ((gi M 97 46) + (1 : Int32))) l2 l3 l4 l6 ?_
    exact k
theorem iX8_codeCatch_0 {E : zE} {d : Nat} {Q : zO → zM → Prop} (M : zM) (l1 : Int32) (k : if (gi M 97 46) = (600 : Int32) then (Zm E YX8_wrapIn d (si (si (si M 97 53 ((gi M 97 53) + (1 : Int32))) 97 53 (((gi M 97 53) + (1 : Int32)) + (1 : Int32))) 97 47 (1 : Int32)) (zargs 0 [vr (some (97, 1, 0)), vi (0 : Int32), vi (-1 : Int32), vi (0 : Int32), vi (0 : Int32)]) 0 [] (zma E YX8_codeCatch (d + 1) [(0, vr (some (97, 1, 0))), (1, vi l1), (2, vi (((gi M 97 53) + (1 : Int32)) - (1 : Int32))), (3, vi ((((gi M 97 53) + (1 : Int32)) + (1 : Int32)) - (1 : Int32))), (4, vi (gi M 97 60)), (5, vi (gi M 97 59))] 35 3 [] Q)) else (vp_in (gi M 97 46) 600 ∧ (Zm E YX8_wrapIn d (si (si (si (si (si (si (si M 97 53 ((gi M 97 53) + (1 : Int32))) 97 53 (((gi M 97 53) + (1 : Int32)) + (1 : Int32))) 123 ((gi M 97 46)).toNatClampNeg (27 : Int32)) 124 ((gi M 97 46)).toNatClampNeg (((gi M 97 53) + (1 : Int32)) - (1 : Int32))) 125 ((gi M 97 46)).toNatClampNeg (0 : Int32)) 126 ((gi M 97 46)).toNatClampNeg (gi M 97 56)) 97 46 ((gi M 97 46) + (1 : Int32))) (zargs 0 [vr (some (97, 1, 0)), vi (0 : Int32), vi (-1 : Int32), vi (0 : Int32), vi (0 : Int32)]) 0 [] (zma E YX8_codeCatch (d + 1) [(0, vr (some (97, 1, 0))), (1, vi l1), (2, vi (((gi M 97 53) + (1 : Int32)) - (1 : Int32))), (3, vi ((((gi M 97 53) + (1 : Int32)) + (1 : Int32)) - (1 : Int32))), (4, vi (gi M 97 60)), (5, vi (gi M 97 59))] 35 3 [] Q)))) : Zm E YX8_codeCatch (d + 1) M [(0, vr (some (97, 1, 0))), (1, vi l1)] 0 [] Q := by
  refine sX8_codeCatch_0 (d := d) M l1 ?_
  refine sX8_mark_0 (d := d) M  ?_
  show Zm E YX8_codeCatch (d + 1) (si M 97 53 ((gi M 97 53) + (1 : Int32))) [(0, vr (some (97, 1, 0))), (1, vi l1)] 4 [vi (((gi M 97 53) + (1 : Int32)) - (1 : Int32))] Q
  refine sX8_codeCatch_4 (d := d) (si M 97 53 ((gi M 97 53) + (1 : Int32))) l1 (((gi M 97 53) + (1 : Int32)) - (1 : Int32)) ?_
  refine sX8_mark_0 (d := d) (si M 97 53 ((gi M 97 53) + (1 : Int32)))  ?_
  show Zm E YX8_codeCatch (d + 1) (si (si M 97 53 ((gi M 97 53) + (1 : Int32))) 97 53 (((gi M 97 53) + (1 : Int32)) + (1 : Int32))) [(0, vr (some (97, 1, 0))), (1, vi l1), (2, vi (((gi M 97 53) + (1 : Int32)) - (1 : Int32)))] 9 [vi ((((gi M 97 53) + (1 : Int32)) + (1 : Int32)) - (1 : Int32))] Q
  refine sX8_codeCatch_9 (d := d) (si (si M 97 53 ((gi M 97 53) + (1 : Int32))) 97 53 (((gi M 97 53) + (1 : Int32)) + (1 : Int32))) l1 (((gi M 97 53) + (1 : Int32)) - (1 : Int32)) ((((gi M 97 53) + (1 : Int32)) + (1 : Int32)) - (1 : Int32)) ?_
  refine jX8_emit (d := d) (si (si M 97 53 ((gi M 97 53) + (1 : Int32))) 97 53 (((gi M 97 53) + (1 : Int32)) + (1 : Int32))) (27 : Int32) (((gi M 97 53) + (1 : Int32)) - (1 : Int32)) (0 : Int32) ?_
  refine zite k (fun h5201 k => ?_) (fun h5201 k => ?_)
  · show Zm E YX8_codeCatch (d + 1) (si (si (si M 97 53 ((gi M 97 53) + (1 : Int32))) 97 53 (((gi M 97 53) + (1 : Int32)) + (1 : Int32))) 97 47 (1 : Int32)) [(0, vr (some (97, 1, 0))), (1, vi l1), (2, vi (((gi M 97 53) + (1 : Int32)) - (1 : Int32))), (3, vi ((((gi M 97 53) + (1 : Int32)) + (1 : Int32)) - (1 : Int32))), (4, vi (gi M 97 60)), (5, vi (gi M 97 59))] 30 [] Q
    refine sX8_codeCatch_30 (d := d) (si (si (si M 97 53 ((gi M 97 53) + (1 : Int32))) 97 53 (((gi M 97 53) + (1 : Int32)) + (1 : Int32))) 97 47 (1 : Int32)) l1 (((gi M 97 53) + (1 : Int32)) - (1 : Int32)) ((((gi M 97 53) + (1 : Int32)) + (1 : Int32)) - (1 : Int32)) (gi M 97 60) (gi M 97 59) ?_
    exact k
  · refine zand k (fun h5202 k => ?_)
    show Zm E YX8_codeCatch (d + 1) (si (si (si (si (si (si (si M 97 53 ((gi M 97 53) + (1 : Int32))) 97 53 (((gi M 97 53) + (1 : Int32)) + (1 : Int32))) 123 ((gi M 97 46)).toNatClampNeg (27 : Int32)) 124 ((gi M 97 46)).toNatClampNeg (((gi M 97 53) + (1 : Int32)) - (1 : Int32))) 125 ((gi M 97 46)).toNatClampNeg (0 : Int32)) 126 ((gi M 97 46)).toNatClampNeg (gi M 97 56)) 97 46 ((gi M 97 46) + (1 : Int32))) [(0, vr (some (97, 1, 0))), (1, vi l1), (2, vi (((gi M 97 53) + (1 : Int32)) - (1 : Int32))), (3, vi ((((gi M 97 53) + (1 : Int32)) + (1 : Int32)) - (1 : Int32))), (4, vi (gi M 97 60)), (5, vi (gi M 97 59))] 30 [] Q
    refine sX8_codeCatch_30 (d := d) (si (si (si (si (si (si (si M 97 53 ((gi M 97 53) + (1 : Int32))) 97 53 (((gi M 97 53) + (1 : Int32)) + (1 : Int32))) 123 ((gi M 97 46)).toNatClampNeg (27 : Int32)) 124 ((gi M 97 46)).toNatClampNeg (((gi M 97 53) + (1 : Int32)) - (1 : Int32))) 125 ((gi M 97 46)).toNatClampNeg (0 : Int32)) 126 ((gi M 97 46)).toNatClampNeg (gi M 97 56)) 97 46 ((gi M 97 46) + (1 : Int32))) l1 (((gi M 97 53) + (1 : Int32)) - (1 : Int32)) ((((gi M 97 53) + (1 : Int32)) + (1 : Int32)) - (1 : Int32)) (gi M 97 60) (gi M 97 59) ?_
    exact k
theorem iX8_codeCatch_38 {E : zE} {d : Nat} {Q : zO → zM → Prop} (M : zM) (l1 : Int32) (l2 : Int32) (l3 : Int32) (l4 : Int32) (l5 : Int32) (k : vp_in (((5 : Int32) * l1) + (0 : Int32)) 60000 ∧ (Zm E YX8_codes d M (zargs 0 [vr (some (97, 1, 0)), vi (gi M 109 ((((5 : Int32) * l1) + (0 : Int32))).toNatClampNeg)]) 0 [] (zma E YX8_codeCatch (d + 1) [(0, vr (some (97, 1, 0))), (1, vi l1), (2, vi l2), (3, vi l3), (4, vi l4), (5, vi l5)] 45 3 [] Q))) : Zm E YX8_codeCatch (d + 1) M [(0, vr (some (97, 1, 0))), (1, vi l1), (2, vi l2), (3, vi l3), (4, vi l4), (5, vi l5)] 38 [] Q := by
  refine sX8_codeCatch_38 (d := d) M l1 l2 l3 l4 l5 ?_
  refine sX8_part_0 (d := d) M l1 (0 : Int32) ?_
  refine zand k (fun h5203 k => ?_)
  show Zm E YX8_codeCatch (d + 1) M [(0, vr (some (97, 1, 0))), (1, vi l1), (2, vi l2), (3, vi l3), (4, vi l4), (5, vi l5)] 45 [vi (gi M 109 ((((5 : Int32) * l1) + (0 : Int32))).toNatClampNeg), vr (some (97, 1, 0))] Q
  refine sX8_codeCatch_45 (d := d) M l1 l2 l3 l4 l5 (gi M 109 ((((5 : Int32) * l1) + (0 : Int32))).toNatClampNeg) ?_
  exact k
theorem iX8_codeCatch_48 {E : zE} {d : Nat} {Q : zO → zM → Prop} (M : zM) (l1 : Int32) (l2 : Int32) (l3 : Int32) (l4 : Int32) (l5 : Int32) (k : Zm E YX8_emit_2 d (si (si M 97 60 l4) 97 59 l5) (zargs 0 [vr (some (97, 1, 0)), vi (28 : Int32)]) 0 [] (zma E YX8_codeCatch (d + 1) [(0, vr (some (97, 1, 0))), (1, vi l1), (2, vi l2), (3, vi l3)] 59 3 [] Q)) : Zm E YX8_codeCatch (d + 1) M [(0, vr (some (97, 1, 0))), (1, vi l1), (2, vi l2), (3, vi l3), (4, vi l4), (5, vi l5)] 48 [] Q := by
  refine sX8_codeCatch_48 (d := d) M l1 l2 l3 l4 l5 ?_
  refine sX8_unwrap_0 (d := d) M l4 l5 ?_
  show Zm E YX8_codeCatch (d + 1) (si (si M 97 60 l4) 97 59 l5) [(0, vr (some (97, 1, 0))), (1, vi l1), (2, vi l2), (3, vi l3)] 56 [] Q
  refine sX8_codeCatch_56 (d := d) (si (si M 97 60 l4) 97 59 l5) l1 l2 l3 ?_
  exact k
theorem iX8_codeCatch_62 {E : zE} {d : Nat} {Q : zO → zM → Prop} (M : zM) (l1 : Int32) (l2 : Int32) (l3 : Int32) (k : if (gi M 97 46) = (600 : Int32) then (vp_in l2 8000 ∧ (vp_in (((5 : Int32) * l1) + (1 : Int32)) 60000 ∧ (Zm E YX8_set d (si (si M 97 47 (1 : Int32)) 128 (l2).toNatClampNeg (gi M 97 46)) (zargs 0 [vr (some (97, 1, 0)), vi (gi M 109 ((((5 : Int32) * l1) + (1 : Int32))).toNatClampNeg)]) 0 [] (zma E YX8_codeCatch (d + 1) [(0, vr (some (97, 1, 0))), (1, vi l1), (3, vi l3)] 82 3 [] Q)))) else (vp_in (gi M 97 46) 600 ∧ (vp_in l2 8000 ∧ (vp_in (((5 : Int32) * l1) + (1 : Int32)) 60000 ∧ (Zm E YX8_set d (si (si (si (si (si (si M 123 ((gi M 97 46)).toNatClampNeg (21 : Int32)) 124 ((gi M 97 46)).toNatClampNeg l3) 125 ((gi M 97 46)).toNatClampNeg (0 : Int32)) 126 ((gi M 97 46)).toNatClampNeg (gi M 97 56)) 97 46 ((gi M 97 46) + (1 : Int32))) 128 (l2).toNatClampNeg ((gi M 97 46) + (1 : Int32))) (zargs 0 [vr (some (97, 1, 0)), vi (gi M 109 ((((5 : Int32) * l1) + (1 : Int32))).toNatClampNeg)]) 0 [] (zma E YX8_codeCatch (d + 1) [(0, vr (some (97, 1, 0))), (1, vi l1), (3, vi l3)] 82 3 [] Q)))))) : Zm E YX8_codeCatch (d + 1) M [(0, vr (some (97, 1, 0))), (1, vi l1), (2, vi l2), (3, vi l3)] 62 [] Q := by
  refine sX8_codeCatch_62 (d := d) M l1 l2 l3 ?_
  refine jX8_emit (d := d) M (21 : Int32) l3 (0 : Int32) ?_
  refine zite k (fun h5222 k => ?_) (fun h5222 k => ?_)
  · show Zm E YX8_codeCatch (d + 1) (si M 97 47 (1 : Int32)) [(0, vr (some (97, 1, 0))), (1, vi l1), (2, vi l2), (3, vi l3)] 70 [] Q
    refine sX8_codeCatch_70 (d := d) (si M 97 47 (1 : Int32)) l1 l2 l3 ?_
    refine sX8_here_0 (d := d) (si M 97 47 (1 : Int32)) l2 ?_
    refine zand k (fun h5223 k => ?_)
    show Zm E YX8_codeCatch (d + 1) (si (si M 97 47 (1 : Int32)) 128 (l2).toNatClampNeg (gi M 97 46)) [(0, vr (some (97, 1, 0))), (1, vi l1), (3, vi l3)] 75 [] Q
    refine sX8_codeCatch_75 (d := d) (si (si M 97 47 (1 : Int32)) 128 (l2).toNatClampNeg (gi M 97 46)) l1 l3 ?_
    refine sX8_part_0 (d := d) (si (si M 97 47 (1 : Int32)) 128 (l2).toNatClampNeg (gi M 97 46)) l1 (1 : Int32) ?_
    refine zand k (fun h5224 k => ?_)
    show Zm E YX8_codeCatch (d + 1) (si (si M 97 47 (1 : Int32)) 128 (l2).toNatClampNeg (gi M 97 46)) [(0, vr (some (97, 1, 0))), (1, vi l1), (3, vi l3)] 82 [vi (gi M 109 ((((5 : Int32) * l1) + (1 : Int32))).toNatClampNeg), vr (some (97, 1, 0))] Q
    refine sX8_codeCatch_82 (d := d) (si (si M 97 47 (1 : Int32)) 128 (l2).toNatClampNeg (gi M 97 46)) l1 l3 (gi M 109 ((((5 : Int32) * l1) + (1 : Int32))).toNatClampNeg) ?_
    exact k
  · refine zand k (fun h5225 k => ?_)
    show Zm E YX8_codeCatch (d + 1) (si (si (si (si (si M 123 ((gi M 97 46)).toNatClampNeg (21 : Int32)) 124 ((gi M 97 46)).toNatClampNeg l3) 125 ((gi M 97 46)).toNatClampNeg (0 : Int32)) 126 ((gi M 97 46)).toNatClampNeg (gi M 97 56)) 97 46 ((gi M 97 46) + (1 : Int32))) [(0, vr (some (97, 1, 0))), (1, vi l1), (2, vi l2), (3, vi l3)] 70 [] Q
    refine sX8_codeCatch_70 (d := d) (si (si (si (si (si M 123 ((gi M 97 46)).toNatClampNeg (21 : Int32)) 124 ((gi M 97 46)).toNatClampNeg l3) 125 ((gi M 97 46)).toNatClampNeg (0 : Int32)) 126 ((gi M 97 46)).toNatClampNeg (gi M 97 56)) 97 46 ((gi M 97 46) + (1 : Int32))) l1 l2 l3 ?_
    refine sX8_here_0 (d := d) (si (si (si (si (si M 123 ((gi M 97 46)).toNatClampNeg (21 : Int32)) 124 ((gi M 97 46)).toNatClampNeg l3) 125 ((gi M 97 46)).toNatClampNeg (0 : Int32)) 126 ((gi M 97 46)).toNatClampNeg (gi M 97 56)) 97 46 ((gi M 97 46) + (1 : Int32))) l2 ?_
    refine zand k (fun h5226 k => ?_)
    show Zm E YX8_codeCatch (d + 1) (si (si (si (si (si (si M 123 ((gi M 97 46)).toNatClampNeg (21 : Int32)) 124 ((gi M 97 46)).toNatClampNeg l3) 125 ((gi M 97 46)).toNatClampNeg (0 : Int32)) 126 ((gi M 97 46)).toNatClampNeg (gi M 97 56)) 97 46 ((gi M 97 46) + (1 : Int32))) 128 (l2).toNatClampNeg ((gi M 97 46) + (1 : Int32))) [(0, vr (some (97, 1, 0))), (1, vi l1), (3, vi l3)] 75 [] Q
    refine sX8_codeCatch_75 (d := d) (si (si (si (si (si (si M 123 ((gi M 97 46)).toNatClampNeg (21 : Int32)) 124 ((gi M 97 46)).toNatClampNeg l3) 125 ((gi M 97 46)).toNatClampNeg (0 : Int32)) 126 ((gi M 97 46)).toNatClampNeg (gi M 97 56)) 97 46 ((gi M 97 46) + (1 : Int32))) 128 (l2).toNatClampNeg ((gi M 97 46) + (1 : Int32))) l1 l3 ?_
    refine sX8_part_0 (d := d) (si (si (si (si (si (si M 123 ((gi M 97 46)).toNatClampNeg (21 : Int32)) 124 ((gi M 97 46)).toNatClampNeg l3) 125 ((gi M 97 46)).toNatClampNeg (0 : Int32)) 126 ((gi M 97 46)).toNatClampNeg (gi M 97 56)) 97 46 ((gi M 97 46) + (1 : Int32))) 128 (l2).toNatClampNeg ((gi M 97 46) + (1 : Int32))) l1 (1 : Int32) ?_
    refine zand k (fun h5227 k => ?_)
    show Zm E YX8_codeCatch (d + 1) (si (si (si (si (si (si M 123 ((gi M 97 46)).toNatClampNeg (21 : Int32)) 124 ((gi M 97 46)).toNatClampNeg l3) 125 ((gi M 97 46)).toNatClampNeg (0 : Int32)) 126 ((gi M 97 46)).toNatClampNeg (gi M 97 56)) 97 46 ((gi M 97 46) + (1 : Int32))) 128 (l2).toNatClampNeg ((gi M 97 46) + (1 : Int32))) [(0, vr (some (97, 1, 0))), (1, vi l1), (3, vi l3)] 82 [vi (gi M 109 ((((5 : Int32) * l1) + (1 : Int32))).toNatClampNeg), vr (some (97, 1, 0))] Q
    refine sX8_codeCatch_82 (d := d) (si (si (si (si (si (si M 123 ((gi M 97 46)).toNatClampNeg (21 : Int32)) 124 ((gi M 97 46)).toNatClampNeg l3) 125 ((gi M 97 46)).toNatClampNeg (0 : Int32)) 126 ((gi M 97 46)).toNatClampNeg (gi M 97 56)) 97 46 ((gi M 97 46) + (1 : Int32))) 128 (l2).toNatClampNeg ((gi M 97 46) + (1 : Int32))) l1 l3 (gi M 109 ((((5 : Int32) * l1) + (1 : Int32))).toNatClampNeg) ?_
    exact k
theorem iX8_codeCatch_85 {E : zE} {d : Nat} {Q : zO → zM → Prop} (M : zM) (l1 : Int32) (l3 : Int32) (k : if (gi M 97 46) = (600 : Int32) then (vp_in (((5 : Int32) * l1) + (2 : Int32)) 60000 ∧ (Zm E YX8_codes (d + 1) (si M 97 47 (1 : Int32)) (zargs 0 [vr (some (97, 1, 0)), vi (gi M 109 ((((5 : Int32) * l1) + (2 : Int32))).toNatClampNeg)]) 0 [] (zma E YX8_codeCatch ((d + 1) + 1) [(0, vr (some (97, 1, 0))), (3, vi l3)] 98 3 [] Q))) else (vp_in (gi M 97 46) 600 ∧ (vp_in (((5 : Int32) * l1) + (2 : Int32)) 60000 ∧ (Zm E YX8_codes (d + 1) (si (si (si (si (si M 123 ((gi M 97 46)).toNatClampNeg (17 : Int32)) 124 ((gi M 97 46)).toNatClampNeg (0 : Int32)) 125 ((gi M 97 46)).toNatClampNeg (0 : Int32)) 126 ((gi M 97 46)).toNatClampNeg (gi M 97 56)) 97 46 ((gi M 97 46) + (1 : Int32))) (zargs 0 [vr (some (97, 1, 0)), vi (gi M 109 ((((5 : Int32) * l1) + (2 : Int32))).toNatClampNeg)]) 0 [] (zma E YX8_codeCatch ((d + 1) + 1) [(0, vr (some (97, 1, 0))), (3, vi l3)] 98 3 [] Q))))) : Zm E YX8_codeCatch (d + 2) M [(0, vr (some (97, 1, 0))), (1, vi l1), (3, vi l3)] 85 [] Q := by
  refine sX8_codeCatch_85 (d := (d + 1)) M l1 l3 ?_
  refine jX8_emit_2 (d := d) M (17 : Int32) ?_
  refine zite k (fun h5228 k => ?_) (fun h5228 k => ?_)
  · show Zm E YX8_codeCatch ((d + 1) + 1) (si M 97 47 (1 : Int32)) [(0, vr (some (97, 1, 0))), (1, vi l1), (3, vi l3)] 91 [] Q
    refine sX8_codeCatch_91 (d := (d + 1)) (si M 97 47 (1 : Int32)) l1 l3 ?_
    refine sX8_part_0 (d := (d + 1)) (si M 97 47 (1 : Int32)) l1 (2 : Int32) ?_
    refine zand k (fun h5229 k => ?_)
    show Zm E YX8_codeCatch ((d + 1) + 1) (si M 97 47 (1 : Int32)) [(0, vr (some (97, 1, 0))), (3, vi l3)] 98 [vi (gi M 109 ((((5 : Int32) * l1) + (2 : Int32))).toNatClampNeg), vr (some (97, 1, 0))] Q
    refine sX8_codeCatch_98 (d := (d + 1)) (si M 97 47 (1 : Int32)) l3 (gi M 109 ((((5 : Int32) * l1) + (2 : Int32))).toNatClampNeg) ?_
    exact k
  · refine zand k (fun h5230 k => ?_)
    show Zm E YX8_codeCatch ((d + 1) + 1) (si (si (si (si (si M 123 ((gi M 97 46)).toNatClampNeg (17 : Int32)) 124 ((gi M 97 46)).toNatClampNeg (0 : Int32)) 125 ((gi M 97 46)).toNatClampNeg (0 : Int32)) 126 ((gi M 97 46)).toNatClampNeg (gi M 97 56)) 97 46 ((gi M 97 46) + (1 : Int32))) [(0, vr (some (97, 1, 0))), (1, vi l1), (3, vi l3)] 91 [] Q
    refine sX8_codeCatch_91 (d := (d + 1)) (si (si (si (si (si M 123 ((gi M 97 46)).toNatClampNeg (17 : Int32)) 124 ((gi M 97 46)).toNatClampNeg (0 : Int32)) 125 ((gi M 97 46)).toNatClampNeg (0 : Int32)) 126 ((gi M 97 46)).toNatClampNeg (gi M 97 56)) 97 46 ((gi M 97 46) + (1 : Int32))) l1 l3 ?_
    refine sX8_part_0 (d := (d + 1)) (si (si (si (si (si M 123 ((gi M 97 46)).toNatClampNeg (17 : Int32)) 124 ((gi M 97 46)).toNatClampNeg (0 : Int32)) 125 ((gi M 97 46)).toNatClampNeg (0 : Int32)) 126 ((gi M 97 46)).toNatClampNeg (gi M 97 56)) 97 46 ((gi M 97 46) + (1 : Int32))) l1 (2 : Int32) ?_
    refine zand k (fun h5231 k => ?_)
    show Zm E YX8_codeCatch ((d + 1) + 1) (si (si (si (si (si M 123 ((gi M 97 46)).toNatClampNeg (17 : Int32)) 124 ((gi M 97 46)).toNatClampNeg (0 : Int32)) 125 ((gi M 97 46)).toNatClampNeg (0 : Int32)) 126 ((gi M 97 46)).toNatClampNeg (gi M 97 56)) 97 46 ((gi M 97 46) + (1 : Int32))) [(0, vr (some (97, 1, 0))), (3, vi l3)] 98 [vi (gi M 109 ((((5 : Int32) * l1) + (2 : Int32))).toNatClampNeg), vr (some (97, 1, 0))] Q
    refine sX8_codeCatch_98 (d := (d + 1)) (si (si (si (si (si M 123 ((gi M 97 46)).toNatClampNeg (17 : Int32)) 124 ((gi M 97 46)).toNatClampNeg (0 : Int32)) 125 ((gi M 97 46)).toNatClampNeg (0 : Int32)) 126 ((gi M 97 46)).toNatClampNeg (gi M 97 56)) 97 46 ((gi M 97 46) + (1 : Int32))) l3 (gi M 109 ((((5 : Int32) * l1) + (2 : Int32))).toNatClampNeg) ?_
    exact k
theorem iX8_codeCatch_101 {E : zE} {d : Nat} {Q : zO → zM → Prop} (M : zM) (l3 : Int32) (k : vp_in l3 8000 ∧ (Q (.inl none) (si M 128 (l3).toNatClampNeg (gi M 97 46)))) : Zm E YX8_codeCatch (d + 1) M [(0, vr (some (97, 1, 0))), (3, vi l3)] 101 [] Q := by
  refine sX8_codeCatch_101 (d := d) M l3 ?_
  refine sX8_here_0 (d := d) M l3 ?_
  refine zand k (fun h5232 k => ?_)
  show Zm E YX8_codeCatch (d + 1) (si M 128 (l3).toNatClampNeg (gi M 97 46)) [] 106 [] Q
  refine sX8_codeCatch_106 (d := d) (si M 128 (l3).toNatClampNeg (gi M 97 46))  ?_
  exact k
theorem iX8_codeInside_26 {E : zE} {d : Nat} {Q : zO → zM → Prop} (M : zM) (l5 : Int32) (l6 : Int32) (k : Q (.inl none) (si (si M 97 60 l5) 97 59 l6)) : Zm E YX8_codeInside (d + 1) M [(0, vr (some (97, 1, 0))), (5, vi l5), (6, vi l6)] 26 [] Q := by
  refine sX8_codeInside_26 (d := d) M l5 l6 ?_
  refine sX8_unwrap_0 (d := d) M l5 l6 ?_
  show Zm E YX8_codeInside (d + 1) (si (si M 97 60 l5) 97 59 l6) [] 34 [] Q
  refine sX8_codeInside_34 (d := d) (si (si M 97 60 l5) 97 59 l6)  ?_
  exact k
theorem iX8_drop_0 {E : zE} {d : Nat} {Q : zO → zM → Prop} (M : zM) (l1 : Int32) (k : vp_in ((gi M 97 92) - (1 : Int32)) 24 ∧ (Q (.inl none) (si M 155 (((gi M 97 92) - (1 : Int32))).toNatClampNeg ((gi M 155 (((gi M 97 92) - (1 : Int32))).toNatClampNeg) - l1)))) : Zm E YX8_drop d M [(0, vr (some (97, 1, 0))), (1, vi l1)] 0 [] Q := by
  refine sX8_drop_0 (d := d) M l1 ?_
  refine zand k (fun h5233 k => ?_)
  refine ⟨h5233, ?_⟩
  exact k
theorem iX8_enterFrame_0 {E : zE} {d : Nat} {Q : zO → zM → Prop} (M : zM) (l1 : Int32) (l2 : Int32) (l3 : Int32) (l4 : Int32) (l5 : Int32) (k : vp_in (gi M 97 92) 24 ∧ (vp_in l1 12 ∧ (Q (.inl none) (si (si (si (si (si (si (si (si (si M 97 92 ((gi M 97 92) + (1 : Int32))) 150 ((gi M 97 92)).toNatClampNeg l1) 151 ((gi M 97 92)).toNatClampNeg l2) 152 ((gi M 97 92)).toNatClampNeg l3) 153 ((gi M 97 92)).toNatClampNeg l4) 154 ((gi M 97 92)).toNatClampNeg (gi M 127 (l1).toNatClampNeg)) 155 ((gi M 97 92)).toNatClampNeg (0 : Int32)) 156 ((gi M 97 92)).toNatClampNeg l5) 157 ((gi M 97 92)).toNatClampNeg (0 : Int32))))) : Zm E YX8_enterFrame d M [(0, vr (some (97, 1, 0))), (1, vi l1), (2, vi l2), (3, vi l3), (4, vi l4), (5, vi l5)] 0 [] Q := by
  refine sX8_enterFrame_0 (d := d) M l1 l2 l3 l4 l5 ?_
  refine zand k (fun h5234 k => ?_)
  refine ⟨h5234, ?_⟩
  refine ⟨h5234, ?_⟩
  refine ⟨h5234, ?_⟩
  refine zand k (fun h5235 k => ?_)
  refine ⟨h5234, ?_⟩
  refine ⟨h5234, ?_⟩
  refine ⟨h5234, ?_⟩
  refine ⟨h5234, ?_⟩
  exact k
theorem iX8_findProperty_7 {E : zE} {d : Nat} {Q : zO → zM → Prop} (M : zM) (l2 : Int32) (l3 : Int32) (k : if l3 = (-1 : Int32) then (Q (.inl (some (vi l3))) M) else (vp_in l3 3000 ∧ (if (gi M 145 (l3).toNatClampNeg) = l2 then (Q (.inl (some (vi l3))) M) else (Zm E YX8_findProperty d M [(0, vr (some (97, 1, 0))), (2, vi l2), (3, vi (gi M 149 (l3).toNatClampNeg))] 7 [] Q)))) : Zm E YX8_findProperty d M [(0, vr (some (97, 1, 0))), (2, vi l2), (3, vi l3)] 7 [] Q := by
  refine sX8_findProperty_7 (d := d) M l2 l3 ?_
  refine zite k (fun h5245 k => ?_) (fun h5245 k => ?_)
  · exact k
  · refine zand k (fun h5246 k => ?_)
    refine zite k (fun h5247 k => ?_) (fun h5247 k => ?_)
    · exact k
    · refine ⟨h5246, ?_⟩
      exact k
theorem jX8_sortAt {E : zE} {d : Nat} {Q : zO → zM → Prop} (M : zM) (l1 : Int32) (k : vp_in ((gi M 97 92) - (1 : Int32)) 24 ∧ (vp_in (((((400 : Int32) * ((gi M 97 92) - (1 : Int32))) + (gi M 155 (((gi M 97 92) - (1 : Int32))).toNatClampNeg)) - (1 : Int32)) - l1) 9600 ∧ (Q (.inl (some (vi (gi M 160 ((((((400 : Int32) * ((gi M 97 92) - (1 : Int32))) + (gi M 155 (((gi M 97 92) - (1 : Int32))).toNatClampNeg)) - (1 : Int32)) - l1)).toNatClampNeg)))) M))) : Zm E YX8_sortAt (d + 1) M [(0, vr (some (97, 1, 0))), (1, vi l1)] 0 [] Q := by
  refine sX8_sortAt_0 (d := d) M l1 ?_
  refine sX8_top_0 (d := d) M  ?_
  refine zand k (fun h5248 k => ?_)
  show Zm E YX8_sortAt (d + 1) M [(1, vi l1)] 8 [vi (((400 : Int32) * ((gi M 97 92) - (1 : Int32))) + (gi M 155 (((gi M 97 92) - (1 : Int32))).toNatClampNeg)), vr (some (160, 100, 9600))] Q
  refine sX8_sortAt_8 (d := d) M l1 (((400 : Int32) * ((gi M 97 92) - (1 : Int32))) + (gi M 155 (((gi M 97 92) - (1 : Int32))).toNatClampNeg)) ?_
  exact k
theorem jX8_valueAt {E : zE} {d : Nat} {Q : zO → zM → Prop} (M : zM) (l1 : Int32) (k : vp_in ((gi M 97 92) - (1 : Int32)) 24 ∧ (vp_in (((((400 : Int32) * ((gi M 97 92) - (1 : Int32))) + (gi M 155 (((gi M 97 92) - (1 : Int32))).toNatClampNeg)) - (1 : Int32)) - l1) 9600 ∧ (Q (.inl (some (vi (gi M 161 ((((((400 : Int32) * ((gi M 97 92) - (1 : Int32))) + (gi M 155 (((gi M 97 92) - (1 : Int32))).toNatClampNeg)) - (1 : Int32)) - l1)).toNatClampNeg)))) M))) : Zm E YX8_valueAt (d + 1) M [(0, vr (some (97, 1, 0))), (1, vi l1)] 0 [] Q := by
  refine sX8_valueAt_0 (d := d) M l1 ?_
  refine sX8_top_0 (d := d) M  ?_
  refine zand k (fun h5252 k => ?_)
  show Zm E YX8_valueAt (d + 1) M [(1, vi l1)] 8 [vi (((400 : Int32) * ((gi M 97 92) - (1 : Int32))) + (gi M 155 (((gi M 97 92) - (1 : Int32))).toNatClampNeg)), vr (some (161, 100, 9600))] Q
  refine sX8_valueAt_8 (d := d) M l1 (((400 : Int32) * ((gi M 97 92) - (1 : Int32))) + (gi M 155 (((gi M 97 92) - (1 : Int32))).toNatClampNeg)) ?_
  exact k
theorem jX8_drop {E : zE} {d : Nat} {Q : zO → zM → Prop} (M : zM) (l1 : Int32) (k : vp_in ((gi M 97 92) - (1 : Int32)) 24 ∧ (Q (.inl none) (si M 155 (((gi M 97 92) - (1 : Int32))).toNatClampNeg ((gi M 155 (((gi M 97 92) - (1 : Int32))).toNatClampNeg) - l1)))) : Zm E YX8_drop d M [(0, vr (some (97, 1, 0))), (1, vi l1)] 0 [] Q := by
  refine sX8_drop_0 (d := d) M l1 ?_
  refine zand k (fun h5270 k => ?_)
  refine ⟨h5270, ?_⟩
  exact k
theorem iX8_get_2_0 {E : zE} {d : Nat} {Q : zO → zM → Prop} (M : zM)  (k : vp_in ((gi M 97 92) - (1 : Int32)) 24 ∧ (vp_in (((((400 : Int32) * ((gi M 97 92) - (1 : Int32))) + (gi M 155 (((gi M 97 92) - (1 : Int32))).toNatClampNeg)) - (1 : Int32)) - (1 : Int32)) 9600 ∧ (vp_in (((((400 : Int32) * ((gi M 97 92) - (1 : Int32))) + (gi M 155 (((gi M 97 92) - (1 : Int32))).toNatClampNeg)) - (1 : Int32)) - (0 : Int32)) 9600 ∧ (Zm E YX8_textOf (d + 1) M (zargs 0 [vr (some (97, 1, 0)), vi (gi M 160 ((((((400 : Int32) * ((gi M 97 92) - (1 : Int32))) + (gi M 155 (((gi M 97 92) - (1 : Int32))).toNatClampNeg)) - (1 : Int32)) - (0 : Int32))).toNatClampNeg), vi (gi M 161 ((((((400 : Int32) * ((gi M 97 92) - (1 : Int32))) + (gi M 155 (((gi M 97 92) - (1 : Int32))).toNatClampNeg)) - (1 : Int32)) - (0 : Int32))).toNatClampNeg)]) 0 [] (zma E YX8_get_2 ((d + 1) + 1) [(0, vr (some (97, 1, 0))), (1, vi (gi M 160 ((((((400 : Int32) * ((gi M 97 92) - (1 : Int32))) + (gi M 155 (((gi M 97 92) - (1 : Int32))).toNatClampNeg)) - (1 : Int32)) - (1 : Int32))).toNatClampNeg)), (2, vi (gi M 161 ((((((400 : Int32) * ((gi M 97 92) - (1 : Int32))) + (gi M 155 (((gi M 97 92) - (1 : Int32))).toNatClampNeg)) - (1 : Int32)) - (1 : Int32))).toNatClampNeg))] 23 3 [] Q))))) : Zm E YX8_get_2 (d + 2) M [(0, vr (some (97, 1, 0)))] 0 [] Q := by
  refine sX8_get_2_0 (d := (d + 1)) M  ?_
  refine jX8_sortAt (d := d) M (1 : Int32) ?_
  refine zand k (fun h5250 k => ?_)
  refine zand k (fun h5251 k => ?_)
  show Zm E YX8_get_2 ((d + 1) + 1) M [(0, vr (some (97, 1, 0)))] 5 [vi (gi M 160 ((((((400 : Int32) * ((gi M 97 92) - (1 : Int32))) + (gi M 155 (((gi M 97 92) - (1 : Int32))).toNatClampNeg)) - (1 : Int32)) - (1 : Int32))).toNatClampNeg)] Q
  refine sX8_get_2_5 (d := (d + 1)) M (gi M 160 ((((((400 : Int32) * ((gi M 97 92) - (1 : Int32))) + (gi M 155 (((gi M 97 92) - (1 : Int32))).toNatClampNeg)) - (1 : Int32)) - (1 : Int32))).toNatClampNeg) ?_
  refine jX8_valueAt (d := d) M (1 : Int32) ?_
  refine ⟨h5250, ?_⟩
  refine ⟨h5251, ?_⟩
  show Zm E YX8_get_2 ((d + 1) + 1) M [(0, vr (some (97, 1, 0))), (1, vi (gi M 160 ((((((400 : Int32) * ((gi M 97 92) - (1 : Int32))) + (gi M 155 (((gi M 97 92) - (1 : Int32))).toNatClampNeg)) - (1 : Int32)) - (1 : Int32))).toNatClampNeg))] 11 [vi (gi M 161 ((((((400 : Int32) * ((gi M 97 92) - (1 : Int32))) + (gi M 155 (((gi M 97 92) - (1 : Int32))).toNatClampNeg)) - (1 : Int32)) - (1 : Int32))).toNatClampNeg)] Q
  refine sX8_get_2_11 (d := (d + 1)) M (gi M 160 ((((((400 : Int32) * ((gi M 97 92) - (1 : Int32))) + (gi M 155 (((gi M 97 92) - (1 : Int32))).toNatClampNeg)) - (1 : Int32)) - (1 : Int32))).toNatClampNeg) (gi M 161 ((((((400 : Int32) * ((gi M 97 92) - (1 : Int32))) + (gi M 155 (((gi M 97 92) - (1 : Int32))).toNatClampNeg)) - (1 : Int32)) - (1 : Int32))).toNatClampNeg) ?_
  refine jX8_sortAt (d := d) M (0 : Int32) ?_
  refine ⟨h5250, ?_⟩
  refine zand k (fun h5254 k => ?_)
  show Zm E YX8_get_2 ((d + 1) + 1) M [(0, vr (some (97, 1, 0))), (1, vi (gi M 160 ((((((400 : Int32) * ((gi M 97 92) - (1 : Int32))) + (gi M 155 (((gi M 97 92) - (1 : Int32))).toNatClampNeg)) - (1 : Int32)) - (1 : Int32))).toNatClampNeg)), (2, vi (gi M 161 ((((((400 : Int32) * ((gi M 97 92) - (1 : Int32))) + (gi M 155 (((gi M 97 92) - (1 : Int32))).toNatClampNeg)) - (1 : Int32)) - (1 : Int32))).toNatClampNeg))] 18 [vi (gi M 160 ((((((400 : Int32) * ((gi M 97 92) - (1 : Int32))) + (gi M 155 (((gi M 97 92) - (1 : Int32))).toNatClampNeg)) - (1 : Int32)) - (0 : Int32))).toNatClampNeg), vr (some (97, 1, 0))] Q
  refine sX8_get_2_18 (d := (d + 1)) M (gi M 160 ((((((400 : Int32) * ((gi M 97 92) - (1 : Int32))) + (gi M 155 (((gi M 97 92) - (1 : Int32))).toNatClampNeg)) - (1 : Int32)) - (1 : Int32))).toNatClampNeg) (gi M 161 ((((((400 : Int32) * ((gi M 97 92) - (1 : Int32))) + (gi M 155 (((gi M 97 92) - (1 : Int32))).toNatClampNeg)) - (1 : Int32)) - (1 : Int32))).toNatClampNeg) (gi M 160 ((((((400 : Int32) * ((gi M 97 92) - (1 : Int32))) + (gi M 155 (((gi M 97 92) - (1 : Int32))).toNatClampNeg)) - (1 : Int32)) - (0 : Int32))).toNatClampNeg) ?_
  refine jX8_valueAt (d := d) M (0 : Int32) ?_
  refine ⟨h5250, ?_⟩
  refine ⟨h5254, ?_⟩
  show Zm E YX8_get_2 ((d + 1) + 1) M [(0, vr (some (97, 1, 0))), (1, vi (gi M 160 ((((((400 : Int32) * ((gi M 97 92) - (1 : Int32))) + (gi M 155 (((gi M 97 92) - (1 : Int32))).toNatClampNeg)) - (1 : Int32)) - (1 : Int32))).toNatClampNeg)), (2, vi (gi M 161 ((((((400 : Int32) * ((gi M 97 92) - (1 : Int32))) + (gi M 155 (((gi M 97 92) - (1 : Int32))).toNatClampNeg)) - (1 : Int32)) - (1 : Int32))).toNatClampNeg))] 23 [vi (gi M 161 ((((((400 : Int32) * ((gi M 97 92) - (1 : Int32))) + (gi M 155 (((gi M 97 92) - (1 : Int32))).toNatClampNeg)) - (1 : Int32)) - (0 : Int32))).toNatClampNeg), vi (gi M 160 ((((((400 : Int32) * ((gi M 97 92) - (1 : Int32))) + (gi M 155 (((gi M 97 92) - (1 : Int32))).toNatClampNeg)) - (1 : Int32)) - (0 : Int32))).toNatClampNeg), vr (some (97, 1, 0))] Q
  refine sX8_get_2_23 (d := (d + 1)) M (gi M 160 ((((((400 : Int32) * ((gi M 97 92) - (1 : Int32))) + (gi M 155 (((gi M 97 92) - (1 : Int32))).toNatClampNeg)) - (1 : Int32)) - (1 : Int32))).toNatClampNeg) (gi M 161 ((((((400 : Int32) * ((gi M 97 92) - (1 : Int32))) + (gi M 155 (((gi M 97 92) - (1 : Int32))).toNatClampNeg)) - (1 : Int32)) - (1 : Int32))).toNatClampNeg) (gi M 161 ((((((400 : Int32) * ((gi M 97 92) - (1 : Int32))) + (gi M 155 (((gi M 97 92) - (1 : Int32))).toNatClampNeg)) - (1 : Int32)) - (0 : Int32))).toNatClampNeg) (gi M 160 ((((((400 : Int32) * ((gi M 97 92) - (1 : Int32))) + (gi M 155 (((gi M 97 92) - (1 : Int32))).toNatClampNeg)) - (1 : Int32)) - (0 : Int32))).toNatClampNeg) ?_
  exact k
theorem iX8_get_2_26 {E : zE} {d : Nat} {Q : zO → zM → Prop} (M : zM) (l1 : Int32) (l2 : Int32) (s0 : Int32) (k : if (gi M 97 75) = 0 then (if (1 : Int32) < l1 then (if l1 = (7 : Int32) then (Zm E YX8_read_2 d M (zargs 0 [vr (some (97, 1, 0)), vi l2, vi s0]) 0 [] (zma E YX8_get_2 (d + 1) [(0, vr (some (97, 1, 0)))] 59 3 [] Q)) else (if l1 = (6 : Int32) then (if s0 = 0 then (vp_in l2 400 ∧ (Zm E YX8_gives d (si (si M 97 111 (5 : Int32)) 97 112 (gi M 101 (l2).toNatClampNeg)) (zargs 0 [vr (some (97, 1, 0)), vi (2 : Int32)]) 0 [] (zma E YX8_get_2 (d + 1) [] 110 3 [] Q))) else (Zm E YX8_read_2 d M (zargs 0 [vr (some (97, 1, 0)), vi (4 : Int32), vi s0]) 0 [] (zma E YX8_get_2 (d + 1) [(0, vr (some (97, 1, 0)))] 103 3 [] Q))) else (Zm E YX8_gives d (si (si M 97 111 (0 : Int32)) 97 112 (0 : Int32)) (zargs 0 [vr (some (97, 1, 0)), vi (2 : Int32)]) 0 [] (zma E YX8_get_2 (d + 1) [] 110 3 [] Q)))) else (Zm E YX8_error d M (zargs 0 [vr (some (97, 1, 0)), vi (6 : Int32)]) 0 [] (zma E YX8_get_2 (d + 1) [] 43 3 [] Q))) else (Q (.inl none) M)) : Zm E YX8_get_2 (d + 1) M [(0, vr (some (97, 1, 0))), (1, vi l1), (2, vi l2)] 26 [vi s0] Q := by
  refine sX8_get_2_26 (d := d) M l1 l2 s0 ?_
  refine zite k (fun h5261 k => ?_) (fun h5261 k => ?_)
  · refine zite k (fun h5262 k => ?_) (fun h5262 k => ?_)
    · refine zite k (fun h5263 k => ?_) (fun h5263 k => ?_)
      · exact k
      · refine zite k (fun h5265 k => ?_) (fun h5265 k => ?_)
        · refine zite k (fun h5266 k => ?_) (fun h5266 k => ?_)
          · refine zand k (fun h5267 k => ?_)
            refine sX8_give_2_0 (d := d) M (5 : Int32) (gi M 101 (l2).toNatClampNeg) ?_
            show Zm E YX8_get_2 (d + 1) (si (si M 97 111 (5 : Int32)) 97 112 (gi M 101 (l2).toNatClampNeg)) [(0, vr (some (97, 1, 0)))] 97 [] Q
            refine sX8_get_2_97 (d := d) (si (si M 97 111 (5 : Int32)) 97 112 (gi M 101 (l2).toNatClampNeg))  ?_
            exact k
          · exact k
        · refine sX8_give_2_0 (d := d) M (0 : Int32) (0 : Int32) ?_
          show Zm E YX8_get_2 (d + 1) (si (si M 97 111 (0 : Int32)) 97 112 (0 : Int32)) [(0, vr (some (97, 1, 0)))] 79 [] Q
          refine sX8_get_2_79 (d := d) (si (si M 97 111 (0 : Int32)) 97 112 (0 : Int32))  ?_
          exact k
    · exact k
  · exact k
theorem jX8_goOn {E : zE} {d : Nat} {Q : zO → zM → Prop} (M : zM)  (k : vp_in ((gi M 97 92) - (1 : Int32)) 24 ∧ (Q (.inl none) (si M 154 (((gi M 97 92) - (1 : Int32))).toNatClampNeg ((gi M 154 (((gi M 97 92) - (1 : Int32))).toNatClampNeg) + (1 : Int32))))) : Zm E YX8_goOn d M [(0, vr (some (97, 1, 0)))] 0 [] Q := by
  refine sX8_goOn_0 (d := d) M  ?_
  refine zand k (fun h5275 k => ?_)
  refine ⟨h5275, ?_⟩
  exact k
theorem iX8_gives_0 {E : zE} {d : Nat} {Q : zO → zM → Prop} (M : zM) (l1 : Int32) (k : if (gi M 97 75) = 0 then (if (gi M 97 73) = (1 : Int32) then (vp_in ((gi M 97 92) - (1 : Int32)) 24 ∧ (Zm E YX8_push d (si M 155 (((gi M 97 92) - (1 : Int32))).toNatClampNeg ((gi M 155 (((gi M 97 92) - (1 : Int32))).toNatClampNeg) - l1)) (zargs 0 [vr (some (97, 1, 0)), vi (gi M 97 111), vi (gi M 97 112)]) 0 [] (zma E YX8_gives (d + 1) [(0, vr (some (97, 1, 0)))] 30 3 [] Q))) else (Q (.inl none) M)) else (Q (.inl none) M)) : Zm E YX8_gives (d + 1) M [(0, vr (some (97, 1, 0))), (1, vi l1)] 0 [] Q := by
  refine sX8_gives_0 (d := d) M l1 ?_
  refine zite k (fun h5272 k => ?_) (fun h5272 k => ?_)
  · refine zite k (fun h5273 k => ?_) (fun h5273 k => ?_)
    · refine jX8_drop (d := d) M l1 ?_
      refine zand k (fun h5274 k => ?_)
      show Zm E YX8_gives (d + 1) (si M 155 (((gi M 97 92) - (1 : Int32))).toNatClampNeg ((gi M 155 (((gi M 97 92) - (1 : Int32))).toNatClampNeg) - l1)) [(0, vr (some (97, 1, 0)))] 21 [] Q
      refine sX8_gives_21 (d := d) (si M 155 (((gi M 97 92) - (1 : Int32))).toNatClampNeg ((gi M 155 (((gi M 97 92) - (1 : Int32))).toNatClampNeg) - l1))  ?_
      exact k
    · exact k
  · exact k
theorem iX8_gives_33 {E : zE} {d : Nat} {Q : zO → zM → Prop} (M : zM)  (k : vp_in ((gi M 97 92) - (1 : Int32)) 24 ∧ (Q (.inl none) (si M 154 (((gi M 97 92) - (1 : Int32))).toNatClampNeg ((gi M 154 (((gi M 97 92) - (1 : Int32))).toNatClampNeg) + (1 : Int32))))) : Zm E YX8_gives (d + 1) M [(0, vr (some (97, 1, 0)))] 33 [] Q := by
  refine sX8_gives_33 (d := d) M  ?_
  refine jX8_goOn (d := d) M  ?_
  refine zand k (fun h5276 k => ?_)
  show Zm E YX8_gives (d + 1) (si M 154 (((gi M 97 92) - (1 : Int32))).toNatClampNeg ((gi M 154 (((gi M 97 92) - (1 : Int32))).toNatClampNeg) + (1 : Int32))) [] 37 [] Q
  refine sX8_gives_37 (d := d) (si M 154 (((gi M 97 92) - (1 : Int32))).toNatClampNeg ((gi M 154 (((gi M 97 92) - (1 : Int32))).toNatClampNeg) + (1 : Int32)))  ?_
  exact k
theorem iX8_global_23 {E : zE} {d : Nat} {Q : zO → zM → Prop} (M : zM) (l1 : Int32) (l3 : Int32) (k : if l3 = (-1 : Int32) then (Zm E YX8_gives d (si (si M 97 111 (6 : Int32)) 97 112 (19 : Int32)) (zargs 0 [vr (some (97, 1, 0)), vi (0 : Int32)]) 0 [] (zma E YX8_global (d + 1) [] 86 3 [] Q)) else (if l1 = 0 then (vp_in l3 3000 ∧ (Zm E YX8_typeOf d M (zargs 0 [vr (some (97, 1, 0)), vi (gi M 146 (l3).toNatClampNeg), vi (gi M 147 (l3).toNatClampNeg)]) 0 [] (zma E YX8_global (d + 1) [(0, vr (some (97, 1, 0)))] 78 3 [vi (6 : Int32), vr (some (97, 1, 0))] Q))) else (vp_in l3 3000 ∧ (Zm E YX8_gives d (si (si M 97 111 (gi M 146 (l3).toNatClampNeg)) 97 112 (gi M 147 (l3).toNatClampNeg)) (zargs 0 [vr (some (97, 1, 0)), vi (0 : Int32)]) 0 [] (zma E YX8_global (d + 1) [] 86 3 [] Q))))) : Zm E YX8_global (d + 1) M [(0, vr (some (97, 1, 0))), (1, vi l1), (3, vi l3)] 23 [] Q := by
  refine sX8_global_23 (d := d) M l1 l3 ?_
  refine zite k (fun h5279 k => ?_) (fun h5279 k => ?_)
  · refine sX8_give_2_0 (d := d) M (6 : Int32) (19 : Int32) ?_
    show Zm E YX8_global (d + 1) (si (si M 97 111 (6 : Int32)) 97 112 (19 : Int32)) [(0, vr (some (97, 1, 0)))] 36 [] Q
    refine sX8_global_36 (d := d) (si (si M 97 111 (6 : Int32)) 97 112 (19 : Int32))  ?_
    refine sX8_global_84 (d := d) (si (si M 97 111 (6 : Int32)) 97 112 (19 : Int32))  ?_
    exact k
  · refine zite k (fun h5280 k => ?_) (fun h5280 k => ?_)
    · refine zand k (fun h5281 k => ?_)
      refine ⟨h5281, ?_⟩
      exact k
    · refine zand k (fun h5291 k => ?_)
      refine ⟨h5291, ?_⟩
      refine sX8_give_2_0 (d := d) M (gi M 146 (l3).toNatClampNeg) (gi M 147 (l3).toNatClampNeg) ?_
      show Zm E YX8_global (d + 1) (si (si M 97 111 (gi M 146 (l3).toNatClampNeg)) 97 112 (gi M 147 (l3).toNatClampNeg)) [(0, vr (some (97, 1, 0)))] 59 [] Q
      refine sX8_global_59 (d := d) (si (si M 97 111 (gi M 146 (l3).toNatClampNeg)) 97 112 (gi M 147 (l3).toNatClampNeg))  ?_
      refine sX8_global_84 (d := d) (si (si M 97 111 (gi M 146 (l3).toNatClampNeg)) 97 112 (gi M 147 (l3).toNatClampNeg))  ?_
      exact k
theorem iX8_global_81 {E : zE} {d : Nat} {Q : zO → zM → Prop} (M : zM) (s0 : Int32) (s1 : Int32) (k : Zm E YX8_gives d (si (si M 97 111 s1) 97 112 s0) (zargs 0 [vr (some (97, 1, 0)), vi (0 : Int32)]) 0 [] (zma E YX8_global (d + 1) [] 86 3 [] Q)) : Zm E YX8_global (d + 1) M [(0, vr (some (97, 1, 0)))] 81 [vi s0, vi s1, vr (some (97, 1, 0))] Q := by
  refine sX8_global_81 (d := d) M s0 s1 ?_
  refine sX8_give_2_0 (d := d) M s1 s0 ?_
  show Zm E YX8_global (d + 1) (si (si M 97 111 s1) 97 112 s0) [(0, vr (some (97, 1, 0)))] 84 [] Q
  refine sX8_global_84 (d := d) (si (si M 97 111 s1) 97 112 s0)  ?_
  exact k
theorem iX8_goOn_0 {E : zE} {d : Nat} {Q : zO → zM → Prop} (M : zM)  (k : vp_in ((gi M 97 92) - (1 : Int32)) 24 ∧ (Q (.inl none) (si M 154 (((gi M 97 92) - (1 : Int32))).toNatClampNeg ((gi M 154 (((gi M 97 92) - (1 : Int32))).toNatClampNeg) + (1 : Int32))))) : Zm E YX8_goOn d M [(0, vr (some (97, 1, 0)))] 0 [] Q := by
  refine sX8_goOn_0 (d := d) M  ?_
  refine zand k (fun h5292 k => ?_)
  refine ⟨h5292, ?_⟩
  exact k
theorem iX8_makeFunction_19 {E : zE} {d : Nat} {Q : zO → zM → Prop} (M : zM) (l1 : Int32) (l2 : Int32) (s0 : Int32) (k : if (gi M 97 75) = 0 then (vp_in ((gi M 97 92) - (1 : Int32)) 24 ∧ (vp_in s0 300 ∧ (Zm E YX8_newObject d (si (si M 140 (s0).toNatClampNeg (gi M 151 (((gi M 97 92) - (1 : Int32))).toNatClampNeg)) 142 (s0).toNatClampNeg l1) (zargs 0 [vr (some (97, 1, 0)), vi (1 : Int32), vi (l2 + (4 : Int32)), vi (0 : Int32)]) 0 [] (zma E YX8_makeFunction (d + 1) [(0, vr (some (97, 1, 0))), (3, vi s0)] 58 3 [] Q)))) else (Q (.inl none) M)) : Zm E YX8_makeFunction (d + 1) M [(0, vr (some (97, 1, 0))), (1, vi l1), (2, vi l2)] 19 [vi s0] Q := by
  refine sX8_makeFunction_19 (d := d) M l1 l2 s0 ?_
  refine zite k (fun h5302 k => ?_) (fun h5302 k => ?_)
  · refine zand k (fun h5303 k => ?_)
    refine zand k (fun h5304 k => ?_)
    refine ⟨h5304, ?_⟩
    exact k
  · exact k
theorem iX8_makeFunction_99 {E : zE} {d : Nat} {Q : zO → zM → Prop} (M : zM) (l3 : Int32) (k : Zm E YX8_gives d (si (si M 97 111 (7 : Int32)) 97 112 l3) (zargs 0 [vr (some (97, 1, 0)), vi (0 : Int32)]) 0 [] (zma E YX8_makeFunction (d + 1) [] 108 3 [] Q)) : Zm E YX8_makeFunction (d + 1) M [(0, vr (some (97, 1, 0))), (3, vi l3)] 99 [] Q := by
  refine sX8_makeFunction_99 (d := d) M l3 ?_
  refine sX8_give_2_0 (d := d) M (7 : Int32) l3 ?_
  show Zm E YX8_makeFunction (d + 1) (si (si M 97 111 (7 : Int32)) 97 112 l3) [(0, vr (some (97, 1, 0)))] 106 [] Q
  refine sX8_makeFunction_106 (d := d) (si (si M 97 111 (7 : Int32)) 97 112 l3)  ?_
  exact k
theorem iX8_newArray_7 {E : zE} {d : Nat} {Q : zO → zM → Prop} (M : zM) (s0 : Int32) (k : if (gi M 97 75) = 0 then (Zm E YX8_set_2 d M (zargs 0 [vr (some (97, 1, 0)), vi s0, vi (0 : Int32), vi (5 : Int32), vi (0 : Int32)]) 0 [] (zma E YX8_newArray (d + 1) [(2, vi s0)] 20 3 [] Q)) else (Q (.inl (some (vi s0))) M)) : Zm E YX8_newArray (d + 1) M [(0, vr (some (97, 1, 0)))] 7 [vi s0] Q := by
  refine sX8_newArray_7 (d := d) M s0 ?_
  refine zite k (fun h5307 k => ?_) (fun h5307 k => ?_)
  · exact k
  · refine sX8_newArray_23 (d := d) M s0 ?_
    exact k
theorem iX8_newObject_20 {E : zE} {d : Nat} {Q : zO → zM → Prop} (M : zM) (l1 : Int32) (l2 : Int32) (l3 : Int32) (l4 : Int32) (k : if l2 < (29 : Int32) then (vp_in (gi M 97 76) 300 ∧ (Q (.inl (some (vi (gi M 97 76)))) (si (si (si (si (si (si (si (si M 97 76 ((gi M 97 76) + (1 : Int32))) 138 ((gi M 97 76)).toNatClampNeg l2) 139 ((gi M 97 76)).toNatClampNeg l1) 140 ((gi M 97 76)).toNatClampNeg (-1 : Int32)) 141 ((gi M 97 76)).toNatClampNeg l3) 142 ((gi M 97 76)).toNatClampNeg (0 : Int32)) 143 ((gi M 97 76)).toNatClampNeg (-1 : Int32)) 144 ((gi M 97 76)).toNatClampNeg (-1 : Int32)))) else (if (gi M 97 76) ≤ l4 then (vp_in (gi M 97 76) 300 ∧ (Q (.inl (some (vi (gi M 97 76)))) (si (si (si (si (si (si (si (si M 97 76 ((gi M 97 76) + (1 : Int32))) 138 ((gi M 97 76)).toNatClampNeg l2) 139 ((gi M 97 76)).toNatClampNeg l1) 140 ((gi M 97 76)).toNatClampNeg (-1 : Int32)) 141 ((gi M 97 76)).toNatClampNeg l3) 142 ((gi M 97 76)).toNatClampNeg (0 : Int32)) 143 ((gi M 97 76)).toNatClampNeg (-1 : Int32)) 144 ((gi M 97 76)).toNatClampNeg (-1 : Int32)))) else (vp_in l4 300 ∧ (if (gi M 138 (l4).toNatClampNeg) = l2 then (Zm E YX8_newObject d (si M 138 (l4).toNatClampNeg (l2 + (1 : Int32))) [(0, vr (some (97, 1, 0))), (1, vi l1), (2, vi l2), (3, vi l3), (4, vi (l4 + (1 : Int32)))] 20 [] Q) else (Zm E YX8_newObject d (si M 138 (l4).toNatClampNeg (gi M 138 (l4).toNatClampNeg)) [(0, vr (some (97, 1, 0))), (1, vi l1), (2, vi l2), (3, vi l3), (4, vi (l4 + (1 : Int32)))] 20 [] Q))))) : Zm E YX8_newObject d M [(0, vr (some (97, 1, 0))), (1, vi l1), (2, vi l2), (3, vi l3), (4, vi l4)] 20 [] Q := by
  refine sX8_newObject_20 (d := d) M l1 l2 l3 l4 ?_
  refine zite k (fun h5309 k => ?_) (fun h5309 k => ?_)
  · refine sX8_newObject_72 (d := d) M l1 l2 l3 ?_
    refine zand k (fun h5310 k => ?_)
    refine ⟨h5310, ?_⟩
    refine ⟨h5310, ?_⟩
    refine ⟨h5310, ?_⟩
    refine ⟨h5310, ?_⟩
    refine ⟨h5310, ?_⟩
    refine ⟨h5310, ?_⟩
    exact k
  · refine zite k (fun h5311 k => ?_) (fun h5311 k => ?_)
    · refine sX8_newObject_72 (d := d) M l1 l2 l3 ?_
      refine zand k (fun h5312 k => ?_)
      refine ⟨h5312, ?_⟩
      refine ⟨h5312, ?_⟩
      refine ⟨h5312, ?_⟩
      refine ⟨h5312, ?_⟩
      refine ⟨h5312, ?_⟩
      refine ⟨h5312, ?_⟩
      exact k
    · refine zand k (fun h5313 k => ?_)
      refine zite k (fun h5314 k => ?_) (fun h5314 k => ?_)
      · refine ⟨h5313, ?_⟩
        exact k
      · refine ⟨h5313, ?_⟩
        refine ⟨h5313, ?_⟩
        exact k
theorem iX8_push_0 {E : zE} {d : Nat} {Q : zO → zM → Prop} (M : zM) (l1 : Int32) (l2 : Int32) (k : vp_in ((gi M 97 92) - (1 : Int32)) 24 ∧ (vp_in (((400 : Int32) * ((gi M 97 92) - (1 : Int32))) + (gi M 155 (((gi M 97 92) - (1 : Int32))).toNatClampNeg)) 9600 ∧ (Q (.inl none) (si (si (si M 160 ((((400 : Int32) * ((gi M 97 92) - (1 : Int32))) + (gi M 155 (((gi M 97 92) - (1 : Int32))).toNatClampNeg))).toNatClampNeg l1) 161 ((((400 : Int32) * ((gi M 97 92) - (1 : Int32))) + (gi M 155 (((gi M 97 92) - (1 : Int32))).toNatClampNeg))).toNatClampNeg l2) 155 (((gi M 97 92) - (1 : Int32))).toNatClampNeg ((gi M 155 (((gi M 97 92) - (1 : Int32))).toNatClampNeg) + (1 : Int32)))))) : Zm E YX8_push (d + 1) M [(0, vr (some (97, 1, 0))), (1, vi l1), (2, vi l2)] 0 [] Q := by
  refine sX8_push_0 (d := d) M l1 l2 ?_
  refine sX8_top_0 (d := d) M  ?_
  refine zand k (fun h5315 k => ?_)
  show Zm E YX8_push (d + 1) M [(0, vr (some (97, 1, 0))), (1, vi l1), (2, vi l2)] 8 [vi (((400 : Int32) * ((gi M 97 92) - (1 : Int32))) + (gi M 155 (((gi M 97 92) - (1 : Int32))).toNatClampNeg)), vr (some (160, 100, 9600))] Q
  refine sX8_push_8 (d := d) M l1 l2 (((400 : Int32) * ((gi M 97 92) - (1 : Int32))) + (gi M 155 (((gi M 97 92) - (1 : Int32))).toNatClampNeg)) ?_
  refine zand k (fun h5316 k => ?_)
  refine sX8_top_0 (d := d) (si M 160 ((((400 : Int32) * ((gi M 97 92) - (1 : Int32))) + (gi M 155 (((gi M 97 92) - (1 : Int32))).toNatClampNeg))).toNatClampNeg l1)  ?_
  refine ⟨h5315, ?_⟩
  show Zm E YX8_push (d + 1) (si M 160 ((((400 : Int32) * ((gi M 97 92) - (1 : Int32))) + (gi M 155 (((gi M 97 92) - (1 : Int32))).toNatClampNeg))).toNatClampNeg l1) [(0, vr (some (97, 1, 0))), (2, vi l2)] 18 [vi (((400 : Int32) * ((gi M 97 92) - (1 : Int32))) + (gi M 155 (((gi M 97 92) - (1 : Int32))).toNatClampNeg)), vr (some (161, 100, 9600))] Q
  refine sX8_push_18 (d := d) (si M 160 ((((400 : Int32) * ((gi M 97 92) - (1 : Int32))) + (gi M 155 (((gi M 97 92) - (1 : Int32))).toNatClampNeg))).toNatClampNeg l1) l2 (((400 : Int32) * ((gi M 97 92) - (1 : Int32))) + (gi M 155 (((gi M 97 92) - (1 : Int32))).toNatClampNeg)) ?_
  refine ⟨h5316, ?_⟩
  refine ⟨h5315, ?_⟩
  refine ⟨h5315, ?_⟩
  exact k
theorem iX8_putInto_0 {E : zE} {d : Nat} {Q : zO → zM → Prop} (M : zM)  (k : vp_in ((gi M 97 92) - (1 : Int32)) 24 ∧ (vp_in (((((400 : Int32) * ((gi M 97 92) - (1 : Int32))) + (gi M 155 (((gi M 97 92) - (1 : Int32))).toNatClampNeg)) - (1 : Int32)) - (2 : Int32)) 9600 ∧ (vp_in (((((400 : Int32) * ((gi M 97 92) - (1 : Int32))) + (gi M 155 (((gi M 97 92) - (1 : Int32))).toNatClampNeg)) - (1 : Int32)) - (1 : Int32)) 9600 ∧ (Zm E YX8_textOf (d + 1) M (zargs 0 [vr (some (97, 1, 0)), vi (gi M 160 ((((((400 : Int32) * ((gi M 97 92) - (1 : Int32))) + (gi M 155 (((gi M 97 92) - (1 : Int32))).toNatClampNeg)) - (1 : Int32)) - (1 : Int32))).toNatClampNeg), vi (gi M 161 ((((((400 : Int32) * ((gi M 97 92) - (1 : Int32))) + (gi M 155 (((gi M 97 92) - (1 : Int32))).toNatClampNeg)) - (1 : Int32)) - (1 : Int32))).toNatClampNeg)]) 0 [] (zma E YX8_putInto ((d + 1) + 1) [(0, vr (some (97, 1, 0))), (1, vi (gi M 160 ((((((400 : Int32) * ((gi M 97 92) - (1 : Int32))) + (gi M 155 (((gi M 97 92) - (1 : Int32))).toNatClampNeg)) - (1 : Int32)) - (2 : Int32))).toNatClampNeg)), (2, vi (gi M 161 ((((((400 : Int32) * ((gi M 97 92) - (1 : Int32))) + (gi M 155 (((gi M 97 92) - (1 : Int32))).toNatClampNeg)) - (1 : Int32)) - (2 : Int32))).toNatClampNeg))] 23 3 [] Q))))) : Zm E YX8_putInto (d + 2) M [(0, vr (some (97, 1, 0)))] 0 [] Q := by
  refine sX8_putInto_0 (d := (d + 1)) M  ?_
  refine jX8_sortAt (d := d) M (2 : Int32) ?_
  refine zand k (fun h5317 k => ?_)
  refine zand k (fun h5318 k => ?_)
  show Zm E YX8_putInto ((d + 1) + 1) M [(0, vr (some (97, 1, 0)))] 5 [vi (gi M 160 ((((((400 : Int32) * ((gi M 97 92) - (1 : Int32))) + (gi M 155 (((gi M 97 92) - (1 : Int32))).toNatClampNeg)) - (1 : Int32)) - (2 : Int32))).toNatClampNeg)] Q
  refine sX8_putInto_5 (d := (d + 1)) M (gi M 160 ((((((400 : Int32) * ((gi M 97 92) - (1 : Int32))) + (gi M 155 (((gi M 97 92) - (1 : Int32))).toNatClampNeg)) - (1 : Int32)) - (2 : Int32))).toNatClampNeg) ?_
  refine jX8_valueAt (d := d) M (2 : Int32) ?_
  refine ⟨h5317, ?_⟩
  refine ⟨h5318, ?_⟩
  show Zm E YX8_putInto ((d + 1) + 1) M [(0, vr (some (97, 1, 0))), (1, vi (gi M 160 ((((((400 : Int32) * ((gi M 97 92) - (1 : Int32))) + (gi M 155 (((gi M 97 92) - (1 : Int32))).toNatClampNeg)) - (1 : Int32)) - (2 : Int32))).toNatClampNeg))] 11 [vi (gi M 161 ((((((400 : Int32) * ((gi M 97 92) - (1 : Int32))) + (gi M 155 (((gi M 97 92) - (1 : Int32))).toNatClampNeg)) - (1 : Int32)) - (2 : Int32))).toNatClampNeg)] Q
  refine sX8_putInto_11 (d := (d + 1)) M (gi M 160 ((((((400 : Int32) * ((gi M 97 92) - (1 : Int32))) + (gi M 155 (((gi M 97 92) - (1 : Int32))).toNatClampNeg)) - (1 : Int32)) - (2 : Int32))).toNatClampNeg) (gi M 161 ((((((400 : Int32) * ((gi M 97 92) - (1 : Int32))) + (gi M 155 (((gi M 97 92) - (1 : Int32))).toNatClampNeg)) - (1 : Int32)) - (2 : Int32))).toNatClampNeg) ?_
  refine jX8_sortAt (d := d) M (1 : Int32) ?_
  refine ⟨h5317, ?_⟩
  refine zand k (fun h5319 k => ?_)
  show Zm E YX8_putInto ((d + 1) + 1) M [(0, vr (some (97, 1, 0))), (1, vi (gi M 160 ((((((400 : Int32) * ((gi M 97 92) - (1 : Int32))) + (gi M 155 (((gi M 97 92) - (1 : Int32))).toNatClampNeg)) - (1 : Int32)) - (2 : Int32))).toNatClampNeg)), (2, vi (gi M 161 ((((((400 : Int32) * ((gi M 97 92) - (1 : Int32))) + (gi M 155 (((gi M 97 92) - (1 : Int32))).toNatClampNeg)) - (1 : Int32)) - (2 : Int32))).toNatClampNeg))] 18 [vi (gi M 160 ((((((400 : Int32) * ((gi M 97 92) - (1 : Int32))) + (gi M 155 (((gi M 97 92) - (1 : Int32))).toNatClampNeg)) - (1 : Int32)) - (1 : Int32))).toNatClampNeg), vr (some (97, 1, 0))] Q
  refine sX8_putInto_18 (d := (d + 1)) M (gi M 160 ((((((400 : Int32) * ((gi M 97 92) - (1 : Int32))) + (gi M 155 (((gi M 97 92) - (1 : Int32))).toNatClampNeg)) - (1 : Int32)) - (2 : Int32))).toNatClampNeg) (gi M 161 ((((((400 : Int32) * ((gi M 97 92) - (1 : Int32))) + (gi M 155 (((gi M 97 92) - (1 : Int32))).toNatClampNeg)) - (1 : Int32)) - (2 : Int32))).toNatClampNeg) (gi M 160 ((((((400 : Int32) * ((gi M 97 92) - (1 : Int32))) + (gi M 155 (((gi M 97 92) - (1 : Int32))).toNatClampNeg)) - (1 : Int32)) - (1 : Int32))).toNatClampNeg) ?_
  refine jX8_valueAt (d := d) M (1 : Int32) ?_
  refine ⟨h5317, ?_⟩
  refine ⟨h5319, ?_⟩
  show Zm E YX8_putInto ((d + 1) + 1) M [(0, vr (some (97, 1, 0))), (1, vi (gi M 160 ((((((400 : Int32) * ((gi M 97 92) - (1 : Int32))) + (gi M 155 (((gi M 97 92) - (1 : Int32))).toNatClampNeg)) - (1 : Int32)) - (2 : Int32))).toNatClampNeg)), (2, vi (gi M 161 ((((((400 : Int32) * ((gi M 97 92) - (1 : Int32))) + (gi M 155 (((gi M 97 92) - (1 : Int32))).toNatClampNeg)) - (1 : Int32)) - (2 : Int32))).toNatClampNeg))] 23 [vi (gi M 161 ((((((400 : Int32) * ((gi M 97 92) - (1 : Int32))) + (gi M 155 (((gi M 97 92) - (1 : Int32))).toNatClampNeg)) - (1 : Int32)) - (1 : Int32))).toNatClampNeg), vi (gi M 160 ((((((400 : Int32) * ((gi M 97 92) - (1 : Int32))) + (gi M 155 (((gi M 97 92) - (1 : Int32))).toNatClampNeg)) - (1 : Int32)) - (1 : Int32))).toNatClampNeg), vr (some (97, 1, 0))] Q
  refine sX8_putInto_23 (d := (d + 1)) M (gi M 160 ((((((400 : Int32) * ((gi M 97 92) - (1 : Int32))) + (gi M 155 (((gi M 97 92) - (1 : Int32))).toNatClampNeg)) - (1 : Int32)) - (2 : Int32))).toNatClampNeg) (gi M 161 ((((((400 : Int32) * ((gi M 97 92) - (1 : Int32))) + (gi M 155 (((gi M 97 92) - (1 : Int32))).toNatClampNeg)) - (1 : Int32)) - (2 : Int32))).toNatClampNeg) (gi M 161 ((((((400 : Int32) * ((gi M 97 92) - (1 : Int32))) + (gi M 155 (((gi M 97 92) - (1 : Int32))).toNatClampNeg)) - (1 : Int32)) - (1 : Int32))).toNatClampNeg) (gi M 160 ((((((400 : Int32) * ((gi M 97 92) - (1 : Int32))) + (gi M 155 (((gi M 97 92) - (1 : Int32))).toNatClampNeg)) - (1 : Int32)) - (1 : Int32))).toNatClampNeg) ?_
  exact k
theorem iX8_putInto_93 {E : zE} {d : Nat} {Q : zO → zM → Prop} (M : zM) (l2 : Int32) (l3 : Int32) (s0 : Int32) (s1 : Int32) (s2 : Int32) (k : vp_in ((gi M 97 92) - (1 : Int32)) 24 ∧ (vp_in (((((400 : Int32) * ((gi M 97 92) - (1 : Int32))) + (gi M 155 (((gi M 97 92) - (1 : Int32))).toNatClampNeg)) - (1 : Int32)) - (0 : Int32)) 9600 ∧ (Zm E YX8_set_2 (d + 1) M (zargs 0 [vr (some (97, 1, 0)), vi s2, vi s1, vi s0, vi (gi M 161 ((((((400 : Int32) * ((gi M 97 92) - (1 : Int32))) + (gi M 155 (((gi M 97 92) - (1 : Int32))).toNatClampNeg)) - (1 : Int32)) - (0 : Int32))).toNatClampNeg)]) 0 [] (zma E YX8_putInto ((d + 1) + 1) [(0, vr (some (97, 1, 0))), (2, vi l2), (3, vi l3)] 98 3 [] Q)))) : Zm E YX8_putInto (d + 2) M [(0, vr (some (97, 1, 0))), (2, vi l2), (3, vi l3)] 93 [vi s0, vi s1, vi s2, vr (some (97, 1, 0))] Q := by
  refine sX8_putInto_93 (d := (d + 1)) M l2 l3 s0 s1 s2 ?_
  refine jX8_valueAt (d := d) M (0 : Int32) ?_
  refine zand k (fun h5356 k => ?_)
  refine zand k (fun h5357 k => ?_)
  show Zm E YX8_putInto ((d + 1) + 1) M [(0, vr (some (97, 1, 0))), (2, vi l2), (3, vi l3)] 98 [vi (gi M 161 ((((((400 : Int32) * ((gi M 97 92) - (1 : Int32))) + (gi M 155 (((gi M 97 92) - (1 : Int32))).toNatClampNeg)) - (1 : Int32)) - (0 : Int32))).toNatClampNeg), vi s0, vi s1, vi s2, vr (some (97, 1, 0))] Q
  refine sX8_putInto_98 (d := (d + 1)) M l2 l3 (gi M 161 ((((((400 : Int32) * ((gi M 97 92) - (1 : Int32))) + (gi M 155 (((gi M 97 92) - (1 : Int32))).toNatClampNeg)) - (1 : Int32)) - (0 : Int32))).toNatClampNeg) s0 s1 s2 ?_
  exact k
theorem iX8_putInto_155 {E : zE} {d : Nat} {Q : zO → zM → Prop} (M : zM)  (k : vp_in ((gi M 97 92) - (1 : Int32)) 24 ∧ (vp_in (((((400 : Int32) * ((gi M 97 92) - (1 : Int32))) + (gi M 155 (((gi M 97 92) - (1 : Int32))).toNatClampNeg)) - (1 : Int32)) - (0 : Int32)) 9600 ∧ (Zm E YX8_gives (d + 1) (si (si M 97 111 (gi M 160 ((((((400 : Int32) * ((gi M 97 92) - (1 : Int32))) + (gi M 155 (((gi M 97 92) - (1 : Int32))).toNatClampNeg)) - (1 : Int32)) - (0 : Int32))).toNatClampNeg)) 97 112 (gi M 161 ((((((400 : Int32) * ((gi M 97 92) - (1 : Int32))) + (gi M 155 (((gi M 97 92) - (1 : Int32))).toNatClampNeg)) - (1 : Int32)) - (0 : Int32))).toNatClampNeg)) (zargs 0 [vr (some (97, 1, 0)), vi (3 : Int32)]) 0 [] (zma E YX8_putInto ((d + 1) + 1) [] 171 3 [] Q)))) : Zm E YX8_putInto (d + 2) M [(0, vr (some (97, 1, 0)))] 155 [] Q := by
  refine sX8_putInto_155 (d := (d + 1)) M  ?_
  refine jX8_sortAt (d := d) M (0 : Int32) ?_
  refine zand k (fun h5358 k => ?_)
  refine zand k (fun h5359 k => ?_)
  show Zm E YX8_putInto ((d + 1) + 1) M [(0, vr (some (97, 1, 0)))] 161 [vi (gi M 160 ((((((400 : Int32) * ((gi M 97 92) - (1 : Int32))) + (gi M 155 (((gi M 97 92) - (1 : Int32))).toNatClampNeg)) - (1 : Int32)) - (0 : Int32))).toNatClampNeg), vr (some (97, 1, 0))] Q
  refine sX8_putInto_161 (d := (d + 1)) M (gi M 160 ((((((400 : Int32) * ((gi M 97 92) - (1 : Int32))) + (gi M 155 (((gi M 97 92) - (1 : Int32))).toNatClampNeg)) - (1 : Int32)) - (0 : Int32))).toNatClampNeg) ?_
  refine jX8_valueAt (d := d) M (0 : Int32) ?_
  refine ⟨h5358, ?_⟩
  refine ⟨h5359, ?_⟩
  show Zm E YX8_putInto ((d + 1) + 1) M [(0, vr (some (97, 1, 0)))] 166 [vi (gi M 161 ((((((400 : Int32) * ((gi M 97 92) - (1 : Int32))) + (gi M 155 (((gi M 97 92) - (1 : Int32))).toNatClampNeg)) - (1 : Int32)) - (0 : Int32))).toNatClampNeg), vi (gi M 160 ((((((400 : Int32) * ((gi M 97 92) - (1 : Int32))) + (gi M 155 (((gi M 97 92) - (1 : Int32))).toNatClampNeg)) - (1 : Int32)) - (0 : Int32))).toNatClampNeg), vr (some (97, 1, 0))] Q
  refine sX8_putInto_166 (d := (d + 1)) M (gi M 161 ((((((400 : Int32) * ((gi M 97 92) - (1 : Int32))) + (gi M 155 (((gi M 97 92) - (1 : Int32))).toNatClampNeg)) - (1 : Int32)) - (0 : Int32))).toNatClampNeg) (gi M 160 ((((((400 : Int32) * ((gi M 97 92) - (1 : Int32))) + (gi M 155 (((gi M 97 92) - (1 : Int32))).toNatClampNeg)) - (1 : Int32)) - (0 : Int32))).toNatClampNeg) ?_
  refine sX8_give_2_0 (d := (d + 1)) M (gi M 160 ((((((400 : Int32) * ((gi M 97 92) - (1 : Int32))) + (gi M 155 (((gi M 97 92) - (1 : Int32))).toNatClampNeg)) - (1 : Int32)) - (0 : Int32))).toNatClampNeg) (gi M 161 ((((((400 : Int32) * ((gi M 97 92) - (1 : Int32))) + (gi M 155 (((gi M 97 92) - (1 : Int32))).toNatClampNeg)) - (1 : Int32)) - (0 : Int32))).toNatClampNeg) ?_
  show Zm E YX8_putInto ((d + 1) + 1) (si (si M 97 111 (gi M 160 ((((((400 : Int32) * ((gi M 97 92) - (1 : Int32))) + (gi M 155 (((gi M 97 92) - (1 : Int32))).toNatClampNeg)) - (1 : Int32)) - (0 : Int32))).toNatClampNeg)) 97 112 (gi M 161 ((((((400 : Int32) * ((gi M 97 92) - (1 : Int32))) + (gi M 155 (((gi M 97 92) - (1 : Int32))).toNatClampNeg)) - (1 : Int32)) - (0 : Int32))).toNatClampNeg)) [(0, vr (some (97, 1, 0)))] 169 [] Q
  refine sX8_putInto_169 (d := (d + 1)) (si (si M 97 111 (gi M 160 ((((((400 : Int32) * ((gi M 97 92) - (1 : Int32))) + (gi M 155 (((gi M 97 92) - (1 : Int32))).toNatClampNeg)) - (1 : Int32)) - (0 : Int32))).toNatClampNeg)) 97 112 (gi M 161 ((((((400 : Int32) * ((gi M 97 92) - (1 : Int32))) + (gi M 155 (((gi M 97 92) - (1 : Int32))).toNatClampNeg)) - (1 : Int32)) - (0 : Int32))).toNatClampNeg))  ?_
  exact k
theorem iX8_putInto_120 {E : zE} {d : Nat} {Q : zO → zM → Prop} (M : zM) (l2 : Int32) (s0 : Int32) (k : if (gi M 97 75) = 0 then (if s0 < 0 then (vp_in ((gi M 97 92) - (1 : Int32)) 24 ∧ (vp_in (((((400 : Int32) * ((gi M 97 92) - (1 : Int32))) + (gi M 155 (((gi M 97 92) - (1 : Int32))).toNatClampNeg)) - (1 : Int32)) - (0 : Int32)) 9600 ∧ (Zm E YX8_gives (d + 1) (si (si M 97 111 (gi M 160 ((((((400 : Int32) * ((gi M 97 92) - (1 : Int32))) + (gi M 155 (((gi M 97 92) - (1 : Int32))).toNatClampNeg)) - (1 : Int32)) - (0 : Int32))).toNatClampNeg)) 97 112 (gi M 161 ((((((400 : Int32) * ((gi M 97 92) - (1 : Int32))) + (gi M 155 (((gi M 97 92) - (1 : Int32))).toNatClampNeg)) - (1 : Int32)) - (0 : Int32))).toNatClampNeg)) (zargs 0 [vr (some (97, 1, 0)), vi (3 : Int32)]) 0 [] (zma E YX8_putInto ((d + 1) + 1) [] 171 3 [] Q)))) else (Zm E YX8_lengthOf (d + 1) M (zargs 0 [vr (some (97, 1, 0)), vi l2]) 0 [] (zma E YX8_putInto ((d + 1) + 1) [(0, vr (some (97, 1, 0))), (2, vi l2), (5, vi s0)] 138 3 [vi s0] Q))) else (vp_in ((gi M 97 92) - (1 : Int32)) 24 ∧ (vp_in (((((400 : Int32) * ((gi M 97 92) - (1 : Int32))) + (gi M 155 (((gi M 97 92) - (1 : Int32))).toNatClampNeg)) - (1 : Int32)) - (0 : Int32)) 9600 ∧ (Zm E YX8_gives (d + 1) (si (si M 97 111 (gi M 160 ((((((400 : Int32) * ((gi M 97 92) - (1 : Int32))) + (gi M 155 (((gi M 97 92) - (1 : Int32))).toNatClampNeg)) - (1 : Int32)) - (0 : Int32))).toNatClampNeg)) 97 112 (gi M 161 ((((((400 : Int32) * ((gi M 97 92) - (1 : Int32))) + (gi M 155 (((gi M 97 92) - (1 : Int32))).toNatClampNeg)) - (1 : Int32)) - (0 : Int32))).toNatClampNeg)) (zargs 0 [vr (some (97, 1, 0)), vi (3 : Int32)]) 0 [] (zma E YX8_putInto ((d + 1) + 1) [] 171 3 [] Q))))) : Zm E YX8_putInto (d + 2) M [(0, vr (some (97, 1, 0))), (2, vi l2)] 120 [vi s0] Q := by
  refine sX8_putInto_120 (d := (d + 1)) M l2 s0 ?_
  refine zite k (fun h5379 k => ?_) (fun h5379 k => ?_)
  · refine zite k (fun h5380 k => ?_) (fun h5380 k => ?_)
    · refine sX8_putInto_155 (d := (d + 1)) M  ?_
      refine jX8_sortAt (d := d) M (0 : Int32) ?_
      refine zand k (fun h5381 k => ?_)
      refine zand k (fun h5382 k => ?_)
      show Zm E YX8_putInto ((d + 1) + 1) M [(0, vr (some (97, 1, 0)))] 161 [vi (gi M 160 ((((((400 : Int32) * ((gi M 97 92) - (1 : Int32))) + (gi M 155 (((gi M 97 92) - (1 : Int32))).toNatClampNeg)) - (1 : Int32)) - (0 : Int32))).toNatClampNeg), vr (some (97, 1, 0))] Q
      refine sX8_putInto_161 (d := (d + 1)) M (gi M 160 ((((((400 : Int32) * ((gi M 97 92) - (1 : Int32))) + (gi M 155 (((gi M 97 92) - (1 : Int32))).toNatClampNeg)) - (1 : Int32)) - (0 : Int32))).toNatClampNeg) ?_
      refine jX8_valueAt (d := d) M (0 : Int32) ?_
      refine ⟨h5381, ?_⟩
      refine ⟨h5382, ?_⟩
      show Zm E YX8_putInto ((d + 1) + 1) M [(0, vr (some (97, 1, 0)))] 166 [vi (gi M 161 ((((((400 : Int32) * ((gi M 97 92) - (1 : Int32))) + (gi M 155 (((gi M 97 92) - (1 : Int32))).toNatClampNeg)) - (1 : Int32)) - (0 : Int32))).toNatClampNeg), vi (gi M 160 ((((((400 : Int32) * ((gi M 97 92) - (1 : Int32))) + (gi M 155 (((gi M 97 92) - (1 : Int32))).toNatClampNeg)) - (1 : Int32)) - (0 : Int32))).toNatClampNeg), vr (some (97, 1, 0))] Q
      refine sX8_putInto_166 (d := (d + 1)) M (gi M 161 ((((((400 : Int32) * ((gi M 97 92) - (1 : Int32))) + (gi M 155 (((gi M 97 92) - (1 : Int32))).toNatClampNeg)) - (1 : Int32)) - (0 : Int32))).toNatClampNeg) (gi M 160 ((((((400 : Int32) * ((gi M 97 92) - (1 : Int32))) + (gi M 155 (((gi M 97 92) - (1 : Int32))).toNatClampNeg)) - (1 : Int32)) - (0 : Int32))).toNatClampNeg) ?_
      refine sX8_give_2_0 (d := (d + 1)) M (gi M 160 ((((((400 : Int32) * ((gi M 97 92) - (1 : Int32))) + (gi M 155 (((gi M 97 92) - (1 : Int32))).toNatClampNeg)) - (1 : Int32)) - (0 : Int32))).toNatClampNeg) (gi M 161 ((((((400 : Int32) * ((gi M 97 92) - (1 : Int32))) + (gi M 155 (((gi M 97 92) - (1 : Int32))).toNatClampNeg)) - (1 : Int32)) - (0 : Int32))).toNatClampNeg) ?_
      show Zm E YX8_putInto ((d + 1) + 1) (si (si M 97 111 (gi M 160 ((((((400 : Int32) * ((gi M 97 92) - (1 : Int32))) + (gi M 155 (((gi M 97 92) - (1 : Int32))).toNatClampNeg)) - (1 : Int32)) - (0 : Int32))).toNatClampNeg)) 97 112 (gi M 161 ((((((400 : Int32) * ((gi M 97 92) - (1 : Int32))) + (gi M 155 (((gi M 97 92) - (1 : Int32))).toNatClampNeg)) - (1 : Int32)) - (0 : Int32))).toNatClampNeg)) [(0, vr (some (97, 1, 0)))] 169 [] Q
      refine sX8_putInto_169 (d := (d + 1)) (si (si M 97 111 (gi M 160 ((((((400 : Int32) * ((gi M 97 92) - (1 : Int32))) + (gi M 155 (((gi M 97 92) - (1 : Int32))).toNatClampNeg)) - (1 : Int32)) - (0 : Int32))).toNatClampNeg)) 97 112 (gi M 161 ((((((400 : Int32) * ((gi M 97 92) - (1 : Int32))) + (gi M 155 (((gi M 97 92) - (1 : Int32))).toNatClampNeg)) - (1 : Int32)) - (0 : Int32))).toNatClampNeg))  ?_
      exact k
    · exact k
  · refine sX8_putInto_155 (d := (d + 1)) M  ?_
    refine jX8_sortAt (d := d) M (0 : Int32) ?_
    refine zand k (fun h5383 k => ?_)
    refine zand k (fun h5384 k => ?_)
    show Zm E YX8_putInto ((d + 1) + 1) M [(0, vr (some (97, 1, 0)))] 161 [vi (gi M 160 ((((((400 : Int32) * ((gi M 97 92) - (1 : Int32))) + (gi M 155 (((gi M 97 92) - (1 : Int32))).toNatClampNeg)) - (1 : Int32)) - (0 : Int32))).toNatClampNeg), vr (some (97, 1, 0))] Q
    refine sX8_putInto_161 (d := (d + 1)) M (gi M 160 ((((((400 : Int32) * ((gi M 97 92) - (1 : Int32))) + (gi M 155 (((gi M 97 92) - (1 : Int32))).toNatClampNeg)) - (1 : Int32)) - (0 : Int32))).toNatClampNeg) ?_
    refine jX8_valueAt (d := d) M (0 : Int32) ?_
    refine ⟨h5383, ?_⟩
    refine ⟨h5384, ?_⟩
    show Zm E YX8_putInto ((d + 1) + 1) M [(0, vr (some (97, 1, 0)))] 166 [vi (gi M 161 ((((((400 : Int32) * ((gi M 97 92) - (1 : Int32))) + (gi M 155 (((gi M 97 92) - (1 : Int32))).toNatClampNeg)) - (1 : Int32)) - (0 : Int32))).toNatClampNeg), vi (gi M 160 ((((((400 : Int32) * ((gi M 97 92) - (1 : Int32))) + (gi M 155 (((gi M 97 92) - (1 : Int32))).toNatClampNeg)) - (1 : Int32)) - (0 : Int32))).toNatClampNeg), vr (some (97, 1, 0))] Q
    refine sX8_putInto_166 (d := (d + 1)) M (gi M 161 ((((((400 : Int32) * ((gi M 97 92) - (1 : Int32))) + (gi M 155 (((gi M 97 92) - (1 : Int32))).toNatClampNeg)) - (1 : Int32)) - (0 : Int32))).toNatClampNeg) (gi M 160 ((((((400 : Int32) * ((gi M 97 92) - (1 : Int32))) + (gi M 155 (((gi M 97 92) - (1 : Int32))).toNatClampNeg)) - (1 : Int32)) - (0 : Int32))).toNatClampNeg) ?_
    refine sX8_give_2_0 (d := (d + 1)) M (gi M 160 ((((((400 : Int32) * ((gi M 97 92) - (1 : Int32))) + (gi M 155 (((gi M 97 92) - (1 : Int32))).toNatClampNeg)) - (1 : Int32)) - (0 : Int32))).toNatClampNeg) (gi M 161 ((((((400 : Int32) * ((gi M 97 92) - (1 : Int32))) + (gi M 155 (((gi M 97 92) - (1 : Int32))).toNatClampNeg)) - (1 : Int32)) - (0 : Int32))).toNatClampNeg) ?_
    show Zm E YX8_putInto ((d + 1) + 1) (si (si M 97 111 (gi M 160 ((((((400 : Int32) * ((gi M 97 92) - (1 : Int32))) + (gi M 155 (((gi M 97 92) - (1 : Int32))).toNatClampNeg)) - (1 : Int32)) - (0 : Int32))).toNatClampNeg)) 97 112 (gi M 161 ((((((400 : Int32) * ((gi M 97 92) - (1 : Int32))) + (gi M 155 (((gi M 97 92) - (1 : Int32))).toNatClampNeg)) - (1 : Int32)) - (0 : Int32))).toNatClampNeg)) [(0, vr (some (97, 1, 0)))] 169 [] Q
    refine sX8_putInto_169 (d := (d + 1)) (si (si M 97 111 (gi M 160 ((((((400 : Int32) * ((gi M 97 92) - (1 : Int32))) + (gi M 155 (((gi M 97 92) - (1 : Int32))).toNatClampNeg)) - (1 : Int32)) - (0 : Int32))).toNatClampNeg)) 97 112 (gi M 161 ((((((400 : Int32) * ((gi M 97 92) - (1 : Int32))) + (gi M 155 (((gi M 97 92) - (1 : Int32))).toNatClampNeg)) - (1 : Int32)) - (0 : Int32))).toNatClampNeg))  ?_
    exact k
theorem iX8_putInto_141 {E : zE} {d : Nat} {Q : zO → zM → Prop} (M : zM) (l2 : Int32) (l5 : Int32) (s0 : Int32) (s1 : Int32) (k : if s1 < s0 then (vp_in ((gi M 97 92) - (1 : Int32)) 24 ∧ (vp_in (((((400 : Int32) * ((gi M 97 92) - (1 : Int32))) + (gi M 155 (((gi M 97 92) - (1 : Int32))).toNatClampNeg)) - (1 : Int32)) - (0 : Int32)) 9600 ∧ (Zm E YX8_gives (d + 1) (si (si M 97 111 (gi M 160 ((((((400 : Int32) * ((gi M 97 92) - (1 : Int32))) + (gi M 155 (((gi M 97 92) - (1 : Int32))).toNatClampNeg)) - (1 : Int32)) - (0 : Int32))).toNatClampNeg)) 97 112 (gi M 161 ((((((400 : Int32) * ((gi M 97 92) - (1 : Int32))) + (gi M 155 (((gi M 97 92) - (1 : Int32))).toNatClampNeg)) - (1 : Int32)) - (0 : Int32))).toNatClampNeg)) (zargs 0 [vr (some (97, 1, 0)), vi (3 : Int32)]) 0 [] (zma E YX8_putInto ((d + 1) + 1) [] 171 3 [] Q)))) else (Zm E YX8_set_2 (d + 1) M (zargs 0 [vr (some (97, 1, 0)), vi l2, vi (0 : Int32), vi (5 : Int32), vi (l5 + (1 : Int32))]) 0 [] (zma E YX8_putInto ((d + 1) + 1) [(0, vr (some (97, 1, 0)))] 152 3 [] Q))) : Zm E YX8_putInto (d + 2) M [(0, vr (some (97, 1, 0))), (2, vi l2), (5, vi l5)] 141 [vi s0, vi s1] Q := by
  refine sX8_putInto_141 (d := (d + 1)) M l2 l5 s0 s1 ?_
  refine zite k (fun h5386 k => ?_) (fun h5386 k => ?_)
  · refine sX8_putInto_155 (d := (d + 1)) M  ?_
    refine jX8_sortAt (d := d) M (0 : Int32) ?_
    refine zand k (fun h5387 k => ?_)
    refine zand k (fun h5388 k => ?_)
    show Zm E YX8_putInto ((d + 1) + 1) M [(0, vr (some (97, 1, 0)))] 161 [vi (gi M 160 ((((((400 : Int32) * ((gi M 97 92) - (1 : Int32))) + (gi M 155 (((gi M 97 92) - (1 : Int32))).toNatClampNeg)) - (1 : Int32)) - (0 : Int32))).toNatClampNeg), vr (some (97, 1, 0))] Q
    refine sX8_putInto_161 (d := (d + 1)) M (gi M 160 ((((((400 : Int32) * ((gi M 97 92) - (1 : Int32))) + (gi M 155 (((gi M 97 92) - (1 : Int32))).toNatClampNeg)) - (1 : Int32)) - (0 : Int32))).toNatClampNeg) ?_
    refine jX8_valueAt (d := d) M (0 : Int32) ?_
    refine ⟨h5387, ?_⟩
    refine ⟨h5388, ?_⟩
    show Zm E YX8_putInto ((d + 1) + 1) M [(0, vr (some (97, 1, 0)))] 166 [vi (gi M 161 ((((((400 : Int32) * ((gi M 97 92) - (1 : Int32))) + (gi M 155 (((gi M 97 92) - (1 : Int32))).toNatClampNeg)) - (1 : Int32)) - (0 : Int32))).toNatClampNeg), vi (gi M 160 ((((((400 : Int32) * ((gi M 97 92) - (1 : Int32))) + (gi M 155 (((gi M 97 92) - (1 : Int32))).toNatClampNeg)) - (1 : Int32)) - (0 : Int32))).toNatClampNeg), vr (some (97, 1, 0))] Q
    refine sX8_putInto_166 (d := (d + 1)) M (gi M 161 ((((((400 : Int32) * ((gi M 97 92) - (1 : Int32))) + (gi M 155 (((gi M 97 92) - (1 : Int32))).toNatClampNeg)) - (1 : Int32)) - (0 : Int32))).toNatClampNeg) (gi M 160 ((((((400 : Int32) * ((gi M 97 92) - (1 : Int32))) + (gi M 155 (((gi M 97 92) - (1 : Int32))).toNatClampNeg)) - (1 : Int32)) - (0 : Int32))).toNatClampNeg) ?_
    refine sX8_give_2_0 (d := (d + 1)) M (gi M 160 ((((((400 : Int32) * ((gi M 97 92) - (1 : Int32))) + (gi M 155 (((gi M 97 92) - (1 : Int32))).toNatClampNeg)) - (1 : Int32)) - (0 : Int32))).toNatClampNeg) (gi M 161 ((((((400 : Int32) * ((gi M 97 92) - (1 : Int32))) + (gi M 155 (((gi M 97 92) - (1 : Int32))).toNatClampNeg)) - (1 : Int32)) - (0 : Int32))).toNatClampNeg) ?_
    show Zm E YX8_putInto ((d + 1) + 1) (si (si M 97 111 (gi M 160 ((((((400 : Int32) * ((gi M 97 92) - (1 : Int32))) + (gi M 155 (((gi M 97 92) - (1 : Int32))).toNatClampNeg)) - (1 : Int32)) - (0 : Int32))).toNatClampNeg)) 97 112 (gi M 161 ((((((400 : Int32) * ((gi M 97 92) - (1 : Int32))) + (gi M 155 (((gi M 97 92) - (1 : Int32))).toNatClampNeg)) - (1 : Int32)) - (0 : Int32))).toNatClampNeg)) [(0, vr (some (97, 1, 0)))] 169 [] Q
    refine sX8_putInto_169 (d := (d + 1)) (si (si M 97 111 (gi M 160 ((((((400 : Int32) * ((gi M 97 92) - (1 : Int32))) + (gi M 155 (((gi M 97 92) - (1 : Int32))).toNatClampNeg)) - (1 : Int32)) - (0 : Int32))).toNatClampNeg)) 97 112 (gi M 161 ((((((400 : Int32) * ((gi M 97 92) - (1 : Int32))) + (gi M 155 (((gi M 97 92) - (1 : Int32))).toNatClampNeg)) - (1 : Int32)) - (0 : Int32))).toNatClampNeg))  ?_
    exact k
  · exact k
theorem iX8_putString_2 {E : zE} {d : Nat} {Q : zO → zM → Prop} (M : zM) (l1 : Int32) (l2 : Int32) (k : vp_in l1 400 ∧ (if (gi M 101 (l1).toNatClampNeg) ≤ l2 then (Q (.inl none) M) else (vp_in (((60 : Int32) * l1) + l2) 24000 ∧ (vp_in (gi M 97 11) 200 ∧ (Zm E YX8_putString (d + 1) (si (si M 102 ((gi M 97 11)).toNatClampNeg (vp_nar .char (((gi M 100 ((((60 : Int32) * l1) + l2)).toNatClampNeg)).toUInt32 % 65536).toInt32)) 97 11 ((gi M 97 11) + (1 : Int32))) [(0, vr (some (97, 1, 0))), (1, vi l1), (2, vi (l2 + (1 : Int32)))] 2 [] Q))))) : Zm E YX8_putString (d + 1) M [(0, vr (some (97, 1, 0))), (1, vi l1), (2, vi l2)] 2 [] Q := by
  refine sX8_putString_2 (d := d) M l1 l2 ?_
  refine zand k (fun h5389 k => ?_)
  refine zite k (fun h5390 k => ?_) (fun h5390 k => ?_)
  · exact k
  · refine zand k (fun h5391 k => ?_)
    refine sX8_put_0 (d := d) M (gi M 100 ((((60 : Int32) * l1) + l2)).toNatClampNeg) ?_
    refine zand k (fun h5392 k => ?_)
    show Zm E YX8_putString (d + 1) (si (si M 102 ((gi M 97 11)).toNatClampNeg (vp_nar .char (((gi M 100 ((((60 : Int32) * l1) + l2)).toNatClampNeg)).toUInt32 % 65536).toInt32)) 97 11 ((gi M 97 11) + (1 : Int32))) [(0, vr (some (97, 1, 0))), (1, vi l1), (2, vi l2)] 27 [] Q
    refine sX8_putString_27 (d := d) (si (si M 102 ((gi M 97 11)).toNatClampNeg (vp_nar .char (((gi M 100 ((((60 : Int32) * l1) + l2)).toNatClampNeg)).toUInt32 % 65536).toInt32)) 97 11 ((gi M 97 11) + (1 : Int32))) l1 l2 ?_
    exact k
theorem iX8_putText_50 {E : zE} {d : Nat} {Q : zO → zM → Prop} (M : zM)  (k : Q (.inl none) M) : Zm E YX8_putText (d + 1) M [] 50 [] Q := by
  refine sX8_putText_50 (d := d) M  ?_
  refine sX8_putText_111 (d := d) M  ?_
  exact k
theorem iX8_putText_59 {E : zE} {d : Nat} {Q : zO → zM → Prop} (M : zM)  (k : Q (.inl none) M) : Zm E YX8_putText (d + 1) M [] 59 [] Q := by
  refine sX8_putText_59 (d := d) M  ?_
  refine sX8_putText_111 (d := d) M  ?_
  exact k
theorem iX8_putText_68 {E : zE} {d : Nat} {Q : zO → zM → Prop} (M : zM)  (k : Q (.inl none) M) : Zm E YX8_putText (d + 1) M [] 68 [] Q := by
  refine sX8_putText_68 (d := d) M  ?_
  refine sX8_putText_111 (d := d) M  ?_
  exact k
theorem iX8_putText_77 {E : zE} {d : Nat} {Q : zO → zM → Prop} (M : zM)  (k : Q (.inl none) M) : Zm E YX8_putText (d + 1) M [] 77 [] Q := by
  refine sX8_putText_77 (d := d) M  ?_
  refine sX8_putText_111 (d := d) M  ?_
  exact k
theorem iX8_putText_86 {E : zE} {d : Nat} {Q : zO → zM → Prop} (M : zM)  (k : Q (.inl none) M) : Zm E YX8_putText (d + 1) M [] 86 [] Q := by
  refine sX8_putText_86 (d := d) M  ?_
  refine sX8_putText_111 (d := d) M  ?_
  exact k
theorem iX8_putText_94 {E : zE} {d : Nat} {Q : zO → zM → Prop} (M : zM)  (k : Q (.inl none) M) : Zm E YX8_putText (d + 1) M [] 94 [] Q := by
  refine sX8_putText_94 (d := d) M  ?_
  refine sX8_putText_111 (d := d) M  ?_
  exact k
theorem iX8_putText_102 {E : zE} {d : Nat} {Q : zO → zM → Prop} (M : zM)  (k : Q (.inl none) M) : Zm E YX8_putText (d + 1) M [] 102 [] Q := by
  refine sX8_putText_102 (d := d) M  ?_
  refine sX8_putText_111 (d := d) M  ?_
  exact k
theorem iX8_read_2_2 {E : zE} {d : Nat} {Q : zO → zM → Prop} (M : zM) (l2 : Int32) (l3 : Int32) (k : if l3 = (-1 : Int32) then (Q (.inl (some (vi (0 : Int32)))) (si (si M 97 111 (0 : Int32)) 97 112 (0 : Int32))) else (Zm E YX8_findProperty d M (zargs 0 [vr (some (97, 1, 0)), vi l3, vi l2]) 0 [] (zma E YX8_read_2 (d + 1) [(0, vr (some (97, 1, 0))), (2, vi l2), (3, vi l3)] 10 3 [] Q))) : Zm E YX8_read_2 (d + 1) M [(0, vr (some (97, 1, 0))), (2, vi l2), (3, vi l3)] 2 [] Q := by
  refine sX8_read_2_2 (d := d) M l2 l3 ?_
  refine zite k (fun h5400 k => ?_) (fun h5400 k => ?_)
  · refine sX8_give_2_0 (d := d) M (0 : Int32) (0 : Int32) ?_
    show Zm E YX8_read_2 (d + 1) (si (si M 97 111 (0 : Int32)) 97 112 (0 : Int32)) [] 57 [] Q
    refine sX8_read_2_57 (d := d) (si (si M 97 111 (0 : Int32)) 97 112 (0 : Int32))  ?_
    exact k
  · exact k
theorem iX8_read_2_13 {E : zE} {d : Nat} {Q : zO → zM → Prop} (M : zM) (l2 : Int32) (l3 : Int32) (s0 : Int32) (k : if s0 = (-1 : Int32) then (vp_in l3 300 ∧ (Zm E YX8_read_2 (d + 1) M [(0, vr (some (97, 1, 0))), (2, vi l2), (3, vi (gi M 139 (l3).toNatClampNeg))] 2 [] Q)) else (vp_in s0 3000 ∧ (Q (.inl (some (vi (1 : Int32)))) (si (si M 97 111 (gi M 146 (s0).toNatClampNeg)) 97 112 (gi M 147 (s0).toNatClampNeg))))) : Zm E YX8_read_2 (d + 1) M [(0, vr (some (97, 1, 0))), (2, vi l2), (3, vi l3)] 13 [vi s0] Q := by
  refine sX8_read_2_13 (d := d) M l2 l3 s0 ?_
  refine zite k (fun h5401 k => ?_) (fun h5401 k => ?_)
  · exact k
  · refine zand k (fun h5403 k => ?_)
    refine ⟨h5403, ?_⟩
    refine sX8_give_2_0 (d := d) M (gi M 146 (s0).toNatClampNeg) (gi M 147 (s0).toNatClampNeg) ?_
    show Zm E YX8_read_2 (d + 1) (si (si M 97 111 (gi M 146 (s0).toNatClampNeg)) 97 112 (gi M 147 (s0).toNatClampNeg)) [] 39 [] Q
    refine sX8_read_2_39 (d := d) (si (si M 97 111 (gi M 146 (s0).toNatClampNeg)) 97 112 (gi M 147 (s0).toNatClampNeg))  ?_
    exact k
theorem iX8_run_0 {E : zE} {d : Nat} {Q : zO → zM → Prop} (M : zM) (l1 : Int32) (k : if l1 < (0 : Int32) then (Q (.inl (some (vi (0 : Int32)))) (si M 97 0 (1 : Int32))) else (if (2000 : Int32) < l1 then (Q (.inl (some (vi (0 : Int32)))) (si M 97 0 (1 : Int32))) else (if (gi M 97 73) = (1 : Int32) then (Zm E YX8_run (d + 1) (si M 97 0 (0 : Int32)) [(0, vr (some (97, 1, 0))), (1, vi l1), (2, vi (0 : Int32))] 43 [] Q) else (Q (.inl (some (vi (0 : Int32)))) (si M 97 0 (2 : Int32)))))) : Zm E YX8_run (d + 1) M [(0, vr (some (97, 1, 0))), (1, vi l1)] 0 [] Q := by
  refine sX8_run_0 (d := d) M l1 ?_
  refine sX8_in_0 (d := d) M l1 (0 : Int32) (2000 : Int32) ?_
  refine zite k (fun h5406 k => ?_) (fun h5406 k => ?_)
  · show Zm E YX8_run (d + 1) M [(0, vr (some (97, 1, 0))), (1, vi l1)] 9 [vi (0 : Int32), vr (some (97, 1, 0))] Q
    refine sX8_run_9 (d := d) M l1 (0 : Int32) ?_
    refine zpos (show (0 : Int32) = 0 from by decide) ?_
    refine sX8_run_29 (d := d) M l1 (1 : Int32) ?_
    refine zneg (show ¬ ((1 : Int32) ≤ 0) from by decide) ?_
    exact k
  · refine zite k (fun h5407 k => ?_) (fun h5407 k => ?_)
    · show Zm E YX8_run (d + 1) M [(0, vr (some (97, 1, 0))), (1, vi l1)] 9 [vi (0 : Int32), vr (some (97, 1, 0))] Q
      refine sX8_run_9 (d := d) M l1 (0 : Int32) ?_
      refine zpos (show (0 : Int32) = 0 from by decide) ?_
      refine sX8_run_29 (d := d) M l1 (1 : Int32) ?_
      refine zneg (show ¬ ((1 : Int32) ≤ 0) from by decide) ?_
      exact k
    · show Zm E YX8_run (d + 1) M [(0, vr (some (97, 1, 0))), (1, vi l1)] 9 [vi (1 : Int32), vr (some (97, 1, 0))] Q
      refine sX8_run_9 (d := d) M l1 (1 : Int32) ?_
      refine zneg (show ¬ ((1 : Int32) = 0) from by decide) ?_
      refine zite k (fun h5408 k => ?_) (fun h5408 k => ?_)
      · refine sX8_run_29 (d := d) M l1 (0 : Int32) ?_
        refine zpos (show (0 : Int32) ≤ 0 from by decide) ?_
        exact k
      · refine sX8_run_29 (d := d) M l1 (2 : Int32) ?_
        refine zneg (show ¬ ((2 : Int32) ≤ 0) from by decide) ?_
        exact k
theorem iX8_set_2_6 {E : zE} {d : Nat} {Q : zO → zM → Prop} (M : zM) (l1 : Int32) (l2 : Int32) (l3 : Int32) (l4 : Int32) (s0 : Int32) (k : if s0 = (-1 : Int32) then (if (gi M 97 84) = (3000 : Int32) then (Q (.inl none) (si M 97 75 (1 : Int32))) else (vp_in (gi M 97 85) 3000 ∧ (vp_in l1 300 ∧ (if (gi M 144 (l1).toNatClampNeg) = (-1 : Int32) then (Q (.inl none) (si (si (si (si (si (si (si (si (si (si M 97 85 (gi M 149 ((gi M 97 85)).toNatClampNeg)) 97 84 ((gi M 97 84) + (1 : Int32))) 145 ((gi M 97 85)).toNatClampNeg l2) 97 86 ((gi M 97 86) + (1 : Int32))) 148 ((gi M 97 85)).toNatClampNeg ((gi M 97 86) + (1 : Int32))) 149 ((gi M 97 85)).toNatClampNeg (-1 : Int32)) 143 (l1).toNatClampNeg (gi M 97 85)) 144 (l1).toNatClampNeg (gi M 97 85)) 146 ((gi M 97 85)).toNatClampNeg l3) 147 ((gi M 97 85)).toNatClampNeg l4)) else (vp_in (gi M 144 (l1).toNatClampNeg) 3000 ∧ (Q (.inl none) (si (si (si (si (si (si (si (si (si (si M 97 85 (gi M 149 ((gi M 97 85)).toNatClampNeg)) 97 84 ((gi M 97 84) + (1 : Int32))) 145 ((gi M 97 85)).toNatClampNeg l2) 97 86 ((gi M 97 86) + (1 : Int32))) 148 ((gi M 97 85)).toNatClampNeg ((gi M 97 86) + (1 : Int32))) 149 ((gi M 97 85)).toNatClampNeg (-1 : Int32)) 149 ((gi M 144 (l1).toNatClampNeg)).toNatClampNeg (gi M 97 85)) 144 (l1).toNatClampNeg (gi M 97 85)) 146 ((gi M 97 85)).toNatClampNeg l3) 147 ((gi M 97 85)).toNatClampNeg l4))))))) else (vp_in s0 3000 ∧ (Q (.inl none) (si (si M 146 (s0).toNatClampNeg l3) 147 (s0).toNatClampNeg l4)))) : Zm E YX8_set_2 (d + 1) M [(0, vr (some (97, 1, 0))), (1, vi l1), (2, vi l2), (3, vi l3), (4, vi l4)] 6 [vi s0] Q := by
  refine sX8_set_2_6 (d := d) M l1 l2 l3 l4 s0 ?_
  refine zite k (fun h5418 k => ?_) (fun h5418 k => ?_)
  · refine zite k (fun h5419 k => ?_) (fun h5419 k => ?_)
    · exact k
    · refine zand k (fun h5420 k => ?_)
      refine ⟨h5420, ?_⟩
      refine ⟨h5420, ?_⟩
      refine ⟨h5420, ?_⟩
      refine zand k (fun h5421 k => ?_)
      refine zite k (fun h5422 k => ?_) (fun h5422 k => ?_)
      · refine ⟨h5421, ?_⟩
        refine ⟨h5421, ?_⟩
        refine sX8_set_2_136 (d := d) (si (si (si (si (si (si (si (si M 97 85 (gi M 149 ((gi M 97 85)).toNatClampNeg)) 97 84 ((gi M 97 84) + (1 : Int32))) 145 ((gi M 97 85)).toNatClampNeg l2) 97 86 ((gi M 97 86) + (1 : Int32))) 148 ((gi M 97 85)).toNatClampNeg ((gi M 97 86) + (1 : Int32))) 149 ((gi M 97 85)).toNatClampNeg (-1 : Int32)) 143 (l1).toNatClampNeg (gi M 97 85)) 144 (l1).toNatClampNeg (gi M 97 85)) l3 l4 (gi M 97 85) ?_
        refine ⟨h5420, ?_⟩
        refine ⟨h5420, ?_⟩
        exact k
      · refine ⟨h5421, ?_⟩
        refine zand k (fun h5423 k => ?_)
        refine ⟨h5421, ?_⟩
        refine sX8_set_2_136 (d := d) (si (si (si (si (si (si (si (si M 97 85 (gi M 149 ((gi M 97 85)).toNatClampNeg)) 97 84 ((gi M 97 84) + (1 : Int32))) 145 ((gi M 97 85)).toNatClampNeg l2) 97 86 ((gi M 97 86) + (1 : Int32))) 148 ((gi M 97 85)).toNatClampNeg ((gi M 97 86) + (1 : Int32))) 149 ((gi M 97 85)).toNatClampNeg (-1 : Int32)) 149 ((gi M 144 (l1).toNatClampNeg)).toNatClampNeg (gi M 97 85)) 144 (l1).toNatClampNeg (gi M 97 85)) l3 l4 (gi M 97 85) ?_
        refine ⟨h5420, ?_⟩
        refine ⟨h5420, ?_⟩
        exact k
  · refine sX8_set_2_136 (d := d) M l3 l4 s0 ?_
    refine zand k (fun h5424 k => ?_)
    refine ⟨h5424, ?_⟩
    exact k
theorem iX8_sortAt_0 {E : zE} {d : Nat} {Q : zO → zM → Prop} (M : zM) (l1 : Int32) (k : vp_in ((gi M 97 92) - (1 : Int32)) 24 ∧ (vp_in (((((400 : Int32) * ((gi M 97 92) - (1 : Int32))) + (gi M 155 (((gi M 97 92) - (1 : Int32))).toNatClampNeg)) - (1 : Int32)) - l1) 9600 ∧ (Q (.inl (some (vi (gi M 160 ((((((400 : Int32) * ((gi M 97 92) - (1 : Int32))) + (gi M 155 (((gi M 97 92) - (1 : Int32))).toNatClampNeg)) - (1 : Int32)) - l1)).toNatClampNeg)))) M))) : Zm E YX8_sortAt (d + 1) M [(0, vr (some (97, 1, 0))), (1, vi l1)] 0 [] Q := by
  refine sX8_sortAt_0 (d := d) M l1 ?_
  refine sX8_top_0 (d := d) M  ?_
  refine zand k (fun h5425 k => ?_)
  show Zm E YX8_sortAt (d + 1) M [(1, vi l1)] 8 [vi (((400 : Int32) * ((gi M 97 92) - (1 : Int32))) + (gi M 155 (((gi M 97 92) - (1 : Int32))).toNatClampNeg)), vr (some (160, 100, 9600))] Q
  refine sX8_sortAt_8 (d := d) M l1 (((400 : Int32) * ((gi M 97 92) - (1 : Int32))) + (gi M 155 (((gi M 97 92) - (1 : Int32))).toNatClampNeg)) ?_
  exact k
theorem iX8_step_2_174 {E : zE} {d : Nat} {Q : zO → zM → Prop} (M : zM) (l3 : Int32) (s0 : Int32) (k : vp_in ((gi M 97 92) - (1 : Int32)) 24 ∧ (vp_in (((((400 : Int32) * ((gi M 97 92) - (1 : Int32))) + (gi M 155 (((gi M 97 92) - (1 : Int32))).toNatClampNeg)) - (1 : Int32)) - (0 : Int32)) 9600 ∧ (Zm E YX8_set_2 (d + 1) M (zargs 0 [vr (some (97, 1, 0)), vi s0, vi l3, vi (gi M 160 ((((((400 : Int32) * ((gi M 97 92) - (1 : Int32))) + (gi M 155 (((gi M 97 92) - (1 : Int32))).toNatClampNeg)) - (1 : Int32)) - (0 : Int32))).toNatClampNeg), vi (gi M 161 ((((((400 : Int32) * ((gi M 97 92) - (1 : Int32))) + (gi M 155 (((gi M 97 92) - (1 : Int32))).toNatClampNeg)) - (1 : Int32)) - (0 : Int32))).toNatClampNeg)]) 0 [] (zma E YX8_step_2 ((d + 1) + 1) [(0, vr (some (97, 1, 0)))] 185 3 [] Q)))) : Zm E YX8_step_2 (d + 2) M [(0, vr (some (97, 1, 0))), (3, vi l3)] 174 [vi s0, vr (some (97, 1, 0))] Q := by
  refine sX8_step_2_174 (d := (d + 1)) M l3 s0 ?_
  refine jX8_sortAt (d := d) M (0 : Int32) ?_
  refine zand k (fun h5578 k => ?_)
  refine zand k (fun h5579 k => ?_)
  show Zm E YX8_step_2 ((d + 1) + 1) M [(0, vr (some (97, 1, 0)))] 180 [vi (gi M 160 ((((((400 : Int32) * ((gi M 97 92) - (1 : Int32))) + (gi M 155 (((gi M 97 92) - (1 : Int32))).toNatClampNeg)) - (1 : Int32)) - (0 : Int32))).toNatClampNeg), vi l3, vi s0, vr (some (97, 1, 0))] Q
  refine sX8_step_2_180 (d := (d + 1)) M (gi M 160 ((((((400 : Int32) * ((gi M 97 92) - (1 : Int32))) + (gi M 155 (((gi M 97 92) - (1 : Int32))).toNatClampNeg)) - (1 : Int32)) - (0 : Int32))).toNatClampNeg) l3 s0 ?_
  refine jX8_valueAt (d := d) M (0 : Int32) ?_
  refine ⟨h5578, ?_⟩
  refine ⟨h5579, ?_⟩
  show Zm E YX8_step_2 ((d + 1) + 1) M [(0, vr (some (97, 1, 0)))] 185 [vi (gi M 161 ((((((400 : Int32) * ((gi M 97 92) - (1 : Int32))) + (gi M 155 (((gi M 97 92) - (1 : Int32))).toNatClampNeg)) - (1 : Int32)) - (0 : Int32))).toNatClampNeg), vi (gi M 160 ((((((400 : Int32) * ((gi M 97 92) - (1 : Int32))) + (gi M 155 (((gi M 97 92) - (1 : Int32))).toNatClampNeg)) - (1 : Int32)) - (0 : Int32))).toNatClampNeg), vi l3, vi s0, vr (some (97, 1, 0))] Q
  refine sX8_step_2_185 (d := (d + 1)) M (gi M 161 ((((((400 : Int32) * ((gi M 97 92) - (1 : Int32))) + (gi M 155 (((gi M 97 92) - (1 : Int32))).toNatClampNeg)) - (1 : Int32)) - (0 : Int32))).toNatClampNeg) (gi M 160 ((((((400 : Int32) * ((gi M 97 92) - (1 : Int32))) + (gi M 155 (((gi M 97 92) - (1 : Int32))).toNatClampNeg)) - (1 : Int32)) - (0 : Int32))).toNatClampNeg) l3 s0 ?_
  exact k
theorem iX8_step_2_215 {E : zE} {d : Nat} {Q : zO → zM → Prop} (M : zM)  (k : Q (.inl none) M) : Zm E YX8_step_2 (d + 1) M [] 215 [] Q := by
  refine sX8_step_2_215 (d := d) M  ?_
  refine sX8_step_2_446 (d := d) M  ?_
  exact k
theorem iX8_step_2_226 {E : zE} {d : Nat} {Q : zO → zM → Prop} (M : zM) (s0 : Int32) (s1 : Int32) (s2 : Int32) (k : vp_in ((gi M 97 92) - (1 : Int32)) 24 ∧ (vp_in (((((400 : Int32) * ((gi M 97 92) - (1 : Int32))) + (gi M 155 (((gi M 97 92) - (1 : Int32))).toNatClampNeg)) - (1 : Int32)) - (0 : Int32)) 9600 ∧ (Zm E YX8_set_2 (d + 1) M (zargs 0 [vr (some (97, 1, 0)), vi s2, vi s1, vi s0, vi (gi M 161 ((((((400 : Int32) * ((gi M 97 92) - (1 : Int32))) + (gi M 155 (((gi M 97 92) - (1 : Int32))).toNatClampNeg)) - (1 : Int32)) - (0 : Int32))).toNatClampNeg)]) 0 [] (zma E YX8_step_2 ((d + 1) + 1) [(0, vr (some (97, 1, 0)))] 231 3 [] Q)))) : Zm E YX8_step_2 (d + 2) M [(0, vr (some (97, 1, 0)))] 226 [vi s0, vi s1, vi s2, vr (some (97, 1, 0))] Q := by
  refine sX8_step_2_226 (d := (d + 1)) M s0 s1 s2 ?_
  refine jX8_valueAt (d := d) M (0 : Int32) ?_
  refine zand k (fun h5580 k => ?_)
  refine zand k (fun h5581 k => ?_)
  show Zm E YX8_step_2 ((d + 1) + 1) M [(0, vr (some (97, 1, 0)))] 231 [vi (gi M 161 ((((((400 : Int32) * ((gi M 97 92) - (1 : Int32))) + (gi M 155 (((gi M 97 92) - (1 : Int32))).toNatClampNeg)) - (1 : Int32)) - (0 : Int32))).toNatClampNeg), vi s0, vi s1, vi s2, vr (some (97, 1, 0))] Q
  refine sX8_step_2_231 (d := (d + 1)) M (gi M 161 ((((((400 : Int32) * ((gi M 97 92) - (1 : Int32))) + (gi M 155 (((gi M 97 92) - (1 : Int32))).toNatClampNeg)) - (1 : Int32)) - (0 : Int32))).toNatClampNeg) s0 s1 s2 ?_
  exact k
theorem iX8_step_2_335 {E : zE} {d : Nat} {Q : zO → zM → Prop} (M : zM)  (k : Q (.inl none) M) : Zm E YX8_step_2 (d + 1) M [] 335 [] Q := by
  refine sX8_step_2_335 (d := d) M  ?_
  refine sX8_step_2_446 (d := d) M  ?_
  exact k
theorem iX8_step_2_342 {E : zE} {d : Nat} {Q : zO → zM → Prop} (M : zM)  (k : Q (.inl none) M) : Zm E YX8_step_2 (d + 1) M [] 342 [] Q := by
  refine sX8_step_2_342 (d := d) M  ?_
  refine sX8_step_2_446 (d := d) M  ?_
  exact k
theorem iX8_step_2_349 {E : zE} {d : Nat} {Q : zO → zM → Prop} (M : zM)  (k : Q (.inl none) M) : Zm E YX8_step_2 (d + 1) M [] 349 [] Q := by
  refine sX8_step_2_349 (d := d) M  ?_
  refine sX8_step_2_446 (d := d) M  ?_
  exact k
theorem iX8_step_2_356 {E : zE} {d : Nat} {Q : zO → zM → Prop} (M : zM)  (k : Q (.inl none) M) : Zm E YX8_step_2 (d + 1) M [] 356 [] Q := by
  refine sX8_step_2_356 (d := d) M  ?_
  refine sX8_step_2_446 (d := d) M  ?_
  exact k
theorem iX8_step_2_373 {E : zE} {d : Nat} {Q : zO → zM → Prop} (M : zM) (s0 : Int32) (s2 : Int32) (k : vp_in ((gi M 97 92) - (1 : Int32)) 24 ∧ (vp_in (((((400 : Int32) * ((gi M 97 92) - (1 : Int32))) + (gi M 155 (((gi M 97 92) - (1 : Int32))).toNatClampNeg)) - (1 : Int32)) - (0 : Int32)) 9600 ∧ (Zm E YX8_typeOf (d + 1) M (zargs 0 [vr (some (97, 1, 0)), vi s0, vi (gi M 161 ((((((400 : Int32) * ((gi M 97 92) - (1 : Int32))) + (gi M 155 (((gi M 97 92) - (1 : Int32))).toNatClampNeg)) - (1 : Int32)) - (0 : Int32))).toNatClampNeg)]) 0 [] (zma E YX8_step_2 ((d + 1) + 1) [(0, vr (some (97, 1, 0)))] 378 3 [vi s2, vr (some (97, 1, 0))] Q)))) : Zm E YX8_step_2 (d + 2) M [(0, vr (some (97, 1, 0)))] 373 [vi s0, vr (some (97, 1, 0)), vi s2, vr (some (97, 1, 0))] Q := by
  refine sX8_step_2_373 (d := (d + 1)) M s0 s2 ?_
  refine jX8_valueAt (d := d) M (0 : Int32) ?_
  refine zand k (fun h5582 k => ?_)
  refine zand k (fun h5583 k => ?_)
  show Zm E YX8_step_2 ((d + 1) + 1) M [(0, vr (some (97, 1, 0)))] 378 [vi (gi M 161 ((((((400 : Int32) * ((gi M 97 92) - (1 : Int32))) + (gi M 155 (((gi M 97 92) - (1 : Int32))).toNatClampNeg)) - (1 : Int32)) - (0 : Int32))).toNatClampNeg), vi s0, vr (some (97, 1, 0)), vi s2, vr (some (97, 1, 0))] Q
  refine sX8_step_2_378 (d := (d + 1)) M (gi M 161 ((((((400 : Int32) * ((gi M 97 92) - (1 : Int32))) + (gi M 155 (((gi M 97 92) - (1 : Int32))).toNatClampNeg)) - (1 : Int32)) - (0 : Int32))).toNatClampNeg) s0 s2 ?_
  exact k
theorem iX8_step_2_394 {E : zE} {d : Nat} {Q : zO → zM → Prop} (M : zM) (s0 : Int32) (s1 : Int32) (k : vp_in ((gi M 97 92) - (1 : Int32)) 24 ∧ (vp_in (((((400 : Int32) * ((gi M 97 92) - (1 : Int32))) + (gi M 155 (((gi M 97 92) - (1 : Int32))).toNatClampNeg)) - (1 : Int32)) - (0 : Int32)) 9600 ∧ (Zm E YX8_unaryOf (d + 1) M (zargs 0 [vr (some (97, 1, 0)), vi s1, vi s0, vi (gi M 161 ((((((400 : Int32) * ((gi M 97 92) - (1 : Int32))) + (gi M 155 (((gi M 97 92) - (1 : Int32))).toNatClampNeg)) - (1 : Int32)) - (0 : Int32))).toNatClampNeg)]) 0 [] (zma E YX8_step_2 ((d + 1) + 1) [(0, vr (some (97, 1, 0)))] 399 3 [] Q)))) : Zm E YX8_step_2 (d + 2) M [(0, vr (some (97, 1, 0)))] 394 [vi s0, vi s1, vr (some (97, 1, 0))] Q := by
  refine sX8_step_2_394 (d := (d + 1)) M s0 s1 ?_
  refine jX8_valueAt (d := d) M (0 : Int32) ?_
  refine zand k (fun h5584 k => ?_)
  refine zand k (fun h5585 k => ?_)
  show Zm E YX8_step_2 ((d + 1) + 1) M [(0, vr (some (97, 1, 0)))] 399 [vi (gi M 161 ((((((400 : Int32) * ((gi M 97 92) - (1 : Int32))) + (gi M 155 (((gi M 97 92) - (1 : Int32))).toNatClampNeg)) - (1 : Int32)) - (0 : Int32))).toNatClampNeg), vi s0, vi s1, vr (some (97, 1, 0))] Q
  refine sX8_step_2_399 (d := (d + 1)) M (gi M 161 ((((((400 : Int32) * ((gi M 97 92) - (1 : Int32))) + (gi M 155 (((gi M 97 92) - (1 : Int32))).toNatClampNeg)) - (1 : Int32)) - (0 : Int32))).toNatClampNeg) s0 s1 ?_
  exact k
theorem iX8_step_2_415 {E : zE} {d : Nat} {Q : zO → zM → Prop} (M : zM)  (k : Q (.inl none) M) : Zm E YX8_step_2 (d + 1) M [] 415 [] Q := by
  refine sX8_step_2_415 (d := d) M  ?_
  refine sX8_step_2_446 (d := d) M  ?_
  exact k
theorem iX8_step_2_423 {E : zE} {d : Nat} {Q : zO → zM → Prop} (M : zM)  (k : Q (.inl none) M) : Zm E YX8_step_2 (d + 1) M [] 423 [] Q := by
  refine sX8_step_2_423 (d := d) M  ?_
  refine sX8_step_2_446 (d := d) M  ?_
  exact k
theorem iX8_step_2_432 {E : zE} {d : Nat} {Q : zO → zM → Prop} (M : zM)  (k : Q (.inl none) M) : Zm E YX8_step_2 (d + 1) M [] 432 [] Q := by
  refine sX8_step_2_432 (d := d) M  ?_
  refine sX8_step_2_446 (d := d) M  ?_
  exact k
theorem iX8_step_2_127 {E : zE} {d : Nat} {Q : zO → zM → Prop} (M : zM)  (k : Q (.inl none) M) : Zm E YX8_step_2 (d + 1) M [] 127 [] Q := by
  refine sX8_step_2_127 (d := d) M  ?_
  refine sX8_step_2_446 (d := d) M  ?_
  exact k
theorem iX8_step_2_140 {E : zE} {d : Nat} {Q : zO → zM → Prop} (M : zM) (s0 : Int32) (k : vp_in s0 3000 ∧ (Zm E YX8_gives d (si (si M 97 111 (gi M 146 (s0).toNatClampNeg)) 97 112 (gi M 147 (s0).toNatClampNeg)) (zargs 0 [vr (some (97, 1, 0)), vi (0 : Int32)]) 0 [] (zma E YX8_step_2 (d + 1) [] 162 3 [] Q))) : Zm E YX8_step_2 (d + 1) M [(0, vr (some (97, 1, 0)))] 140 [vi s0] Q := by
  refine sX8_step_2_140 (d := d) M s0 ?_
  refine zand k (fun h5586 k => ?_)
  refine ⟨h5586, ?_⟩
  refine sX8_give_2_0 (d := d) M (gi M 146 (s0).toNatClampNeg) (gi M 147 (s0).toNatClampNeg) ?_
  show Zm E YX8_step_2 (d + 1) (si (si M 97 111 (gi M 146 (s0).toNatClampNeg)) 97 112 (gi M 147 (s0).toNatClampNeg)) [(0, vr (some (97, 1, 0)))] 160 [] Q
  refine sX8_step_2_160 (d := d) (si (si M 97 111 (gi M 146 (s0).toNatClampNeg)) 97 112 (gi M 147 (s0).toNatClampNeg))  ?_
  exact k
theorem iX8_step_2_188 {E : zE} {d : Nat} {Q : zO → zM → Prop} (M : zM)  (k : vp_in ((gi M 97 92) - (1 : Int32)) 24 ∧ (Q (.inl none) (si M 154 (((gi M 97 92) - (1 : Int32))).toNatClampNeg ((gi M 154 (((gi M 97 92) - (1 : Int32))).toNatClampNeg) + (1 : Int32))))) : Zm E YX8_step_2 (d + 1) M [(0, vr (some (97, 1, 0)))] 188 [] Q := by
  refine sX8_step_2_188 (d := d) M  ?_
  refine jX8_goOn (d := d) M  ?_
  refine zand k (fun h5587 k => ?_)
  show Zm E YX8_step_2 (d + 1) (si M 154 (((gi M 97 92) - (1 : Int32))).toNatClampNeg ((gi M 154 (((gi M 97 92) - (1 : Int32))).toNatClampNeg) + (1 : Int32))) [] 192 [] Q
  refine sX8_step_2_192 (d := d) (si M 154 (((gi M 97 92) - (1 : Int32))).toNatClampNeg ((gi M 154 (((gi M 97 92) - (1 : Int32))).toNatClampNeg) + (1 : Int32)))  ?_
  refine sX8_step_2_446 (d := d) (si M 154 (((gi M 97 92) - (1 : Int32))).toNatClampNeg ((gi M 154 (((gi M 97 92) - (1 : Int32))).toNatClampNeg) + (1 : Int32)))  ?_
  exact k
theorem iX8_step_2_234 {E : zE} {d : Nat} {Q : zO → zM → Prop} (M : zM)  (k : if (gi M 97 75) = 0 then (vp_in ((gi M 97 92) - (1 : Int32)) 24 ∧ (Q (.inl none) (si M 154 (((gi M 97 92) - (1 : Int32))).toNatClampNeg ((gi M 154 (((gi M 97 92) - (1 : Int32))).toNatClampNeg) + (1 : Int32))))) else (Q (.inl none) M)) : Zm E YX8_step_2 (d + 1) M [(0, vr (some (97, 1, 0)))] 234 [] Q := by
  refine sX8_step_2_234 (d := d) M  ?_
  refine zite k (fun h5588 k => ?_) (fun h5588 k => ?_)
  · refine jX8_goOn (d := d) M  ?_
    refine zand k (fun h5589 k => ?_)
    show Zm E YX8_step_2 (d + 1) (si M 154 (((gi M 97 92) - (1 : Int32))).toNatClampNeg ((gi M 154 (((gi M 97 92) - (1 : Int32))).toNatClampNeg) + (1 : Int32))) [] 245 [] Q
    refine sX8_step_2_245 (d := d) (si M 154 (((gi M 97 92) - (1 : Int32))).toNatClampNeg ((gi M 154 (((gi M 97 92) - (1 : Int32))).toNatClampNeg) + (1 : Int32)))  ?_
    refine sX8_step_2_446 (d := d) (si M 154 (((gi M 97 92) - (1 : Int32))).toNatClampNeg ((gi M 154 (((gi M 97 92) - (1 : Int32))).toNatClampNeg) + (1 : Int32)))  ?_
    exact k
  · refine sX8_step_2_446 (d := d) M  ?_
    exact k
theorem iX8_step_2_279 {E : zE} {d : Nat} {Q : zO → zM → Prop} (M : zM)  (k : Q (.inl none) M) : Zm E YX8_step_2 (d + 1) M [] 279 [] Q := by
  refine sX8_step_2_279 (d := d) M  ?_
  refine sX8_step_2_446 (d := d) M  ?_
  exact k
theorem iX8_step_2_296 {E : zE} {d : Nat} {Q : zO → zM → Prop} (M : zM) (s0 : Int32) (s1 : Int32) (k : Zm E YX8_gives d (si (si M 97 111 s1) 97 112 s0) (zargs 0 [vr (some (97, 1, 0)), vi (0 : Int32)]) 0 [] (zma E YX8_step_2 (d + 1) [] 301 3 [] Q)) : Zm E YX8_step_2 (d + 1) M [(0, vr (some (97, 1, 0)))] 296 [vi s0, vi s1, vr (some (97, 1, 0))] Q := by
  refine sX8_step_2_296 (d := d) M s0 s1 ?_
  refine sX8_give_2_0 (d := d) M s1 s0 ?_
  show Zm E YX8_step_2 (d + 1) (si (si M 97 111 s1) 97 112 s0) [(0, vr (some (97, 1, 0)))] 299 [] Q
  refine sX8_step_2_299 (d := d) (si (si M 97 111 s1) 97 112 s0)  ?_
  exact k
theorem iX8_step_2_319 {E : zE} {d : Nat} {Q : zO → zM → Prop} (M : zM) (s0 : Int32) (s1 : Int32) (k : Zm E YX8_gives d (si (si M 97 111 s1) 97 112 s0) (zargs 0 [vr (some (97, 1, 0)), vi (0 : Int32)]) 0 [] (zma E YX8_step_2 (d + 1) [] 324 3 [] Q)) : Zm E YX8_step_2 (d + 1) M [(0, vr (some (97, 1, 0)))] 319 [vi s0, vi s1, vr (some (97, 1, 0))] Q := by
  refine sX8_step_2_319 (d := d) M s0 s1 ?_
  refine sX8_give_2_0 (d := d) M s1 s0 ?_
  show Zm E YX8_step_2 (d + 1) (si (si M 97 111 s1) 97 112 s0) [(0, vr (some (97, 1, 0)))] 322 [] Q
  refine sX8_step_2_322 (d := d) (si (si M 97 111 s1) 97 112 s0)  ?_
  exact k
theorem iX8_step_2_381 {E : zE} {d : Nat} {Q : zO → zM → Prop} (M : zM) (s0 : Int32) (s1 : Int32) (k : Zm E YX8_gives d (si (si M 97 111 s1) 97 112 s0) (zargs 0 [vr (some (97, 1, 0)), vi (1 : Int32)]) 0 [] (zma E YX8_step_2 (d + 1) [] 404 3 [] Q)) : Zm E YX8_step_2 (d + 1) M [(0, vr (some (97, 1, 0)))] 381 [vi s0, vi s1, vr (some (97, 1, 0))] Q := by
  refine sX8_step_2_381 (d := d) M s0 s1 ?_
  refine sX8_give_2_0 (d := d) M s1 s0 ?_
  show Zm E YX8_step_2 (d + 1) (si (si M 97 111 s1) 97 112 s0) [(0, vr (some (97, 1, 0)))] 384 [] Q
  refine sX8_step_2_384 (d := d) (si (si M 97 111 s1) 97 112 s0)  ?_
  refine sX8_step_2_402 (d := d) (si (si M 97 111 s1) 97 112 s0)  ?_
  exact k
theorem iX8_step_2_165 {E : zE} {d : Nat} {Q : zO → zM → Prop} (M : zM)  (k : Q (.inl none) M) : Zm E YX8_step_2 (d + 1) M [] 165 [] Q := by
  refine sX8_step_2_165 (d := d) M  ?_
  refine sX8_step_2_446 (d := d) M  ?_
  exact k
theorem iX8_step_2_304 {E : zE} {d : Nat} {Q : zO → zM → Prop} (M : zM)  (k : Q (.inl none) M) : Zm E YX8_step_2 (d + 1) M [] 304 [] Q := by
  refine sX8_step_2_304 (d := d) M  ?_
  refine sX8_step_2_446 (d := d) M  ?_
  exact k
theorem iX8_step_2_327 {E : zE} {d : Nat} {Q : zO → zM → Prop} (M : zM)  (k : Q (.inl none) M) : Zm E YX8_step_2 (d + 1) M [] 327 [] Q := by
  refine sX8_step_2_327 (d := d) M  ?_
  refine sX8_step_2_446 (d := d) M  ?_
  exact k
theorem iX8_step_2_407 {E : zE} {d : Nat} {Q : zO → zM → Prop} (M : zM)  (k : Q (.inl none) M) : Zm E YX8_step_2 (d + 1) M [] 407 [] Q := by
  refine sX8_step_2_407 (d := d) M  ?_
  refine sX8_step_2_446 (d := d) M  ?_
  exact k
theorem iX8_toss_2_8 {E : zE} {d : Nat} {Q : zO → zM → Prop} (M : zM) (l1 : Int32) (l2 : Int32) (k : if (gi M 97 92) ≤ 0 then (if (gi M 97 92) = 0 then (Q (.inl none) (si (si (si M 97 73 (3 : Int32)) 97 109 l1) 97 110 l2)) else (vp_in ((gi M 97 92) - (1 : Int32)) 24 ∧ (vp_in (((40 : Int32) * ((gi M 97 92) - (1 : Int32))) + (gi (si M 157 (((gi M 97 92) - (1 : Int32))).toNatClampNeg ((gi M 157 (((gi M 97 92) - (1 : Int32))).toNatClampNeg) - (1 : Int32))) 157 (((gi M 97 92) - (1 : Int32))).toNatClampNeg)) 960 ∧ (Zm E YX8_push d (si (si M 157 (((gi M 97 92) - (1 : Int32))).toNatClampNeg ((gi M 157 (((gi M 97 92) - (1 : Int32))).toNatClampNeg) - (1 : Int32))) 155 (((gi M 97 92) - (1 : Int32))).toNatClampNeg (gi M 159 ((((40 : Int32) * ((gi M 97 92) - (1 : Int32))) + (gi (si M 157 (((gi M 97 92) - (1 : Int32))).toNatClampNeg ((gi M 157 (((gi M 97 92) - (1 : Int32))).toNatClampNeg) - (1 : Int32))) 157 (((gi M 97 92) - (1 : Int32))).toNatClampNeg))).toNatClampNeg)) (zargs 0 [vr (some (97, 1, 0)), vi l1, vi l2]) 0 [] (zma E YX8_toss_2 (d + 1) [(0, vr (some (97, 1, 0))), (3, vi ((gi M 97 92) - (1 : Int32))), (4, vi (((40 : Int32) * ((gi M 97 92) - (1 : Int32))) + (gi (si M 157 (((gi M 97 92) - (1 : Int32))).toNatClampNeg ((gi M 157 (((gi M 97 92) - (1 : Int32))).toNatClampNeg) - (1 : Int32))) 157 (((gi M 97 92) - (1 : Int32))).toNatClampNeg)))] 111 3 [] Q))))) else (vp_in ((gi M 97 92) - (1 : Int32)) 24 ∧ (if (gi M 157 (((gi M 97 92) - (1 : Int32))).toNatClampNeg) = 0 then (Zm E YX8_toss_2 (d + 1) (si M 97 92 ((gi M 97 92) - (1 : Int32))) [(0, vr (some (97, 1, 0))), (1, vi l1), (2, vi l2)] 8 [] Q) else (if (gi M 97 92) = 0 then (Q (.inl none) (si (si (si M 97 73 (3 : Int32)) 97 109 l1) 97 110 l2)) else (vp_in (((40 : Int32) * ((gi M 97 92) - (1 : Int32))) + (gi (si M 157 (((gi M 97 92) - (1 : Int32))).toNatClampNeg ((gi M 157 (((gi M 97 92) - (1 : Int32))).toNatClampNeg) - (1 : Int32))) 157 (((gi M 97 92) - (1 : Int32))).toNatClampNeg)) 960 ∧ (Zm E YX8_push d (si (si M 157 (((gi M 97 92) - (1 : Int32))).toNatClampNeg ((gi M 157 (((gi M 97 92) - (1 : Int32))).toNatClampNeg) - (1 : Int32))) 155 (((gi M 97 92) - (1 : Int32))).toNatClampNeg (gi M 159 ((((40 : Int32) * ((gi M 97 92) - (1 : Int32))) + (gi (si M 157 (((gi M 97 92) - (1 : Int32))).toNatClampNeg ((gi M 157 (((gi M 97 92) - (1 : Int32))).toNatClampNeg) - (1 : Int32))) 157 (((gi M 97 92) - (1 : Int32))).toNatClampNeg))).toNatClampNeg)) (zargs 0 [vr (some (97, 1, 0)), vi l1, vi l2]) 0 [] (zma E YX8_toss_2 (d + 1) [(0, vr (some (97, 1, 0))), (3, vi ((gi M 97 92) - (1 : Int32))), (4, vi (((40 : Int32) * ((gi M 97 92) - (1 : Int32))) + (gi (si M 157 (((gi M 97 92) - (1 : Int32))).toNatClampNeg ((gi M 157 (((gi M 97 92) - (1 : Int32))).toNatClampNeg) - (1 : Int32))) 157 (((gi M 97 92) - (1 : Int32))).toNatClampNeg)))] 111 3 [] Q))))))) : Zm E YX8_toss_2 (d + 1) M [(0, vr (some (97, 1, 0))), (1, vi l1), (2, vi l2)] 8 [] Q := by
  refine sX8_toss_2_8 (d := d) M l1 l2 ?_
  refine zite k (fun h5594 k => ?_) (fun h5594 k => ?_)
  · refine sX8_toss_2_42 (d := d) M l1 l2 ?_
    refine zite k (fun h5595 k => ?_) (fun h5595 k => ?_)
    · exact k
    · refine zand k (fun h5596 k => ?_)
      refine ⟨h5596, ?_⟩
      refine ⟨h5596, ?_⟩
      refine zand k (fun h5597 k => ?_)
      refine ⟨h5596, ?_⟩
      exact k
  · refine zand k (fun h5598 k => ?_)
    refine zite k (fun h5599 k => ?_) (fun h5599 k => ?_)
    · exact k
    · refine sX8_toss_2_42 (d := d) M l1 l2 ?_
      refine zite k (fun h5600 k => ?_) (fun h5600 k => ?_)
      · exact k
      · refine ⟨h5598, ?_⟩
        refine ⟨h5598, ?_⟩
        refine ⟨h5598, ?_⟩
        refine zand k (fun h5601 k => ?_)
        refine ⟨h5598, ?_⟩
        exact k
theorem iX8_valueAt_0 {E : zE} {d : Nat} {Q : zO → zM → Prop} (M : zM) (l1 : Int32) (k : vp_in ((gi M 97 92) - (1 : Int32)) 24 ∧ (vp_in (((((400 : Int32) * ((gi M 97 92) - (1 : Int32))) + (gi M 155 (((gi M 97 92) - (1 : Int32))).toNatClampNeg)) - (1 : Int32)) - l1) 9600 ∧ (Q (.inl (some (vi (gi M 161 ((((((400 : Int32) * ((gi M 97 92) - (1 : Int32))) + (gi M 155 (((gi M 97 92) - (1 : Int32))).toNatClampNeg)) - (1 : Int32)) - l1)).toNatClampNeg)))) M))) : Zm E YX8_valueAt (d + 1) M [(0, vr (some (97, 1, 0))), (1, vi l1)] 0 [] Q := by
  refine sX8_valueAt_0 (d := d) M l1 ?_
  refine sX8_top_0 (d := d) M  ?_
  refine zand k (fun h5613 k => ?_)
  show Zm E YX8_valueAt (d + 1) M [(1, vi l1)] 8 [vi (((400 : Int32) * ((gi M 97 92) - (1 : Int32))) + (gi M 155 (((gi M 97 92) - (1 : Int32))).toNatClampNeg)), vr (some (161, 100, 9600))] Q
  refine sX8_valueAt_8 (d := d) M l1 (((400 : Int32) * ((gi M 97 92) - (1 : Int32))) + (gi M 155 (((gi M 97 92) - (1 : Int32))).toNatClampNeg)) ?_
  exact k
theorem jX8_truth {E : zE} {d : Nat} {Q : zO → zM → Prop} (M : zM) (l1 : Int32) (k : if l1 = 0 then (Q (.inl none) (si (si M 97 111 (3 : Int32)) 97 112 (0 : Int32))) else (Q (.inl none) (si (si M 97 111 (2 : Int32)) 97 112 (0 : Int32)))) : Zm E YX8_truth (d + 1) M [(0, vr (some (97, 1, 0))), (1, vi l1)] 0 [] Q := by
  refine sX8_truth_0 (d := d) M l1 ?_
  refine zite k (fun h5739 k => ?_) (fun h5739 k => ?_)
  · refine sX8_give_2_0 (d := d) M (3 : Int32) (0 : Int32) ?_
    show Zm E YX8_truth (d + 1) (si (si M 97 111 (3 : Int32)) 97 112 (0 : Int32)) [] 14 [] Q
    refine sX8_truth_14 (d := d) (si (si M 97 111 (3 : Int32)) 97 112 (0 : Int32))  ?_
    exact k
  · refine sX8_give_2_0 (d := d) M (2 : Int32) (0 : Int32) ?_
    show Zm E YX8_truth (d + 1) (si (si M 97 111 (2 : Int32)) 97 112 (0 : Int32)) [] 14 [] Q
    refine sX8_truth_14 (d := d) (si (si M 97 111 (2 : Int32)) 97 112 (0 : Int32))  ?_
    exact k
theorem iX8_binaryOf_2_132 {E : zE} {d : Nat} {Q : zO → zM → Prop} (M : zM) (s0 : Int32) (k : if s0 = 0 then (Q (.inl none) (si (si M 97 111 (3 : Int32)) 97 112 (0 : Int32))) else (Q (.inl none) (si (si M 97 111 (2 : Int32)) 97 112 (0 : Int32)))) : Zm E YX8_binaryOf_2 (d + 2) M [] 132 [vi s0, vr (some (97, 1, 0))] Q := by
  refine sX8_binaryOf_2_132 (d := (d + 1)) M s0 ?_
  refine jX8_truth (d := d) M s0 ?_
  refine zite k (fun h5826 k => ?_) (fun h5826 k => ?_)
  · show Zm E YX8_binaryOf_2 ((d + 1) + 1) (si (si M 97 111 (3 : Int32)) 97 112 (0 : Int32)) [] 135 [] Q
    refine sX8_binaryOf_2_135 (d := (d + 1)) (si (si M 97 111 (3 : Int32)) 97 112 (0 : Int32))  ?_
    exact k
  · show Zm E YX8_binaryOf_2 ((d + 1) + 1) (si (si M 97 111 (2 : Int32)) 97 112 (0 : Int32)) [] 135 [] Q
    refine sX8_binaryOf_2_135 (d := (d + 1)) (si (si M 97 111 (2 : Int32)) 97 112 (0 : Int32))  ?_
    exact k
theorem iX8_binaryOf_2_95 {E : zE} {d : Nat} {Q : zO → zM → Prop} (M : zM) (l1 : Int32) (s0 : Int32) (k : if l1 = (13 : Int32) then (if s0 = (1 : Int32) then (Q (.inl none) (si (si M 97 111 (2 : Int32)) 97 112 (0 : Int32))) else (Q (.inl none) (si (si M 97 111 (3 : Int32)) 97 112 (0 : Int32)))) else (if s0 = (0 : Int32) then (Q (.inl none) (si (si M 97 111 (2 : Int32)) 97 112 (0 : Int32))) else (Q (.inl none) (si (si M 97 111 (3 : Int32)) 97 112 (0 : Int32))))) : Zm E YX8_binaryOf_2 (d + 2) M [(1, vi l1)] 95 [vi s0, vr (some (97, 1, 0))] Q := by
  refine sX8_binaryOf_2_95 (d := (d + 1)) M l1 s0 ?_
  refine zite k (fun h5829 k => ?_) (fun h5829 k => ?_)
  · refine zite k (fun h5830 k => ?_) (fun h5830 k => ?_)
    · refine jX8_truth (d := d) M (1 : Int32) ?_
      refine zneg (show ¬ ((1 : Int32) = 0) from by decide) ?_
      show Zm E YX8_binaryOf_2 ((d + 1) + 1) (si (si M 97 111 (2 : Int32)) 97 112 (0 : Int32)) [] 117 [] Q
      refine sX8_binaryOf_2_117 (d := (d + 1)) (si (si M 97 111 (2 : Int32)) 97 112 (0 : Int32))  ?_
      refine sX8_binaryOf_2_135 (d := (d + 1)) (si (si M 97 111 (2 : Int32)) 97 112 (0 : Int32))  ?_
      exact k
    · refine jX8_truth (d := d) M (0 : Int32) ?_
      refine zpos (show (0 : Int32) = 0 from by decide) ?_
      show Zm E YX8_binaryOf_2 ((d + 1) + 1) (si (si M 97 111 (3 : Int32)) 97 112 (0 : Int32)) [] 117 [] Q
      refine sX8_binaryOf_2_117 (d := (d + 1)) (si (si M 97 111 (3 : Int32)) 97 112 (0 : Int32))  ?_
      refine sX8_binaryOf_2_135 (d := (d + 1)) (si (si M 97 111 (3 : Int32)) 97 112 (0 : Int32))  ?_
      exact k
  · refine zite k (fun h5831 k => ?_) (fun h5831 k => ?_)
    · refine jX8_truth (d := d) M (1 : Int32) ?_
      refine zneg (show ¬ ((1 : Int32) = 0) from by decide) ?_
      show Zm E YX8_binaryOf_2 ((d + 1) + 1) (si (si M 97 111 (2 : Int32)) 97 112 (0 : Int32)) [] 117 [] Q
      refine sX8_binaryOf_2_117 (d := (d + 1)) (si (si M 97 111 (2 : Int32)) 97 112 (0 : Int32))  ?_
      refine sX8_binaryOf_2_135 (d := (d + 1)) (si (si M 97 111 (2 : Int32)) 97 112 (0 : Int32))  ?_
      exact k
    · refine jX8_truth (d := d) M (0 : Int32) ?_
      refine zpos (show (0 : Int32) = 0 from by decide) ?_
      show Zm E YX8_binaryOf_2 ((d + 1) + 1) (si (si M 97 111 (3 : Int32)) 97 112 (0 : Int32)) [] 117 [] Q
      refine sX8_binaryOf_2_117 (d := (d + 1)) (si (si M 97 111 (3 : Int32)) 97 112 (0 : Int32))  ?_
      refine sX8_binaryOf_2_135 (d := (d + 1)) (si (si M 97 111 (3 : Int32)) 97 112 (0 : Int32))  ?_
      exact k
theorem iX8_binaryOf_2_54 {E : zE} {d : Nat} {Q : zO → zM → Prop} (M : zM) (l1 : Int32) (s0 : Int32) (k : if l1 = (11 : Int32) then (if s0 = (1 : Int32) then (Q (.inl none) (si (si M 97 111 (2 : Int32)) 97 112 (0 : Int32))) else (Q (.inl none) (si (si M 97 111 (3 : Int32)) 97 112 (0 : Int32)))) else (if s0 = (0 : Int32) then (Q (.inl none) (si (si M 97 111 (2 : Int32)) 97 112 (0 : Int32))) else (Q (.inl none) (si (si M 97 111 (3 : Int32)) 97 112 (0 : Int32))))) : Zm E YX8_binaryOf_2 (d + 2) M [(1, vi l1)] 54 [vi s0, vr (some (97, 1, 0))] Q := by
  refine sX8_binaryOf_2_54 (d := (d + 1)) M l1 s0 ?_
  refine zite k (fun h5834 k => ?_) (fun h5834 k => ?_)
  · refine zite k (fun h5835 k => ?_) (fun h5835 k => ?_)
    · refine jX8_truth (d := d) M (1 : Int32) ?_
      refine zneg (show ¬ ((1 : Int32) = 0) from by decide) ?_
      show Zm E YX8_binaryOf_2 ((d + 1) + 1) (si (si M 97 111 (2 : Int32)) 97 112 (0 : Int32)) [] 76 [] Q
      refine sX8_binaryOf_2_76 (d := (d + 1)) (si (si M 97 111 (2 : Int32)) 97 112 (0 : Int32))  ?_
      refine sX8_binaryOf_2_135 (d := (d + 1)) (si (si M 97 111 (2 : Int32)) 97 112 (0 : Int32))  ?_
      exact k
    · refine jX8_truth (d := d) M (0 : Int32) ?_
      refine zpos (show (0 : Int32) = 0 from by decide) ?_
      show Zm E YX8_binaryOf_2 ((d + 1) + 1) (si (si M 97 111 (3 : Int32)) 97 112 (0 : Int32)) [] 76 [] Q
      refine sX8_binaryOf_2_76 (d := (d + 1)) (si (si M 97 111 (3 : Int32)) 97 112 (0 : Int32))  ?_
      refine sX8_binaryOf_2_135 (d := (d + 1)) (si (si M 97 111 (3 : Int32)) 97 112 (0 : Int32))  ?_
      exact k
  · refine zite k (fun h5836 k => ?_) (fun h5836 k => ?_)
    · refine jX8_truth (d := d) M (1 : Int32) ?_
      refine zneg (show ¬ ((1 : Int32) = 0) from by decide) ?_
      show Zm E YX8_binaryOf_2 ((d + 1) + 1) (si (si M 97 111 (2 : Int32)) 97 112 (0 : Int32)) [] 76 [] Q
      refine sX8_binaryOf_2_76 (d := (d + 1)) (si (si M 97 111 (2 : Int32)) 97 112 (0 : Int32))  ?_
      refine sX8_binaryOf_2_135 (d := (d + 1)) (si (si M 97 111 (2 : Int32)) 97 112 (0 : Int32))  ?_
      exact k
    · refine jX8_truth (d := d) M (0 : Int32) ?_
      refine zpos (show (0 : Int32) = 0 from by decide) ?_
      show Zm E YX8_binaryOf_2 ((d + 1) + 1) (si (si M 97 111 (3 : Int32)) 97 112 (0 : Int32)) [] 76 [] Q
      refine sX8_binaryOf_2_76 (d := (d + 1)) (si (si M 97 111 (3 : Int32)) 97 112 (0 : Int32))  ?_
      refine sX8_binaryOf_2_135 (d := (d + 1)) (si (si M 97 111 (3 : Int32)) 97 112 (0 : Int32))  ?_
      exact k
theorem iX8_binaryOf_2_177 {E : zE} {d : Nat} {Q : zO → zM → Prop} (M : zM) (l1 : Int32) (l6 : Int32) (l7 : Int32) (l8 : Int32) (s0 : Int32) (k : if l1 < (5 : Int32) then (if s0 = 0 then (Q (.inl none) (si (si M 97 111 (4 : Int32)) 97 112 (0 : Int32))) else (if l1 ≤ (2 : Int32) then (Zm E YX8_binaryOf_2 (d + 1) M [(0, vr (some (97, 1, 0))), (1, vi l1), (6, vi l6), (8, vi l8)] 244 [] Q) else (if l8 = 0 then (Q (.inl none) (si (si M 97 111 (4 : Int32)) 97 112 (0 : Int32))) else (Zm E YX8_binaryOf_2 (d + 1) M [(0, vr (some (97, 1, 0))), (1, vi l1), (6, vi l6), (8, vi l8)] 244 [] Q)))) else (if l7 = 0 then (if (gi M 97 113) = 0 then (Zm E YX8_bits d M (zargs 0 [vi l1, vi (0 : Int32), vi (0 : Int32)]) 0 [] (zma E YX8_binaryOf_2 (d + 1) [] 211 3 [vi (5 : Int32), vr (some (97, 1, 0))] Q)) else (Zm E YX8_bits d M (zargs 0 [vi l1, vi (0 : Int32), vi l8]) 0 [] (zma E YX8_binaryOf_2 (d + 1) [] 211 3 [vi (5 : Int32), vr (some (97, 1, 0))] Q))) else (if (gi M 97 113) = 0 then (Zm E YX8_bits d M (zargs 0 [vi l1, vi l6, vi (0 : Int32)]) 0 [] (zma E YX8_binaryOf_2 (d + 1) [] 211 3 [vi (5 : Int32), vr (some (97, 1, 0))] Q)) else (Zm E YX8_bits d M (zargs 0 [vi l1, vi l6, vi l8]) 0 [] (zma E YX8_binaryOf_2 (d + 1) [] 211 3 [vi (5 : Int32), vr (some (97, 1, 0))] Q))))) : Zm E YX8_binaryOf_2 (d + 1) M [(0, vr (some (97, 1, 0))), (1, vi l1), (6, vi l6), (7, vi l7), (8, vi l8)] 177 [vi s0] Q := by
  refine sX8_binaryOf_2_177 (d := d) M l1 l6 l7 l8 s0 ?_
  refine zite k (fun h5871 k => ?_) (fun h5871 k => ?_)
  · refine zite k (fun h5872 k => ?_) (fun h5872 k => ?_)
    · refine sX8_give_2_0 (d := d) M (4 : Int32) (0 : Int32) ?_
      show Zm E YX8_binaryOf_2 (d + 1) (si (si M 97 111 (4 : Int32)) 97 112 (0 : Int32)) [] 241 [] Q
      refine sX8_binaryOf_2_241 (d := d) (si (si M 97 111 (4 : Int32)) 97 112 (0 : Int32))  ?_
      refine sX8_binaryOf_2_305 (d := d) (si (si M 97 111 (4 : Int32)) 97 112 (0 : Int32))  ?_
      exact k
    · refine zite k (fun h5873 k => ?_) (fun h5873 k => ?_)
      · exact k
      · refine zite k (fun h5874 k => ?_) (fun h5874 k => ?_)
        · refine sX8_give_2_0 (d := d) M (4 : Int32) (0 : Int32) ?_
          show Zm E YX8_binaryOf_2 (d + 1) (si (si M 97 111 (4 : Int32)) 97 112 (0 : Int32)) [] 241 [] Q
          refine sX8_binaryOf_2_241 (d := d) (si (si M 97 111 (4 : Int32)) 97 112 (0 : Int32))  ?_
          refine sX8_binaryOf_2_305 (d := d) (si (si M 97 111 (4 : Int32)) 97 112 (0 : Int32))  ?_
          exact k
        · exact k
  · refine zite k (fun h5875 k => ?_) (fun h5875 k => ?_)
    · refine sX8_binaryOf_2_198 (d := d) M l8 (0 : Int32) l1 (5 : Int32) ?_
      exact k
    · refine sX8_binaryOf_2_198 (d := d) M l8 l6 l1 (5 : Int32) ?_
      exact k
theorem iX8_binaryOf_2_244 {E : zE} {d : Nat} {Q : zO → zM → Prop} (M : zM) (l1 : Int32) (l6 : Int32) (l8 : Int32) (k : if l1 = 0 then (Q (.inl none) (si (si M 97 111 (5 : Int32)) 97 112 (l6 + l8))) else (if l1 = (1 : Int32) then (Q (.inl none) (si (si M 97 111 (5 : Int32)) 97 112 (l6 - l8))) else (if l1 = (2 : Int32) then (Q (.inl none) (si (si M 97 111 (5 : Int32)) 97 112 (l6 * l8))) else (if l1 = (3 : Int32) then ((¬ l8 = 0) ∧ (Q (.inl none) (si (si M 97 111 (5 : Int32)) 97 112 (l6 / l8)))) else ((¬ l8 = 0) ∧ (Q (.inl none) (si (si M 97 111 (5 : Int32)) 97 112 (l6 - l6 / l8 * l8)))))))) : Zm E YX8_binaryOf_2 (d + 1) M [(0, vr (some (97, 1, 0))), (1, vi l1), (6, vi l6), (8, vi l8)] 244 [] Q := by
  refine sX8_binaryOf_2_244 (d := d) M l1 l6 l8 ?_
  refine zite k (fun h5878 k => ?_) (fun h5878 k => ?_)
  · refine sX8_give_2_0 (d := d) M (5 : Int32) (l6 + l8) ?_
    show Zm E YX8_binaryOf_2 (d + 1) (si (si M 97 111 (5 : Int32)) 97 112 (l6 + l8)) [] 305 [] Q
    refine sX8_binaryOf_2_305 (d := d) (si (si M 97 111 (5 : Int32)) 97 112 (l6 + l8))  ?_
    exact k
  · refine zite k (fun h5879 k => ?_) (fun h5879 k => ?_)
    · refine sX8_give_2_0 (d := d) M (5 : Int32) (l6 - l8) ?_
      show Zm E YX8_binaryOf_2 (d + 1) (si (si M 97 111 (5 : Int32)) 97 112 (l6 - l8)) [] 305 [] Q
      refine sX8_binaryOf_2_305 (d := d) (si (si M 97 111 (5 : Int32)) 97 112 (l6 - l8))  ?_
      exact k
    · refine zite k (fun h5880 k => ?_) (fun h5880 k => ?_)
      · refine sX8_give_2_0 (d := d) M (5 : Int32) (l6 * l8) ?_
        show Zm E YX8_binaryOf_2 (d + 1) (si (si M 97 111 (5 : Int32)) 97 112 (l6 * l8)) [] 305 [] Q
        refine sX8_binaryOf_2_305 (d := d) (si (si M 97 111 (5 : Int32)) 97 112 (l6 * l8))  ?_
        exact k
      · refine zite k (fun h5881 k => ?_) (fun h5881 k => ?_)
        · refine zand k (fun h5882 k => ?_)
          refine sX8_give_2_0 (d := d) M (5 : Int32) (l6 / l8) ?_
          show Zm E YX8_binaryOf_2 (d + 1) (si (si M 97 111 (5 : Int32)) 97 112 (l6 / l8)) [] 305 [] Q
          refine sX8_binaryOf_2_305 (d := d) (si (si M 97 111 (5 : Int32)) 97 112 (l6 / l8))  ?_
          exact k
        · refine zand k (fun h5883 k => ?_)
          refine sX8_give_2_0 (d := d) M (5 : Int32) (l6 - l6 / l8 * l8) ?_
          show Zm E YX8_binaryOf_2 (d + 1) (si (si M 97 111 (5 : Int32)) 97 112 (l6 - l6 / l8 * l8)) [] 305 [] Q
          refine sX8_binaryOf_2_305 (d := d) (si (si M 97 111 (5 : Int32)) 97 112 (l6 - l6 / l8 * l8))  ?_
          exact k
theorem iX8_binaryOf_2_214 {E : zE} {d : Nat} {Q : zO → zM → Prop} (M : zM) (s0 : Int32) (s1 : Int32) (k : Q (.inl none) (si (si M 97 111 s1) 97 112 s0)) : Zm E YX8_binaryOf_2 (d + 1) M [] 214 [vi s0, vi s1, vr (some (97, 1, 0))] Q := by
  refine sX8_binaryOf_2_214 (d := d) M s0 s1 ?_
  refine sX8_give_2_0 (d := d) M s1 s0 ?_
  show Zm E YX8_binaryOf_2 (d + 1) (si (si M 97 111 s1) 97 112 s0) [] 217 [] Q
  refine sX8_binaryOf_2_217 (d := d) (si (si M 97 111 s1) 97 112 s0)  ?_
  refine sX8_binaryOf_2_305 (d := d) (si (si M 97 111 s1) 97 112 s0)  ?_
  exact k
theorem iX8_binary_2_0 {E : zE} {d : Nat} {Q : zO → zM → Prop} (M : zM) (l1 : Int32) (k : vp_in ((gi M 97 92) - (1 : Int32)) 24 ∧ (vp_in (((((400 : Int32) * ((gi M 97 92) - (1 : Int32))) + (gi M 155 (((gi M 97 92) - (1 : Int32))).toNatClampNeg)) - (1 : Int32)) - (1 : Int32)) 9600 ∧ (vp_in (((((400 : Int32) * ((gi M 97 92) - (1 : Int32))) + (gi M 155 (((gi M 97 92) - (1 : Int32))).toNatClampNeg)) - (1 : Int32)) - (0 : Int32)) 9600 ∧ (if l1 = (19 : Int32) then (Zm E YX8_within (d + 1) M (zargs 0 [vr (some (97, 1, 0)), vi (gi M 160 ((((((400 : Int32) * ((gi M 97 92) - (1 : Int32))) + (gi M 155 (((gi M 97 92) - (1 : Int32))).toNatClampNeg)) - (1 : Int32)) - (1 : Int32))).toNatClampNeg), vi (gi M 161 ((((((400 : Int32) * ((gi M 97 92) - (1 : Int32))) + (gi M 155 (((gi M 97 92) - (1 : Int32))).toNatClampNeg)) - (1 : Int32)) - (1 : Int32))).toNatClampNeg), vi (gi M 160 ((((((400 : Int32) * ((gi M 97 92) - (1 : Int32))) + (gi M 155 (((gi M 97 92) - (1 : Int32))).toNatClampNeg)) - (1 : Int32)) - (0 : Int32))).toNatClampNeg), vi (gi M 161 ((((((400 : Int32) * ((gi M 97 92) - (1 : Int32))) + (gi M 155 (((gi M 97 92) - (1 : Int32))).toNatClampNeg)) - (1 : Int32)) - (0 : Int32))).toNatClampNeg)]) 0 [] (zma E YX8_binary_2 ((d + 1) + 1) [] 39 3 [] Q)) else (if l1 = (20 : Int32) then (Zm E YX8_isMadeBy (d + 1) M (zargs 0 [vr (some (97, 1, 0)), vi (gi M 160 ((((((400 : Int32) * ((gi M 97 92) - (1 : Int32))) + (gi M 155 (((gi M 97 92) - (1 : Int32))).toNatClampNeg)) - (1 : Int32)) - (1 : Int32))).toNatClampNeg), vi (gi M 161 ((((((400 : Int32) * ((gi M 97 92) - (1 : Int32))) + (gi M 155 (((gi M 97 92) - (1 : Int32))).toNatClampNeg)) - (1 : Int32)) - (1 : Int32))).toNatClampNeg), vi (gi M 160 ((((((400 : Int32) * ((gi M 97 92) - (1 : Int32))) + (gi M 155 (((gi M 97 92) - (1 : Int32))).toNatClampNeg)) - (1 : Int32)) - (0 : Int32))).toNatClampNeg), vi (gi M 161 ((((((400 : Int32) * ((gi M 97 92) - (1 : Int32))) + (gi M 155 (((gi M 97 92) - (1 : Int32))).toNatClampNeg)) - (1 : Int32)) - (0 : Int32))).toNatClampNeg)]) 0 [] (zma E YX8_binary_2 ((d + 1) + 1) [] 56 3 [] Q)) else (Zm E YX8_binaryOf_2 (d + 1) M (zargs 0 [vr (some (97, 1, 0)), vi l1, vi (gi M 160 ((((((400 : Int32) * ((gi M 97 92) - (1 : Int32))) + (gi M 155 (((gi M 97 92) - (1 : Int32))).toNatClampNeg)) - (1 : Int32)) - (1 : Int32))).toNatClampNeg), vi (gi M 161 ((((((400 : Int32) * ((gi M 97 92) - (1 : Int32))) + (gi M 155 (((gi M 97 92) - (1 : Int32))).toNatClampNeg)) - (1 : Int32)) - (1 : Int32))).toNatClampNeg), vi (gi M 160 ((((((400 : Int32) * ((gi M 97 92) - (1 : Int32))) + (gi M 155 (((gi M 97 92) - (1 : Int32))).toNatClampNeg)) - (1 : Int32)) - (0 : Int32))).toNatClampNeg), vi (gi M 161 ((((((400 : Int32) * ((gi M 97 92) - (1 : Int32))) + (gi M 155 (((gi M 97 92) - (1 : Int32))).toNatClampNeg)) - (1 : Int32)) - (0 : Int32))).toNatClampNeg)]) 0 [] (zma E YX8_binary_2 ((d + 1) + 1) [(0, vr (some (97, 1, 0))), (1, vi l1), (2, vi (gi M 160 ((((((400 : Int32) * ((gi M 97 92) - (1 : Int32))) + (gi M 155 (((gi M 97 92) - (1 : Int32))).toNatClampNeg)) - (1 : Int32)) - (1 : Int32))).toNatClampNeg)), (4, vi (gi M 160 ((((((400 : Int32) * ((gi M 97 92) - (1 : Int32))) + (gi M 155 (((gi M 97 92) - (1 : Int32))).toNatClampNeg)) - (1 : Int32)) - (0 : Int32))).toNatClampNeg))] 68 3 [] Q))))))) : Zm E YX8_binary_2 (d + 2) M [(0, vr (some (97, 1, 0))), (1, vi l1)] 0 [] Q := by
  refine sX8_binary_2_0 (d := (d + 1)) M l1 ?_
  refine jX8_sortAt (d := d) M (1 : Int32) ?_
  refine zand k (fun h5884 k => ?_)
  refine zand k (fun h5885 k => ?_)
  show Zm E YX8_binary_2 ((d + 1) + 1) M [(0, vr (some (97, 1, 0))), (1, vi l1)] 5 [vi (gi M 160 ((((((400 : Int32) * ((gi M 97 92) - (1 : Int32))) + (gi M 155 (((gi M 97 92) - (1 : Int32))).toNatClampNeg)) - (1 : Int32)) - (1 : Int32))).toNatClampNeg)] Q
  refine sX8_binary_2_5 (d := (d + 1)) M l1 (gi M 160 ((((((400 : Int32) * ((gi M 97 92) - (1 : Int32))) + (gi M 155 (((gi M 97 92) - (1 : Int32))).toNatClampNeg)) - (1 : Int32)) - (1 : Int32))).toNatClampNeg) ?_
  refine jX8_valueAt (d := d) M (1 : Int32) ?_
  refine ⟨h5884, ?_⟩
  refine ⟨h5885, ?_⟩
  show Zm E YX8_binary_2 ((d + 1) + 1) M [(0, vr (some (97, 1, 0))), (1, vi l1), (2, vi (gi M 160 ((((((400 : Int32) * ((gi M 97 92) - (1 : Int32))) + (gi M 155 (((gi M 97 92) - (1 : Int32))).toNatClampNeg)) - (1 : Int32)) - (1 : Int32))).toNatClampNeg))] 11 [vi (gi M 161 ((((((400 : Int32) * ((gi M 97 92) - (1 : Int32))) + (gi M 155 (((gi M 97 92) - (1 : Int32))).toNatClampNeg)) - (1 : Int32)) - (1 : Int32))).toNatClampNeg)] Q
  refine sX8_binary_2_11 (d := (d + 1)) M l1 (gi M 160 ((((((400 : Int32) * ((gi M 97 92) - (1 : Int32))) + (gi M 155 (((gi M 97 92) - (1 : Int32))).toNatClampNeg)) - (1 : Int32)) - (1 : Int32))).toNatClampNeg) (gi M 161 ((((((400 : Int32) * ((gi M 97 92) - (1 : Int32))) + (gi M 155 (((gi M 97 92) - (1 : Int32))).toNatClampNeg)) - (1 : Int32)) - (1 : Int32))).toNatClampNeg) ?_
  refine jX8_sortAt (d := d) M (0 : Int32) ?_
  refine ⟨h5884, ?_⟩
  refine zand k (fun h5886 k => ?_)
  show Zm E YX8_binary_2 ((d + 1) + 1) M [(0, vr (some (97, 1, 0))), (1, vi l1), (2, vi (gi M 160 ((((((400 : Int32) * ((gi M 97 92) - (1 : Int32))) + (gi M 155 (((gi M 97 92) - (1 : Int32))).toNatClampNeg)) - (1 : Int32)) - (1 : Int32))).toNatClampNeg)), (3, vi (gi M 161 ((((((400 : Int32) * ((gi M 97 92) - (1 : Int32))) + (gi M 155 (((gi M 97 92) - (1 : Int32))).toNatClampNeg)) - (1 : Int32)) - (1 : Int32))).toNatClampNeg))] 17 [vi (gi M 160 ((((((400 : Int32) * ((gi M 97 92) - (1 : Int32))) + (gi M 155 (((gi M 97 92) - (1 : Int32))).toNatClampNeg)) - (1 : Int32)) - (0 : Int32))).toNatClampNeg)] Q
  refine sX8_binary_2_17 (d := (d + 1)) M l1 (gi M 160 ((((((400 : Int32) * ((gi M 97 92) - (1 : Int32))) + (gi M 155 (((gi M 97 92) - (1 : Int32))).toNatClampNeg)) - (1 : Int32)) - (1 : Int32))).toNatClampNeg) (gi M 161 ((((((400 : Int32) * ((gi M 97 92) - (1 : Int32))) + (gi M 155 (((gi M 97 92) - (1 : Int32))).toNatClampNeg)) - (1 : Int32)) - (1 : Int32))).toNatClampNeg) (gi M 160 ((((((400 : Int32) * ((gi M 97 92) - (1 : Int32))) + (gi M 155 (((gi M 97 92) - (1 : Int32))).toNatClampNeg)) - (1 : Int32)) - (0 : Int32))).toNatClampNeg) ?_
  refine jX8_valueAt (d := d) M (0 : Int32) ?_
  refine ⟨h5884, ?_⟩
  refine ⟨h5886, ?_⟩
  show Zm E YX8_binary_2 ((d + 1) + 1) M [(0, vr (some (97, 1, 0))), (1, vi l1), (2, vi (gi M 160 ((((((400 : Int32) * ((gi M 97 92) - (1 : Int32))) + (gi M 155 (((gi M 97 92) - (1 : Int32))).toNatClampNeg)) - (1 : Int32)) - (1 : Int32))).toNatClampNeg)), (3, vi (gi M 161 ((((((400 : Int32) * ((gi M 97 92) - (1 : Int32))) + (gi M 155 (((gi M 97 92) - (1 : Int32))).toNatClampNeg)) - (1 : Int32)) - (1 : Int32))).toNatClampNeg)), (4, vi (gi M 160 ((((((400 : Int32) * ((gi M 97 92) - (1 : Int32))) + (gi M 155 (((gi M 97 92) - (1 : Int32))).toNatClampNeg)) - (1 : Int32)) - (0 : Int32))).toNatClampNeg))] 24 [vi (gi M 161 ((((((400 : Int32) * ((gi M 97 92) - (1 : Int32))) + (gi M 155 (((gi M 97 92) - (1 : Int32))).toNatClampNeg)) - (1 : Int32)) - (0 : Int32))).toNatClampNeg)] Q
  refine sX8_binary_2_24 (d := (d + 1)) M l1 (gi M 160 ((((((400 : Int32) * ((gi M 97 92) - (1 : Int32))) + (gi M 155 (((gi M 97 92) - (1 : Int32))).toNatClampNeg)) - (1 : Int32)) - (1 : Int32))).toNatClampNeg) (gi M 161 ((((((400 : Int32) * ((gi M 97 92) - (1 : Int32))) + (gi M 155 (((gi M 97 92) - (1 : Int32))).toNatClampNeg)) - (1 : Int32)) - (1 : Int32))).toNatClampNeg) (gi M 160 ((((((400 : Int32) * ((gi M 97 92) - (1 : Int32))) + (gi M 155 (((gi M 97 92) - (1 : Int32))).toNatClampNeg)) - (1 : Int32)) - (0 : Int32))).toNatClampNeg) (gi M 161 ((((((400 : Int32) * ((gi M 97 92) - (1 : Int32))) + (gi M 155 (((gi M 97 92) - (1 : Int32))).toNatClampNeg)) - (1 : Int32)) - (0 : Int32))).toNatClampNeg) ?_
  exact k
theorem iX8_binary_2_71 {E : zE} {d : Nat} {Q : zO → zM → Prop} (M : zM) (l1 : Int32) (l2 : Int32) (l4 : Int32) (k : if l1 = 0 then (if (6 : Int32) ≤ l2 then (Zm E YX8_made d M (zargs 0 [vr (some (97, 1, 0))]) 0 [] (zma E YX8_binary_2 (d + 1) [(0, vr (some (97, 1, 0)))] 86 3 [vi (6 : Int32), vr (some (97, 1, 0))] Q)) else (if l4 < (6 : Int32) then (Zm E YX8_gives d M (zargs 0 [vr (some (97, 1, 0)), vi (2 : Int32)]) 0 [] (zma E YX8_binary_2 (d + 1) [] 94 3 [] Q)) else (Zm E YX8_made d M (zargs 0 [vr (some (97, 1, 0))]) 0 [] (zma E YX8_binary_2 (d + 1) [(0, vr (some (97, 1, 0)))] 86 3 [vi (6 : Int32), vr (some (97, 1, 0))] Q)))) else (Zm E YX8_gives d M (zargs 0 [vr (some (97, 1, 0)), vi (2 : Int32)]) 0 [] (zma E YX8_binary_2 (d + 1) [] 94 3 [] Q))) : Zm E YX8_binary_2 (d + 1) M [(0, vr (some (97, 1, 0))), (1, vi l1), (2, vi l2), (4, vi l4)] 71 [] Q := by
  refine sX8_binary_2_71 (d := d) M l1 l2 l4 ?_
  refine sX8_joinsTexts_0 (d := d) M l1 l2 l4 ?_
  refine zite k (fun h5894 k => ?_) (fun h5894 k => ?_)
  · refine zite k (fun h5895 k => ?_) (fun h5895 k => ?_)
    · show Zm E YX8_binary_2 (d + 1) M [(0, vr (some (97, 1, 0)))] 79 [vi (1 : Int32)] Q
      refine sX8_binary_2_79 (d := d) M (1 : Int32) ?_
      refine zneg (show ¬ ((1 : Int32) = 0) from by decide) ?_
      exact k
    · refine zite k (fun h5896 k => ?_) (fun h5896 k => ?_)
      · show Zm E YX8_binary_2 (d + 1) M [(0, vr (some (97, 1, 0)))] 79 [vi (0 : Int32)] Q
        refine sX8_binary_2_79 (d := d) M (0 : Int32) ?_
        refine zpos (show (0 : Int32) = 0 from by decide) ?_
        refine sX8_binary_2_92 (d := d) M  ?_
        exact k
      · show Zm E YX8_binary_2 (d + 1) M [(0, vr (some (97, 1, 0)))] 79 [vi (1 : Int32)] Q
        refine sX8_binary_2_79 (d := d) M (1 : Int32) ?_
        refine zneg (show ¬ ((1 : Int32) = 0) from by decide) ?_
        exact k
  · show Zm E YX8_binary_2 (d + 1) M [(0, vr (some (97, 1, 0)))] 79 [vi (0 : Int32)] Q
    refine sX8_binary_2_79 (d := d) M (0 : Int32) ?_
    refine zpos (show (0 : Int32) = 0 from by decide) ?_
    refine sX8_binary_2_92 (d := d) M  ?_
    exact k
theorem iX8_binary_2_89 {E : zE} {d : Nat} {Q : zO → zM → Prop} (M : zM) (s0 : Int32) (s1 : Int32) (k : Zm E YX8_gives d (si (si M 97 111 s1) 97 112 s0) (zargs 0 [vr (some (97, 1, 0)), vi (2 : Int32)]) 0 [] (zma E YX8_binary_2 (d + 1) [] 94 3 [] Q)) : Zm E YX8_binary_2 (d + 1) M [(0, vr (some (97, 1, 0)))] 89 [vi s0, vi s1, vr (some (97, 1, 0))] Q := by
  refine sX8_binary_2_89 (d := d) M s0 s1 ?_
  refine sX8_give_2_0 (d := d) M s1 s0 ?_
  show Zm E YX8_binary_2 (d + 1) (si (si M 97 111 s1) 97 112 s0) [(0, vr (some (97, 1, 0)))] 92 [] Q
  refine sX8_binary_2_92 (d := d) (si (si M 97 111 s1) 97 112 s0)  ?_
  exact k
theorem iX8_call_0 {E : zE} {d : Nat} {Q : zO → zM → Prop} (M : zM) (l1 : Int32) (k : vp_in ((gi M 97 92) - (1 : Int32)) 24 ∧ (vp_in ((((((400 : Int32) * ((gi M 97 92) - (1 : Int32))) + (gi M 155 (((gi M 97 92) - (1 : Int32))).toNatClampNeg)) - l1) - (2 : Int32)) + (1 : Int32)) 9600 ∧ (vp_in (((((400 : Int32) * ((gi M 97 92) - (1 : Int32))) + (gi M 155 (((gi M 97 92) - (1 : Int32))).toNatClampNeg)) - l1) - (2 : Int32)) 9600 ∧ (Zm E YX8_callOf d (si (si M 97 114 ((((((400 : Int32) * ((gi M 97 92) - (1 : Int32))) + (gi M 155 (((gi M 97 92) - (1 : Int32))).toNatClampNeg)) - l1) - (2 : Int32)) + (2 : Int32))) 97 115 l1) (zargs 0 [vr (some (97, 1, 0)), vi (gi M 160 (((((((400 : Int32) * ((gi M 97 92) - (1 : Int32))) + (gi M 155 (((gi M 97 92) - (1 : Int32))).toNatClampNeg)) - l1) - (2 : Int32)) + (1 : Int32))).toNatClampNeg), vi (gi M 161 (((((((400 : Int32) * ((gi M 97 92) - (1 : Int32))) + (gi M 155 (((gi M 97 92) - (1 : Int32))).toNatClampNeg)) - l1) - (2 : Int32)) + (1 : Int32))).toNatClampNeg), vi (gi M 160 ((((((400 : Int32) * ((gi M 97 92) - (1 : Int32))) + (gi M 155 (((gi M 97 92) - (1 : Int32))).toNatClampNeg)) - l1) - (2 : Int32))).toNatClampNeg), vi (gi M 161 ((((((400 : Int32) * ((gi M 97 92) - (1 : Int32))) + (gi M 155 (((gi M 97 92) - (1 : Int32))).toNatClampNeg)) - l1) - (2 : Int32))).toNatClampNeg), vi (l1 + (2 : Int32)), vi (-1 : Int32)]) 0 [] (zma E YX8_call (d + 1) [] 54 3 [] Q))))) : Zm E YX8_call (d + 1) M [(0, vr (some (97, 1, 0))), (1, vi l1)] 0 [] Q := by
  refine sX8_call_0 (d := d) M l1 ?_
  refine sX8_top_0 (d := d) M  ?_
  refine zand k (fun h5902 k => ?_)
  show Zm E YX8_call (d + 1) M [(0, vr (some (97, 1, 0))), (1, vi l1)] 4 [vi (((400 : Int32) * ((gi M 97 92) - (1 : Int32))) + (gi M 155 (((gi M 97 92) - (1 : Int32))).toNatClampNeg))] Q
  refine sX8_call_4 (d := d) M l1 (((400 : Int32) * ((gi M 97 92) - (1 : Int32))) + (gi M 155 (((gi M 97 92) - (1 : Int32))).toNatClampNeg)) ?_
  refine zand k (fun h5903 k => ?_)
  refine ⟨h5903, ?_⟩
  refine zand k (fun h5904 k => ?_)
  refine ⟨h5904, ?_⟩
  exact k
theorem iX8_callAgain_0 {E : zE} {d : Nat} {Q : zO → zM → Prop} (M : zM) (l1 : Int32) (l2 : Int32) (l3 : Int32) (k : if (gi M 97 115) ≤ (0 : Int32) then (if (gi M 97 115) ≤ 0 then (Zm E YX8_callOf d M (zargs 0 [vr (some (97, 1, 0)), vi l1, vi l2, vi (0 : Int32), vi (0 : Int32), vi l3, vi (-1 : Int32)]) 0 [] (zma E YX8_callAgain (d + 1) [] 50 3 [] Q)) else (Zm E YX8_callOf d (si (si M 97 114 ((gi M 97 114) + (1 : Int32))) 97 115 ((gi M 97 115) - (1 : Int32))) (zargs 0 [vr (some (97, 1, 0)), vi l1, vi l2, vi (0 : Int32), vi (0 : Int32), vi l3, vi (-1 : Int32)]) 0 [] (zma E YX8_callAgain (d + 1) [] 50 3 [] Q))) else (vp_in ((gi M 97 114) + (0 : Int32)) 9600 ∧ (if (gi M 97 115) ≤ 0 then (Zm E YX8_callOf d M (zargs 0 [vr (some (97, 1, 0)), vi l1, vi l2, vi (gi M 160 (((gi M 97 114) + (0 : Int32))).toNatClampNeg), vi (gi M 161 (((gi M 97 114) + (0 : Int32))).toNatClampNeg), vi l3, vi (-1 : Int32)]) 0 [] (zma E YX8_callAgain (d + 1) [] 50 3 [] Q)) else (Zm E YX8_callOf d (si (si M 97 114 ((gi M 97 114) + (1 : Int32))) 97 115 ((gi M 97 115) - (1 : Int32))) (zargs 0 [vr (some (97, 1, 0)), vi l1, vi l2, vi (gi M 160 (((gi M 97 114) + (0 : Int32))).toNatClampNeg), vi (gi M 161 (((gi M 97 114) + (0 : Int32))).toNatClampNeg), vi l3, vi (-1 : Int32)]) 0 [] (zma E YX8_callAgain (d + 1) [] 50 3 [] Q))))) : Zm E YX8_callAgain (d + 1) M [(0, vr (some (97, 1, 0))), (1, vi l1), (2, vi l2), (3, vi l3)] 0 [] Q := by
  refine sX8_callAgain_0 (d := d) M l1 l2 l3 ?_
  refine sX8_argumentSort_0 (d := d) M (0 : Int32) ?_
  refine zite k (fun h5905 k => ?_) (fun h5905 k => ?_)
  · show Zm E YX8_callAgain (d + 1) M [(0, vr (some (97, 1, 0))), (1, vi l1), (2, vi l2), (3, vi l3)] 5 [vi (0 : Int32)] Q
    refine sX8_callAgain_5 (d := d) M l1 l2 l3 (0 : Int32) ?_
    refine sX8_argument_0 (d := d) M (0 : Int32) ?_
    refine zpos h5905 ?_
    show Zm E YX8_callAgain (d + 1) M [(0, vr (some (97, 1, 0))), (1, vi l1), (2, vi l2), (3, vi l3), (4, vi (0 : Int32))] 12 [vi (0 : Int32)] Q
    refine sX8_callAgain_12 (d := d) M l1 l2 l3 (0 : Int32) (0 : Int32) ?_
    refine zite k (fun h5906 k => ?_) (fun h5906 k => ?_)
    · refine sX8_callAgain_41 (d := d) M l1 l2 l3 (0 : Int32) (0 : Int32) ?_
      exact k
    · refine sX8_callAgain_41 (d := d) (si (si M 97 114 ((gi M 97 114) + (1 : Int32))) 97 115 ((gi M 97 115) - (1 : Int32))) l1 l2 l3 (0 : Int32) (0 : Int32) ?_
      exact k
  · refine zand k (fun h5907 k => ?_)
    show Zm E YX8_callAgain (d + 1) M [(0, vr (some (97, 1, 0))), (1, vi l1), (2, vi l2), (3, vi l3)] 5 [vi (gi M 160 (((gi M 97 114) + (0 : Int32))).toNatClampNeg)] Q
    refine sX8_callAgain_5 (d := d) M l1 l2 l3 (gi M 160 (((gi M 97 114) + (0 : Int32))).toNatClampNeg) ?_
    refine sX8_argument_0 (d := d) M (0 : Int32) ?_
    refine zneg h5905 ?_
    refine ⟨h5907, ?_⟩
    show Zm E YX8_callAgain (d + 1) M [(0, vr (some (97, 1, 0))), (1, vi l1), (2, vi l2), (3, vi l3), (4, vi (gi M 160 (((gi M 97 114) + (0 : Int32))).toNatClampNeg))] 12 [vi (gi M 161 (((gi M 97 114) + (0 : Int32))).toNatClampNeg)] Q
    refine sX8_callAgain_12 (d := d) M l1 l2 l3 (gi M 160 (((gi M 97 114) + (0 : Int32))).toNatClampNeg) (gi M 161 (((gi M 97 114) + (0 : Int32))).toNatClampNeg) ?_
    refine zite k (fun h5908 k => ?_) (fun h5908 k => ?_)
    · refine sX8_callAgain_41 (d := d) M l1 l2 l3 (gi M 160 (((gi M 97 114) + (0 : Int32))).toNatClampNeg) (gi M 161 (((gi M 97 114) + (0 : Int32))).toNatClampNeg) ?_
      exact k
    · refine sX8_callAgain_41 (d := d) (si (si M 97 114 ((gi M 97 114) + (1 : Int32))) 97 115 ((gi M 97 115) - (1 : Int32))) l1 l2 l3 (gi M 160 (((gi M 97 114) + (0 : Int32))).toNatClampNeg) (gi M 161 (((gi M 97 114) + (0 : Int32))).toNatClampNeg) ?_
      exact k
theorem iX8_callOf_0 {E : zE} {d : Nat} {Q : zO → zM → Prop} (M : zM) (l1 : Int32) (l2 : Int32) (l3 : Int32) (l4 : Int32) (l5 : Int32) (l6 : Int32) (k : if l1 = (7 : Int32) then (vp_in l2 300 ∧ (if (gi M 141 (l2).toNatClampNeg) = (1 : Int32) then (if l2 < (9 : Int32) then (if (gi M 97 92) = (24 : Int32) then (Zm E YX8_error d M (zargs 0 [vr (some (97, 1, 0)), vi (8 : Int32)]) 0 [] (zma E YX8_callOf (d + 1) [] 82 3 [] Q)) else (Zm E YX8_enter d M (zargs 0 [vr (some (97, 1, 0)), vi l2, vi l3, vi l4, vi l5, vi l6]) 0 [] (zma E YX8_callOf (d + 1) [] 97 3 [] Q))) else (if (23 : Int32) ≤ l2 then (if (gi M 97 92) = (24 : Int32) then (Zm E YX8_error d M (zargs 0 [vr (some (97, 1, 0)), vi (8 : Int32)]) 0 [] (zma E YX8_callOf (d + 1) [] 82 3 [] Q)) else (Zm E YX8_enter d M (zargs 0 [vr (some (97, 1, 0)), vi l2, vi l3, vi l4, vi l5, vi l6]) 0 [] (zma E YX8_callOf (d + 1) [] 97 3 [] Q))) else (if (gi M 142 (l2).toNatClampNeg) = 0 then (if l2 = (20 : Int32) then (Zm E YX8_callAgain d M (zargs 0 [vr (some (97, 1, 0)), vi l3, vi l4, vi l5]) 0 [] (zma E YX8_callOf (d + 1) [] 51 3 [] Q)) else (Zm E YX8_nativeOf d M (zargs 0 [vr (some (97, 1, 0)), vi l2, vi l3, vi l4, vi l5]) 0 [] (zma E YX8_callOf (d + 1) [] 64 3 [] Q))) else (if (gi M 97 92) = (24 : Int32) then (Zm E YX8_error d M (zargs 0 [vr (some (97, 1, 0)), vi (8 : Int32)]) 0 [] (zma E YX8_callOf (d + 1) [] 82 3 [] Q)) else (Zm E YX8_enter d M (zargs 0 [vr (some (97, 1, 0)), vi l2, vi l3, vi l4, vi l5, vi l6]) 0 [] (zma E YX8_callOf (d + 1) [] 97 3 [] Q)))))) else (Zm E YX8_error d M (zargs 0 [vr (some (97, 1, 0)), vi (6 : Int32)]) 0 [] (zma E YX8_callOf (d + 1) [] 12 3 [] Q)))) else (Zm E YX8_error d M (zargs 0 [vr (some (97, 1, 0)), vi (6 : Int32)]) 0 [] (zma E YX8_callOf (d + 1) [] 12 3 [] Q))) : Zm E YX8_callOf (d + 1) M [(0, vr (some (97, 1, 0))), (1, vi l1), (2, vi l2), (3, vi l3), (4, vi l4), (5, vi l5), (6, vi l6)] 0 [] Q := by
  refine sX8_callOf_0 (d := d) M l1 l2 l3 l4 l5 l6 ?_
  refine sX8_isFunction_0 (d := d) M l1 l2 ?_
  refine zite k (fun h5909 k => ?_) (fun h5909 k => ?_)
  · refine zand k (fun h5910 k => ?_)
    refine zite k (fun h5911 k => ?_) (fun h5911 k => ?_)
    · show Zm E YX8_callOf (d + 1) M [(0, vr (some (97, 1, 0))), (2, vi l2), (3, vi l3), (4, vi l4), (5, vi l5), (6, vi l6)] 6 [vi (1 : Int32)] Q
      refine sX8_callOf_6 (d := d) M l2 l3 l4 l5 l6 (1 : Int32) ?_
      refine zneg (show ¬ ((1 : Int32) = 0) from by decide) ?_
      refine zite k (fun h5912 k => ?_) (fun h5912 k => ?_)
      · refine sX8_callOf_70 (d := d) M l2 l3 l4 l5 l6 ?_
        exact k
      · refine zite k (fun h5915 k => ?_) (fun h5915 k => ?_)
        · refine sX8_callOf_70 (d := d) M l2 l3 l4 l5 l6 ?_
          exact k
        · refine ⟨h5910, ?_⟩
          refine zite k (fun h5917 k => ?_) (fun h5917 k => ?_)
          · exact k
          · refine sX8_callOf_70 (d := d) M l2 l3 l4 l5 l6 ?_
            exact k
    · show Zm E YX8_callOf (d + 1) M [(0, vr (some (97, 1, 0))), (2, vi l2), (3, vi l3), (4, vi l4), (5, vi l5), (6, vi l6)] 6 [vi (0 : Int32)] Q
      refine sX8_callOf_6 (d := d) M l2 l3 l4 l5 l6 (0 : Int32) ?_
      refine zpos (show (0 : Int32) = 0 from by decide) ?_
      exact k
  · show Zm E YX8_callOf (d + 1) M [(0, vr (some (97, 1, 0))), (2, vi l2), (3, vi l3), (4, vi l4), (5, vi l5), (6, vi l6)] 6 [vi (0 : Int32)] Q
    refine sX8_callOf_6 (d := d) M l2 l3 l4 l5 l6 (0 : Int32) ?_
    refine zpos (show (0 : Int32) = 0 from by decide) ?_
    exact k
theorem iX8_callOf_85 {E : zE} {d : Nat} {Q : zO → zM → Prop} (M : zM)  (k : Q (.inl none) M) : Zm E YX8_callOf (d + 1) M [] 85 [] Q := by
  refine sX8_callOf_85 (d := d) M  ?_
  refine sX8_callOf_100 (d := d) M  ?_
  exact k
theorem iX8_callOf_54 {E : zE} {d : Nat} {Q : zO → zM → Prop} (M : zM)  (k : Q (.inl none) M) : Zm E YX8_callOf (d + 1) M [] 54 [] Q := by
  refine sX8_callOf_54 (d := d) M  ?_
  refine sX8_callOf_100 (d := d) M  ?_
  exact k
theorem iX8_callOf_67 {E : zE} {d : Nat} {Q : zO → zM → Prop} (M : zM)  (k : Q (.inl none) M) : Zm E YX8_callOf (d + 1) M [] 67 [] Q := by
  refine sX8_callOf_67 (d := d) M  ?_
  refine sX8_callOf_100 (d := d) M  ?_
  exact k
theorem iX8_callOf_15 {E : zE} {d : Nat} {Q : zO → zM → Prop} (M : zM)  (k : Q (.inl none) M) : Zm E YX8_callOf (d + 1) M [] 15 [] Q := by
  refine sX8_callOf_15 (d := d) M  ?_
  refine sX8_callOf_100 (d := d) M  ?_
  exact k
theorem iX8_charAt_6 {E : zE} {d : Nat} {Q : zO → zM → Prop} (M : zM) (l1 : Int32) (s0 : Int32) (k : if (gi M 97 113) = 0 then (vp_in l1 400 ∧ (if ((gi M 101 (l1).toNatClampNeg) - (1 : Int32)) < (0 : Int32) then (Zm E YX8_made d (si M 97 11 (0 : Int32)) (zargs 0 [vr (some (97, 1, 0))]) 0 [] (zma E YX8_charAt (d + 1) [] 65 3 [vi (6 : Int32), vr (some (97, 1, 0))] Q)) else (vp_in (((60 : Int32) * l1) + (0 : Int32)) 24000 ∧ (vp_in (0 : Int32) 200 ∧ (Zm E YX8_made d (si (si (si M 97 11 (0 : Int32)) 102 ((0 : Int32)).toNatClampNeg (vp_nar .char (((gi M 100 ((((60 : Int32) * l1) + (0 : Int32))).toNatClampNeg)).toUInt32 % 65536).toInt32)) 97 11 ((0 : Int32) + (1 : Int32))) (zargs 0 [vr (some (97, 1, 0))]) 0 [] (zma E YX8_charAt (d + 1) [] 65 3 [vi (6 : Int32), vr (some (97, 1, 0))] Q)))))) else (vp_in l1 400 ∧ (if s0 < (0 : Int32) then (Zm E YX8_made d (si M 97 11 (0 : Int32)) (zargs 0 [vr (some (97, 1, 0))]) 0 [] (zma E YX8_charAt (d + 1) [] 65 3 [vi (6 : Int32), vr (some (97, 1, 0))] Q)) else (if ((gi M 101 (l1).toNatClampNeg) - (1 : Int32)) < s0 then (Zm E YX8_made d (si M 97 11 (0 : Int32)) (zargs 0 [vr (some (97, 1, 0))]) 0 [] (zma E YX8_charAt (d + 1) [] 65 3 [vi (6 : Int32), vr (some (97, 1, 0))] Q)) else (vp_in (((60 : Int32) * l1) + s0) 24000 ∧ (vp_in (0 : Int32) 200 ∧ (Zm E YX8_made d (si (si (si M 97 11 (0 : Int32)) 102 ((0 : Int32)).toNatClampNeg (vp_nar .char (((gi M 100 ((((60 : Int32) * l1) + s0)).toNatClampNeg)).toUInt32 % 65536).toInt32)) 97 11 ((0 : Int32) + (1 : Int32))) (zargs 0 [vr (some (97, 1, 0))]) 0 [] (zma E YX8_charAt (d + 1) [] 65 3 [vi (6 : Int32), vr (some (97, 1, 0))] Q)))))))) : Zm E YX8_charAt (d + 1) M [(0, vr (some (97, 1, 0))), (1, vi l1)] 6 [vi s0] Q := by
  refine sX8_charAt_6 (d := d) M l1 s0 ?_
  refine zite k (fun h5922 k => ?_) (fun h5922 k => ?_)
  · refine sX8_charAt_26 (d := d) (si M 97 11 (0 : Int32)) l1 (0 : Int32) ?_
    refine zand k (fun h5923 k => ?_)
    refine sX8_in_0 (d := d) (si M 97 11 (0 : Int32)) (0 : Int32) (0 : Int32) ((gi M 101 (l1).toNatClampNeg) - (1 : Int32)) ?_
    refine zneg (show ¬ ((0 : Int32) < (0 : Int32)) from by decide) ?_
    refine zite k (fun h5924 k => ?_) (fun h5924 k => ?_)
    · show Zm E YX8_charAt (d + 1) (si M 97 11 (0 : Int32)) [(0, vr (some (97, 1, 0))), (1, vi l1), (4, vi (0 : Int32))] 42 [vi (0 : Int32)] Q
      refine sX8_charAt_42 (d := d) (si M 97 11 (0 : Int32)) l1 (0 : Int32) (0 : Int32) ?_
      refine zpos (show (0 : Int32) = 0 from by decide) ?_
      refine sX8_charAt_61 (d := d) (si M 97 11 (0 : Int32))  ?_
      exact k
    · show Zm E YX8_charAt (d + 1) (si M 97 11 (0 : Int32)) [(0, vr (some (97, 1, 0))), (1, vi l1), (4, vi (0 : Int32))] 42 [vi (1 : Int32)] Q
      refine sX8_charAt_42 (d := d) (si M 97 11 (0 : Int32)) l1 (0 : Int32) (1 : Int32) ?_
      refine zneg (show ¬ ((1 : Int32) = 0) from by decide) ?_
      refine zand k (fun h5925 k => ?_)
      refine sX8_put_0 (d := d) (si M 97 11 (0 : Int32)) (gi M 100 ((((60 : Int32) * l1) + (0 : Int32))).toNatClampNeg) ?_
      refine zand k (fun h5926 k => ?_)
      show Zm E YX8_charAt (d + 1) (si (si (si M 97 11 (0 : Int32)) 102 ((0 : Int32)).toNatClampNeg (vp_nar .char (((gi M 100 ((((60 : Int32) * l1) + (0 : Int32))).toNatClampNeg)).toUInt32 % 65536).toInt32)) 97 11 ((0 : Int32) + (1 : Int32))) [(0, vr (some (97, 1, 0)))] 61 [] Q
      refine sX8_charAt_61 (d := d) (si (si (si M 97 11 (0 : Int32)) 102 ((0 : Int32)).toNatClampNeg (vp_nar .char (((gi M 100 ((((60 : Int32) * l1) + (0 : Int32))).toNatClampNeg)).toUInt32 % 65536).toInt32)) 97 11 ((0 : Int32) + (1 : Int32)))  ?_
      exact k
  · refine sX8_charAt_26 (d := d) (si M 97 11 (0 : Int32)) l1 s0 ?_
    refine zand k (fun h5927 k => ?_)
    refine sX8_in_0 (d := d) (si M 97 11 (0 : Int32)) s0 (0 : Int32) ((gi M 101 (l1).toNatClampNeg) - (1 : Int32)) ?_
    refine zite k (fun h5928 k => ?_) (fun h5928 k => ?_)
    · show Zm E YX8_charAt (d + 1) (si M 97 11 (0 : Int32)) [(0, vr (some (97, 1, 0))), (1, vi l1), (4, vi s0)] 42 [vi (0 : Int32)] Q
      refine sX8_charAt_42 (d := d) (si M 97 11 (0 : Int32)) l1 s0 (0 : Int32) ?_
      refine zpos (show (0 : Int32) = 0 from by decide) ?_
      refine sX8_charAt_61 (d := d) (si M 97 11 (0 : Int32))  ?_
      exact k
    · refine zite k (fun h5929 k => ?_) (fun h5929 k => ?_)
      · show Zm E YX8_charAt (d + 1) (si M 97 11 (0 : Int32)) [(0, vr (some (97, 1, 0))), (1, vi l1), (4, vi s0)] 42 [vi (0 : Int32)] Q
        refine sX8_charAt_42 (d := d) (si M 97 11 (0 : Int32)) l1 s0 (0 : Int32) ?_
        refine zpos (show (0 : Int32) = 0 from by decide) ?_
        refine sX8_charAt_61 (d := d) (si M 97 11 (0 : Int32))  ?_
        exact k
      · show Zm E YX8_charAt (d + 1) (si M 97 11 (0 : Int32)) [(0, vr (some (97, 1, 0))), (1, vi l1), (4, vi s0)] 42 [vi (1 : Int32)] Q
        refine sX8_charAt_42 (d := d) (si M 97 11 (0 : Int32)) l1 s0 (1 : Int32) ?_
        refine zneg (show ¬ ((1 : Int32) = 0) from by decide) ?_
        refine zand k (fun h5930 k => ?_)
        refine sX8_put_0 (d := d) (si M 97 11 (0 : Int32)) (gi M 100 ((((60 : Int32) * l1) + s0)).toNatClampNeg) ?_
        refine zand k (fun h5931 k => ?_)
        show Zm E YX8_charAt (d + 1) (si (si (si M 97 11 (0 : Int32)) 102 ((0 : Int32)).toNatClampNeg (vp_nar .char (((gi M 100 ((((60 : Int32) * l1) + s0)).toNatClampNeg)).toUInt32 % 65536).toInt32)) 97 11 ((0 : Int32) + (1 : Int32))) [(0, vr (some (97, 1, 0)))] 61 [] Q
        refine sX8_charAt_61 (d := d) (si (si (si M 97 11 (0 : Int32)) 102 ((0 : Int32)).toNatClampNeg (vp_nar .char (((gi M 100 ((((60 : Int32) * l1) + s0)).toNatClampNeg)).toUInt32 % 65536).toInt32)) 97 11 ((0 : Int32) + (1 : Int32)))  ?_
        exact k
theorem iX8_charAt_68 {E : zE} {d : Nat} {Q : zO → zM → Prop} (M : zM) (s0 : Int32) (s1 : Int32) (k : Q (.inl none) (si (si M 97 111 s1) 97 112 s0)) : Zm E YX8_charAt (d + 1) M [] 68 [vi s0, vi s1, vr (some (97, 1, 0))] Q := by
  refine sX8_charAt_68 (d := d) M s0 s1 ?_
  refine sX8_give_2_0 (d := d) M s1 s0 ?_
  show Zm E YX8_charAt (d + 1) (si (si M 97 111 s1) 97 112 s0) [] 71 [] Q
  refine sX8_charAt_71 (d := d) (si (si M 97 111 s1) 97 112 s0)  ?_
  exact k
theorem iX8_delete_0 {E : zE} {d : Nat} {Q : zO → zM → Prop} (M : zM)  (k : vp_in ((gi M 97 92) - (1 : Int32)) 24 ∧ (vp_in (((((400 : Int32) * ((gi M 97 92) - (1 : Int32))) + (gi M 155 (((gi M 97 92) - (1 : Int32))).toNatClampNeg)) - (1 : Int32)) - (1 : Int32)) 9600 ∧ (vp_in (((((400 : Int32) * ((gi M 97 92) - (1 : Int32))) + (gi M 155 (((gi M 97 92) - (1 : Int32))).toNatClampNeg)) - (1 : Int32)) - (0 : Int32)) 9600 ∧ (Zm E YX8_textOf (d + 1) M (zargs 0 [vr (some (97, 1, 0)), vi (gi M 160 ((((((400 : Int32) * ((gi M 97 92) - (1 : Int32))) + (gi M 155 (((gi M 97 92) - (1 : Int32))).toNatClampNeg)) - (1 : Int32)) - (0 : Int32))).toNatClampNeg), vi (gi M 161 ((((((400 : Int32) * ((gi M 97 92) - (1 : Int32))) + (gi M 155 (((gi M 97 92) - (1 : Int32))).toNatClampNeg)) - (1 : Int32)) - (0 : Int32))).toNatClampNeg)]) 0 [] (zma E YX8_delete ((d + 1) + 1) [(0, vr (some (97, 1, 0))), (1, vi (gi M 160 ((((((400 : Int32) * ((gi M 97 92) - (1 : Int32))) + (gi M 155 (((gi M 97 92) - (1 : Int32))).toNatClampNeg)) - (1 : Int32)) - (1 : Int32))).toNatClampNeg)), (2, vi (gi M 161 ((((((400 : Int32) * ((gi M 97 92) - (1 : Int32))) + (gi M 155 (((gi M 97 92) - (1 : Int32))).toNatClampNeg)) - (1 : Int32)) - (1 : Int32))).toNatClampNeg))] 23 3 [] Q))))) : Zm E YX8_delete (d + 2) M [(0, vr (some (97, 1, 0)))] 0 [] Q := by
  refine sX8_delete_0 (d := (d + 1)) M  ?_
  refine jX8_sortAt (d := d) M (1 : Int32) ?_
  refine zand k (fun h5943 k => ?_)
  refine zand k (fun h5944 k => ?_)
  show Zm E YX8_delete ((d + 1) + 1) M [(0, vr (some (97, 1, 0)))] 5 [vi (gi M 160 ((((((400 : Int32) * ((gi M 97 92) - (1 : Int32))) + (gi M 155 (((gi M 97 92) - (1 : Int32))).toNatClampNeg)) - (1 : Int32)) - (1 : Int32))).toNatClampNeg)] Q
  refine sX8_delete_5 (d := (d + 1)) M (gi M 160 ((((((400 : Int32) * ((gi M 97 92) - (1 : Int32))) + (gi M 155 (((gi M 97 92) - (1 : Int32))).toNatClampNeg)) - (1 : Int32)) - (1 : Int32))).toNatClampNeg) ?_
  refine jX8_valueAt (d := d) M (1 : Int32) ?_
  refine ⟨h5943, ?_⟩
  refine ⟨h5944, ?_⟩
  show Zm E YX8_delete ((d + 1) + 1) M [(0, vr (some (97, 1, 0))), (1, vi (gi M 160 ((((((400 : Int32) * ((gi M 97 92) - (1 : Int32))) + (gi M 155 (((gi M 97 92) - (1 : Int32))).toNatClampNeg)) - (1 : Int32)) - (1 : Int32))).toNatClampNeg))] 11 [vi (gi M 161 ((((((400 : Int32) * ((gi M 97 92) - (1 : Int32))) + (gi M 155 (((gi M 97 92) - (1 : Int32))).toNatClampNeg)) - (1 : Int32)) - (1 : Int32))).toNatClampNeg)] Q
  refine sX8_delete_11 (d := (d + 1)) M (gi M 160 ((((((400 : Int32) * ((gi M 97 92) - (1 : Int32))) + (gi M 155 (((gi M 97 92) - (1 : Int32))).toNatClampNeg)) - (1 : Int32)) - (1 : Int32))).toNatClampNeg) (gi M 161 ((((((400 : Int32) * ((gi M 97 92) - (1 : Int32))) + (gi M 155 (((gi M 97 92) - (1 : Int32))).toNatClampNeg)) - (1 : Int32)) - (1 : Int32))).toNatClampNeg) ?_
  refine jX8_sortAt (d := d) M (0 : Int32) ?_
  refine ⟨h5943, ?_⟩
  refine zand k (fun h5945 k => ?_)
  show Zm E YX8_delete ((d + 1) + 1) M [(0, vr (some (97, 1, 0))), (1, vi (gi M 160 ((((((400 : Int32) * ((gi M 97 92) - (1 : Int32))) + (gi M 155 (((gi M 97 92) - (1 : Int32))).toNatClampNeg)) - (1 : Int32)) - (1 : Int32))).toNatClampNeg)), (2, vi (gi M 161 ((((((400 : Int32) * ((gi M 97 92) - (1 : Int32))) + (gi M 155 (((gi M 97 92) - (1 : Int32))).toNatClampNeg)) - (1 : Int32)) - (1 : Int32))).toNatClampNeg))] 18 [vi (gi M 160 ((((((400 : Int32) * ((gi M 97 92) - (1 : Int32))) + (gi M 155 (((gi M 97 92) - (1 : Int32))).toNatClampNeg)) - (1 : Int32)) - (0 : Int32))).toNatClampNeg), vr (some (97, 1, 0))] Q
  refine sX8_delete_18 (d := (d + 1)) M (gi M 160 ((((((400 : Int32) * ((gi M 97 92) - (1 : Int32))) + (gi M 155 (((gi M 97 92) - (1 : Int32))).toNatClampNeg)) - (1 : Int32)) - (1 : Int32))).toNatClampNeg) (gi M 161 ((((((400 : Int32) * ((gi M 97 92) - (1 : Int32))) + (gi M 155 (((gi M 97 92) - (1 : Int32))).toNatClampNeg)) - (1 : Int32)) - (1 : Int32))).toNatClampNeg) (gi M 160 ((((((400 : Int32) * ((gi M 97 92) - (1 : Int32))) + (gi M 155 (((gi M 97 92) - (1 : Int32))).toNatClampNeg)) - (1 : Int32)) - (0 : Int32))).toNatClampNeg) ?_
  refine jX8_valueAt (d := d) M (0 : Int32) ?_
  refine ⟨h5943, ?_⟩
  refine ⟨h5945, ?_⟩
  show Zm E YX8_delete ((d + 1) + 1) M [(0, vr (some (97, 1, 0))), (1, vi (gi M 160 ((((((400 : Int32) * ((gi M 97 92) - (1 : Int32))) + (gi M 155 (((gi M 97 92) - (1 : Int32))).toNatClampNeg)) - (1 : Int32)) - (1 : Int32))).toNatClampNeg)), (2, vi (gi M 161 ((((((400 : Int32) * ((gi M 97 92) - (1 : Int32))) + (gi M 155 (((gi M 97 92) - (1 : Int32))).toNatClampNeg)) - (1 : Int32)) - (1 : Int32))).toNatClampNeg))] 23 [vi (gi M 161 ((((((400 : Int32) * ((gi M 97 92) - (1 : Int32))) + (gi M 155 (((gi M 97 92) - (1 : Int32))).toNatClampNeg)) - (1 : Int32)) - (0 : Int32))).toNatClampNeg), vi (gi M 160 ((((((400 : Int32) * ((gi M 97 92) - (1 : Int32))) + (gi M 155 (((gi M 97 92) - (1 : Int32))).toNatClampNeg)) - (1 : Int32)) - (0 : Int32))).toNatClampNeg), vr (some (97, 1, 0))] Q
  refine sX8_delete_23 (d := (d + 1)) M (gi M 160 ((((((400 : Int32) * ((gi M 97 92) - (1 : Int32))) + (gi M 155 (((gi M 97 92) - (1 : Int32))).toNatClampNeg)) - (1 : Int32)) - (1 : Int32))).toNatClampNeg) (gi M 161 ((((((400 : Int32) * ((gi M 97 92) - (1 : Int32))) + (gi M 155 (((gi M 97 92) - (1 : Int32))).toNatClampNeg)) - (1 : Int32)) - (1 : Int32))).toNatClampNeg) (gi M 161 ((((((400 : Int32) * ((gi M 97 92) - (1 : Int32))) + (gi M 155 (((gi M 97 92) - (1 : Int32))).toNatClampNeg)) - (1 : Int32)) - (0 : Int32))).toNatClampNeg) (gi M 160 ((((((400 : Int32) * ((gi M 97 92) - (1 : Int32))) + (gi M 155 (((gi M 97 92) - (1 : Int32))).toNatClampNeg)) - (1 : Int32)) - (0 : Int32))).toNatClampNeg) ?_
  exact k
theorem iX8_delete_72 {E : zE} {d : Nat} {Q : zO → zM → Prop} (M : zM) (l1 : Int32) (l2 : Int32) (l3 : Int32) (s0 : Int32) (k : if l1 = (7 : Int32) then (if s0 = 0 then (Zm E YX8_remove (d + 1) M (zargs 0 [vr (some (97, 1, 0)), vi l2, vi l3]) 0 [] (zma E YX8_delete ((d + 1) + 1) [(0, vr (some (97, 1, 0))), (4, vi s0)] 88 3 [] Q)) else (Zm E YX8_gives (d + 1) (si (si M 97 111 (3 : Int32)) 97 112 (0 : Int32)) (zargs 0 [vr (some (97, 1, 0)), vi (2 : Int32)]) 0 [] (zma E YX8_delete ((d + 1) + 1) [] 107 3 [] Q))) else (if s0 = 0 then (Zm E YX8_gives (d + 1) (si (si M 97 111 (2 : Int32)) 97 112 (0 : Int32)) (zargs 0 [vr (some (97, 1, 0)), vi (2 : Int32)]) 0 [] (zma E YX8_delete ((d + 1) + 1) [] 107 3 [] Q)) else (Zm E YX8_gives (d + 1) (si (si M 97 111 (3 : Int32)) 97 112 (0 : Int32)) (zargs 0 [vr (some (97, 1, 0)), vi (2 : Int32)]) 0 [] (zma E YX8_delete ((d + 1) + 1) [] 107 3 [] Q)))) : Zm E YX8_delete (d + 2) M [(0, vr (some (97, 1, 0))), (1, vi l1), (2, vi l2), (3, vi l3)] 72 [vi s0] Q := by
  refine sX8_delete_72 (d := (d + 1)) M l1 l2 l3 s0 ?_
  refine zite k (fun h5954 k => ?_) (fun h5954 k => ?_)
  · refine zite k (fun h5955 k => ?_) (fun h5955 k => ?_)
    · exact k
    · refine sX8_delete_91 (d := (d + 1)) M s0 ?_
      refine zneg h5955 ?_
      refine jX8_truth (d := d) M (0 : Int32) ?_
      refine zpos (show (0 : Int32) = 0 from by decide) ?_
      show Zm E YX8_delete ((d + 1) + 1) (si (si M 97 111 (3 : Int32)) 97 112 (0 : Int32)) [(0, vr (some (97, 1, 0)))] 105 [] Q
      refine sX8_delete_105 (d := (d + 1)) (si (si M 97 111 (3 : Int32)) 97 112 (0 : Int32))  ?_
      exact k
  · refine sX8_delete_91 (d := (d + 1)) M s0 ?_
    refine zite k (fun h5956 k => ?_) (fun h5956 k => ?_)
    · refine jX8_truth (d := d) M (1 : Int32) ?_
      refine zneg (show ¬ ((1 : Int32) = 0) from by decide) ?_
      show Zm E YX8_delete ((d + 1) + 1) (si (si M 97 111 (2 : Int32)) 97 112 (0 : Int32)) [(0, vr (some (97, 1, 0)))] 105 [] Q
      refine sX8_delete_105 (d := (d + 1)) (si (si M 97 111 (2 : Int32)) 97 112 (0 : Int32))  ?_
      exact k
    · refine jX8_truth (d := d) M (0 : Int32) ?_
      refine zpos (show (0 : Int32) = 0 from by decide) ?_
      show Zm E YX8_delete ((d + 1) + 1) (si (si M 97 111 (3 : Int32)) 97 112 (0 : Int32)) [(0, vr (some (97, 1, 0)))] 105 [] Q
      refine sX8_delete_105 (d := (d + 1)) (si (si M 97 111 (3 : Int32)) 97 112 (0 : Int32))  ?_
      exact k
theorem iX8_delete_91 {E : zE} {d : Nat} {Q : zO → zM → Prop} (M : zM) (l4 : Int32) (k : if l4 = 0 then (Zm E YX8_gives (d + 1) (si (si M 97 111 (2 : Int32)) 97 112 (0 : Int32)) (zargs 0 [vr (some (97, 1, 0)), vi (2 : Int32)]) 0 [] (zma E YX8_delete ((d + 1) + 1) [] 107 3 [] Q)) else (Zm E YX8_gives (d + 1) (si (si M 97 111 (3 : Int32)) 97 112 (0 : Int32)) (zargs 0 [vr (some (97, 1, 0)), vi (2 : Int32)]) 0 [] (zma E YX8_delete ((d + 1) + 1) [] 107 3 [] Q))) : Zm E YX8_delete (d + 2) M [(0, vr (some (97, 1, 0))), (4, vi l4)] 91 [] Q := by
  refine sX8_delete_91 (d := (d + 1)) M l4 ?_
  refine zite k (fun h5958 k => ?_) (fun h5958 k => ?_)
  · refine jX8_truth (d := d) M (1 : Int32) ?_
    refine zneg (show ¬ ((1 : Int32) = 0) from by decide) ?_
    show Zm E YX8_delete ((d + 1) + 1) (si (si M 97 111 (2 : Int32)) 97 112 (0 : Int32)) [(0, vr (some (97, 1, 0)))] 105 [] Q
    refine sX8_delete_105 (d := (d + 1)) (si (si M 97 111 (2 : Int32)) 97 112 (0 : Int32))  ?_
    exact k
  · refine jX8_truth (d := d) M (0 : Int32) ?_
    refine zpos (show (0 : Int32) = 0 from by decide) ?_
    show Zm E YX8_delete ((d + 1) + 1) (si (si M 97 111 (3 : Int32)) 97 112 (0 : Int32)) [(0, vr (some (97, 1, 0)))] 105 [] Q
    refine sX8_delete_105 (d := (d + 1)) (si (si M 97 111 (3 : Int32)) 97 112 (0 : Int32))  ?_
    exact k
theorem iX8_enter_50 {E : zE} {d : Nat} {Q : zO → zM → Prop} (M : zM) (l1 : Int32) (l2 : Int32) (l3 : Int32) (l4 : Int32) (l5 : Int32) (l6 : Int32) (l7 : Int32) (l8 : Int32) (k : vp_in l6 12 ∧ (if (gi M 130 (l6).toNatClampNeg) ≤ l8 then (vp_in ((gi M 97 92) - (1 : Int32)) 24 ∧ (Zm E YX8_enterFrame d (si (si M 155 (((gi M 97 92) - (1 : Int32))).toNatClampNeg ((gi M 155 (((gi M 97 92) - (1 : Int32))).toNatClampNeg) - l4)) 154 (((gi M 97 92) - (1 : Int32))).toNatClampNeg ((gi M 154 (((gi M 97 92) - (1 : Int32))).toNatClampNeg) + (1 : Int32))) (zargs 0 [vr (some (97, 1, 0)), vi l6, vi l7, vi l2, vi l3, vi l5]) 0 [] (zma E YX8_enter (d + 1) [] 224 3 [] Q))) else (vp_in (((100 : Int32) * l6) + l8) 1200 ∧ (if (gi M 117 (l6).toNatClampNeg) ≤ l8 then (Zm E YX8_enter (d + 1) M [(0, vr (some (97, 1, 0))), (1, vi l1), (2, vi l2), (3, vi l3), (4, vi l4), (5, vi l5), (6, vi l6), (7, vi l7), (8, vi l8), (9, vi (gi M 129 ((((100 : Int32) * l6) + l8)).toNatClampNeg))] 94 [vi (0 : Int32)] Q) else (Zm E YX8_enter (d + 1) M [(0, vr (some (97, 1, 0))), (1, vi l1), (2, vi l2), (3, vi l3), (4, vi l4), (5, vi l5), (6, vi l6), (7, vi l7), (8, vi l8), (9, vi (gi M 129 ((((100 : Int32) * l6) + l8)).toNatClampNeg))] 94 [vi (1 : Int32)] Q))))) : Zm E YX8_enter (d + 1) M [(0, vr (some (97, 1, 0))), (1, vi l1), (2, vi l2), (3, vi l3), (4, vi l4), (5, vi l5), (6, vi l6), (7, vi l7), (8, vi l8)] 50 [] Q := by
  refine sX8_enter_50 (d := d) M l1 l2 l3 l4 l5 l6 l7 l8 ?_
  refine zand k (fun h5963 k => ?_)
  refine zite k (fun h5964 k => ?_) (fun h5964 k => ?_)
  · refine jX8_drop (d := d) M l4 ?_
    refine zand k (fun h5965 k => ?_)
    show Zm E YX8_enter (d + 1) (si M 155 (((gi M 97 92) - (1 : Int32))).toNatClampNeg ((gi M 155 (((gi M 97 92) - (1 : Int32))).toNatClampNeg) - l4)) [(0, vr (some (97, 1, 0))), (2, vi l2), (3, vi l3), (5, vi l5), (6, vi l6), (7, vi l7)] 211 [] Q
    refine sX8_enter_211 (d := d) (si M 155 (((gi M 97 92) - (1 : Int32))).toNatClampNeg ((gi M 155 (((gi M 97 92) - (1 : Int32))).toNatClampNeg) - l4)) l2 l3 l5 l6 l7 ?_
    refine jX8_goOn (d := d) (si M 155 (((gi M 97 92) - (1 : Int32))).toNatClampNeg ((gi M 155 (((gi M 97 92) - (1 : Int32))).toNatClampNeg) - l4))  ?_
    refine ⟨h5965, ?_⟩
    show Zm E YX8_enter (d + 1) (si (si M 155 (((gi M 97 92) - (1 : Int32))).toNatClampNeg ((gi M 155 (((gi M 97 92) - (1 : Int32))).toNatClampNeg) - l4)) 154 (((gi M 97 92) - (1 : Int32))).toNatClampNeg ((gi M 154 (((gi M 97 92) - (1 : Int32))).toNatClampNeg) + (1 : Int32))) [(0, vr (some (97, 1, 0))), (2, vi l2), (3, vi l3), (5, vi l5), (6, vi l6), (7, vi l7)] 215 [] Q
    refine sX8_enter_215 (d := d) (si (si M 155 (((gi M 97 92) - (1 : Int32))).toNatClampNeg ((gi M 155 (((gi M 97 92) - (1 : Int32))).toNatClampNeg) - l4)) 154 (((gi M 97 92) - (1 : Int32))).toNatClampNeg ((gi M 154 (((gi M 97 92) - (1 : Int32))).toNatClampNeg) + (1 : Int32))) l2 l3 l5 l6 l7 ?_
    exact k
  · refine zand k (fun h5966 k => ?_)
    refine ⟨h5963, ?_⟩
    exact k
theorem iX8_enter_94 {E : zE} {d : Nat} {Q : zO → zM → Prop} (M : zM) (l1 : Int32) (l2 : Int32) (l3 : Int32) (l4 : Int32) (l5 : Int32) (l6 : Int32) (l7 : Int32) (l8 : Int32) (l9 : Int32) (s0 : Int32) (k : if s0 = 0 then (vp_in l6 12 ∧ (if (gi M 115 (l6).toNatClampNeg) = 0 then (if l9 = (gi M 114 (l6).toNatClampNeg) then (Zm E YX8_enter (d + 1) M [(0, vr (some (97, 1, 0))), (1, vi l1), (2, vi l2), (3, vi l3), (4, vi l4), (5, vi l5), (6, vi l6), (7, vi l7), (8, vi l8), (9, vi l9), (10, vi s0)] 128 [vi (1 : Int32)] Q) else (Zm E YX8_enter (d + 1) M [(0, vr (some (97, 1, 0))), (1, vi l1), (2, vi l2), (3, vi l3), (4, vi l4), (5, vi l5), (6, vi l6), (7, vi l7), (8, vi l8), (9, vi l9), (10, vi s0)] 128 [vi (0 : Int32)] Q)) else (Zm E YX8_enter (d + 1) M [(0, vr (some (97, 1, 0))), (1, vi l1), (2, vi l2), (3, vi l3), (4, vi l4), (5, vi l5), (6, vi l6), (7, vi l7), (8, vi l8), (9, vi l9), (10, vi s0)] 128 [vi (0 : Int32)] Q))) else (Zm E YX8_enter (d + 1) M [(0, vr (some (97, 1, 0))), (1, vi l1), (2, vi l2), (3, vi l3), (4, vi l4), (5, vi l5), (6, vi l6), (7, vi l7), (8, vi l8), (9, vi l9), (10, vi s0)] 128 [vi (0 : Int32)] Q)) : Zm E YX8_enter (d + 1) M [(0, vr (some (97, 1, 0))), (1, vi l1), (2, vi l2), (3, vi l3), (4, vi l4), (5, vi l5), (6, vi l6), (7, vi l7), (8, vi l8), (9, vi l9)] 94 [vi s0] Q := by
  refine sX8_enter_94 (d := d) M l1 l2 l3 l4 l5 l6 l7 l8 l9 s0 ?_
  refine zite k (fun h5968 k => ?_) (fun h5968 k => ?_)
  · refine zand k (fun h5969 k => ?_)
    refine zite k (fun h5970 k => ?_) (fun h5970 k => ?_)
    · refine ⟨h5969, ?_⟩
      exact k
    · exact k
  · exact k
theorem iX8_enter_128 {E : zE} {d : Nat} {Q : zO → zM → Prop} (M : zM) (l1 : Int32) (l2 : Int32) (l3 : Int32) (l4 : Int32) (l5 : Int32) (l6 : Int32) (l7 : Int32) (l8 : Int32) (l9 : Int32) (l10 : Int32) (s0 : Int32) (k : if l10 = 0 then (if s0 = 0 then (Zm E YX8_enter (d + 1) M [(0, vr (some (97, 1, 0))), (1, vi l1), (2, vi l2), (3, vi l3), (4, vi l4), (5, vi l5), (6, vi l6), (7, vi l7), (8, vi l8), (9, vi l9), (10, vi l10), (11, vi s0)] 155 [vi (0 : Int32)] Q) else (Zm E YX8_enter (d + 1) M [(0, vr (some (97, 1, 0))), (1, vi l1), (2, vi l2), (3, vi l3), (4, vi l4), (5, vi l5), (6, vi l6), (7, vi l7), (8, vi l8), (9, vi l9), (10, vi l10), (11, vi s0)] 155 [vi (7 : Int32)] Q)) else (if (gi M 97 115) ≤ l8 then (Zm E YX8_enter (d + 1) M [(0, vr (some (97, 1, 0))), (1, vi l1), (2, vi l2), (3, vi l3), (4, vi l4), (5, vi l5), (6, vi l6), (7, vi l7), (8, vi l8), (9, vi l9), (10, vi l10), (11, vi s0)] 155 [vi (0 : Int32)] Q) else (vp_in ((gi M 97 114) + l8) 9600 ∧ (Zm E YX8_enter (d + 1) M [(0, vr (some (97, 1, 0))), (1, vi l1), (2, vi l2), (3, vi l3), (4, vi l4), (5, vi l5), (6, vi l6), (7, vi l7), (8, vi l8), (9, vi l9), (10, vi l10), (11, vi s0)] 155 [vi (gi M 160 (((gi M 97 114) + l8)).toNatClampNeg)] Q)))) : Zm E YX8_enter (d + 1) M [(0, vr (some (97, 1, 0))), (1, vi l1), (2, vi l2), (3, vi l3), (4, vi l4), (5, vi l5), (6, vi l6), (7, vi l7), (8, vi l8), (9, vi l9), (10, vi l10)] 128 [vi s0] Q := by
  refine sX8_enter_128 (d := d) M l1 l2 l3 l4 l5 l6 l7 l8 l9 l10 s0 ?_
  refine zite k (fun h5972 k => ?_) (fun h5972 k => ?_)
  · exact k
  · refine sX8_argumentSort_0 (d := d) M l8 ?_
    refine zite k (fun h5974 k => ?_) (fun h5974 k => ?_)
    · show Zm E YX8_enter (d + 1) M [(0, vr (some (97, 1, 0))), (1, vi l1), (2, vi l2), (3, vi l3), (4, vi l4), (5, vi l5), (6, vi l6), (7, vi l7), (8, vi l8), (9, vi l9), (10, vi l10), (11, vi s0)] 141 [vi (0 : Int32)] Q
      refine sX8_enter_141 (d := d) M l1 l2 l3 l4 l5 l6 l7 l8 l9 l10 s0 (0 : Int32) ?_
      exact k
    · refine zand k (fun h5975 k => ?_)
      show Zm E YX8_enter (d + 1) M [(0, vr (some (97, 1, 0))), (1, vi l1), (2, vi l2), (3, vi l3), (4, vi l4), (5, vi l5), (6, vi l6), (7, vi l7), (8, vi l8), (9, vi l9), (10, vi l10), (11, vi s0)] 141 [vi (gi M 160 (((gi M 97 114) + l8)).toNatClampNeg)] Q
      refine sX8_enter_141 (d := d) M l1 l2 l3 l4 l5 l6 l7 l8 l9 l10 s0 (gi M 160 (((gi M 97 114) + l8)).toNatClampNeg) ?_
      exact k
theorem iX8_enter_155 {E : zE} {d : Nat} {Q : zO → zM → Prop} (M : zM) (l1 : Int32) (l2 : Int32) (l3 : Int32) (l4 : Int32) (l5 : Int32) (l6 : Int32) (l7 : Int32) (l8 : Int32) (l9 : Int32) (l10 : Int32) (l11 : Int32) (s0 : Int32) (k : if l10 = 0 then (if l11 = 0 then (Zm E YX8_set_2 d M (zargs 0 [vr (some (97, 1, 0)), vi l7, vi l9, vi s0, vi (0 : Int32)]) 0 [] (zma E YX8_enter (d + 1) [(0, vr (some (97, 1, 0))), (1, vi l1), (2, vi l2), (3, vi l3), (4, vi l4), (5, vi l5), (6, vi l6), (7, vi l7), (8, vi l8)] 188 3 [] Q)) else (Zm E YX8_set_2 d M (zargs 0 [vr (some (97, 1, 0)), vi l7, vi l9, vi s0, vi l1]) 0 [] (zma E YX8_enter (d + 1) [(0, vr (some (97, 1, 0))), (1, vi l1), (2, vi l2), (3, vi l3), (4, vi l4), (5, vi l5), (6, vi l6), (7, vi l7), (8, vi l8)] 188 3 [] Q))) else (if (gi M 97 115) ≤ l8 then (Zm E YX8_set_2 d M (zargs 0 [vr (some (97, 1, 0)), vi l7, vi l9, vi s0, vi (0 : Int32)]) 0 [] (zma E YX8_enter (d + 1) [(0, vr (some (97, 1, 0))), (1, vi l1), (2, vi l2), (3, vi l3), (4, vi l4), (5, vi l5), (6, vi l6), (7, vi l7), (8, vi l8)] 188 3 [] Q)) else (vp_in ((gi M 97 114) + l8) 9600 ∧ (Zm E YX8_set_2 d M (zargs 0 [vr (some (97, 1, 0)), vi l7, vi l9, vi s0, vi (gi M 161 (((gi M 97 114) + l8)).toNatClampNeg)]) 0 [] (zma E YX8_enter (d + 1) [(0, vr (some (97, 1, 0))), (1, vi l1), (2, vi l2), (3, vi l3), (4, vi l4), (5, vi l5), (6, vi l6), (7, vi l7), (8, vi l8)] 188 3 [] Q))))) : Zm E YX8_enter (d + 1) M [(0, vr (some (97, 1, 0))), (1, vi l1), (2, vi l2), (3, vi l3), (4, vi l4), (5, vi l5), (6, vi l6), (7, vi l7), (8, vi l8), (9, vi l9), (10, vi l10), (11, vi l11)] 155 [vi s0] Q := by
  refine sX8_enter_155 (d := d) M l1 l2 l3 l4 l5 l6 l7 l8 l9 l10 l11 s0 ?_
  refine zite k (fun h5976 k => ?_) (fun h5976 k => ?_)
  · exact k
  · refine sX8_argument_0 (d := d) M l8 ?_
    refine zite k (fun h5978 k => ?_) (fun h5978 k => ?_)
    · show Zm E YX8_enter (d + 1) M [(0, vr (some (97, 1, 0))), (1, vi l1), (2, vi l2), (3, vi l3), (4, vi l4), (5, vi l5), (6, vi l6), (7, vi l7), (8, vi l8)] 175 [vi (0 : Int32), vi s0, vi l9, vi l7, vr (some (97, 1, 0))] Q
      refine sX8_enter_175 (d := d) M l1 l2 l3 l4 l5 l6 l7 l8 (0 : Int32) s0 l9 l7 ?_
      exact k
    · refine zand k (fun h5979 k => ?_)
      show Zm E YX8_enter (d + 1) M [(0, vr (some (97, 1, 0))), (1, vi l1), (2, vi l2), (3, vi l3), (4, vi l4), (5, vi l5), (6, vi l6), (7, vi l7), (8, vi l8)] 175 [vi (gi M 161 (((gi M 97 114) + l8)).toNatClampNeg), vi s0, vi l9, vi l7, vr (some (97, 1, 0))] Q
      refine sX8_enter_175 (d := d) M l1 l2 l3 l4 l5 l6 l7 l8 (gi M 161 (((gi M 97 114) + l8)).toNatClampNeg) s0 l9 l7 ?_
      exact k
theorem iX8_hasOwn_6 {E : zE} {d : Nat} {Q : zO → zM → Prop} (M : zM) (l1 : Int32) (s0 : Int32) (k : if (gi M 97 75) = 0 then (Zm E YX8_findProperty d M (zargs 0 [vr (some (97, 1, 0)), vi l1, vi s0]) 0 [] (zma E YX8_hasOwn (d + 1) [] 20 3 [vr (some (97, 1, 0))] Q)) else (Q (.inl none) M)) : Zm E YX8_hasOwn (d + 1) M [(0, vr (some (97, 1, 0))), (1, vi l1)] 6 [vi s0] Q := by
  refine sX8_hasOwn_6 (d := d) M l1 s0 ?_
  refine zite k (fun h5981 k => ?_) (fun h5981 k => ?_)
  · exact k
  · refine sX8_hasOwn_35 (d := d) M  ?_
    exact k
theorem iX8_hasOwn_23 {E : zE} {d : Nat} {Q : zO → zM → Prop} (M : zM) (s0 : Int32) (k : if s0 = (-1 : Int32) then (Q (.inl none) (si (si M 97 111 (3 : Int32)) 97 112 (0 : Int32))) else (Q (.inl none) (si (si M 97 111 (2 : Int32)) 97 112 (0 : Int32)))) : Zm E YX8_hasOwn (d + 2) M [] 23 [vi s0, vr (some (97, 1, 0))] Q := by
  refine sX8_hasOwn_23 (d := (d + 1)) M s0 ?_
  refine zite k (fun h5983 k => ?_) (fun h5983 k => ?_)
  · refine jX8_truth (d := d) M (0 : Int32) ?_
    refine zpos (show (0 : Int32) = 0 from by decide) ?_
    show Zm E YX8_hasOwn ((d + 1) + 1) (si (si M 97 111 (3 : Int32)) 97 112 (0 : Int32)) [] 35 [] Q
    refine sX8_hasOwn_35 (d := (d + 1)) (si (si M 97 111 (3 : Int32)) 97 112 (0 : Int32))  ?_
    exact k
  · refine jX8_truth (d := d) M (1 : Int32) ?_
    refine zneg (show ¬ ((1 : Int32) = 0) from by decide) ?_
    show Zm E YX8_hasOwn ((d + 1) + 1) (si (si M 97 111 (2 : Int32)) 97 112 (0 : Int32)) [] 35 [] Q
    refine sX8_hasOwn_35 (d := (d + 1)) (si (si M 97 111 (2 : Int32)) 97 112 (0 : Int32))  ?_
    exact k
theorem iX8_indexOf_0 {E : zE} {d : Nat} {Q : zO → zM → Prop} (M : zM) (l1 : Int32) (k : vp_in l1 400 ∧ (if (gi M 101 (l1).toNatClampNeg) < (1 : Int32) then (Q (.inl (some (vi (-1 : Int32)))) M) else (if (gi M 101 (l1).toNatClampNeg) ≤ (2 : Int32) then (vp_in ((60 : Int32) * l1) 24000 ∧ (if (gi M 101 (l1).toNatClampNeg) = (2 : Int32) then (vp_in (((60 : Int32) * l1) + (1 : Int32)) 24000 ∧ (if (gi M 100 (((60 : Int32) * l1)).toNatClampNeg) < (48 : Int32) then (Q (.inl (some (vi (-1 : Int32)))) M) else (if (57 : Int32) < (gi M 100 (((60 : Int32) * l1)).toNatClampNeg) then (Q (.inl (some (vi (-1 : Int32)))) M) else (if (gi M 100 ((((60 : Int32) * l1) + (1 : Int32))).toNatClampNeg) < (48 : Int32) then (Q (.inl (some (vi (-1 : Int32)))) M) else (if (57 : Int32) < (gi M 100 ((((60 : Int32) * l1) + (1 : Int32))).toNatClampNeg) then (Q (.inl (some (vi (-1 : Int32)))) M) else (if (gi M 100 (((60 : Int32) * l1)).toNatClampNeg) = (48 : Int32) then (Q (.inl (some (vi (-1 : Int32)))) M) else (if (gi M 101 (l1).toNatClampNeg) = (1 : Int32) then (Q (.inl (some (vi ((gi M 100 (((60 : Int32) * l1)).toNatClampNeg) - (48 : Int32))))) M) else (Q (.inl (some (vi ((((10 : Int32) * ((gi M 100 (((60 : Int32) * l1)).toNatClampNeg) - (48 : Int32))) + (gi M 100 ((((60 : Int32) * l1) + (1 : Int32))).toNatClampNeg)) - (48 : Int32))))) M)))))))) else (if (gi M 100 (((60 : Int32) * l1)).toNatClampNeg) < (48 : Int32) then (Q (.inl (some (vi (-1 : Int32)))) M) else (if (57 : Int32) < (gi M 100 (((60 : Int32) * l1)).toNatClampNeg) then (Q (.inl (some (vi (-1 : Int32)))) M) else (if (gi M 101 (l1).toNatClampNeg) = (1 : Int32) then (Q (.inl (some (vi ((gi M 100 (((60 : Int32) * l1)).toNatClampNeg) - (48 : Int32))))) M) else (Q (.inl (some (vi ((((10 : Int32) * ((gi M 100 (((60 : Int32) * l1)).toNatClampNeg) - (48 : Int32))) + (48 : Int32)) - (48 : Int32))))) M)))))) else (Q (.inl (some (vi (-1 : Int32)))) M)))) : Zm E YX8_indexOf (d + 1) M [(0, vr (some (97, 1, 0))), (1, vi l1)] 0 [] Q := by
  refine sX8_indexOf_0 (d := d) M l1 ?_
  refine zand k (fun h5984 k => ?_)
  refine zite k (fun h5985 k => ?_) (fun h5985 k => ?_)
  · exact k
  · refine zite k (fun h5986 k => ?_) (fun h5986 k => ?_)
    · refine zand k (fun h5987 k => ?_)
      refine zite k (fun h5988 k => ?_) (fun h5988 k => ?_)
      · refine zand k (fun h5989 k => ?_)
        refine sX8_isDigit_0 (d := d) M (gi M 100 (((60 : Int32) * l1)).toNatClampNeg) ?_
        refine zite k (fun h5990 k => ?_) (fun h5990 k => ?_)
        · show Zm E YX8_indexOf (d + 1) M [(2, vi (gi M 101 (l1).toNatClampNeg)), (3, vi (gi M 100 (((60 : Int32) * l1)).toNatClampNeg)), (4, vi (gi M 100 ((((60 : Int32) * l1) + (1 : Int32))).toNatClampNeg))] 56 [vi (0 : Int32)] Q
          refine sX8_indexOf_56 (d := d) M (gi M 101 (l1).toNatClampNeg) (gi M 100 (((60 : Int32) * l1)).toNatClampNeg) (gi M 100 ((((60 : Int32) * l1) + (1 : Int32))).toNatClampNeg) (0 : Int32) ?_
          refine zpos (show (0 : Int32) = 0 from by decide) ?_
          exact k
        · refine zite k (fun h5991 k => ?_) (fun h5991 k => ?_)
          · show Zm E YX8_indexOf (d + 1) M [(2, vi (gi M 101 (l1).toNatClampNeg)), (3, vi (gi M 100 (((60 : Int32) * l1)).toNatClampNeg)), (4, vi (gi M 100 ((((60 : Int32) * l1) + (1 : Int32))).toNatClampNeg))] 56 [vi (0 : Int32)] Q
            refine sX8_indexOf_56 (d := d) M (gi M 101 (l1).toNatClampNeg) (gi M 100 (((60 : Int32) * l1)).toNatClampNeg) (gi M 100 ((((60 : Int32) * l1) + (1 : Int32))).toNatClampNeg) (0 : Int32) ?_
            refine zpos (show (0 : Int32) = 0 from by decide) ?_
            exact k
          · show Zm E YX8_indexOf (d + 1) M [(2, vi (gi M 101 (l1).toNatClampNeg)), (3, vi (gi M 100 (((60 : Int32) * l1)).toNatClampNeg)), (4, vi (gi M 100 ((((60 : Int32) * l1) + (1 : Int32))).toNatClampNeg))] 56 [vi (1 : Int32)] Q
            refine sX8_indexOf_56 (d := d) M (gi M 101 (l1).toNatClampNeg) (gi M 100 (((60 : Int32) * l1)).toNatClampNeg) (gi M 100 ((((60 : Int32) * l1) + (1 : Int32))).toNatClampNeg) (1 : Int32) ?_
            refine zneg (show ¬ ((1 : Int32) = 0) from by decide) ?_
            refine sX8_isDigit_0 (d := d) M (gi M 100 ((((60 : Int32) * l1) + (1 : Int32))).toNatClampNeg) ?_
            refine zite k (fun h5992 k => ?_) (fun h5992 k => ?_)
            · show Zm E YX8_indexOf (d + 1) M [(2, vi (gi M 101 (l1).toNatClampNeg)), (3, vi (gi M 100 (((60 : Int32) * l1)).toNatClampNeg)), (4, vi (gi M 100 ((((60 : Int32) * l1) + (1 : Int32))).toNatClampNeg))] 64 [vi (0 : Int32)] Q
              refine sX8_indexOf_64 (d := d) M (gi M 101 (l1).toNatClampNeg) (gi M 100 (((60 : Int32) * l1)).toNatClampNeg) (gi M 100 ((((60 : Int32) * l1) + (1 : Int32))).toNatClampNeg) (0 : Int32) ?_
              refine zpos (show (0 : Int32) = 0 from by decide) ?_
              exact k
            · refine zite k (fun h5993 k => ?_) (fun h5993 k => ?_)
              · show Zm E YX8_indexOf (d + 1) M [(2, vi (gi M 101 (l1).toNatClampNeg)), (3, vi (gi M 100 (((60 : Int32) * l1)).toNatClampNeg)), (4, vi (gi M 100 ((((60 : Int32) * l1) + (1 : Int32))).toNatClampNeg))] 64 [vi (0 : Int32)] Q
                refine sX8_indexOf_64 (d := d) M (gi M 101 (l1).toNatClampNeg) (gi M 100 (((60 : Int32) * l1)).toNatClampNeg) (gi M 100 ((((60 : Int32) * l1) + (1 : Int32))).toNatClampNeg) (0 : Int32) ?_
                refine zpos (show (0 : Int32) = 0 from by decide) ?_
                exact k
              · show Zm E YX8_indexOf (d + 1) M [(2, vi (gi M 101 (l1).toNatClampNeg)), (3, vi (gi M 100 (((60 : Int32) * l1)).toNatClampNeg)), (4, vi (gi M 100 ((((60 : Int32) * l1) + (1 : Int32))).toNatClampNeg))] 64 [vi (1 : Int32)] Q
                refine sX8_indexOf_64 (d := d) M (gi M 101 (l1).toNatClampNeg) (gi M 100 (((60 : Int32) * l1)).toNatClampNeg) (gi M 100 ((((60 : Int32) * l1) + (1 : Int32))).toNatClampNeg) (1 : Int32) ?_
                refine zneg (show ¬ ((1 : Int32) = 0) from by decide) ?_
                refine zpos h5988 ?_
                refine zite k (fun h5994 k => ?_) (fun h5994 k => ?_)
                · exact k
                · refine sX8_indexOf_80 (d := d) M (gi M 101 (l1).toNatClampNeg) (gi M 100 (((60 : Int32) * l1)).toNatClampNeg) (gi M 100 ((((60 : Int32) * l1) + (1 : Int32))).toNatClampNeg) ?_
                  exact k
      · refine sX8_isDigit_0 (d := d) M (gi M 100 (((60 : Int32) * l1)).toNatClampNeg) ?_
        refine zite k (fun h5996 k => ?_) (fun h5996 k => ?_)
        · show Zm E YX8_indexOf (d + 1) M [(2, vi (gi M 101 (l1).toNatClampNeg)), (3, vi (gi M 100 (((60 : Int32) * l1)).toNatClampNeg)), (4, vi (48 : Int32))] 56 [vi (0 : Int32)] Q
          refine sX8_indexOf_56 (d := d) M (gi M 101 (l1).toNatClampNeg) (gi M 100 (((60 : Int32) * l1)).toNatClampNeg) (48 : Int32) (0 : Int32) ?_
          refine zpos (show (0 : Int32) = 0 from by decide) ?_
          exact k
        · refine zite k (fun h5997 k => ?_) (fun h5997 k => ?_)
          · show Zm E YX8_indexOf (d + 1) M [(2, vi (gi M 101 (l1).toNatClampNeg)), (3, vi (gi M 100 (((60 : Int32) * l1)).toNatClampNeg)), (4, vi (48 : Int32))] 56 [vi (0 : Int32)] Q
            refine sX8_indexOf_56 (d := d) M (gi M 101 (l1).toNatClampNeg) (gi M 100 (((60 : Int32) * l1)).toNatClampNeg) (48 : Int32) (0 : Int32) ?_
            refine zpos (show (0 : Int32) = 0 from by decide) ?_
            exact k
          · show Zm E YX8_indexOf (d + 1) M [(2, vi (gi M 101 (l1).toNatClampNeg)), (3, vi (gi M 100 (((60 : Int32) * l1)).toNatClampNeg)), (4, vi (48 : Int32))] 56 [vi (1 : Int32)] Q
            refine sX8_indexOf_56 (d := d) M (gi M 101 (l1).toNatClampNeg) (gi M 100 (((60 : Int32) * l1)).toNatClampNeg) (48 : Int32) (1 : Int32) ?_
            refine zneg (show ¬ ((1 : Int32) = 0) from by decide) ?_
            refine sX8_isDigit_0 (d := d) M (48 : Int32) ?_
            refine zneg (show ¬ ((48 : Int32) < (48 : Int32)) from by decide) ?_
            refine zneg (show ¬ ((57 : Int32) < (48 : Int32)) from by decide) ?_
            show Zm E YX8_indexOf (d + 1) M [(2, vi (gi M 101 (l1).toNatClampNeg)), (3, vi (gi M 100 (((60 : Int32) * l1)).toNatClampNeg)), (4, vi (48 : Int32))] 64 [vi (1 : Int32)] Q
            refine sX8_indexOf_64 (d := d) M (gi M 101 (l1).toNatClampNeg) (gi M 100 (((60 : Int32) * l1)).toNatClampNeg) (48 : Int32) (1 : Int32) ?_
            refine zneg (show ¬ ((1 : Int32) = 0) from by decide) ?_
            refine zneg h5988 ?_
            refine sX8_indexOf_80 (d := d) M (gi M 101 (l1).toNatClampNeg) (gi M 100 (((60 : Int32) * l1)).toNatClampNeg) (48 : Int32) ?_
            exact k
    · exact k
theorem iX8_isEqual_0 {E : zE} {d : Nat} {Q : zO → zM → Prop} (M : zM) (l1 : Int32) (l2 : Int32) (l3 : Int32) (l4 : Int32) (k : if l1 ≤ (1 : Int32) then (Zm E YX8_isEqual (d + 1) M [(1, vi l1), (3, vi l3)] 10 [] Q) else (if (1 : Int32) < l3 then (if l1 = (7 : Int32) then (if l1 = l3 then (if l1 = (4 : Int32) then ((narrow .boolean (.int (0 : Int32)) = .int (0 : Int32)) ∧ (Q (.inl (some (vi (0 : Int32)))) M)) else (if l1 < (5 : Int32) then ((narrow .boolean (.int (1 : Int32)) = .int (1 : Int32)) ∧ (Q (.inl (some (vi (1 : Int32)))) M)) else (if l2 = l4 then ((narrow .boolean (.int (1 : Int32)) = .int (1 : Int32)) ∧ (Q (.inl (some (vi (1 : Int32)))) M)) else ((narrow .boolean (.int (0 : Int32)) = .int (0 : Int32)) ∧ (Q (.inl (some (vi (0 : Int32)))) M))))) else ((narrow .boolean (.int (0 : Int32)) = .int (0 : Int32)) ∧ (Q (.inl (some (vi (0 : Int32)))) M))) else (if l3 = (7 : Int32) then (if l1 = l3 then (if l1 = (4 : Int32) then ((narrow .boolean (.int (0 : Int32)) = .int (0 : Int32)) ∧ (Q (.inl (some (vi (0 : Int32)))) M)) else (if l1 < (5 : Int32) then ((narrow .boolean (.int (1 : Int32)) = .int (1 : Int32)) ∧ (Q (.inl (some (vi (1 : Int32)))) M)) else (if l2 = l4 then ((narrow .boolean (.int (1 : Int32)) = .int (1 : Int32)) ∧ (Q (.inl (some (vi (1 : Int32)))) M)) else ((narrow .boolean (.int (0 : Int32)) = .int (0 : Int32)) ∧ (Q (.inl (some (vi (0 : Int32)))) M))))) else ((narrow .boolean (.int (0 : Int32)) = .int (0 : Int32)) ∧ (Q (.inl (some (vi (0 : Int32)))) M))) else (if l1 = (6 : Int32) then (if l3 = (6 : Int32) then (if l1 = l3 then (if l1 = (4 : Int32) then ((narrow .boolean (.int (0 : Int32)) = .int (0 : Int32)) ∧ (Q (.inl (some (vi (0 : Int32)))) M)) else (if l1 < (5 : Int32) then ((narrow .boolean (.int (1 : Int32)) = .int (1 : Int32)) ∧ (Q (.inl (some (vi (1 : Int32)))) M)) else (if l2 = l4 then ((narrow .boolean (.int (1 : Int32)) = .int (1 : Int32)) ∧ (Q (.inl (some (vi (1 : Int32)))) M)) else ((narrow .boolean (.int (0 : Int32)) = .int (0 : Int32)) ∧ (Q (.inl (some (vi (0 : Int32)))) M))))) else ((narrow .boolean (.int (0 : Int32)) = .int (0 : Int32)) ∧ (Q (.inl (some (vi (0 : Int32)))) M))) else (Zm E YX8_numberOf d M (zargs 0 [vr (some (97, 1, 0)), vi l1, vi l2]) 0 [] (zma E YX8_isEqual (d + 1) [(0, vr (some (97, 1, 0))), (3, vi l3), (4, vi l4)] 62 3 [] Q))) else (Zm E YX8_numberOf d M (zargs 0 [vr (some (97, 1, 0)), vi l1, vi l2]) 0 [] (zma E YX8_isEqual (d + 1) [(0, vr (some (97, 1, 0))), (3, vi l3), (4, vi l4)] 62 3 [] Q))))) else (Zm E YX8_isEqual (d + 1) M [(1, vi l1), (3, vi l3)] 10 [] Q))) : Zm E YX8_isEqual (d + 1) M [(0, vr (some (97, 1, 0))), (1, vi l1), (2, vi l2), (3, vi l3), (4, vi l4)] 0 [] Q := by
  refine sX8_isEqual_0 (d := d) M l1 l2 l3 l4 ?_
  refine zite k (fun h5999 k => ?_) (fun h5999 k => ?_)
  · exact k
  · refine zite k (fun h6000 k => ?_) (fun h6000 k => ?_)
    · refine zite k (fun h6001 k => ?_) (fun h6001 k => ?_)
      · refine sX8_isSame_0 (d := d) M l1 l2 l3 l4 ?_
        refine zite k (fun h6002 k => ?_) (fun h6002 k => ?_)
        · refine zite k (fun h6003 k => ?_) (fun h6003 k => ?_)
          · show Zm E YX8_isEqual (d + 1) M [] 58 [vi (0 : Int32)] Q
            refine sX8_isEqual_58 (d := d) M (0 : Int32) ?_
            exact k
          · refine zite k (fun h6005 k => ?_) (fun h6005 k => ?_)
            · show Zm E YX8_isEqual (d + 1) M [] 58 [vi (1 : Int32)] Q
              refine sX8_isEqual_58 (d := d) M (1 : Int32) ?_
              exact k
            · refine zite k (fun h6007 k => ?_) (fun h6007 k => ?_)
              · show Zm E YX8_isEqual (d + 1) M [] 58 [vi (1 : Int32)] Q
                refine sX8_isEqual_58 (d := d) M (1 : Int32) ?_
                exact k
              · show Zm E YX8_isEqual (d + 1) M [] 58 [vi (0 : Int32)] Q
                refine sX8_isEqual_58 (d := d) M (0 : Int32) ?_
                exact k
        · show Zm E YX8_isEqual (d + 1) M [] 58 [vi (0 : Int32)] Q
          refine sX8_isEqual_58 (d := d) M (0 : Int32) ?_
          exact k
      · refine zite k (fun h6011 k => ?_) (fun h6011 k => ?_)
        · refine sX8_isSame_0 (d := d) M l1 l2 l3 l4 ?_
          refine zite k (fun h6012 k => ?_) (fun h6012 k => ?_)
          · refine zite k (fun h6013 k => ?_) (fun h6013 k => ?_)
            · show Zm E YX8_isEqual (d + 1) M [] 58 [vi (0 : Int32)] Q
              refine sX8_isEqual_58 (d := d) M (0 : Int32) ?_
              exact k
            · refine zite k (fun h6015 k => ?_) (fun h6015 k => ?_)
              · show Zm E YX8_isEqual (d + 1) M [] 58 [vi (1 : Int32)] Q
                refine sX8_isEqual_58 (d := d) M (1 : Int32) ?_
                exact k
              · refine zite k (fun h6017 k => ?_) (fun h6017 k => ?_)
                · show Zm E YX8_isEqual (d + 1) M [] 58 [vi (1 : Int32)] Q
                  refine sX8_isEqual_58 (d := d) M (1 : Int32) ?_
                  exact k
                · show Zm E YX8_isEqual (d + 1) M [] 58 [vi (0 : Int32)] Q
                  refine sX8_isEqual_58 (d := d) M (0 : Int32) ?_
                  exact k
          · show Zm E YX8_isEqual (d + 1) M [] 58 [vi (0 : Int32)] Q
            refine sX8_isEqual_58 (d := d) M (0 : Int32) ?_
            exact k
        · refine zite k (fun h6021 k => ?_) (fun h6021 k => ?_)
          · refine zite k (fun h6022 k => ?_) (fun h6022 k => ?_)
            · refine sX8_isSame_0 (d := d) M l1 l2 l3 l4 ?_
              refine zite k (fun h6023 k => ?_) (fun h6023 k => ?_)
              · refine zite k (fun h6024 k => ?_) (fun h6024 k => ?_)
                · show Zm E YX8_isEqual (d + 1) M [] 58 [vi (0 : Int32)] Q
                  refine sX8_isEqual_58 (d := d) M (0 : Int32) ?_
                  exact k
                · refine zite k (fun h6026 k => ?_) (fun h6026 k => ?_)
                  · show Zm E YX8_isEqual (d + 1) M [] 58 [vi (1 : Int32)] Q
                    refine sX8_isEqual_58 (d := d) M (1 : Int32) ?_
                    exact k
                  · refine zite k (fun h6028 k => ?_) (fun h6028 k => ?_)
                    · show Zm E YX8_isEqual (d + 1) M [] 58 [vi (1 : Int32)] Q
                      refine sX8_isEqual_58 (d := d) M (1 : Int32) ?_
                      exact k
                    · show Zm E YX8_isEqual (d + 1) M [] 58 [vi (0 : Int32)] Q
                      refine sX8_isEqual_58 (d := d) M (0 : Int32) ?_
                      exact k
              · show Zm E YX8_isEqual (d + 1) M [] 58 [vi (0 : Int32)] Q
                refine sX8_isEqual_58 (d := d) M (0 : Int32) ?_
                exact k
            · exact k
          · exact k
    · exact k
theorem iX8_isMadeBy_0 {E : zE} {d : Nat} {Q : zO → zM → Prop} (M : zM) (l1 : Int32) (l2 : Int32) (l3 : Int32) (l4 : Int32) (k : if l3 = (7 : Int32) then (vp_in l4 300 ∧ (if (gi M 141 (l4).toNatClampNeg) = (1 : Int32) then (Zm E YX8_read_2 d M (zargs 0 [vr (some (97, 1, 0)), vi l4, vi (1 : Int32)]) 0 [] (zma E YX8_isMadeBy (d + 1) [(0, vr (some (97, 1, 0))), (1, vi l1), (2, vi l2)] 18 3 [] Q)) else (Zm E YX8_isMadeBy (d + 1) M [(0, vr (some (97, 1, 0))), (1, vi l1), (2, vi l2), (5, vi (0 : Int32))] 39 [] Q))) else (Zm E YX8_isMadeBy (d + 1) M [(0, vr (some (97, 1, 0))), (1, vi l1), (2, vi l2), (5, vi (0 : Int32))] 39 [] Q)) : Zm E YX8_isMadeBy (d + 1) M [(0, vr (some (97, 1, 0))), (1, vi l1), (2, vi l2), (3, vi l3), (4, vi l4)] 0 [] Q := by
  refine sX8_isMadeBy_0 (d := d) M l1 l2 l3 l4 ?_
  refine sX8_isFunction_0 (d := d) M l3 l4 ?_
  refine zite k (fun h6040 k => ?_) (fun h6040 k => ?_)
  · refine zand k (fun h6041 k => ?_)
    refine zite k (fun h6042 k => ?_) (fun h6042 k => ?_)
    · show Zm E YX8_isMadeBy (d + 1) M [(0, vr (some (97, 1, 0))), (1, vi l1), (2, vi l2), (4, vi l4)] 7 [vi (1 : Int32)] Q
      refine sX8_isMadeBy_7 (d := d) M l1 l2 l4 (1 : Int32) ?_
      refine zneg (show ¬ ((1 : Int32) = 0) from by decide) ?_
      exact k
    · show Zm E YX8_isMadeBy (d + 1) M [(0, vr (some (97, 1, 0))), (1, vi l1), (2, vi l2), (4, vi l4)] 7 [vi (0 : Int32)] Q
      refine sX8_isMadeBy_7 (d := d) M l1 l2 l4 (0 : Int32) ?_
      refine zpos (show (0 : Int32) = 0 from by decide) ?_
      exact k
  · show Zm E YX8_isMadeBy (d + 1) M [(0, vr (some (97, 1, 0))), (1, vi l1), (2, vi l2), (4, vi l4)] 7 [vi (0 : Int32)] Q
    refine sX8_isMadeBy_7 (d := d) M l1 l2 l4 (0 : Int32) ?_
    refine zpos (show (0 : Int32) = 0 from by decide) ?_
    exact k
theorem iX8_isMadeBy_78 {E : zE} {d : Nat} {Q : zO → zM → Prop} (M : zM) (l6 : Int32) (l7 : Int32) (l8 : Int32) (k : if l8 = (-1 : Int32) then (if l7 = 0 then (Zm E YX8_gives (d + 1) (si (si M 97 111 (3 : Int32)) 97 112 (0 : Int32)) (zargs 0 [vr (some (97, 1, 0)), vi (2 : Int32)]) 0 [] (zma E YX8_isMadeBy ((d + 1) + 1) [] 123 3 [] Q)) else (Zm E YX8_gives (d + 1) (si (si M 97 111 (2 : Int32)) 97 112 (0 : Int32)) (zargs 0 [vr (some (97, 1, 0)), vi (2 : Int32)]) 0 [] (zma E YX8_isMadeBy ((d + 1) + 1) [] 123 3 [] Q))) else (if l7 = 0 then (if l8 = l6 then (vp_in l8 300 ∧ (Zm E YX8_isMadeBy ((d + 1) + 1) M [(0, vr (some (97, 1, 0))), (6, vi l6), (7, vi (1 : Int32)), (8, vi (gi M 139 (l8).toNatClampNeg))] 78 [] Q)) else (vp_in l8 300 ∧ (Zm E YX8_isMadeBy ((d + 1) + 1) M [(0, vr (some (97, 1, 0))), (6, vi l6), (7, vi (0 : Int32)), (8, vi (gi M 139 (l8).toNatClampNeg))] 78 [] Q))) else (vp_in l8 300 ∧ (Zm E YX8_isMadeBy ((d + 1) + 1) M [(0, vr (some (97, 1, 0))), (6, vi l6), (7, vi (1 : Int32)), (8, vi (gi M 139 (l8).toNatClampNeg))] 78 [] Q)))) : Zm E YX8_isMadeBy (d + 2) M [(0, vr (some (97, 1, 0))), (6, vi l6), (7, vi l7), (8, vi l8)] 78 [] Q := by
  refine sX8_isMadeBy_78 (d := (d + 1)) M l6 l7 l8 ?_
  refine zite k (fun h6048 k => ?_) (fun h6048 k => ?_)
  · refine jX8_truth (d := d) M l7 ?_
    refine zite k (fun h6049 k => ?_) (fun h6049 k => ?_)
    · show Zm E YX8_isMadeBy ((d + 1) + 1) (si (si M 97 111 (3 : Int32)) 97 112 (0 : Int32)) [(0, vr (some (97, 1, 0)))] 121 [] Q
      refine sX8_isMadeBy_121 (d := (d + 1)) (si (si M 97 111 (3 : Int32)) 97 112 (0 : Int32))  ?_
      exact k
    · show Zm E YX8_isMadeBy ((d + 1) + 1) (si (si M 97 111 (2 : Int32)) 97 112 (0 : Int32)) [(0, vr (some (97, 1, 0)))] 121 [] Q
      refine sX8_isMadeBy_121 (d := (d + 1)) (si (si M 97 111 (2 : Int32)) 97 112 (0 : Int32))  ?_
      exact k
  · refine zite k (fun h6050 k => ?_) (fun h6050 k => ?_)
    · refine zite k (fun h6051 k => ?_) (fun h6051 k => ?_)
      · refine sX8_isMadeBy_96 (d := (d + 1)) M l6 l8 ?_
        exact k
      · exact k
    · refine sX8_isMadeBy_96 (d := (d + 1)) M l6 l8 ?_
      exact k
theorem iX8_makeNew_0 {E : zE} {d : Nat} {Q : zO → zM → Prop} (M : zM) (l1 : Int32) (l2 : Int32) (k : vp_in ((gi M 97 92) - (1 : Int32)) 24 ∧ (vp_in (((((400 : Int32) * ((gi M 97 92) - (1 : Int32))) + (gi M 155 (((gi M 97 92) - (1 : Int32))).toNatClampNeg)) - l1) - (1 : Int32)) 9600 ∧ (if (gi M 160 ((((((400 : Int32) * ((gi M 97 92) - (1 : Int32))) + (gi M 155 (((gi M 97 92) - (1 : Int32))).toNatClampNeg)) - l1) - (1 : Int32))).toNatClampNeg) = (7 : Int32) then (vp_in (gi M 161 ((((((400 : Int32) * ((gi M 97 92) - (1 : Int32))) + (gi M 155 (((gi M 97 92) - (1 : Int32))).toNatClampNeg)) - l1) - (1 : Int32))).toNatClampNeg) 300 ∧ (if (gi M 141 ((gi M 161 ((((((400 : Int32) * ((gi M 97 92) - (1 : Int32))) + (gi M 155 (((gi M 97 92) - (1 : Int32))).toNatClampNeg)) - l1) - (1 : Int32))).toNatClampNeg)).toNatClampNeg) = (1 : Int32) then (if 0 < (gi M 142 ((gi M 161 ((((((400 : Int32) * ((gi M 97 92) - (1 : Int32))) + (gi M 155 (((gi M 97 92) - (1 : Int32))).toNatClampNeg)) - l1) - (1 : Int32))).toNatClampNeg)).toNatClampNeg) then (Zm E YX8_makeNew (d + 1) (si (si M 97 114 ((((((400 : Int32) * ((gi M 97 92) - (1 : Int32))) + (gi M 155 (((gi M 97 92) - (1 : Int32))).toNatClampNeg)) - l1) - (1 : Int32)) + (1 : Int32))) 97 115 l1) [(0, vr (some (97, 1, 0))), (1, vi l1), (2, vi l2), (5, vi (gi M 161 ((((((400 : Int32) * ((gi M 97 92) - (1 : Int32))) + (gi M 155 (((gi M 97 92) - (1 : Int32))).toNatClampNeg)) - l1) - (1 : Int32))).toNatClampNeg))] 84 [vi (1 : Int32)] Q) else (if (gi M 161 ((((((400 : Int32) * ((gi M 97 92) - (1 : Int32))) + (gi M 155 (((gi M 97 92) - (1 : Int32))).toNatClampNeg)) - l1) - (1 : Int32))).toNatClampNeg) < (10 : Int32) then (Zm E YX8_makeNew (d + 1) (si (si M 97 114 ((((((400 : Int32) * ((gi M 97 92) - (1 : Int32))) + (gi M 155 (((gi M 97 92) - (1 : Int32))).toNatClampNeg)) - l1) - (1 : Int32)) + (1 : Int32))) 97 115 l1) [(0, vr (some (97, 1, 0))), (1, vi l1), (2, vi l2), (5, vi (gi M 161 ((((((400 : Int32) * ((gi M 97 92) - (1 : Int32))) + (gi M 155 (((gi M 97 92) - (1 : Int32))).toNatClampNeg)) - l1) - (1 : Int32))).toNatClampNeg))] 84 [vi (0 : Int32)] Q) else (if (17 : Int32) < (gi M 161 ((((((400 : Int32) * ((gi M 97 92) - (1 : Int32))) + (gi M 155 (((gi M 97 92) - (1 : Int32))).toNatClampNeg)) - l1) - (1 : Int32))).toNatClampNeg) then (Zm E YX8_makeNew (d + 1) (si (si M 97 114 ((((((400 : Int32) * ((gi M 97 92) - (1 : Int32))) + (gi M 155 (((gi M 97 92) - (1 : Int32))).toNatClampNeg)) - l1) - (1 : Int32)) + (1 : Int32))) 97 115 l1) [(0, vr (some (97, 1, 0))), (1, vi l1), (2, vi l2), (5, vi (gi M 161 ((((((400 : Int32) * ((gi M 97 92) - (1 : Int32))) + (gi M 155 (((gi M 97 92) - (1 : Int32))).toNatClampNeg)) - l1) - (1 : Int32))).toNatClampNeg))] 84 [vi (0 : Int32)] Q) else (if (gi M 161 ((((((400 : Int32) * ((gi M 97 92) - (1 : Int32))) + (gi M 155 (((gi M 97 92) - (1 : Int32))).toNatClampNeg)) - l1) - (1 : Int32))).toNatClampNeg) = (13 : Int32) then (Zm E YX8_makeNew (d + 1) (si (si M 97 114 ((((((400 : Int32) * ((gi M 97 92) - (1 : Int32))) + (gi M 155 (((gi M 97 92) - (1 : Int32))).toNatClampNeg)) - l1) - (1 : Int32)) + (1 : Int32))) 97 115 l1) [(0, vr (some (97, 1, 0))), (1, vi l1), (2, vi l2), (5, vi (gi M 161 ((((((400 : Int32) * ((gi M 97 92) - (1 : Int32))) + (gi M 155 (((gi M 97 92) - (1 : Int32))).toNatClampNeg)) - l1) - (1 : Int32))).toNatClampNeg))] 84 [vi (0 : Int32)] Q) else (Zm E YX8_makeNew (d + 1) (si (si M 97 114 ((((((400 : Int32) * ((gi M 97 92) - (1 : Int32))) + (gi M 155 (((gi M 97 92) - (1 : Int32))).toNatClampNeg)) - l1) - (1 : Int32)) + (1 : Int32))) 97 115 l1) [(0, vr (some (97, 1, 0))), (1, vi l1), (2, vi l2), (5, vi (gi M 161 ((((((400 : Int32) * ((gi M 97 92) - (1 : Int32))) + (gi M 155 (((gi M 97 92) - (1 : Int32))).toNatClampNeg)) - l1) - (1 : Int32))).toNatClampNeg))] 84 [vi (1 : Int32)] Q))))) else (Zm E YX8_makeNew (d + 1) (si (si M 97 114 ((((((400 : Int32) * ((gi M 97 92) - (1 : Int32))) + (gi M 155 (((gi M 97 92) - (1 : Int32))).toNatClampNeg)) - l1) - (1 : Int32)) + (1 : Int32))) 97 115 l1) [(0, vr (some (97, 1, 0))), (1, vi l1), (2, vi l2), (5, vi (gi M 161 ((((((400 : Int32) * ((gi M 97 92) - (1 : Int32))) + (gi M 155 (((gi M 97 92) - (1 : Int32))).toNatClampNeg)) - l1) - (1 : Int32))).toNatClampNeg))] 84 [vi (0 : Int32)] Q))) else (Zm E YX8_makeNew (d + 1) (si (si M 97 114 ((((((400 : Int32) * ((gi M 97 92) - (1 : Int32))) + (gi M 155 (((gi M 97 92) - (1 : Int32))).toNatClampNeg)) - l1) - (1 : Int32)) + (1 : Int32))) 97 115 l1) [(0, vr (some (97, 1, 0))), (1, vi l1), (2, vi l2), (5, vi (gi M 161 ((((((400 : Int32) * ((gi M 97 92) - (1 : Int32))) + (gi M 155 (((gi M 97 92) - (1 : Int32))).toNatClampNeg)) - l1) - (1 : Int32))).toNatClampNeg))] 84 [vi (0 : Int32)] Q)))) : Zm E YX8_makeNew (d + 1) M [(0, vr (some (97, 1, 0))), (1, vi l1), (2, vi l2)] 0 [] Q := by
  refine sX8_makeNew_0 (d := d) M l1 l2 ?_
  refine sX8_top_0 (d := d) M  ?_
  refine zand k (fun h6070 k => ?_)
  show Zm E YX8_makeNew (d + 1) M [(0, vr (some (97, 1, 0))), (1, vi l1), (2, vi l2)] 4 [vi (((400 : Int32) * ((gi M 97 92) - (1 : Int32))) + (gi M 155 (((gi M 97 92) - (1 : Int32))).toNatClampNeg))] Q
  refine sX8_makeNew_4 (d := d) M l1 l2 (((400 : Int32) * ((gi M 97 92) - (1 : Int32))) + (gi M 155 (((gi M 97 92) - (1 : Int32))).toNatClampNeg)) ?_
  refine zand k (fun h6071 k => ?_)
  refine ⟨h6071, ?_⟩
  refine sX8_isFunction_0 (d := d) (si (si M 97 114 ((((((400 : Int32) * ((gi M 97 92) - (1 : Int32))) + (gi M 155 (((gi M 97 92) - (1 : Int32))).toNatClampNeg)) - l1) - (1 : Int32)) + (1 : Int32))) 97 115 l1) (gi M 160 ((((((400 : Int32) * ((gi M 97 92) - (1 : Int32))) + (gi M 155 (((gi M 97 92) - (1 : Int32))).toNatClampNeg)) - l1) - (1 : Int32))).toNatClampNeg) (gi M 161 ((((((400 : Int32) * ((gi M 97 92) - (1 : Int32))) + (gi M 155 (((gi M 97 92) - (1 : Int32))).toNatClampNeg)) - l1) - (1 : Int32))).toNatClampNeg) ?_
  refine zite k (fun h6072 k => ?_) (fun h6072 k => ?_)
  · refine zand k (fun h6073 k => ?_)
    refine zite k (fun h6074 k => ?_) (fun h6074 k => ?_)
    · show Zm E YX8_makeNew (d + 1) (si (si M 97 114 ((((((400 : Int32) * ((gi M 97 92) - (1 : Int32))) + (gi M 155 (((gi M 97 92) - (1 : Int32))).toNatClampNeg)) - l1) - (1 : Int32)) + (1 : Int32))) 97 115 l1) [(0, vr (some (97, 1, 0))), (1, vi l1), (2, vi l2), (5, vi (gi M 161 ((((((400 : Int32) * ((gi M 97 92) - (1 : Int32))) + (gi M 155 (((gi M 97 92) - (1 : Int32))).toNatClampNeg)) - l1) - (1 : Int32))).toNatClampNeg))] 45 [vi (1 : Int32)] Q
      refine sX8_makeNew_45 (d := d) (si (si M 97 114 ((((((400 : Int32) * ((gi M 97 92) - (1 : Int32))) + (gi M 155 (((gi M 97 92) - (1 : Int32))).toNatClampNeg)) - l1) - (1 : Int32)) + (1 : Int32))) 97 115 l1) l1 l2 (gi M 161 ((((((400 : Int32) * ((gi M 97 92) - (1 : Int32))) + (gi M 155 (((gi M 97 92) - (1 : Int32))).toNatClampNeg)) - l1) - (1 : Int32))).toNatClampNeg) (1 : Int32) ?_
      refine zneg (show ¬ ((1 : Int32) = 0) from by decide) ?_
      refine ⟨h6073, ?_⟩
      exact k
    · show Zm E YX8_makeNew (d + 1) (si (si M 97 114 ((((((400 : Int32) * ((gi M 97 92) - (1 : Int32))) + (gi M 155 (((gi M 97 92) - (1 : Int32))).toNatClampNeg)) - l1) - (1 : Int32)) + (1 : Int32))) 97 115 l1) [(0, vr (some (97, 1, 0))), (1, vi l1), (2, vi l2), (5, vi (gi M 161 ((((((400 : Int32) * ((gi M 97 92) - (1 : Int32))) + (gi M 155 (((gi M 97 92) - (1 : Int32))).toNatClampNeg)) - l1) - (1 : Int32))).toNatClampNeg))] 45 [vi (0 : Int32)] Q
      refine sX8_makeNew_45 (d := d) (si (si M 97 114 ((((((400 : Int32) * ((gi M 97 92) - (1 : Int32))) + (gi M 155 (((gi M 97 92) - (1 : Int32))).toNatClampNeg)) - l1) - (1 : Int32)) + (1 : Int32))) 97 115 l1) l1 l2 (gi M 161 ((((((400 : Int32) * ((gi M 97 92) - (1 : Int32))) + (gi M 155 (((gi M 97 92) - (1 : Int32))).toNatClampNeg)) - l1) - (1 : Int32))).toNatClampNeg) (0 : Int32) ?_
      refine zpos (show (0 : Int32) = 0 from by decide) ?_
      exact k
  · show Zm E YX8_makeNew (d + 1) (si (si M 97 114 ((((((400 : Int32) * ((gi M 97 92) - (1 : Int32))) + (gi M 155 (((gi M 97 92) - (1 : Int32))).toNatClampNeg)) - l1) - (1 : Int32)) + (1 : Int32))) 97 115 l1) [(0, vr (some (97, 1, 0))), (1, vi l1), (2, vi l2), (5, vi (gi M 161 ((((((400 : Int32) * ((gi M 97 92) - (1 : Int32))) + (gi M 155 (((gi M 97 92) - (1 : Int32))).toNatClampNeg)) - l1) - (1 : Int32))).toNatClampNeg))] 45 [vi (0 : Int32)] Q
    refine sX8_makeNew_45 (d := d) (si (si M 97 114 ((((((400 : Int32) * ((gi M 97 92) - (1 : Int32))) + (gi M 155 (((gi M 97 92) - (1 : Int32))).toNatClampNeg)) - l1) - (1 : Int32)) + (1 : Int32))) 97 115 l1) l1 l2 (gi M 161 ((((((400 : Int32) * ((gi M 97 92) - (1 : Int32))) + (gi M 155 (((gi M 97 92) - (1 : Int32))).toNatClampNeg)) - l1) - (1 : Int32))).toNatClampNeg) (0 : Int32) ?_
    refine zpos (show (0 : Int32) = 0 from by decide) ?_
    exact k
theorem iX8_makeNew_127 {E : zE} {d : Nat} {Q : zO → zM → Prop} (M : zM) (l1 : Int32) (l2 : Int32) (l5 : Int32) (s0 : Int32) (k : if (gi M 97 111) = (7 : Int32) then (Zm E YX8_newObject d M (zargs 0 [vr (some (97, 1, 0)), vi (gi M 97 112), vi (((29 : Int32) + ((6 : Int32) * ((gi M 97 32) - (1 : Int32)))) + ((2 : Int32) * l2)), vi (0 : Int32)]) 0 [] (zma E YX8_makeNew (d + 1) [(0, vr (some (97, 1, 0))), (1, vi l1), (5, vi l5)] 153 3 [] Q)) else (Zm E YX8_newObject d M (zargs 0 [vr (some (97, 1, 0)), vi (1 : Int32), vi (((29 : Int32) + ((6 : Int32) * ((gi M 97 32) - (1 : Int32)))) + ((2 : Int32) * l2)), vi (0 : Int32)]) 0 [] (zma E YX8_makeNew (d + 1) [(0, vr (some (97, 1, 0))), (1, vi l1), (5, vi l5)] 153 3 [] Q))) : Zm E YX8_makeNew (d + 1) M [(0, vr (some (97, 1, 0))), (1, vi l1), (2, vi l2), (5, vi l5)] 127 [vi s0] Q := by
  refine sX8_makeNew_127 (d := d) M l1 l2 l5 s0 ?_
  refine zite k (fun h6082 k => ?_) (fun h6082 k => ?_)
  · refine sX8_siteLabel_0 (d := d) M l2 ?_
    show Zm E YX8_makeNew (d + 1) M [(0, vr (some (97, 1, 0))), (1, vi l1), (5, vi l5)] 152 [vi (((29 : Int32) + ((6 : Int32) * ((gi M 97 32) - (1 : Int32)))) + ((2 : Int32) * l2)), vi (gi M 97 112), vr (some (97, 1, 0))] Q
    refine sX8_makeNew_152 (d := d) M l1 l5 (((29 : Int32) + ((6 : Int32) * ((gi M 97 32) - (1 : Int32)))) + ((2 : Int32) * l2)) (gi M 97 112) ?_
    exact k
  · refine sX8_siteLabel_0 (d := d) M l2 ?_
    show Zm E YX8_makeNew (d + 1) M [(0, vr (some (97, 1, 0))), (1, vi l1), (5, vi l5)] 152 [vi (((29 : Int32) + ((6 : Int32) * ((gi M 97 32) - (1 : Int32)))) + ((2 : Int32) * l2)), vi (1 : Int32), vr (some (97, 1, 0))] Q
    refine sX8_makeNew_152 (d := d) M l1 l5 (((29 : Int32) + ((6 : Int32) * ((gi M 97 32) - (1 : Int32)))) + ((2 : Int32) * l2)) (1 : Int32) ?_
    exact k
theorem iX8_makeNew_156 {E : zE} {d : Nat} {Q : zO → zM → Prop} (M : zM) (l1 : Int32) (l5 : Int32) (s0 : Int32) (k : if (gi M 97 75) = 0 then (Zm E YX8_callOf d M (zargs 0 [vr (some (97, 1, 0)), vi (7 : Int32), vi l5, vi (7 : Int32), vi s0, vi (l1 + (1 : Int32)), vi s0]) 0 [] (zma E YX8_makeNew (d + 1) [] 179 3 [] Q)) else (Q (.inl none) M)) : Zm E YX8_makeNew (d + 1) M [(0, vr (some (97, 1, 0))), (1, vi l1), (5, vi l5)] 156 [vi s0] Q := by
  refine sX8_makeNew_156 (d := d) M l1 l5 s0 ?_
  refine zite k (fun h6083 k => ?_) (fun h6083 k => ?_)
  · exact k
  · refine sX8_makeNew_182 (d := d) M  ?_
    exact k
theorem iX8_nativeOf_12 {E : zE} {d : Nat} {Q : zO → zM → Prop} (M : zM) (l1 : Int32) (l2 : Int32) (l3 : Int32) (l4 : Int32) (l5 : Int32) (s0 : Int32) (k : if l1 = 9 then (Zm E YX8_textOf d M (zargs 0 [vr (some (97, 1, 0)), vi l5, vi s0]) 0 [] (zma E YX8_nativeOf (d + 1) [(0, vr (some (97, 1, 0))), (4, vi l4)] 89 3 [] Q)) else (if l1 = 10 then (Zm E YX8_newObject d M (zargs 0 [vr (some (97, 1, 0)), vi (1 : Int32), vi (23 : Int32), vi (0 : Int32)]) 0 [] (zma E YX8_nativeOf (d + 1) [(0, vr (some (97, 1, 0))), (4, vi l4)] 148 3 [vi (7 : Int32), vr (some (97, 1, 0))] Q)) else (if l1 = 11 then (Zm E YX8_newArray d M (zargs 0 [vr (some (97, 1, 0)), vi (24 : Int32)]) 0 [] (zma E YX8_nativeOf (d + 1) [(0, vr (some (97, 1, 0))), (4, vi l4)] 163 3 [vi (7 : Int32), vr (some (97, 1, 0))] Q)) else (if l1 = 12 then (if (gi M 97 115) = 0 then (Zm E YX8_gives d (si (si M 97 111 (6 : Int32)) 97 112 (30 : Int32)) (zargs 0 [vr (some (97, 1, 0)), vi l4]) 0 [] (zma E YX8_nativeOf (d + 1) [] 313 3 [] Q)) else (Zm E YX8_textOf d M (zargs 0 [vr (some (97, 1, 0)), vi l5, vi s0]) 0 [] (zma E YX8_nativeOf (d + 1) [(0, vr (some (97, 1, 0))), (4, vi l4)] 192 3 [vi (6 : Int32), vr (some (97, 1, 0))] Q))) else (if l1 = 13 then (Zm E YX8_numberOf d M (zargs 0 [vr (some (97, 1, 0)), vi l5, vi s0]) 0 [] (zma E YX8_nativeOf (d + 1) [(0, vr (some (97, 1, 0))), (4, vi l4)] 206 3 [] Q)) else (if l1 = 14 then (Zm E YX8_newObject d M (zargs 0 [vr (some (97, 1, 0)), vi (l1 - (9 : Int32)), vi (l1 + (11 : Int32)), vi (0 : Int32)]) 0 [] (zma E YX8_nativeOf (d + 1) [(0, vr (some (97, 1, 0))), (4, vi l4), (5, vi l5), (6, vi s0)] 255 3 [] Q)) else (if l1 = 15 then (Zm E YX8_newObject d M (zargs 0 [vr (some (97, 1, 0)), vi (l1 - (9 : Int32)), vi (l1 + (11 : Int32)), vi (0 : Int32)]) 0 [] (zma E YX8_nativeOf (d + 1) [(0, vr (some (97, 1, 0))), (4, vi l4), (5, vi l5), (6, vi s0)] 255 3 [] Q)) else (if l1 = 16 then (Zm E YX8_newObject d M (zargs 0 [vr (some (97, 1, 0)), vi (l1 - (9 : Int32)), vi (l1 + (11 : Int32)), vi (0 : Int32)]) 0 [] (zma E YX8_nativeOf (d + 1) [(0, vr (some (97, 1, 0))), (4, vi l4), (5, vi l5), (6, vi s0)] 255 3 [] Q)) else (if l1 = 17 then (Zm E YX8_newObject d M (zargs 0 [vr (some (97, 1, 0)), vi (l1 - (9 : Int32)), vi (l1 + (11 : Int32)), vi (0 : Int32)]) 0 [] (zma E YX8_nativeOf (d + 1) [(0, vr (some (97, 1, 0))), (4, vi l4), (5, vi l5), (6, vi s0)] 255 3 [] Q)) else (if l1 = 18 then (Zm E YX8_nativeWith d M (zargs 0 [vr (some (97, 1, 0)), vi l1, vi l2, vi l3, vi l5, vi s0]) 0 [] (zma E YX8_nativeOf (d + 1) [(0, vr (some (97, 1, 0))), (4, vi l4)] 238 3 [] Q)) else (if l1 = 19 then (Zm E YX8_nativeWith d M (zargs 0 [vr (some (97, 1, 0)), vi l1, vi l2, vi l3, vi l5, vi s0]) 0 [] (zma E YX8_nativeOf (d + 1) [(0, vr (some (97, 1, 0))), (4, vi l4)] 238 3 [] Q)) else (if l1 = 20 then (Zm E YX8_newObject d M (zargs 0 [vr (some (97, 1, 0)), vi (l1 - (9 : Int32)), vi (l1 + (11 : Int32)), vi (0 : Int32)]) 0 [] (zma E YX8_nativeOf (d + 1) [(0, vr (some (97, 1, 0))), (4, vi l4), (5, vi l5), (6, vi s0)] 255 3 [] Q)) else (if l1 = 21 then (Zm E YX8_nativeWith d M (zargs 0 [vr (some (97, 1, 0)), vi l1, vi l2, vi l3, vi l5, vi s0]) 0 [] (zma E YX8_nativeOf (d + 1) [(0, vr (some (97, 1, 0))), (4, vi l4)] 238 3 [] Q)) else (if l1 = 22 then (Zm E YX8_nativeWith d M (zargs 0 [vr (some (97, 1, 0)), vi l1, vi l2, vi l3, vi l5, vi s0]) 0 [] (zma E YX8_nativeOf (d + 1) [(0, vr (some (97, 1, 0))), (4, vi l4)] 238 3 [] Q)) else (Zm E YX8_newObject d M (zargs 0 [vr (some (97, 1, 0)), vi (l1 - (9 : Int32)), vi (l1 + (11 : Int32)), vi (0 : Int32)]) 0 [] (zma E YX8_nativeOf (d + 1) [(0, vr (some (97, 1, 0))), (4, vi l4), (5, vi l5), (6, vi s0)] 255 3 [] Q)))))))))))))))) : Zm E YX8_nativeOf (d + 1) M [(0, vr (some (97, 1, 0))), (1, vi l1), (2, vi l2), (3, vi l3), (4, vi l4), (5, vi l5)] 12 [vi s0] Q := by
  refine sX8_nativeOf_12 (d := d) M l1 l2 l3 l4 l5 s0 ?_
  refine zite k (fun h6215 k => ?_) (fun h6215 k => ?_)
  · exact k
  · refine zite k (fun h6216 k => ?_) (fun h6216 k => ?_)
    · exact k
    · refine zite k (fun h6217 k => ?_) (fun h6217 k => ?_)
      · exact k
      · refine zite k (fun h6218 k => ?_) (fun h6218 k => ?_)
        · refine zite k (fun h6219 k => ?_) (fun h6219 k => ?_)
          · refine sX8_nativeOf_195 (d := d) M l4 (30 : Int32) (6 : Int32) ?_
            refine sX8_give_2_0 (d := d) M (6 : Int32) (30 : Int32) ?_
            show Zm E YX8_nativeOf (d + 1) (si (si M 97 111 (6 : Int32)) 97 112 (30 : Int32)) [(0, vr (some (97, 1, 0))), (4, vi l4)] 198 [] Q
            refine sX8_nativeOf_198 (d := d) (si (si M 97 111 (6 : Int32)) 97 112 (30 : Int32)) l4 ?_
            refine sX8_nativeOf_310 (d := d) (si (si M 97 111 (6 : Int32)) 97 112 (30 : Int32)) l4 ?_
            exact k
          · exact k
        · exact k
theorem iX8_nativeOf_92 {E : zE} {d : Nat} {Q : zO → zM → Prop} (M : zM) (l4 : Int32) (s0 : Int32) (k : if (gi M 97 75) = 0 then (if (100 : Int32) ≤ (gi M 97 107) then (Zm E YX8_gives d (si (si M 97 111 (0 : Int32)) 97 112 (0 : Int32)) (zargs 0 [vr (some (97, 1, 0)), vi l4]) 0 [] (zma E YX8_nativeOf (d + 1) [] 313 3 [] Q)) else (vp_in (gi M 97 107) 100 ∧ (Zm E YX8_gives d (si (si (si (si M 164 ((gi M 97 107)).toNatClampNeg s0) 97 107 ((gi M 97 107) + (1 : Int32))) 97 111 (0 : Int32)) 97 112 (0 : Int32)) (zargs 0 [vr (some (97, 1, 0)), vi l4]) 0 [] (zma E YX8_nativeOf (d + 1) [] 313 3 [] Q)))) else (Zm E YX8_gives d (si (si M 97 111 (0 : Int32)) 97 112 (0 : Int32)) (zargs 0 [vr (some (97, 1, 0)), vi l4]) 0 [] (zma E YX8_nativeOf (d + 1) [] 313 3 [] Q))) : Zm E YX8_nativeOf (d + 1) M [(0, vr (some (97, 1, 0))), (4, vi l4)] 92 [vi s0] Q := by
  refine sX8_nativeOf_92 (d := d) M l4 s0 ?_
  refine zite k (fun h6230 k => ?_) (fun h6230 k => ?_)
  · refine zite k (fun h6231 k => ?_) (fun h6231 k => ?_)
    · refine sX8_give_2_0 (d := d) M (0 : Int32) (0 : Int32) ?_
      show Zm E YX8_nativeOf (d + 1) (si (si M 97 111 (0 : Int32)) 97 112 (0 : Int32)) [(0, vr (some (97, 1, 0))), (4, vi l4)] 137 [] Q
      refine sX8_nativeOf_137 (d := d) (si (si M 97 111 (0 : Int32)) 97 112 (0 : Int32)) l4 ?_
      refine sX8_nativeOf_310 (d := d) (si (si M 97 111 (0 : Int32)) 97 112 (0 : Int32)) l4 ?_
      exact k
    · refine zand k (fun h6232 k => ?_)
      refine sX8_give_2_0 (d := d) (si (si M 164 ((gi M 97 107)).toNatClampNeg s0) 97 107 ((gi M 97 107) + (1 : Int32))) (0 : Int32) (0 : Int32) ?_
      show Zm E YX8_nativeOf (d + 1) (si (si (si (si M 164 ((gi M 97 107)).toNatClampNeg s0) 97 107 ((gi M 97 107) + (1 : Int32))) 97 111 (0 : Int32)) 97 112 (0 : Int32)) [(0, vr (some (97, 1, 0))), (4, vi l4)] 137 [] Q
      refine sX8_nativeOf_137 (d := d) (si (si (si (si M 164 ((gi M 97 107)).toNatClampNeg s0) 97 107 ((gi M 97 107) + (1 : Int32))) 97 111 (0 : Int32)) 97 112 (0 : Int32)) l4 ?_
      refine sX8_nativeOf_310 (d := d) (si (si (si (si M 164 ((gi M 97 107)).toNatClampNeg s0) 97 107 ((gi M 97 107) + (1 : Int32))) 97 111 (0 : Int32)) 97 112 (0 : Int32)) l4 ?_
      exact k
  · refine sX8_give_2_0 (d := d) M (0 : Int32) (0 : Int32) ?_
    show Zm E YX8_nativeOf (d + 1) (si (si M 97 111 (0 : Int32)) 97 112 (0 : Int32)) [(0, vr (some (97, 1, 0))), (4, vi l4)] 137 [] Q
    refine sX8_nativeOf_137 (d := d) (si (si M 97 111 (0 : Int32)) 97 112 (0 : Int32)) l4 ?_
    refine sX8_nativeOf_310 (d := d) (si (si M 97 111 (0 : Int32)) 97 112 (0 : Int32)) l4 ?_
    exact k
theorem iX8_nativeOf_151 {E : zE} {d : Nat} {Q : zO → zM → Prop} (M : zM) (l4 : Int32) (s0 : Int32) (s1 : Int32) (k : Zm E YX8_gives d (si (si M 97 111 s1) 97 112 s0) (zargs 0 [vr (some (97, 1, 0)), vi l4]) 0 [] (zma E YX8_nativeOf (d + 1) [] 313 3 [] Q)) : Zm E YX8_nativeOf (d + 1) M [(0, vr (some (97, 1, 0))), (4, vi l4)] 151 [vi s0, vi s1, vr (some (97, 1, 0))] Q := by
  refine sX8_nativeOf_151 (d := d) M l4 s0 s1 ?_
  refine sX8_give_2_0 (d := d) M s1 s0 ?_
  show Zm E YX8_nativeOf (d + 1) (si (si M 97 111 s1) 97 112 s0) [(0, vr (some (97, 1, 0))), (4, vi l4)] 154 [] Q
  refine sX8_nativeOf_154 (d := d) (si (si M 97 111 s1) 97 112 s0) l4 ?_
  refine sX8_nativeOf_310 (d := d) (si (si M 97 111 s1) 97 112 s0) l4 ?_
  exact k
theorem iX8_nativeOf_166 {E : zE} {d : Nat} {Q : zO → zM → Prop} (M : zM) (l4 : Int32) (s0 : Int32) (s1 : Int32) (k : Zm E YX8_gives d (si (si M 97 111 s1) 97 112 s0) (zargs 0 [vr (some (97, 1, 0)), vi l4]) 0 [] (zma E YX8_nativeOf (d + 1) [] 313 3 [] Q)) : Zm E YX8_nativeOf (d + 1) M [(0, vr (some (97, 1, 0))), (4, vi l4)] 166 [vi s0, vi s1, vr (some (97, 1, 0))] Q := by
  refine sX8_nativeOf_166 (d := d) M l4 s0 s1 ?_
  refine sX8_give_2_0 (d := d) M s1 s0 ?_
  show Zm E YX8_nativeOf (d + 1) (si (si M 97 111 s1) 97 112 s0) [(0, vr (some (97, 1, 0))), (4, vi l4)] 169 [] Q
  refine sX8_nativeOf_169 (d := d) (si (si M 97 111 s1) 97 112 s0) l4 ?_
  refine sX8_nativeOf_310 (d := d) (si (si M 97 111 s1) 97 112 s0) l4 ?_
  exact k
theorem iX8_nativeOf_195 {E : zE} {d : Nat} {Q : zO → zM → Prop} (M : zM) (l4 : Int32) (s0 : Int32) (s1 : Int32) (k : Zm E YX8_gives d (si (si M 97 111 s1) 97 112 s0) (zargs 0 [vr (some (97, 1, 0)), vi l4]) 0 [] (zma E YX8_nativeOf (d + 1) [] 313 3 [] Q)) : Zm E YX8_nativeOf (d + 1) M [(0, vr (some (97, 1, 0))), (4, vi l4)] 195 [vi s0, vi s1, vr (some (97, 1, 0))] Q := by
  refine sX8_nativeOf_195 (d := d) M l4 s0 s1 ?_
  refine sX8_give_2_0 (d := d) M s1 s0 ?_
  show Zm E YX8_nativeOf (d + 1) (si (si M 97 111 s1) 97 112 s0) [(0, vr (some (97, 1, 0))), (4, vi l4)] 198 [] Q
  refine sX8_nativeOf_198 (d := d) (si (si M 97 111 s1) 97 112 s0) l4 ?_
  refine sX8_nativeOf_310 (d := d) (si (si M 97 111 s1) 97 112 s0) l4 ?_
  exact k
theorem iX8_nativeOf_209 {E : zE} {d : Nat} {Q : zO → zM → Prop} (M : zM) (l4 : Int32) (s0 : Int32) (k : if (gi M 97 113) = 0 then (Zm E YX8_gives (d + 1) (si (si M 97 111 (2 : Int32)) 97 112 (0 : Int32)) (zargs 0 [vr (some (97, 1, 0)), vi l4]) 0 [] (zma E YX8_nativeOf ((d + 1) + 1) [] 313 3 [] Q)) else (Zm E YX8_gives (d + 1) (si (si M 97 111 (3 : Int32)) 97 112 (0 : Int32)) (zargs 0 [vr (some (97, 1, 0)), vi l4]) 0 [] (zma E YX8_nativeOf ((d + 1) + 1) [] 313 3 [] Q))) : Zm E YX8_nativeOf (d + 2) M [(0, vr (some (97, 1, 0))), (4, vi l4)] 209 [vi s0] Q := by
  refine sX8_nativeOf_209 (d := (d + 1)) M l4 s0 ?_
  refine zite k (fun h6234 k => ?_) (fun h6234 k => ?_)
  · refine jX8_truth (d := d) M (1 : Int32) ?_
    refine zneg (show ¬ ((1 : Int32) = 0) from by decide) ?_
    show Zm E YX8_nativeOf ((d + 1) + 1) (si (si M 97 111 (2 : Int32)) 97 112 (0 : Int32)) [(0, vr (some (97, 1, 0))), (4, vi l4)] 227 [] Q
    refine sX8_nativeOf_227 (d := (d + 1)) (si (si M 97 111 (2 : Int32)) 97 112 (0 : Int32)) l4 ?_
    refine sX8_nativeOf_310 (d := (d + 1)) (si (si M 97 111 (2 : Int32)) 97 112 (0 : Int32)) l4 ?_
    exact k
  · refine jX8_truth (d := d) M (0 : Int32) ?_
    refine zpos (show (0 : Int32) = 0 from by decide) ?_
    show Zm E YX8_nativeOf ((d + 1) + 1) (si (si M 97 111 (3 : Int32)) 97 112 (0 : Int32)) [(0, vr (some (97, 1, 0))), (4, vi l4)] 227 [] Q
    refine sX8_nativeOf_227 (d := (d + 1)) (si (si M 97 111 (3 : Int32)) 97 112 (0 : Int32)) l4 ?_
    refine sX8_nativeOf_310 (d := (d + 1)) (si (si M 97 111 (3 : Int32)) 97 112 (0 : Int32)) l4 ?_
    exact k
theorem iX8_nativeOf_258 {E : zE} {d : Nat} {Q : zO → zM → Prop} (M : zM) (l4 : Int32) (l5 : Int32) (l6 : Int32) (s0 : Int32) (k : if (gi M 97 75) = 0 then (if (gi M 97 115) ≤ 0 then (Zm E YX8_gives d (si (si M 97 111 (7 : Int32)) 97 112 s0) (zargs 0 [vr (some (97, 1, 0)), vi l4]) 0 [] (zma E YX8_nativeOf (d + 1) [] 313 3 [] Q)) else (Zm E YX8_textOf d M (zargs 0 [vr (some (97, 1, 0)), vi l5, vi l6]) 0 [] (zma E YX8_nativeOf (d + 1) [(0, vr (some (97, 1, 0))), (4, vi l4), (7, vi s0)] 279 3 [] Q))) else (Zm E YX8_gives d (si (si M 97 111 (7 : Int32)) 97 112 s0) (zargs 0 [vr (some (97, 1, 0)), vi l4]) 0 [] (zma E YX8_nativeOf (d + 1) [] 313 3 [] Q))) : Zm E YX8_nativeOf (d + 1) M [(0, vr (some (97, 1, 0))), (4, vi l4), (5, vi l5), (6, vi l6)] 258 [vi s0] Q := by
  refine sX8_nativeOf_258 (d := d) M l4 l5 l6 s0 ?_
  refine zite k (fun h6235 k => ?_) (fun h6235 k => ?_)
  · refine zite k (fun h6236 k => ?_) (fun h6236 k => ?_)
    · refine sX8_nativeOf_302 (d := d) M l4 s0 ?_
      refine sX8_give_2_0 (d := d) M (7 : Int32) s0 ?_
      show Zm E YX8_nativeOf (d + 1) (si (si M 97 111 (7 : Int32)) 97 112 s0) [(0, vr (some (97, 1, 0))), (4, vi l4)] 310 [] Q
      refine sX8_nativeOf_310 (d := d) (si (si M 97 111 (7 : Int32)) 97 112 s0) l4 ?_
      exact k
    · exact k
  · refine sX8_nativeOf_302 (d := d) M l4 s0 ?_
    refine sX8_give_2_0 (d := d) M (7 : Int32) s0 ?_
    show Zm E YX8_nativeOf (d + 1) (si (si M 97 111 (7 : Int32)) 97 112 s0) [(0, vr (some (97, 1, 0))), (4, vi l4)] 310 [] Q
    refine sX8_nativeOf_310 (d := d) (si (si M 97 111 (7 : Int32)) 97 112 s0) l4 ?_
    exact k
theorem iX8_nativeOf_241 {E : zE} {d : Nat} {Q : zO → zM → Prop} (M : zM) (l4 : Int32) (s0 : Int32) (k : if s0 = 0 then (Q (.inl none) M) else (Zm E YX8_gives d M (zargs 0 [vr (some (97, 1, 0)), vi l4]) 0 [] (zma E YX8_nativeOf (d + 1) [] 313 3 [] Q))) : Zm E YX8_nativeOf (d + 1) M [(0, vr (some (97, 1, 0))), (4, vi l4)] 241 [vi s0] Q := by
  refine sX8_nativeOf_241 (d := d) M l4 s0 ?_
  refine zite k (fun h6237 k => ?_) (fun h6237 k => ?_)
  · exact k
  · refine sX8_nativeOf_310 (d := d) M l4 ?_
    exact k
theorem iX8_nativeOf_282 {E : zE} {d : Nat} {Q : zO → zM → Prop} (M : zM) (l4 : Int32) (l7 : Int32) (s0 : Int32) (k : if (gi M 97 75) = 0 then (Zm E YX8_set_2 d M (zargs 0 [vr (some (97, 1, 0)), vi l7, vi (3 : Int32), vi (6 : Int32), vi s0]) 0 [] (zma E YX8_nativeOf (d + 1) [(0, vr (some (97, 1, 0))), (4, vi l4), (7, vi l7)] 299 3 [] Q)) else (Zm E YX8_gives d (si (si M 97 111 (7 : Int32)) 97 112 l7) (zargs 0 [vr (some (97, 1, 0)), vi l4]) 0 [] (zma E YX8_nativeOf (d + 1) [] 313 3 [] Q))) : Zm E YX8_nativeOf (d + 1) M [(0, vr (some (97, 1, 0))), (4, vi l4), (7, vi l7)] 282 [vi s0] Q := by
  refine sX8_nativeOf_282 (d := d) M l4 l7 s0 ?_
  refine zite k (fun h6238 k => ?_) (fun h6238 k => ?_)
  · exact k
  · refine sX8_nativeOf_302 (d := d) M l4 l7 ?_
    refine sX8_give_2_0 (d := d) M (7 : Int32) l7 ?_
    show Zm E YX8_nativeOf (d + 1) (si (si M 97 111 (7 : Int32)) 97 112 l7) [(0, vr (some (97, 1, 0))), (4, vi l4)] 310 [] Q
    refine sX8_nativeOf_310 (d := d) (si (si M 97 111 (7 : Int32)) 97 112 l7) l4 ?_
    exact k
theorem iX8_nativeOf_302 {E : zE} {d : Nat} {Q : zO → zM → Prop} (M : zM) (l4 : Int32) (l7 : Int32) (k : Zm E YX8_gives d (si (si M 97 111 (7 : Int32)) 97 112 l7) (zargs 0 [vr (some (97, 1, 0)), vi l4]) 0 [] (zma E YX8_nativeOf (d + 1) [] 313 3 [] Q)) : Zm E YX8_nativeOf (d + 1) M [(0, vr (some (97, 1, 0))), (4, vi l4), (7, vi l7)] 302 [] Q := by
  refine sX8_nativeOf_302 (d := d) M l4 l7 ?_
  refine sX8_give_2_0 (d := d) M (7 : Int32) l7 ?_
  show Zm E YX8_nativeOf (d + 1) (si (si M 97 111 (7 : Int32)) 97 112 l7) [(0, vr (some (97, 1, 0))), (4, vi l4)] 310 [] Q
  refine sX8_nativeOf_310 (d := d) (si (si M 97 111 (7 : Int32)) 97 112 l7) l4 ?_
  exact k
theorem iX8_nativeWith_77 {E : zE} {d : Nat} {Q : zO → zM → Prop} (M : zM)  (k : Q (.inl (some (vi (1 : Int32)))) M) : Zm E YX8_nativeWith (d + 1) M [] 77 [] Q := by
  refine sX8_nativeWith_77 (d := d) M  ?_
  refine sX8_nativeWith_121 (d := d) M  ?_
  exact k
theorem iX8_nativeWith_91 {E : zE} {d : Nat} {Q : zO → zM → Prop} (M : zM)  (k : Q (.inl (some (vi (1 : Int32)))) M) : Zm E YX8_nativeWith (d + 1) M [] 91 [] Q := by
  refine sX8_nativeWith_91 (d := d) M  ?_
  refine sX8_nativeWith_121 (d := d) M  ?_
  exact k
theorem iX8_nativeWith_109 {E : zE} {d : Nat} {Q : zO → zM → Prop} (M : zM)  (k : Q (.inl (some (vi (1 : Int32)))) M) : Zm E YX8_nativeWith (d + 1) M [] 109 [] Q := by
  refine sX8_nativeWith_109 (d := d) M  ?_
  refine sX8_nativeWith_121 (d := d) M  ?_
  exact k
theorem iX8_numberOfString_59 {E : zE} {d : Nat} {Q : zO → zM → Prop} (M : zM) (l1 : Int32) (l2 : Int32) (l3 : Int32) (l4 : Int32) (l5 : Int64) (l7 : Int32) (k : if l2 ≤ l7 then (if l3 = (1 : Int32) then (Zm E YX8_numberOfString (d + 1) M [(0, vr (some (97, 1, 0))), (2, vi l2), (4, vi l4)] 132 [vl (-l5)] Q) else (Zm E YX8_numberOfString (d + 1) M [(0, vr (some (97, 1, 0))), (2, vi l2), (4, vi l4)] 132 [vl l5] Q)) else (if l4 = 0 then (if l3 = (1 : Int32) then (Zm E YX8_numberOfString (d + 1) M [(0, vr (some (97, 1, 0))), (2, vi l2), (4, vi l4)] 132 [vl (-l5)] Q) else (Zm E YX8_numberOfString (d + 1) M [(0, vr (some (97, 1, 0))), (2, vi l2), (4, vi l4)] 132 [vl l5] Q)) else (vp_in (((60 : Int32) * l1) + l7) 24000 ∧ (if (gi M 100 ((((60 : Int32) * l1) + l7)).toNatClampNeg) < (48 : Int32) then (Zm E YX8_numberOfString (d + 1) M [(0, vr (some (97, 1, 0))), (1, vi l1), (2, vi l2), (3, vi l3), (4, vi (0 : Int32)), (5, vl ((((10 : Int64) * l5) + ((gi M 100 ((((60 : Int32) * l1) + l7)).toNatClampNeg)).toInt64) - (48 : Int64))), (7, vi (l7 + (1 : Int32)))] 59 [] Q) else (if (57 : Int32) < (gi M 100 ((((60 : Int32) * l1) + l7)).toNatClampNeg) then (Zm E YX8_numberOfString (d + 1) M [(0, vr (some (97, 1, 0))), (1, vi l1), (2, vi l2), (3, vi l3), (4, vi (0 : Int32)), (5, vl ((((10 : Int64) * l5) + ((gi M 100 ((((60 : Int32) * l1) + l7)).toNatClampNeg)).toInt64) - (48 : Int64))), (7, vi (l7 + (1 : Int32)))] 59 [] Q) else (Zm E YX8_numberOfString (d + 1) M [(0, vr (some (97, 1, 0))), (1, vi l1), (2, vi l2), (3, vi l3), (4, vi (1 : Int32)), (5, vl ((((10 : Int64) * l5) + ((gi M 100 ((((60 : Int32) * l1) + l7)).toNatClampNeg)).toInt64) - (48 : Int64))), (7, vi (l7 + (1 : Int32)))] 59 [] Q)))))) : Zm E YX8_numberOfString (d + 1) M [(0, vr (some (97, 1, 0))), (1, vi l1), (2, vi l2), (3, vi l3), (4, vi l4), (5, vl l5), (7, vi l7)] 59 [] Q := by
  refine sX8_numberOfString_59 (d := d) M l1 l2 l3 l4 l5 l7 ?_
  refine zite k (fun h6262 k => ?_) (fun h6262 k => ?_)
  · exact k
  · refine zite k (fun h6264 k => ?_) (fun h6264 k => ?_)
    · exact k
    · refine zand k (fun h6266 k => ?_)
      refine sX8_isDigit_0 (d := d) M (gi M 100 ((((60 : Int32) * l1) + l7)).toNatClampNeg) ?_
      refine zite k (fun h6267 k => ?_) (fun h6267 k => ?_)
      · show Zm E YX8_numberOfString (d + 1) M [(0, vr (some (97, 1, 0))), (1, vi l1), (2, vi l2), (3, vi l3), (5, vl l5), (7, vi l7)] 85 [vi (0 : Int32)] Q
        refine sX8_numberOfString_85 (d := d) M l1 l2 l3 l5 l7 (0 : Int32) ?_
        refine ⟨h6266, ?_⟩
        exact k
      · refine zite k (fun h6268 k => ?_) (fun h6268 k => ?_)
        · show Zm E YX8_numberOfString (d + 1) M [(0, vr (some (97, 1, 0))), (1, vi l1), (2, vi l2), (3, vi l3), (5, vl l5), (7, vi l7)] 85 [vi (0 : Int32)] Q
          refine sX8_numberOfString_85 (d := d) M l1 l2 l3 l5 l7 (0 : Int32) ?_
          refine ⟨h6266, ?_⟩
          exact k
        · show Zm E YX8_numberOfString (d + 1) M [(0, vr (some (97, 1, 0))), (1, vi l1), (2, vi l2), (3, vi l3), (5, vl l5), (7, vi l7)] 85 [vi (1 : Int32)] Q
          refine sX8_numberOfString_85 (d := d) M l1 l2 l3 l5 l7 (1 : Int32) ?_
          refine ⟨h6266, ?_⟩
          exact k
theorem iX8_numberOfString_132 {E : zE} {d : Nat} {Q : zO → zM → Prop} (M : zM) (l2 : Int32) (l4 : Int32) (s0 : Int64) (k : if l2 = 0 then (zfit .boolean (1 : Int32) ∧ (Q (.inl (some (vi (s0).toInt32))) (si M 97 113 (1 : Int32)))) else (if l4 = 0 then (zfit .boolean (0 : Int32) ∧ (Q (.inl (some (vi (0 : Int32)))) (si M 97 113 (0 : Int32)))) else (if (lg_cmp s0 ((s0).toInt32).toInt64) = 0 then (zfit .boolean (1 : Int32) ∧ (Q (.inl (some (vi (s0).toInt32))) (si M 97 113 (1 : Int32)))) else (zfit .boolean (0 : Int32) ∧ (Q (.inl (some (vi (0 : Int32)))) (si M 97 113 (0 : Int32))))))) : Zm E YX8_numberOfString (d + 1) M [(0, vr (some (97, 1, 0))), (2, vi l2), (4, vi l4)] 132 [vl s0] Q := by
  refine sX8_numberOfString_132 (d := d) M l2 l4 s0 ?_
  refine zite k (fun h6269 k => ?_) (fun h6269 k => ?_)
  · refine sX8_numberOfString_159 (d := d) M s0 (1 : Int32) ?_
    refine zand k (fun h6270 k => ?_)
    refine zneg (show ¬ ((1 : Int32) = 0) from by decide) ?_
    exact k
  · refine zite k (fun h6271 k => ?_) (fun h6271 k => ?_)
    · refine sX8_numberOfString_159 (d := d) M s0 (0 : Int32) ?_
      refine zand k (fun h6272 k => ?_)
      refine zpos (show (0 : Int32) = 0 from by decide) ?_
      exact k
    · refine zite k (fun h6273 k => ?_) (fun h6273 k => ?_)
      · refine sX8_numberOfString_159 (d := d) M s0 (1 : Int32) ?_
        refine zand k (fun h6274 k => ?_)
        refine zneg (show ¬ ((1 : Int32) = 0) from by decide) ?_
        exact k
      · refine sX8_numberOfString_159 (d := d) M s0 (0 : Int32) ?_
        refine zand k (fun h6275 k => ?_)
        refine zpos (show (0 : Int32) = 0 from by decide) ?_
        exact k
theorem iX8_orderOf_53 {E : zE} {d : Nat} {Q : zO → zM → Prop} (M : zM) (l1 : Int32) (l2 : Int32) (l3 : Int32) (k : vp_in l1 400 ∧ (if l3 = (gi M 101 (l1).toNatClampNeg) then (vp_in l2 400 ∧ (Q (.inl (some (vi ((gi M 101 (l1).toNatClampNeg) - (gi M 101 (l2).toNatClampNeg))))) M)) else (vp_in l2 400 ∧ (if l3 = (gi M 101 (l2).toNatClampNeg) then (Q (.inl (some (vi ((gi M 101 (l1).toNatClampNeg) - (gi M 101 (l2).toNatClampNeg))))) M) else (vp_in (((60 : Int32) * l1) + l3) 24000 ∧ (vp_in (((60 : Int32) * l2) + l3) 24000 ∧ (Q (.inl (some (vi ((gi M 100 ((((60 : Int32) * l1) + l3)).toNatClampNeg) - (gi M 100 ((((60 : Int32) * l2) + l3)).toNatClampNeg))))) M))))))) : Zm E YX8_orderOf d M [(0, vr (some (97, 1, 0))), (1, vi l1), (2, vi l2), (3, vi l3)] 53 [] Q := by
  refine sX8_orderOf_53 (d := d) M l1 l2 l3 ?_
  refine zand k (fun h6283 k => ?_)
  refine zite k (fun h6284 k => ?_) (fun h6284 k => ?_)
  · refine sX8_orderOf_73 (d := d) M l1 l2 ?_
    refine ⟨h6283, ?_⟩
    exact k
  · refine zand k (fun h6286 k => ?_)
    refine zite k (fun h6287 k => ?_) (fun h6287 k => ?_)
    · refine sX8_orderOf_73 (d := d) M l1 l2 ?_
      refine ⟨h6283, ?_⟩
      refine ⟨h6286, ?_⟩
      exact k
    · exact k
theorem iX8_pop_5 {E : zE} {d : Nat} {Q : zO → zM → Prop} (M : zM) (l1 : Int32) (s0 : Int32) (k : if s0 = 0 then (Q (.inl none) (si (si M 97 111 (0 : Int32)) 97 112 (0 : Int32))) else (Zm E YX8_textOf d (si (si M 97 111 (0 : Int32)) 97 112 (0 : Int32)) (zargs 0 [vr (some (97, 1, 0)), vi (5 : Int32), vi (s0 - (1 : Int32))]) 0 [] (zma E YX8_pop (d + 1) [(0, vr (some (97, 1, 0))), (1, vi l1), (2, vi s0)] 22 3 [] Q))) : Zm E YX8_pop (d + 1) M [(0, vr (some (97, 1, 0))), (1, vi l1)] 5 [vi s0] Q := by
  refine sX8_pop_5 (d := d) M l1 s0 ?_
  refine sX8_give_2_0 (d := d) M (0 : Int32) (0 : Int32) ?_
  show Zm E YX8_pop (d + 1) (si (si M 97 111 (0 : Int32)) 97 112 (0 : Int32)) [(0, vr (some (97, 1, 0))), (1, vi l1), (2, vi s0)] 12 [] Q
  refine sX8_pop_12 (d := d) (si (si M 97 111 (0 : Int32)) 97 112 (0 : Int32)) l1 s0 ?_
  exact k
theorem iX8_pop_40 {E : zE} {d : Nat} {Q : zO → zM → Prop} (M : zM) (l1 : Int32) (l2 : Int32) (l3 : Int32) (s0 : Int32) (k : if s0 = (-1 : Int32) then (Zm E YX8_remove d M (zargs 0 [vr (some (97, 1, 0)), vi l1, vi l3]) 0 [] (zma E YX8_pop (d + 1) [(0, vr (some (97, 1, 0))), (1, vi l1), (2, vi l2)] 69 3 [] Q)) else (vp_in s0 3000 ∧ (Zm E YX8_remove d (si (si M 97 111 (gi M 146 (s0).toNatClampNeg)) 97 112 (gi M 147 (s0).toNatClampNeg)) (zargs 0 [vr (some (97, 1, 0)), vi l1, vi l3]) 0 [] (zma E YX8_pop (d + 1) [(0, vr (some (97, 1, 0))), (1, vi l1), (2, vi l2)] 69 3 [] Q)))) : Zm E YX8_pop (d + 1) M [(0, vr (some (97, 1, 0))), (1, vi l1), (2, vi l2), (3, vi l3)] 40 [vi s0] Q := by
  refine sX8_pop_40 (d := d) M l1 l2 l3 s0 ?_
  refine zite k (fun h6292 k => ?_) (fun h6292 k => ?_)
  · refine sX8_pop_66 (d := d) M l1 l2 l3 ?_
    exact k
  · refine zand k (fun h6293 k => ?_)
    refine ⟨h6293, ?_⟩
    refine sX8_give_2_0 (d := d) M (gi M 146 (s0).toNatClampNeg) (gi M 147 (s0).toNatClampNeg) ?_
    show Zm E YX8_pop (d + 1) (si (si M 97 111 (gi M 146 (s0).toNatClampNeg)) 97 112 (gi M 147 (s0).toNatClampNeg)) [(0, vr (some (97, 1, 0))), (1, vi l1), (2, vi l2), (3, vi l3)] 66 [] Q
    refine sX8_pop_66 (d := d) (si (si M 97 111 (gi M 146 (s0).toNatClampNeg)) 97 112 (gi M 147 (s0).toNatClampNeg)) l1 l2 l3 ?_
    exact k
theorem iX8_pushInto_68 {E : zE} {d : Nat} {Q : zO → zM → Prop} (M : zM) (l4 : Int32) (k : Q (.inl none) (si (si M 97 111 (5 : Int32)) 97 112 l4)) : Zm E YX8_pushInto (d + 1) M [(0, vr (some (97, 1, 0))), (4, vi l4)] 68 [] Q := by
  refine sX8_pushInto_68 (d := d) M l4 ?_
  refine sX8_give_2_0 (d := d) M (5 : Int32) l4 ?_
  show Zm E YX8_pushInto (d + 1) (si (si M 97 111 (5 : Int32)) 97 112 l4) [] 75 [] Q
  refine sX8_pushInto_75 (d := d) (si (si M 97 111 (5 : Int32)) 97 112 l4)  ?_
  exact k
theorem iX8_remove_24 {E : zE} {d : Nat} {Q : zO → zM → Prop} (M : zM) (l1 : Int32) (l3 : Int32) (l4 : Int32) (l5 : Int32) (k : if l5 = l3 then (if l4 = (-1 : Int32) then (vp_in l3 3000 ∧ (vp_in l1 300 ∧ (if (gi M 144 (l1).toNatClampNeg) = l3 then (Q (.inl none) (si (si (si (si (si M 143 (l1).toNatClampNeg (gi M 149 (l3).toNatClampNeg)) 144 (l1).toNatClampNeg l4) 149 (l3).toNatClampNeg (gi M 97 85)) 97 85 l3) 97 84 ((gi M 97 84) - (1 : Int32)))) else (Q (.inl none) (si (si (si (si M 143 (l1).toNatClampNeg (gi M 149 (l3).toNatClampNeg)) 149 (l3).toNatClampNeg (gi M 97 85)) 97 85 l3) 97 84 ((gi M 97 84) - (1 : Int32))))))) else (vp_in l3 3000 ∧ (vp_in l4 3000 ∧ (vp_in l1 300 ∧ (if (gi M 144 (l1).toNatClampNeg) = l3 then (Q (.inl none) (si (si (si (si (si M 149 (l4).toNatClampNeg (gi M 149 (l3).toNatClampNeg)) 144 (l1).toNatClampNeg l4) 149 (l3).toNatClampNeg (gi M 97 85)) 97 85 l3) 97 84 ((gi M 97 84) - (1 : Int32)))) else (Q (.inl none) (si (si (si (si M 149 (l4).toNatClampNeg (gi M 149 (l3).toNatClampNeg)) 149 (l3).toNatClampNeg (gi M 97 85)) 97 85 l3) 97 84 ((gi M 97 84) - (1 : Int32))))))))) else (vp_in l5 3000 ∧ (Zm E YX8_remove (d + 1) M [(0, vr (some (97, 1, 0))), (1, vi l1), (3, vi l3), (4, vi l5), (5, vi (gi M 149 (l5).toNatClampNeg))] 24 [] Q))) : Zm E YX8_remove (d + 1) M [(0, vr (some (97, 1, 0))), (1, vi l1), (3, vi l3), (4, vi l4), (5, vi l5)] 24 [] Q := by
  refine sX8_remove_24 (d := d) M l1 l3 l4 l5 ?_
  refine zite k (fun h6299 k => ?_) (fun h6299 k => ?_)
  · refine zite k (fun h6300 k => ?_) (fun h6300 k => ?_)
    · refine zand k (fun h6301 k => ?_)
      refine zand k (fun h6302 k => ?_)
      refine sX8_remove_80 (d := d) (si M 143 (l1).toNatClampNeg (gi M 149 (l3).toNatClampNeg)) l1 l3 l4 ?_
      refine ⟨h6302, ?_⟩
      refine zite k (fun h6303 k => ?_) (fun h6303 k => ?_)
      · refine ⟨h6302, ?_⟩
        refine sX8_remove_98 (d := d) (si (si M 143 (l1).toNatClampNeg (gi M 149 (l3).toNatClampNeg)) 144 (l1).toNatClampNeg l4) l3 ?_
        refine ⟨h6301, ?_⟩
        exact k
      · refine sX8_remove_98 (d := d) (si M 143 (l1).toNatClampNeg (gi M 149 (l3).toNatClampNeg)) l3 ?_
        refine ⟨h6301, ?_⟩
        exact k
    · refine zand k (fun h6304 k => ?_)
      refine zand k (fun h6305 k => ?_)
      refine sX8_remove_80 (d := d) (si M 149 (l4).toNatClampNeg (gi M 149 (l3).toNatClampNeg)) l1 l3 l4 ?_
      refine zand k (fun h6306 k => ?_)
      refine zite k (fun h6307 k => ?_) (fun h6307 k => ?_)
      · refine ⟨h6306, ?_⟩
        refine sX8_remove_98 (d := d) (si (si M 149 (l4).toNatClampNeg (gi M 149 (l3).toNatClampNeg)) 144 (l1).toNatClampNeg l4) l3 ?_
        refine ⟨h6304, ?_⟩
        exact k
      · refine sX8_remove_98 (d := d) (si M 149 (l4).toNatClampNeg (gi M 149 (l3).toNatClampNeg)) l3 ?_
        refine ⟨h6304, ?_⟩
        exact k
  · exact k
theorem iX8_stepOther_137 {E : zE} {d : Nat} {Q : zO → zM → Prop} (M : zM)  (k : vp_in ((gi M 97 92) - (1 : Int32)) 24 ∧ (Q (.inl none) (si M 154 (((gi M 97 92) - (1 : Int32))).toNatClampNeg ((gi M 154 (((gi M 97 92) - (1 : Int32))).toNatClampNeg) + (1 : Int32))))) : Zm E YX8_stepOther (d + 1) M [(0, vr (some (97, 1, 0)))] 137 [] Q := by
  refine sX8_stepOther_137 (d := d) M  ?_
  refine jX8_goOn (d := d) M  ?_
  refine zand k (fun h6560 k => ?_)
  show Zm E YX8_stepOther (d + 1) (si M 154 (((gi M 97 92) - (1 : Int32))).toNatClampNeg ((gi M 154 (((gi M 97 92) - (1 : Int32))).toNatClampNeg) + (1 : Int32))) [] 141 [] Q
  refine sX8_stepOther_141 (d := d) (si M 154 (((gi M 97 92) - (1 : Int32))).toNatClampNeg ((gi M 154 (((gi M 97 92) - (1 : Int32))).toNatClampNeg) + (1 : Int32)))  ?_
  refine sX8_stepOther_459 (d := d) (si M 154 (((gi M 97 92) - (1 : Int32))).toNatClampNeg ((gi M 154 (((gi M 97 92) - (1 : Int32))).toNatClampNeg) + (1 : Int32)))  ?_
  exact k
theorem iX8_stepOther_151 {E : zE} {d : Nat} {Q : zO → zM → Prop} (M : zM)  (k : vp_in ((gi M 97 92) - (1 : Int32)) 24 ∧ (Q (.inl none) (si M 154 (((gi M 97 92) - (1 : Int32))).toNatClampNeg ((gi M 154 (((gi M 97 92) - (1 : Int32))).toNatClampNeg) + (1 : Int32))))) : Zm E YX8_stepOther (d + 1) M [(0, vr (some (97, 1, 0)))] 151 [] Q := by
  refine sX8_stepOther_151 (d := d) M  ?_
  refine jX8_goOn (d := d) M  ?_
  refine zand k (fun h6561 k => ?_)
  show Zm E YX8_stepOther (d + 1) (si M 154 (((gi M 97 92) - (1 : Int32))).toNatClampNeg ((gi M 154 (((gi M 97 92) - (1 : Int32))).toNatClampNeg) + (1 : Int32))) [] 155 [] Q
  refine sX8_stepOther_155 (d := d) (si M 154 (((gi M 97 92) - (1 : Int32))).toNatClampNeg ((gi M 154 (((gi M 97 92) - (1 : Int32))).toNatClampNeg) + (1 : Int32)))  ?_
  refine sX8_stepOther_459 (d := d) (si M 154 (((gi M 97 92) - (1 : Int32))).toNatClampNeg ((gi M 154 (((gi M 97 92) - (1 : Int32))).toNatClampNeg) + (1 : Int32)))  ?_
  exact k
theorem iX8_stepOther_163 {E : zE} {d : Nat} {Q : zO → zM → Prop} (M : zM) (l3 : Int32) (l4 : Int32) (s0 : Int32) (k : vp_in ((gi M 97 92) - (1 : Int32)) 24 ∧ (vp_in (((((400 : Int32) * ((gi M 97 92) - (1 : Int32))) + (gi M 155 (((gi M 97 92) - (1 : Int32))).toNatClampNeg)) - (1 : Int32)) - (1 : Int32)) 9600 ∧ (Zm E YX8_push (d + 1) M (zargs 0 [vr (some (97, 1, 0)), vi s0, vi (gi M 161 ((((((400 : Int32) * ((gi M 97 92) - (1 : Int32))) + (gi M 155 (((gi M 97 92) - (1 : Int32))).toNatClampNeg)) - (1 : Int32)) - (1 : Int32))).toNatClampNeg)]) 0 [] (zma E YX8_stepOther ((d + 1) + 1) [(0, vr (some (97, 1, 0))), (3, vi l3), (4, vi l4)] 177 3 [] Q)))) : Zm E YX8_stepOther (d + 2) M [(0, vr (some (97, 1, 0))), (3, vi l3), (4, vi l4)] 163 [vi s0] Q := by
  refine sX8_stepOther_163 (d := (d + 1)) M l3 l4 s0 ?_
  refine jX8_valueAt (d := d) M (1 : Int32) ?_
  refine zand k (fun h6562 k => ?_)
  refine zand k (fun h6563 k => ?_)
  show Zm E YX8_stepOther ((d + 1) + 1) M [(0, vr (some (97, 1, 0))), (3, vi l3), (4, vi l4), (6, vi s0)] 170 [vi (gi M 161 ((((((400 : Int32) * ((gi M 97 92) - (1 : Int32))) + (gi M 155 (((gi M 97 92) - (1 : Int32))).toNatClampNeg)) - (1 : Int32)) - (1 : Int32))).toNatClampNeg)] Q
  refine sX8_stepOther_170 (d := (d + 1)) M l3 l4 s0 (gi M 161 ((((((400 : Int32) * ((gi M 97 92) - (1 : Int32))) + (gi M 155 (((gi M 97 92) - (1 : Int32))).toNatClampNeg)) - (1 : Int32)) - (1 : Int32))).toNatClampNeg) ?_
  exact k
theorem iX8_stepOther_201 {E : zE} {d : Nat} {Q : zO → zM → Prop} (M : zM)  (k : vp_in ((gi M 97 92) - (1 : Int32)) 24 ∧ (Q (.inl none) (si M 154 (((gi M 97 92) - (1 : Int32))).toNatClampNeg ((gi M 154 (((gi M 97 92) - (1 : Int32))).toNatClampNeg) + (1 : Int32))))) : Zm E YX8_stepOther (d + 1) M [(0, vr (some (97, 1, 0)))] 201 [] Q := by
  refine sX8_stepOther_201 (d := d) M  ?_
  refine jX8_goOn (d := d) M  ?_
  refine zand k (fun h6564 k => ?_)
  show Zm E YX8_stepOther (d + 1) (si M 154 (((gi M 97 92) - (1 : Int32))).toNatClampNeg ((gi M 154 (((gi M 97 92) - (1 : Int32))).toNatClampNeg) + (1 : Int32))) [] 205 [] Q
  refine sX8_stepOther_205 (d := d) (si M 154 (((gi M 97 92) - (1 : Int32))).toNatClampNeg ((gi M 154 (((gi M 97 92) - (1 : Int32))).toNatClampNeg) + (1 : Int32)))  ?_
  refine sX8_stepOther_459 (d := d) (si M 154 (((gi M 97 92) - (1 : Int32))).toNatClampNeg ((gi M 154 (((gi M 97 92) - (1 : Int32))).toNatClampNeg) + (1 : Int32)))  ?_
  exact k
theorem iX8_stepOther_264 {E : zE} {d : Nat} {Q : zO → zM → Prop} (M : zM) (l1 : Int32) (l2 : Int32) (l5 : Int32) (s0 : Int32) (k : if l1 = (23 : Int32) then (if s0 = (1 : Int32) then (vp_in ((gi M 97 92) - (1 : Int32)) 24 ∧ (Q (.inl none) (si (si M 155 (((gi M 97 92) - (1 : Int32))).toNatClampNeg ((gi M 155 (((gi M 97 92) - (1 : Int32))).toNatClampNeg) - (1 : Int32))) 154 (((gi M 97 92) - (1 : Int32))).toNatClampNeg ((gi M 154 (((gi M 97 92) - (1 : Int32))).toNatClampNeg) + (1 : Int32))))) else (vp_in l5 24 ∧ (Q (.inl none) (si M 154 (l5).toNatClampNeg l2)))) else (if s0 = (0 : Int32) then (vp_in ((gi M 97 92) - (1 : Int32)) 24 ∧ (Q (.inl none) (si (si M 155 (((gi M 97 92) - (1 : Int32))).toNatClampNeg ((gi M 155 (((gi M 97 92) - (1 : Int32))).toNatClampNeg) - (1 : Int32))) 154 (((gi M 97 92) - (1 : Int32))).toNatClampNeg ((gi M 154 (((gi M 97 92) - (1 : Int32))).toNatClampNeg) + (1 : Int32))))) else (vp_in l5 24 ∧ (Q (.inl none) (si M 154 (l5).toNatClampNeg l2))))) : Zm E YX8_stepOther (d + 1) M [(0, vr (some (97, 1, 0))), (1, vi l1), (2, vi l2), (5, vi l5)] 264 [vi s0] Q := by
  refine sX8_stepOther_264 (d := d) M l1 l2 l5 s0 ?_
  refine zite k (fun h6565 k => ?_) (fun h6565 k => ?_)
  · refine sX8_stepOther_275 (d := d) M l2 l5 (1 : Int32) s0 ?_
    refine zite k (fun h6566 k => ?_) (fun h6566 k => ?_)
    · refine jX8_drop (d := d) M (1 : Int32) ?_
      refine zand k (fun h6567 k => ?_)
      show Zm E YX8_stepOther (d + 1) (si M 155 (((gi M 97 92) - (1 : Int32))).toNatClampNeg ((gi M 155 (((gi M 97 92) - (1 : Int32))).toNatClampNeg) - (1 : Int32))) [(0, vr (some (97, 1, 0)))] 283 [] Q
      refine sX8_stepOther_283 (d := d) (si M 155 (((gi M 97 92) - (1 : Int32))).toNatClampNeg ((gi M 155 (((gi M 97 92) - (1 : Int32))).toNatClampNeg) - (1 : Int32)))  ?_
      refine jX8_goOn (d := d) (si M 155 (((gi M 97 92) - (1 : Int32))).toNatClampNeg ((gi M 155 (((gi M 97 92) - (1 : Int32))).toNatClampNeg) - (1 : Int32)))  ?_
      refine ⟨h6567, ?_⟩
      show Zm E YX8_stepOther (d + 1) (si (si M 155 (((gi M 97 92) - (1 : Int32))).toNatClampNeg ((gi M 155 (((gi M 97 92) - (1 : Int32))).toNatClampNeg) - (1 : Int32))) 154 (((gi M 97 92) - (1 : Int32))).toNatClampNeg ((gi M 154 (((gi M 97 92) - (1 : Int32))).toNatClampNeg) + (1 : Int32))) [] 287 [] Q
      refine sX8_stepOther_287 (d := d) (si (si M 155 (((gi M 97 92) - (1 : Int32))).toNatClampNeg ((gi M 155 (((gi M 97 92) - (1 : Int32))).toNatClampNeg) - (1 : Int32))) 154 (((gi M 97 92) - (1 : Int32))).toNatClampNeg ((gi M 154 (((gi M 97 92) - (1 : Int32))).toNatClampNeg) + (1 : Int32)))  ?_
      refine sX8_stepOther_459 (d := d) (si (si M 155 (((gi M 97 92) - (1 : Int32))).toNatClampNeg ((gi M 155 (((gi M 97 92) - (1 : Int32))).toNatClampNeg) - (1 : Int32))) 154 (((gi M 97 92) - (1 : Int32))).toNatClampNeg ((gi M 154 (((gi M 97 92) - (1 : Int32))).toNatClampNeg) + (1 : Int32)))  ?_
      exact k
    · refine zand k (fun h6568 k => ?_)
      refine sX8_stepOther_459 (d := d) (si M 154 (l5).toNatClampNeg l2)  ?_
      exact k
  · refine sX8_stepOther_275 (d := d) M l2 l5 (0 : Int32) s0 ?_
    refine zite k (fun h6569 k => ?_) (fun h6569 k => ?_)
    · refine jX8_drop (d := d) M (1 : Int32) ?_
      refine zand k (fun h6570 k => ?_)
      show Zm E YX8_stepOther (d + 1) (si M 155 (((gi M 97 92) - (1 : Int32))).toNatClampNeg ((gi M 155 (((gi M 97 92) - (1 : Int32))).toNatClampNeg) - (1 : Int32))) [(0, vr (some (97, 1, 0)))] 283 [] Q
      refine sX8_stepOther_283 (d := d) (si M 155 (((gi M 97 92) - (1 : Int32))).toNatClampNeg ((gi M 155 (((gi M 97 92) - (1 : Int32))).toNatClampNeg) - (1 : Int32)))  ?_
      refine jX8_goOn (d := d) (si M 155 (((gi M 97 92) - (1 : Int32))).toNatClampNeg ((gi M 155 (((gi M 97 92) - (1 : Int32))).toNatClampNeg) - (1 : Int32)))  ?_
      refine ⟨h6570, ?_⟩
      show Zm E YX8_stepOther (d + 1) (si (si M 155 (((gi M 97 92) - (1 : Int32))).toNatClampNeg ((gi M 155 (((gi M 97 92) - (1 : Int32))).toNatClampNeg) - (1 : Int32))) 154 (((gi M 97 92) - (1 : Int32))).toNatClampNeg ((gi M 154 (((gi M 97 92) - (1 : Int32))).toNatClampNeg) + (1 : Int32))) [] 287 [] Q
      refine sX8_stepOther_287 (d := d) (si (si M 155 (((gi M 97 92) - (1 : Int32))).toNatClampNeg ((gi M 155 (((gi M 97 92) - (1 : Int32))).toNatClampNeg) - (1 : Int32))) 154 (((gi M 97 92) - (1 : Int32))).toNatClampNeg ((gi M 154 (((gi M 97 92) - (1 : Int32))).toNatClampNeg) + (1 : Int32)))  ?_
      refine sX8_stepOther_459 (d := d) (si (si M 155 (((gi M 97 92) - (1 : Int32))).toNatClampNeg ((gi M 155 (((gi M 97 92) - (1 : Int32))).toNatClampNeg) - (1 : Int32))) 154 (((gi M 97 92) - (1 : Int32))).toNatClampNeg ((gi M 154 (((gi M 97 92) - (1 : Int32))).toNatClampNeg) + (1 : Int32)))  ?_
      exact k
    · refine zand k (fun h6571 k => ?_)
      refine sX8_stepOther_459 (d := d) (si M 154 (l5).toNatClampNeg l2)  ?_
      exact k
theorem iX8_stepOther_308 {E : zE} {d : Nat} {Q : zO → zM → Prop} (M : zM)  (k : Q (.inl none) M) : Zm E YX8_stepOther (d + 1) M [] 308 [] Q := by
  refine sX8_stepOther_308 (d := d) M  ?_
  refine sX8_stepOther_459 (d := d) M  ?_
  exact k
theorem iX8_stepOther_318 {E : zE} {d : Nat} {Q : zO → zM → Prop} (M : zM)  (k : Q (.inl none) M) : Zm E YX8_stepOther (d + 1) M [] 318 [] Q := by
  refine sX8_stepOther_318 (d := d) M  ?_
  refine sX8_stepOther_459 (d := d) M  ?_
  exact k
theorem iX8_stepOther_380 {E : zE} {d : Nat} {Q : zO → zM → Prop} (M : zM)  (k : Q (.inl none) M) : Zm E YX8_stepOther (d + 1) M [] 380 [] Q := by
  refine sX8_stepOther_380 (d := d) M  ?_
  refine sX8_stepOther_459 (d := d) M  ?_
  exact k
theorem iX8_stepOther_398 {E : zE} {d : Nat} {Q : zO → zM → Prop} (M : zM)  (k : Q (.inl none) M) : Zm E YX8_stepOther (d + 1) M [] 398 [] Q := by
  refine sX8_stepOther_398 (d := d) M  ?_
  refine sX8_stepOther_459 (d := d) M  ?_
  exact k
theorem iX8_stepOther_406 {E : zE} {d : Nat} {Q : zO → zM → Prop} (M : zM) (l3 : Int32) (l4 : Int32) (k : vp_in ((gi M 97 92) - (1 : Int32)) 24 ∧ (vp_in (((400 : Int32) * ((gi M 97 92) - (1 : Int32))) + (gi M 155 (((gi M 97 92) - (1 : Int32))).toNatClampNeg)) 9600 ∧ (if l3 = (7 : Int32) then (Zm E YX8_push d (si (si M 162 ((((400 : Int32) * ((gi M 97 92) - (1 : Int32))) + (gi M 155 (((gi M 97 92) - (1 : Int32))).toNatClampNeg))).toNatClampNeg (0 : Int32)) 163 ((((400 : Int32) * ((gi M 97 92) - (1 : Int32))) + (gi M 155 (((gi M 97 92) - (1 : Int32))).toNatClampNeg))).toNatClampNeg (gi M 97 86)) (zargs 0 [vr (some (97, 1, 0)), vi (8 : Int32), vi l4]) 0 [] (zma E YX8_stepOther (d + 1) [(0, vr (some (97, 1, 0)))] 444 3 [] Q)) else (Zm E YX8_push d (si (si M 162 ((((400 : Int32) * ((gi M 97 92) - (1 : Int32))) + (gi M 155 (((gi M 97 92) - (1 : Int32))).toNatClampNeg))).toNatClampNeg (0 : Int32)) 163 ((((400 : Int32) * ((gi M 97 92) - (1 : Int32))) + (gi M 155 (((gi M 97 92) - (1 : Int32))).toNatClampNeg))).toNatClampNeg (gi M 97 86)) (zargs 0 [vr (some (97, 1, 0)), vi (8 : Int32), vi (-1 : Int32)]) 0 [] (zma E YX8_stepOther (d + 1) [(0, vr (some (97, 1, 0)))] 444 3 [] Q))))) : Zm E YX8_stepOther (d + 1) M [(0, vr (some (97, 1, 0))), (3, vi l3), (4, vi l4)] 406 [] Q := by
  refine sX8_stepOther_406 (d := d) M l3 l4 ?_
  refine sX8_top_0 (d := d) M  ?_
  refine zand k (fun h6572 k => ?_)
  show Zm E YX8_stepOther (d + 1) M [(0, vr (some (97, 1, 0))), (3, vi l3), (4, vi l4)] 414 [vi (((400 : Int32) * ((gi M 97 92) - (1 : Int32))) + (gi M 155 (((gi M 97 92) - (1 : Int32))).toNatClampNeg)), vr (some (162, 100, 9600))] Q
  refine sX8_stepOther_414 (d := d) M l3 l4 (((400 : Int32) * ((gi M 97 92) - (1 : Int32))) + (gi M 155 (((gi M 97 92) - (1 : Int32))).toNatClampNeg)) ?_
  refine zand k (fun h6573 k => ?_)
  refine sX8_top_0 (d := d) (si M 162 ((((400 : Int32) * ((gi M 97 92) - (1 : Int32))) + (gi M 155 (((gi M 97 92) - (1 : Int32))).toNatClampNeg))).toNatClampNeg (0 : Int32))  ?_
  refine ⟨h6572, ?_⟩
  show Zm E YX8_stepOther (d + 1) (si M 162 ((((400 : Int32) * ((gi M 97 92) - (1 : Int32))) + (gi M 155 (((gi M 97 92) - (1 : Int32))).toNatClampNeg))).toNatClampNeg (0 : Int32)) [(0, vr (some (97, 1, 0))), (3, vi l3), (4, vi l4)] 424 [vi (((400 : Int32) * ((gi M 97 92) - (1 : Int32))) + (gi M 155 (((gi M 97 92) - (1 : Int32))).toNatClampNeg)), vr (some (163, 100, 9600))] Q
  refine sX8_stepOther_424 (d := d) (si M 162 ((((400 : Int32) * ((gi M 97 92) - (1 : Int32))) + (gi M 155 (((gi M 97 92) - (1 : Int32))).toNatClampNeg))).toNatClampNeg (0 : Int32)) l3 l4 (((400 : Int32) * ((gi M 97 92) - (1 : Int32))) + (gi M 155 (((gi M 97 92) - (1 : Int32))).toNatClampNeg)) ?_
  refine ⟨h6573, ?_⟩
  exact k
theorem iX8_stepOther_237 {E : zE} {d : Nat} {Q : zO → zM → Prop} (M : zM) (l2 : Int32) (l5 : Int32) (s0 : Int32) (s1 : Int32) (k : if s0 = 0 then (vp_in s1 24 ∧ (Q (.inl none) (si M 154 (s1).toNatClampNeg l2))) else (vp_in l5 24 ∧ (vp_in s1 24 ∧ (Q (.inl none) (si M 154 (s1).toNatClampNeg ((gi M 154 (l5).toNatClampNeg) + (1 : Int32))))))) : Zm E YX8_stepOther (d + 1) M [(0, vr (some (97, 1, 0))), (2, vi l2), (5, vi l5)] 237 [vi s0, vi s1, vr (some (154, 100, 24))] Q := by
  refine sX8_stepOther_237 (d := d) M l2 l5 s0 s1 ?_
  refine zite k (fun h6575 k => ?_) (fun h6575 k => ?_)
  · refine zand k (fun h6576 k => ?_)
    refine sX8_stepOther_459 (d := d) (si M 154 (s1).toNatClampNeg l2)  ?_
    exact k
  · refine zand k (fun h6577 k => ?_)
    refine zand k (fun h6578 k => ?_)
    refine sX8_stepOther_459 (d := d) (si M 154 (s1).toNatClampNeg ((gi M 154 (l5).toNatClampNeg) + (1 : Int32)))  ?_
    exact k
theorem iX8_stepOther_447 {E : zE} {d : Nat} {Q : zO → zM → Prop} (M : zM)  (k : vp_in ((gi M 97 92) - (1 : Int32)) 24 ∧ (Q (.inl none) (si M 154 (((gi M 97 92) - (1 : Int32))).toNatClampNeg ((gi M 154 (((gi M 97 92) - (1 : Int32))).toNatClampNeg) + (1 : Int32))))) : Zm E YX8_stepOther (d + 1) M [(0, vr (some (97, 1, 0)))] 447 [] Q := by
  refine sX8_stepOther_447 (d := d) M  ?_
  refine jX8_goOn (d := d) M  ?_
  refine zand k (fun h6579 k => ?_)
  show Zm E YX8_stepOther (d + 1) (si M 154 (((gi M 97 92) - (1 : Int32))).toNatClampNeg ((gi M 154 (((gi M 97 92) - (1 : Int32))).toNatClampNeg) + (1 : Int32))) [] 451 [] Q
  refine sX8_stepOther_451 (d := d) (si M 154 (((gi M 97 92) - (1 : Int32))).toNatClampNeg ((gi M 154 (((gi M 97 92) - (1 : Int32))).toNatClampNeg) + (1 : Int32)))  ?_
  refine sX8_stepOther_459 (d := d) (si M 154 (((gi M 97 92) - (1 : Int32))).toNatClampNeg ((gi M 154 (((gi M 97 92) - (1 : Int32))).toNatClampNeg) + (1 : Int32)))  ?_
  exact k
theorem iX8_stepOther_187 {E : zE} {d : Nat} {Q : zO → zM → Prop} (M : zM)  (k : vp_in ((gi M 97 92) - (1 : Int32)) 24 ∧ (Q (.inl none) (si M 154 (((gi M 97 92) - (1 : Int32))).toNatClampNeg ((gi M 154 (((gi M 97 92) - (1 : Int32))).toNatClampNeg) + (1 : Int32))))) : Zm E YX8_stepOther (d + 1) M [(0, vr (some (97, 1, 0)))] 187 [] Q := by
  refine sX8_stepOther_187 (d := d) M  ?_
  refine jX8_goOn (d := d) M  ?_
  refine zand k (fun h6580 k => ?_)
  show Zm E YX8_stepOther (d + 1) (si M 154 (((gi M 97 92) - (1 : Int32))).toNatClampNeg ((gi M 154 (((gi M 97 92) - (1 : Int32))).toNatClampNeg) + (1 : Int32))) [] 191 [] Q
  refine sX8_stepOther_191 (d := d) (si M 154 (((gi M 97 92) - (1 : Int32))).toNatClampNeg ((gi M 154 (((gi M 97 92) - (1 : Int32))).toNatClampNeg) + (1 : Int32)))  ?_
  refine sX8_stepOther_459 (d := d) (si M 154 (((gi M 97 92) - (1 : Int32))).toNatClampNeg ((gi M 154 (((gi M 97 92) - (1 : Int32))).toNatClampNeg) + (1 : Int32)))  ?_
  exact k
theorem iX8_truth_0 {E : zE} {d : Nat} {Q : zO → zM → Prop} (M : zM) (l1 : Int32) (k : if l1 = 0 then (Q (.inl none) (si (si M 97 111 (3 : Int32)) 97 112 (0 : Int32))) else (Q (.inl none) (si (si M 97 111 (2 : Int32)) 97 112 (0 : Int32)))) : Zm E YX8_truth (d + 1) M [(0, vr (some (97, 1, 0))), (1, vi l1)] 0 [] Q := by
  refine sX8_truth_0 (d := d) M l1 ?_
  refine zite k (fun h6581 k => ?_) (fun h6581 k => ?_)
  · refine sX8_give_2_0 (d := d) M (3 : Int32) (0 : Int32) ?_
    show Zm E YX8_truth (d + 1) (si (si M 97 111 (3 : Int32)) 97 112 (0 : Int32)) [] 14 [] Q
    refine sX8_truth_14 (d := d) (si (si M 97 111 (3 : Int32)) 97 112 (0 : Int32))  ?_
    exact k
  · refine sX8_give_2_0 (d := d) M (2 : Int32) (0 : Int32) ?_
    show Zm E YX8_truth (d + 1) (si (si M 97 111 (2 : Int32)) 97 112 (0 : Int32)) [] 14 [] Q
    refine sX8_truth_14 (d := d) (si (si M 97 111 (2 : Int32)) 97 112 (0 : Int32))  ?_
    exact k
theorem iX8_unaryOf_12 {E : zE} {d : Nat} {Q : zO → zM → Prop} (M : zM) (s0 : Int32) (k : if s0 = 0 then (Q (.inl none) (si (si M 97 111 (2 : Int32)) 97 112 (0 : Int32))) else (Q (.inl none) (si (si M 97 111 (3 : Int32)) 97 112 (0 : Int32)))) : Zm E YX8_unaryOf (d + 2) M [] 12 [vi s0, vr (some (97, 1, 0))] Q := by
  refine sX8_unaryOf_12 (d := (d + 1)) M s0 ?_
  refine zite k (fun h6584 k => ?_) (fun h6584 k => ?_)
  · refine jX8_truth (d := d) M (1 : Int32) ?_
    refine zneg (show ¬ ((1 : Int32) = 0) from by decide) ?_
    show Zm E YX8_unaryOf ((d + 1) + 1) (si (si M 97 111 (2 : Int32)) 97 112 (0 : Int32)) [] 23 [] Q
    refine sX8_unaryOf_23 (d := (d + 1)) (si (si M 97 111 (2 : Int32)) 97 112 (0 : Int32))  ?_
    exact k
  · refine jX8_truth (d := d) M (0 : Int32) ?_
    refine zpos (show (0 : Int32) = 0 from by decide) ?_
    show Zm E YX8_unaryOf ((d + 1) + 1) (si (si M 97 111 (3 : Int32)) 97 112 (0 : Int32)) [] 23 [] Q
    refine sX8_unaryOf_23 (d := (d + 1)) (si (si M 97 111 (3 : Int32)) 97 112 (0 : Int32))  ?_
    exact k
theorem iX8_unaryOf_30 {E : zE} {d : Nat} {Q : zO → zM → Prop} (M : zM) (l1 : Int32) (s0 : Int32) (k : if l1 = (2 : Int32) then (if (gi M 97 113) = 0 then (Q (.inl none) (si (si M 97 111 (5 : Int32)) 97 112 ((0 : Int32) ^^^ (-1 : Int32)))) else (Q (.inl none) (si (si M 97 111 (5 : Int32)) 97 112 (s0 ^^^ (-1 : Int32))))) else (if (gi M 97 113) = 0 then (Q (.inl none) (si (si M 97 111 (4 : Int32)) 97 112 (0 : Int32))) else (if l1 = 0 then (Q (.inl none) (si (si M 97 111 (5 : Int32)) 97 112 s0)) else (Q (.inl none) (si (si M 97 111 (5 : Int32)) 97 112 (-s0)))))) : Zm E YX8_unaryOf (d + 1) M [(0, vr (some (97, 1, 0))), (1, vi l1)] 30 [vi s0] Q := by
  refine sX8_unaryOf_30 (d := d) M l1 s0 ?_
  refine zite k (fun h6585 k => ?_) (fun h6585 k => ?_)
  · refine zite k (fun h6586 k => ?_) (fun h6586 k => ?_)
    · refine sX8_give_2_0 (d := d) M (5 : Int32) ((0 : Int32) ^^^ (-1 : Int32)) ?_
      show Zm E YX8_unaryOf (d + 1) (si (si M 97 111 (5 : Int32)) 97 112 ((0 : Int32) ^^^ (-1 : Int32))) [] 57 [] Q
      refine sX8_unaryOf_57 (d := d) (si (si M 97 111 (5 : Int32)) 97 112 ((0 : Int32) ^^^ (-1 : Int32)))  ?_
      refine sX8_unaryOf_93 (d := d) (si (si M 97 111 (5 : Int32)) 97 112 ((0 : Int32) ^^^ (-1 : Int32)))  ?_
      exact k
    · refine sX8_give_2_0 (d := d) M (5 : Int32) (s0 ^^^ (-1 : Int32)) ?_
      show Zm E YX8_unaryOf (d + 1) (si (si M 97 111 (5 : Int32)) 97 112 (s0 ^^^ (-1 : Int32))) [] 57 [] Q
      refine sX8_unaryOf_57 (d := d) (si (si M 97 111 (5 : Int32)) 97 112 (s0 ^^^ (-1 : Int32)))  ?_
      refine sX8_unaryOf_93 (d := d) (si (si M 97 111 (5 : Int32)) 97 112 (s0 ^^^ (-1 : Int32)))  ?_
      exact k
  · refine zite k (fun h6587 k => ?_) (fun h6587 k => ?_)
    · refine sX8_give_2_0 (d := d) M (4 : Int32) (0 : Int32) ?_
      show Zm E YX8_unaryOf (d + 1) (si (si M 97 111 (4 : Int32)) 97 112 (0 : Int32)) [] 93 [] Q
      refine sX8_unaryOf_93 (d := d) (si (si M 97 111 (4 : Int32)) 97 112 (0 : Int32))  ?_
      exact k
    · refine zite k (fun h6588 k => ?_) (fun h6588 k => ?_)
      · refine sX8_give_2_0 (d := d) M (5 : Int32) s0 ?_
        show Zm E YX8_unaryOf (d + 1) (si (si M 97 111 (5 : Int32)) 97 112 s0) [] 84 [] Q
        refine sX8_unaryOf_84 (d := d) (si (si M 97 111 (5 : Int32)) 97 112 s0)  ?_
        refine sX8_unaryOf_93 (d := d) (si (si M 97 111 (5 : Int32)) 97 112 s0)  ?_
        exact k
      · refine sX8_give_2_0 (d := d) M (5 : Int32) (-s0) ?_
        show Zm E YX8_unaryOf (d + 1) (si (si M 97 111 (5 : Int32)) 97 112 (-s0)) [] 84 [] Q
        refine sX8_unaryOf_84 (d := d) (si (si M 97 111 (5 : Int32)) 97 112 (-s0))  ?_
        refine sX8_unaryOf_93 (d := d) (si (si M 97 111 (5 : Int32)) 97 112 (-s0))  ?_
        exact k
theorem iX8_within_37 {E : zE} {d : Nat} {Q : zO → zM → Prop} (M : zM) (s0 : Int32) (k : if s0 = 0 then (Zm E YX8_gives (d + 1) (si (si M 97 111 (3 : Int32)) 97 112 (0 : Int32)) (zargs 0 [vr (some (97, 1, 0)), vi (2 : Int32)]) 0 [] (zma E YX8_within ((d + 1) + 1) [] 47 3 [] Q)) else (Zm E YX8_gives (d + 1) (si (si M 97 111 (2 : Int32)) 97 112 (0 : Int32)) (zargs 0 [vr (some (97, 1, 0)), vi (2 : Int32)]) 0 [] (zma E YX8_within ((d + 1) + 1) [] 47 3 [] Q))) : Zm E YX8_within (d + 2) M [(0, vr (some (97, 1, 0)))] 37 [vi s0] Q := by
  refine sX8_within_37 (d := (d + 1)) M s0 ?_
  refine jX8_truth (d := d) M s0 ?_
  refine zite k (fun h6591 k => ?_) (fun h6591 k => ?_)
  · show Zm E YX8_within ((d + 1) + 1) (si (si M 97 111 (3 : Int32)) 97 112 (0 : Int32)) [(0, vr (some (97, 1, 0)))] 45 [] Q
    refine sX8_within_45 (d := (d + 1)) (si (si M 97 111 (3 : Int32)) 97 112 (0 : Int32))  ?_
    exact k
  · show Zm E YX8_within ((d + 1) + 1) (si (si M 97 111 (2 : Int32)) 97 112 (0 : Int32)) [(0, vr (some (97, 1, 0)))] 45 [] Q
    refine sX8_within_45 (d := (d + 1)) (si (si M 97 111 (2 : Int32)) 97 112 (0 : Int32))  ?_
    exact k
theorem iX8_addLabel_0 {E : zE} {d : Nat} {Q : zO → zM → Prop} (M : zM) (l1 : Int32) (l2 : Int32) (k : if (64 : Int32) ≤ l2 then (vp_in l1 647800 ∧ (Q (.inl none) (sl M 167 (l1).toNatClampNeg ((gl M 167 (l1).toNatClampNeg) ||| (zls (1 : Int64) (l2 - (64 : Int32))))))) else (vp_in l1 647800 ∧ (Q (.inl none) (sl M 166 (l1).toNatClampNeg ((gl M 166 (l1).toNatClampNeg) ||| (zls (1 : Int64) l2)))))) : Zm E YX8_addLabel d M [(0, vr (some (97, 1, 0))), (1, vi l1), (2, vi l2)] 0 [] Q := by
  refine sX8_addLabel_0 (d := d) M l1 l2 ?_
  refine zite k (fun h6592 k => ?_) (fun h6592 k => ?_)
  · refine zand k (fun h6593 k => ?_)
    refine ⟨h6593, ?_⟩
    exact k
  · refine zand k (fun h6594 k => ?_)
    refine ⟨h6594, ?_⟩
    exact k
theorem jX8_empty {E : zE} {d : Nat} {Q : zO → zM → Prop} (M : zM) (l1 : Int32) (k : vp_in l1 647800 ∧ (Q (.inl none) (sl (sl (sl M 165 (l1).toNatClampNeg (0 : Int64)) 166 (l1).toNatClampNeg (0 : Int64)) 167 (l1).toNatClampNeg (0 : Int64)))) : Zm E YX8_empty d M [(0, vr (some (97, 1, 0))), (1, vi l1)] 0 [] Q := by
  refine sX8_empty_0 (d := d) M l1 ?_
  refine zand k (fun h6595 k => ?_)
  refine ⟨h6595, ?_⟩
  refine ⟨h6595, ?_⟩
  exact k
theorem iX8_addSort_0 {E : zE} {d : Nat} {Q : zO → zM → Prop} (M : zM) (l1 : Int32) (l2 : Int32) (k : vp_in (647790 : Int32) 647800 ∧ (Zm E YX8_join d (sl (sl (sl (sl M 165 ((647790 : Int32)).toNatClampNeg (0 : Int64)) 166 ((647790 : Int32)).toNatClampNeg (0 : Int64)) 167 ((647790 : Int32)).toNatClampNeg (0 : Int64)) 165 ((647790 : Int32)).toNatClampNeg (((zls ((0 : Int32)).toInt64 (32 : Int32)) ||| (zls ((0 : Int32)).toInt64 (10 : Int32))) ||| (l2).toInt64)) (zargs 0 [vr (some (97, 1, 0)), vi (647790 : Int32), vi l1]) 0 [] (zma E YX8_addSort (d + 1) [] 20 3 [] Q))) : Zm E YX8_addSort (d + 1) M [(0, vr (some (97, 1, 0))), (1, vi l1), (2, vi l2)] 0 [] Q := by
  refine sX8_addSort_0 (d := d) M l1 l2 ?_
  refine jX8_empty (d := d) M (647790 : Int32) ?_
  refine zand k (fun h6596 k => ?_)
  show Zm E YX8_addSort (d + 1) (sl (sl (sl M 165 ((647790 : Int32)).toNatClampNeg (0 : Int64)) 166 ((647790 : Int32)).toNatClampNeg (0 : Int64)) 167 ((647790 : Int32)).toNatClampNeg (0 : Int64)) [(0, vr (some (97, 1, 0))), (1, vi l1), (2, vi l2), (3, vi (647790 : Int32))] 9 [] Q
  refine sX8_addSort_9 (d := d) (sl (sl (sl M 165 ((647790 : Int32)).toNatClampNeg (0 : Int64)) 166 ((647790 : Int32)).toNatClampNeg (0 : Int64)) 167 ((647790 : Int32)).toNatClampNeg (0 : Int64)) l1 l2 (647790 : Int32) ?_
  refine sX8_write_0 (d := d) (sl (sl (sl M 165 ((647790 : Int32)).toNatClampNeg (0 : Int64)) 166 ((647790 : Int32)).toNatClampNeg (0 : Int64)) 167 ((647790 : Int32)).toNatClampNeg (0 : Int64)) (647790 : Int32) l2 (0 : Int32) (0 : Int32) ?_
  refine ⟨h6596, ?_⟩
  show Zm E YX8_addSort (d + 1) (sl (sl (sl (sl M 165 ((647790 : Int32)).toNatClampNeg (0 : Int64)) 166 ((647790 : Int32)).toNatClampNeg (0 : Int64)) 167 ((647790 : Int32)).toNatClampNeg (0 : Int64)) 165 ((647790 : Int32)).toNatClampNeg (((zls ((0 : Int32)).toInt64 (32 : Int32)) ||| (zls ((0 : Int32)).toInt64 (10 : Int32))) ||| (l2).toInt64)) [(0, vr (some (97, 1, 0))), (1, vi l1), (3, vi (647790 : Int32))] 17 [] Q
  refine sX8_addSort_17 (d := d) (sl (sl (sl (sl M 165 ((647790 : Int32)).toNatClampNeg (0 : Int64)) 166 ((647790 : Int32)).toNatClampNeg (0 : Int64)) 167 ((647790 : Int32)).toNatClampNeg (0 : Int64)) 165 ((647790 : Int32)).toNatClampNeg (((zls ((0 : Int32)).toInt64 (32 : Int32)) ||| (zls ((0 : Int32)).toInt64 (10 : Int32))) ||| (l2).toInt64)) l1 (647790 : Int32) ?_
  exact k
theorem iX8_addString_0 {E : zE} {d : Nat} {Q : zO → zM → Prop} (M : zM) (l1 : Int32) (l2 : Int32) (k : vp_in (647790 : Int32) 647800 ∧ (if l2 = (-1 : Int32) then (Zm E YX8_join d (sl (sl (sl (sl M 165 ((647790 : Int32)).toNatClampNeg (0 : Int64)) 166 ((647790 : Int32)).toNatClampNeg (0 : Int64)) 167 ((647790 : Int32)).toNatClampNeg (0 : Int64)) 165 ((647790 : Int32)).toNatClampNeg (((zls ((0 : Int32)).toInt64 (32 : Int32)) ||| (zls ((0 : Int32)).toInt64 (10 : Int32))) ||| ((256 : Int32)).toInt64)) (zargs 0 [vr (some (97, 1, 0)), vi (647790 : Int32), vi l1]) 0 [] (zma E YX8_addString (d + 1) [] 42 3 [] Q)) else (Zm E YX8_join d (sl (sl (sl (sl M 165 ((647790 : Int32)).toNatClampNeg (0 : Int64)) 166 ((647790 : Int32)).toNatClampNeg (0 : Int64)) 167 ((647790 : Int32)).toNatClampNeg (0 : Int64)) 165 ((647790 : Int32)).toNatClampNeg (((zls ((0 : Int32)).toInt64 (32 : Int32)) ||| (zls (l2).toInt64 (10 : Int32))) ||| ((128 : Int32)).toInt64)) (zargs 0 [vr (some (97, 1, 0)), vi (647790 : Int32), vi l1]) 0 [] (zma E YX8_addString (d + 1) [] 42 3 [] Q)))) : Zm E YX8_addString (d + 1) M [(0, vr (some (97, 1, 0))), (1, vi l1), (2, vi l2)] 0 [] Q := by
  refine sX8_addString_0 (d := d) M l1 l2 ?_
  refine jX8_empty (d := d) M (647790 : Int32) ?_
  refine zand k (fun h6694 k => ?_)
  show Zm E YX8_addString (d + 1) (sl (sl (sl M 165 ((647790 : Int32)).toNatClampNeg (0 : Int64)) 166 ((647790 : Int32)).toNatClampNeg (0 : Int64)) 167 ((647790 : Int32)).toNatClampNeg (0 : Int64)) [(0, vr (some (97, 1, 0))), (1, vi l1), (2, vi l2), (3, vi (647790 : Int32))] 9 [] Q
  refine sX8_addString_9 (d := d) (sl (sl (sl M 165 ((647790 : Int32)).toNatClampNeg (0 : Int64)) 166 ((647790 : Int32)).toNatClampNeg (0 : Int64)) 167 ((647790 : Int32)).toNatClampNeg (0 : Int64)) l1 l2 (647790 : Int32) ?_
  refine zite k (fun h6695 k => ?_) (fun h6695 k => ?_)
  · refine sX8_addString_25 (d := d) (sl (sl (sl M 165 ((647790 : Int32)).toNatClampNeg (0 : Int64)) 166 ((647790 : Int32)).toNatClampNeg (0 : Int64)) 167 ((647790 : Int32)).toNatClampNeg (0 : Int64)) l1 l2 (647790 : Int32) (256 : Int32) (647790 : Int32) ?_
    refine zpos h6695 ?_
    refine sX8_write_0 (d := d) (sl (sl (sl M 165 ((647790 : Int32)).toNatClampNeg (0 : Int64)) 166 ((647790 : Int32)).toNatClampNeg (0 : Int64)) 167 ((647790 : Int32)).toNatClampNeg (0 : Int64)) (647790 : Int32) (256 : Int32) (0 : Int32) (0 : Int32) ?_
    refine ⟨h6694, ?_⟩
    show Zm E YX8_addString (d + 1) (sl (sl (sl (sl M 165 ((647790 : Int32)).toNatClampNeg (0 : Int64)) 166 ((647790 : Int32)).toNatClampNeg (0 : Int64)) 167 ((647790 : Int32)).toNatClampNeg (0 : Int64)) 165 ((647790 : Int32)).toNatClampNeg (((zls ((0 : Int32)).toInt64 (32 : Int32)) ||| (zls ((0 : Int32)).toInt64 (10 : Int32))) ||| ((256 : Int32)).toInt64)) [(0, vr (some (97, 1, 0))), (1, vi l1), (3, vi (647790 : Int32))] 39 [] Q
    refine sX8_addString_39 (d := d) (sl (sl (sl (sl M 165 ((647790 : Int32)).toNatClampNeg (0 : Int64)) 166 ((647790 : Int32)).toNatClampNeg (0 : Int64)) 167 ((647790 : Int32)).toNatClampNeg (0 : Int64)) 165 ((647790 : Int32)).toNatClampNeg (((zls ((0 : Int32)).toInt64 (32 : Int32)) ||| (zls ((0 : Int32)).toInt64 (10 : Int32))) ||| ((256 : Int32)).toInt64)) l1 (647790 : Int32) ?_
    exact k
  · refine sX8_addString_25 (d := d) (sl (sl (sl M 165 ((647790 : Int32)).toNatClampNeg (0 : Int64)) 166 ((647790 : Int32)).toNatClampNeg (0 : Int64)) 167 ((647790 : Int32)).toNatClampNeg (0 : Int64)) l1 l2 (647790 : Int32) (128 : Int32) (647790 : Int32) ?_
    refine zneg h6695 ?_
    refine sX8_write_0 (d := d) (sl (sl (sl M 165 ((647790 : Int32)).toNatClampNeg (0 : Int64)) 166 ((647790 : Int32)).toNatClampNeg (0 : Int64)) 167 ((647790 : Int32)).toNatClampNeg (0 : Int64)) (647790 : Int32) (128 : Int32) l2 (0 : Int32) ?_
    refine ⟨h6694, ?_⟩
    show Zm E YX8_addString (d + 1) (sl (sl (sl (sl M 165 ((647790 : Int32)).toNatClampNeg (0 : Int64)) 166 ((647790 : Int32)).toNatClampNeg (0 : Int64)) 167 ((647790 : Int32)).toNatClampNeg (0 : Int64)) 165 ((647790 : Int32)).toNatClampNeg (((zls ((0 : Int32)).toInt64 (32 : Int32)) ||| (zls (l2).toInt64 (10 : Int32))) ||| ((128 : Int32)).toInt64)) [(0, vr (some (97, 1, 0))), (1, vi l1), (3, vi (647790 : Int32))] 39 [] Q
    refine sX8_addString_39 (d := d) (sl (sl (sl (sl M 165 ((647790 : Int32)).toNatClampNeg (0 : Int64)) 166 ((647790 : Int32)).toNatClampNeg (0 : Int64)) 167 ((647790 : Int32)).toNatClampNeg (0 : Int64)) 165 ((647790 : Int32)).toNatClampNeg (((zls ((0 : Int32)).toInt64 (32 : Int32)) ||| (zls (l2).toInt64 (10 : Int32))) ||| ((128 : Int32)).toInt64)) l1 (647790 : Int32) ?_
    exact k
theorem jX8_of {E : zE} {d : Nat} {Q : zO → zM → Prop} (M : zM) (l1 : Int32) (l2 : Int32) (k : if l1 = (639 : Int32) then (Q (.inl (some (vi ((15000 : Int32) + l2)))) M) else (Q (.inl (some (vi ((l1 * (gi M 97 71)) + l2)))) M)) : Zm E YX8_of (d + 1) M [(0, vr (some (97, 1, 0))), (1, vi l1), (2, vi l2)] 0 [] Q := by
  refine sX8_of_0 (d := d) M l1 l2 ?_
  refine sX8_labelsAt_0 (d := d) M l1 ?_
  refine zite k (fun h6703 k => ?_) (fun h6703 k => ?_)
  · show Zm E YX8_of (d + 1) M [(2, vi l2)] 5 [vi (15000 : Int32)] Q
    refine sX8_of_5 (d := d) M l2 (15000 : Int32) ?_
    exact k
  · show Zm E YX8_of (d + 1) M [(2, vi l2)] 5 [vi (l1 * (gi M 97 71))] Q
    refine sX8_of_5 (d := d) M l2 (l1 * (gi M 97 71)) ?_
    exact k
theorem jX8_field {E : zE} {d : Nat} {Q : zO → zM → Prop} (M : zM) (l1 : Int32) (l2 : Int32) (l3 : Int32) (k : if l1 = (639 : Int32) then (Q (.inl (some (vi (((635640 : Int32) + (l2 * ((gi M 97 8) + (1 : Int32)))) + l3)))) M) else (Q (.inl (some (vi ((((l1 * (gi M 97 71)) * ((gi M 97 8) + (1 : Int32))) + (l2 * ((gi M 97 8) + (1 : Int32)))) + l3)))) M)) : Zm E YX8_field (d + 1) M [(0, vr (some (97, 1, 0))), (1, vi l1), (2, vi l2), (3, vi l3)] 0 [] Q := by
  refine sX8_field_0 (d := d) M l1 l2 l3 ?_
  refine sX8_fieldsAt_0 (d := d) M l1 ?_
  refine zite k (fun h6723 k => ?_) (fun h6723 k => ?_)
  · show Zm E YX8_field (d + 1) M [(0, vr (some (97, 1, 0))), (2, vi l2), (3, vi l3)] 5 [vi (635640 : Int32)] Q
    refine sX8_field_5 (d := d) M l2 l3 (635640 : Int32) ?_
    exact k
  · show Zm E YX8_field (d + 1) M [(0, vr (some (97, 1, 0))), (2, vi l2), (3, vi l3)] 5 [vi ((l1 * (gi M 97 71)) * ((gi M 97 8) + (1 : Int32)))] Q
    refine sX8_field_5 (d := d) M l2 l3 ((l1 * (gi M 97 71)) * ((gi M 97 8) + (1 : Int32))) ?_
    exact k
theorem jX8_fresh_2 {E : zE} {d : Nat} {Q : zO → zM → Prop} (M : zM) (l1 : Int32) (l2 : Int32) (k : vp_in (((635640 : Int32) + (l1 * ((gi M 97 8) + (1 : Int32)))) + l2) 647800 ∧ (Q (.inl (some (vi (((635640 : Int32) + (l1 * ((gi M 97 8) + (1 : Int32)))) + l2)))) (sl (sl (sl M 165 ((((635640 : Int32) + (l1 * ((gi M 97 8) + (1 : Int32)))) + l2)).toNatClampNeg (0 : Int64)) 166 ((((635640 : Int32) + (l1 * ((gi M 97 8) + (1 : Int32)))) + l2)).toNatClampNeg (0 : Int64)) 167 ((((635640 : Int32) + (l1 * ((gi M 97 8) + (1 : Int32)))) + l2)).toNatClampNeg (0 : Int64)))) : Zm E YX8_fresh_2 (d + 2) M [(0, vr (some (97, 1, 0))), (1, vi l1), (2, vi l2)] 0 [] Q := by
  refine sX8_fresh_2_0 (d := (d + 1)) M l1 l2 ?_
  refine jX8_field (d := d) M (639 : Int32) l1 l2 ?_
  refine zpos (show (639 : Int32) = (639 : Int32) from by decide) ?_
  show Zm E YX8_fresh_2 ((d + 1) + 1) M [(0, vr (some (97, 1, 0)))] 9 [vi (((635640 : Int32) + (l1 * ((gi M 97 8) + (1 : Int32)))) + l2)] Q
  refine sX8_fresh_2_9 (d := (d + 1)) M (((635640 : Int32) + (l1 * ((gi M 97 8) + (1 : Int32)))) + l2) ?_
  refine jX8_empty (d := (d + 1)) M (((635640 : Int32) + (l1 * ((gi M 97 8) + (1 : Int32)))) + l2) ?_
  refine zand k (fun h6728 k => ?_)
  show Zm E YX8_fresh_2 ((d + 1) + 1) (sl (sl (sl M 165 ((((635640 : Int32) + (l1 * ((gi M 97 8) + (1 : Int32)))) + l2)).toNatClampNeg (0 : Int64)) 166 ((((635640 : Int32) + (l1 * ((gi M 97 8) + (1 : Int32)))) + l2)).toNatClampNeg (0 : Int64)) 167 ((((635640 : Int32) + (l1 * ((gi M 97 8) + (1 : Int32)))) + l2)).toNatClampNeg (0 : Int64)) [(3, vi (((635640 : Int32) + (l1 * ((gi M 97 8) + (1 : Int32)))) + l2))] 15 [] Q
  refine sX8_fresh_2_15 (d := (d + 1)) (sl (sl (sl M 165 ((((635640 : Int32) + (l1 * ((gi M 97 8) + (1 : Int32)))) + l2)).toNatClampNeg (0 : Int64)) 166 ((((635640 : Int32) + (l1 * ((gi M 97 8) + (1 : Int32)))) + l2)).toNatClampNeg (0 : Int64)) 167 ((((635640 : Int32) + (l1 * ((gi M 97 8) + (1 : Int32)))) + l2)).toNatClampNeg (0 : Int64)) (((635640 : Int32) + (l1 * ((gi M 97 8) + (1 : Int32)))) + l2) ?_
  exact k
theorem jX8_addLabel {E : zE} {d : Nat} {Q : zO → zM → Prop} (M : zM) (l1 : Int32) (l2 : Int32) (k : if (64 : Int32) ≤ l2 then (vp_in l1 647800 ∧ (Q (.inl none) (sl M 167 (l1).toNatClampNeg ((gl M 167 (l1).toNatClampNeg) ||| (zls (1 : Int64) (l2 - (64 : Int32))))))) else (vp_in l1 647800 ∧ (Q (.inl none) (sl M 166 (l1).toNatClampNeg ((gl M 166 (l1).toNatClampNeg) ||| (zls (1 : Int64) l2)))))) : Zm E YX8_addLabel d M [(0, vr (some (97, 1, 0))), (1, vi l1), (2, vi l2)] 0 [] Q := by
  refine sX8_addLabel_0 (d := d) M l1 l2 ?_
  refine zite k (fun h6730 k => ?_) (fun h6730 k => ?_)
  · refine zand k (fun h6731 k => ?_)
    refine ⟨h6731, ?_⟩
    exact k
  · refine zand k (fun h6732 k => ?_)
    refine ⟨h6732, ?_⟩
    exact k
theorem iX8_beginWork_7 {E : zE} {d : Nat} {Q : zO → zM → Prop} (M : zM)  (k : vp_in (639 : Int32) 640 ∧ (Zm E YX8_beginWork (d + 1) (si (si M 171 ((639 : Int32)).toNatClampNeg (0 : Int32)) 175 ((639 : Int32)).toNatClampNeg (0 : Int32)) [(0, vr (some (97, 1, 0))), (1, vi (0 : Int32))] 27 [] Q)) : Zm E YX8_beginWork (d + 1) M [(0, vr (some (97, 1, 0)))] 7 [] Q := by
  refine sX8_beginWork_7 (d := d) M  ?_
  refine zand k (fun h6717 k => ?_)
  refine ⟨h6717, ?_⟩
  exact k
theorem iX8_beginWork_188 {E : zE} {d : Nat} {Q : zO → zM → Prop} (M : zM) (l1 : Int32) (k : vp_in (((635640 : Int32) + (((5 : Int32) + l1) * ((gi M 97 8) + (1 : Int32)))) + (4 : Int32)) 647800 ∧ (Zm E YX8_addString (d + 2) (sl (sl (sl M 165 ((((635640 : Int32) + (((5 : Int32) + l1) * ((gi M 97 8) + (1 : Int32)))) + (4 : Int32))).toNatClampNeg (0 : Int64)) 166 ((((635640 : Int32) + (((5 : Int32) + l1) * ((gi M 97 8) + (1 : Int32)))) + (4 : Int32))).toNatClampNeg (0 : Int64)) 167 ((((635640 : Int32) + (((5 : Int32) + l1) * ((gi M 97 8) + (1 : Int32)))) + (4 : Int32))).toNatClampNeg (0 : Int64)) (zargs 0 [vr (some (97, 1, 0)), vi (((635640 : Int32) + (((5 : Int32) + l1) * ((gi M 97 8) + (1 : Int32)))) + (4 : Int32)), vi ((10 : Int32) + l1)]) 0 [] (zma E YX8_beginWork ((d + 2) + 1) [(0, vr (some (97, 1, 0))), (1, vi l1)] 201 3 [] Q))) : Zm E YX8_beginWork (d + 3) M [(0, vr (some (97, 1, 0))), (1, vi l1)] 188 [] Q := by
  refine sX8_beginWork_188 (d := (d + 2)) M l1 ?_
  refine jX8_fresh_2 (d := d) M ((5 : Int32) + l1) (4 : Int32) ?_
  refine zand k (fun h6735 k => ?_)
  show Zm E YX8_beginWork ((d + 2) + 1) (sl (sl (sl M 165 ((((635640 : Int32) + (((5 : Int32) + l1) * ((gi M 97 8) + (1 : Int32)))) + (4 : Int32))).toNatClampNeg (0 : Int64)) 166 ((((635640 : Int32) + (((5 : Int32) + l1) * ((gi M 97 8) + (1 : Int32)))) + (4 : Int32))).toNatClampNeg (0 : Int64)) 167 ((((635640 : Int32) + (((5 : Int32) + l1) * ((gi M 97 8) + (1 : Int32)))) + (4 : Int32))).toNatClampNeg (0 : Int64)) [(0, vr (some (97, 1, 0))), (1, vi l1)] 197 [vi (((635640 : Int32) + (((5 : Int32) + l1) * ((gi M 97 8) + (1 : Int32)))) + (4 : Int32)), vr (some (97, 1, 0))] Q
  refine sX8_beginWork_197 (d := (d + 2)) (sl (sl (sl M 165 ((((635640 : Int32) + (((5 : Int32) + l1) * ((gi M 97 8) + (1 : Int32)))) + (4 : Int32))).toNatClampNeg (0 : Int64)) 166 ((((635640 : Int32) + (((5 : Int32) + l1) * ((gi M 97 8) + (1 : Int32)))) + (4 : Int32))).toNatClampNeg (0 : Int64)) 167 ((((635640 : Int32) + (((5 : Int32) + l1) * ((gi M 97 8) + (1 : Int32)))) + (4 : Int32))).toNatClampNeg (0 : Int64)) l1 (((635640 : Int32) + (((5 : Int32) + l1) * ((gi M 97 8) + (1 : Int32)))) + (4 : Int32)) ?_
  exact k
theorem iX8_beginWork_246 {E : zE} {d : Nat} {Q : zO → zM → Prop} (M : zM)  (k : Zm E YX8_addSort d M (zargs 0 [vr (some (97, 1, 0)), vi ((635000 : Int32) + (639 : Int32)), vi (1 : Int32)]) 0 [] (zma E YX8_beginWork (d + 1) [] 255 3 [] Q)) : Zm E YX8_beginWork (d + 1) M [(0, vr (some (97, 1, 0)))] 246 [] Q := by
  refine sX8_beginWork_246 (d := d) M  ?_
  refine sX8_thisAt_0 (d := d) M (639 : Int32) ?_
  show Zm E YX8_beginWork (d + 1) M [] 254 [vi ((635000 : Int32) + (639 : Int32)), vr (some (97, 1, 0))] Q
  refine sX8_beginWork_254 (d := d) M ((635000 : Int32) + (639 : Int32)) ?_
  exact k
theorem iX8_clearState_0 {E : zE} {d : Nat} {Q : zO → zM → Prop} (M : zM) (l1 : Int32) (k : if l1 = (639 : Int32) then (Zm E YX8_clearState (d + 1) M [(0, vr (some (97, 1, 0))), (1, vi l1), (2, vi (635640 : Int32)), (3, vi (0 : Int32))] 8 [] Q) else (Zm E YX8_clearState (d + 1) M [(0, vr (some (97, 1, 0))), (1, vi l1), (2, vi ((l1 * (gi M 97 71)) * ((gi M 97 8) + (1 : Int32)))), (3, vi (0 : Int32))] 8 [] Q)) : Zm E YX8_clearState (d + 1) M [(0, vr (some (97, 1, 0))), (1, vi l1)] 0 [] Q := by
  refine sX8_clearState_0 (d := d) M l1 ?_
  refine sX8_fieldsAt_0 (d := d) M l1 ?_
  refine zite k (fun h6739 k => ?_) (fun h6739 k => ?_)
  · show Zm E YX8_clearState (d + 1) M [(0, vr (some (97, 1, 0))), (1, vi l1)] 5 [vi (635640 : Int32)] Q
    refine sX8_clearState_5 (d := d) M l1 (635640 : Int32) ?_
    exact k
  · show Zm E YX8_clearState (d + 1) M [(0, vr (some (97, 1, 0))), (1, vi l1)] 5 [vi ((l1 * (gi M 97 71)) * ((gi M 97 8) + (1 : Int32)))] Q
    refine sX8_clearState_5 (d := d) M l1 ((l1 * (gi M 97 71)) * ((gi M 97 8) + (1 : Int32))) ?_
    exact k
theorem iX8_clearState_8 {E : zE} {d : Nat} {Q : zO → zM → Prop} (M : zM) (l1 : Int32) (l2 : Int32) (l3 : Int32) (k : if ((gi M 97 71) * ((gi M 97 8) + (1 : Int32))) ≤ l3 then (Zm E YX8_clearState (d + 1) M [(0, vr (some (97, 1, 0))), (1, vi l1), (3, vi (0 : Int32))] 38 [] Q) else (vp_in (l2 + l3) 647800 ∧ (Zm E YX8_clearState (d + 1) (sl (sl (sl M 165 ((l2 + l3)).toNatClampNeg (0 : Int64)) 166 ((l2 + l3)).toNatClampNeg (0 : Int64)) 167 ((l2 + l3)).toNatClampNeg (0 : Int64)) [(0, vr (some (97, 1, 0))), (1, vi l1), (2, vi l2), (3, vi (l3 + (1 : Int32)))] 8 [] Q))) : Zm E YX8_clearState (d + 1) M [(0, vr (some (97, 1, 0))), (1, vi l1), (2, vi l2), (3, vi l3)] 8 [] Q := by
  refine sX8_clearState_8 (d := d) M l1 l2 l3 ?_
  refine zite k (fun h6740 k => ?_) (fun h6740 k => ?_)
  · exact k
  · refine jX8_empty (d := d) M (l2 + l3) ?_
    refine zand k (fun h6741 k => ?_)
    show Zm E YX8_clearState (d + 1) (sl (sl (sl M 165 ((l2 + l3)).toNatClampNeg (0 : Int64)) 166 ((l2 + l3)).toNatClampNeg (0 : Int64)) 167 ((l2 + l3)).toNatClampNeg (0 : Int64)) [(0, vr (some (97, 1, 0))), (1, vi l1), (2, vi l2), (3, vi l3)] 30 [] Q
    refine sX8_clearState_30 (d := d) (sl (sl (sl M 165 ((l2 + l3)).toNatClampNeg (0 : Int64)) 166 ((l2 + l3)).toNatClampNeg (0 : Int64)) 167 ((l2 + l3)).toNatClampNeg (0 : Int64)) l1 l2 l3 ?_
    exact k
theorem iX8_clearState_38 {E : zE} {d : Nat} {Q : zO → zM → Prop} (M : zM) (l1 : Int32) (l3 : Int32) (k : if (gi M 97 71) ≤ l3 then (vp_in ((635000 : Int32) + l1) 647800 ∧ (vp_in l1 640 ∧ (Q (.inl none) (sl (sl (sl (sl (sl M 165 (((635000 : Int32) + l1)).toNatClampNeg (0 : Int64)) 166 (((635000 : Int32) + l1)).toNatClampNeg (0 : Int64)) 167 (((635000 : Int32) + l1)).toNatClampNeg (0 : Int64)) 173 (l1).toNatClampNeg (0 : Int64)) 174 (l1).toNatClampNeg (0 : Int64))))) else (if l1 = (639 : Int32) then (vp_in ((15000 : Int32) + l3) 15128 ∧ (Zm E YX8_clearState ((d + 1) + 1) (sl (sl (sl (sl (si (si M 178 (((15000 : Int32) + l3)).toNatClampNeg (vp_nar .boolean (0 : Int32))) 179 (((15000 : Int32) + l3)).toNatClampNeg (vp_nar .boolean (0 : Int32))) 180 (((15000 : Int32) + l3)).toNatClampNeg (0 : Int64)) 181 (((15000 : Int32) + l3)).toNatClampNeg (0 : Int64)) 182 (((15000 : Int32) + l3)).toNatClampNeg (0 : Int64)) 183 (((15000 : Int32) + l3)).toNatClampNeg (0 : Int64)) [(0, vr (some (97, 1, 0))), (1, vi l1), (3, vi (l3 + (1 : Int32)))] 38 [] Q)) else (vp_in ((l1 * (gi M 97 71)) + l3) 15128 ∧ (Zm E YX8_clearState ((d + 1) + 1) (sl (sl (sl (sl (si (si M 178 (((l1 * (gi M 97 71)) + l3)).toNatClampNeg (vp_nar .boolean (0 : Int32))) 179 (((l1 * (gi M 97 71)) + l3)).toNatClampNeg (vp_nar .boolean (0 : Int32))) 180 (((l1 * (gi M 97 71)) + l3)).toNatClampNeg (0 : Int64)) 181 (((l1 * (gi M 97 71)) + l3)).toNatClampNeg (0 : Int64)) 182 (((l1 * (gi M 97 71)) + l3)).toNatClampNeg (0 : Int64)) 183 (((l1 * (gi M 97 71)) + l3)).toNatClampNeg (0 : Int64)) [(0, vr (some (97, 1, 0))), (1, vi l1), (3, vi (l3 + (1 : Int32)))] 38 [] Q)))) : Zm E YX8_clearState (d + 2) M [(0, vr (some (97, 1, 0))), (1, vi l1), (3, vi l3)] 38 [] Q := by
  refine sX8_clearState_38 (d := (d + 1)) M l1 l3 ?_
  refine zite k (fun h6745 k => ?_) (fun h6745 k => ?_)
  · refine sX8_thisAt_0 (d := (d + 1)) M l1 ?_
    show Zm E YX8_clearState ((d + 1) + 1) M [(0, vr (some (97, 1, 0))), (1, vi l1)] 114 [vi ((635000 : Int32) + l1), vr (some (97, 1, 0))] Q
    refine sX8_clearState_114 (d := (d + 1)) M l1 ((635000 : Int32) + l1) ?_
    refine jX8_empty (d := (d + 1)) M ((635000 : Int32) + l1) ?_
    refine zand k (fun h6746 k => ?_)
    show Zm E YX8_clearState ((d + 1) + 1) (sl (sl (sl M 165 (((635000 : Int32) + l1)).toNatClampNeg (0 : Int64)) 166 (((635000 : Int32) + l1)).toNatClampNeg (0 : Int64)) 167 (((635000 : Int32) + l1)).toNatClampNeg (0 : Int64)) [(0, vr (some (97, 1, 0))), (1, vi l1)] 117 [] Q
    refine sX8_clearState_117 (d := (d + 1)) (sl (sl (sl M 165 (((635000 : Int32) + l1)).toNatClampNeg (0 : Int64)) 166 (((635000 : Int32) + l1)).toNatClampNeg (0 : Int64)) 167 (((635000 : Int32) + l1)).toNatClampNeg (0 : Int64)) l1 ?_
    refine zand k (fun h6747 k => ?_)
    refine ⟨h6747, ?_⟩
    exact k
  · refine jX8_of (d := d) M l1 l3 ?_
    refine zite k (fun h6748 k => ?_) (fun h6748 k => ?_)
    · show Zm E YX8_clearState ((d + 1) + 1) M [(0, vr (some (97, 1, 0))), (1, vi l1), (3, vi l3)] 52 [vi ((15000 : Int32) + l3)] Q
      refine sX8_clearState_52 (d := (d + 1)) M l1 l3 ((15000 : Int32) + l3) ?_
      refine zand k (fun h6749 k => ?_)
      refine ⟨h6749, ?_⟩
      refine ⟨h6749, ?_⟩
      refine ⟨h6749, ?_⟩
      refine ⟨h6749, ?_⟩
      refine ⟨h6749, ?_⟩
      exact k
    · show Zm E YX8_clearState ((d + 1) + 1) M [(0, vr (some (97, 1, 0))), (1, vi l1), (3, vi l3)] 52 [vi ((l1 * (gi M 97 71)) + l3)] Q
      refine sX8_clearState_52 (d := (d + 1)) M l1 l3 ((l1 * (gi M 97 71)) + l3) ?_
      refine zand k (fun h6750 k => ?_)
      refine ⟨h6750, ?_⟩
      refine ⟨h6750, ?_⟩
      refine ⟨h6750, ?_⟩
      refine ⟨h6750, ?_⟩
      refine ⟨h6750, ?_⟩
      exact k
theorem iX8_empty_0 {E : zE} {d : Nat} {Q : zO → zM → Prop} (M : zM) (l1 : Int32) (k : vp_in l1 647800 ∧ (Q (.inl none) (sl (sl (sl M 165 (l1).toNatClampNeg (0 : Int64)) 166 (l1).toNatClampNeg (0 : Int64)) 167 (l1).toNatClampNeg (0 : Int64)))) : Zm E YX8_empty d M [(0, vr (some (97, 1, 0))), (1, vi l1)] 0 [] Q := by
  refine sX8_empty_0 (d := d) M l1 ?_
  refine zand k (fun h6776 k => ?_)
  refine ⟨h6776, ?_⟩
  refine ⟨h6776, ?_⟩
  exact k
theorem iX8_field_0 {E : zE} {d : Nat} {Q : zO → zM → Prop} (M : zM) (l1 : Int32) (l2 : Int32) (l3 : Int32) (k : if l1 = (639 : Int32) then (Q (.inl (some (vi (((635640 : Int32) + (l2 * ((gi M 97 8) + (1 : Int32)))) + l3)))) M) else (Q (.inl (some (vi ((((l1 * (gi M 97 71)) * ((gi M 97 8) + (1 : Int32))) + (l2 * ((gi M 97 8) + (1 : Int32)))) + l3)))) M)) : Zm E YX8_field (d + 1) M [(0, vr (some (97, 1, 0))), (1, vi l1), (2, vi l2), (3, vi l3)] 0 [] Q := by
  refine sX8_field_0 (d := d) M l1 l2 l3 ?_
  refine sX8_fieldsAt_0 (d := d) M l1 ?_
  refine zite k (fun h6777 k => ?_) (fun h6777 k => ?_)
  · show Zm E YX8_field (d + 1) M [(0, vr (some (97, 1, 0))), (2, vi l2), (3, vi l3)] 5 [vi (635640 : Int32)] Q
    refine sX8_field_5 (d := d) M l2 l3 (635640 : Int32) ?_
    exact k
  · show Zm E YX8_field (d + 1) M [(0, vr (some (97, 1, 0))), (2, vi l2), (3, vi l3)] 5 [vi ((l1 * (gi M 97 71)) * ((gi M 97 8) + (1 : Int32)))] Q
    refine sX8_field_5 (d := d) M l2 l3 ((l1 * (gi M 97 71)) * ((gi M 97 8) + (1 : Int32))) ?_
    exact k
theorem iX8_findSorts_183 {E : zE} {d : Nat} {Q : zO → zM → Prop} (M : zM) (l1 : Int32) (k : if (gi M 97 46) ≤ l1 then (Q (.inl none) M) else (vp_in l1 600 ∧ (if (gi M 123 (l1).toNatClampNeg) = (8 : Int32) then (vp_in (gi M 124 (l1).toNatClampNeg) 20 ∧ (if (gi M 123 (l1).toNatClampNeg) = (16 : Int32) then (vp_in (gi M 125 (l1).toNatClampNeg) 20 ∧ (Zm E YX8_findSorts (d + 1) (si (si M 187 ((gi M 124 (l1).toNatClampNeg)).toNatClampNeg (vp_nar .boolean (1 : Int32))) 187 ((gi M 125 (l1).toNatClampNeg)).toNatClampNeg (vp_nar .boolean (0 : Int32))) [(0, vr (some (97, 1, 0))), (1, vi (l1 + (1 : Int32)))] 183 [] Q)) else (Zm E YX8_findSorts (d + 1) (si M 187 ((gi M 124 (l1).toNatClampNeg)).toNatClampNeg (vp_nar .boolean (1 : Int32))) [(0, vr (some (97, 1, 0))), (1, vi (l1 + (1 : Int32)))] 183 [] Q))) else (if (gi M 123 (l1).toNatClampNeg) = (7 : Int32) then (vp_in (gi M 124 (l1).toNatClampNeg) 20 ∧ (if (gi M 123 (l1).toNatClampNeg) = (16 : Int32) then (vp_in (gi M 125 (l1).toNatClampNeg) 20 ∧ (Zm E YX8_findSorts (d + 1) (si (si M 187 ((gi M 124 (l1).toNatClampNeg)).toNatClampNeg (vp_nar .boolean (0 : Int32))) 187 ((gi M 125 (l1).toNatClampNeg)).toNatClampNeg (vp_nar .boolean (0 : Int32))) [(0, vr (some (97, 1, 0))), (1, vi (l1 + (1 : Int32)))] 183 [] Q)) else (Zm E YX8_findSorts (d + 1) (si M 187 ((gi M 124 (l1).toNatClampNeg)).toNatClampNeg (vp_nar .boolean (0 : Int32))) [(0, vr (some (97, 1, 0))), (1, vi (l1 + (1 : Int32)))] 183 [] Q))) else (if (gi M 123 (l1).toNatClampNeg) = (16 : Int32) then (vp_in (gi M 125 (l1).toNatClampNeg) 20 ∧ (Zm E YX8_findSorts (d + 1) (si M 187 ((gi M 125 (l1).toNatClampNeg)).toNatClampNeg (vp_nar .boolean (0 : Int32))) [(0, vr (some (97, 1, 0))), (1, vi (l1 + (1 : Int32)))] 183 [] Q)) else (Zm E YX8_findSorts (d + 1) M [(0, vr (some (97, 1, 0))), (1, vi (l1 + (1 : Int32)))] 183 [] Q)))))) : Zm E YX8_findSorts (d + 1) M [(0, vr (some (97, 1, 0))), (1, vi l1)] 183 [] Q := by
  refine sX8_findSorts_183 (d := d) M l1 ?_
  refine zite k (fun h6780 k => ?_) (fun h6780 k => ?_)
  · exact k
  · refine zand k (fun h6781 k => ?_)
    refine zite k (fun h6782 k => ?_) (fun h6782 k => ?_)
    · refine sX8_findSorts_213 (d := d) M l1 ?_
      refine ⟨h6781, ?_⟩
      refine ⟨h6781, ?_⟩
      refine zpos h6782 ?_
      refine zand k (fun h6783 k => ?_)
      refine sX8_findSorts_240 (d := d) (si M 187 ((gi M 124 (l1).toNatClampNeg)).toNatClampNeg (vp_nar .boolean (1 : Int32))) l1 ?_
      refine ⟨h6781, ?_⟩
      refine zite k (fun h6784 k => ?_) (fun h6784 k => ?_)
      · refine ⟨h6781, ?_⟩
        exact k
      · exact k
    · refine ⟨h6781, ?_⟩
      refine zite k (fun h6786 k => ?_) (fun h6786 k => ?_)
      · refine sX8_findSorts_213 (d := d) M l1 ?_
        refine ⟨h6781, ?_⟩
        refine ⟨h6781, ?_⟩
        refine zneg h6782 ?_
        refine zand k (fun h6787 k => ?_)
        refine sX8_findSorts_240 (d := d) (si M 187 ((gi M 124 (l1).toNatClampNeg)).toNatClampNeg (vp_nar .boolean (0 : Int32))) l1 ?_
        refine ⟨h6781, ?_⟩
        refine zite k (fun h6788 k => ?_) (fun h6788 k => ?_)
        · refine ⟨h6781, ?_⟩
          exact k
        · exact k
      · refine sX8_findSorts_240 (d := d) M l1 ?_
        refine ⟨h6781, ?_⟩
        refine zite k (fun h6790 k => ?_) (fun h6790 k => ?_)
        · refine ⟨h6781, ?_⟩
          exact k
        · exact k
theorem iX8_findSorts_29 {E : zE} {d : Nat} {Q : zO → zM → Prop} (M : zM) (l1 : Int32) (s0 : Int32) (s1 : Int32) (k : vp_in s1 90 ∧ (vp_in l1 400 ∧ (if (gi M 101 (l1).toNatClampNeg) = (3 : Int32) then (vp_in ((60 : Int32) * l1) 24000 ∧ (if (gi M 100 (((60 : Int32) * l1)).toNatClampNeg) = (49 : Int32) then (vp_in (((60 : Int32) * l1) + (1 : Int32)) 24000 ∧ (if (gi M 100 ((((60 : Int32) * l1) + (1 : Int32))).toNatClampNeg) = (48 : Int32) then (vp_in (((60 : Int32) * l1) + (2 : Int32)) 24000 ∧ (if (gi M 100 ((((60 : Int32) * l1) + (2 : Int32))).toNatClampNeg) = (48 : Int32) then (vp_in l1 90 ∧ (if (gi M 101 (l1).toNatClampNeg) ≤ 0 then (Zm E YX8_findSorts (d + 1) (si (si M 185 (s1).toNatClampNeg (vp_nar .boolean s0)) 186 (l1).toNatClampNeg (vp_nar .boolean (1 : Int32))) [(0, vr (some (97, 1, 0))), (1, vi l1)] 115 [vi (0 : Int32)] Q) else (Zm E YX8_numberOfString d (si (si M 185 (s1).toNatClampNeg (vp_nar .boolean s0)) 186 (l1).toNatClampNeg (vp_nar .boolean (1 : Int32))) (zargs 0 [vr (some (97, 1, 0)), vi l1]) 0 [] (zma E YX8_findSorts (d + 1) [(0, vr (some (97, 1, 0))), (1, vi l1)] 108 3 [] Q)))) else (vp_in l1 90 ∧ (if (gi M 101 (l1).toNatClampNeg) ≤ 0 then (Zm E YX8_findSorts (d + 1) (si (si M 185 (s1).toNatClampNeg (vp_nar .boolean s0)) 186 (l1).toNatClampNeg (vp_nar .boolean (0 : Int32))) [(0, vr (some (97, 1, 0))), (1, vi l1)] 115 [vi (0 : Int32)] Q) else (Zm E YX8_numberOfString d (si (si M 185 (s1).toNatClampNeg (vp_nar .boolean s0)) 186 (l1).toNatClampNeg (vp_nar .boolean (0 : Int32))) (zargs 0 [vr (some (97, 1, 0)), vi l1]) 0 [] (zma E YX8_findSorts (d + 1) [(0, vr (some (97, 1, 0))), (1, vi l1)] 108 3 [] Q)))))) else (vp_in l1 90 ∧ (if (gi M 101 (l1).toNatClampNeg) ≤ 0 then (Zm E YX8_findSorts (d + 1) (si (si M 185 (s1).toNatClampNeg (vp_nar .boolean s0)) 186 (l1).toNatClampNeg (vp_nar .boolean (0 : Int32))) [(0, vr (some (97, 1, 0))), (1, vi l1)] 115 [vi (0 : Int32)] Q) else (Zm E YX8_numberOfString d (si (si M 185 (s1).toNatClampNeg (vp_nar .boolean s0)) 186 (l1).toNatClampNeg (vp_nar .boolean (0 : Int32))) (zargs 0 [vr (some (97, 1, 0)), vi l1]) 0 [] (zma E YX8_findSorts (d + 1) [(0, vr (some (97, 1, 0))), (1, vi l1)] 108 3 [] Q)))))) else (vp_in l1 90 ∧ (if (gi M 101 (l1).toNatClampNeg) ≤ 0 then (Zm E YX8_findSorts (d + 1) (si (si M 185 (s1).toNatClampNeg (vp_nar .boolean s0)) 186 (l1).toNatClampNeg (vp_nar .boolean (0 : Int32))) [(0, vr (some (97, 1, 0))), (1, vi l1)] 115 [vi (0 : Int32)] Q) else (Zm E YX8_numberOfString d (si (si M 185 (s1).toNatClampNeg (vp_nar .boolean s0)) 186 (l1).toNatClampNeg (vp_nar .boolean (0 : Int32))) (zargs 0 [vr (some (97, 1, 0)), vi l1]) 0 [] (zma E YX8_findSorts (d + 1) [(0, vr (some (97, 1, 0))), (1, vi l1)] 108 3 [] Q)))))) else (vp_in l1 90 ∧ (if (gi M 101 (l1).toNatClampNeg) ≤ 0 then (Zm E YX8_findSorts (d + 1) (si (si M 185 (s1).toNatClampNeg (vp_nar .boolean s0)) 186 (l1).toNatClampNeg (vp_nar .boolean (0 : Int32))) [(0, vr (some (97, 1, 0))), (1, vi l1)] 115 [vi (0 : Int32)] Q) else (Zm E YX8_numberOfString d (si (si M 185 (s1).toNatClampNeg (vp_nar .boolean s0)) 186 (l1).toNatClampNeg (vp_nar .boolean (0 : Int32))) (zargs 0 [vr (some (97, 1, 0)), vi l1]) 0 [] (zma E YX8_findSorts (d + 1) [(0, vr (some (97, 1, 0))), (1, vi l1)] 108 3 [] Q))))))) : Zm E YX8_findSorts (d + 1) M [(0, vr (some (97, 1, 0))), (1, vi l1)] 29 [vi s0, vi s1, vr (some (185, 104, 90))] Q := by
  refine sX8_findSorts_29 (d := d) M l1 s0 s1 ?_
  refine zand k (fun h6793 k => ?_)
  refine zand k (fun h6794 k => ?_)
  refine zite k (fun h6795 k => ?_) (fun h6795 k => ?_)
  · refine zand k (fun h6796 k => ?_)
    refine zite k (fun h6797 k => ?_) (fun h6797 k => ?_)
    · refine zand k (fun h6798 k => ?_)
      refine zite k (fun h6799 k => ?_) (fun h6799 k => ?_)
      · refine zand k (fun h6800 k => ?_)
        refine zite k (fun h6801 k => ?_) (fun h6801 k => ?_)
        · refine sX8_findSorts_96 (d := d) (si M 185 (s1).toNatClampNeg (vp_nar .boolean s0)) l1 (1 : Int32) l1 ?_
          refine zand k (fun h6802 k => ?_)
          refine ⟨h6794, ?_⟩
          exact k
        · refine sX8_findSorts_96 (d := d) (si M 185 (s1).toNatClampNeg (vp_nar .boolean s0)) l1 (0 : Int32) l1 ?_
          refine zand k (fun h6804 k => ?_)
          refine ⟨h6794, ?_⟩
          exact k
      · refine sX8_findSorts_96 (d := d) (si M 185 (s1).toNatClampNeg (vp_nar .boolean s0)) l1 (0 : Int32) l1 ?_
        refine zand k (fun h6806 k => ?_)
        refine ⟨h6794, ?_⟩
        exact k
    · refine sX8_findSorts_96 (d := d) (si M 185 (s1).toNatClampNeg (vp_nar .boolean s0)) l1 (0 : Int32) l1 ?_
      refine zand k (fun h6808 k => ?_)
      refine ⟨h6794, ?_⟩
      exact k
  · refine sX8_findSorts_96 (d := d) (si M 185 (s1).toNatClampNeg (vp_nar .boolean s0)) l1 (0 : Int32) l1 ?_
    refine zand k (fun h6810 k => ?_)
    refine ⟨h6794, ?_⟩
    exact k
theorem iX8_findSorts_115 {E : zE} {d : Nat} {Q : zO → zM → Prop} (M : zM) (l1 : Int32) (s0 : Int32) (k : vp_in l1 400 ∧ (if (gi M 101 (l1).toNatClampNeg) ≤ 0 then (vp_in l1 90 ∧ (Zm E YX8_findSorts (d + 1) (si (si M 97 11 (0 : Int32)) 184 (l1).toNatClampNeg (vp_nar .boolean (0 : Int32))) [(0, vr (some (97, 1, 0))), (1, vi (l1 + (1 : Int32)))] 2 [] Q)) else (if (gi M 97 113) = 0 then (vp_in l1 90 ∧ (Zm E YX8_findSorts (d + 1) (si (si M 97 11 (0 : Int32)) 184 (l1).toNatClampNeg (vp_nar .boolean (0 : Int32))) [(0, vr (some (97, 1, 0))), (1, vi (l1 + (1 : Int32)))] 2 [] Q)) else (Zm E YX8_putNumber d (si M 97 11 (0 : Int32)) (zargs 0 [vr (some (97, 1, 0)), vi s0]) 0 [] (zma E YX8_findSorts (d + 1) [(0, vr (some (97, 1, 0))), (1, vi l1), (3, vi (1 : Int32))] 149 3 [] Q))))) : Zm E YX8_findSorts (d + 1) M [(0, vr (some (97, 1, 0))), (1, vi l1)] 115 [vi s0] Q := by
  refine sX8_findSorts_115 (d := d) M l1 s0 ?_
  refine zand k (fun h6812 k => ?_)
  refine zite k (fun h6813 k => ?_) (fun h6813 k => ?_)
  · refine sX8_findSorts_137 (d := d) M l1 s0 (0 : Int32) ?_
    refine zpos (show (0 : Int32) = 0 from by decide) ?_
    refine sX8_findSorts_152 (d := d) (si M 97 11 (0 : Int32)) l1 (0 : Int32) ?_
    refine zpos (show (0 : Int32) = 0 from by decide) ?_
    exact k
  · refine zite k (fun h6815 k => ?_) (fun h6815 k => ?_)
    · refine sX8_findSorts_137 (d := d) M l1 s0 (0 : Int32) ?_
      refine zpos (show (0 : Int32) = 0 from by decide) ?_
      refine sX8_findSorts_152 (d := d) (si M 97 11 (0 : Int32)) l1 (0 : Int32) ?_
      refine zpos (show (0 : Int32) = 0 from by decide) ?_
      exact k
    · refine sX8_findSorts_137 (d := d) M l1 s0 (1 : Int32) ?_
      refine zneg (show ¬ ((1 : Int32) = 0) from by decide) ?_
      exact k
theorem iX8_flow_0 {E : zE} {d : Nat} {Q : zO → zM → Prop} (M : zM) (l1 : Int32) (k : vp_in l1 640 ∧ (if (gi M 168 (l1).toNatClampNeg) = 0 then (Zm E YX8_clearState d (si M 168 (l1).toNatClampNeg (vp_nar .boolean (1 : Int32))) (zargs 0 [vr (some (97, 1, 0)), vi l1]) 0 [] (zma E YX8_flow (d + 1) [(0, vr (some (97, 1, 0))), (1, vi l1), (2, vi (1 : Int32))] 28 3 [] Q)) else (if l1 = (639 : Int32) then (Zm E YX8_flow (d + 1) M [(0, vr (some (97, 1, 0))), (1, vi l1), (2, vi (0 : Int32)), (3, vi (635640 : Int32)), (4, vi (0 : Int32))] 183 [] Q) else (Zm E YX8_flow (d + 1) M [(0, vr (some (97, 1, 0))), (1, vi l1), (2, vi (0 : Int32)), (3, vi ((l1 * (gi M 97 71)) * ((gi M 97 8) + (1 : Int32)))), (4, vi (0 : Int32))] 183 [] Q)))) : Zm E YX8_flow (d + 1) M [(0, vr (some (97, 1, 0))), (1, vi l1)] 0 [] Q := by
  refine sX8_flow_0 (d := d) M l1 ?_
  refine zand k (fun h6822 k => ?_)
  refine zite k (fun h6823 k => ?_) (fun h6823 k => ?_)
  · refine sX8_flow_14 (d := d) M l1 (1 : Int32) ?_
    refine zneg (show ¬ ((1 : Int32) = 0) from by decide) ?_
    refine ⟨h6822, ?_⟩
    exact k
  · refine sX8_flow_14 (d := d) M l1 (0 : Int32) ?_
    refine zpos (show (0 : Int32) = 0 from by decide) ?_
    refine sX8_fieldsAt_0 (d := d) M l1 ?_
    refine zite k (fun h6824 k => ?_) (fun h6824 k => ?_)
    · show Zm E YX8_flow (d + 1) M [(0, vr (some (97, 1, 0))), (1, vi l1), (2, vi (0 : Int32))] 179 [vi (635640 : Int32)] Q
      refine sX8_flow_179 (d := d) M l1 (0 : Int32) (635640 : Int32) ?_
      exact k
    · show Zm E YX8_flow (d + 1) M [(0, vr (some (97, 1, 0))), (1, vi l1), (2, vi (0 : Int32))] 179 [vi ((l1 * (gi M 97 71)) * ((gi M 97 8) + (1 : Int32)))] Q
      refine sX8_flow_179 (d := d) M l1 (0 : Int32) ((l1 * (gi M 97 71)) * ((gi M 97 8) + (1 : Int32))) ?_
      exact k
theorem iX8_flow_31 {E : zE} {d : Nat} {Q : zO → zM → Prop} (M : zM) (l1 : Int32) (l2 : Int32) (k : vp_in (639 : Int32) 640 ∧ (vp_in l1 640 ∧ (Zm E YX8_flow (d + 1) (si (si (si M 171 (l1).toNatClampNeg (gi M 171 ((639 : Int32)).toNatClampNeg)) 172 (l1).toNatClampNeg (gi M 97 127)) 97 127 ((gi M 97 127) + (gi (si M 171 (l1).toNatClampNeg (gi M 171 ((639 : Int32)).toNatClampNeg)) 171 (l1).toNatClampNeg))) [(0, vr (some (97, 1, 0))), (1, vi l1), (2, vi l2), (3, vi (0 : Int32))] 72 [] Q))) : Zm E YX8_flow (d + 1) M [(0, vr (some (97, 1, 0))), (1, vi l1), (2, vi l2)] 31 [] Q := by
  refine sX8_flow_31 (d := d) M l1 l2 ?_
  refine zand k (fun h6825 k => ?_)
  refine zand k (fun h6826 k => ?_)
  refine ⟨h6826, ?_⟩
  refine ⟨h6826, ?_⟩
  exact k
theorem iX8_flow_72 {E : zE} {d : Nat} {Q : zO → zM → Prop} (M : zM) (l1 : Int32) (l2 : Int32) (l3 : Int32) (k : vp_in l1 640 ∧ (if (gi M 171 (l1).toNatClampNeg) ≤ l3 then (vp_in (639 : Int32) 640 ∧ (Zm E YX8_flow (d + 1) (si M 175 (l1).toNatClampNeg (gi M 175 ((639 : Int32)).toNatClampNeg)) [(0, vr (some (97, 1, 0))), (1, vi l1), (2, vi l2), (3, vi (0 : Int32))] 116 [] Q)) else (vp_in ((gi M 172 (l1).toNatClampNeg) + l3) 647800 ∧ (Zm E YX8_flow (d + 1) (sl (sl (sl M 165 (((gi M 172 (l1).toNatClampNeg) + l3)).toNatClampNeg (0 : Int64)) 166 (((gi M 172 (l1).toNatClampNeg) + l3)).toNatClampNeg (0 : Int64)) 167 (((gi M 172 (l1).toNatClampNeg) + l3)).toNatClampNeg (0 : Int64)) [(0, vr (some (97, 1, 0))), (1, vi l1), (2, vi l2), (3, vi (l3 + (1 : Int32)))] 72 [] Q)))) : Zm E YX8_flow (d + 1) M [(0, vr (some (97, 1, 0))), (1, vi l1), (2, vi l2), (3, vi l3)] 72 [] Q := by
  refine sX8_flow_72 (d := d) M l1 l2 l3 ?_
  refine zand k (fun h6828 k => ?_)
  refine zite k (fun h6829 k => ?_) (fun h6829 k => ?_)
  · refine zand k (fun h6830 k => ?_)
    refine ⟨h6828, ?_⟩
    exact k
  · refine ⟨h6828, ?_⟩
    refine jX8_empty (d := d) M ((gi M 172 (l1).toNatClampNeg) + l3) ?_
    refine zand k (fun h6831 k => ?_)
    show Zm E YX8_flow (d + 1) (sl (sl (sl M 165 (((gi M 172 (l1).toNatClampNeg) + l3)).toNatClampNeg (0 : Int64)) 166 (((gi M 172 (l1).toNatClampNeg) + l3)).toNatClampNeg (0 : Int64)) 167 (((gi M 172 (l1).toNatClampNeg) + l3)).toNatClampNeg (0 : Int64)) [(0, vr (some (97, 1, 0))), (1, vi l1), (2, vi l2), (3, vi l3)] 94 [] Q
    refine sX8_flow_94 (d := d) (sl (sl (sl M 165 (((gi M 172 (l1).toNatClampNeg) + l3)).toNatClampNeg (0 : Int64)) 166 (((gi M 172 (l1).toNatClampNeg) + l3)).toNatClampNeg (0 : Int64)) 167 (((gi M 172 (l1).toNatClampNeg) + l3)).toNatClampNeg (0 : Int64)) l1 l2 l3 ?_
    exact k
theorem iX8_flow_235 {E : zE} {d : Nat} {Q : zO → zM → Prop} (M : zM) (l1 : Int32) (l2 : Int32) (l4 : Int32) (k : vp_in l1 640 ∧ (if (gi M 171 (l1).toNatClampNeg) ≤ l4 then (Zm E YX8_join d M (zargs 0 [vr (some (97, 1, 0)), vi ((635000 : Int32) + (639 : Int32)), vi ((635000 : Int32) + l1)]) 0 [] (zma E YX8_flow (d + 1) [(0, vr (some (97, 1, 0))), (1, vi l1), (2, vi l2)] 302 3 [] Q)) else (vp_in (639 : Int32) 640 ∧ (Zm E YX8_join d M (zargs 0 [vr (some (97, 1, 0)), vi ((gi M 172 ((639 : Int32)).toNatClampNeg) + l4), vi ((gi M 172 (l1).toNatClampNeg) + l4)]) 0 [] (zma E YX8_flow (d + 1) [(0, vr (some (97, 1, 0))), (1, vi l1), (2, vi l2), (4, vi l4)] 267 3 [] Q))))) : Zm E YX8_flow (d + 1) M [(0, vr (some (97, 1, 0))), (1, vi l1), (2, vi l2), (4, vi l4)] 235 [] Q := by
  refine sX8_flow_235 (d := d) M l1 l2 l4 ?_
  refine zand k (fun h6832 k => ?_)
  refine zite k (fun h6833 k => ?_) (fun h6833 k => ?_)
  · refine sX8_thisAt_0 (d := d) M (639 : Int32) ?_
    show Zm E YX8_flow (d + 1) M [(0, vr (some (97, 1, 0))), (1, vi l1), (2, vi l2)] 297 [vi ((635000 : Int32) + (639 : Int32)), vr (some (97, 1, 0))] Q
    refine sX8_flow_297 (d := d) M l1 l2 ((635000 : Int32) + (639 : Int32)) ?_
    refine sX8_thisAt_0 (d := d) M l1 ?_
    show Zm E YX8_flow (d + 1) M [(0, vr (some (97, 1, 0))), (1, vi l1), (2, vi l2)] 302 [vi ((635000 : Int32) + l1), vi ((635000 : Int32) + (639 : Int32)), vr (some (97, 1, 0))] Q
    refine sX8_flow_302 (d := d) M l1 l2 ((635000 : Int32) + l1) ((635000 : Int32) + (639 : Int32)) ?_
    exact k
  · refine zand k (fun h6834 k => ?_)
    refine ⟨h6832, ?_⟩
    exact k
theorem iX8_flow_116 {E : zE} {d : Nat} {Q : zO → zM → Prop} (M : zM) (l1 : Int32) (l2 : Int32) (l3 : Int32) (k : vp_in l1 640 ∧ (if (gi M 175 (l1).toNatClampNeg) ≤ l3 then (if l1 = (639 : Int32) then (Zm E YX8_flow (d + 1) M [(0, vr (some (97, 1, 0))), (1, vi l1), (2, vi l2), (3, vi (635640 : Int32)), (4, vi (0 : Int32))] 183 [] Q) else (Zm E YX8_flow (d + 1) M [(0, vr (some (97, 1, 0))), (1, vi l1), (2, vi l2), (3, vi ((l1 * (gi M 97 71)) * ((gi M 97 8) + (1 : Int32)))), (4, vi (0 : Int32))] 183 [] Q)) else (vp_in ((25560 : Int32) + l3) 25600 ∧ (vp_in (((40 : Int32) * l1) + l3) 25600 ∧ (Zm E YX8_flow (d + 1) (si (si M 176 ((((40 : Int32) * l1) + l3)).toNatClampNeg (gi M 176 (((25560 : Int32) + l3)).toNatClampNeg)) 177 ((((40 : Int32) * l1) + l3)).toNatClampNeg (gi M 177 (((25560 : Int32) + l3)).toNatClampNeg)) [(0, vr (some (97, 1, 0))), (1, vi l1), (2, vi l2), (3, vi (l3 + (1 : Int32)))] 116 [] Q))))) : Zm E YX8_flow (d + 1) M [(0, vr (some (97, 1, 0))), (1, vi l1), (2, vi l2), (3, vi l3)] 116 [] Q := by
  refine sX8_flow_116 (d := d) M l1 l2 l3 ?_
  refine zand k (fun h6837 k => ?_)
  refine zite k (fun h6838 k => ?_) (fun h6838 k => ?_)
  · refine sX8_fieldsAt_0 (d := d) M l1 ?_
    refine zite k (fun h6839 k => ?_) (fun h6839 k => ?_)
    · show Zm E YX8_flow (d + 1) M [(0, vr (some (97, 1, 0))), (1, vi l1), (2, vi l2)] 179 [vi (635640 : Int32)] Q
      refine sX8_flow_179 (d := d) M l1 l2 (635640 : Int32) ?_
      exact k
    · show Zm E YX8_flow (d + 1) M [(0, vr (some (97, 1, 0))), (1, vi l1), (2, vi l2)] 179 [vi ((l1 * (gi M 97 71)) * ((gi M 97 8) + (1 : Int32)))] Q
      refine sX8_flow_179 (d := d) M l1 l2 ((l1 * (gi M 97 71)) * ((gi M 97 8) + (1 : Int32))) ?_
      exact k
  · refine zand k (fun h6840 k => ?_)
    refine zand k (fun h6841 k => ?_)
    refine ⟨h6840, ?_⟩
    refine ⟨h6841, ?_⟩
    exact k
theorem iX8_flow_317 {E : zE} {d : Nat} {Q : zO → zM → Prop} (M : zM) (l1 : Int32) (s0 : Int32) (k : if s0 = 0 then (vp_in (639 : Int32) 640 ∧ (vp_in l1 640 ∧ (if (lg_cmp ((gl M 173 ((639 : Int32)).toNatClampNeg) &&& ((gl M 173 (l1).toNatClampNeg) ^^^ (-1 : Int64))) (0 : Int64)) = 0 then (if (lg_cmp ((gl M 174 ((639 : Int32)).toNatClampNeg) &&& ((gl M 174 (l1).toNatClampNeg) ^^^ (-1 : Int64))) (0 : Int64)) = 0 then (Zm E YX8_flow (d + 1) (sl (sl M 173 (l1).toNatClampNeg ((gl M 173 (l1).toNatClampNeg) ||| (gl M 173 ((639 : Int32)).toNatClampNeg))) 174 (l1).toNatClampNeg ((gl M 174 (l1).toNatClampNeg) ||| (gl M 174 ((639 : Int32)).toNatClampNeg))) [(0, vr (some (97, 1, 0))), (1, vi l1), (2, vi (0 : Int32)), (4, vi (0 : Int32))] 421 [] Q) else (Zm E YX8_flow (d + 1) (sl (sl M 173 (l1).toNatClampNeg ((gl M 173 (l1).toNatClampNeg) ||| (gl M 173 ((639 : Int32)).toNatClampNeg))) 174 (l1).toNatClampNeg ((gl M 174 (l1).toNatClampNeg) ||| (gl M 174 ((639 : Int32)).toNatClampNeg))) [(0, vr (some (97, 1, 0))), (1, vi l1), (2, vi (1 : Int32)), (4, vi (0 : Int32))] 421 [] Q)) else (Zm E YX8_flow (d + 1) (sl (sl M 173 (l1).toNatClampNeg ((gl M 173 (l1).toNatClampNeg) ||| (gl M 173 ((639 : Int32)).toNatClampNeg))) 174 (l1).toNatClampNeg ((gl M 174 (l1).toNatClampNeg) ||| (gl M 174 ((639 : Int32)).toNatClampNeg))) [(0, vr (some (97, 1, 0))), (1, vi l1), (2, vi (1 : Int32)), (4, vi (0 : Int32))] 421 [] Q)))) else (vp_in l1 640 ∧ (vp_in (639 : Int32) 640 ∧ (Zm E YX8_flow (d + 1) (sl (sl M 173 (l1).toNatClampNeg ((gl M 173 (l1).toNatClampNeg) ||| (gl M 173 ((639 : Int32)).toNatClampNeg))) 174 (l1).toNatClampNeg ((gl M 174 (l1).toNatClampNeg) ||| (gl M 174 ((639 : Int32)).toNatClampNeg))) [(0, vr (some (97, 1, 0))), (1, vi l1), (2, vi (1 : Int32)), (4, vi (0 : Int32))] 421 [] Q)))) : Zm E YX8_flow (d + 1) M [(0, vr (some (97, 1, 0))), (1, vi l1)] 317 [vi s0] Q := by
  refine sX8_flow_317 (d := d) M l1 s0 ?_
  refine zite k (fun h6846 k => ?_) (fun h6846 k => ?_)
  · refine zand k (fun h6847 k => ?_)
    refine zand k (fun h6848 k => ?_)
    refine zite k (fun h6849 k => ?_) (fun h6849 k => ?_)
    · refine ⟨h6847, ?_⟩
      refine ⟨h6848, ?_⟩
      refine zite k (fun h6850 k => ?_) (fun h6850 k => ?_)
      · refine sX8_flow_375 (d := d) M l1 (0 : Int32) ?_
        refine ⟨h6848, ?_⟩
        refine ⟨h6847, ?_⟩
        refine ⟨h6848, ?_⟩
        refine ⟨h6848, ?_⟩
        refine ⟨h6847, ?_⟩
        refine ⟨h6848, ?_⟩
        exact k
      · refine sX8_flow_375 (d := d) M l1 (1 : Int32) ?_
        refine ⟨h6848, ?_⟩
        refine ⟨h6847, ?_⟩
        refine ⟨h6848, ?_⟩
        refine ⟨h6848, ?_⟩
        refine ⟨h6847, ?_⟩
        refine ⟨h6848, ?_⟩
        exact k
    · refine sX8_flow_375 (d := d) M l1 (1 : Int32) ?_
      refine ⟨h6848, ?_⟩
      refine ⟨h6847, ?_⟩
      refine ⟨h6848, ?_⟩
      refine ⟨h6848, ?_⟩
      refine ⟨h6847, ?_⟩
      refine ⟨h6848, ?_⟩
      exact k
  · refine sX8_flow_375 (d := d) M l1 (1 : Int32) ?_
    refine zand k (fun h6851 k => ?_)
    refine zand k (fun h6852 k => ?_)
    refine ⟨h6851, ?_⟩
    refine ⟨h6851, ?_⟩
    refine ⟨h6852, ?_⟩
    refine ⟨h6851, ?_⟩
    exact k
theorem iX8_flow_421 {E : zE} {d : Nat} {Q : zO → zM → Prop} (M : zM) (l1 : Int32) (l2 : Int32) (l4 : Int32) (k : if (gi M 97 71) ≤ l4 then (if l2 = 0 then (Q (.inl none) M) else (if (gi M 97 46) ≤ l1 then (Zm E YX8_flow ((d + 1) + 1) M [(0, vr (some (97, 1, 0))), (4, vi (0 : Int32))] 495 [] Q) else (vp_in l1 640 ∧ (Q (.inl none) (si M 169 (l1).toNatClampNeg (vp_nar .boolean (1 : Int32))))))) else (if l1 = (639 : Int32) then (Zm E YX8_joinLabel (d + 1) M (zargs 0 [vr (some (97, 1, 0)), vi ((15000 : Int32) + l4), vi ((15000 : Int32) + l4)]) 0 [] (zma E YX8_flow ((d + 1) + 1) [(0, vr (some (97, 1, 0))), (1, vi l1), (2, vi l2), (4, vi l4)] 447 3 [] Q)) else (Zm E YX8_joinLabel (d + 1) M (zargs 0 [vr (some (97, 1, 0)), vi ((15000 : Int32) + l4), vi ((l1 * (gi M 97 71)) + l4)]) 0 [] (zma E YX8_flow ((d + 1) + 1) [(0, vr (some (97, 1, 0))), (1, vi l1), (2, vi l2), (4, vi l4)] 447 3 [] Q)))) : Zm E YX8_flow (d + 2) M [(0, vr (some (97, 1, 0))), (1, vi l1), (2, vi l2), (4, vi l4)] 421 [] Q := by
  refine sX8_flow_421 (d := (d + 1)) M l1 l2 l4 ?_
  refine zite k (fun h6857 k => ?_) (fun h6857 k => ?_)
  · exact k
  · refine jX8_of (d := d) M (639 : Int32) l4 ?_
    refine zpos (show (639 : Int32) = (639 : Int32) from by decide) ?_
    show Zm E YX8_flow ((d + 1) + 1) M [(0, vr (some (97, 1, 0))), (1, vi l1), (2, vi l2), (4, vi l4)] 440 [vi ((15000 : Int32) + l4), vr (some (97, 1, 0))] Q
    refine sX8_flow_440 (d := (d + 1)) M l1 l2 l4 ((15000 : Int32) + l4) ?_
    refine jX8_of (d := d) M l1 l4 ?_
    refine zite k (fun h6861 k => ?_) (fun h6861 k => ?_)
    · show Zm E YX8_flow ((d + 1) + 1) M [(0, vr (some (97, 1, 0))), (1, vi l1), (2, vi l2), (4, vi l4)] 447 [vi ((15000 : Int32) + l4), vi ((15000 : Int32) + l4), vr (some (97, 1, 0))] Q
      refine sX8_flow_447 (d := (d + 1)) M l1 l2 l4 ((15000 : Int32) + l4) ((15000 : Int32) + l4) ?_
      exact k
    · show Zm E YX8_flow ((d + 1) + 1) M [(0, vr (some (97, 1, 0))), (1, vi l1), (2, vi l2), (4, vi l4)] 447 [vi ((l1 * (gi M 97 71)) + l4), vi ((15000 : Int32) + l4), vr (some (97, 1, 0))] Q
      refine sX8_flow_447 (d := (d + 1)) M l1 l2 l4 ((l1 * (gi M 97 71)) + l4) ((15000 : Int32) + l4) ?_
      exact k
theorem iX8_flow_495 {E : zE} {d : Nat} {Q : zO → zM → Prop} (M : zM) (l4 : Int32) (k : if (gi M 97 46) ≤ l4 then (Q (.inl none) M) else (vp_in l4 640 ∧ (if (gi M 169 (l4).toNatClampNeg) = 0 then (if (gi M 168 (l4).toNatClampNeg) = 0 then (Zm E YX8_flow (d + 1) (si M 169 (l4).toNatClampNeg (vp_nar .boolean (0 : Int32))) [(0, vr (some (97, 1, 0))), (4, vi (l4 + (1 : Int32)))] 495 [] Q) else (vp_in l4 600 ∧ (if (gi M 123 (l4).toNatClampNeg) = (15 : Int32) then (Zm E YX8_flow (d + 1) (si M 169 (l4).toNatClampNeg (vp_nar .boolean (1 : Int32))) [(0, vr (some (97, 1, 0))), (4, vi (l4 + (1 : Int32)))] 495 [] Q) else (if (gi M 123 (l4).toNatClampNeg) = (16 : Int32) then (Zm E YX8_flow (d + 1) (si M 169 (l4).toNatClampNeg (vp_nar .boolean (1 : Int32))) [(0, vr (some (97, 1, 0))), (4, vi (l4 + (1 : Int32)))] 495 [] Q) else (Zm E YX8_flow (d + 1) (si M 169 (l4).toNatClampNeg (vp_nar .boolean (0 : Int32))) [(0, vr (some (97, 1, 0))), (4, vi (l4 + (1 : Int32)))] 495 [] Q))))) else (Zm E YX8_flow (d + 1) (si M 169 (l4).toNatClampNeg (vp_nar .boolean (1 : Int32))) [(0, vr (some (97, 1, 0))), (4, vi (l4 + (1 : Int32)))] 495 [] Q)))) : Zm E YX8_flow (d + 1) M [(0, vr (some (97, 1, 0))), (4, vi l4)] 495 [] Q := by
  refine sX8_flow_495 (d := d) M l4 ?_
  refine zite k (fun h6913 k => ?_) (fun h6913 k => ?_)
  · exact k
  · refine zand k (fun h6914 k => ?_)
    refine zite k (fun h6915 k => ?_) (fun h6915 k => ?_)
    · refine ⟨h6914, ?_⟩
      refine zite k (fun h6916 k => ?_) (fun h6916 k => ?_)
      · refine ⟨h6914, ?_⟩
        exact k
      · refine zand k (fun h6917 k => ?_)
        refine zite k (fun h6918 k => ?_) (fun h6918 k => ?_)
        · refine ⟨h6914, ?_⟩
          exact k
        · refine ⟨h6917, ?_⟩
          refine zite k (fun h6919 k => ?_) (fun h6919 k => ?_)
          · refine ⟨h6914, ?_⟩
            exact k
          · refine ⟨h6914, ?_⟩
            exact k
    · refine ⟨h6914, ?_⟩
      exact k
theorem iX8_frame_0 {E : zE} {d : Nat} {Q : zO → zM → Prop} (M : zM) (l1 : Int32) (l2 : Int32) (k : if (gi M 97 73) = 0 then (Q (.inl (some (vi (-1 : Int32)))) (si M 97 0 (0 : Int32))) else (if l1 < (0 : Int32) then (Q (.inl (some (vi (-1 : Int32)))) (si M 97 0 (0 : Int32))) else (if ((gi M 97 92) - (1 : Int32)) < l1 then (Q (.inl (some (vi (-1 : Int32)))) (si M 97 0 (0 : Int32))) else (if l2 = 0 then (vp_in (((gi M 97 92) - (1 : Int32)) - l1) 24 ∧ (Q (.inl (some (vi (gi M 150 ((((gi M 97 92) - (1 : Int32)) - l1)).toNatClampNeg)))) (si M 97 0 (0 : Int32)))) else (if l2 = 1 then (vp_in (((gi M 97 92) - (1 : Int32)) - l1) 24 ∧ (Q (.inl (some (vi (gi M 154 ((((gi M 97 92) - (1 : Int32)) - l1)).toNatClampNeg)))) (si M 97 0 (0 : Int32)))) else (if l2 = 2 then (vp_in (((gi M 97 92) - (1 : Int32)) - l1) 24 ∧ (Q (.inl (some (vi (gi M 155 ((((gi M 97 92) - (1 : Int32)) - l1)).toNatClampNeg)))) (si M 97 0 (0 : Int32)))) else (if l2 = 3 then (vp_in (((gi M 97 92) - (1 : Int32)) - l1) 24 ∧ (Q (.inl (some (vi (gi M 151 ((((gi M 97 92) - (1 : Int32)) - l1)).toNatClampNeg)))) (si M 97 0 (0 : Int32)))) else (if l2 = 4 then (vp_in (((gi M 97 92) - (1 : Int32)) - l1) 24 ∧ (Q (.inl (some (vi (gi M 157 ((((gi M 97 92) - (1 : Int32)) - l1)).toNatClampNeg)))) (si M 97 0 (0 : Int32)))) else (Q (.inl (some (vi (-1 : Int32)))) (si M 97 0 (0 : Int32))))))))))) : Zm E YX8_frame (d + 1) M [(0, vr (some (97, 1, 0))), (1, vi l1), (2, vi l2)] 0 [] Q := by
  refine sX8_frame_0 (d := d) M l1 l2 ?_
  refine zite k (fun h6922 k => ?_) (fun h6922 k => ?_)
  · exact k
  · refine sX8_in_0 (d := d) (si M 97 0 (0 : Int32)) l1 (0 : Int32) ((gi M 97 92) - (1 : Int32)) ?_
    refine zite k (fun h6923 k => ?_) (fun h6923 k => ?_)
    · show Zm E YX8_frame (d + 1) (si M 97 0 (0 : Int32)) [(0, vr (some (97, 1, 0))), (1, vi l1), (2, vi l2)] 23 [vi (0 : Int32)] Q
      refine sX8_frame_23 (d := d) (si M 97 0 (0 : Int32)) l1 l2 (0 : Int32) ?_
      refine zpos (show (0 : Int32) = 0 from by decide) ?_
      exact k
    · refine zite k (fun h6924 k => ?_) (fun h6924 k => ?_)
      · show Zm E YX8_frame (d + 1) (si M 97 0 (0 : Int32)) [(0, vr (some (97, 1, 0))), (1, vi l1), (2, vi l2)] 23 [vi (0 : Int32)] Q
        refine sX8_frame_23 (d := d) (si M 97 0 (0 : Int32)) l1 l2 (0 : Int32) ?_
        refine zpos (show (0 : Int32) = 0 from by decide) ?_
        exact k
      · show Zm E YX8_frame (d + 1) (si M 97 0 (0 : Int32)) [(0, vr (some (97, 1, 0))), (1, vi l1), (2, vi l2)] 23 [vi (1 : Int32)] Q
        refine sX8_frame_23 (d := d) (si M 97 0 (0 : Int32)) l1 l2 (1 : Int32) ?_
        refine zneg (show ¬ ((1 : Int32) = 0) from by decide) ?_
        exact k
theorem iX8_fresh_2_0 {E : zE} {d : Nat} {Q : zO → zM → Prop} (M : zM) (l1 : Int32) (l2 : Int32) (k : vp_in (((635640 : Int32) + (l1 * ((gi M 97 8) + (1 : Int32)))) + l2) 647800 ∧ (Q (.inl (some (vi (((635640 : Int32) + (l1 * ((gi M 97 8) + (1 : Int32)))) + l2)))) (sl (sl (sl M 165 ((((635640 : Int32) + (l1 * ((gi M 97 8) + (1 : Int32)))) + l2)).toNatClampNeg (0 : Int64)) 166 ((((635640 : Int32) + (l1 * ((gi M 97 8) + (1 : Int32)))) + l2)).toNatClampNeg (0 : Int64)) 167 ((((635640 : Int32) + (l1 * ((gi M 97 8) + (1 : Int32)))) + l2)).toNatClampNeg (0 : Int64)))) : Zm E YX8_fresh_2 (d + 2) M [(0, vr (some (97, 1, 0))), (1, vi l1), (2, vi l2)] 0 [] Q := by
  refine sX8_fresh_2_0 (d := (d + 1)) M l1 l2 ?_
  refine jX8_field (d := d) M (639 : Int32) l1 l2 ?_
  refine zpos (show (639 : Int32) = (639 : Int32) from by decide) ?_
  show Zm E YX8_fresh_2 ((d + 1) + 1) M [(0, vr (some (97, 1, 0)))] 9 [vi (((635640 : Int32) + (l1 * ((gi M 97 8) + (1 : Int32)))) + l2)] Q
  refine sX8_fresh_2_9 (d := (d + 1)) M (((635640 : Int32) + (l1 * ((gi M 97 8) + (1 : Int32)))) + l2) ?_
  refine jX8_empty (d := (d + 1)) M (((635640 : Int32) + (l1 * ((gi M 97 8) + (1 : Int32)))) + l2) ?_
  refine zand k (fun h6935 k => ?_)
  show Zm E YX8_fresh_2 ((d + 1) + 1) (sl (sl (sl M 165 ((((635640 : Int32) + (l1 * ((gi M 97 8) + (1 : Int32)))) + l2)).toNatClampNeg (0 : Int64)) 166 ((((635640 : Int32) + (l1 * ((gi M 97 8) + (1 : Int32)))) + l2)).toNatClampNeg (0 : Int64)) 167 ((((635640 : Int32) + (l1 * ((gi M 97 8) + (1 : Int32)))) + l2)).toNatClampNeg (0 : Int64)) [(3, vi (((635640 : Int32) + (l1 * ((gi M 97 8) + (1 : Int32)))) + l2))] 15 [] Q
  refine sX8_fresh_2_15 (d := (d + 1)) (sl (sl (sl M 165 ((((635640 : Int32) + (l1 * ((gi M 97 8) + (1 : Int32)))) + l2)).toNatClampNeg (0 : Int64)) 166 ((((635640 : Int32) + (l1 * ((gi M 97 8) + (1 : Int32)))) + l2)).toNatClampNeg (0 : Int64)) 167 ((((635640 : Int32) + (l1 * ((gi M 97 8) + (1 : Int32)))) + l2)).toNatClampNeg (0 : Int64)) (((635640 : Int32) + (l1 * ((gi M 97 8) + (1 : Int32)))) + l2) ?_
  exact k
theorem iX8_goBack_53 {E : zE} {d : Nat} {Q : zO → zM → Prop} (M : zM)  (k : Q (.inl none) M) : Zm E YX8_goBack (d + 1) M [] 53 [] Q := by
  refine sX8_goBack_53 (d := d) M  ?_
  refine sX8_goBack_62 (d := d) M  ?_
  exact k
theorem iX8_goNext_0 {E : zE} {d : Nat} {Q : zO → zM → Prop} (M : zM) (l1 : Int32) (k : vp_in ((gi M 97 92) - (1 : Int32)) 24 ∧ (Zm E YX8_nextOf d M (zargs 0 [vr (some (97, 1, 0)), vi ((((400 : Int32) * ((gi M 97 92) - (1 : Int32))) + (gi M 155 (((gi M 97 92) - (1 : Int32))).toNatClampNeg)) - (1 : Int32))]) 0 [] (zma E YX8_goNext (d + 1) [(0, vr (some (97, 1, 0))), (1, vi l1)] 7 3 [] Q))) : Zm E YX8_goNext (d + 1) M [(0, vr (some (97, 1, 0))), (1, vi l1)] 0 [] Q := by
  refine sX8_goNext_0 (d := d) M l1 ?_
  refine sX8_top_0 (d := d) M  ?_
  refine zand k (fun h6940 k => ?_)
  show Zm E YX8_goNext (d + 1) M [(0, vr (some (97, 1, 0))), (1, vi l1)] 5 [vi (((400 : Int32) * ((gi M 97 92) - (1 : Int32))) + (gi M 155 (((gi M 97 92) - (1 : Int32))).toNatClampNeg)), vr (some (97, 1, 0))] Q
  refine sX8_goNext_5 (d := d) M l1 (((400 : Int32) * ((gi M 97 92) - (1 : Int32))) + (gi M 155 (((gi M 97 92) - (1 : Int32))).toNatClampNeg)) ?_
  exact k
theorem iX8_goNext_10 {E : zE} {d : Nat} {Q : zO → zM → Prop} (M : zM) (l1 : Int32) (s0 : Int32) (k : if s0 = (-1 : Int32) then (vp_in ((gi M 97 92) - (1 : Int32)) 24 ∧ (Q (.inl none) (si (si M 155 (((gi M 97 92) - (1 : Int32))).toNatClampNeg ((gi M 155 (((gi M 97 92) - (1 : Int32))).toNatClampNeg) - (1 : Int32))) 154 (((gi M 97 92) - (1 : Int32))).toNatClampNeg l1))) else (vp_in ((gi M 97 92) - (1 : Int32)) 24 ∧ (vp_in s0 3000 ∧ (vp_in ((((400 : Int32) * ((gi M 97 92) - (1 : Int32))) + (gi M 155 (((gi M 97 92) - (1 : Int32))).toNatClampNeg)) - (1 : Int32)) 9600 ∧ (Zm E YX8_push d (si M 162 (((((400 : Int32) * ((gi M 97 92) - (1 : Int32))) + (gi M 155 (((gi M 97 92) - (1 : Int32))).toNatClampNeg)) - (1 : Int32))).toNatClampNeg (gi M 148 (s0).toNatClampNeg)) (zargs 0 [vr (some (97, 1, 0)), vi (6 : Int32), vi (gi M 145 (s0).toNatClampNeg)]) 0 [] (zma E YX8_goNext (d + 1) [(0, vr (some (97, 1, 0)))] 60 3 [] Q)))))) : Zm E YX8_goNext (d + 1) M [(0, vr (some (97, 1, 0))), (1, vi l1)] 10 [vi s0] Q := by
  refine sX8_goNext_10 (d := d) M l1 s0 ?_
  refine zite k (fun h6941 k => ?_) (fun h6941 k => ?_)
  · refine jX8_drop (d := d) M (1 : Int32) ?_
    refine zand k (fun h6942 k => ?_)
    show Zm E YX8_goNext (d + 1) (si M 155 (((gi M 97 92) - (1 : Int32))).toNatClampNeg ((gi M 155 (((gi M 97 92) - (1 : Int32))).toNatClampNeg) - (1 : Int32))) [(0, vr (some (97, 1, 0))), (1, vi l1)] 21 [] Q
    refine sX8_goNext_21 (d := d) (si M 155 (((gi M 97 92) - (1 : Int32))).toNatClampNeg ((gi M 155 (((gi M 97 92) - (1 : Int32))).toNatClampNeg) - (1 : Int32))) l1 ?_
    refine ⟨h6942, ?_⟩
    exact k
  · refine sX8_top_0 (d := d) M  ?_
    refine zand k (fun h6943 k => ?_)
    show Zm E YX8_goNext (d + 1) M [(0, vr (some (97, 1, 0))), (2, vi s0)] 42 [vi (((400 : Int32) * ((gi M 97 92) - (1 : Int32))) + (gi M 155 (((gi M 97 92) - (1 : Int32))).toNatClampNeg)), vr (some (162, 100, 9600))] Q
    refine sX8_goNext_42 (d := d) M s0 (((400 : Int32) * ((gi M 97 92) - (1 : Int32))) + (gi M 155 (((gi M 97 92) - (1 : Int32))).toNatClampNeg)) ?_
    refine zand k (fun h6944 k => ?_)
    refine zand k (fun h6945 k => ?_)
    refine ⟨h6944, ?_⟩
    exact k
theorem iX8_goNext_63 {E : zE} {d : Nat} {Q : zO → zM → Prop} (M : zM)  (k : vp_in ((gi M 97 92) - (1 : Int32)) 24 ∧ (Q (.inl none) (si M 154 (((gi M 97 92) - (1 : Int32))).toNatClampNeg ((gi M 154 (((gi M 97 92) - (1 : Int32))).toNatClampNeg) + (1 : Int32))))) : Zm E YX8_goNext (d + 1) M [(0, vr (some (97, 1, 0)))] 63 [] Q := by
  refine sX8_goNext_63 (d := d) M  ?_
  refine jX8_goOn (d := d) M  ?_
  refine zand k (fun h6946 k => ?_)
  show Zm E YX8_goNext (d + 1) (si M 154 (((gi M 97 92) - (1 : Int32))).toNatClampNeg ((gi M 154 (((gi M 97 92) - (1 : Int32))).toNatClampNeg) + (1 : Int32))) [] 67 [] Q
  refine sX8_goNext_67 (d := d) (si M 154 (((gi M 97 92) - (1 : Int32))).toNatClampNeg ((gi M 154 (((gi M 97 92) - (1 : Int32))).toNatClampNeg) + (1 : Int32)))  ?_
  exact k
theorem iX8_hasField_0 {E : zE} {d : Nat} {Q : zO → zM → Prop} (M : zM) (l1 : Int32) (l2 : Int32) (l3 : Int32) (k : vp_in (((635640 : Int32) + (l1 * ((gi M 97 8) + (1 : Int32)))) + l2) 647800 ∧ (Zm E YX8_addLabel (d + 2) (sl (sl (sl M 165 ((((635640 : Int32) + (l1 * ((gi M 97 8) + (1 : Int32)))) + l2)).toNatClampNeg (0 : Int64)) 166 ((((635640 : Int32) + (l1 * ((gi M 97 8) + (1 : Int32)))) + l2)).toNatClampNeg (0 : Int64)) 167 ((((635640 : Int32) + (l1 * ((gi M 97 8) + (1 : Int32)))) + l2)).toNatClampNeg (0 : Int64)) (zargs 0 [vr (some (97, 1, 0)), vi (((635640 : Int32) + (l1 * ((gi M 97 8) + (1 : Int32)))) + l2), vi l3]) 0 [] (zma E YX8_hasField ((d + 2) + 1) [] 8 3 [] Q))) : Zm E YX8_hasField (d + 3) M [(0, vr (some (97, 1, 0))), (1, vi l1), (2, vi l2), (3, vi l3)] 0 [] Q := by
  refine sX8_hasField_0 (d := (d + 2)) M l1 l2 l3 ?_
  refine jX8_fresh_2 (d := d) M l1 l2 ?_
  refine zand k (fun h6948 k => ?_)
  show Zm E YX8_hasField ((d + 2) + 1) (sl (sl (sl M 165 ((((635640 : Int32) + (l1 * ((gi M 97 8) + (1 : Int32)))) + l2)).toNatClampNeg (0 : Int64)) 166 ((((635640 : Int32) + (l1 * ((gi M 97 8) + (1 : Int32)))) + l2)).toNatClampNeg (0 : Int64)) 167 ((((635640 : Int32) + (l1 * ((gi M 97 8) + (1 : Int32)))) + l2)).toNatClampNeg (0 : Int64)) [(3, vi l3)] 7 [vi (((635640 : Int32) + (l1 * ((gi M 97 8) + (1 : Int32)))) + l2), vr (some (97, 1, 0))] Q
  refine sX8_hasField_7 (d := (d + 2)) (sl (sl (sl M 165 ((((635640 : Int32) + (l1 * ((gi M 97 8) + (1 : Int32)))) + l2)).toNatClampNeg (0 : Int64)) 166 ((((635640 : Int32) + (l1 * ((gi M 97 8) + (1 : Int32)))) + l2)).toNatClampNeg (0 : Int64)) 167 ((((635640 : Int32) + (l1 * ((gi M 97 8) + (1 : Int32)))) + l2)).toNatClampNeg (0 : Int64)) l3 (((635640 : Int32) + (l1 * ((gi M 97 8) + (1 : Int32)))) + l2) ?_
  exact k
theorem iX8_instruction_0 {E : zE} {d : Nat} {Q : zO → zM → Prop} (M : zM) (l1 : Int32) (l2 : Int32) (k : if (gi M 97 72) = 0 then (Q (.inl (some (vi (-1 : Int32)))) (si M 97 0 (0 : Int32))) else (if l1 < (0 : Int32) then (Q (.inl (some (vi (-1 : Int32)))) (si M 97 0 (0 : Int32))) else (if ((gi M 97 46) - (1 : Int32)) < l1 then (Q (.inl (some (vi (-1 : Int32)))) (si M 97 0 (0 : Int32))) else (if l2 < (0 : Int32) then (Q (.inl (some (vi (-1 : Int32)))) (si M 97 0 (0 : Int32))) else (if (3 : Int32) < l2 then (Q (.inl (some (vi (-1 : Int32)))) (si M 97 0 (0 : Int32))) else (if l2 = 0 then (vp_in l1 600 ∧ (Q (.inl (some (vi (gi M 123 (l1).toNatClampNeg)))) (si M 97 0 (0 : Int32)))) else (if l2 = (1 : Int32) then (vp_in l1 600 ∧ (Q (.inl (some (vi (gi M 124 (l1).toNatClampNeg)))) (si M 97 0 (0 : Int32)))) else (if l2 = (2 : Int32) then (vp_in l1 600 ∧ (Q (.inl (some (vi (gi M 125 (l1).toNatClampNeg)))) (si M 97 0 (0 : Int32)))) else (vp_in l1 600 ∧ (Q (.inl (some (vi (gi M 126 (l1).toNatClampNeg)))) (si M 97 0 (0 : Int32)))))))))))) : Zm E YX8_instruction (d + 1) M [(0, vr (some (97, 1, 0))), (1, vi l1), (2, vi l2)] 0 [] Q := by
  refine sX8_instruction_0 (d := d) M l1 l2 ?_
  refine zite k (fun h6950 k => ?_) (fun h6950 k => ?_)
  · exact k
  · refine sX8_in_0 (d := d) (si M 97 0 (0 : Int32)) l1 (0 : Int32) ((gi M 97 46) - (1 : Int32)) ?_
    refine zite k (fun h6951 k => ?_) (fun h6951 k => ?_)
    · show Zm E YX8_instruction (d + 1) (si M 97 0 (0 : Int32)) [(0, vr (some (97, 1, 0))), (1, vi l1), (2, vi l2)] 23 [vi (0 : Int32)] Q
      refine sX8_instruction_23 (d := d) (si M 97 0 (0 : Int32)) l1 l2 (0 : Int32) ?_
      refine zpos (show (0 : Int32) = 0 from by decide) ?_
      exact k
    · refine zite k (fun h6952 k => ?_) (fun h6952 k => ?_)
      · show Zm E YX8_instruction (d + 1) (si M 97 0 (0 : Int32)) [(0, vr (some (97, 1, 0))), (1, vi l1), (2, vi l2)] 23 [vi (0 : Int32)] Q
        refine sX8_instruction_23 (d := d) (si M 97 0 (0 : Int32)) l1 l2 (0 : Int32) ?_
        refine zpos (show (0 : Int32) = 0 from by decide) ?_
        exact k
      · show Zm E YX8_instruction (d + 1) (si M 97 0 (0 : Int32)) [(0, vr (some (97, 1, 0))), (1, vi l1), (2, vi l2)] 23 [vi (1 : Int32)] Q
        refine sX8_instruction_23 (d := d) (si M 97 0 (0 : Int32)) l1 l2 (1 : Int32) ?_
        refine zneg (show ¬ ((1 : Int32) = 0) from by decide) ?_
        refine sX8_in_0 (d := d) (si M 97 0 (0 : Int32)) l2 (0 : Int32) (3 : Int32) ?_
        refine zite k (fun h6953 k => ?_) (fun h6953 k => ?_)
        · show Zm E YX8_instruction (d + 1) (si M 97 0 (0 : Int32)) [(0, vr (some (97, 1, 0))), (1, vi l1), (2, vi l2)] 32 [vi (0 : Int32)] Q
          refine sX8_instruction_32 (d := d) (si M 97 0 (0 : Int32)) l1 l2 (0 : Int32) ?_
          refine zpos (show (0 : Int32) = 0 from by decide) ?_
          exact k
        · refine zite k (fun h6954 k => ?_) (fun h6954 k => ?_)
          · show Zm E YX8_instruction (d + 1) (si M 97 0 (0 : Int32)) [(0, vr (some (97, 1, 0))), (1, vi l1), (2, vi l2)] 32 [vi (0 : Int32)] Q
            refine sX8_instruction_32 (d := d) (si M 97 0 (0 : Int32)) l1 l2 (0 : Int32) ?_
            refine zpos (show (0 : Int32) = 0 from by decide) ?_
            exact k
          · show Zm E YX8_instruction (d + 1) (si M 97 0 (0 : Int32)) [(0, vr (some (97, 1, 0))), (1, vi l1), (2, vi l2)] 32 [vi (1 : Int32)] Q
            refine sX8_instruction_32 (d := d) (si M 97 0 (0 : Int32)) l1 l2 (1 : Int32) ?_
            refine zneg (show ¬ ((1 : Int32) = 0) from by decide) ?_
            exact k
theorem iX8_join_49 {E : zE} {d : Nat} {Q : zO → zM → Prop} (M : zM) (l1 : Int32) (l2 : Int32) (l3 : Int32) (l4 : Int32) (l5 : Int32) (k : if ((l3 &&& l4) &&& (128 : Int32)) = 0 then (if (l5 &&& (64 : Int32)) = 0 then (if (l5 &&& (256 : Int32)) = 0 then (Zm E YX8_join (d + 1) M [(0, vr (some (97, 1, 0))), (1, vi l1), (2, vi l2), (3, vi l3), (5, vi l5)] 113 [] Q) else (Zm E YX8_join (d + 1) M [(0, vr (some (97, 1, 0))), (1, vi l1), (2, vi l2), (3, vi l3), (5, vi (l5 &&& (-129 : Int32)))] 113 [] Q)) else (if ((l5 &&& (-33 : Int32)) &&& (256 : Int32)) = 0 then (Zm E YX8_join (d + 1) M [(0, vr (some (97, 1, 0))), (1, vi l1), (2, vi l2), (3, vi l3), (5, vi (l5 &&& (-33 : Int32)))] 113 [] Q) else (Zm E YX8_join (d + 1) M [(0, vr (some (97, 1, 0))), (1, vi l1), (2, vi l2), (3, vi l3), (5, vi ((l5 &&& (-33 : Int32)) &&& (-129 : Int32)))] 113 [] Q))) else (vp_in l2 647800 ∧ (vp_in l1 647800 ∧ (if (((zlr (gl M 165 (l2).toNatClampNeg) (10 : Int32)) &&& (127 : Int64))).toInt32 = (((zlr (gl M 165 (l1).toNatClampNeg) (10 : Int32)) &&& (127 : Int64))).toInt32 then (if (l5 &&& (64 : Int32)) = 0 then (if (l5 &&& (256 : Int32)) = 0 then (Zm E YX8_join (d + 1) M [(0, vr (some (97, 1, 0))), (1, vi l1), (2, vi l2), (3, vi l3), (5, vi l5)] 113 [] Q) else (Zm E YX8_join (d + 1) M [(0, vr (some (97, 1, 0))), (1, vi l1), (2, vi l2), (3, vi l3), (5, vi (l5 &&& (-129 : Int32)))] 113 [] Q)) else (if ((l5 &&& (-33 : Int32)) &&& (256 : Int32)) = 0 then (Zm E YX8_join (d + 1) M [(0, vr (some (97, 1, 0))), (1, vi l1), (2, vi l2), (3, vi l3), (5, vi (l5 &&& (-33 : Int32)))] 113 [] Q) else (Zm E YX8_join (d + 1) M [(0, vr (some (97, 1, 0))), (1, vi l1), (2, vi l2), (3, vi l3), (5, vi ((l5 &&& (-33 : Int32)) &&& (-129 : Int32)))] 113 [] Q))) else (if ((l5 ||| (256 : Int32)) &&& (64 : Int32)) = 0 then (if ((l5 ||| (256 : Int32)) &&& (256 : Int32)) = 0 then (Zm E YX8_join (d + 1) M [(0, vr (some (97, 1, 0))), (1, vi l1), (2, vi l2), (3, vi l3), (5, vi (l5 ||| (256 : Int32)))] 113 [] Q) else (Zm E YX8_join (d + 1) M [(0, vr (some (97, 1, 0))), (1, vi l1), (2, vi l2), (3, vi l3), (5, vi ((l5 ||| (256 : Int32)) &&& (-129 : Int32)))] 113 [] Q)) else (if (((l5 ||| (256 : Int32)) &&& (-33 : Int32)) &&& (256 : Int32)) = 0 then (Zm E YX8_join (d + 1) M [(0, vr (some (97, 1, 0))), (1, vi l1), (2, vi l2), (3, vi l3), (5, vi ((l5 ||| (256 : Int32)) &&& (-33 : Int32)))] 113 [] Q) else (Zm E YX8_join (d + 1) M [(0, vr (some (97, 1, 0))), (1, vi l1), (2, vi l2), (3, vi l3), (5, vi (((l5 ||| (256 : Int32)) &&& (-33 : Int32)) &&& (-129 : Int32)))] 113 [] Q))))))) : Zm E YX8_join (d + 1) M [(0, vr (some (97, 1, 0))), (1, vi l1), (2, vi l2), (3, vi l3), (4, vi l4), (5, vi l5)] 49 [] Q := by
  refine sX8_join_49 (d := d) M l1 l2 l3 l4 l5 ?_
  refine zite k (fun h7304 k => ?_) (fun h7304 k => ?_)
  · refine sX8_join_81 (d := d) M l1 l2 l3 l5 ?_
    refine zite k (fun h7305 k => ?_) (fun h7305 k => ?_)
    · refine sX8_join_96 (d := d) M l1 l2 l3 l5 ?_
      exact k
    · refine sX8_join_96 (d := d) M l1 l2 l3 (l5 &&& (-33 : Int32)) ?_
      exact k
  · refine sX8_name_0 (d := d) M l2 ?_
    refine zand k (fun h7308 k => ?_)
    show Zm E YX8_join (d + 1) M [(0, vr (some (97, 1, 0))), (1, vi l1), (2, vi l2), (3, vi l3), (5, vi l5)] 65 [vi (((zlr (gl M 165 (l2).toNatClampNeg) (10 : Int32)) &&& (127 : Int64))).toInt32] Q
    refine sX8_join_65 (d := d) M l1 l2 l3 l5 ((((zlr (gl M 165 (l2).toNatClampNeg) (10 : Int32)) &&& (127 : Int64))).toInt32) ?_
    refine sX8_name_0 (d := d) M l1 ?_
    refine zand k (fun h7309 k => ?_)
    show Zm E YX8_join (d + 1) M [(0, vr (some (97, 1, 0))), (1, vi l1), (2, vi l2), (3, vi l3), (5, vi l5)] 70 [vi (((zlr (gl M 165 (l1).toNatClampNeg) (10 : Int32)) &&& (127 : Int64))).toInt32, vi (((zlr (gl M 165 (l2).toNatClampNeg) (10 : Int32)) &&& (127 : Int64))).toInt32] Q
    refine sX8_join_70 (d := d) M l1 l2 l3 l5 ((((zlr (gl M 165 (l1).toNatClampNeg) (10 : Int32)) &&& (127 : Int64))).toInt32) ((((zlr (gl M 165 (l2).toNatClampNeg) (10 : Int32)) &&& (127 : Int64))).toInt32) ?_
    refine zite k (fun h7310 k => ?_) (fun h7310 k => ?_)
    · refine sX8_join_81 (d := d) M l1 l2 l3 l5 ?_
      refine zite k (fun h7311 k => ?_) (fun h7311 k => ?_)
      · refine sX8_join_96 (d := d) M l1 l2 l3 l5 ?_
        exact k
      · refine sX8_join_96 (d := d) M l1 l2 l3 (l5 &&& (-33 : Int32)) ?_
        exact k
    · refine sX8_join_81 (d := d) M l1 l2 l3 (l5 ||| (256 : Int32)) ?_
      refine zite k (fun h7314 k => ?_) (fun h7314 k => ?_)
      · refine sX8_join_96 (d := d) M l1 l2 l3 (l5 ||| (256 : Int32)) ?_
        exact k
      · refine sX8_join_96 (d := d) M l1 l2 l3 ((l5 ||| (256 : Int32)) &&& (-33 : Int32)) ?_
        exact k
theorem iX8_join_181 {E : zE} {d : Nat} {Q : zO → zM → Prop} (M : zM) (l1 : Int32) (l2 : Int32) (l3 : Int32) (l5 : Int32) (l6 : Int32) (s0 : Int32) (k : vp_in l2 647800 ∧ (vp_in l1 647800 ∧ (if l5 = l3 then (if (lg_cmp ((gl M 166 (l2).toNatClampNeg) ||| (gl M 166 (l1).toNatClampNeg)) (gl M 166 (l2).toNatClampNeg)) = 0 then (if (lg_cmp ((gl M 167 (l2).toNatClampNeg) ||| (gl M 167 (l1).toNatClampNeg)) (gl M 167 (l2).toNatClampNeg)) = 0 then ((narrow .boolean (.int (0 : Int32)) = .int (0 : Int32)) ∧ (Q (.inl (some (vi (0 : Int32)))) (sl (sl (sl M 165 (l2).toNatClampNeg (((zls (l6).toInt64 (32 : Int32)) ||| (zls (s0).toInt64 (10 : Int32))) ||| (l5).toInt64)) 166 (l2).toNatClampNeg ((gl M 166 (l2).toNatClampNeg) ||| (gl M 166 (l1).toNatClampNeg))) 167 (l2).toNatClampNeg ((gl M 167 (l2).toNatClampNeg) ||| (gl M 167 (l1).toNatClampNeg))))) else ((narrow .boolean (.int (1 : Int32)) = .int (1 : Int32)) ∧ (Q (.inl (some (vi (1 : Int32)))) (sl (sl (sl M 165 (l2).toNatClampNeg (((zls (l6).toInt64 (32 : Int32)) ||| (zls (s0).toInt64 (10 : Int32))) ||| (l5).toInt64)) 166 (l2).toNatClampNeg ((gl M 166 (l2).toNatClampNeg) ||| (gl M 166 (l1).toNatClampNeg))) 167 (l2).toNatClampNeg ((gl M 167 (l2).toNatClampNeg) ||| (gl M 167 (l1).toNatClampNeg)))))) else ((narrow .boolean (.int (1 : Int32)) = .int (1 : Int32)) ∧ (Q (.inl (some (vi (1 : Int32)))) (sl (sl (sl M 165 (l2).toNatClampNeg (((zls (l6).toInt64 (32 : Int32)) ||| (zls (s0).toInt64 (10 : Int32))) ||| (l5).toInt64)) 166 (l2).toNatClampNeg ((gl M 166 (l2).toNatClampNeg) ||| (gl M 166 (l1).toNatClampNeg))) 167 (l2).toNatClampNeg ((gl M 167 (l2).toNatClampNeg) ||| (gl M 167 (l1).toNatClampNeg)))))) else ((narrow .boolean (.int (1 : Int32)) = .int (1 : Int32)) ∧ (Q (.inl (some (vi (1 : Int32)))) (sl (sl (sl M 165 (l2).toNatClampNeg (((zls (l6).toInt64 (32 : Int32)) ||| (zls (s0).toInt64 (10 : Int32))) ||| (l5).toInt64)) 166 (l2).toNatClampNeg ((gl M 166 (l2).toNatClampNeg) ||| (gl M 166 (l1).toNatClampNeg))) 167 (l2).toNatClampNeg ((gl M 167 (l2).toNatClampNeg) ||| (gl M 167 (l1).toNatClampNeg)))))))) : Zm E YX8_join (d + 1) M [(0, vr (some (97, 1, 0))), (1, vi l1), (2, vi l2), (3, vi l3), (5, vi l5), (6, vi l6)] 181 [vi s0] Q := by
  refine sX8_join_181 (d := d) M l1 l2 l3 l5 l6 s0 ?_
  refine zand k (fun h7557 k => ?_)
  refine zand k (fun h7558 k => ?_)
  refine ⟨h7557, ?_⟩
  refine ⟨h7558, ?_⟩
  refine zite k (fun h7559 k => ?_) (fun h7559 k => ?_)
  · refine ⟨h7557, ?_⟩
    refine zite k (fun h7560 k => ?_) (fun h7560 k => ?_)
    · refine ⟨h7557, ?_⟩
      refine zite k (fun h7561 k => ?_) (fun h7561 k => ?_)
      · refine sX8_write_0 (d := d) M l2 l5 s0 l6 ?_
        refine ⟨h7557, ?_⟩
        show Zm E YX8_join (d + 1) (sl M 165 (l2).toNatClampNeg (((zls (l6).toInt64 (32 : Int32)) ||| (zls (s0).toInt64 (10 : Int32))) ||| (l5).toInt64)) [(0, vr (some (97, 1, 0))), (2, vi l2), (8, vl ((gl M 166 (l2).toNatClampNeg) ||| (gl M 166 (l1).toNatClampNeg))), (10, vl ((gl M 167 (l2).toNatClampNeg) ||| (gl M 167 (l1).toNatClampNeg))), (12, vi (0 : Int32))] 261 [] Q
        refine sX8_join_261 (d := d) (sl M 165 (l2).toNatClampNeg (((zls (l6).toInt64 (32 : Int32)) ||| (zls (s0).toInt64 (10 : Int32))) ||| (l5).toInt64)) l2 ((gl M 166 (l2).toNatClampNeg) ||| (gl M 166 (l1).toNatClampNeg)) ((gl M 167 (l2).toNatClampNeg) ||| (gl M 167 (l1).toNatClampNeg)) (0 : Int32) ?_
        refine ⟨h7557, ?_⟩
        refine ⟨h7557, ?_⟩
        exact k
      · refine sX8_join_243 (d := d) M l2 l5 l6 s0 ((gl M 166 (l2).toNatClampNeg) ||| (gl M 166 (l1).toNatClampNeg)) ((gl M 167 (l2).toNatClampNeg) ||| (gl M 167 (l1).toNatClampNeg)) ?_
        refine sX8_write_0 (d := d) M l2 l5 s0 l6 ?_
        refine ⟨h7557, ?_⟩
        show Zm E YX8_join (d + 1) (sl M 165 (l2).toNatClampNeg (((zls (l6).toInt64 (32 : Int32)) ||| (zls (s0).toInt64 (10 : Int32))) ||| (l5).toInt64)) [(0, vr (some (97, 1, 0))), (2, vi l2), (8, vl ((gl M 166 (l2).toNatClampNeg) ||| (gl M 166 (l1).toNatClampNeg))), (10, vl ((gl M 167 (l2).toNatClampNeg) ||| (gl M 167 (l1).toNatClampNeg))), (12, vi (1 : Int32))] 261 [] Q
        refine sX8_join_261 (d := d) (sl M 165 (l2).toNatClampNeg (((zls (l6).toInt64 (32 : Int32)) ||| (zls (s0).toInt64 (10 : Int32))) ||| (l5).toInt64)) l2 ((gl M 166 (l2).toNatClampNeg) ||| (gl M 166 (l1).toNatClampNeg)) ((gl M 167 (l2).toNatClampNeg) ||| (gl M 167 (l1).toNatClampNeg)) (1 : Int32) ?_
        refine ⟨h7557, ?_⟩
        refine ⟨h7557, ?_⟩
        exact k
    · refine sX8_join_243 (d := d) M l2 l5 l6 s0 ((gl M 166 (l2).toNatClampNeg) ||| (gl M 166 (l1).toNatClampNeg)) ((gl M 167 (l2).toNatClampNeg) ||| (gl M 167 (l1).toNatClampNeg)) ?_
      refine sX8_write_0 (d := d) M l2 l5 s0 l6 ?_
      refine ⟨h7557, ?_⟩
      show Zm E YX8_join (d + 1) (sl M 165 (l2).toNatClampNeg (((zls (l6).toInt64 (32 : Int32)) ||| (zls (s0).toInt64 (10 : Int32))) ||| (l5).toInt64)) [(0, vr (some (97, 1, 0))), (2, vi l2), (8, vl ((gl M 166 (l2).toNatClampNeg) ||| (gl M 166 (l1).toNatClampNeg))), (10, vl ((gl M 167 (l2).toNatClampNeg) ||| (gl M 167 (l1).toNatClampNeg))), (12, vi (1 : Int32))] 261 [] Q
      refine sX8_join_261 (d := d) (sl M 165 (l2).toNatClampNeg (((zls (l6).toInt64 (32 : Int32)) ||| (zls (s0).toInt64 (10 : Int32))) ||| (l5).toInt64)) l2 ((gl M 166 (l2).toNatClampNeg) ||| (gl M 166 (l1).toNatClampNeg)) ((gl M 167 (l2).toNatClampNeg) ||| (gl M 167 (l1).toNatClampNeg)) (1 : Int32) ?_
      refine ⟨h7557, ?_⟩
      refine ⟨h7557, ?_⟩
      exact k
  · refine sX8_join_243 (d := d) M l2 l5 l6 s0 ((gl M 166 (l2).toNatClampNeg) ||| (gl M 166 (l1).toNatClampNeg)) ((gl M 167 (l2).toNatClampNeg) ||| (gl M 167 (l1).toNatClampNeg)) ?_
    refine sX8_write_0 (d := d) M l2 l5 s0 l6 ?_
    refine ⟨h7557, ?_⟩
    show Zm E YX8_join (d + 1) (sl M 165 (l2).toNatClampNeg (((zls (l6).toInt64 (32 : Int32)) ||| (zls (s0).toInt64 (10 : Int32))) ||| (l5).toInt64)) [(0, vr (some (97, 1, 0))), (2, vi l2), (8, vl ((gl M 166 (l2).toNatClampNeg) ||| (gl M 166 (l1).toNatClampNeg))), (10, vl ((gl M 167 (l2).toNatClampNeg) ||| (gl M 167 (l1).toNatClampNeg))), (12, vi (1 : Int32))] 261 [] Q
    refine sX8_join_261 (d := d) (sl M 165 (l2).toNatClampNeg (((zls (l6).toInt64 (32 : Int32)) ||| (zls (s0).toInt64 (10 : Int32))) ||| (l5).toInt64)) l2 ((gl M 166 (l2).toNatClampNeg) ||| (gl M 166 (l1).toNatClampNeg)) ((gl M 167 (l2).toNatClampNeg) ||| (gl M 167 (l1).toNatClampNeg)) (1 : Int32) ?_
    refine ⟨h7557, ?_⟩
    refine ⟨h7557, ?_⟩
    exact k
theorem iX8_leftOf_26 {E : zE} {d : Nat} {Q : zO → zM → Prop} (M : zM) (l1 : Int32) (l2 : Int32) (l3 : Int32) (l4 : Int32) (k : if l4 = (-1 : Int32) then (Q (.inl (some (vi l3))) M) else (vp_in l4 3000 ∧ (vp_in l1 9600 ∧ (if (gi M 148 (l4).toNatClampNeg) ≤ (gi M 162 (l1).toNatClampNeg) then (Zm E YX8_leftOf d M [(0, vr (some (97, 1, 0))), (1, vi l1), (2, vi l2), (3, vi (l3 + (0 : Int32))), (4, vi (gi M 149 (l4).toNatClampNeg))] 26 [] Q) else (if (gi M 163 (l1).toNatClampNeg) < (gi M 148 (l4).toNatClampNeg) then (Zm E YX8_leftOf d M [(0, vr (some (97, 1, 0))), (1, vi l1), (2, vi l2), (3, vi (l3 + (0 : Int32))), (4, vi (gi M 149 (l4).toNatClampNeg))] 26 [] Q) else (vp_in l2 300 ∧ (if (gi M 141 (l2).toNatClampNeg) = (2 : Int32) then (if (gi M 145 (l4).toNatClampNeg) = 0 then (Zm E YX8_leftOf d M [(0, vr (some (97, 1, 0))), (1, vi l1), (2, vi l2), (3, vi (l3 + (0 : Int32))), (4, vi (gi M 149 (l4).toNatClampNeg))] 26 [] Q) else (Zm E YX8_leftOf d M [(0, vr (some (97, 1, 0))), (1, vi l1), (2, vi l2), (3, vi (l3 + (1 : Int32))), (4, vi (gi M 149 (l4).toNatClampNeg))] 26 [] Q)) else (Zm E YX8_leftOf d M [(0, vr (some (97, 1, 0))), (1, vi l1), (2, vi l2), (3, vi (l3 + (1 : Int32))), (4, vi (gi M 149 (l4).toNatClampNeg))] 26 [] Q)))))))) : Zm E YX8_leftOf d M [(0, vr (some (97, 1, 0))), (1, vi l1), (2, vi l2), (3, vi l3), (4, vi l4)] 26 [] Q := by
  refine sX8_leftOf_26 (d := d) M l1 l2 l3 l4 ?_
  refine zite k (fun h7570 k => ?_) (fun h7570 k => ?_)
  · exact k
  · refine zand k (fun h7571 k => ?_)
    refine zand k (fun h7572 k => ?_)
    refine zite k (fun h7573 k => ?_) (fun h7573 k => ?_)
    · refine sX8_leftOf_88 (d := d) M l1 l2 l3 l4 ?_
      refine zpos (show (0 : Int32) = 0 from by decide) ?_
      refine sX8_leftOf_102 (d := d) M l1 l2 l4 (0 : Int32) l3 ?_
      refine ⟨h7571, ?_⟩
      exact k
    · refine ⟨h7571, ?_⟩
      refine ⟨h7572, ?_⟩
      refine zite k (fun h7574 k => ?_) (fun h7574 k => ?_)
      · refine sX8_leftOf_88 (d := d) M l1 l2 l3 l4 ?_
        refine zpos (show (0 : Int32) = 0 from by decide) ?_
        refine sX8_leftOf_102 (d := d) M l1 l2 l4 (0 : Int32) l3 ?_
        refine ⟨h7571, ?_⟩
        exact k
      · refine zand k (fun h7575 k => ?_)
        refine zite k (fun h7576 k => ?_) (fun h7576 k => ?_)
        · refine ⟨h7571, ?_⟩
          refine zite k (fun h7577 k => ?_) (fun h7577 k => ?_)
          · refine sX8_leftOf_88 (d := d) M l1 l2 l3 l4 ?_
            refine zpos (show (0 : Int32) = 0 from by decide) ?_
            refine sX8_leftOf_102 (d := d) M l1 l2 l4 (0 : Int32) l3 ?_
            refine ⟨h7571, ?_⟩
            exact k
          · refine sX8_leftOf_84 (d := d) M l1 l2 l3 l4 ?_
            refine zneg (show ¬ ((1 : Int32) = 0) from by decide) ?_
            refine sX8_leftOf_102 (d := d) M l1 l2 l4 (1 : Int32) l3 ?_
            refine ⟨h7571, ?_⟩
            exact k
        · refine sX8_leftOf_84 (d := d) M l1 l2 l3 l4 ?_
          refine zneg (show ¬ ((1 : Int32) = 0) from by decide) ?_
          refine sX8_leftOf_102 (d := d) M l1 l2 l4 (1 : Int32) l3 ?_
          refine ⟨h7571, ?_⟩
          exact k
theorem iX8_letter_0 {E : zE} {d : Nat} {Q : zO → zM → Prop} (M : zM) (l1 : Int32) (l2 : Int32) (k : if (gi M 97 72) = 0 then (Q (.inl (some (vi (-1 : Int32)))) (si M 97 0 (0 : Int32))) else (if l1 < (0 : Int32) then (Q (.inl (some (vi (-1 : Int32)))) (si M 97 0 (0 : Int32))) else (if ((gi M 97 7) - (1 : Int32)) < l1 then (Q (.inl (some (vi (-1 : Int32)))) (si M 97 0 (0 : Int32))) else (vp_in l1 400 ∧ (if l2 < (0 : Int32) then (Q (.inl (some (vi (-1 : Int32)))) (si M 97 0 (0 : Int32))) else (if ((gi M 101 (l1).toNatClampNeg) - (1 : Int32)) < l2 then (Q (.inl (some (vi (-1 : Int32)))) (si M 97 0 (0 : Int32))) else (vp_in (((60 : Int32) * l1) + l2) 24000 ∧ (Q (.inl (some (vi (gi M 100 ((((60 : Int32) * l1) + l2)).toNatClampNeg)))) (si M 97 0 (0 : Int32)))))))))) : Zm E YX8_letter (d + 1) M [(0, vr (some (97, 1, 0))), (1, vi l1), (2, vi l2)] 0 [] Q := by
  refine sX8_letter_0 (d := d) M l1 l2 ?_
  refine zite k (fun h7578 k => ?_) (fun h7578 k => ?_)
  · exact k
  · refine sX8_in_0 (d := d) (si M 97 0 (0 : Int32)) l1 (0 : Int32) ((gi M 97 7) - (1 : Int32)) ?_
    refine zite k (fun h7579 k => ?_) (fun h7579 k => ?_)
    · show Zm E YX8_letter (d + 1) (si M 97 0 (0 : Int32)) [(0, vr (some (97, 1, 0))), (1, vi l1), (2, vi l2)] 23 [vi (0 : Int32)] Q
      refine sX8_letter_23 (d := d) (si M 97 0 (0 : Int32)) l1 l2 (0 : Int32) ?_
      refine zpos (show (0 : Int32) = 0 from by decide) ?_
      exact k
    · refine zite k (fun h7580 k => ?_) (fun h7580 k => ?_)
      · show Zm E YX8_letter (d + 1) (si M 97 0 (0 : Int32)) [(0, vr (some (97, 1, 0))), (1, vi l1), (2, vi l2)] 23 [vi (0 : Int32)] Q
        refine sX8_letter_23 (d := d) (si M 97 0 (0 : Int32)) l1 l2 (0 : Int32) ?_
        refine zpos (show (0 : Int32) = 0 from by decide) ?_
        exact k
      · show Zm E YX8_letter (d + 1) (si M 97 0 (0 : Int32)) [(0, vr (some (97, 1, 0))), (1, vi l1), (2, vi l2)] 23 [vi (1 : Int32)] Q
        refine sX8_letter_23 (d := d) (si M 97 0 (0 : Int32)) l1 l2 (1 : Int32) ?_
        refine zneg (show ¬ ((1 : Int32) = 0) from by decide) ?_
        refine zand k (fun h7581 k => ?_)
        refine sX8_in_0 (d := d) (si M 97 0 (0 : Int32)) l2 (0 : Int32) ((gi M 101 (l1).toNatClampNeg) - (1 : Int32)) ?_
        refine zite k (fun h7582 k => ?_) (fun h7582 k => ?_)
        · show Zm E YX8_letter (d + 1) (si M 97 0 (0 : Int32)) [(0, vr (some (97, 1, 0))), (1, vi l1), (2, vi l2)] 39 [vi (0 : Int32)] Q
          refine sX8_letter_39 (d := d) (si M 97 0 (0 : Int32)) l1 l2 (0 : Int32) ?_
          refine zpos (show (0 : Int32) = 0 from by decide) ?_
          exact k
        · refine zite k (fun h7583 k => ?_) (fun h7583 k => ?_)
          · show Zm E YX8_letter (d + 1) (si M 97 0 (0 : Int32)) [(0, vr (some (97, 1, 0))), (1, vi l1), (2, vi l2)] 39 [vi (0 : Int32)] Q
            refine sX8_letter_39 (d := d) (si M 97 0 (0 : Int32)) l1 l2 (0 : Int32) ?_
            refine zpos (show (0 : Int32) = 0 from by decide) ?_
            exact k
          · show Zm E YX8_letter (d + 1) (si M 97 0 (0 : Int32)) [(0, vr (some (97, 1, 0))), (1, vi l1), (2, vi l2)] 39 [vi (1 : Int32)] Q
            refine sX8_letter_39 (d := d) (si M 97 0 (0 : Int32)) l1 l2 (1 : Int32) ?_
            refine zneg (show ¬ ((1 : Int32) = 0) from by decide) ?_
            exact k
theorem iX8_newLabel_0 {E : zE} {d : Nat} {Q : zO → zM → Prop} (M : zM) (l1 : Int32) (l2 : Int32) (k : vp_in ((15000 : Int32) + l1) 15128 ∧ (if l2 = (-1 : Int32) then (Zm E YX8_newLabel ((d + 1) + 1) (sl (sl (sl (sl (si (si M 178 (((15000 : Int32) + l1)).toNatClampNeg (vp_nar .boolean (1 : Int32))) 179 (((15000 : Int32) + l1)).toNatClampNeg (vp_nar .boolean (1 : Int32))) 180 (((15000 : Int32) + l1)).toNatClampNeg (0 : Int64)) 181 (((15000 : Int32) + l1)).toNatClampNeg (0 : Int64)) 182 (((15000 : Int32) + l1)).toNatClampNeg (0 : Int64)) 183 (((15000 : Int32) + l1)).toNatClampNeg (0 : Int64)) [(0, vr (some (97, 1, 0))), (1, vi l1), (4, vi (0 : Int32))] 74 [] Q) else (Zm E YX8_newLabel ((d + 1) + 1) (sl (sl (sl (sl (si (si M 178 (((15000 : Int32) + l1)).toNatClampNeg (vp_nar .boolean (1 : Int32))) 179 (((15000 : Int32) + l1)).toNatClampNeg (vp_nar .boolean (0 : Int32))) 180 (((15000 : Int32) + l1)).toNatClampNeg (zls (1 : Int64) l2)) 181 (((15000 : Int32) + l1)).toNatClampNeg (0 : Int64)) 182 (((15000 : Int32) + l1)).toNatClampNeg (0 : Int64)) 183 (((15000 : Int32) + l1)).toNatClampNeg (0 : Int64)) [(0, vr (some (97, 1, 0))), (1, vi l1), (4, vi (0 : Int32))] 74 [] Q))) : Zm E YX8_newLabel (d + 2) M [(0, vr (some (97, 1, 0))), (1, vi l1), (2, vi l2)] 0 [] Q := by
  refine sX8_newLabel_0 (d := (d + 1)) M l1 l2 ?_
  refine jX8_of (d := d) M (639 : Int32) l1 ?_
  refine zpos (show (639 : Int32) = (639 : Int32) from by decide) ?_
  show Zm E YX8_newLabel ((d + 1) + 1) M [(0, vr (some (97, 1, 0))), (1, vi l1), (2, vi l2)] 8 [vi ((15000 : Int32) + l1)] Q
  refine sX8_newLabel_8 (d := (d + 1)) M l1 l2 ((15000 : Int32) + l1) ?_
  refine zand k (fun h7586 k => ?_)
  refine zite k (fun h7587 k => ?_) (fun h7587 k => ?_)
  · refine sX8_newLabel_31 (d := (d + 1)) (si M 178 (((15000 : Int32) + l1)).toNatClampNeg (vp_nar .boolean (1 : Int32))) l1 l2 ((15000 : Int32) + l1) (1 : Int32) ((15000 : Int32) + l1) ?_
    refine ⟨h7586, ?_⟩
    refine zpos h7587 ?_
    refine sX8_newLabel_49 (d := (d + 1)) (si (si M 178 (((15000 : Int32) + l1)).toNatClampNeg (vp_nar .boolean (1 : Int32))) 179 (((15000 : Int32) + l1)).toNatClampNeg (vp_nar .boolean (1 : Int32))) l1 ((15000 : Int32) + l1) (0 : Int64) ((15000 : Int32) + l1) ?_
    refine ⟨h7586, ?_⟩
    refine ⟨h7586, ?_⟩
    refine ⟨h7586, ?_⟩
    refine ⟨h7586, ?_⟩
    exact k
  · refine sX8_newLabel_31 (d := (d + 1)) (si M 178 (((15000 : Int32) + l1)).toNatClampNeg (vp_nar .boolean (1 : Int32))) l1 l2 ((15000 : Int32) + l1) (0 : Int32) ((15000 : Int32) + l1) ?_
    refine ⟨h7586, ?_⟩
    refine zneg h7587 ?_
    refine sX8_newLabel_49 (d := (d + 1)) (si (si M 178 (((15000 : Int32) + l1)).toNatClampNeg (vp_nar .boolean (1 : Int32))) 179 (((15000 : Int32) + l1)).toNatClampNeg (vp_nar .boolean (0 : Int32))) l1 ((15000 : Int32) + l1) (zls (1 : Int64) l2) ((15000 : Int32) + l1) ?_
    refine ⟨h7586, ?_⟩
    refine ⟨h7586, ?_⟩
    refine ⟨h7586, ?_⟩
    refine ⟨h7586, ?_⟩
    exact k
theorem iX8_newLabel_74 {E : zE} {d : Nat} {Q : zO → zM → Prop} (M : zM) (l1 : Int32) (l4 : Int32) (k : if (gi M 97 8) < l4 then (Q (.inl none) M) else (vp_in (((635640 : Int32) + (l1 * ((gi M 97 8) + (1 : Int32)))) + l4) 647800 ∧ (Zm E YX8_newLabel ((d + 1) + 1) (sl (sl (sl (sl M 165 ((((635640 : Int32) + (l1 * ((gi M 97 8) + (1 : Int32)))) + l4)).toNatClampNeg (0 : Int64)) 166 ((((635640 : Int32) + (l1 * ((gi M 97 8) + (1 : Int32)))) + l4)).toNatClampNeg (0 : Int64)) 167 ((((635640 : Int32) + (l1 * ((gi M 97 8) + (1 : Int32)))) + l4)).toNatClampNeg (0 : Int64)) 165 ((((635640 : Int32) + (l1 * ((gi M 97 8) + (1 : Int32)))) + l4)).toNatClampNeg (((zls ((0 : Int32)).toInt64 (32 : Int32)) ||| (zls ((0 : Int32)).toInt64 (10 : Int32))) ||| ((512 : Int32)).toInt64)) [(0, vr (some (97, 1, 0))), (1, vi l1), (4, vi (l4 + (1 : Int32)))] 74 [] Q))) : Zm E YX8_newLabel (d + 2) M [(0, vr (some (97, 1, 0))), (1, vi l1), (4, vi l4)] 74 [] Q := by
  refine sX8_newLabel_74 (d := (d + 1)) M l1 l4 ?_
  refine zite k (fun h7589 k => ?_) (fun h7589 k => ?_)
  · exact k
  · refine jX8_field (d := d) M (639 : Int32) l1 l4 ?_
    refine zpos (show (639 : Int32) = (639 : Int32) from by decide) ?_
    show Zm E YX8_newLabel ((d + 1) + 1) M [(0, vr (some (97, 1, 0))), (1, vi l1), (4, vi l4)] 94 [vi (((635640 : Int32) + (l1 * ((gi M 97 8) + (1 : Int32)))) + l4), vr (some (97, 1, 0))] Q
    refine sX8_newLabel_94 (d := (d + 1)) M l1 l4 (((635640 : Int32) + (l1 * ((gi M 97 8) + (1 : Int32)))) + l4) ?_
    refine jX8_empty (d := (d + 1)) M (((635640 : Int32) + (l1 * ((gi M 97 8) + (1 : Int32)))) + l4) ?_
    refine zand k (fun h7590 k => ?_)
    show Zm E YX8_newLabel ((d + 1) + 1) (sl (sl (sl M 165 ((((635640 : Int32) + (l1 * ((gi M 97 8) + (1 : Int32)))) + l4)).toNatClampNeg (0 : Int64)) 166 ((((635640 : Int32) + (l1 * ((gi M 97 8) + (1 : Int32)))) + l4)).toNatClampNeg (0 : Int64)) 167 ((((635640 : Int32) + (l1 * ((gi M 97 8) + (1 : Int32)))) + l4)).toNatClampNeg (0 : Int64)) [(0, vr (some (97, 1, 0))), (1, vi l1), (4, vi l4)] 97 [] Q
    refine sX8_newLabel_97 (d := (d + 1)) (sl (sl (sl M 165 ((((635640 : Int32) + (l1 * ((gi M 97 8) + (1 : Int32)))) + l4)).toNatClampNeg (0 : Int64)) 166 ((((635640 : Int32) + (l1 * ((gi M 97 8) + (1 : Int32)))) + l4)).toNatClampNeg (0 : Int64)) 167 ((((635640 : Int32) + (l1 * ((gi M 97 8) + (1 : Int32)))) + l4)).toNatClampNeg (0 : Int64)) l1 l4 ?_
    refine jX8_field (d := d) (sl (sl (sl M 165 ((((635640 : Int32) + (l1 * ((gi M 97 8) + (1 : Int32)))) + l4)).toNatClampNeg (0 : Int64)) 166 ((((635640 : Int32) + (l1 * ((gi M 97 8) + (1 : Int32)))) + l4)).toNatClampNeg (0 : Int64)) 167 ((((635640 : Int32) + (l1 * ((gi M 97 8) + (1 : Int32)))) + l4)).toNatClampNeg (0 : Int64)) (639 : Int32) l1 l4 ?_
    refine zpos (show (639 : Int32) = (639 : Int32) from by decide) ?_
    show Zm E YX8_newLabel ((d + 1) + 1) (sl (sl (sl M 165 ((((635640 : Int32) + (l1 * ((gi M 97 8) + (1 : Int32)))) + l4)).toNatClampNeg (0 : Int64)) 166 ((((635640 : Int32) + (l1 * ((gi M 97 8) + (1 : Int32)))) + l4)).toNatClampNeg (0 : Int64)) 167 ((((635640 : Int32) + (l1 * ((gi M 97 8) + (1 : Int32)))) + l4)).toNatClampNeg (0 : Int64)) [(0, vr (some (97, 1, 0))), (1, vi l1), (4, vi l4)] 108 [vi (((635640 : Int32) + (l1 * ((gi M 97 8) + (1 : Int32)))) + l4), vr (some (97, 1, 0))] Q
    refine sX8_newLabel_108 (d := (d + 1)) (sl (sl (sl M 165 ((((635640 : Int32) + (l1 * ((gi M 97 8) + (1 : Int32)))) + l4)).toNatClampNeg (0 : Int64)) 166 ((((635640 : Int32) + (l1 * ((gi M 97 8) + (1 : Int32)))) + l4)).toNatClampNeg (0 : Int64)) 167 ((((635640 : Int32) + (l1 * ((gi M 97 8) + (1 : Int32)))) + l4)).toNatClampNeg (0 : Int64)) l1 l4 (((635640 : Int32) + (l1 * ((gi M 97 8) + (1 : Int32)))) + l4) ?_
    refine sX8_write_0 (d := (d + 1)) (sl (sl (sl M 165 ((((635640 : Int32) + (l1 * ((gi M 97 8) + (1 : Int32)))) + l4)).toNatClampNeg (0 : Int64)) 166 ((((635640 : Int32) + (l1 * ((gi M 97 8) + (1 : Int32)))) + l4)).toNatClampNeg (0 : Int64)) 167 ((((635640 : Int32) + (l1 * ((gi M 97 8) + (1 : Int32)))) + l4)).toNatClampNeg (0 : Int64)) (((635640 : Int32) + (l1 * ((gi M 97 8) + (1 : Int32)))) + l4) (512 : Int32) (0 : Int32) (0 : Int32) ?_
    refine ⟨h7590, ?_⟩
    show Zm E YX8_newLabel ((d + 1) + 1) (sl (sl (sl (sl M 165 ((((635640 : Int32) + (l1 * ((gi M 97 8) + (1 : Int32)))) + l4)).toNatClampNeg (0 : Int64)) 166 ((((635640 : Int32) + (l1 * ((gi M 97 8) + (1 : Int32)))) + l4)).toNatClampNeg (0 : Int64)) 167 ((((635640 : Int32) + (l1 * ((gi M 97 8) + (1 : Int32)))) + l4)).toNatClampNeg (0 : Int64)) 165 ((((635640 : Int32) + (l1 * ((gi M 97 8) + (1 : Int32)))) + l4)).toNatClampNeg (((zls ((0 : Int32)).toInt64 (32 : Int32)) ||| (zls ((0 : Int32)).toInt64 (10 : Int32))) ||| ((512 : Int32)).toInt64)) [(0, vr (some (97, 1, 0))), (1, vi l1), (4, vi l4)] 116 [] Q
    refine sX8_newLabel_116 (d := (d + 1)) (sl (sl (sl (sl M 165 ((((635640 : Int32) + (l1 * ((gi M 97 8) + (1 : Int32)))) + l4)).toNatClampNeg (0 : Int64)) 166 ((((635640 : Int32) + (l1 * ((gi M 97 8) + (1 : Int32)))) + l4)).toNatClampNeg (0 : Int64)) 167 ((((635640 : Int32) + (l1 * ((gi M 97 8) + (1 : Int32)))) + l4)).toNatClampNeg (0 : Int64)) 165 ((((635640 : Int32) + (l1 * ((gi M 97 8) + (1 : Int32)))) + l4)).toNatClampNeg (((zls ((0 : Int32)).toInt64 (32 : Int32)) ||| (zls ((0 : Int32)).toInt64 (10 : Int32))) ||| ((512 : Int32)).toInt64)) l1 l4 ?_
    exact k
theorem iX8_nextOf_21 {E : zE} {d : Nat} {Q : zO → zM → Prop} (M : zM) (l1 : Int32) (l2 : Int32) (l3 : Int32) (k : if l3 = (-1 : Int32) then (Zm E YX8_nextOf d M [(0, vr (some (97, 1, 0))), (1, vi l1), (3, vi l3)] 70 [] Q) else (vp_in l3 3000 ∧ (vp_in l1 9600 ∧ (if (gi M 148 (l3).toNatClampNeg) ≤ (gi M 162 (l1).toNatClampNeg) then (Zm E YX8_nextOf d M [(0, vr (some (97, 1, 0))), (1, vi l1), (2, vi l2), (3, vi (gi M 149 (l3).toNatClampNeg))] 21 [] Q) else (vp_in l2 300 ∧ (if (gi M 141 (l2).toNatClampNeg) = (2 : Int32) then (if (gi M 145 (l3).toNatClampNeg) = 0 then (Zm E YX8_nextOf d M [(0, vr (some (97, 1, 0))), (1, vi l1), (2, vi l2), (3, vi (gi M 149 (l3).toNatClampNeg))] 21 [] Q) else (Zm E YX8_nextOf d M [(0, vr (some (97, 1, 0))), (1, vi l1), (3, vi l3)] 70 [] Q)) else (Zm E YX8_nextOf d M [(0, vr (some (97, 1, 0))), (1, vi l1), (3, vi l3)] 70 [] Q))))))) : Zm E YX8_nextOf d M [(0, vr (some (97, 1, 0))), (1, vi l1), (2, vi l2), (3, vi l3)] 21 [] Q := by
  refine sX8_nextOf_21 (d := d) M l1 l2 l3 ?_
  refine zite k (fun h7594 k => ?_) (fun h7594 k => ?_)
  · exact k
  · refine zand k (fun h7595 k => ?_)
    refine zand k (fun h7596 k => ?_)
    refine zite k (fun h7597 k => ?_) (fun h7597 k => ?_)
    · refine ⟨h7595, ?_⟩
      exact k
    · refine zand k (fun h7598 k => ?_)
      refine zite k (fun h7599 k => ?_) (fun h7599 k => ?_)
      · refine ⟨h7595, ?_⟩
        refine zite k (fun h7600 k => ?_) (fun h7600 k => ?_)
        · refine ⟨h7595, ?_⟩
          exact k
        · exact k
      · exact k
theorem iX8_object_2_0 {E : zE} {d : Nat} {Q : zO → zM → Prop} (M : zM) (l1 : Int32) (l2 : Int32) (k : if (gi M 97 73) = 0 then (Q (.inl (some (vi (-1 : Int32)))) (si M 97 0 (0 : Int32))) else (if l1 < (0 : Int32) then (Q (.inl (some (vi (-1 : Int32)))) (si M 97 0 (0 : Int32))) else (if ((gi M 97 76) - (1 : Int32)) < l1 then (Q (.inl (some (vi (-1 : Int32)))) (si M 97 0 (0 : Int32))) else (if l2 = 0 then (vp_in l1 300 ∧ (Q (.inl (some (vi (gi M 138 (l1).toNatClampNeg)))) (si M 97 0 (0 : Int32)))) else (if l2 = 1 then (vp_in l1 300 ∧ (Q (.inl (some (vi (gi M 139 (l1).toNatClampNeg)))) (si M 97 0 (0 : Int32)))) else (if l2 = 2 then (vp_in l1 300 ∧ (Q (.inl (some (vi (gi M 140 (l1).toNatClampNeg)))) (si M 97 0 (0 : Int32)))) else (if l2 = 3 then (vp_in l1 300 ∧ (Zm E YX8_object_2 (d + 1) (si M 97 0 (0 : Int32)) [(0, vr (some (97, 1, 0))), (3, vi (0 : Int32)), (4, vi (gi M 143 (l1).toNatClampNeg))] 95 [] Q)) else (if l2 = 4 then (vp_in l1 300 ∧ (Q (.inl (some (vi (gi M 141 (l1).toNatClampNeg)))) (si M 97 0 (0 : Int32)))) else (Q (.inl (some (vi (-1 : Int32)))) (si M 97 0 (0 : Int32))))))))))) : Zm E YX8_object_2 (d + 1) M [(0, vr (some (97, 1, 0))), (1, vi l1), (2, vi l2)] 0 [] Q := by
  refine sX8_object_2_0 (d := d) M l1 l2 ?_
  refine zite k (fun h7606 k => ?_) (fun h7606 k => ?_)
  · exact k
  · refine sX8_in_0 (d := d) (si M 97 0 (0 : Int32)) l1 (0 : Int32) ((gi M 97 76) - (1 : Int32)) ?_
    refine zite k (fun h7607 k => ?_) (fun h7607 k => ?_)
    · show Zm E YX8_object_2 (d + 1) (si M 97 0 (0 : Int32)) [(0, vr (some (97, 1, 0))), (1, vi l1), (2, vi l2)] 23 [vi (0 : Int32)] Q
      refine sX8_object_2_23 (d := d) (si M 97 0 (0 : Int32)) l1 l2 (0 : Int32) ?_
      refine zpos (show (0 : Int32) = 0 from by decide) ?_
      exact k
    · refine zite k (fun h7608 k => ?_) (fun h7608 k => ?_)
      · show Zm E YX8_object_2 (d + 1) (si M 97 0 (0 : Int32)) [(0, vr (some (97, 1, 0))), (1, vi l1), (2, vi l2)] 23 [vi (0 : Int32)] Q
        refine sX8_object_2_23 (d := d) (si M 97 0 (0 : Int32)) l1 l2 (0 : Int32) ?_
        refine zpos (show (0 : Int32) = 0 from by decide) ?_
        exact k
      · show Zm E YX8_object_2 (d + 1) (si M 97 0 (0 : Int32)) [(0, vr (some (97, 1, 0))), (1, vi l1), (2, vi l2)] 23 [vi (1 : Int32)] Q
        refine sX8_object_2_23 (d := d) (si M 97 0 (0 : Int32)) l1 l2 (1 : Int32) ?_
        refine zneg (show ¬ ((1 : Int32) = 0) from by decide) ?_
        exact k
theorem iX8_of_0 {E : zE} {d : Nat} {Q : zO → zM → Prop} (M : zM) (l1 : Int32) (l2 : Int32) (k : if l1 = (639 : Int32) then (Q (.inl (some (vi ((15000 : Int32) + l2)))) M) else (Q (.inl (some (vi ((l1 * (gi M 97 71)) + l2)))) M)) : Zm E YX8_of (d + 1) M [(0, vr (some (97, 1, 0))), (1, vi l1), (2, vi l2)] 0 [] Q := by
  refine sX8_of_0 (d := d) M l1 l2 ?_
  refine sX8_labelsAt_0 (d := d) M l1 ?_
  refine zite k (fun h7621 k => ?_) (fun h7621 k => ?_)
  · show Zm E YX8_of (d + 1) M [(2, vi l2)] 5 [vi (15000 : Int32)] Q
    refine sX8_of_5 (d := d) M l2 (15000 : Int32) ?_
    exact k
  · show Zm E YX8_of (d + 1) M [(2, vi l2)] 5 [vi (l1 * (gi M 97 71))] Q
    refine sX8_of_5 (d := d) M l2 (l1 * (gi M 97 71)) ?_
    exact k
theorem iX8_printed_0 {E : zE} {d : Nat} {Q : zO → zM → Prop} (M : zM) (l1 : Int32) (l2 : Int32) (k : if (gi M 97 73) = 0 then (Q (.inl (some (vi (-1 : Int32)))) (si M 97 0 (0 : Int32))) else (if l1 < (0 : Int32) then (Q (.inl (some (vi (-1 : Int32)))) (si M 97 0 (0 : Int32))) else (if ((gi M 97 107) - (1 : Int32)) < l1 then (Q (.inl (some (vi (-1 : Int32)))) (si M 97 0 (0 : Int32))) else (vp_in l1 100 ∧ (if l2 = (-1 : Int32) then (Q (.inl (some (vi (gi M 164 (l1).toNatClampNeg)))) (si M 97 0 (0 : Int32))) else (vp_in (gi M 164 (l1).toNatClampNeg) 400 ∧ (if l2 < (0 : Int32) then (Q (.inl (some (vi (-1 : Int32)))) (si M 97 0 (0 : Int32))) else (if ((gi M 101 ((gi M 164 (l1).toNatClampNeg)).toNatClampNeg) - (1 : Int32)) < l2 then (Q (.inl (some (vi (-1 : Int32)))) (si M 97 0 (0 : Int32))) else (vp_in (((60 : Int32) * (gi M 164 (l1).toNatClampNeg)) + l2) 24000 ∧ (Q (.inl (some (vi (gi M 100 ((((60 : Int32) * (gi M 164 (l1).toNatClampNeg)) + l2)).toNatClampNeg)))) (si M 97 0 (0 : Int32)))))))))))) : Zm E YX8_printed (d + 1) M [(0, vr (some (97, 1, 0))), (1, vi l1), (2, vi l2)] 0 [] Q := by
  refine sX8_printed_0 (d := d) M l1 l2 ?_
  refine zite k (fun h7622 k => ?_) (fun h7622 k => ?_)
  · exact k
  · refine sX8_in_0 (d := d) (si M 97 0 (0 : Int32)) l1 (0 : Int32) ((gi M 97 107) - (1 : Int32)) ?_
    refine zite k (fun h7623 k => ?_) (fun h7623 k => ?_)
    · show Zm E YX8_printed (d + 1) (si M 97 0 (0 : Int32)) [(0, vr (some (97, 1, 0))), (1, vi l1), (2, vi l2)] 23 [vi (0 : Int32)] Q
      refine sX8_printed_23 (d := d) (si M 97 0 (0 : Int32)) l1 l2 (0 : Int32) ?_
      refine zpos (show (0 : Int32) = 0 from by decide) ?_
      exact k
    · refine zite k (fun h7624 k => ?_) (fun h7624 k => ?_)
      · show Zm E YX8_printed (d + 1) (si M 97 0 (0 : Int32)) [(0, vr (some (97, 1, 0))), (1, vi l1), (2, vi l2)] 23 [vi (0 : Int32)] Q
        refine sX8_printed_23 (d := d) (si M 97 0 (0 : Int32)) l1 l2 (0 : Int32) ?_
        refine zpos (show (0 : Int32) = 0 from by decide) ?_
        exact k
      · show Zm E YX8_printed (d + 1) (si M 97 0 (0 : Int32)) [(0, vr (some (97, 1, 0))), (1, vi l1), (2, vi l2)] 23 [vi (1 : Int32)] Q
        refine sX8_printed_23 (d := d) (si M 97 0 (0 : Int32)) l1 l2 (1 : Int32) ?_
        refine zneg (show ¬ ((1 : Int32) = 0) from by decide) ?_
        refine zand k (fun h7625 k => ?_)
        refine zite k (fun h7626 k => ?_) (fun h7626 k => ?_)
        · exact k
        · refine zand k (fun h7627 k => ?_)
          refine sX8_in_0 (d := d) (si M 97 0 (0 : Int32)) l2 (0 : Int32) ((gi M 101 ((gi M 164 (l1).toNatClampNeg)).toNatClampNeg) - (1 : Int32)) ?_
          refine zite k (fun h7628 k => ?_) (fun h7628 k => ?_)
          · show Zm E YX8_printed (d + 1) (si M 97 0 (0 : Int32)) [(0, vr (some (97, 1, 0))), (2, vi l2), (3, vi (gi M 164 (l1).toNatClampNeg))] 55 [vi (0 : Int32)] Q
            refine sX8_printed_55 (d := d) (si M 97 0 (0 : Int32)) l2 (gi M 164 (l1).toNatClampNeg) (0 : Int32) ?_
            refine zpos (show (0 : Int32) = 0 from by decide) ?_
            exact k
          · refine zite k (fun h7629 k => ?_) (fun h7629 k => ?_)
            · show Zm E YX8_printed (d + 1) (si M 97 0 (0 : Int32)) [(0, vr (some (97, 1, 0))), (2, vi l2), (3, vi (gi M 164 (l1).toNatClampNeg))] 55 [vi (0 : Int32)] Q
              refine sX8_printed_55 (d := d) (si M 97 0 (0 : Int32)) l2 (gi M 164 (l1).toNatClampNeg) (0 : Int32) ?_
              refine zpos (show (0 : Int32) = 0 from by decide) ?_
              exact k
            · show Zm E YX8_printed (d + 1) (si M 97 0 (0 : Int32)) [(0, vr (some (97, 1, 0))), (2, vi l2), (3, vi (gi M 164 (l1).toNatClampNeg))] 55 [vi (1 : Int32)] Q
              refine sX8_printed_55 (d := d) (si M 97 0 (0 : Int32)) l2 (gi M 164 (l1).toNatClampNeg) (1 : Int32) ?_
              refine zneg (show ¬ ((1 : Int32) = 0) from by decide) ?_
              exact k
theorem iX8_property_0 {E : zE} {d : Nat} {Q : zO → zM → Prop} (M : zM) (l1 : Int32) (l2 : Int32) (l3 : Int32) (k : if (gi M 97 73) = 0 then (Q (.inl (some (vi (-1 : Int32)))) (si M 97 0 (0 : Int32))) else (if l1 < (0 : Int32) then (Q (.inl (some (vi (-1 : Int32)))) (si M 97 0 (0 : Int32))) else (if ((gi M 97 76) - (1 : Int32)) < l1 then (Q (.inl (some (vi (-1 : Int32)))) (si M 97 0 (0 : Int32))) else (if 0 ≤ l2 then (vp_in l1 300 ∧ (Zm E YX8_property (d + 1) (si M 97 0 (0 : Int32)) [(0, vr (some (97, 1, 0))), (2, vi l2), (3, vi l3), (4, vi (gi M 143 (l1).toNatClampNeg)), (5, vi (0 : Int32))] 43 [] Q)) else (Q (.inl (some (vi (-1 : Int32)))) (si M 97 0 (0 : Int32))))))) : Zm E YX8_property (d + 1) M [(0, vr (some (97, 1, 0))), (1, vi l1), (2, vi l2), (3, vi l3)] 0 [] Q := by
  refine sX8_property_0 (d := d) M l1 l2 l3 ?_
  refine zite k (fun h7631 k => ?_) (fun h7631 k => ?_)
  · exact k
  · refine sX8_in_0 (d := d) (si M 97 0 (0 : Int32)) l1 (0 : Int32) ((gi M 97 76) - (1 : Int32)) ?_
    refine zite k (fun h7632 k => ?_) (fun h7632 k => ?_)
    · show Zm E YX8_property (d + 1) (si M 97 0 (0 : Int32)) [(0, vr (some (97, 1, 0))), (1, vi l1), (2, vi l2), (3, vi l3)] 23 [vi (0 : Int32)] Q
      refine sX8_property_23 (d := d) (si M 97 0 (0 : Int32)) l1 l2 l3 (0 : Int32) ?_
      refine zpos (show (0 : Int32) = 0 from by decide) ?_
      exact k
    · refine zite k (fun h7633 k => ?_) (fun h7633 k => ?_)
      · show Zm E YX8_property (d + 1) (si M 97 0 (0 : Int32)) [(0, vr (some (97, 1, 0))), (1, vi l1), (2, vi l2), (3, vi l3)] 23 [vi (0 : Int32)] Q
        refine sX8_property_23 (d := d) (si M 97 0 (0 : Int32)) l1 l2 l3 (0 : Int32) ?_
        refine zpos (show (0 : Int32) = 0 from by decide) ?_
        exact k
      · show Zm E YX8_property (d + 1) (si M 97 0 (0 : Int32)) [(0, vr (some (97, 1, 0))), (1, vi l1), (2, vi l2), (3, vi l3)] 23 [vi (1 : Int32)] Q
        refine sX8_property_23 (d := d) (si M 97 0 (0 : Int32)) l1 l2 l3 (1 : Int32) ?_
        refine zneg (show ¬ ((1 : Int32) = 0) from by decide) ?_
        exact k
theorem iX8_property_70 {E : zE} {d : Nat} {Q : zO → zM → Prop} (M : zM) (l3 : Int32) (l4 : Int32) (k : if l4 = (-1 : Int32) then (Q (.inl (some (vi (-1 : Int32)))) M) else (if l3 = 0 then (vp_in l4 3000 ∧ (Q (.inl (some (vi (gi M 145 (l4).toNatClampNeg)))) M)) else (vp_in l4 3000 ∧ (if l3 = (1 : Int32) then (Q (.inl (some (vi (gi M 146 (l4).toNatClampNeg)))) M) else (if l3 = (2 : Int32) then (if (gi M 146 (l4).toNatClampNeg) < (5 : Int32) then (Q (.inl (some (vi (0 : Int32)))) M) else (if (7 : Int32) < (gi M 146 (l4).toNatClampNeg) then (Q (.inl (some (vi (0 : Int32)))) M) else (Q (.inl (some (vi (gi M 147 (l4).toNatClampNeg)))) M))) else (Q (.inl (some (vi (-1 : Int32)))) M)))))) : Zm E YX8_property (d + 1) M [(0, vr (some (97, 1, 0))), (3, vi l3), (4, vi l4)] 70 [] Q := by
  refine sX8_property_70 (d := d) M l3 l4 ?_
  refine zite k (fun h7639 k => ?_) (fun h7639 k => ?_)
  · exact k
  · refine zite k (fun h7640 k => ?_) (fun h7640 k => ?_)
    · refine zand k (fun h7641 k => ?_)
      refine sX8_property_129 (d := d) M (gi M 145 (l4).toNatClampNeg) ?_
      exact k
    · refine zand k (fun h7642 k => ?_)
      refine ⟨h7642, ?_⟩
      refine zite k (fun h7643 k => ?_) (fun h7643 k => ?_)
      · refine sX8_told_0 (d := d) M (gi M 146 (l4).toNatClampNeg) (gi M 147 (l4).toNatClampNeg) (0 : Int32) ?_
        refine zpos (show (0 : Int32) = 0 from by decide) ?_
        show Zm E YX8_property (d + 1) M [] 129 [vi (gi M 146 (l4).toNatClampNeg)] Q
        refine sX8_property_129 (d := d) M (gi M 146 (l4).toNatClampNeg) ?_
        exact k
      · refine zite k (fun h7648 k => ?_) (fun h7648 k => ?_)
        · refine sX8_told_0 (d := d) M (gi M 146 (l4).toNatClampNeg) (gi M 147 (l4).toNatClampNeg) (1 : Int32) ?_
          refine zneg (show ¬ ((1 : Int32) = 0) from by decide) ?_
          refine zpos (show (1 : Int32) = (1 : Int32) from by decide) ?_
          refine zite k (fun h7649 k => ?_) (fun h7649 k => ?_)
          · show Zm E YX8_property (d + 1) M [] 129 [vi (0 : Int32)] Q
            refine sX8_property_129 (d := d) M (0 : Int32) ?_
            exact k
          · refine zite k (fun h7650 k => ?_) (fun h7650 k => ?_)
            · show Zm E YX8_property (d + 1) M [] 129 [vi (0 : Int32)] Q
              refine sX8_property_129 (d := d) M (0 : Int32) ?_
              exact k
            · show Zm E YX8_property (d + 1) M [] 129 [vi (gi M 147 (l4).toNatClampNeg)] Q
              refine sX8_property_129 (d := d) M (gi M 147 (l4).toNatClampNeg) ?_
              exact k
        · refine sX8_told_0 (d := d) M (gi M 146 (l4).toNatClampNeg) (gi M 147 (l4).toNatClampNeg) (-1 : Int32) ?_
          refine zneg (show ¬ ((-1 : Int32) = 0) from by decide) ?_
          refine zneg (show ¬ ((-1 : Int32) = (1 : Int32)) from by decide) ?_
          show Zm E YX8_property (d + 1) M [] 129 [vi (-1 : Int32)] Q
          refine sX8_property_129 (d := d) M (-1 : Int32) ?_
          exact k
theorem iX8_solve_58 {E : zE} {d : Nat} {Q : zO → zM → Prop} (M : zM) (l1 : Int32) (k : if (gi M 97 121) ≤ l1 then (vp_in (639 : Int32) 640 ∧ (Zm E YX8_beginWork d (si (si M 97 127 (465000 : Int32)) 172 ((639 : Int32)).toNatClampNeg (647340 : Int32)) (zargs 0 [vr (some (97, 1, 0))]) 0 [] (zma E YX8_solve (d + 1) [(0, vr (some (97, 1, 0)))] 105 3 [] Q))) else (vp_in l1 640 ∧ (Zm E YX8_solve (d + 1) (si (si M 168 (l1).toNatClampNeg (vp_nar .boolean (0 : Int32))) 169 (l1).toNatClampNeg (vp_nar .boolean (0 : Int32))) [(0, vr (some (97, 1, 0))), (1, vi (l1 + (1 : Int32)))] 58 [] Q))) : Zm E YX8_solve (d + 1) M [(0, vr (some (97, 1, 0))), (1, vi l1)] 58 [] Q := by
  refine sX8_solve_58 (d := d) M l1 ?_
  refine zite k (fun h7667 k => ?_) (fun h7667 k => ?_)
  · exact k
  · refine zand k (fun h7669 k => ?_)
    refine ⟨h7669, ?_⟩
    exact k
theorem iX8_solve_123 {E : zE} {d : Nat} {Q : zO → zM → Prop} (M : zM) (l1 : Int32) (l2 : Int32) (k : if (gi M 97 46) ≤ l2 then (Zm E YX8_solve (d + 1) M [(0, vr (some (97, 1, 0))), (1, vi l1)] 115 [] Q) else (vp_in l2 640 ∧ (if (gi M 169 (l2).toNatClampNeg) = 0 then (Zm E YX8_solve (d + 1) M [(0, vr (some (97, 1, 0))), (1, vi l1), (2, vi (l2 + (1 : Int32)))] 123 [] Q) else (Zm E YX8_ways d (si M 169 (l2).toNatClampNeg (vp_nar .boolean (0 : Int32))) (zargs 0 [vr (some (97, 1, 0)), vi l2]) 0 [] (zma E YX8_solve (d + 1) [(0, vr (some (97, 1, 0))), (1, vi (1 : Int32)), (2, vi l2)] 154 3 [] Q))))) : Zm E YX8_solve (d + 1) M [(0, vr (some (97, 1, 0))), (1, vi l1), (2, vi l2)] 123 [] Q := by
  refine sX8_solve_123 (d := d) M l1 l2 ?_
  refine zite k (fun h7676 k => ?_) (fun h7676 k => ?_)
  · exact k
  · refine zand k (fun h7677 k => ?_)
    refine zite k (fun h7678 k => ?_) (fun h7678 k => ?_)
    · refine sX8_solve_157 (d := d) M l1 l2 ?_
      exact k
    · refine ⟨h7677, ?_⟩
      exact k
theorem iX8_uncaught_0 {E : zE} {d : Nat} {Q : zO → zM → Prop} (M : zM) (l1 : Int32) (k : if (gi M 97 73) = (3 : Int32) then (if l1 = 0 then (Q (.inl (some (vi (gi M 97 109)))) (si M 97 0 (0 : Int32))) else (if l1 = (1 : Int32) then (if (gi M 97 109) < (5 : Int32) then (Q (.inl (some (vi (0 : Int32)))) (si M 97 0 (0 : Int32))) else (if (7 : Int32) < (gi M 97 109) then (Q (.inl (some (vi (0 : Int32)))) (si M 97 0 (0 : Int32))) else (Q (.inl (some (vi (gi M 97 110)))) (si M 97 0 (0 : Int32))))) else (Q (.inl (some (vi (-1 : Int32)))) (si M 97 0 (0 : Int32))))) else (Q (.inl (some (vi (-1 : Int32)))) (si M 97 0 (0 : Int32)))) : Zm E YX8_uncaught (d + 1) M [(0, vr (some (97, 1, 0))), (1, vi l1)] 0 [] Q := by
  refine sX8_uncaught_0 (d := d) M l1 ?_
  refine zite k (fun h7691 k => ?_) (fun h7691 k => ?_)
  · refine sX8_told_0 (d := d) (si M 97 0 (0 : Int32)) (gi M 97 109) (gi M 97 110) l1 ?_
    refine zite k (fun h7692 k => ?_) (fun h7692 k => ?_)
    · show Zm E YX8_uncaught (d + 1) (si M 97 0 (0 : Int32)) [] 26 [vi (gi M 97 109)] Q
      refine sX8_uncaught_26 (d := d) (si M 97 0 (0 : Int32)) (gi M 97 109) ?_
      exact k
    · refine zite k (fun h7693 k => ?_) (fun h7693 k => ?_)
      · refine zite k (fun h7694 k => ?_) (fun h7694 k => ?_)
        · show Zm E YX8_uncaught (d + 1) (si M 97 0 (0 : Int32)) [] 26 [vi (0 : Int32)] Q
          refine sX8_uncaught_26 (d := d) (si M 97 0 (0 : Int32)) (0 : Int32) ?_
          exact k
        · refine zite k (fun h7695 k => ?_) (fun h7695 k => ?_)
          · show Zm E YX8_uncaught (d + 1) (si M 97 0 (0 : Int32)) [] 26 [vi (0 : Int32)] Q
            refine sX8_uncaught_26 (d := d) (si M 97 0 (0 : Int32)) (0 : Int32) ?_
            exact k
          · show Zm E YX8_uncaught (d + 1) (si M 97 0 (0 : Int32)) [] 26 [vi (gi M 97 110)] Q
            refine sX8_uncaught_26 (d := d) (si M 97 0 (0 : Int32)) (gi M 97 110) ?_
            exact k
      · show Zm E YX8_uncaught (d + 1) (si M 97 0 (0 : Int32)) [] 26 [vi (-1 : Int32)] Q
        refine sX8_uncaught_26 (d := d) (si M 97 0 (0 : Int32)) (-1 : Int32) ?_
        exact k
  · exact k
theorem iX8_under_0 {E : zE} {d : Nat} {Q : zO → zM → Prop} (M : zM) (l1 : Int32) (l2 : Int32) (k : vp_in ((gi M 97 92) - (1 : Int32)) 24 ∧ (Zm E YX8_under (d + 1) M [(0, vr (some (97, 1, 0))), (1, vi l1), (2, vi l2), (3, vi (((400 : Int32) * ((gi M 97 92) - (1 : Int32))) + (gi M 155 (((gi M 97 92) - (1 : Int32))).toNatClampNeg))), (4, vi (0 : Int32))] 8 [] Q)) : Zm E YX8_under (d + 1) M [(0, vr (some (97, 1, 0))), (1, vi l1), (2, vi l2)] 0 [] Q := by
  refine sX8_under_0 (d := d) M l1 l2 ?_
  refine sX8_top_0 (d := d) M  ?_
  refine zand k (fun h7696 k => ?_)
  show Zm E YX8_under (d + 1) M [(0, vr (some (97, 1, 0))), (1, vi l1), (2, vi l2)] 4 [vi (((400 : Int32) * ((gi M 97 92) - (1 : Int32))) + (gi M 155 (((gi M 97 92) - (1 : Int32))).toNatClampNeg))] Q
  refine sX8_under_4 (d := d) M l1 l2 (((400 : Int32) * ((gi M 97 92) - (1 : Int32))) + (gi M 155 (((gi M 97 92) - (1 : Int32))).toNatClampNeg)) ?_
  exact k
theorem iX8_under_8 {E : zE} {d : Nat} {Q : zO → zM → Prop} (M : zM) (l1 : Int32) (l2 : Int32) (l3 : Int32) (l4 : Int32) (k : if (2 : Int32) ≤ l4 then (vp_in (l3 - (3 : Int32)) 9600 ∧ (Zm E YX8_push d (si (si M 160 ((l3 - (3 : Int32))).toNatClampNeg l1) 161 ((l3 - (3 : Int32))).toNatClampNeg l2) (zargs 0 [vr (some (97, 1, 0)), vi l1, vi l2]) 0 [] (zma E YX8_under (d + 1) [] 85 3 [] Q))) else (vp_in ((l3 - (2 : Int32)) - l4) 9600 ∧ (vp_in ((l3 - (1 : Int32)) - l4) 9600 ∧ (Zm E YX8_under (d + 1) (si (si M 160 (((l3 - (1 : Int32)) - l4)).toNatClampNeg (gi M 160 (((l3 - (2 : Int32)) - l4)).toNatClampNeg)) 161 (((l3 - (1 : Int32)) - l4)).toNatClampNeg (gi M 161 (((l3 - (2 : Int32)) - l4)).toNatClampNeg)) [(0, vr (some (97, 1, 0))), (1, vi l1), (2, vi l2), (3, vi l3), (4, vi (l4 + (1 : Int32)))] 8 [] Q)))) : Zm E YX8_under (d + 1) M [(0, vr (some (97, 1, 0))), (1, vi l1), (2, vi l2), (3, vi l3), (4, vi l4)] 8 [] Q := by
  refine sX8_under_8 (d := d) M l1 l2 l3 l4 ?_
  refine zite k (fun h7697 k => ?_) (fun h7697 k => ?_)
  · refine zand k (fun h7698 k => ?_)
    refine ⟨h7698, ?_⟩
    exact k
  · refine zand k (fun h7699 k => ?_)
    refine zand k (fun h7700 k => ?_)
    refine ⟨h7699, ?_⟩
    refine ⟨h7700, ?_⟩
    exact k
theorem iX8_value_2_23 {E : zE} {d : Nat} {Q : zO → zM → Prop} (M : zM) (l1 : Int32) (l2 : Int32) (l3 : Int32) (s0 : Int32) (k : if s0 = 0 then (Q (.inl (some (vi (-1 : Int32)))) M) else (if l2 = (-1 : Int32) then (vp_in (((gi M 97 92) - (1 : Int32)) - l1) 24 ∧ (if l3 = 0 then (Q (.inl (some (vi (gi M 152 ((((gi M 97 92) - (1 : Int32)) - l1)).toNatClampNeg)))) M) else (if l3 = (1 : Int32) then (if (gi M 152 ((((gi M 97 92) - (1 : Int32)) - l1)).toNatClampNeg) < (5 : Int32) then (Q (.inl (some (vi (0 : Int32)))) M) else (if (7 : Int32) < (gi M 152 ((((gi M 97 92) - (1 : Int32)) - l1)).toNatClampNeg) then (Q (.inl (some (vi (0 : Int32)))) M) else (Q (.inl (some (vi (gi M 153 ((((gi M 97 92) - (1 : Int32)) - l1)).toNatClampNeg)))) M))) else (Q (.inl (some (vi (-1 : Int32)))) M)))) else (vp_in (((gi M 97 92) - (1 : Int32)) - l1) 24 ∧ (if l2 < (0 : Int32) then (Q (.inl (some (vi (-1 : Int32)))) M) else (if ((gi M 155 ((((gi M 97 92) - (1 : Int32)) - l1)).toNatClampNeg) - (1 : Int32)) < l2 then (Q (.inl (some (vi (-1 : Int32)))) M) else (vp_in (((400 : Int32) * (((gi M 97 92) - (1 : Int32)) - l1)) + l2) 9600 ∧ (if (gi M 160 ((((400 : Int32) * (((gi M 97 92) - (1 : Int32)) - l1)) + l2)).toNatClampNeg) = (8 : Int32) then (if l3 = (1 : Int32) then (Zm E YX8_leftOf d M (zargs 0 [vr (some (97, 1, 0)), vi (((400 : Int32) * (((gi M 97 92) - (1 : Int32)) - l1)) + l2)]) 0 [] (zma E YX8_value_2 (d + 1) [] 112 3 [] Q)) else (if l3 = 0 then (Q (.inl (some (vi (gi M 160 ((((400 : Int32) * (((gi M 97 92) - (1 : Int32)) - l1)) + l2)).toNatClampNeg)))) M) else (Q (.inl (some (vi (-1 : Int32)))) M))) else (if l3 = 0 then (Q (.inl (some (vi (gi M 160 ((((400 : Int32) * (((gi M 97 92) - (1 : Int32)) - l1)) + l2)).toNatClampNeg)))) M) else (if l3 = (1 : Int32) then (if (gi M 160 ((((400 : Int32) * (((gi M 97 92) - (1 : Int32)) - l1)) + l2)).toNatClampNeg) < (5 : Int32) then (Q (.inl (some (vi (0 : Int32)))) M) else (if (7 : Int32) < (gi M 160 ((((400 : Int32) * (((gi M 97 92) - (1 : Int32)) - l1)) + l2)).toNatClampNeg) then (Q (.inl (some (vi (0 : Int32)))) M) else (Q (.inl (some (vi (gi M 161 ((((400 : Int32) * (((gi M 97 92) - (1 : Int32)) - l1)) + l2)).toNatClampNeg)))) M))) else (Q (.inl (some (vi (-1 : Int32)))) M)))))))))) : Zm E YX8_value_2 (d + 1) M [(0, vr (some (97, 1, 0))), (1, vi l1), (2, vi l2), (3, vi l3)] 23 [vi s0] Q := by
  refine sX8_value_2_23 (d := d) M l1 l2 l3 s0 ?_
  refine zite k (fun h7731 k => ?_) (fun h7731 k => ?_)
  · exact k
  · refine zite k (fun h7732 k => ?_) (fun h7732 k => ?_)
    · refine zand k (fun h7733 k => ?_)
      refine ⟨h7733, ?_⟩
      refine sX8_told_0 (d := d) M (gi M 152 ((((gi M 97 92) - (1 : Int32)) - l1)).toNatClampNeg) (gi M 153 ((((gi M 97 92) - (1 : Int32)) - l1)).toNatClampNeg) l3 ?_
      refine zite k (fun h7734 k => ?_) (fun h7734 k => ?_)
      · show Zm E YX8_value_2 (d + 1) M [] 62 [vi (gi M 152 ((((gi M 97 92) - (1 : Int32)) - l1)).toNatClampNeg)] Q
        refine sX8_value_2_62 (d := d) M (gi M 152 ((((gi M 97 92) - (1 : Int32)) - l1)).toNatClampNeg) ?_
        exact k
      · refine zite k (fun h7735 k => ?_) (fun h7735 k => ?_)
        · refine zite k (fun h7736 k => ?_) (fun h7736 k => ?_)
          · show Zm E YX8_value_2 (d + 1) M [] 62 [vi (0 : Int32)] Q
            refine sX8_value_2_62 (d := d) M (0 : Int32) ?_
            exact k
          · refine zite k (fun h7737 k => ?_) (fun h7737 k => ?_)
            · show Zm E YX8_value_2 (d + 1) M [] 62 [vi (0 : Int32)] Q
              refine sX8_value_2_62 (d := d) M (0 : Int32) ?_
              exact k
            · show Zm E YX8_value_2 (d + 1) M [] 62 [vi (gi M 153 ((((gi M 97 92) - (1 : Int32)) - l1)).toNatClampNeg)] Q
              refine sX8_value_2_62 (d := d) M (gi M 153 ((((gi M 97 92) - (1 : Int32)) - l1)).toNatClampNeg) ?_
              exact k
        · show Zm E YX8_value_2 (d + 1) M [] 62 [vi (-1 : Int32)] Q
          refine sX8_value_2_62 (d := d) M (-1 : Int32) ?_
          exact k
    · refine zand k (fun h7738 k => ?_)
      refine sX8_in_0 (d := d) M l2 (0 : Int32) ((gi M 155 ((((gi M 97 92) - (1 : Int32)) - l1)).toNatClampNeg) - (1 : Int32)) ?_
      refine zite k (fun h7739 k => ?_) (fun h7739 k => ?_)
      · show Zm E YX8_value_2 (d + 1) M [(0, vr (some (97, 1, 0))), (2, vi l2), (3, vi l3), (4, vi (((gi M 97 92) - (1 : Int32)) - l1))] 77 [vi (0 : Int32)] Q
        refine sX8_value_2_77 (d := d) M l2 l3 (((gi M 97 92) - (1 : Int32)) - l1) (0 : Int32) ?_
        refine zpos (show (0 : Int32) = 0 from by decide) ?_
        exact k
      · refine zite k (fun h7740 k => ?_) (fun h7740 k => ?_)
        · show Zm E YX8_value_2 (d + 1) M [(0, vr (some (97, 1, 0))), (2, vi l2), (3, vi l3), (4, vi (((gi M 97 92) - (1 : Int32)) - l1))] 77 [vi (0 : Int32)] Q
          refine sX8_value_2_77 (d := d) M l2 l3 (((gi M 97 92) - (1 : Int32)) - l1) (0 : Int32) ?_
          refine zpos (show (0 : Int32) = 0 from by decide) ?_
          exact k
        · show Zm E YX8_value_2 (d + 1) M [(0, vr (some (97, 1, 0))), (2, vi l2), (3, vi l3), (4, vi (((gi M 97 92) - (1 : Int32)) - l1))] 77 [vi (1 : Int32)] Q
          refine sX8_value_2_77 (d := d) M l2 l3 (((gi M 97 92) - (1 : Int32)) - l1) (1 : Int32) ?_
          refine zneg (show ¬ ((1 : Int32) = 0) from by decide) ?_
          refine zand k (fun h7741 k => ?_)
          refine zite k (fun h7742 k => ?_) (fun h7742 k => ?_)
          · refine zite k (fun h7743 k => ?_) (fun h7743 k => ?_)
            · exact k
            · refine sX8_value_2_116 (d := d) M l3 (((400 : Int32) * (((gi M 97 92) - (1 : Int32)) - l1)) + l2) ?_
              refine ⟨h7741, ?_⟩
              refine ⟨h7741, ?_⟩
              refine sX8_told_0 (d := d) M (gi M 160 ((((400 : Int32) * (((gi M 97 92) - (1 : Int32)) - l1)) + l2)).toNatClampNeg) (gi M 161 ((((400 : Int32) * (((gi M 97 92) - (1 : Int32)) - l1)) + l2)).toNatClampNeg) l3 ?_
              refine zite k (fun h7744 k => ?_) (fun h7744 k => ?_)
              · show Zm E YX8_value_2 (d + 1) M [] 135 [vi (gi M 160 ((((400 : Int32) * (((gi M 97 92) - (1 : Int32)) - l1)) + l2)).toNatClampNeg)] Q
                refine sX8_value_2_135 (d := d) M (gi M 160 ((((400 : Int32) * (((gi M 97 92) - (1 : Int32)) - l1)) + l2)).toNatClampNeg) ?_
                exact k
              · refine zneg h7743 ?_
                show Zm E YX8_value_2 (d + 1) M [] 135 [vi (-1 : Int32)] Q
                refine sX8_value_2_135 (d := d) M (-1 : Int32) ?_
                exact k
          · refine sX8_value_2_116 (d := d) M l3 (((400 : Int32) * (((gi M 97 92) - (1 : Int32)) - l1)) + l2) ?_
            refine ⟨h7741, ?_⟩
            refine ⟨h7741, ?_⟩
            refine sX8_told_0 (d := d) M (gi M 160 ((((400 : Int32) * (((gi M 97 92) - (1 : Int32)) - l1)) + l2)).toNatClampNeg) (gi M 161 ((((400 : Int32) * (((gi M 97 92) - (1 : Int32)) - l1)) + l2)).toNatClampNeg) l3 ?_
            refine zite k (fun h7745 k => ?_) (fun h7745 k => ?_)
            · show Zm E YX8_value_2 (d + 1) M [] 135 [vi (gi M 160 ((((400 : Int32) * (((gi M 97 92) - (1 : Int32)) - l1)) + l2)).toNatClampNeg)] Q
              refine sX8_value_2_135 (d := d) M (gi M 160 ((((400 : Int32) * (((gi M 97 92) - (1 : Int32)) - l1)) + l2)).toNatClampNeg) ?_
              exact k
            · refine zite k (fun h7746 k => ?_) (fun h7746 k => ?_)
              · refine zite k (fun h7747 k => ?_) (fun h7747 k => ?_)
                · show Zm E YX8_value_2 (d + 1) M [] 135 [vi (0 : Int32)] Q
                  refine sX8_value_2_135 (d := d) M (0 : Int32) ?_
                  exact k
                · refine zite k (fun h7748 k => ?_) (fun h7748 k => ?_)
                  · show Zm E YX8_value_2 (d + 1) M [] 135 [vi (0 : Int32)] Q
                    refine sX8_value_2_135 (d := d) M (0 : Int32) ?_
                    exact k
                  · show Zm E YX8_value_2 (d + 1) M [] 135 [vi (gi M 161 ((((400 : Int32) * (((gi M 97 92) - (1 : Int32)) - l1)) + l2)).toNatClampNeg)] Q
                    refine sX8_value_2_135 (d := d) M (gi M 161 ((((400 : Int32) * (((gi M 97 92) - (1 : Int32)) - l1)) + l2)).toNatClampNeg) ?_
                    exact k
              · show Zm E YX8_value_2 (d + 1) M [] 135 [vi (-1 : Int32)] Q
                refine sX8_value_2_135 (d := d) M (-1 : Int32) ?_
                exact k
theorem jX8_hasLabels {E : zE} {d : Nat} {Q : zO → zM → Prop} (M : zM) (l1 : Int32) (k : vp_in l1 647800 ∧ (if (lg_cmp ((gl M 166 (l1).toNatClampNeg) ||| (gl M 167 (l1).toNatClampNeg)) (0 : Int64)) = 0 then (Q (.inl (some (vi (0 : Int32)))) M) else (Q (.inl (some (vi (1 : Int32)))) M))) : Zm E YX8_hasLabels d M [(0, vr (some (97, 1, 0))), (1, vi l1)] 0 [] Q := by
  refine sX8_hasLabels_0 (d := d) M l1 ?_
  refine zand k (fun h7768 k => ?_)
  refine ⟨h7768, ?_⟩
  exact k
theorem iX8_addNew_0 {E : zE} {d : Nat} {Q : zO → zM → Prop} (M : zM) (l1 : Int32) (l2 : Int32) (l3 : Int32) (l4 : Int32) (k : vp_in ((15000 : Int32) + l1) 15128 ∧ (Zm E YX8_addNew ((d + 1) + 1) (sl (si M 178 (((15000 : Int32) + l1)).toNatClampNeg (vp_nar .boolean (1 : Int32))) 180 (((15000 : Int32) + l1)).toNatClampNeg ((gl M 180 (((15000 : Int32) + l1)).toNatClampNeg) ||| (zls (1 : Int64) l2))) [(0, vr (some (97, 1, 0))), (1, vi l1), (3, vi l3), (4, vi l4), (6, vi (0 : Int32))] 39 [] Q)) : Zm E YX8_addNew (d + 2) M [(0, vr (some (97, 1, 0))), (1, vi l1), (2, vi l2), (3, vi l3), (4, vi l4)] 0 [] Q := by
  refine sX8_addNew_0 (d := (d + 1)) M l1 l2 l3 l4 ?_
  refine jX8_of (d := d) M (639 : Int32) l1 ?_
  refine zpos (show (639 : Int32) = (639 : Int32) from by decide) ?_
  show Zm E YX8_addNew ((d + 1) + 1) M [(0, vr (some (97, 1, 0))), (1, vi l1), (2, vi l2), (3, vi l3), (4, vi l4)] 8 [vi ((15000 : Int32) + l1)] Q
  refine sX8_addNew_8 (d := (d + 1)) M l1 l2 l3 l4 ((15000 : Int32) + l1) ?_
  refine zand k (fun h7751 k => ?_)
  refine ⟨h7751, ?_⟩
  refine ⟨h7751, ?_⟩
  exact k
theorem iX8_addNew_39 {E : zE} {d : Nat} {Q : zO → zM → Prop} (M : zM) (l1 : Int32) (l3 : Int32) (l4 : Int32) (l6 : Int32) (k : if (gi M 97 8) < l6 then (Q (.inl none) M) else (if l3 = 0 then (Zm E YX8_addNew ((d + 1) + 1) M [(0, vr (some (97, 1, 0))), (1, vi l1), (3, vi l3), (4, vi l4), (6, vi l6), (7, vi (((635640 : Int32) + (l1 * ((gi M 97 8) + (1 : Int32)))) + l6))] 79 [] Q) else (if l6 = 0 then (Zm E YX8_addNumber (d + 1) M (zargs 0 [vr (some (97, 1, 0)), vi (((635640 : Int32) + (l1 * ((gi M 97 8) + (1 : Int32)))) + l6), vi (0 : Int32)]) 0 [] (zma E YX8_addNew ((d + 1) + 1) [(0, vr (some (97, 1, 0))), (1, vi l1), (3, vi l3), (4, vi l4), (6, vi l6)] 73 3 [] Q)) else (Zm E YX8_addNew ((d + 1) + 1) M [(0, vr (some (97, 1, 0))), (1, vi l1), (3, vi l3), (4, vi l4), (6, vi l6), (7, vi (((635640 : Int32) + (l1 * ((gi M 97 8) + (1 : Int32)))) + l6))] 79 [] Q)))) : Zm E YX8_addNew (d + 2) M [(0, vr (some (97, 1, 0))), (1, vi l1), (3, vi l3), (4, vi l4), (6, vi l6)] 39 [] Q := by
  refine sX8_addNew_39 (d := (d + 1)) M l1 l3 l4 l6 ?_
  refine zite k (fun h7753 k => ?_) (fun h7753 k => ?_)
  · exact k
  · refine jX8_field (d := d) M (639 : Int32) l1 l6 ?_
    refine zpos (show (639 : Int32) = (639 : Int32) from by decide) ?_
    show Zm E YX8_addNew ((d + 1) + 1) M [(0, vr (some (97, 1, 0))), (1, vi l1), (3, vi l3), (4, vi l4), (6, vi l6)] 58 [vi (((635640 : Int32) + (l1 * ((gi M 97 8) + (1 : Int32)))) + l6)] Q
    refine sX8_addNew_58 (d := (d + 1)) M l1 l3 l4 l6 (((635640 : Int32) + (l1 * ((gi M 97 8) + (1 : Int32)))) + l6) ?_
    exact k
theorem iX8_addNew_76 {E : zE} {d : Nat} {Q : zO → zM → Prop} (M : zM) (l1 : Int32) (l3 : Int32) (l4 : Int32) (l6 : Int32) (k : Zm E YX8_addNew (d + 1) M [(0, vr (some (97, 1, 0))), (1, vi l1), (3, vi l3), (4, vi l4), (6, vi (l6 + (1 : Int32)))] 39 [] Q) : Zm E YX8_addNew (d + 1) M [(0, vr (some (97, 1, 0))), (1, vi l1), (3, vi l3), (4, vi l4), (6, vi l6)] 76 [] Q := by
  refine sX8_addNew_76 (d := d) M l1 l3 l4 l6 ?_
  refine sX8_addNew_111 (d := d) M l1 l3 l4 l6 ?_
  exact k
theorem iX8_addNew_99 {E : zE} {d : Nat} {Q : zO → zM → Prop} (M : zM) (l1 : Int32) (l3 : Int32) (l4 : Int32) (l6 : Int32) (k : Zm E YX8_addNew (d + 1) M [(0, vr (some (97, 1, 0))), (1, vi l1), (3, vi l3), (4, vi l4), (6, vi (l6 + (1 : Int32)))] 39 [] Q) : Zm E YX8_addNew (d + 1) M [(0, vr (some (97, 1, 0))), (1, vi l1), (3, vi l3), (4, vi l4), (6, vi l6)] 99 [] Q := by
  refine sX8_addNew_99 (d := d) M l1 l3 l4 l6 ?_
  refine sX8_addNew_111 (d := d) M l1 l3 l4 l6 ?_
  exact k
theorem iX8_addNumber_0 {E : zE} {d : Nat} {Q : zO → zM → Prop} (M : zM) (l1 : Int32) (l2 : Int32) (k : vp_in (647790 : Int32) 647800 ∧ (Zm E YX8_join d (sl (sl (sl (sl M 165 ((647790 : Int32)).toNatClampNeg (0 : Int64)) 166 ((647790 : Int32)).toNatClampNeg (0 : Int64)) 167 ((647790 : Int32)).toNatClampNeg (0 : Int64)) 165 ((647790 : Int32)).toNatClampNeg (((zls (l2).toInt64 (32 : Int32)) ||| (zls ((0 : Int32)).toInt64 (10 : Int32))) ||| ((32 : Int32)).toInt64)) (zargs 0 [vr (some (97, 1, 0)), vi (647790 : Int32), vi l1]) 0 [] (zma E YX8_addNumber (d + 1) [] 21 3 [] Q))) : Zm E YX8_addNumber (d + 1) M [(0, vr (some (97, 1, 0))), (1, vi l1), (2, vi l2)] 0 [] Q := by
  refine sX8_addNumber_0 (d := d) M l1 l2 ?_
  refine jX8_empty (d := d) M (647790 : Int32) ?_
  refine zand k (fun h7780 k => ?_)
  show Zm E YX8_addNumber (d + 1) (sl (sl (sl M 165 ((647790 : Int32)).toNatClampNeg (0 : Int64)) 166 ((647790 : Int32)).toNatClampNeg (0 : Int64)) 167 ((647790 : Int32)).toNatClampNeg (0 : Int64)) [(0, vr (some (97, 1, 0))), (1, vi l1), (2, vi l2), (3, vi (647790 : Int32))] 9 [] Q
  refine sX8_addNumber_9 (d := d) (sl (sl (sl M 165 ((647790 : Int32)).toNatClampNeg (0 : Int64)) 166 ((647790 : Int32)).toNatClampNeg (0 : Int64)) 167 ((647790 : Int32)).toNatClampNeg (0 : Int64)) l1 l2 (647790 : Int32) ?_
  refine sX8_write_0 (d := d) (sl (sl (sl M 165 ((647790 : Int32)).toNatClampNeg (0 : Int64)) 166 ((647790 : Int32)).toNatClampNeg (0 : Int64)) 167 ((647790 : Int32)).toNatClampNeg (0 : Int64)) (647790 : Int32) (32 : Int32) (0 : Int32) l2 ?_
  refine ⟨h7780, ?_⟩
  show Zm E YX8_addNumber (d + 1) (sl (sl (sl (sl M 165 ((647790 : Int32)).toNatClampNeg (0 : Int64)) 166 ((647790 : Int32)).toNatClampNeg (0 : Int64)) 167 ((647790 : Int32)).toNatClampNeg (0 : Int64)) 165 ((647790 : Int32)).toNatClampNeg (((zls (l2).toInt64 (32 : Int32)) ||| (zls ((0 : Int32)).toInt64 (10 : Int32))) ||| ((32 : Int32)).toInt64)) [(0, vr (some (97, 1, 0))), (1, vi l1), (3, vi (647790 : Int32))] 18 [] Q
  refine sX8_addNumber_18 (d := d) (sl (sl (sl (sl M 165 ((647790 : Int32)).toNatClampNeg (0 : Int64)) 166 ((647790 : Int32)).toNatClampNeg (0 : Int64)) 167 ((647790 : Int32)).toNatClampNeg (0 : Int64)) 165 ((647790 : Int32)).toNatClampNeg (((zls (l2).toInt64 (32 : Int32)) ||| (zls ((0 : Int32)).toInt64 (10 : Int32))) ||| ((32 : Int32)).toInt64)) l1 (647790 : Int32) ?_
  exact k
theorem jX8_isIn {E : zE} {d : Nat} {Q : zO → zM → Prop} (M : zM) (l0 : Int64) (l2 : Int64) (l4 : Int32) (k : if (64 : Int32) ≤ l4 then (if (lg_cmp ((zlr l2 (l4 - (64 : Int32))) &&& (1 : Int64)) (1 : Int64)) = 0 then (Q (.inl (some (vi (1 : Int32)))) M) else (Q (.inl (some (vi (0 : Int32)))) M)) else (if (lg_cmp ((zlr l0 l4) &&& (1 : Int64)) (1 : Int64)) = 0 then (Q (.inl (some (vi (1 : Int32)))) M) else (Q (.inl (some (vi (0 : Int32)))) M))) : Zm E YX8_isIn d M [(0, vl l0), (2, vl l2), (4, vi l4)] 0 [] Q := by
  refine sX8_isIn_0 (d := d) M l0 l2 l4 ?_
  refine zite k (fun h7783 k => ?_) (fun h7783 k => ?_)
  · refine sX8_isIn_21 (d := d) M (zlr l2 (l4 - (64 : Int32))) ?_
    exact k
  · refine sX8_isIn_21 (d := d) M (zlr l0 l4) ?_
    exact k
theorem jX8_hasKey {E : zE} {d : Nat} {Q : zO → zM → Prop} (M : zM) (l1 : Int32) (k : if (64 : Int32) ≤ l1 then (if (lg_cmp ((zlr (gl M 97 144) (l1 - (64 : Int32))) &&& (1 : Int64)) (1 : Int64)) = 0 then ((narrow .boolean (.int (1 : Int32)) = .int (1 : Int32)) ∧ (Q (.inl (some (vi (1 : Int32)))) M)) else ((narrow .boolean (.int (0 : Int32)) = .int (0 : Int32)) ∧ (Q (.inl (some (vi (0 : Int32)))) M))) else (if (lg_cmp ((zlr (gl M 97 143) l1) &&& (1 : Int64)) (1 : Int64)) = 0 then ((narrow .boolean (.int (1 : Int32)) = .int (1 : Int32)) ∧ (Q (.inl (some (vi (1 : Int32)))) M)) else ((narrow .boolean (.int (0 : Int32)) = .int (0 : Int32)) ∧ (Q (.inl (some (vi (0 : Int32)))) M)))) : Zm E YX8_hasKey (d + 1) M [(0, vr (some (97, 1, 0))), (1, vi l1)] 0 [] Q := by
  refine sX8_hasKey_0 (d := d) M l1 ?_
  refine jX8_isIn (d := d) M (gl M 97 143) (gl M 97 144) l1 ?_
  refine zite k (fun h7786 k => ?_) (fun h7786 k => ?_)
  · refine zite k (fun h7787 k => ?_) (fun h7787 k => ?_)
    · show Zm E YX8_hasKey (d + 1) M [] 12 [vi (1 : Int32)] Q
      refine sX8_hasKey_12 (d := d) M (1 : Int32) ?_
      exact k
    · show Zm E YX8_hasKey (d + 1) M [] 12 [vi (0 : Int32)] Q
      refine sX8_hasKey_12 (d := d) M (0 : Int32) ?_
      exact k
  · refine zite k (fun h7790 k => ?_) (fun h7790 k => ?_)
    · show Zm E YX8_hasKey (d + 1) M [] 12 [vi (1 : Int32)] Q
      refine sX8_hasKey_12 (d := d) M (1 : Int32) ?_
      exact k
    · show Zm E YX8_hasKey (d + 1) M [] 12 [vi (0 : Int32)] Q
      refine sX8_hasKey_12 (d := d) M (0 : Int32) ?_
      exact k
theorem iX8_addTextOf_23 {E : zE} {d : Nat} {Q : zO → zM → Prop} (M : zM) (l2 : Int32) (l3 : Int32) (l4 : Int32) (s0 : Int32) (k : if s0 = (1 : Int32) then (if (64 : Int32) ≤ l4 then (if (lg_cmp ((zlr (gl M 97 144) (l4 - (64 : Int32))) &&& (1 : Int64)) (1 : Int64)) = 0 then ((narrow .boolean (.int (1 : Int32)) = .int (1 : Int32)) ∧ (Zm E YX8_addTextOf ((d + 1) + 1) M [(0, vr (some (97, 1, 0))), (2, vi l2), (3, vi l4), (4, vi (l4 + (1 : Int32)))] 10 [] Q)) else ((narrow .boolean (.int (0 : Int32)) = .int (0 : Int32)) ∧ (Zm E YX8_addTextOf ((d + 1) + 1) M [(0, vr (some (97, 1, 0))), (2, vi l2), (3, vi l3), (4, vi (l4 + (1 : Int32)))] 10 [] Q))) else (if (lg_cmp ((zlr (gl M 97 143) l4) &&& (1 : Int64)) (1 : Int64)) = 0 then ((narrow .boolean (.int (1 : Int32)) = .int (1 : Int32)) ∧ (Zm E YX8_addTextOf ((d + 1) + 1) M [(0, vr (some (97, 1, 0))), (2, vi l2), (3, vi l4), (4, vi (l4 + (1 : Int32)))] 10 [] Q)) else ((narrow .boolean (.int (0 : Int32)) = .int (0 : Int32)) ∧ (Zm E YX8_addTextOf ((d + 1) + 1) M [(0, vr (some (97, 1, 0))), (2, vi l2), (3, vi l3), (4, vi (l4 + (1 : Int32)))] 10 [] Q)))) else (Zm E YX8_addString (d + 1) M (zargs 0 [vr (some (97, 1, 0)), vi l2, vi l3]) 0 [] (zma E YX8_addTextOf ((d + 1) + 1) [] 52 3 [] Q))) : Zm E YX8_addTextOf (d + 2) M [(0, vr (some (97, 1, 0))), (2, vi l2), (3, vi l3), (4, vi l4)] 23 [vi s0] Q := by
  refine sX8_addTextOf_23 (d := (d + 1)) M l2 l3 l4 s0 ?_
  refine zite k (fun h7793 k => ?_) (fun h7793 k => ?_)
  · refine jX8_hasKey (d := d) M l4 ?_
    refine zite k (fun h7794 k => ?_) (fun h7794 k => ?_)
    · refine zite k (fun h7795 k => ?_) (fun h7795 k => ?_)
      · refine zand k (fun h7796 k => ?_)
        show Zm E YX8_addTextOf ((d + 1) + 1) M [(0, vr (some (97, 1, 0))), (2, vi l2), (3, vi l3), (4, vi l4)] 33 [vi (1 : Int32)] Q
        refine sX8_addTextOf_33 (d := (d + 1)) M l2 l3 l4 (1 : Int32) ?_
        refine zneg (show ¬ ((1 : Int32) = 0) from by decide) ?_
        exact k
      · refine zand k (fun h7797 k => ?_)
        show Zm E YX8_addTextOf ((d + 1) + 1) M [(0, vr (some (97, 1, 0))), (2, vi l2), (3, vi l3), (4, vi l4)] 33 [vi (0 : Int32)] Q
        refine sX8_addTextOf_33 (d := (d + 1)) M l2 l3 l4 (0 : Int32) ?_
        refine zpos (show (0 : Int32) = 0 from by decide) ?_
        exact k
    · refine zite k (fun h7798 k => ?_) (fun h7798 k => ?_)
      · refine zand k (fun h7799 k => ?_)
        show Zm E YX8_addTextOf ((d + 1) + 1) M [(0, vr (some (97, 1, 0))), (2, vi l2), (3, vi l3), (4, vi l4)] 33 [vi (1 : Int32)] Q
        refine sX8_addTextOf_33 (d := (d + 1)) M l2 l3 l4 (1 : Int32) ?_
        refine zneg (show ¬ ((1 : Int32) = 0) from by decide) ?_
        exact k
      · refine zand k (fun h7800 k => ?_)
        show Zm E YX8_addTextOf ((d + 1) + 1) M [(0, vr (some (97, 1, 0))), (2, vi l2), (3, vi l3), (4, vi l4)] 33 [vi (0 : Int32)] Q
        refine sX8_addTextOf_33 (d := (d + 1)) M l2 l3 l4 (0 : Int32) ?_
        refine zpos (show (0 : Int32) = 0 from by decide) ?_
        exact k
  · exact k
theorem iX8_addValue_0 {E : zE} {d : Nat} {Q : zO → zM → Prop} (M : zM) (l1 : Int32) (l2 : Int32) (l3 : Int32) (k : if (5 : Int32) ≤ l2 then (if l2 = (5 : Int32) then (Zm E YX8_addNumber d M (zargs 0 [vr (some (97, 1, 0)), vi l1, vi l3]) 0 [] (zma E YX8_addValue (d + 1) [] 24 3 [] Q)) else (if l2 = (6 : Int32) then (Zm E YX8_addString d M (zargs 0 [vr (some (97, 1, 0)), vi l1, vi l3]) 0 [] (zma E YX8_addValue (d + 1) [] 39 3 [] Q)) else (if (64 : Int32) ≤ l3 then (vp_in l1 647800 ∧ (Q (.inl none) (sl M 167 (l1).toNatClampNeg ((gl M 167 (l1).toNatClampNeg) ||| (zls (1 : Int64) (l3 - (64 : Int32))))))) else (vp_in l1 647800 ∧ (Q (.inl none) (sl M 166 (l1).toNatClampNeg ((gl M 166 (l1).toNatClampNeg) ||| (zls (1 : Int64) l3)))))))) else (Zm E YX8_addSort d M (zargs 0 [vr (some (97, 1, 0)), vi l1, vi ((1 : Int32) <<< (l2 &&& 31))]) 0 [] (zma E YX8_addValue (d + 1) [] 10 3 [] Q))) : Zm E YX8_addValue (d + 1) M [(0, vr (some (97, 1, 0))), (1, vi l1), (2, vi l2), (3, vi l3)] 0 [] Q := by
  refine sX8_addValue_0 (d := d) M l1 l2 l3 ?_
  refine zite k (fun h7801 k => ?_) (fun h7801 k => ?_)
  · refine zite k (fun h7802 k => ?_) (fun h7802 k => ?_)
    · exact k
    · refine zite k (fun h7803 k => ?_) (fun h7803 k => ?_)
      · exact k
      · refine jX8_addLabel (d := d) M l1 l3 ?_
        refine zite k (fun h7804 k => ?_) (fun h7804 k => ?_)
        · refine zand k (fun h7805 k => ?_)
          show Zm E YX8_addValue (d + 1) (sl M 167 (l1).toNatClampNeg ((gl M 167 (l1).toNatClampNeg) ||| (zls (1 : Int64) (l3 - (64 : Int32))))) [] 51 [] Q
          refine sX8_addValue_51 (d := d) (sl M 167 (l1).toNatClampNeg ((gl M 167 (l1).toNatClampNeg) ||| (zls (1 : Int64) (l3 - (64 : Int32)))))  ?_
          exact k
        · refine zand k (fun h7806 k => ?_)
          show Zm E YX8_addValue (d + 1) (sl M 166 (l1).toNatClampNeg ((gl M 166 (l1).toNatClampNeg) ||| (zls (1 : Int64) l3))) [] 51 [] Q
          refine sX8_addValue_51 (d := d) (sl M 166 (l1).toNatClampNeg ((gl M 166 (l1).toNatClampNeg) ||| (zls (1 : Int64) l3)))  ?_
          exact k
  · exact k
theorem iX8_addValue_27 {E : zE} {d : Nat} {Q : zO → zM → Prop} (M : zM)  (k : Q (.inl none) M) : Zm E YX8_addValue (d + 1) M [] 27 [] Q := by
  refine sX8_addValue_27 (d := d) M  ?_
  refine sX8_addValue_51 (d := d) M  ?_
  exact k
theorem iX8_addValue_42 {E : zE} {d : Nat} {Q : zO → zM → Prop} (M : zM)  (k : Q (.inl none) M) : Zm E YX8_addValue (d + 1) M [] 42 [] Q := by
  refine sX8_addValue_42 (d := d) M  ?_
  refine sX8_addValue_51 (d := d) M  ?_
  exact k
theorem iX8_addValue_13 {E : zE} {d : Nat} {Q : zO → zM → Prop} (M : zM)  (k : Q (.inl none) M) : Zm E YX8_addValue (d + 1) M [] 13 [] Q := by
  refine sX8_addValue_13 (d := d) M  ?_
  refine sX8_addValue_51 (d := d) M  ?_
  exact k
theorem iX8_copySet_0 {E : zE} {d : Nat} {Q : zO → zM → Prop} (M : zM) (l1 : Int32) (l2 : Int32) (k : vp_in l1 647800 ∧ (vp_in l2 647800 ∧ (Q (.inl none) (sl (sl (sl M 165 (l2).toNatClampNeg (gl M 165 (l1).toNatClampNeg)) 166 (l2).toNatClampNeg (gl M 166 (l1).toNatClampNeg)) 167 (l2).toNatClampNeg (gl M 167 (l1).toNatClampNeg))))) : Zm E YX8_copySet d M [(0, vr (some (97, 1, 0))), (1, vi l1), (2, vi l2)] 0 [] Q := by
  refine sX8_copySet_0 (d := d) M l1 l2 ?_
  refine zand k (fun h7807 k => ?_)
  refine zand k (fun h7808 k => ?_)
  refine ⟨h7807, ?_⟩
  refine ⟨h7808, ?_⟩
  refine ⟨h7807, ?_⟩
  refine ⟨h7808, ?_⟩
  exact k
theorem iX8_errorNow_11 {E : zE} {d : Nat} {Q : zO → zM → Prop} (M : zM) (l1 : Int32) (k : vp_in (647792 : Int32) 647800 ∧ (if (64 : Int32) ≤ (l1 + (20 : Int32)) then (if l1 = (6 : Int32) then (Zm E YX8_tossSet d (si (sl (sl (sl (sl M 165 ((647792 : Int32)).toNatClampNeg (0 : Int64)) 166 ((647792 : Int32)).toNatClampNeg (0 : Int64)) 167 ((647792 : Int32)).toNatClampNeg (0 : Int64)) 167 ((647792 : Int32)).toNatClampNeg ((gl (sl (sl (sl M 165 ((647792 : Int32)).toNatClampNeg (0 : Int64)) 166 ((647792 : Int32)).toNatClampNeg (0 : Int64)) 167 ((647792 : Int32)).toNatClampNeg (0 : Int64)) 167 ((647792 : Int32)).toNatClampNeg) ||| (zls (1 : Int64) ((l1 + (20 : Int32)) - (64 : Int32))))) 97 149 ((gi M 97 149) ||| (1 : Int32))) (zargs 0 [vr (some (97, 1, 0)), vi (647792 : Int32)]) 0 [] (zma E YX8_errorNow (d + 1) [] 61 3 [] Q)) else (if l1 = (7 : Int32) then (Zm E YX8_tossSet d (si (sl (sl (sl (sl M 165 ((647792 : Int32)).toNatClampNeg (0 : Int64)) 166 ((647792 : Int32)).toNatClampNeg (0 : Int64)) 167 ((647792 : Int32)).toNatClampNeg (0 : Int64)) 167 ((647792 : Int32)).toNatClampNeg ((gl (sl (sl (sl M 165 ((647792 : Int32)).toNatClampNeg (0 : Int64)) 166 ((647792 : Int32)).toNatClampNeg (0 : Int64)) 167 ((647792 : Int32)).toNatClampNeg (0 : Int64)) 167 ((647792 : Int32)).toNatClampNeg) ||| (zls (1 : Int64) ((l1 + (20 : Int32)) - (64 : Int32))))) 97 149 ((gi M 97 149) ||| (2 : Int32))) (zargs 0 [vr (some (97, 1, 0)), vi (647792 : Int32)]) 0 [] (zma E YX8_errorNow (d + 1) [] 61 3 [] Q)) else (Zm E YX8_tossSet d (si (sl (sl (sl (sl M 165 ((647792 : Int32)).toNatClampNeg (0 : Int64)) 166 ((647792 : Int32)).toNatClampNeg (0 : Int64)) 167 ((647792 : Int32)).toNatClampNeg (0 : Int64)) 167 ((647792 : Int32)).toNatClampNeg ((gl (sl (sl (sl M 165 ((647792 : Int32)).toNatClampNeg (0 : Int64)) 166 ((647792 : Int32)).toNatClampNeg (0 : Int64)) 167 ((647792 : Int32)).toNatClampNeg (0 : Int64)) 167 ((647792 : Int32)).toNatClampNeg) ||| (zls (1 : Int64) ((l1 + (20 : Int32)) - (64 : Int32))))) 97 149 ((gi M 97 149) ||| (0 : Int32))) (zargs 0 [vr (some (97, 1, 0)), vi (647792 : Int32)]) 0 [] (zma E YX8_errorNow (d + 1) [] 61 3 [] Q)))) else (if l1 = (6 : Int32) then (Zm E YX8_tossSet d (si (sl (sl (sl (sl M 165 ((647792 : Int32)).toNatClampNeg (0 : Int64)) 166 ((647792 : Int32)).toNatClampNeg (0 : Int64)) 167 ((647792 : Int32)).toNatClampNeg (0 : Int64)) 166 ((647792 : Int32)).toNatClampNeg ((gl (sl (sl M 165 ((647792 : Int32)).toNatClampNeg (0 : Int64)) 166 ((647792 : Int32)).toNatClampNeg (0 : Int64)) 166 ((647792 : Int32)).toNatClampNeg) ||| (zls (1 : Int64) (l1 + (20 : Int32))))) 97 149 ((gi M 97 149) ||| (1 : Int32))) (zargs 0 [vr (some (97, 1, 0)), vi (647792 : Int32)]) 0 [] (zma E YX8_errorNow (d + 1) [] 61 3 [] Q)) else (if l1 = (7 : Int32) then (Zm E YX8_tossSet d (si (sl (sl (sl (sl M 165 ((647792 : Int32)).toNatClampNeg (0 : Int64)) 166 ((647792 : Int32)).toNatClampNeg (0 : Int64)) 167 ((647792 : Int32)).toNatClampNeg (0 : Int64)) 166 ((647792 : Int32)).toNatClampNeg ((gl (sl (sl M 165 ((647792 : Int32)).toNatClampNeg (0 : Int64)) 166 ((647792 : Int32)).toNatClampNeg (0 : Int64)) 166 ((647792 : Int32)).toNatClampNeg) ||| (zls (1 : Int64) (l1 + (20 : Int32))))) 97 149 ((gi M 97 149) ||| (2 : Int32))) (zargs 0 [vr (some (97, 1, 0)), vi (647792 : Int32)]) 0 [] (zma E YX8_errorNow (d + 1) [] 61 3 [] Q)) else (Zm E YX8_tossSet d (si (sl (sl (sl (sl M 165 ((647792 : Int32)).toNatClampNeg (0 : Int64)) 166 ((647792 : Int32)).toNatClampNeg (0 : Int64)) 167 ((647792 : Int32)).toNatClampNeg (0 : Int64)) 166 ((647792 : Int32)).toNatClampNeg ((gl (sl (sl M 165 ((647792 : Int32)).toNatClampNeg (0 : Int64)) 166 ((647792 : Int32)).toNatClampNeg (0 : Int64)) 166 ((647792 : Int32)).toNatClampNeg) ||| (zls (1 : Int64) (l1 + (20 : Int32))))) 97 149 ((gi M 97 149) ||| (0 : Int32))) (zargs 0 [vr (some (97, 1, 0)), vi (647792 : Int32)]) 0 [] (zma E YX8_errorNow (d + 1) [] 61 3 [] Q)))))) : Zm E YX8_errorNow (d + 1) M [(0, vr (some (97, 1, 0))), (1, vi l1)] 11 [] Q := by
  refine sX8_errorNow_11 (d := d) M l1 ?_
  refine jX8_empty (d := d) M (647792 : Int32) ?_
  refine zand k (fun h7813 k => ?_)
  show Zm E YX8_errorNow (d + 1) (sl (sl (sl M 165 ((647792 : Int32)).toNatClampNeg (0 : Int64)) 166 ((647792 : Int32)).toNatClampNeg (0 : Int64)) 167 ((647792 : Int32)).toNatClampNeg (0 : Int64)) [(0, vr (some (97, 1, 0))), (1, vi l1), (2, vi (647792 : Int32))] 20 [] Q
  refine sX8_errorNow_20 (d := d) (sl (sl (sl M 165 ((647792 : Int32)).toNatClampNeg (0 : Int64)) 166 ((647792 : Int32)).toNatClampNeg (0 : Int64)) 167 ((647792 : Int32)).toNatClampNeg (0 : Int64)) l1 (647792 : Int32) ?_
  refine jX8_addLabel (d := d) (sl (sl (sl M 165 ((647792 : Int32)).toNatClampNeg (0 : Int64)) 166 ((647792 : Int32)).toNatClampNeg (0 : Int64)) 167 ((647792 : Int32)).toNatClampNeg (0 : Int64)) (647792 : Int32) (l1 + (20 : Int32)) ?_
  refine zite k (fun h7814 k => ?_) (fun h7814 k => ?_)
  · refine ⟨h7813, ?_⟩
    show Zm E YX8_errorNow (d + 1) (sl (sl (sl (sl M 165 ((647792 : Int32)).toNatClampNeg (0 : Int64)) 166 ((647792 : Int32)).toNatClampNeg (0 : Int64)) 167 ((647792 : Int32)).toNatClampNeg (0 : Int64)) 167 ((647792 : Int32)).toNatClampNeg ((gl (sl (sl (sl M 165 ((647792 : Int32)).toNatClampNeg (0 : Int64)) 166 ((647792 : Int32)).toNatClampNeg (0 : Int64)) 167 ((647792 : Int32)).toNatClampNeg (0 : Int64)) 167 ((647792 : Int32)).toNatClampNeg) ||| (zls (1 : Int64) ((l1 + (20 : Int32)) - (64 : Int32))))) [(0, vr (some (97, 1, 0))), (1, vi l1), (2, vi (647792 : Int32))] 29 [] Q
    refine sX8_errorNow_29 (d := d) (sl (sl (sl (sl M 165 ((647792 : Int32)).toNatClampNeg (0 : Int64)) 166 ((647792 : Int32)).toNatClampNeg (0 : Int64)) 167 ((647792 : Int32)).toNatClampNeg (0 : Int64)) 167 ((647792 : Int32)).toNatClampNeg ((gl (sl (sl (sl M 165 ((647792 : Int32)).toNatClampNeg (0 : Int64)) 166 ((647792 : Int32)).toNatClampNeg (0 : Int64)) 167 ((647792 : Int32)).toNatClampNeg (0 : Int64)) 167 ((647792 : Int32)).toNatClampNeg) ||| (zls (1 : Int64) ((l1 + (20 : Int32)) - (64 : Int32))))) l1 (647792 : Int32) ?_
    exact k
  · refine ⟨h7813, ?_⟩
    show Zm E YX8_errorNow (d + 1) (sl (sl (sl (sl M 165 ((647792 : Int32)).toNatClampNeg (0 : Int64)) 166 ((647792 : Int32)).toNatClampNeg (0 : Int64)) 167 ((647792 : Int32)).toNatClampNeg (0 : Int64)) 166 ((647792 : Int32)).toNatClampNeg ((gl (sl (sl M 165 ((647792 : Int32)).toNatClampNeg (0 : Int64)) 166 ((647792 : Int32)).toNatClampNeg (0 : Int64)) 166 ((647792 : Int32)).toNatClampNeg) ||| (zls (1 : Int64) (l1 + (20 : Int32))))) [(0, vr (some (97, 1, 0))), (1, vi l1), (2, vi (647792 : Int32))] 29 [] Q
    refine sX8_errorNow_29 (d := d) (sl (sl (sl (sl M 165 ((647792 : Int32)).toNatClampNeg (0 : Int64)) 166 ((647792 : Int32)).toNatClampNeg (0 : Int64)) 167 ((647792 : Int32)).toNatClampNeg (0 : Int64)) 166 ((647792 : Int32)).toNatClampNeg ((gl (sl (sl M 165 ((647792 : Int32)).toNatClampNeg (0 : Int64)) 166 ((647792 : Int32)).toNatClampNeg (0 : Int64)) 166 ((647792 : Int32)).toNatClampNeg) ||| (zls (1 : Int64) (l1 + (20 : Int32))))) l1 (647792 : Int32) ?_
    exact k
