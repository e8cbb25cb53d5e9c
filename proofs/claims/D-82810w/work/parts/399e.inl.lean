theorem iX1_own_7 {E : zE} {d : Nat} {Q : zO → zM → Prop} (M : zM) (l2 : Int32) (l3 : Int32) (hw : cw M) (k : if l3 = (-1 : Int32) then (Q (.inl (some (vi l3))) M) else (vp_in l3 3000 ∧ (if (gi M 46 (l3).toNatClampNeg) = l2 then (Q (.inl (some (vi l3))) M) else (Z E YX1_own d M [(0, vr (some (16, 0, 0))), (2, vi l2), (3, vi (gi M 47 (l3).toNatClampNeg))] 7 [] Q)))) : Z E YX1_own d M [(0, vr (some (16, 0, 0))), (2, vi l2), (3, vi l3)] 7 [] Q := by
  refine sX1_own_7 (d := d) M l2 l3 hw ?_
  refine zite k (fun h13790 k => ?_) (fun h13790 k => ?_)
  · exact k
  · refine zand k (fun h13791 k => ?_)
    refine zite k (fun h13792 k => ?_) (fun h13792 k => ?_)
    · exact k
    · refine ⟨h13791, ?_⟩
      exact k
theorem iX1_property_0 {E : zE} {d : Nat} {Q : zO → zM → Prop} (M : zM) (l1 : Int32) (l2 : Int32) (l3 : Int32) (hw : cw M) (k : if (gi M 16 51) = 0 then (Q (.inl (some (vi (-1 : Int32)))) M) else (if l1 < 0 then (Q (.inl (some (vi (-1 : Int32)))) M) else (if (gi M 16 26) ≤ l1 then (Q (.inl (some (vi (-1 : Int32)))) M) else (if l2 < 0 then (Q (.inl (some (vi (-1 : Int32)))) M) else (if l3 < 0 then (Q (.inl (some (vi (-1 : Int32)))) M) else (if l3 ≤ (2 : Int32) then (vp_in l1 300 ∧ (Z E YX1_property (d + 1) M [(0, vr (some (16, 0, 0))), (2, vi l2), (3, vi l3), (4, vi (gi M 43 (l1).toNatClampNeg)), (5, vi (0 : Int32))] 34 [] Q)) else (Q (.inl (some (vi (-1 : Int32)))) M))))))) : Z E YX1_property (d + 1) M [(0, vr (some (16, 0, 0))), (1, vi l1), (2, vi l2), (3, vi l3)] 0 [] Q := by
  refine sX1_property_0 (d := d) M l1 l2 l3 hw ?_
  refine sX1_isObject_0 (d := d) M l1 hw ?_
  refine zite k (fun h13793 k => ?_) (fun h13793 k => ?_)
  · show Z E YX1_property (d + 1) M [(0, vr (some (16, 0, 0))), (1, vi l1), (2, vi l2), (3, vi l3)] 5 [vi (0 : Int32)] Q
    refine sX1_property_5 (d := d) M l1 l2 l3 (0 : Int32) hw ?_
    refine zpos (show (0 : Int32) = 0 from by decide) ?_
    exact k
  · refine zite k (fun h13794 k => ?_) (fun h13794 k => ?_)
    · show Z E YX1_property (d + 1) M [(0, vr (some (16, 0, 0))), (1, vi l1), (2, vi l2), (3, vi l3)] 5 [vi (0 : Int32)] Q
      refine sX1_property_5 (d := d) M l1 l2 l3 (0 : Int32) hw ?_
      refine zpos (show (0 : Int32) = 0 from by decide) ?_
      exact k
    · refine zite k (fun h13795 k => ?_) (fun h13795 k => ?_)
      · show Z E YX1_property (d + 1) M [(0, vr (some (16, 0, 0))), (1, vi l1), (2, vi l2), (3, vi l3)] 5 [vi (0 : Int32)] Q
        refine sX1_property_5 (d := d) M l1 l2 l3 (0 : Int32) hw ?_
        refine zpos (show (0 : Int32) = 0 from by decide) ?_
        exact k
      · show Z E YX1_property (d + 1) M [(0, vr (some (16, 0, 0))), (1, vi l1), (2, vi l2), (3, vi l3)] 5 [vi (1 : Int32)] Q
        refine sX1_property_5 (d := d) M l1 l2 l3 (1 : Int32) hw ?_
        refine zneg (show ¬ ((1 : Int32) = 0) from by decide) ?_
        exact k
theorem iX1_property_61 {E : zE} {d : Nat} {Q : zO → zM → Prop} (M : zM) (l3 : Int32) (l4 : Int32) (hw : cw M) (k : if l4 = (-1 : Int32) then (Q (.inl (some (vi (-1 : Int32)))) M) else (if l3 = 0 then (vp_in l4 3000 ∧ (Q (.inl (some (vi (gi M 46 (l4).toNatClampNeg)))) M)) else (vp_in l4 3000 ∧ (if (l3 - (1 : Int32)) = 0 then (Q (.inl (some (vi (gi M 48 (l4).toNatClampNeg)))) M) else (if (l3 - (1 : Int32)) = (1 : Int32) then (if (gi M 48 (l4).toNatClampNeg) < (5 : Int32) then (Q (.inl (some (vi (0 : Int32)))) M) else (Q (.inl (some (vi (gi M 49 (l4).toNatClampNeg)))) M)) else (Q (.inl (some (vi (-1 : Int32)))) M)))))) : Z E YX1_property (d + 1) M [(0, vr (some (16, 0, 0))), (3, vi l3), (4, vi l4)] 61 [] Q := by
  refine sX1_property_61 (d := d) M l3 l4 hw ?_
  refine zite k (fun h13803 k => ?_) (fun h13803 k => ?_)
  · exact k
  · refine zite k (fun h13804 k => ?_) (fun h13804 k => ?_)
    · refine zand k (fun h13805 k => ?_)
      refine sX1_property_104 (d := d) M (gi M 46 (l4).toNatClampNeg) hw ?_
      exact k
    · refine zand k (fun h13806 k => ?_)
      refine ⟨h13806, ?_⟩
      refine sX1_told_0 (d := d) M (gi M 48 (l4).toNatClampNeg) (gi M 49 (l4).toNatClampNeg) (l3 - (1 : Int32)) hw ?_
      refine zite k (fun h13810 k => ?_) (fun h13810 k => ?_)
      · show Z E YX1_property (d + 1) M [] 104 [vi (gi M 48 (l4).toNatClampNeg)] Q
        refine sX1_property_104 (d := d) M (gi M 48 (l4).toNatClampNeg) hw ?_
        exact k
      · refine zite k (fun h13811 k => ?_) (fun h13811 k => ?_)
        · refine zite k (fun h13812 k => ?_) (fun h13812 k => ?_)
          · show Z E YX1_property (d + 1) M [] 104 [vi (0 : Int32)] Q
            refine sX1_property_104 (d := d) M (0 : Int32) hw ?_
            exact k
          · show Z E YX1_property (d + 1) M [] 104 [vi (gi M 49 (l4).toNatClampNeg)] Q
            refine sX1_property_104 (d := d) M (gi M 49 (l4).toNatClampNeg) hw ?_
            exact k
        · show Z E YX1_property (d + 1) M [] 104 [vi (-1 : Int32)] Q
          refine sX1_property_104 (d := d) M (-1 : Int32) hw ?_
          exact k
theorem iX1_push_0 {E : zE} {d : Nat} {Q : zO → zM → Prop} (M : zM) (l1 : Int32) (l2 : Int32) (hw : cw M) (k : vp_in (gi M 16 38) 14500 ∧ (Q (.inl none) (si (si (si M 53 ((gi M 16 38)).toNatClampNeg (vp_nar .byte (l1).toInt8.toInt32)) 16 38 ((gi M 16 38) + (1 : Int32))) 54 ((gi M 16 38)).toNatClampNeg l2))) : Z E YX1_push d M [(0, vr (some (16, 0, 0))), (1, vi l1), (2, vi l2)] 0 [] Q := by
  refine sX1_push_0 (d := d) M l1 l2 hw ?_
  refine zand k (fun h13813 k => ?_)
  refine ⟨h13813, ?_⟩
  exact k
theorem iX1_putIn_0 {E : zE} {d : Nat} {Q : zO → zM → Prop} (M : zM) (hw : cw M) (k : vp_in ((gi M 16 38) - (3 : Int32)) 14500 ∧ (vp_in ((gi M 16 38) - (2 : Int32)) 14500 ∧ (Z E YX1_textOf d M (zargs 0 [vr (some (16, 0, 0)), vi (gi M 53 (((gi M 16 38) - (2 : Int32))).toNatClampNeg), vi (gi M 54 (((gi M 16 38) - (2 : Int32))).toNatClampNeg)]) 0 [] (zafter E YX1_putIn (d + 1) [(0, vr (some (16, 0, 0))), (1, vi (gi M 53 (((gi M 16 38) - (3 : Int32))).toNatClampNeg)), (2, vi (gi M 54 (((gi M 16 38) - (3 : Int32))).toNatClampNeg))] 47 3 [] Q)))) : Z E YX1_putIn (d + 1) M [(0, vr (some (16, 0, 0)))] 0 [] Q := by
  refine sX1_putIn_0 (d := d) M hw ?_
  refine zand k (fun h13814 k => ?_)
  refine ⟨h13814, ?_⟩
  refine zand k (fun h13815 k => ?_)
  refine ⟨h13815, ?_⟩
  exact k
theorem iX1_putIn_50 {E : zE} {d : Nat} {Q : zO → zM → Prop} (M : zM) (l1 : Int32) (l2 : Int32) (s0 : Int32) (hw : cw M) (k : if (2 : Int32) ≤ l1 then (if l1 = (7 : Int32) then (vp_in l2 300 ∧ (if (gi M 38 (l2).toNatClampNeg) = (2 : Int32) then (if s0 = 0 then (vp_in ((gi M 16 38) - (1 : Int32)) 14500 ∧ (vp_in ((gi M 16 38) - (3 : Int32)) 14500 ∧ (Q (.inl none) (si (si (si (si (si (si M 16 33 (gi M 53 (((gi M 16 38) - (1 : Int32))).toNatClampNeg)) 16 32 (gi M 54 (((gi M 16 38) - (1 : Int32))).toNatClampNeg)) 16 38 ((gi M 16 38) - (3 : Int32))) 53 (((gi M 16 38) - (3 : Int32))).toNatClampNeg (vp_nar .byte ((gi M 53 (((gi M 16 38) - (1 : Int32))).toNatClampNeg)).toInt8.toInt32)) 16 38 (((gi M 16 38) - (3 : Int32)) + (1 : Int32))) 54 (((gi M 16 38) - (3 : Int32))).toNatClampNeg (gi M 54 (((gi M 16 38) - (1 : Int32))).toNatClampNeg))))) else (vp_in ((gi M 16 38) - (1 : Int32)) 14500 ∧ (Z E YX1_setOwn (d + 1) M (zargs 0 [vr (some (16, 0, 0)), vi l2, vi s0, vi (gi M 53 (((gi M 16 38) - (1 : Int32))).toNatClampNeg), vi (gi M 54 (((gi M 16 38) - (1 : Int32))).toNatClampNeg)]) 0 [] (zafter E YX1_putIn ((d + 1) + 1) [(0, vr (some (16, 0, 0))), (2, vi l2), (3, vi s0), (4, vi (1 : Int32))] 110 3 [] Q)))) else (vp_in ((gi M 16 38) - (1 : Int32)) 14500 ∧ (Z E YX1_setOwn (d + 1) M (zargs 0 [vr (some (16, 0, 0)), vi l2, vi s0, vi (gi M 53 (((gi M 16 38) - (1 : Int32))).toNatClampNeg), vi (gi M 54 (((gi M 16 38) - (1 : Int32))).toNatClampNeg)]) 0 [] (zafter E YX1_putIn ((d + 1) + 1) [(0, vr (some (16, 0, 0))), (2, vi l2), (3, vi s0), (4, vi (0 : Int32))] 110 3 [] Q))))) else (vp_in ((gi M 16 38) - (1 : Int32)) 14500 ∧ (vp_in ((gi M 16 38) - (3 : Int32)) 14500 ∧ (Q (.inl none) (si (si (si (si (si (si M 16 33 (gi M 53 (((gi M 16 38) - (1 : Int32))).toNatClampNeg)) 16 32 (gi M 54 (((gi M 16 38) - (1 : Int32))).toNatClampNeg)) 16 38 ((gi M 16 38) - (3 : Int32))) 53 (((gi M 16 38) - (3 : Int32))).toNatClampNeg (vp_nar .byte ((gi M 53 (((gi M 16 38) - (1 : Int32))).toNatClampNeg)).toInt8.toInt32)) 16 38 (((gi M 16 38) - (3 : Int32)) + (1 : Int32))) 54 (((gi M 16 38) - (3 : Int32))).toNatClampNeg (gi M 54 (((gi M 16 38) - (1 : Int32))).toNatClampNeg)))))) else (Z E YX1_error (d + 1) M (zargs 0 [vr (some (16, 0, 0)), vi (0 : Int32)]) 0 [] (zafter E YX1_putIn ((d + 1) + 1) [] 58 3 [] Q))) : Z E YX1_putIn (d + 2) M [(0, vr (some (16, 0, 0))), (1, vi l1), (2, vi l2)] 50 [vi s0] Q := by
  refine sX1_putIn_50 (d := (d + 1)) M l1 l2 s0 hw ?_
  refine zite k (fun h13822 k => ?_) (fun h13822 k => ?_)
  · refine sX1_isArray_0 (d := (d + 1)) M l1 l2 hw ?_
    refine zite k (fun h13823 k => ?_) (fun h13823 k => ?_)
    · refine zand k (fun h13824 k => ?_)
      refine zite k (fun h13825 k => ?_) (fun h13825 k => ?_)
      · show Z E YX1_putIn ((d + 1) + 1) M [(0, vr (some (16, 0, 0))), (1, vi l1), (2, vi l2), (3, vi s0)] 68 [vi (1 : Int32)] Q
        refine sX1_putIn_68 (d := (d + 1)) M l1 l2 s0 (1 : Int32) hw ?_
        refine zpos h13823 ?_
        refine zneg (show ¬ ((1 : Int32) = 0) from by decide) ?_
        refine zite k (fun h13826 k => ?_) (fun h13826 k => ?_)
        · refine sX1_putIn_175 (d := (d + 1)) M hw ?_
          refine zand k (fun h13827 k => ?_)
          refine ⟨h13827, ?_⟩
          refine sX1_gives_0 (d := (d + 1)) M (gi M 53 (((gi M 16 38) - (1 : Int32))).toNatClampNeg) (gi M 54 (((gi M 16 38) - (1 : Int32))).toNatClampNeg) hw ?_
          show Z E YX1_putIn ((d + 1) + 1) (si (si M 16 33 (gi M 53 (((gi M 16 38) - (1 : Int32))).toNatClampNeg)) 16 32 (gi M 54 (((gi M 16 38) - (1 : Int32))).toNatClampNeg)) [(0, vr (some (16, 0, 0)))] 201 [] Q
          refine sX1_putIn_201 (d := (d + 1)) (si (si M 16 33 (gi M 53 (((gi M 16 38) - (1 : Int32))).toNatClampNeg)) 16 32 (gi M 54 (((gi M 16 38) - (1 : Int32))).toNatClampNeg)) hw ?_
          refine jX1_leaves (d := d) (si (si M 16 33 (gi M 53 (((gi M 16 38) - (1 : Int32))).toNatClampNeg)) 16 32 (gi M 54 (((gi M 16 38) - (1 : Int32))).toNatClampNeg)) (3 : Int32) hw ?_
          refine zand k (fun h13828 k => ?_)
          show Z E YX1_putIn ((d + 1) + 1) (si (si (si (si (si (si M 16 33 (gi M 53 (((gi M 16 38) - (1 : Int32))).toNatClampNeg)) 16 32 (gi M 54 (((gi M 16 38) - (1 : Int32))).toNatClampNeg)) 16 38 ((gi M 16 38) - (3 : Int32))) 53 (((gi M 16 38) - (3 : Int32))).toNatClampNeg (vp_nar .byte ((gi M 53 (((gi M 16 38) - (1 : Int32))).toNatClampNeg)).toInt8.toInt32)) 16 38 (((gi M 16 38) - (3 : Int32)) + (1 : Int32))) 54 (((gi M 16 38) - (3 : Int32))).toNatClampNeg (gi M 54 (((gi M 16 38) - (1 : Int32))).toNatClampNeg)) [] 206 [] Q
          refine sX1_putIn_206 (d := (d + 1)) (si (si (si (si (si (si M 16 33 (gi M 53 (((gi M 16 38) - (1 : Int32))).toNatClampNeg)) 16 32 (gi M 54 (((gi M 16 38) - (1 : Int32))).toNatClampNeg)) 16 38 ((gi M 16 38) - (3 : Int32))) 53 (((gi M 16 38) - (3 : Int32))).toNatClampNeg (vp_nar .byte ((gi M 53 (((gi M 16 38) - (1 : Int32))).toNatClampNeg)).toInt8.toInt32)) 16 38 (((gi M 16 38) - (3 : Int32)) + (1 : Int32))) 54 (((gi M 16 38) - (3 : Int32))).toNatClampNeg (gi M 54 (((gi M 16 38) - (1 : Int32))).toNatClampNeg)) hw ?_
          exact k
        · refine sX1_putIn_85 (d := (d + 1)) M l2 s0 (1 : Int32) hw ?_
          refine zand k (fun h13829 k => ?_)
          refine ⟨h13829, ?_⟩
          exact k
      · show Z E YX1_putIn ((d + 1) + 1) M [(0, vr (some (16, 0, 0))), (1, vi l1), (2, vi l2), (3, vi s0)] 68 [vi (0 : Int32)] Q
        refine sX1_putIn_68 (d := (d + 1)) M l1 l2 s0 (0 : Int32) hw ?_
        refine zpos h13823 ?_
        refine zpos (show (0 : Int32) = 0 from by decide) ?_
        refine sX1_putIn_85 (d := (d + 1)) M l2 s0 (0 : Int32) hw ?_
        refine zand k (fun h13830 k => ?_)
        refine ⟨h13830, ?_⟩
        exact k
    · show Z E YX1_putIn ((d + 1) + 1) M [(0, vr (some (16, 0, 0))), (1, vi l1), (2, vi l2), (3, vi s0)] 68 [vi (0 : Int32)] Q
      refine sX1_putIn_68 (d := (d + 1)) M l1 l2 s0 (0 : Int32) hw ?_
      refine zneg h13823 ?_
      refine sX1_putIn_175 (d := (d + 1)) M hw ?_
      refine zand k (fun h13831 k => ?_)
      refine ⟨h13831, ?_⟩
      refine sX1_gives_0 (d := (d + 1)) M (gi M 53 (((gi M 16 38) - (1 : Int32))).toNatClampNeg) (gi M 54 (((gi M 16 38) - (1 : Int32))).toNatClampNeg) hw ?_
      show Z E YX1_putIn ((d + 1) + 1) (si (si M 16 33 (gi M 53 (((gi M 16 38) - (1 : Int32))).toNatClampNeg)) 16 32 (gi M 54 (((gi M 16 38) - (1 : Int32))).toNatClampNeg)) [(0, vr (some (16, 0, 0)))] 201 [] Q
      refine sX1_putIn_201 (d := (d + 1)) (si (si M 16 33 (gi M 53 (((gi M 16 38) - (1 : Int32))).toNatClampNeg)) 16 32 (gi M 54 (((gi M 16 38) - (1 : Int32))).toNatClampNeg)) hw ?_
      refine jX1_leaves (d := d) (si (si M 16 33 (gi M 53 (((gi M 16 38) - (1 : Int32))).toNatClampNeg)) 16 32 (gi M 54 (((gi M 16 38) - (1 : Int32))).toNatClampNeg)) (3 : Int32) hw ?_
      refine zand k (fun h13832 k => ?_)
      show Z E YX1_putIn ((d + 1) + 1) (si (si (si (si (si (si M 16 33 (gi M 53 (((gi M 16 38) - (1 : Int32))).toNatClampNeg)) 16 32 (gi M 54 (((gi M 16 38) - (1 : Int32))).toNatClampNeg)) 16 38 ((gi M 16 38) - (3 : Int32))) 53 (((gi M 16 38) - (3 : Int32))).toNatClampNeg (vp_nar .byte ((gi M 53 (((gi M 16 38) - (1 : Int32))).toNatClampNeg)).toInt8.toInt32)) 16 38 (((gi M 16 38) - (3 : Int32)) + (1 : Int32))) 54 (((gi M 16 38) - (3 : Int32))).toNatClampNeg (gi M 54 (((gi M 16 38) - (1 : Int32))).toNatClampNeg)) [] 206 [] Q
      refine sX1_putIn_206 (d := (d + 1)) (si (si (si (si (si (si M 16 33 (gi M 53 (((gi M 16 38) - (1 : Int32))).toNatClampNeg)) 16 32 (gi M 54 (((gi M 16 38) - (1 : Int32))).toNatClampNeg)) 16 38 ((gi M 16 38) - (3 : Int32))) 53 (((gi M 16 38) - (3 : Int32))).toNatClampNeg (vp_nar .byte ((gi M 53 (((gi M 16 38) - (1 : Int32))).toNatClampNeg)).toInt8.toInt32)) 16 38 (((gi M 16 38) - (3 : Int32)) + (1 : Int32))) 54 (((gi M 16 38) - (3 : Int32))).toNatClampNeg (gi M 54 (((gi M 16 38) - (1 : Int32))).toNatClampNeg)) hw ?_
      exact k
  · exact k
theorem iX1_putIn_113 {E : zE} {d : Nat} {Q : zO → zM → Prop} (M : zM) (l2 : Int32) (l3 : Int32) (l4 : Int32) (hw : cw M) (k : if l4 = 0 then (Z E YX1_putIn (d + 1) M [(0, vr (some (16, 0, 0))), (5, vi (-1 : Int32))] 144 [vi (-1 : Int32)] Q) else (Z E YX1_indexOf d M (zargs 0 [vr (some (16, 0, 0)), vi l3]) 0 [] (zafter E YX1_putIn (d + 1) [(0, vr (some (16, 0, 0))), (2, vi l2), (4, vi l4)] 120 3 [] Q))) : Z E YX1_putIn (d + 1) M [(0, vr (some (16, 0, 0))), (2, vi l2), (3, vi l3), (4, vi l4)] 113 [] Q := by
  refine sX1_putIn_113 (d := d) M l2 l3 l4 hw ?_
  refine zite k (fun h13833 k => ?_) (fun h13833 k => ?_)
  · refine sX1_putIn_127 (d := d) M l2 l4 (-1 : Int32) hw ?_
    refine zpos h13833 ?_
    exact k
  · exact k
theorem iX1_putIn_144 {E : zE} {d : Nat} {Q : zO → zM → Prop} (M : zM) (l5 : Int32) (s0 : Int32) (hw : cw M) (k : if l5 = (-1 : Int32) then (vp_in ((gi M 16 38) - (1 : Int32)) 14500 ∧ (vp_in ((gi M 16 38) - (3 : Int32)) 14500 ∧ (Q (.inl none) (si (si (si (si (si (si M 16 33 (gi M 53 (((gi M 16 38) - (1 : Int32))).toNatClampNeg)) 16 32 (gi M 54 (((gi M 16 38) - (1 : Int32))).toNatClampNeg)) 16 38 ((gi M 16 38) - (3 : Int32))) 53 (((gi M 16 38) - (3 : Int32))).toNatClampNeg (vp_nar .byte ((gi M 53 (((gi M 16 38) - (1 : Int32))).toNatClampNeg)).toInt8.toInt32)) 16 38 (((gi M 16 38) - (3 : Int32)) + (1 : Int32))) 54 (((gi M 16 38) - (3 : Int32))).toNatClampNeg (gi M 54 (((gi M 16 38) - (1 : Int32))).toNatClampNeg))))) else (vp_in s0 3000 ∧ (if l5 < (gi M 49 (s0).toNatClampNeg) then (vp_in ((gi M 16 38) - (1 : Int32)) 14500 ∧ (vp_in ((gi M 16 38) - (3 : Int32)) 14500 ∧ (Q (.inl none) (si (si (si (si (si (si M 16 33 (gi M 53 (((gi M 16 38) - (1 : Int32))).toNatClampNeg)) 16 32 (gi M 54 (((gi M 16 38) - (1 : Int32))).toNatClampNeg)) 16 38 ((gi M 16 38) - (3 : Int32))) 53 (((gi M 16 38) - (3 : Int32))).toNatClampNeg (vp_nar .byte ((gi M 53 (((gi M 16 38) - (1 : Int32))).toNatClampNeg)).toInt8.toInt32)) 16 38 (((gi M 16 38) - (3 : Int32)) + (1 : Int32))) 54 (((gi M 16 38) - (3 : Int32))).toNatClampNeg (gi M 54 (((gi M 16 38) - (1 : Int32))).toNatClampNeg))))) else (vp_in ((gi M 16 38) - (1 : Int32)) 14500 ∧ (vp_in ((gi M 16 38) - (3 : Int32)) 14500 ∧ (Q (.inl none) (si (si (si (si (si (si (si M 49 (s0).toNatClampNeg (l5 + (1 : Int32))) 16 33 (gi M 53 (((gi M 16 38) - (1 : Int32))).toNatClampNeg)) 16 32 (gi M 54 (((gi M 16 38) - (1 : Int32))).toNatClampNeg)) 16 38 ((gi M 16 38) - (3 : Int32))) 53 (((gi M 16 38) - (3 : Int32))).toNatClampNeg (vp_nar .byte ((gi M 53 (((gi M 16 38) - (1 : Int32))).toNatClampNeg)).toInt8.toInt32)) 16 38 (((gi M 16 38) - (3 : Int32)) + (1 : Int32))) 54 (((gi M 16 38) - (3 : Int32))).toNatClampNeg (gi M 54 (((gi M 16 38) - (1 : Int32))).toNatClampNeg)))))))) : Z E YX1_putIn (d + 2) M [(0, vr (some (16, 0, 0))), (5, vi l5)] 144 [vi s0] Q := by
  refine sX1_putIn_144 (d := (d + 1)) M l5 s0 hw ?_
  refine zite k (fun h13854 k => ?_) (fun h13854 k => ?_)
  · refine sX1_putIn_175 (d := (d + 1)) M hw ?_
    refine zand k (fun h13855 k => ?_)
    refine ⟨h13855, ?_⟩
    refine sX1_gives_0 (d := (d + 1)) M (gi M 53 (((gi M 16 38) - (1 : Int32))).toNatClampNeg) (gi M 54 (((gi M 16 38) - (1 : Int32))).toNatClampNeg) hw ?_
    show Z E YX1_putIn ((d + 1) + 1) (si (si M 16 33 (gi M 53 (((gi M 16 38) - (1 : Int32))).toNatClampNeg)) 16 32 (gi M 54 (((gi M 16 38) - (1 : Int32))).toNatClampNeg)) [(0, vr (some (16, 0, 0)))] 201 [] Q
    refine sX1_putIn_201 (d := (d + 1)) (si (si M 16 33 (gi M 53 (((gi M 16 38) - (1 : Int32))).toNatClampNeg)) 16 32 (gi M 54 (((gi M 16 38) - (1 : Int32))).toNatClampNeg)) hw ?_
    refine jX1_leaves (d := d) (si (si M 16 33 (gi M 53 (((gi M 16 38) - (1 : Int32))).toNatClampNeg)) 16 32 (gi M 54 (((gi M 16 38) - (1 : Int32))).toNatClampNeg)) (3 : Int32) hw ?_
    refine zand k (fun h13856 k => ?_)
    show Z E YX1_putIn ((d + 1) + 1) (si (si (si (si (si (si M 16 33 (gi M 53 (((gi M 16 38) - (1 : Int32))).toNatClampNeg)) 16 32 (gi M 54 (((gi M 16 38) - (1 : Int32))).toNatClampNeg)) 16 38 ((gi M 16 38) - (3 : Int32))) 53 (((gi M 16 38) - (3 : Int32))).toNatClampNeg (vp_nar .byte ((gi M 53 (((gi M 16 38) - (1 : Int32))).toNatClampNeg)).toInt8.toInt32)) 16 38 (((gi M 16 38) - (3 : Int32)) + (1 : Int32))) 54 (((gi M 16 38) - (3 : Int32))).toNatClampNeg (gi M 54 (((gi M 16 38) - (1 : Int32))).toNatClampNeg)) [] 206 [] Q
    refine sX1_putIn_206 (d := (d + 1)) (si (si (si (si (si (si M 16 33 (gi M 53 (((gi M 16 38) - (1 : Int32))).toNatClampNeg)) 16 32 (gi M 54 (((gi M 16 38) - (1 : Int32))).toNatClampNeg)) 16 38 ((gi M 16 38) - (3 : Int32))) 53 (((gi M 16 38) - (3 : Int32))).toNatClampNeg (vp_nar .byte ((gi M 53 (((gi M 16 38) - (1 : Int32))).toNatClampNeg)).toInt8.toInt32)) 16 38 (((gi M 16 38) - (3 : Int32)) + (1 : Int32))) 54 (((gi M 16 38) - (3 : Int32))).toNatClampNeg (gi M 54 (((gi M 16 38) - (1 : Int32))).toNatClampNeg)) hw ?_
    exact k
  · refine zand k (fun h13857 k => ?_)
    refine zite k (fun h13858 k => ?_) (fun h13858 k => ?_)
    · refine sX1_putIn_175 (d := (d + 1)) M hw ?_
      refine zand k (fun h13859 k => ?_)
      refine ⟨h13859, ?_⟩
      refine sX1_gives_0 (d := (d + 1)) M (gi M 53 (((gi M 16 38) - (1 : Int32))).toNatClampNeg) (gi M 54 (((gi M 16 38) - (1 : Int32))).toNatClampNeg) hw ?_
      show Z E YX1_putIn ((d + 1) + 1) (si (si M 16 33 (gi M 53 (((gi M 16 38) - (1 : Int32))).toNatClampNeg)) 16 32 (gi M 54 (((gi M 16 38) - (1 : Int32))).toNatClampNeg)) [(0, vr (some (16, 0, 0)))] 201 [] Q
      refine sX1_putIn_201 (d := (d + 1)) (si (si M 16 33 (gi M 53 (((gi M 16 38) - (1 : Int32))).toNatClampNeg)) 16 32 (gi M 54 (((gi M 16 38) - (1 : Int32))).toNatClampNeg)) hw ?_
      refine jX1_leaves (d := d) (si (si M 16 33 (gi M 53 (((gi M 16 38) - (1 : Int32))).toNatClampNeg)) 16 32 (gi M 54 (((gi M 16 38) - (1 : Int32))).toNatClampNeg)) (3 : Int32) hw ?_
      refine zand k (fun h13860 k => ?_)
      show Z E YX1_putIn ((d + 1) + 1) (si (si (si (si (si (si M 16 33 (gi M 53 (((gi M 16 38) - (1 : Int32))).toNatClampNeg)) 16 32 (gi M 54 (((gi M 16 38) - (1 : Int32))).toNatClampNeg)) 16 38 ((gi M 16 38) - (3 : Int32))) 53 (((gi M 16 38) - (3 : Int32))).toNatClampNeg (vp_nar .byte ((gi M 53 (((gi M 16 38) - (1 : Int32))).toNatClampNeg)).toInt8.toInt32)) 16 38 (((gi M 16 38) - (3 : Int32)) + (1 : Int32))) 54 (((gi M 16 38) - (3 : Int32))).toNatClampNeg (gi M 54 (((gi M 16 38) - (1 : Int32))).toNatClampNeg)) [] 206 [] Q
      refine sX1_putIn_206 (d := (d + 1)) (si (si (si (si (si (si M 16 33 (gi M 53 (((gi M 16 38) - (1 : Int32))).toNatClampNeg)) 16 32 (gi M 54 (((gi M 16 38) - (1 : Int32))).toNatClampNeg)) 16 38 ((gi M 16 38) - (3 : Int32))) 53 (((gi M 16 38) - (3 : Int32))).toNatClampNeg (vp_nar .byte ((gi M 53 (((gi M 16 38) - (1 : Int32))).toNatClampNeg)).toInt8.toInt32)) 16 38 (((gi M 16 38) - (3 : Int32)) + (1 : Int32))) 54 (((gi M 16 38) - (3 : Int32))).toNatClampNeg (gi M 54 (((gi M 16 38) - (1 : Int32))).toNatClampNeg)) hw ?_
      exact k
    · refine ⟨h13857, ?_⟩
      refine sX1_putIn_175 (d := (d + 1)) (si M 49 (s0).toNatClampNeg (l5 + (1 : Int32))) hw ?_
      refine zand k (fun h13861 k => ?_)
      refine ⟨h13861, ?_⟩
      refine sX1_gives_0 (d := (d + 1)) (si M 49 (s0).toNatClampNeg (l5 + (1 : Int32))) (gi M 53 (((gi M 16 38) - (1 : Int32))).toNatClampNeg) (gi M 54 (((gi M 16 38) - (1 : Int32))).toNatClampNeg) hw ?_
      show Z E YX1_putIn ((d + 1) + 1) (si (si (si M 49 (s0).toNatClampNeg (l5 + (1 : Int32))) 16 33 (gi M 53 (((gi M 16 38) - (1 : Int32))).toNatClampNeg)) 16 32 (gi M 54 (((gi M 16 38) - (1 : Int32))).toNatClampNeg)) [(0, vr (some (16, 0, 0)))] 201 [] Q
      refine sX1_putIn_201 (d := (d + 1)) (si (si (si M 49 (s0).toNatClampNeg (l5 + (1 : Int32))) 16 33 (gi M 53 (((gi M 16 38) - (1 : Int32))).toNatClampNeg)) 16 32 (gi M 54 (((gi M 16 38) - (1 : Int32))).toNatClampNeg)) hw ?_
      refine jX1_leaves (d := d) (si (si (si M 49 (s0).toNatClampNeg (l5 + (1 : Int32))) 16 33 (gi M 53 (((gi M 16 38) - (1 : Int32))).toNatClampNeg)) 16 32 (gi M 54 (((gi M 16 38) - (1 : Int32))).toNatClampNeg)) (3 : Int32) hw ?_
      refine zand k (fun h13862 k => ?_)
      show Z E YX1_putIn ((d + 1) + 1) (si (si (si (si (si (si (si M 49 (s0).toNatClampNeg (l5 + (1 : Int32))) 16 33 (gi M 53 (((gi M 16 38) - (1 : Int32))).toNatClampNeg)) 16 32 (gi M 54 (((gi M 16 38) - (1 : Int32))).toNatClampNeg)) 16 38 ((gi M 16 38) - (3 : Int32))) 53 (((gi M 16 38) - (3 : Int32))).toNatClampNeg (vp_nar .byte ((gi M 53 (((gi M 16 38) - (1 : Int32))).toNatClampNeg)).toInt8.toInt32)) 16 38 (((gi M 16 38) - (3 : Int32)) + (1 : Int32))) 54 (((gi M 16 38) - (3 : Int32))).toNatClampNeg (gi M 54 (((gi M 16 38) - (1 : Int32))).toNatClampNeg)) [] 206 [] Q
      refine sX1_putIn_206 (d := (d + 1)) (si (si (si (si (si (si (si M 49 (s0).toNatClampNeg (l5 + (1 : Int32))) 16 33 (gi M 53 (((gi M 16 38) - (1 : Int32))).toNatClampNeg)) 16 32 (gi M 54 (((gi M 16 38) - (1 : Int32))).toNatClampNeg)) 16 38 ((gi M 16 38) - (3 : Int32))) 53 (((gi M 16 38) - (3 : Int32))).toNatClampNeg (vp_nar .byte ((gi M 53 (((gi M 16 38) - (1 : Int32))).toNatClampNeg)).toInt8.toInt32)) 16 38 (((gi M 16 38) - (3 : Int32)) + (1 : Int32))) 54 (((gi M 16 38) - (3 : Int32))).toNatClampNeg (gi M 54 (((gi M 16 38) - (1 : Int32))).toNatClampNeg)) hw ?_
      exact k
theorem iX1_putIn_123 {E : zE} {d : Nat} {Q : zO → zM → Prop} (M : zM) (l2 : Int32) (l4 : Int32) (s0 : Int32) (hw : cw M) (k : if l4 = 0 then (Z E YX1_putIn (d + 1) M [(0, vr (some (16, 0, 0))), (5, vi s0)] 144 [vi (-1 : Int32)] Q) else (Z E YX1_own d M (zargs 0 [vr (some (16, 0, 0)), vi l2, vi (0 : Int32)]) 0 [] (zafter E YX1_putIn (d + 1) [(0, vr (some (16, 0, 0))), (5, vi s0)] 137 3 [] Q))) : Z E YX1_putIn (d + 1) M [(0, vr (some (16, 0, 0))), (2, vi l2), (4, vi l4)] 123 [vi s0] Q := by
  refine sX1_putIn_123 (d := d) M l2 l4 s0 hw ?_
  refine sX1_putIn_127 (d := d) M l2 l4 s0 hw ?_
  exact k
theorem iX1_putValue_10 {E : zE} {d : Nat} {Q : zO → zM → Prop} (M : zM) (hw : cw M) (k : Q (.inl none) M) : Z E YX1_putValue (d + 1) M [] 10 [] Q := by
  refine sX1_putValue_10 (d := d) M hw ?_
  refine sX1_putValue_82 (d := d) M hw ?_
  exact k
theorem iX1_putValue_24 {E : zE} {d : Nat} {Q : zO → zM → Prop} (M : zM) (hw : cw M) (k : Q (.inl none) M) : Z E YX1_putValue (d + 1) M [] 24 [] Q := by
  refine sX1_putValue_24 (d := d) M hw ?_
  refine sX1_putValue_82 (d := d) M hw ?_
  exact k
theorem iX1_setOwn_6 {E : zE} {d : Nat} {Q : zO → zM → Prop} (M : zM) (l1 : Int32) (l2 : Int32) (l3 : Int32) (l4 : Int32) (s0 : Int32) (hw : cw M) (k : if s0 = (-1 : Int32) then (if (gi M 16 28) = (-1 : Int32) then (if (gi M 16 27) = (3000 : Int32) then (Q (.inr (51, 13, 0)) M) else (vp_in (gi M 16 27) 3000 ∧ (vp_in l1 300 ∧ (if (gi M 43 (l1).toNatClampNeg) = (-1 : Int32) then (Q (.inl none) (si (si (si (si (si (si (si (si (si M 16 27 ((gi M 16 27) + (1 : Int32))) 46 ((gi M 16 27)).toNatClampNeg (vp_nar .short (l2).toInt16.toInt32)) 47 ((gi M 16 27)).toNatClampNeg (vp_nar .short (-1 : Int32))) 16 29 ((gi M 16 29) + (1 : Int32))) 50 ((gi M 16 27)).toNatClampNeg ((gi M 16 29) + (1 : Int32))) 43 (l1).toNatClampNeg (vp_nar .short ((gi M 16 27)).toInt16.toInt32)) 44 (l1).toNatClampNeg (vp_nar .short ((gi M 16 27)).toInt16.toInt32)) 48 ((gi M 16 27)).toNatClampNeg (vp_nar .byte (l3).toInt8.toInt32)) 49 ((gi M 16 27)).toNatClampNeg l4)) else (vp_in (gi M 44 (l1).toNatClampNeg) 3000 ∧ (Q (.inl none) (si (si (si (si (si (si (si (si (si M 16 27 ((gi M 16 27) + (1 : Int32))) 46 ((gi M 16 27)).toNatClampNeg (vp_nar .short (l2).toInt16.toInt32)) 47 ((gi M 16 27)).toNatClampNeg (vp_nar .short (-1 : Int32))) 16 29 ((gi M 16 29) + (1 : Int32))) 50 ((gi M 16 27)).toNatClampNeg ((gi M 16 29) + (1 : Int32))) 47 ((gi M 44 (l1).toNatClampNeg)).toNatClampNeg (vp_nar .short ((gi M 16 27)).toInt16.toInt32)) 44 (l1).toNatClampNeg (vp_nar .short ((gi M 16 27)).toInt16.toInt32)) 48 ((gi M 16 27)).toNatClampNeg (vp_nar .byte (l3).toInt8.toInt32)) 49 ((gi M 16 27)).toNatClampNeg l4))))))) else (vp_in (gi M 16 28) 3000 ∧ (vp_in l1 300 ∧ (if (gi M 43 (l1).toNatClampNeg) = (-1 : Int32) then (Q (.inl none) (si (si (si (si (si (si (si (si (si M 16 28 (gi M 47 ((gi M 16 28)).toNatClampNeg)) 46 ((gi M 16 28)).toNatClampNeg (vp_nar .short (l2).toInt16.toInt32)) 47 ((gi M 16 28)).toNatClampNeg (vp_nar .short (-1 : Int32))) 16 29 ((gi M 16 29) + (1 : Int32))) 50 ((gi M 16 28)).toNatClampNeg ((gi M 16 29) + (1 : Int32))) 43 (l1).toNatClampNeg (vp_nar .short ((gi M 16 28)).toInt16.toInt32)) 44 (l1).toNatClampNeg (vp_nar .short ((gi M 16 28)).toInt16.toInt32)) 48 ((gi M 16 28)).toNatClampNeg (vp_nar .byte (l3).toInt8.toInt32)) 49 ((gi M 16 28)).toNatClampNeg l4)) else (vp_in (gi M 44 (l1).toNatClampNeg) 3000 ∧ (Q (.inl none) (si (si (si (si (si (si (si (si (si M 16 28 (gi M 47 ((gi M 16 28)).toNatClampNeg)) 46 ((gi M 16 28)).toNatClampNeg (vp_nar .short (l2).toInt16.toInt32)) 47 ((gi M 16 28)).toNatClampNeg (vp_nar .short (-1 : Int32))) 16 29 ((gi M 16 29) + (1 : Int32))) 50 ((gi M 16 28)).toNatClampNeg ((gi M 16 29) + (1 : Int32))) 47 ((gi M 44 (l1).toNatClampNeg)).toNatClampNeg (vp_nar .short ((gi M 16 28)).toInt16.toInt32)) 44 (l1).toNatClampNeg (vp_nar .short ((gi M 16 28)).toInt16.toInt32)) 48 ((gi M 16 28)).toNatClampNeg (vp_nar .byte (l3).toInt8.toInt32)) 49 ((gi M 16 28)).toNatClampNeg l4))))))) else (vp_in s0 3000 ∧ (Q (.inl none) (si (si M 48 (s0).toNatClampNeg (vp_nar .byte (l3).toInt8.toInt32)) 49 (s0).toNatClampNeg l4)))) : Z E YX1_setOwn (d + 1) M [(0, vr (some (16, 0, 0))), (1, vi l1), (2, vi l2), (3, vi l3), (4, vi l4)] 6 [vi s0] Q := by
  refine sX1_setOwn_6 (d := d) M l1 l2 l3 l4 s0 hw ?_
  refine zite k (fun h13899 k => ?_) (fun h13899 k => ?_)
  · refine zite k (fun h13900 k => ?_) (fun h13900 k => ?_)
    · refine zite k (fun h13901 k => ?_) (fun h13901 k => ?_)
      · exact k
      · refine sX1_setOwn_68 (d := d) (si M 16 27 ((gi M 16 27) + (1 : Int32))) l1 l2 l3 l4 (gi M 16 27) hw ?_
        refine zand k (fun h13902 k => ?_)
        refine ⟨h13902, ?_⟩
        refine ⟨h13902, ?_⟩
        refine zand k (fun h13903 k => ?_)
        refine zite k (fun h13904 k => ?_) (fun h13904 k => ?_)
        · refine ⟨h13903, ?_⟩
          refine ⟨h13903, ?_⟩
          refine sX1_setOwn_148 (d := d) (si (si (si (si (si (si (si M 16 27 ((gi M 16 27) + (1 : Int32))) 46 ((gi M 16 27)).toNatClampNeg (vp_nar .short (l2).toInt16.toInt32)) 47 ((gi M 16 27)).toNatClampNeg (vp_nar .short (-1 : Int32))) 16 29 ((gi M 16 29) + (1 : Int32))) 50 ((gi M 16 27)).toNatClampNeg ((gi M 16 29) + (1 : Int32))) 43 (l1).toNatClampNeg (vp_nar .short ((gi M 16 27)).toInt16.toInt32)) 44 (l1).toNatClampNeg (vp_nar .short ((gi M 16 27)).toInt16.toInt32)) l3 l4 (gi M 16 27) hw ?_
          refine ⟨h13902, ?_⟩
          refine ⟨h13902, ?_⟩
          exact k
        · refine ⟨h13903, ?_⟩
          refine zand k (fun h13905 k => ?_)
          refine ⟨h13903, ?_⟩
          refine sX1_setOwn_148 (d := d) (si (si (si (si (si (si (si M 16 27 ((gi M 16 27) + (1 : Int32))) 46 ((gi M 16 27)).toNatClampNeg (vp_nar .short (l2).toInt16.toInt32)) 47 ((gi M 16 27)).toNatClampNeg (vp_nar .short (-1 : Int32))) 16 29 ((gi M 16 29) + (1 : Int32))) 50 ((gi M 16 27)).toNatClampNeg ((gi M 16 29) + (1 : Int32))) 47 ((gi M 44 (l1).toNatClampNeg)).toNatClampNeg (vp_nar .short ((gi M 16 27)).toInt16.toInt32)) 44 (l1).toNatClampNeg (vp_nar .short ((gi M 16 27)).toInt16.toInt32)) l3 l4 (gi M 16 27) hw ?_
          refine ⟨h13902, ?_⟩
          refine ⟨h13902, ?_⟩
          exact k
    · refine zand k (fun h13906 k => ?_)
      refine sX1_setOwn_68 (d := d) (si M 16 28 (gi M 47 ((gi M 16 28)).toNatClampNeg)) l1 l2 l3 l4 (gi M 16 28) hw ?_
      refine ⟨h13906, ?_⟩
      refine ⟨h13906, ?_⟩
      refine ⟨h13906, ?_⟩
      refine zand k (fun h13907 k => ?_)
      refine zite k (fun h13908 k => ?_) (fun h13908 k => ?_)
      · refine ⟨h13907, ?_⟩
        refine ⟨h13907, ?_⟩
        refine sX1_setOwn_148 (d := d) (si (si (si (si (si (si (si M 16 28 (gi M 47 ((gi M 16 28)).toNatClampNeg)) 46 ((gi M 16 28)).toNatClampNeg (vp_nar .short (l2).toInt16.toInt32)) 47 ((gi M 16 28)).toNatClampNeg (vp_nar .short (-1 : Int32))) 16 29 ((gi M 16 29) + (1 : Int32))) 50 ((gi M 16 28)).toNatClampNeg ((gi M 16 29) + (1 : Int32))) 43 (l1).toNatClampNeg (vp_nar .short ((gi M 16 28)).toInt16.toInt32)) 44 (l1).toNatClampNeg (vp_nar .short ((gi M 16 28)).toInt16.toInt32)) l3 l4 (gi M 16 28) hw ?_
        refine ⟨h13906, ?_⟩
        refine ⟨h13906, ?_⟩
        exact k
      · refine ⟨h13907, ?_⟩
        refine zand k (fun h13909 k => ?_)
        refine ⟨h13907, ?_⟩
        refine sX1_setOwn_148 (d := d) (si (si (si (si (si (si (si M 16 28 (gi M 47 ((gi M 16 28)).toNatClampNeg)) 46 ((gi M 16 28)).toNatClampNeg (vp_nar .short (l2).toInt16.toInt32)) 47 ((gi M 16 28)).toNatClampNeg (vp_nar .short (-1 : Int32))) 16 29 ((gi M 16 29) + (1 : Int32))) 50 ((gi M 16 28)).toNatClampNeg ((gi M 16 29) + (1 : Int32))) 47 ((gi M 44 (l1).toNatClampNeg)).toNatClampNeg (vp_nar .short ((gi M 16 28)).toInt16.toInt32)) 44 (l1).toNatClampNeg (vp_nar .short ((gi M 16 28)).toInt16.toInt32)) l3 l4 (gi M 16 28) hw ?_
        refine ⟨h13906, ?_⟩
        refine ⟨h13906, ?_⟩
        exact k
  · refine sX1_setOwn_148 (d := d) M l3 l4 s0 hw ?_
    refine zand k (fun h13910 k => ?_)
    refine ⟨h13910, ?_⟩
    exact k
theorem iX1_sitePair_0 {E : zE} {d : Nat} {Q : zO → zM → Prop} (M : zM) (l1 : Int32) (hw : cw M) (k : ∃ b13911 : Nat, (gr M 16 8) = some (b13911, 11, 0) ∧ (Q (.inl (some (vi (((29 : Int32) + ((6 : Int32) * ((gi M b13911 2) - (1 : Int32)))) + ((2 : Int32) * l1))))) M)) : Z E YX1_sitePair (d + 1) M [(0, vr (some (16, 0, 0))), (1, vi l1)] 0 [] Q := by
  refine sX1_sitePair_0 (d := d) M l1 hw ?_
  obtain ⟨b13911, h13911, k⟩ := k
  refine ⟨b13911, h13911, ?_⟩
  refine sJ2_size_0 (d := d) M b13911 ?_
  show Z E YX1_sitePair (d + 1) M [(1, vi l1)] 11 [vi (gi M b13911 2), vi (6 : Int32), vi (29 : Int32)] Q
  refine sX1_sitePair_11 (d := d) M l1 (gi M b13911 2) (6 : Int32) (29 : Int32) hw ?_
  exact k
theorem jX1_sitePair {E : zE} {d : Nat} {Q : zO → zM → Prop} (M : zM) (l1 : Int32) (hw : cw M) (k : ∃ b13925 : Nat, (gr M 16 8) = some (b13925, 11, 0) ∧ (Q (.inl (some (vi (((29 : Int32) + ((6 : Int32) * ((gi M b13925 2) - (1 : Int32)))) + ((2 : Int32) * l1))))) M)) : Z E YX1_sitePair (d + 1) M [(0, vr (some (16, 0, 0))), (1, vi l1)] 0 [] Q := by
  refine sX1_sitePair_0 (d := d) M l1 hw ?_
  obtain ⟨b13925, h13925, k⟩ := k
  refine ⟨b13925, h13925, ?_⟩
  refine sJ2_size_0 (d := d) M b13925 ?_
  show Z E YX1_sitePair (d + 1) M [(1, vi l1)] 11 [vi (gi M b13925 2), vi (6 : Int32), vi (29 : Int32)] Q
  refine sX1_sitePair_11 (d := d) M l1 (gi M b13925 2) (6 : Int32) (29 : Int32) hw ?_
  exact k
theorem jX1_copyOf {E : zE} {d : Nat} {Q : zO → zM → Prop} (M : zM) (l1 : Int32) (hw : cw M) (k : vp_in l1 14500 ∧ (vp_in (gi M 16 38) 14500 ∧ (Q (.inl none) (si (si (si (si (si M 53 ((gi M 16 38)).toNatClampNeg (vp_nar .byte (gi M 53 (l1).toNatClampNeg))) 54 ((gi M 16 38)).toNatClampNeg (gi M 54 (l1).toNatClampNeg)) 55 ((gi M 16 38)).toNatClampNeg (gi M 55 (l1).toNatClampNeg)) 56 ((gi M 16 38)).toNatClampNeg (gi M 56 (l1).toNatClampNeg)) 16 38 ((gi M 16 38) + (1 : Int32)))))) : Z E YX1_copyOf d M [(0, vr (some (16, 0, 0))), (1, vi l1)] 0 [] Q := by
  refine sX1_copyOf_0 (d := d) M l1 hw ?_
  refine zand k (fun h13996 k => ?_)
  refine zand k (fun h13997 k => ?_)
  refine ⟨h13996, ?_⟩
  refine ⟨h13997, ?_⟩
  refine ⟨h13996, ?_⟩
  refine ⟨h13997, ?_⟩
  refine ⟨h13996, ?_⟩
  refine ⟨h13997, ?_⟩
  exact k
theorem iX1_step_166 {E : zE} {d : Nat} {Q : zO → zM → Prop} (M : zM) (hw : cw M) (k : Q (.inl none) M) : Z E YX1_step (d + 1) M [] 166 [] Q := by
  refine sX1_step_166 (d := d) M hw ?_
  refine sX1_step_612 (d := d) M hw ?_
  exact k
theorem iX1_step_212 {E : zE} {d : Nat} {Q : zO → zM → Prop} (M : zM) (l3 : Int32) (l5 : Int32) (s0 : Int32) (hw : cw M) (k : vp_in l5 14500 ∧ (Z E YX1_setOwn d M (zargs 0 [vr (some (16, 0, 0)), vi s0, vi l3, vi (gi M 53 (l5).toNatClampNeg), vi (gi M 54 (l5).toNatClampNeg)]) 0 [] (zafter E YX1_step (d + 1) [] 227 3 [] Q))) : Z E YX1_step (d + 1) M [(0, vr (some (16, 0, 0))), (3, vi l3), (5, vi l5)] 212 [vi s0, vr (some (16, 0, 0))] Q := by
  refine sX1_step_212 (d := d) M l3 l5 s0 hw ?_
  refine zand k (fun h14103 k => ?_)
  refine ⟨h14103, ?_⟩
  exact k
theorem iX1_step_239 {E : zE} {d : Nat} {Q : zO → zM → Prop} (M : zM) (s0 : Int32) (hw : cw M) (k : if s0 = (-1 : Int32) then (Z E YX1_error d M (zargs 0 [vr (some (16, 0, 0)), vi (1 : Int32)]) 0 [] (zafter E YX1_step (d + 1) [] 249 3 [] Q)) else (vp_in s0 3000 ∧ (vp_in (gi M 16 38) 14500 ∧ (Q (.inl none) (si (si (si M 53 ((gi M 16 38)).toNatClampNeg (vp_nar .byte ((gi M 48 (s0).toNatClampNeg)).toInt8.toInt32)) 16 38 ((gi M 16 38) + (1 : Int32))) 54 ((gi M 16 38)).toNatClampNeg (gi M 49 (s0).toNatClampNeg)))))) : Z E YX1_step (d + 1) M [(0, vr (some (16, 0, 0)))] 239 [vi s0] Q := by
  refine sX1_step_239 (d := d) M s0 hw ?_
  refine zite k (fun h14104 k => ?_) (fun h14104 k => ?_)
  · exact k
  · refine zand k (fun h14105 k => ?_)
    refine ⟨h14105, ?_⟩
    refine jX1_push (d := d) M (gi M 48 (s0).toNatClampNeg) (gi M 49 (s0).toNatClampNeg) hw ?_
    refine zand k (fun h14106 k => ?_)
    show Z E YX1_step (d + 1) (si (si (si M 53 ((gi M 16 38)).toNatClampNeg (vp_nar .byte ((gi M 48 (s0).toNatClampNeg)).toInt8.toInt32)) 16 38 ((gi M 16 38) + (1 : Int32))) 54 ((gi M 16 38)).toNatClampNeg (gi M 49 (s0).toNatClampNeg)) [] 271 [] Q
    refine sX1_step_271 (d := d) (si (si (si M 53 ((gi M 16 38)).toNatClampNeg (vp_nar .byte ((gi M 48 (s0).toNatClampNeg)).toInt8.toInt32)) 16 38 ((gi M 16 38) + (1 : Int32))) 54 ((gi M 16 38)).toNatClampNeg (gi M 49 (s0).toNatClampNeg)) hw ?_
    refine sX1_step_612 (d := d) (si (si (si M 53 ((gi M 16 38)).toNatClampNeg (vp_nar .byte ((gi M 48 (s0).toNatClampNeg)).toInt8.toInt32)) 16 38 ((gi M 16 38) + (1 : Int32))) 54 ((gi M 16 38)).toNatClampNeg (gi M 49 (s0).toNatClampNeg)) hw ?_
    exact k
theorem iX1_step_294 {E : zE} {d : Nat} {Q : zO → zM → Prop} (M : zM) (hw : cw M) (k : Q (.inl none) M) : Z E YX1_step (d + 1) M [] 294 [] Q := by
  refine sX1_step_294 (d := d) M hw ?_
  refine sX1_step_612 (d := d) M hw ?_
  exact k
theorem iX1_step_303 {E : zE} {d : Nat} {Q : zO → zM → Prop} (M : zM) (s0 : Int32) (hw : cw M) (k : if s0 = (-1 : Int32) then (vp_in (gi M 16 38) 14500 ∧ (Q (.inl none) (si (si (si M 53 ((gi M 16 38)).toNatClampNeg (vp_nar .byte ((6 : Int32)).toInt8.toInt32)) 16 38 ((gi M 16 38) + (1 : Int32))) 54 ((gi M 16 38)).toNatClampNeg (19 : Int32)))) else (vp_in s0 3000 ∧ (Z E YX1_typeOf d M (zargs 0 [vr (some (16, 0, 0)), vi (gi M 48 (s0).toNatClampNeg), vi (gi M 49 (s0).toNatClampNeg)]) 0 [] (zafter E YX1_step (d + 1) [] 334 3 [vi (6 : Int32), vr (some (16, 0, 0))] Q)))) : Z E YX1_step (d + 1) M [(0, vr (some (16, 0, 0)))] 303 [vi s0] Q := by
  refine sX1_step_303 (d := d) M s0 hw ?_
  refine zite k (fun h14107 k => ?_) (fun h14107 k => ?_)
  · refine sX1_step_337 (d := d) M (19 : Int32) (6 : Int32) hw ?_
    refine jX1_push (d := d) M (6 : Int32) (19 : Int32) hw ?_
    refine zand k (fun h14108 k => ?_)
    show Z E YX1_step (d + 1) (si (si (si M 53 ((gi M 16 38)).toNatClampNeg (vp_nar .byte ((6 : Int32)).toInt8.toInt32)) 16 38 ((gi M 16 38) + (1 : Int32))) 54 ((gi M 16 38)).toNatClampNeg (19 : Int32)) [] 340 [] Q
    refine sX1_step_340 (d := d) (si (si (si M 53 ((gi M 16 38)).toNatClampNeg (vp_nar .byte ((6 : Int32)).toInt8.toInt32)) 16 38 ((gi M 16 38) + (1 : Int32))) 54 ((gi M 16 38)).toNatClampNeg (19 : Int32)) hw ?_
    refine sX1_step_612 (d := d) (si (si (si M 53 ((gi M 16 38)).toNatClampNeg (vp_nar .byte ((6 : Int32)).toInt8.toInt32)) 16 38 ((gi M 16 38) + (1 : Int32))) 54 ((gi M 16 38)).toNatClampNeg (19 : Int32)) hw ?_
    exact k
  · refine zand k (fun h14109 k => ?_)
    refine ⟨h14109, ?_⟩
    exact k
theorem iX1_step_361 {E : zE} {d : Nat} {Q : zO → zM → Prop} (M : zM) (hw : cw M) (k : Q (.inl none) M) : Z E YX1_step (d + 1) M [] 361 [] Q := by
  refine sX1_step_361 (d := d) M hw ?_
  refine sX1_step_612 (d := d) M hw ?_
  exact k
theorem iX1_step_418 {E : zE} {d : Nat} {Q : zO → zM → Prop} (M : zM) (s0 : Int32) (s1 : Int32) (hw : cw M) (k : vp_in (gi M 16 38) 14500 ∧ (Q (.inl none) (si (si (si M 53 ((gi M 16 38)).toNatClampNeg (vp_nar .byte (s1).toInt8.toInt32)) 16 38 ((gi M 16 38) + (1 : Int32))) 54 ((gi M 16 38)).toNatClampNeg s0))) : Z E YX1_step (d + 1) M [] 418 [vi s0, vi s1, vr (some (16, 0, 0))] Q := by
  refine sX1_step_418 (d := d) M s0 s1 hw ?_
  refine jX1_push (d := d) M s1 s0 hw ?_
  refine zand k (fun h14119 k => ?_)
  show Z E YX1_step (d + 1) (si (si (si M 53 ((gi M 16 38)).toNatClampNeg (vp_nar .byte (s1).toInt8.toInt32)) 16 38 ((gi M 16 38) + (1 : Int32))) 54 ((gi M 16 38)).toNatClampNeg s0) [] 421 [] Q
  refine sX1_step_421 (d := d) (si (si (si M 53 ((gi M 16 38)).toNatClampNeg (vp_nar .byte (s1).toInt8.toInt32)) 16 38 ((gi M 16 38) + (1 : Int32))) 54 ((gi M 16 38)).toNatClampNeg s0) hw ?_
  refine sX1_step_612 (d := d) (si (si (si M 53 ((gi M 16 38)).toNatClampNeg (vp_nar .byte (s1).toInt8.toInt32)) 16 38 ((gi M 16 38) + (1 : Int32))) 54 ((gi M 16 38)).toNatClampNeg s0) hw ?_
  exact k
theorem iX1_step_428 {E : zE} {d : Nat} {Q : zO → zM → Prop} (M : zM) (hw : cw M) (k : Q (.inl none) M) : Z E YX1_step (d + 1) M [] 428 [] Q := by
  refine sX1_step_428 (d := d) M hw ?_
  refine sX1_step_612 (d := d) M hw ?_
  exact k
theorem iX1_step_435 {E : zE} {d : Nat} {Q : zO → zM → Prop} (M : zM) (hw : cw M) (k : Q (.inl none) M) : Z E YX1_step (d + 1) M [] 435 [] Q := by
  refine sX1_step_435 (d := d) M hw ?_
  refine sX1_step_612 (d := d) M hw ?_
  exact k
theorem iX1_step_442 {E : zE} {d : Nat} {Q : zO → zM → Prop} (M : zM) (hw : cw M) (k : Q (.inl none) M) : Z E YX1_step (d + 1) M [] 442 [] Q := by
  refine sX1_step_442 (d := d) M hw ?_
  refine sX1_step_612 (d := d) M hw ?_
  exact k
theorem iX1_step_464 {E : zE} {d : Nat} {Q : zO → zM → Prop} (M : zM) (hw : cw M) (k : vp_in ((gi M 16 38) - (1 : Int32)) 14500 ∧ (Q (.inl none) (si (si (si (si M 16 38 ((gi M 16 38) - (1 : Int32))) 53 (((gi M 16 38) - (1 : Int32))).toNatClampNeg (vp_nar .byte ((gi M 16 33)).toInt8.toInt32)) 16 38 (((gi M 16 38) - (1 : Int32)) + (1 : Int32))) 54 (((gi M 16 38) - (1 : Int32))).toNatClampNeg (gi M 16 32)))) : Z E YX1_step (d + 2) M [(0, vr (some (16, 0, 0)))] 464 [] Q := by
  refine sX1_step_464 (d := (d + 1)) M hw ?_
  refine jX1_leaves (d := d) M (1 : Int32) hw ?_
  refine zand k (fun h14120 k => ?_)
  show Z E YX1_step ((d + 1) + 1) (si (si (si (si M 16 38 ((gi M 16 38) - (1 : Int32))) 53 (((gi M 16 38) - (1 : Int32))).toNatClampNeg (vp_nar .byte ((gi M 16 33)).toInt8.toInt32)) 16 38 (((gi M 16 38) - (1 : Int32)) + (1 : Int32))) 54 (((gi M 16 38) - (1 : Int32))).toNatClampNeg (gi M 16 32)) [] 469 [] Q
  refine sX1_step_469 (d := (d + 1)) (si (si (si (si M 16 38 ((gi M 16 38) - (1 : Int32))) 53 (((gi M 16 38) - (1 : Int32))).toNatClampNeg (vp_nar .byte ((gi M 16 33)).toInt8.toInt32)) 16 38 (((gi M 16 38) - (1 : Int32)) + (1 : Int32))) 54 (((gi M 16 38) - (1 : Int32))).toNatClampNeg (gi M 16 32)) hw ?_
  refine sX1_step_612 (d := (d + 1)) (si (si (si (si M 16 38 ((gi M 16 38) - (1 : Int32))) 53 (((gi M 16 38) - (1 : Int32))).toNatClampNeg (vp_nar .byte ((gi M 16 33)).toInt8.toInt32)) 16 38 (((gi M 16 38) - (1 : Int32)) + (1 : Int32))) 54 (((gi M 16 38) - (1 : Int32))).toNatClampNeg (gi M 16 32)) hw ?_
  exact k
theorem iX1_step_528 {E : zE} {d : Nat} {Q : zO → zM → Prop} (M : zM) (hw : cw M) (k : vp_in ((gi M 16 38) - (2 : Int32)) 14500 ∧ (Q (.inl none) (si (si (si (si M 16 38 ((gi M 16 38) - (2 : Int32))) 53 (((gi M 16 38) - (2 : Int32))).toNatClampNeg (vp_nar .byte ((gi M 16 33)).toInt8.toInt32)) 16 38 (((gi M 16 38) - (2 : Int32)) + (1 : Int32))) 54 (((gi M 16 38) - (2 : Int32))).toNatClampNeg (gi M 16 32)))) : Z E YX1_step (d + 2) M [(0, vr (some (16, 0, 0)))] 528 [] Q := by
  refine sX1_step_528 (d := (d + 1)) M hw ?_
  refine sX1_step_535 (d := (d + 1)) M hw ?_
  refine jX1_leaves (d := d) M (2 : Int32) hw ?_
  refine zand k (fun h14121 k => ?_)
  show Z E YX1_step ((d + 1) + 1) (si (si (si (si M 16 38 ((gi M 16 38) - (2 : Int32))) 53 (((gi M 16 38) - (2 : Int32))).toNatClampNeg (vp_nar .byte ((gi M 16 33)).toInt8.toInt32)) 16 38 (((gi M 16 38) - (2 : Int32)) + (1 : Int32))) 54 (((gi M 16 38) - (2 : Int32))).toNatClampNeg (gi M 16 32)) [] 540 [] Q
  refine sX1_step_540 (d := (d + 1)) (si (si (si (si M 16 38 ((gi M 16 38) - (2 : Int32))) 53 (((gi M 16 38) - (2 : Int32))).toNatClampNeg (vp_nar .byte ((gi M 16 33)).toInt8.toInt32)) 16 38 (((gi M 16 38) - (2 : Int32)) + (1 : Int32))) 54 (((gi M 16 38) - (2 : Int32))).toNatClampNeg (gi M 16 32)) hw ?_
  refine sX1_step_612 (d := (d + 1)) (si (si (si (si M 16 38 ((gi M 16 38) - (2 : Int32))) 53 (((gi M 16 38) - (2 : Int32))).toNatClampNeg (vp_nar .byte ((gi M 16 33)).toInt8.toInt32)) 16 38 (((gi M 16 38) - (2 : Int32)) + (1 : Int32))) 54 (((gi M 16 38) - (2 : Int32))).toNatClampNeg (gi M 16 32)) hw ?_
  exact k
theorem iX1_step_535 {E : zE} {d : Nat} {Q : zO → zM → Prop} (M : zM) (hw : cw M) (k : vp_in ((gi M 16 38) - (2 : Int32)) 14500 ∧ (Q (.inl none) (si (si (si (si M 16 38 ((gi M 16 38) - (2 : Int32))) 53 (((gi M 16 38) - (2 : Int32))).toNatClampNeg (vp_nar .byte ((gi M 16 33)).toInt8.toInt32)) 16 38 (((gi M 16 38) - (2 : Int32)) + (1 : Int32))) 54 (((gi M 16 38) - (2 : Int32))).toNatClampNeg (gi M 16 32)))) : Z E YX1_step (d + 2) M [(0, vr (some (16, 0, 0)))] 535 [] Q := by
  refine sX1_step_535 (d := (d + 1)) M hw ?_
  refine jX1_leaves (d := d) M (2 : Int32) hw ?_
  refine zand k (fun h14122 k => ?_)
  show Z E YX1_step ((d + 1) + 1) (si (si (si (si M 16 38 ((gi M 16 38) - (2 : Int32))) 53 (((gi M 16 38) - (2 : Int32))).toNatClampNeg (vp_nar .byte ((gi M 16 33)).toInt8.toInt32)) 16 38 (((gi M 16 38) - (2 : Int32)) + (1 : Int32))) 54 (((gi M 16 38) - (2 : Int32))).toNatClampNeg (gi M 16 32)) [] 540 [] Q
  refine sX1_step_540 (d := (d + 1)) (si (si (si (si M 16 38 ((gi M 16 38) - (2 : Int32))) 53 (((gi M 16 38) - (2 : Int32))).toNatClampNeg (vp_nar .byte ((gi M 16 33)).toInt8.toInt32)) 16 38 (((gi M 16 38) - (2 : Int32)) + (1 : Int32))) 54 (((gi M 16 38) - (2 : Int32))).toNatClampNeg (gi M 16 32)) hw ?_
  refine sX1_step_612 (d := (d + 1)) (si (si (si (si M 16 38 ((gi M 16 38) - (2 : Int32))) 53 (((gi M 16 38) - (2 : Int32))).toNatClampNeg (vp_nar .byte ((gi M 16 33)).toInt8.toInt32)) 16 38 (((gi M 16 38) - (2 : Int32)) + (1 : Int32))) 54 (((gi M 16 38) - (2 : Int32))).toNatClampNeg (gi M 16 32)) hw ?_
  exact k
theorem iX1_step_515 {E : zE} {d : Nat} {Q : zO → zM → Prop} (M : zM) (hw : cw M) (k : vp_in ((gi M 16 38) - (2 : Int32)) 14500 ∧ (Q (.inl none) (si (si (si (si M 16 38 ((gi M 16 38) - (2 : Int32))) 53 (((gi M 16 38) - (2 : Int32))).toNatClampNeg (vp_nar .byte ((gi M 16 33)).toInt8.toInt32)) 16 38 (((gi M 16 38) - (2 : Int32)) + (1 : Int32))) 54 (((gi M 16 38) - (2 : Int32))).toNatClampNeg (gi M 16 32)))) : Z E YX1_step (d + 2) M [(0, vr (some (16, 0, 0)))] 515 [] Q := by
  refine sX1_step_515 (d := (d + 1)) M hw ?_
  refine sX1_step_535 (d := (d + 1)) M hw ?_
  refine jX1_leaves (d := d) M (2 : Int32) hw ?_
  refine zand k (fun h14123 k => ?_)
  show Z E YX1_step ((d + 1) + 1) (si (si (si (si M 16 38 ((gi M 16 38) - (2 : Int32))) 53 (((gi M 16 38) - (2 : Int32))).toNatClampNeg (vp_nar .byte ((gi M 16 33)).toInt8.toInt32)) 16 38 (((gi M 16 38) - (2 : Int32)) + (1 : Int32))) 54 (((gi M 16 38) - (2 : Int32))).toNatClampNeg (gi M 16 32)) [] 540 [] Q
  refine sX1_step_540 (d := (d + 1)) (si (si (si (si M 16 38 ((gi M 16 38) - (2 : Int32))) 53 (((gi M 16 38) - (2 : Int32))).toNatClampNeg (vp_nar .byte ((gi M 16 33)).toInt8.toInt32)) 16 38 (((gi M 16 38) - (2 : Int32)) + (1 : Int32))) 54 (((gi M 16 38) - (2 : Int32))).toNatClampNeg (gi M 16 32)) hw ?_
  refine sX1_step_612 (d := (d + 1)) (si (si (si (si M 16 38 ((gi M 16 38) - (2 : Int32))) 53 (((gi M 16 38) - (2 : Int32))).toNatClampNeg (vp_nar .byte ((gi M 16 33)).toInt8.toInt32)) 16 38 (((gi M 16 38) - (2 : Int32)) + (1 : Int32))) 54 (((gi M 16 38) - (2 : Int32))).toNatClampNeg (gi M 16 32)) hw ?_
  exact k
theorem iX1_step_578 {E : zE} {d : Nat} {Q : zO → zM → Prop} (M : zM) (hw : cw M) (k : Q (.inl none) M) : Z E YX1_step (d + 1) M [] 578 [] Q := by
  refine sX1_step_578 (d := d) M hw ?_
  refine sX1_step_612 (d := d) M hw ?_
  exact k
theorem iX1_step_587 {E : zE} {d : Nat} {Q : zO → zM → Prop} (M : zM) (hw : cw M) (k : Q (.inl none) M) : Z E YX1_step (d + 1) M [] 587 [] Q := by
  refine sX1_step_587 (d := d) M hw ?_
  refine sX1_step_612 (d := d) M hw ?_
  exact k
theorem iX1_step_181 {E : zE} {d : Nat} {Q : zO → zM → Prop} (M : zM) (s0 : Int32) (hw : cw M) (k : vp_in s0 3000 ∧ (vp_in (gi M 16 38) 14500 ∧ (Q (.inl none) (si (si (si M 53 ((gi M 16 38)).toNatClampNeg (vp_nar .byte ((gi M 48 (s0).toNatClampNeg)).toInt8.toInt32)) 16 38 ((gi M 16 38) + (1 : Int32))) 54 ((gi M 16 38)).toNatClampNeg (gi M 49 (s0).toNatClampNeg))))) : Z E YX1_step (d + 1) M [(0, vr (some (16, 0, 0)))] 181 [vi s0] Q := by
  refine sX1_step_181 (d := d) M s0 hw ?_
  refine zand k (fun h14124 k => ?_)
  refine ⟨h14124, ?_⟩
  refine jX1_push (d := d) M (gi M 48 (s0).toNatClampNeg) (gi M 49 (s0).toNatClampNeg) hw ?_
  refine zand k (fun h14125 k => ?_)
  show Z E YX1_step (d + 1) (si (si (si M 53 ((gi M 16 38)).toNatClampNeg (vp_nar .byte ((gi M 48 (s0).toNatClampNeg)).toInt8.toInt32)) 16 38 ((gi M 16 38) + (1 : Int32))) 54 ((gi M 16 38)).toNatClampNeg (gi M 49 (s0).toNatClampNeg)) [] 201 [] Q
  refine sX1_step_201 (d := d) (si (si (si M 53 ((gi M 16 38)).toNatClampNeg (vp_nar .byte ((gi M 48 (s0).toNatClampNeg)).toInt8.toInt32)) 16 38 ((gi M 16 38) + (1 : Int32))) 54 ((gi M 16 38)).toNatClampNeg (gi M 49 (s0).toNatClampNeg)) hw ?_
  refine sX1_step_612 (d := d) (si (si (si M 53 ((gi M 16 38)).toNatClampNeg (vp_nar .byte ((gi M 48 (s0).toNatClampNeg)).toInt8.toInt32)) 16 38 ((gi M 16 38) + (1 : Int32))) 54 ((gi M 16 38)).toNatClampNeg (gi M 49 (s0).toNatClampNeg)) hw ?_
  exact k
theorem iX1_step_230 {E : zE} {d : Nat} {Q : zO → zM → Prop} (M : zM) (hw : cw M) (k : Q (.inl none) M) : Z E YX1_step (d + 1) M [] 230 [] Q := by
  refine sX1_step_230 (d := d) M hw ?_
  refine sX1_step_612 (d := d) M hw ?_
  exact k
theorem iX1_step_337 {E : zE} {d : Nat} {Q : zO → zM → Prop} (M : zM) (s0 : Int32) (s1 : Int32) (hw : cw M) (k : vp_in (gi M 16 38) 14500 ∧ (Q (.inl none) (si (si (si M 53 ((gi M 16 38)).toNatClampNeg (vp_nar .byte (s1).toInt8.toInt32)) 16 38 ((gi M 16 38) + (1 : Int32))) 54 ((gi M 16 38)).toNatClampNeg s0))) : Z E YX1_step (d + 1) M [] 337 [vi s0, vi s1, vr (some (16, 0, 0))] Q := by
  refine sX1_step_337 (d := d) M s0 s1 hw ?_
  refine jX1_push (d := d) M s1 s0 hw ?_
  refine zand k (fun h14127 k => ?_)
  show Z E YX1_step (d + 1) (si (si (si M 53 ((gi M 16 38)).toNatClampNeg (vp_nar .byte (s1).toInt8.toInt32)) 16 38 ((gi M 16 38) + (1 : Int32))) 54 ((gi M 16 38)).toNatClampNeg s0) [] 340 [] Q
  refine sX1_step_340 (d := d) (si (si (si M 53 ((gi M 16 38)).toNatClampNeg (vp_nar .byte (s1).toInt8.toInt32)) 16 38 ((gi M 16 38) + (1 : Int32))) 54 ((gi M 16 38)).toNatClampNeg s0) hw ?_
  refine sX1_step_612 (d := d) (si (si (si M 53 ((gi M 16 38)).toNatClampNeg (vp_nar .byte (s1).toInt8.toInt32)) 16 38 ((gi M 16 38) + (1 : Int32))) 54 ((gi M 16 38)).toNatClampNeg s0) hw ?_
  exact k
theorem iX1_step_379 {E : zE} {d : Nat} {Q : zO → zM → Prop} (M : zM) (s0 : Int32) (s1 : Int32) (hw : cw M) (k : vp_in (gi M 16 38) 14500 ∧ (Q (.inl none) (si (si (si M 53 ((gi M 16 38)).toNatClampNeg (vp_nar .byte (s1).toInt8.toInt32)) 16 38 ((gi M 16 38) + (1 : Int32))) 54 ((gi M 16 38)).toNatClampNeg s0))) : Z E YX1_step (d + 1) M [] 379 [vi s0, vi s1, vr (some (16, 0, 0))] Q := by
  refine sX1_step_379 (d := d) M s0 s1 hw ?_
  refine jX1_push (d := d) M s1 s0 hw ?_
  refine zand k (fun h14128 k => ?_)
  show Z E YX1_step (d + 1) (si (si (si M 53 ((gi M 16 38)).toNatClampNeg (vp_nar .byte (s1).toInt8.toInt32)) 16 38 ((gi M 16 38) + (1 : Int32))) 54 ((gi M 16 38)).toNatClampNeg s0) [] 382 [] Q
  refine sX1_step_382 (d := d) (si (si (si M 53 ((gi M 16 38)).toNatClampNeg (vp_nar .byte (s1).toInt8.toInt32)) 16 38 ((gi M 16 38) + (1 : Int32))) 54 ((gi M 16 38)).toNatClampNeg s0) hw ?_
  refine sX1_step_612 (d := d) (si (si (si M 53 ((gi M 16 38)).toNatClampNeg (vp_nar .byte (s1).toInt8.toInt32)) 16 38 ((gi M 16 38) + (1 : Int32))) 54 ((gi M 16 38)).toNatClampNeg s0) hw ?_
  exact k
theorem iX1_step_397 {E : zE} {d : Nat} {Q : zO → zM → Prop} (M : zM) (s0 : Int32) (s1 : Int32) (hw : cw M) (k : vp_in (gi M 16 38) 14500 ∧ (Q (.inl none) (si (si (si M 53 ((gi M 16 38)).toNatClampNeg (vp_nar .byte (s1).toInt8.toInt32)) 16 38 ((gi M 16 38) + (1 : Int32))) 54 ((gi M 16 38)).toNatClampNeg s0))) : Z E YX1_step (d + 1) M [] 397 [vi s0, vi s1, vr (some (16, 0, 0))] Q := by
  refine sX1_step_397 (d := d) M s0 s1 hw ?_
  refine jX1_push (d := d) M s1 s0 hw ?_
  refine zand k (fun h14129 k => ?_)
  show Z E YX1_step (d + 1) (si (si (si M 53 ((gi M 16 38)).toNatClampNeg (vp_nar .byte (s1).toInt8.toInt32)) 16 38 ((gi M 16 38) + (1 : Int32))) 54 ((gi M 16 38)).toNatClampNeg s0) [] 400 [] Q
  refine sX1_step_400 (d := d) (si (si (si M 53 ((gi M 16 38)).toNatClampNeg (vp_nar .byte (s1).toInt8.toInt32)) 16 38 ((gi M 16 38) + (1 : Int32))) 54 ((gi M 16 38)).toNatClampNeg s0) hw ?_
  refine sX1_step_612 (d := d) (si (si (si M 53 ((gi M 16 38)).toNatClampNeg (vp_nar .byte (s1).toInt8.toInt32)) 16 38 ((gi M 16 38) + (1 : Int32))) 54 ((gi M 16 38)).toNatClampNeg s0) hw ?_
  exact k
theorem iX1_string_0 {E : zE} {d : Nat} {Q : zO → zM → Prop} (M : zM) (hw : cw M) (k : if (60 : Int32) < (gi M 16 3) then (Z E YX2_find d M (zargs 0 [vr (some (17, 2, 0)), vr (some (20, 101, 256)), vi (60 : Int32)]) 0 [] (zafter E YX1_string (d + 1) [(0, vr (some (16, 0, 0))), (1, vi (60 : Int32))] 19 3 [] Q)) else (Z E YX2_find d M (zargs 0 [vr (some (17, 2, 0)), vr (some (20, 101, 256)), vi (gi M 16 3)]) 0 [] (zafter E YX1_string (d + 1) [(0, vr (some (16, 0, 0))), (1, vi (gi M 16 3))] 19 3 [] Q))) : Z E YX1_string (d + 1) M [(0, vr (some (16, 0, 0)))] 0 [] Q := by
  refine sX1_string_0 (d := d) M hw ?_
  refine sJ11_min_0 (d := d) M (gi M 16 3) (60 : Int32) ?_
  refine zite k (fun h14131 k => ?_) (fun h14131 k => ?_)
  · show Z E YX1_string (d + 1) M [(0, vr (some (16, 0, 0)))] 9 [vi (60 : Int32)] Q
    refine sX1_string_9 (d := d) M (60 : Int32) hw ?_
    exact k
  · show Z E YX1_string (d + 1) M [(0, vr (some (16, 0, 0)))] 9 [vi (gi M 16 3)] Q
    refine sX1_string_9 (d := d) M (gi M 16 3) hw ?_
    exact k
theorem iX1_textOf_0 {E : zE} {d : Nat} {Q : zO → zM → Prop} (M : zM) (l1 : Int32) (l2 : Int32) (hw : cw M) (k : if l1 = (6 : Int32) then (Q (.inl (some (vi l2))) M) else (Z E YX1_putValue d (si M 16 3 (0 : Int32)) (zargs 0 [vr (some (16, 0, 0)), vi l1, vi l2]) 0 [] (zafter E YX1_textOf (d + 1) [(0, vr (some (16, 0, 0)))] 15 3 [] Q))) : Z E YX1_textOf (d + 1) M [(0, vr (some (16, 0, 0))), (1, vi l1), (2, vi l2)] 0 [] Q := by
  refine sX1_textOf_0 (d := d) M l1 l2 hw ?_
  refine zite k (fun h14134 k => ?_) (fun h14134 k => ?_)
  · exact k
  · refine sX1_clearRow_0 (d := d) M hw ?_
    show Z E YX1_textOf (d + 1) (si M 16 3 (0 : Int32)) [(0, vr (some (16, 0, 0))), (1, vi l1), (2, vi l2)] 12 [] Q
    refine sX1_textOf_12 (d := d) (si M 16 3 (0 : Int32)) l1 l2 hw ?_
    exact k
theorem iX1_value_6 {E : zE} {d : Nat} {Q : zO → zM → Prop} (M : zM) (l1 : Int32) (l2 : Int32) (l3 : Int32) (s0 : Int32) (hw : cw M) (k : if s0 = (-1 : Int32) then (Q (.inl (some (vi (-1 : Int32)))) M) else (if l2 < (-1 : Int32) then (Q (.inl (some (vi (-1 : Int32)))) M) else (if l2 < s0 then (if l2 = (-1 : Int32) then (vp_in (((gi M 16 49) - (1 : Int32)) - l1) 24 ∧ (if l3 = 0 then (Q (.inl (some (vi (gi M 63 ((((gi M 16 49) - (1 : Int32)) - l1)).toNatClampNeg)))) M) else (if l3 = (1 : Int32) then (if (gi M 63 ((((gi M 16 49) - (1 : Int32)) - l1)).toNatClampNeg) < (5 : Int32) then (Q (.inl (some (vi (0 : Int32)))) M) else (Q (.inl (some (vi (gi M 64 ((((gi M 16 49) - (1 : Int32)) - l1)).toNatClampNeg)))) M)) else (Q (.inl (some (vi (-1 : Int32)))) M)))) else (vp_in (((gi M 16 49) - (1 : Int32)) - l1) 24 ∧ (vp_in ((gi M 60 ((((gi M 16 49) - (1 : Int32)) - l1)).toNatClampNeg) + l2) 14500 ∧ (if (gi M 53 (((gi M 60 ((((gi M 16 49) - (1 : Int32)) - l1)).toNatClampNeg) + l2)).toNatClampNeg) = (8 : Int32) then (if l3 = (1 : Int32) then (Z E YX1_leftOf d M (zargs 0 [vr (some (16, 0, 0)), vi ((gi M 60 ((((gi M 16 49) - (1 : Int32)) - l1)).toNatClampNeg) + l2)]) 0 [] (zafter E YX1_value (d + 1) [] 93 3 [] Q)) else (if l3 = 0 then (Q (.inl (some (vi (gi M 53 (((gi M 60 ((((gi M 16 49) - (1 : Int32)) - l1)).toNatClampNeg) + l2)).toNatClampNeg)))) M) else (Q (.inl (some (vi (-1 : Int32)))) M))) else (if l3 = 0 then (Q (.inl (some (vi (gi M 53 (((gi M 60 ((((gi M 16 49) - (1 : Int32)) - l1)).toNatClampNeg) + l2)).toNatClampNeg)))) M) else (if l3 = (1 : Int32) then (if (gi M 53 (((gi M 60 ((((gi M 16 49) - (1 : Int32)) - l1)).toNatClampNeg) + l2)).toNatClampNeg) < (5 : Int32) then (Q (.inl (some (vi (0 : Int32)))) M) else (Q (.inl (some (vi (gi M 54 (((gi M 60 ((((gi M 16 49) - (1 : Int32)) - l1)).toNatClampNeg) + l2)).toNatClampNeg)))) M)) else (Q (.inl (some (vi (-1 : Int32)))) M))))))) else (Q (.inl (some (vi (-1 : Int32)))) M)))) : Z E YX1_value (d + 1) M [(0, vr (some (16, 0, 0))), (1, vi l1), (2, vi l2), (3, vi l3)] 6 [vi s0] Q := by
  refine sX1_value_6 (d := d) M l1 l2 l3 s0 hw ?_
  refine zite k (fun h14173 k => ?_) (fun h14173 k => ?_)
  · exact k
  · refine zite k (fun h14174 k => ?_) (fun h14174 k => ?_)
    · exact k
    · refine zite k (fun h14175 k => ?_) (fun h14175 k => ?_)
      · refine zite k (fun h14176 k => ?_) (fun h14176 k => ?_)
        · refine zand k (fun h14177 k => ?_)
          refine ⟨h14177, ?_⟩
          refine sX1_told_0 (d := d) M (gi M 63 ((((gi M 16 49) - (1 : Int32)) - l1)).toNatClampNeg) (gi M 64 ((((gi M 16 49) - (1 : Int32)) - l1)).toNatClampNeg) l3 hw ?_
          refine zite k (fun h14178 k => ?_) (fun h14178 k => ?_)
          · show Z E YX1_value (d + 1) M [] 61 [vi (gi M 63 ((((gi M 16 49) - (1 : Int32)) - l1)).toNatClampNeg)] Q
            refine sX1_value_61 (d := d) M (gi M 63 ((((gi M 16 49) - (1 : Int32)) - l1)).toNatClampNeg) hw ?_
            exact k
          · refine zite k (fun h14179 k => ?_) (fun h14179 k => ?_)
            · refine zite k (fun h14180 k => ?_) (fun h14180 k => ?_)
              · show Z E YX1_value (d + 1) M [] 61 [vi (0 : Int32)] Q
                refine sX1_value_61 (d := d) M (0 : Int32) hw ?_
                exact k
              · show Z E YX1_value (d + 1) M [] 61 [vi (gi M 64 ((((gi M 16 49) - (1 : Int32)) - l1)).toNatClampNeg)] Q
                refine sX1_value_61 (d := d) M (gi M 64 ((((gi M 16 49) - (1 : Int32)) - l1)).toNatClampNeg) hw ?_
                exact k
            · show Z E YX1_value (d + 1) M [] 61 [vi (-1 : Int32)] Q
              refine sX1_value_61 (d := d) M (-1 : Int32) hw ?_
              exact k
        · refine zand k (fun h14181 k => ?_)
          refine zand k (fun h14182 k => ?_)
          refine zite k (fun h14183 k => ?_) (fun h14183 k => ?_)
          · refine zite k (fun h14184 k => ?_) (fun h14184 k => ?_)
            · exact k
            · refine sX1_value_99 (d := d) M l3 ((gi M 60 ((((gi M 16 49) - (1 : Int32)) - l1)).toNatClampNeg) + l2) hw ?_
              refine ⟨h14182, ?_⟩
              refine ⟨h14182, ?_⟩
              refine sX1_told_0 (d := d) M (gi M 53 (((gi M 60 ((((gi M 16 49) - (1 : Int32)) - l1)).toNatClampNeg) + l2)).toNatClampNeg) (gi M 54 (((gi M 60 ((((gi M 16 49) - (1 : Int32)) - l1)).toNatClampNeg) + l2)).toNatClampNeg) l3 hw ?_
              refine zite k (fun h14186 k => ?_) (fun h14186 k => ?_)
              · show Z E YX1_value (d + 1) M [] 118 [vi (gi M 53 (((gi M 60 ((((gi M 16 49) - (1 : Int32)) - l1)).toNatClampNeg) + l2)).toNatClampNeg)] Q
                refine sX1_value_118 (d := d) M (gi M 53 (((gi M 60 ((((gi M 16 49) - (1 : Int32)) - l1)).toNatClampNeg) + l2)).toNatClampNeg) hw ?_
                exact k
              · refine zneg h14184 ?_
                show Z E YX1_value (d + 1) M [] 118 [vi (-1 : Int32)] Q
                refine sX1_value_118 (d := d) M (-1 : Int32) hw ?_
                exact k
          · refine sX1_value_99 (d := d) M l3 ((gi M 60 ((((gi M 16 49) - (1 : Int32)) - l1)).toNatClampNeg) + l2) hw ?_
            refine ⟨h14182, ?_⟩
            refine ⟨h14182, ?_⟩
            refine sX1_told_0 (d := d) M (gi M 53 (((gi M 60 ((((gi M 16 49) - (1 : Int32)) - l1)).toNatClampNeg) + l2)).toNatClampNeg) (gi M 54 (((gi M 60 ((((gi M 16 49) - (1 : Int32)) - l1)).toNatClampNeg) + l2)).toNatClampNeg) l3 hw ?_
            refine zite k (fun h14187 k => ?_) (fun h14187 k => ?_)
            · show Z E YX1_value (d + 1) M [] 118 [vi (gi M 53 (((gi M 60 ((((gi M 16 49) - (1 : Int32)) - l1)).toNatClampNeg) + l2)).toNatClampNeg)] Q
              refine sX1_value_118 (d := d) M (gi M 53 (((gi M 60 ((((gi M 16 49) - (1 : Int32)) - l1)).toNatClampNeg) + l2)).toNatClampNeg) hw ?_
              exact k
            · refine zite k (fun h14188 k => ?_) (fun h14188 k => ?_)
              · refine zite k (fun h14189 k => ?_) (fun h14189 k => ?_)
                · show Z E YX1_value (d + 1) M [] 118 [vi (0 : Int32)] Q
                  refine sX1_value_118 (d := d) M (0 : Int32) hw ?_
                  exact k
                · show Z E YX1_value (d + 1) M [] 118 [vi (gi M 54 (((gi M 60 ((((gi M 16 49) - (1 : Int32)) - l1)).toNatClampNeg) + l2)).toNatClampNeg)] Q
                  refine sX1_value_118 (d := d) M (gi M 54 (((gi M 60 ((((gi M 16 49) - (1 : Int32)) - l1)).toNatClampNeg) + l2)).toNatClampNeg) hw ?_
                  exact k
              · show Z E YX1_value (d + 1) M [] 118 [vi (-1 : Int32)] Q
                refine sX1_value_118 (d := d) M (-1 : Int32) hw ?_
                exact k
      · exact k
theorem iX1_value_96 {E : zE} {d : Nat} {Q : zO → zM → Prop} (M : zM) (s0 : Int32) (hw : cw M) (k : Q (.inl (some (vi s0))) M) : Z E YX1_value (d + 1) M [] 96 [vi s0] Q := by
  refine sX1_value_96 (d := d) M s0 hw ?_
  refine sX1_value_118 (d := d) M s0 hw ?_
  exact k
theorem iX1_binary_0 {E : zE} {d : Nat} {Q : zO → zM → Prop} (M : zM) (l1 : Int32) (l2 : Int32) (l3 : Int32) (l4 : Int32) (l5 : Int32) (hw : cw M) (k : if l1 = 0 then (if l2 = (6 : Int32) then (Z E YX1_putValue d (si M 16 3 (0 : Int32)) (zargs 0 [vr (some (16, 0, 0)), vi l2, vi l3]) 0 [] (zafter E YX1_binary (d + 1) [(0, vr (some (16, 0, 0))), (4, vi l4), (5, vi l5)] 37 3 [] Q)) else (if l2 = (7 : Int32) then (Z E YX1_putValue d (si M 16 3 (0 : Int32)) (zargs 0 [vr (some (16, 0, 0)), vi l2, vi l3]) 0 [] (zafter E YX1_binary (d + 1) [(0, vr (some (16, 0, 0))), (4, vi l4), (5, vi l5)] 37 3 [] Q)) else (if l4 = (6 : Int32) then (Z E YX1_putValue d (si M 16 3 (0 : Int32)) (zargs 0 [vr (some (16, 0, 0)), vi l2, vi l3]) 0 [] (zafter E YX1_binary (d + 1) [(0, vr (some (16, 0, 0))), (4, vi l4), (5, vi l5)] 37 3 [] Q)) else (if l4 = (7 : Int32) then (Z E YX1_putValue d (si M 16 3 (0 : Int32)) (zargs 0 [vr (some (16, 0, 0)), vi l2, vi l3]) 0 [] (zafter E YX1_binary (d + 1) [(0, vr (some (16, 0, 0))), (4, vi l4), (5, vi l5)] 37 3 [] Q)) else (Z E YX1_binary (d + 1) M [(0, vr (some (16, 0, 0))), (1, vi l1), (2, vi l2), (3, vi l3), (4, vi l4), (5, vi l5)] 61 [] Q))))) else (Z E YX1_binary (d + 1) M [(0, vr (some (16, 0, 0))), (1, vi l1), (2, vi l2), (3, vi l3), (4, vi l4), (5, vi l5)] 61 [] Q)) : Z E YX1_binary (d + 1) M [(0, vr (some (16, 0, 0))), (1, vi l1), (2, vi l2), (3, vi l3), (4, vi l4), (5, vi l5)] 0 [] Q := by
  refine sX1_binary_0 (d := d) M l1 l2 l3 l4 l5 hw ?_
  refine zite k (fun h14190 k => ?_) (fun h14190 k => ?_)
  · refine zite k (fun h14191 k => ?_) (fun h14191 k => ?_)
    · refine sX1_clearRow_0 (d := d) M hw ?_
      show Z E YX1_binary (d + 1) (si M 16 3 (0 : Int32)) [(0, vr (some (16, 0, 0))), (2, vi l2), (3, vi l3), (4, vi l4), (5, vi l5)] 34 [] Q
      refine sX1_binary_34 (d := d) (si M 16 3 (0 : Int32)) l2 l3 l4 l5 hw ?_
      exact k
    · refine zite k (fun h14192 k => ?_) (fun h14192 k => ?_)
      · refine sX1_clearRow_0 (d := d) M hw ?_
        show Z E YX1_binary (d + 1) (si M 16 3 (0 : Int32)) [(0, vr (some (16, 0, 0))), (2, vi l2), (3, vi l3), (4, vi l4), (5, vi l5)] 34 [] Q
        refine sX1_binary_34 (d := d) (si M 16 3 (0 : Int32)) l2 l3 l4 l5 hw ?_
        exact k
      · refine zite k (fun h14193 k => ?_) (fun h14193 k => ?_)
        · refine sX1_clearRow_0 (d := d) M hw ?_
          show Z E YX1_binary (d + 1) (si M 16 3 (0 : Int32)) [(0, vr (some (16, 0, 0))), (2, vi l2), (3, vi l3), (4, vi l4), (5, vi l5)] 34 [] Q
          refine sX1_binary_34 (d := d) (si M 16 3 (0 : Int32)) l2 l3 l4 l5 hw ?_
          exact k
        · refine zite k (fun h14194 k => ?_) (fun h14194 k => ?_)
          · refine sX1_clearRow_0 (d := d) M hw ?_
            show Z E YX1_binary (d + 1) (si M 16 3 (0 : Int32)) [(0, vr (some (16, 0, 0))), (2, vi l2), (3, vi l3), (4, vi l4), (5, vi l5)] 34 [] Q
            refine sX1_binary_34 (d := d) (si M 16 3 (0 : Int32)) l2 l3 l4 l5 hw ?_
            exact k
          · exact k
  · exact k
theorem iX1_binary_293 {E : zE} {d : Nat} {Q : zO → zM → Prop} (M : zM) (l1 : Int32) (s0 : Int32) (hw : cw M) (k : if s0 = (2 : Int32) then (Q (.inl none) (si (si M 16 33 (3 : Int32)) 16 32 (0 : Int32))) else (if l1 = (15 : Int32) then (if 0 ≤ s0 then (Q (.inl none) (si (si M 16 33 (3 : Int32)) 16 32 (0 : Int32))) else (Q (.inl none) (si (si M 16 33 (2 : Int32)) 16 32 (0 : Int32)))) else (if l1 = (16 : Int32) then (if s0 ≤ 0 then (Q (.inl none) (si (si M 16 33 (3 : Int32)) 16 32 (0 : Int32))) else (Q (.inl none) (si (si M 16 33 (2 : Int32)) 16 32 (0 : Int32)))) else (if l1 = (17 : Int32) then (if 0 < s0 then (Q (.inl none) (si (si M 16 33 (3 : Int32)) 16 32 (0 : Int32))) else (Q (.inl none) (si (si M 16 33 (2 : Int32)) 16 32 (0 : Int32)))) else (if s0 < 0 then (Q (.inl none) (si (si M 16 33 (3 : Int32)) 16 32 (0 : Int32))) else (Q (.inl none) (si (si M 16 33 (2 : Int32)) 16 32 (0 : Int32)))))))) : Z E YX1_binary (d + 2) M [(0, vr (some (16, 0, 0))), (1, vi l1)] 293 [vi s0] Q := by
  refine sX1_binary_293 (d := (d + 1)) M l1 s0 hw ?_
  refine zite k (fun h14304 k => ?_) (fun h14304 k => ?_)
  · refine jX1_givesTruth (d := d) M (0 : Int32) hw ?_
    refine zpos (show (0 : Int32) = 0 from by decide) ?_
    show Z E YX1_binary ((d + 1) + 1) (si (si M 16 33 (3 : Int32)) 16 32 (0 : Int32)) [] 357 [] Q
    refine sX1_binary_357 (d := (d + 1)) (si (si M 16 33 (3 : Int32)) 16 32 (0 : Int32)) hw ?_
    exact k
  · refine zite k (fun h14305 k => ?_) (fun h14305 k => ?_)
    · refine zite k (fun h14306 k => ?_) (fun h14306 k => ?_)
      · refine jX1_givesTruth (d := d) M (0 : Int32) hw ?_
        refine zpos (show (0 : Int32) = 0 from by decide) ?_
        show Z E YX1_binary ((d + 1) + 1) (si (si M 16 33 (3 : Int32)) 16 32 (0 : Int32)) [] 357 [] Q
        refine sX1_binary_357 (d := (d + 1)) (si (si M 16 33 (3 : Int32)) 16 32 (0 : Int32)) hw ?_
        exact k
      · refine jX1_givesTruth (d := d) M (1 : Int32) hw ?_
        refine zneg (show ¬ ((1 : Int32) = 0) from by decide) ?_
        show Z E YX1_binary ((d + 1) + 1) (si (si M 16 33 (2 : Int32)) 16 32 (0 : Int32)) [] 357 [] Q
        refine sX1_binary_357 (d := (d + 1)) (si (si M 16 33 (2 : Int32)) 16 32 (0 : Int32)) hw ?_
        exact k
    · refine zite k (fun h14307 k => ?_) (fun h14307 k => ?_)
      · refine zite k (fun h14308 k => ?_) (fun h14308 k => ?_)
        · refine jX1_givesTruth (d := d) M (0 : Int32) hw ?_
          refine zpos (show (0 : Int32) = 0 from by decide) ?_
          show Z E YX1_binary ((d + 1) + 1) (si (si M 16 33 (3 : Int32)) 16 32 (0 : Int32)) [] 357 [] Q
          refine sX1_binary_357 (d := (d + 1)) (si (si M 16 33 (3 : Int32)) 16 32 (0 : Int32)) hw ?_
          exact k
        · refine jX1_givesTruth (d := d) M (1 : Int32) hw ?_
          refine zneg (show ¬ ((1 : Int32) = 0) from by decide) ?_
          show Z E YX1_binary ((d + 1) + 1) (si (si M 16 33 (2 : Int32)) 16 32 (0 : Int32)) [] 357 [] Q
          refine sX1_binary_357 (d := (d + 1)) (si (si M 16 33 (2 : Int32)) 16 32 (0 : Int32)) hw ?_
          exact k
      · refine zite k (fun h14309 k => ?_) (fun h14309 k => ?_)
        · refine zite k (fun h14310 k => ?_) (fun h14310 k => ?_)
          · refine jX1_givesTruth (d := d) M (0 : Int32) hw ?_
            refine zpos (show (0 : Int32) = 0 from by decide) ?_
            show Z E YX1_binary ((d + 1) + 1) (si (si M 16 33 (3 : Int32)) 16 32 (0 : Int32)) [] 357 [] Q
            refine sX1_binary_357 (d := (d + 1)) (si (si M 16 33 (3 : Int32)) 16 32 (0 : Int32)) hw ?_
            exact k
          · refine jX1_givesTruth (d := d) M (1 : Int32) hw ?_
            refine zneg (show ¬ ((1 : Int32) = 0) from by decide) ?_
            show Z E YX1_binary ((d + 1) + 1) (si (si M 16 33 (2 : Int32)) 16 32 (0 : Int32)) [] 357 [] Q
            refine sX1_binary_357 (d := (d + 1)) (si (si M 16 33 (2 : Int32)) 16 32 (0 : Int32)) hw ?_
            exact k
        · refine zite k (fun h14311 k => ?_) (fun h14311 k => ?_)
          · refine jX1_givesTruth (d := d) M (0 : Int32) hw ?_
            refine zpos (show (0 : Int32) = 0 from by decide) ?_
            show Z E YX1_binary ((d + 1) + 1) (si (si M 16 33 (3 : Int32)) 16 32 (0 : Int32)) [] 357 [] Q
            refine sX1_binary_357 (d := (d + 1)) (si (si M 16 33 (3 : Int32)) 16 32 (0 : Int32)) hw ?_
            exact k
          · refine jX1_givesTruth (d := d) M (1 : Int32) hw ?_
            refine zneg (show ¬ ((1 : Int32) = 0) from by decide) ?_
            show Z E YX1_binary ((d + 1) + 1) (si (si M 16 33 (2 : Int32)) 16 32 (0 : Int32)) [] 357 [] Q
            refine sX1_binary_357 (d := (d + 1)) (si (si M 16 33 (2 : Int32)) 16 32 (0 : Int32)) hw ?_
            exact k
theorem iX1_binary_252 {E : zE} {d : Nat} {Q : zO → zM → Prop} (M : zM) (l1 : Int32) (s0 : Int32) (hw : cw M) (k : if l1 = (11 : Int32) then (if s0 = (1 : Int32) then (Q (.inl none) (si (si M 16 33 (2 : Int32)) 16 32 (0 : Int32))) else (Q (.inl none) (si (si M 16 33 (3 : Int32)) 16 32 (0 : Int32)))) else (if l1 = (13 : Int32) then (if s0 = (1 : Int32) then (Q (.inl none) (si (si M 16 33 (2 : Int32)) 16 32 (0 : Int32))) else (Q (.inl none) (si (si M 16 33 (3 : Int32)) 16 32 (0 : Int32)))) else (if s0 = (0 : Int32) then (Q (.inl none) (si (si M 16 33 (2 : Int32)) 16 32 (0 : Int32))) else (Q (.inl none) (si (si M 16 33 (3 : Int32)) 16 32 (0 : Int32)))))) : Z E YX1_binary (d + 2) M [(1, vi l1)] 252 [vi s0, vr (some (16, 0, 0))] Q := by
  refine sX1_binary_252 (d := (d + 1)) M l1 s0 hw ?_
  refine zite k (fun h14314 k => ?_) (fun h14314 k => ?_)
  · refine sX1_binary_264 (d := (d + 1)) M s0 hw ?_
    refine zite k (fun h14315 k => ?_) (fun h14315 k => ?_)
    · refine jX1_givesTruth (d := d) M (1 : Int32) hw ?_
      refine zneg (show ¬ ((1 : Int32) = 0) from by decide) ?_
      show Z E YX1_binary ((d + 1) + 1) (si (si M 16 33 (2 : Int32)) 16 32 (0 : Int32)) [] 280 [] Q
      refine sX1_binary_280 (d := (d + 1)) (si (si M 16 33 (2 : Int32)) 16 32 (0 : Int32)) hw ?_
      refine sX1_binary_357 (d := (d + 1)) (si (si M 16 33 (2 : Int32)) 16 32 (0 : Int32)) hw ?_
      exact k
    · refine jX1_givesTruth (d := d) M (0 : Int32) hw ?_
      refine zpos (show (0 : Int32) = 0 from by decide) ?_
      show Z E YX1_binary ((d + 1) + 1) (si (si M 16 33 (3 : Int32)) 16 32 (0 : Int32)) [] 280 [] Q
      refine sX1_binary_280 (d := (d + 1)) (si (si M 16 33 (3 : Int32)) 16 32 (0 : Int32)) hw ?_
      refine sX1_binary_357 (d := (d + 1)) (si (si M 16 33 (3 : Int32)) 16 32 (0 : Int32)) hw ?_
      exact k
  · refine zite k (fun h14316 k => ?_) (fun h14316 k => ?_)
    · refine sX1_binary_264 (d := (d + 1)) M s0 hw ?_
      refine zite k (fun h14317 k => ?_) (fun h14317 k => ?_)
      · refine jX1_givesTruth (d := d) M (1 : Int32) hw ?_
        refine zneg (show ¬ ((1 : Int32) = 0) from by decide) ?_
        show Z E YX1_binary ((d + 1) + 1) (si (si M 16 33 (2 : Int32)) 16 32 (0 : Int32)) [] 280 [] Q
        refine sX1_binary_280 (d := (d + 1)) (si (si M 16 33 (2 : Int32)) 16 32 (0 : Int32)) hw ?_
        refine sX1_binary_357 (d := (d + 1)) (si (si M 16 33 (2 : Int32)) 16 32 (0 : Int32)) hw ?_
        exact k
      · refine jX1_givesTruth (d := d) M (0 : Int32) hw ?_
        refine zpos (show (0 : Int32) = 0 from by decide) ?_
        show Z E YX1_binary ((d + 1) + 1) (si (si M 16 33 (3 : Int32)) 16 32 (0 : Int32)) [] 280 [] Q
        refine sX1_binary_280 (d := (d + 1)) (si (si M 16 33 (3 : Int32)) 16 32 (0 : Int32)) hw ?_
        refine sX1_binary_357 (d := (d + 1)) (si (si M 16 33 (3 : Int32)) 16 32 (0 : Int32)) hw ?_
        exact k
    · refine zite k (fun h14318 k => ?_) (fun h14318 k => ?_)
      · refine jX1_givesTruth (d := d) M (1 : Int32) hw ?_
        refine zneg (show ¬ ((1 : Int32) = 0) from by decide) ?_
        show Z E YX1_binary ((d + 1) + 1) (si (si M 16 33 (2 : Int32)) 16 32 (0 : Int32)) [] 280 [] Q
        refine sX1_binary_280 (d := (d + 1)) (si (si M 16 33 (2 : Int32)) 16 32 (0 : Int32)) hw ?_
        refine sX1_binary_357 (d := (d + 1)) (si (si M 16 33 (2 : Int32)) 16 32 (0 : Int32)) hw ?_
        exact k
      · refine jX1_givesTruth (d := d) M (0 : Int32) hw ?_
        refine zpos (show (0 : Int32) = 0 from by decide) ?_
        show Z E YX1_binary ((d + 1) + 1) (si (si M 16 33 (3 : Int32)) 16 32 (0 : Int32)) [] 280 [] Q
        refine sX1_binary_280 (d := (d + 1)) (si (si M 16 33 (3 : Int32)) 16 32 (0 : Int32)) hw ?_
        refine sX1_binary_357 (d := (d + 1)) (si (si M 16 33 (3 : Int32)) 16 32 (0 : Int32)) hw ?_
        exact k
theorem iX1_binary_77 {E : zE} {d : Nat} {Q : zO → zM → Prop} (M : zM) (hw : cw M) (k : Q (.inl none) M) : Z E YX1_binary (d + 1) M [] 77 [] Q := by
  refine sX1_binary_77 (d := d) M hw ?_
  refine sX1_binary_357 (d := d) M hw ?_
  exact k
theorem iX1_binary_55 {E : zE} {d : Nat} {Q : zO → zM → Prop} (M : zM) (s0 : Int32) (s1 : Int32) (hw : cw M) (k : Q (.inl none) (si (si M 16 33 s1) 16 32 s0)) : Z E YX1_binary (d + 1) M [] 55 [vi s0, vi s1, vr (some (16, 0, 0))] Q := by
  refine sX1_binary_55 (d := d) M s0 s1 hw ?_
  refine sX1_gives_0 (d := d) M s1 s0 hw ?_
  show Z E YX1_binary (d + 1) (si (si M 16 33 s1) 16 32 s0) [] 58 [] Q
  refine sX1_binary_58 (d := d) (si (si M 16 33 s1) 16 32 s0) hw ?_
  refine sX1_binary_357 (d := d) (si (si M 16 33 s1) 16 32 s0) hw ?_
  exact k
theorem iX1_binary_124 {E : zE} {d : Nat} {Q : zO → zM → Prop} (M : zM) (l1 : Int32) (l6 : Int32) (s0 : Int32) (hw : cw M) (k : if l1 = (5 : Int32) then (Q (.inl none) (si (si M 16 33 (5 : Int32)) 16 32 (l6 <<< ((s0 &&& (31 : Int32)) &&& 31)))) else (if l1 = (6 : Int32) then (Q (.inl none) (si (si M 16 33 (5 : Int32)) 16 32 (l6 >>> ((s0 &&& (31 : Int32)) &&& 31)))) else (if l1 = (7 : Int32) then (Q (.inl none) (si (si M 16 33 (5 : Int32)) 16 32 (zus l6 (s0 &&& (31 : Int32))))) else (if l1 = (8 : Int32) then (Q (.inl none) (si (si M 16 33 (5 : Int32)) 16 32 (l6 &&& s0))) else (if l1 = (9 : Int32) then (Q (.inl none) (si (si M 16 33 (5 : Int32)) 16 32 (l6 ||| s0))) else (Q (.inl none) (si (si M 16 33 (5 : Int32)) 16 32 (l6 ^^^ s0)))))))) : Z E YX1_binary (d + 1) M [(0, vr (some (16, 0, 0))), (1, vi l1), (6, vi l6)] 124 [vi s0] Q := by
  refine sX1_binary_124 (d := d) M l1 l6 s0 hw ?_
  refine zite k (fun h14321 k => ?_) (fun h14321 k => ?_)
  · refine sX1_gives_0 (d := d) M (5 : Int32) (l6 <<< ((s0 &&& (31 : Int32)) &&& 31)) hw ?_
    show Z E YX1_binary (d + 1) (si (si M 16 33 (5 : Int32)) 16 32 (l6 <<< ((s0 &&& (31 : Int32)) &&& 31))) [] 214 [] Q
    refine sX1_binary_214 (d := d) (si (si M 16 33 (5 : Int32)) 16 32 (l6 <<< ((s0 &&& (31 : Int32)) &&& 31))) hw ?_
    refine sX1_binary_357 (d := d) (si (si M 16 33 (5 : Int32)) 16 32 (l6 <<< ((s0 &&& (31 : Int32)) &&& 31))) hw ?_
    exact k
  · refine zite k (fun h14322 k => ?_) (fun h14322 k => ?_)
    · refine sX1_gives_0 (d := d) M (5 : Int32) (l6 >>> ((s0 &&& (31 : Int32)) &&& 31)) hw ?_
      show Z E YX1_binary (d + 1) (si (si M 16 33 (5 : Int32)) 16 32 (l6 >>> ((s0 &&& (31 : Int32)) &&& 31))) [] 214 [] Q
      refine sX1_binary_214 (d := d) (si (si M 16 33 (5 : Int32)) 16 32 (l6 >>> ((s0 &&& (31 : Int32)) &&& 31))) hw ?_
      refine sX1_binary_357 (d := d) (si (si M 16 33 (5 : Int32)) 16 32 (l6 >>> ((s0 &&& (31 : Int32)) &&& 31))) hw ?_
      exact k
    · refine zite k (fun h14323 k => ?_) (fun h14323 k => ?_)
      · refine sX1_gives_0 (d := d) M (5 : Int32) (zus l6 (s0 &&& (31 : Int32))) hw ?_
        show Z E YX1_binary (d + 1) (si (si M 16 33 (5 : Int32)) 16 32 (zus l6 (s0 &&& (31 : Int32)))) [] 214 [] Q
        refine sX1_binary_214 (d := d) (si (si M 16 33 (5 : Int32)) 16 32 (zus l6 (s0 &&& (31 : Int32)))) hw ?_
        refine sX1_binary_357 (d := d) (si (si M 16 33 (5 : Int32)) 16 32 (zus l6 (s0 &&& (31 : Int32)))) hw ?_
        exact k
      · refine zite k (fun h14324 k => ?_) (fun h14324 k => ?_)
        · refine sX1_gives_0 (d := d) M (5 : Int32) (l6 &&& s0) hw ?_
          show Z E YX1_binary (d + 1) (si (si M 16 33 (5 : Int32)) 16 32 (l6 &&& s0)) [] 214 [] Q
          refine sX1_binary_214 (d := d) (si (si M 16 33 (5 : Int32)) 16 32 (l6 &&& s0)) hw ?_
          refine sX1_binary_357 (d := d) (si (si M 16 33 (5 : Int32)) 16 32 (l6 &&& s0)) hw ?_
          exact k
        · refine zite k (fun h14325 k => ?_) (fun h14325 k => ?_)
          · refine sX1_gives_0 (d := d) M (5 : Int32) (l6 ||| s0) hw ?_
            show Z E YX1_binary (d + 1) (si (si M 16 33 (5 : Int32)) 16 32 (l6 ||| s0)) [] 214 [] Q
            refine sX1_binary_214 (d := d) (si (si M 16 33 (5 : Int32)) 16 32 (l6 ||| s0)) hw ?_
            refine sX1_binary_357 (d := d) (si (si M 16 33 (5 : Int32)) 16 32 (l6 ||| s0)) hw ?_
            exact k
          · refine sX1_gives_0 (d := d) M (5 : Int32) (l6 ^^^ s0) hw ?_
            show Z E YX1_binary (d + 1) (si (si M 16 33 (5 : Int32)) 16 32 (l6 ^^^ s0)) [] 214 [] Q
            refine sX1_binary_214 (d := d) (si (si M 16 33 (5 : Int32)) 16 32 (l6 ^^^ s0)) hw ?_
            refine sX1_binary_357 (d := d) (si (si M 16 33 (5 : Int32)) 16 32 (l6 ^^^ s0)) hw ?_
            exact k
theorem iX1_call_0 {E : zE} {d : Nat} {Q : zO → zM → Prop} (M : zM) (l1 : Int32) (l2 : Int32) (l3 : Int32) (l4 : Int32) (l5 : Int32) (hw : cw M) (k : vp_in l1 14500 ∧ (vp_in l2 14500 ∧ (if (gi M 53 (l2).toNatClampNeg) = (7 : Int32) then (vp_in (gi M 54 (l2).toNatClampNeg) 300 ∧ (if (gi M 38 ((gi M 54 (l2).toNatClampNeg)).toNatClampNeg) = (1 : Int32) then (if (gi M 54 (l2).toNatClampNeg) = (-1 : Int32) then (Z E YX1_error d M (zargs 0 [vr (some (16, 0, 0)), vi (0 : Int32)]) 0 [] (zafter E YX1_call (d + 1) [] 62 3 [] Q)) else (Z E YX1_call (d + 1) M [(0, vr (some (16, 0, 0))), (5, vi l5), (6, vi (gi M 53 (l1).toNatClampNeg)), (7, vi (gi M 54 (l1).toNatClampNeg)), (8, vi (gi M 54 (l2).toNatClampNeg)), (9, vi l3), (10, vi l4)] 66 [] Q)) else (Z E YX1_error d M (zargs 0 [vr (some (16, 0, 0)), vi (0 : Int32)]) 0 [] (zafter E YX1_call (d + 1) [] 62 3 [] Q)))) else (Z E YX1_error d M (zargs 0 [vr (some (16, 0, 0)), vi (0 : Int32)]) 0 [] (zafter E YX1_call (d + 1) [] 62 3 [] Q))))) : Z E YX1_call (d + 1) M [(0, vr (some (16, 0, 0))), (1, vi l1), (2, vi l2), (3, vi l3), (4, vi l4), (5, vi l5)] 0 [] Q := by
  refine sX1_call_0 (d := d) M l1 l2 l3 l4 l5 hw ?_
  refine zand k (fun h14326 k => ?_)
  refine ⟨h14326, ?_⟩
  refine zand k (fun h14327 k => ?_)
  refine ⟨h14327, ?_⟩
  refine sX1_isCalled_0 (d := d) M (gi M 53 (l2).toNatClampNeg) (gi M 54 (l2).toNatClampNeg) hw ?_
  refine zite k (fun h14328 k => ?_) (fun h14328 k => ?_)
  · refine zand k (fun h14329 k => ?_)
    refine zite k (fun h14330 k => ?_) (fun h14330 k => ?_)
    · show Z E YX1_call (d + 1) M [(0, vr (some (16, 0, 0))), (2, vi l2), (3, vi l3), (4, vi l4), (5, vi l5), (6, vi (gi M 53 (l1).toNatClampNeg)), (7, vi (gi M 54 (l1).toNatClampNeg))] 32 [vi (1 : Int32)] Q
      refine sX1_call_32 (d := d) M l2 l3 l4 l5 (gi M 53 (l1).toNatClampNeg) (gi M 54 (l1).toNatClampNeg) (1 : Int32) hw ?_
      refine zneg (show ¬ ((1 : Int32) = 0) from by decide) ?_
      refine ⟨h14327, ?_⟩
      refine sX1_call_45 (d := d) M l3 l4 l5 (gi M 53 (l1).toNatClampNeg) (gi M 54 (l1).toNatClampNeg) (gi M 54 (l2).toNatClampNeg) hw ?_
      exact k
    · show Z E YX1_call (d + 1) M [(0, vr (some (16, 0, 0))), (2, vi l2), (3, vi l3), (4, vi l4), (5, vi l5), (6, vi (gi M 53 (l1).toNatClampNeg)), (7, vi (gi M 54 (l1).toNatClampNeg))] 32 [vi (0 : Int32)] Q
      refine sX1_call_32 (d := d) M l2 l3 l4 l5 (gi M 53 (l1).toNatClampNeg) (gi M 54 (l1).toNatClampNeg) (0 : Int32) hw ?_
      refine zpos (show (0 : Int32) = 0 from by decide) ?_
      refine sX1_call_45 (d := d) M l3 l4 l5 (gi M 53 (l1).toNatClampNeg) (gi M 54 (l1).toNatClampNeg) (-1 : Int32) hw ?_
      refine zpos (show (-1 : Int32) = (-1 : Int32) from by decide) ?_
      exact k
  · show Z E YX1_call (d + 1) M [(0, vr (some (16, 0, 0))), (2, vi l2), (3, vi l3), (4, vi l4), (5, vi l5), (6, vi (gi M 53 (l1).toNatClampNeg)), (7, vi (gi M 54 (l1).toNatClampNeg))] 32 [vi (0 : Int32)] Q
    refine sX1_call_32 (d := d) M l2 l3 l4 l5 (gi M 53 (l1).toNatClampNeg) (gi M 54 (l1).toNatClampNeg) (0 : Int32) hw ?_
    refine zpos (show (0 : Int32) = 0 from by decide) ?_
    refine sX1_call_45 (d := d) M l3 l4 l5 (gi M 53 (l1).toNatClampNeg) (gi M 54 (l1).toNatClampNeg) (-1 : Int32) hw ?_
    refine zpos (show (-1 : Int32) = (-1 : Int32) from by decide) ?_
    exact k
theorem iX1_call_66 {E : zE} {d : Nat} {Q : zO → zM → Prop} (M : zM) (l5 : Int32) (l6 : Int32) (l7 : Int32) (l8 : Int32) (l9 : Int32) (l10 : Int32) (hw : cw M) (k : vp_in l8 300 ∧ (if (gi M 39 (l8).toNatClampNeg) = (-20 : Int32) then (if l6 = (7 : Int32) then (vp_in l7 300 ∧ (if (gi M 38 (l7).toNatClampNeg) = (1 : Int32) then (if l10 ≤ 0 then (if (0 : Int32) < (l10 - (1 : Int32)) then (Z E YX1_call (d + 1) M [(0, vr (some (16, 0, 0))), (5, vi l5), (6, vi (0 : Int32)), (7, vi (0 : Int32)), (8, vi l7), (9, vi (l9 + (1 : Int32))), (10, vi (l10 - (1 : Int32)))] 66 [] Q) else (Z E YX1_call (d + 1) M [(0, vr (some (16, 0, 0))), (5, vi l5), (6, vi (0 : Int32)), (7, vi (0 : Int32)), (8, vi l7), (9, vi (l9 + (1 : Int32))), (10, vi (0 : Int32))] 66 [] Q)) else (vp_in l9 14500 ∧ (if (0 : Int32) < (l10 - (1 : Int32)) then (Z E YX1_call (d + 1) M [(0, vr (some (16, 0, 0))), (5, vi l5), (6, vi (gi M 53 (l9).toNatClampNeg)), (7, vi (gi M 54 (l9).toNatClampNeg)), (8, vi l7), (9, vi (l9 + (1 : Int32))), (10, vi (l10 - (1 : Int32)))] 66 [] Q) else (Z E YX1_call (d + 1) M [(0, vr (some (16, 0, 0))), (5, vi l5), (6, vi (gi M 53 (l9).toNatClampNeg)), (7, vi (gi M 54 (l9).toNatClampNeg)), (8, vi l7), (9, vi (l9 + (1 : Int32))), (10, vi (0 : Int32))] 66 [] Q)))) else (Z E YX1_error d M (zargs 0 [vr (some (16, 0, 0)), vi (0 : Int32)]) 0 [] (zafter E YX1_call (d + 1) [] 91 3 [] Q)))) else (Z E YX1_error d M (zargs 0 [vr (some (16, 0, 0)), vi (0 : Int32)]) 0 [] (zafter E YX1_call (d + 1) [] 91 3 [] Q))) else (if (gi M 39 (l8).toNatClampNeg) ≤ 0 then (Z E YX1_carryOut d M (zargs 0 [vr (some (16, 0, 0)), vi (-(gi M 39 (l8).toNatClampNeg)), vi l6, vi l7, vi l9, vi l10]) 0 [] (zafter E YX1_call (d + 1) [(0, vr (some (16, 0, 0))), (5, vi l5)] 198 3 [] Q)) else (Z E YX1_enter d M (zargs 0 [vr (some (16, 0, 0)), vi l8, vi l6, vi l7, vi l9, vi l10, vi l5, vi (-1 : Int32)]) 0 [] (zafter E YX1_call (d + 1) [] 175 3 [] Q))))) : Z E YX1_call (d + 1) M [(0, vr (some (16, 0, 0))), (5, vi l5), (6, vi l6), (7, vi l7), (8, vi l8), (9, vi l9), (10, vi l10)] 66 [] Q := by
  refine sX1_call_66 (d := d) M l5 l6 l7 l8 l9 l10 hw ?_
  refine zand k (fun h14333 k => ?_)
  refine zite k (fun h14334 k => ?_) (fun h14334 k => ?_)
  · refine sX1_isCalled_0 (d := d) M l6 l7 hw ?_
    refine zite k (fun h14335 k => ?_) (fun h14335 k => ?_)
    · refine zand k (fun h14336 k => ?_)
      refine zite k (fun h14337 k => ?_) (fun h14337 k => ?_)
      · show Z E YX1_call (d + 1) M [(0, vr (some (16, 0, 0))), (5, vi l5), (7, vi l7), (9, vi l9), (10, vi l10)] 86 [vi (1 : Int32)] Q
        refine sX1_call_86 (d := d) M l5 l7 l9 l10 (1 : Int32) hw ?_
        refine zneg (show ¬ ((1 : Int32) = 0) from by decide) ?_
        refine zite k (fun h14338 k => ?_) (fun h14338 k => ?_)
        · refine sX1_call_115 (d := d) M l5 l7 l9 l10 (0 : Int32) hw ?_
          refine zpos h14338 ?_
          refine sJ11_max_0 (d := d) M (0 : Int32) (l10 - (1 : Int32)) ?_
          refine zite k (fun h14339 k => ?_) (fun h14339 k => ?_)
          · show Z E YX1_call (d + 1) M [(0, vr (some (16, 0, 0))), (5, vi l5), (6, vi (0 : Int32)), (7, vi (0 : Int32)), (8, vi l7), (9, vi (l9 + (1 : Int32)))] 146 [vi (l10 - (1 : Int32))] Q
            refine sX1_call_146 (d := d) M l5 (0 : Int32) (0 : Int32) l7 (l9 + (1 : Int32)) (l10 - (1 : Int32)) hw ?_
            exact k
          · show Z E YX1_call (d + 1) M [(0, vr (some (16, 0, 0))), (5, vi l5), (6, vi (0 : Int32)), (7, vi (0 : Int32)), (8, vi l7), (9, vi (l9 + (1 : Int32)))] 146 [vi (0 : Int32)] Q
            refine sX1_call_146 (d := d) M l5 (0 : Int32) (0 : Int32) l7 (l9 + (1 : Int32)) (0 : Int32) hw ?_
            exact k
        · refine zand k (fun h14340 k => ?_)
          refine sX1_call_115 (d := d) M l5 l7 l9 l10 (gi M 53 (l9).toNatClampNeg) hw ?_
          refine zneg h14338 ?_
          refine ⟨h14340, ?_⟩
          refine sJ11_max_0 (d := d) M (0 : Int32) (l10 - (1 : Int32)) ?_
          refine zite k (fun h14341 k => ?_) (fun h14341 k => ?_)
          · show Z E YX1_call (d + 1) M [(0, vr (some (16, 0, 0))), (5, vi l5), (6, vi (gi M 53 (l9).toNatClampNeg)), (7, vi (gi M 54 (l9).toNatClampNeg)), (8, vi l7), (9, vi (l9 + (1 : Int32)))] 146 [vi (l10 - (1 : Int32))] Q
            refine sX1_call_146 (d := d) M l5 (gi M 53 (l9).toNatClampNeg) (gi M 54 (l9).toNatClampNeg) l7 (l9 + (1 : Int32)) (l10 - (1 : Int32)) hw ?_
            exact k
          · show Z E YX1_call (d + 1) M [(0, vr (some (16, 0, 0))), (5, vi l5), (6, vi (gi M 53 (l9).toNatClampNeg)), (7, vi (gi M 54 (l9).toNatClampNeg)), (8, vi l7), (9, vi (l9 + (1 : Int32)))] 146 [vi (0 : Int32)] Q
            refine sX1_call_146 (d := d) M l5 (gi M 53 (l9).toNatClampNeg) (gi M 54 (l9).toNatClampNeg) l7 (l9 + (1 : Int32)) (0 : Int32) hw ?_
            exact k
      · show Z E YX1_call (d + 1) M [(0, vr (some (16, 0, 0))), (5, vi l5), (7, vi l7), (9, vi l9), (10, vi l10)] 86 [vi (0 : Int32)] Q
        refine sX1_call_86 (d := d) M l5 l7 l9 l10 (0 : Int32) hw ?_
        refine zpos (show (0 : Int32) = 0 from by decide) ?_
        exact k
    · show Z E YX1_call (d + 1) M [(0, vr (some (16, 0, 0))), (5, vi l5), (7, vi l7), (9, vi l9), (10, vi l10)] 86 [vi (0 : Int32)] Q
      refine sX1_call_86 (d := d) M l5 l7 l9 l10 (0 : Int32) hw ?_
      refine zpos (show (0 : Int32) = 0 from by decide) ?_
      exact k
  · refine ⟨h14333, ?_⟩
    refine zite k (fun h14342 k => ?_) (fun h14342 k => ?_)
    · refine ⟨h14333, ?_⟩
      exact k
    · exact k
theorem iX1_call_201 {E : zE} {d : Nat} {Q : zO → zM → Prop} (M : zM) (l5 : Int32) (hw : cw M) (k : vp_in l5 14500 ∧ (Q (.inl none) (si (si (si (si M 16 38 l5) 53 (l5).toNatClampNeg (vp_nar .byte ((gi M 16 33)).toInt8.toInt32)) 16 38 (l5 + (1 : Int32))) 54 (l5).toNatClampNeg (gi M 16 32)))) : Z E YX1_call (d + 1) M [(0, vr (some (16, 0, 0))), (5, vi l5)] 201 [] Q := by
  refine sX1_call_201 (d := d) M l5 hw ?_
  refine jX1_push (d := d) (si M 16 38 l5) (gi M 16 33) (gi M 16 32) hw ?_
  refine zand k (fun h14347 k => ?_)
  show Z E YX1_call (d + 1) (si (si (si (si M 16 38 l5) 53 (l5).toNatClampNeg (vp_nar .byte ((gi M 16 33)).toInt8.toInt32)) 16 38 (l5 + (1 : Int32))) 54 (l5).toNatClampNeg (gi M 16 32)) [] 219 [] Q
  refine sX1_call_219 (d := d) (si (si (si (si M 16 38 l5) 53 (l5).toNatClampNeg (vp_nar .byte ((gi M 16 33)).toInt8.toInt32)) 16 38 (l5 + (1 : Int32))) 54 (l5).toNatClampNeg (gi M 16 32)) hw ?_
  exact k
theorem iX1_call_178 {E : zE} {d : Nat} {Q : zO → zM → Prop} (M : zM) (hw : cw M) (k : Q (.inl none) M) : Z E YX1_call (d + 1) M [] 178 [] Q := by
  refine sX1_call_178 (d := d) M hw ?_
  refine sX1_call_219 (d := d) M hw ?_
  exact k
theorem iX1_carryOut_0 {E : zE} {d : Nat} {Q : zO → zM → Prop} (M : zM) (l1 : Int32) (l2 : Int32) (l3 : Int32) (l4 : Int32) (l5 : Int32) (hw : cw M) (k : if l5 ≤ 0 then (Z E YX1_carryOut (d + 1) M [(0, vr (some (16, 0, 0))), (1, vi l1), (2, vi l2), (3, vi l3), (5, vi l5), (6, vi (0 : Int32))] 34 [vi (0 : Int32)] Q) else (vp_in l4 14500 ∧ (Z E YX1_carryOut (d + 1) M [(0, vr (some (16, 0, 0))), (1, vi l1), (2, vi l2), (3, vi l3), (5, vi l5), (6, vi (gi M 53 (l4).toNatClampNeg))] 34 [vi (gi M 54 (l4).toNatClampNeg)] Q))) : Z E YX1_carryOut (d + 1) M [(0, vr (some (16, 0, 0))), (1, vi l1), (2, vi l2), (3, vi l3), (4, vi l4), (5, vi l5)] 0 [] Q := by
  refine sX1_carryOut_0 (d := d) M l1 l2 l3 l4 l5 hw ?_
  refine zite k (fun h14348 k => ?_) (fun h14348 k => ?_)
  · refine sX1_carryOut_16 (d := d) M l1 l2 l3 l4 l5 (0 : Int32) hw ?_
    refine zpos h14348 ?_
    exact k
  · refine zand k (fun h14349 k => ?_)
    refine sX1_carryOut_16 (d := d) M l1 l2 l3 l4 l5 (gi M 53 (l4).toNatClampNeg) hw ?_
    refine zneg h14348 ?_
    refine ⟨h14349, ?_⟩
    exact k
theorem iX1_carryOut_34 {E : zE} {d : Nat} {Q : zO → zM → Prop} (M : zM) (l1 : Int32) (l2 : Int32) (l3 : Int32) (l5 : Int32) (l6 : Int32) (s0 : Int32) (hw : cw M) (k : if l1 = 9 then (Z E YX1_textOf d M (zargs 0 [vr (some (16, 0, 0)), vi l6, vi s0]) 0 [] (zafter E YX1_carryOut (d + 1) [(0, vr (some (16, 0, 0)))] 113 3 [] Q)) else (if l1 = 10 then (Z E YX1_born d M (zargs 0 [vr (some (16, 0, 0)), vi (0 : Int32), vi (23 : Int32), vi (1 : Int32), vi (-1 : Int32)]) 0 [] (zafter E YX1_carryOut (d + 1) [] 164 3 [vi (7 : Int32), vr (some (16, 0, 0))] Q)) else (if l1 = 11 then (Z E YX1_array d M (zargs 0 [vr (some (16, 0, 0)), vi (24 : Int32)]) 0 [] (zafter E YX1_carryOut (d + 1) [] 179 3 [vi (7 : Int32), vr (some (16, 0, 0))] Q)) else (if l1 = 12 then (if l5 ≤ 0 then (Q (.inl none) (si (si M 16 33 (6 : Int32)) 16 32 (30 : Int32))) else (Z E YX1_textOf d M (zargs 0 [vr (some (16, 0, 0)), vi l6, vi s0]) 0 [] (zafter E YX1_carryOut (d + 1) [] 201 3 [vi (6 : Int32), vr (some (16, 0, 0))] Q))) else (if l1 = 13 then (Z E YX1_hasNumber d M (zargs 0 [vr (some (16, 0, 0)), vi l6, vi s0]) 0 [] (zafter E YX1_carryOut (d + 1) [] 221 3 [vr (some (16, 0, 0))] Q)) else (if l1 = 14 then (Z E YX1_born d M (zargs 0 [vr (some (16, 0, 0)), vi (0 : Int32), vi (l1 + (11 : Int32)), vi (l1 - (9 : Int32)), vi (-1 : Int32)]) 0 [] (zafter E YX1_carryOut (d + 1) [(0, vr (some (16, 0, 0))), (5, vi l5), (6, vi l6), (7, vi s0)] 394 3 [] Q)) else (if l1 = 15 then (Z E YX1_born d M (zargs 0 [vr (some (16, 0, 0)), vi (0 : Int32), vi (l1 + (11 : Int32)), vi (l1 - (9 : Int32)), vi (-1 : Int32)]) 0 [] (zafter E YX1_carryOut (d + 1) [(0, vr (some (16, 0, 0))), (5, vi l5), (6, vi l6), (7, vi s0)] 394 3 [] Q)) else (if l1 = 16 then (Z E YX1_born d M (zargs 0 [vr (some (16, 0, 0)), vi (0 : Int32), vi (l1 + (11 : Int32)), vi (l1 - (9 : Int32)), vi (-1 : Int32)]) 0 [] (zafter E YX1_carryOut (d + 1) [(0, vr (some (16, 0, 0))), (5, vi l5), (6, vi l6), (7, vi s0)] 394 3 [] Q)) else (if l1 = 17 then (Z E YX1_born d M (zargs 0 [vr (some (16, 0, 0)), vi (0 : Int32), vi (l1 + (11 : Int32)), vi (l1 - (9 : Int32)), vi (-1 : Int32)]) 0 [] (zafter E YX1_carryOut (d + 1) [(0, vr (some (16, 0, 0))), (5, vi l5), (6, vi l6), (7, vi s0)] 394 3 [] Q)) else (if l1 = 18 then (Z E YX1_pushed d M (zargs 0 [vr (some (16, 0, 0)), vi l2, vi l3, vi l6, vi s0]) 0 [] (zafter E YX1_carryOut (d + 1) [] 245 3 [] Q)) else (if l1 = 19 then (Z E YX1_popped d M (zargs 0 [vr (some (16, 0, 0)), vi l2, vi l3]) 0 [] (zafter E YX1_carryOut (d + 1) [] 254 3 [] Q)) else (if l1 = 20 then (Z E YX1_born d M (zargs 0 [vr (some (16, 0, 0)), vi (0 : Int32), vi (l1 + (11 : Int32)), vi (l1 - (9 : Int32)), vi (-1 : Int32)]) 0 [] (zafter E YX1_carryOut (d + 1) [(0, vr (some (16, 0, 0))), (5, vi l5), (6, vi l6), (7, vi s0)] 394 3 [] Q)) else (if l1 = 21 then (if l2 = (7 : Int32) then (Z E YX1_textOf d M (zargs 0 [vr (some (16, 0, 0)), vi l6, vi s0]) 0 [] (zafter E YX1_carryOut (d + 1) [] 280 3 [vi l3, vr (some (16, 0, 0)), vr (some (16, 0, 0))] Q)) else (Z E YX1_error d M (zargs 0 [vr (some (16, 0, 0)), vi (0 : Int32)]) 0 [] (zafter E YX1_carryOut (d + 1) [] 268 3 [] Q))) else (if l1 = 22 then (if l2 = (6 : Int32) then (Z E YX1_hasNumber d M (zargs 0 [vr (some (16, 0, 0)), vi l6, vi s0]) 0 [] (zafter E YX1_carryOut (d + 1) [(0, vr (some (16, 0, 0))), (3, vi l3)] 318 3 [] Q)) else (Z E YX1_error d M (zargs 0 [vr (some (16, 0, 0)), vi (0 : Int32)]) 0 [] (zafter E YX1_carryOut (d + 1) [] 309 3 [] Q))) else (Z E YX1_born d M (zargs 0 [vr (some (16, 0, 0)), vi (0 : Int32), vi (l1 + (11 : Int32)), vi (l1 - (9 : Int32)), vi (-1 : Int32)]) 0 [] (zafter E YX1_carryOut (d + 1) [(0, vr (some (16, 0, 0))), (5, vi l5), (6, vi l6), (7, vi s0)] 394 3 [] Q)))))))))))))))) : Z E YX1_carryOut (d + 1) M [(0, vr (some (16, 0, 0))), (1, vi l1), (2, vi l2), (3, vi l3), (5, vi l5), (6, vi l6)] 34 [vi s0] Q := by
  refine sX1_carryOut_34 (d := d) M l1 l2 l3 l5 l6 s0 hw ?_
  refine zite k (fun h14350 k => ?_) (fun h14350 k => ?_)
  · exact k
  · refine zite k (fun h14351 k => ?_) (fun h14351 k => ?_)
    · exact k
    · refine zite k (fun h14352 k => ?_) (fun h14352 k => ?_)
      · exact k
      · refine zite k (fun h14353 k => ?_) (fun h14353 k => ?_)
        · refine zite k (fun h14354 k => ?_) (fun h14354 k => ?_)
          · refine sX1_gives_0 (d := d) M (6 : Int32) (30 : Int32) hw ?_
            show Z E YX1_carryOut (d + 1) (si (si M 16 33 (6 : Int32)) 16 32 (30 : Int32)) [] 212 [] Q
            refine sX1_carryOut_212 (d := d) (si (si M 16 33 (6 : Int32)) 16 32 (30 : Int32)) hw ?_
            refine sX1_carryOut_429 (d := d) (si (si M 16 33 (6 : Int32)) 16 32 (30 : Int32)) hw ?_
            exact k
          · exact k
        · exact k
theorem iX1_carryOut_116 {E : zE} {d : Nat} {Q : zO → zM → Prop} (M : zM) (s0 : Int32) (hw : cw M) (k : if (100 : Int32) ≤ (gi M 16 53) then (Q (.inl none) (si (si M 16 33 (0 : Int32)) 16 32 (0 : Int32))) else (vp_in (gi M 16 53) 100 ∧ (Q (.inl none) (si (si (si (si M 16 53 ((gi M 16 53) + (1 : Int32))) 67 ((gi M 16 53)).toNatClampNeg (vp_nar .short (s0).toInt16.toInt32)) 16 33 (0 : Int32)) 16 32 (0 : Int32))))) : Z E YX1_carryOut (d + 1) M [(0, vr (some (16, 0, 0)))] 116 [vi s0] Q := by
  refine sX1_carryOut_116 (d := d) M s0 hw ?_
  refine zite k (fun h14373 k => ?_) (fun h14373 k => ?_)
  · refine sX1_gives_0 (d := d) M (0 : Int32) (0 : Int32) hw ?_
    show Z E YX1_carryOut (d + 1) (si (si M 16 33 (0 : Int32)) 16 32 (0 : Int32)) [] 152 [] Q
    refine sX1_carryOut_152 (d := d) (si (si M 16 33 (0 : Int32)) 16 32 (0 : Int32)) hw ?_
    refine sX1_carryOut_429 (d := d) (si (si M 16 33 (0 : Int32)) 16 32 (0 : Int32)) hw ?_
    exact k
  · refine zand k (fun h14374 k => ?_)
    refine sX1_gives_0 (d := d) (si (si M 16 53 ((gi M 16 53) + (1 : Int32))) 67 ((gi M 16 53)).toNatClampNeg (vp_nar .short (s0).toInt16.toInt32)) (0 : Int32) (0 : Int32) hw ?_
    show Z E YX1_carryOut (d + 1) (si (si (si (si M 16 53 ((gi M 16 53) + (1 : Int32))) 67 ((gi M 16 53)).toNatClampNeg (vp_nar .short (s0).toInt16.toInt32)) 16 33 (0 : Int32)) 16 32 (0 : Int32)) [] 152 [] Q
    refine sX1_carryOut_152 (d := d) (si (si (si (si M 16 53 ((gi M 16 53) + (1 : Int32))) 67 ((gi M 16 53)).toNatClampNeg (vp_nar .short (s0).toInt16.toInt32)) 16 33 (0 : Int32)) 16 32 (0 : Int32)) hw ?_
    refine sX1_carryOut_429 (d := d) (si (si (si (si M 16 53 ((gi M 16 53) + (1 : Int32))) 67 ((gi M 16 53)).toNatClampNeg (vp_nar .short (s0).toInt16.toInt32)) 16 33 (0 : Int32)) 16 32 (0 : Int32)) hw ?_
    exact k
theorem iX1_carryOut_167 {E : zE} {d : Nat} {Q : zO → zM → Prop} (M : zM) (s0 : Int32) (s1 : Int32) (hw : cw M) (k : Q (.inl none) (si (si M 16 33 s1) 16 32 s0)) : Z E YX1_carryOut (d + 1) M [] 167 [vi s0, vi s1, vr (some (16, 0, 0))] Q := by
  refine sX1_carryOut_167 (d := d) M s0 s1 hw ?_
  refine sX1_gives_0 (d := d) M s1 s0 hw ?_
  show Z E YX1_carryOut (d + 1) (si (si M 16 33 s1) 16 32 s0) [] 170 [] Q
  refine sX1_carryOut_170 (d := d) (si (si M 16 33 s1) 16 32 s0) hw ?_
  refine sX1_carryOut_429 (d := d) (si (si M 16 33 s1) 16 32 s0) hw ?_
  exact k
theorem iX1_carryOut_182 {E : zE} {d : Nat} {Q : zO → zM → Prop} (M : zM) (s0 : Int32) (s1 : Int32) (hw : cw M) (k : Q (.inl none) (si (si M 16 33 s1) 16 32 s0)) : Z E YX1_carryOut (d + 1) M [] 182 [vi s0, vi s1, vr (some (16, 0, 0))] Q := by
  refine sX1_carryOut_182 (d := d) M s0 s1 hw ?_
  refine sX1_gives_0 (d := d) M s1 s0 hw ?_
  show Z E YX1_carryOut (d + 1) (si (si M 16 33 s1) 16 32 s0) [] 185 [] Q
  refine sX1_carryOut_185 (d := d) (si (si M 16 33 s1) 16 32 s0) hw ?_
  refine sX1_carryOut_429 (d := d) (si (si M 16 33 s1) 16 32 s0) hw ?_
  exact k
theorem iX1_carryOut_204 {E : zE} {d : Nat} {Q : zO → zM → Prop} (M : zM) (s0 : Int32) (s1 : Int32) (hw : cw M) (k : Q (.inl none) (si (si M 16 33 s1) 16 32 s0)) : Z E YX1_carryOut (d + 1) M [] 204 [vi s0, vi s1, vr (some (16, 0, 0))] Q := by
  refine sX1_carryOut_204 (d := d) M s0 s1 hw ?_
  refine sX1_gives_0 (d := d) M s1 s0 hw ?_
  show Z E YX1_carryOut (d + 1) (si (si M 16 33 s1) 16 32 s0) [] 212 [] Q
  refine sX1_carryOut_212 (d := d) (si (si M 16 33 s1) 16 32 s0) hw ?_
  refine sX1_carryOut_429 (d := d) (si (si M 16 33 s1) 16 32 s0) hw ?_
  exact k
theorem iX1_carryOut_224 {E : zE} {d : Nat} {Q : zO → zM → Prop} (M : zM) (s0 : Int32) (hw : cw M) (k : if s0 = 0 then (Q (.inl none) (si (si M 16 33 (2 : Int32)) 16 32 (0 : Int32))) else (Q (.inl none) (si (si M 16 33 (3 : Int32)) 16 32 (0 : Int32)))) : Z E YX1_carryOut (d + 2) M [] 224 [vi s0, vr (some (16, 0, 0))] Q := by
  refine sX1_carryOut_224 (d := (d + 1)) M s0 hw ?_
  refine zite k (fun h14376 k => ?_) (fun h14376 k => ?_)
  · refine jX1_givesTruth (d := d) M (1 : Int32) hw ?_
    refine zneg (show ¬ ((1 : Int32) = 0) from by decide) ?_
    show Z E YX1_carryOut ((d + 1) + 1) (si (si M 16 33 (2 : Int32)) 16 32 (0 : Int32)) [] 235 [] Q
    refine sX1_carryOut_235 (d := (d + 1)) (si (si M 16 33 (2 : Int32)) 16 32 (0 : Int32)) hw ?_
    refine sX1_carryOut_429 (d := (d + 1)) (si (si M 16 33 (2 : Int32)) 16 32 (0 : Int32)) hw ?_
    exact k
  · refine jX1_givesTruth (d := d) M (0 : Int32) hw ?_
    refine zpos (show (0 : Int32) = 0 from by decide) ?_
    show Z E YX1_carryOut ((d + 1) + 1) (si (si M 16 33 (3 : Int32)) 16 32 (0 : Int32)) [] 235 [] Q
    refine sX1_carryOut_235 (d := (d + 1)) (si (si M 16 33 (3 : Int32)) 16 32 (0 : Int32)) hw ?_
    refine sX1_carryOut_429 (d := (d + 1)) (si (si M 16 33 (3 : Int32)) 16 32 (0 : Int32)) hw ?_
    exact k
theorem iX1_carryOut_397 {E : zE} {d : Nat} {Q : zO → zM → Prop} (M : zM) (l5 : Int32) (l6 : Int32) (l7 : Int32) (s0 : Int32) (hw : cw M) (k : if l5 ≤ 0 then (Q (.inl none) (si (si M 16 33 (7 : Int32)) 16 32 s0)) else (Z E YX1_textOf d M (zargs 0 [vr (some (16, 0, 0)), vi l6, vi l7]) 0 [] (zafter E YX1_carryOut (d + 1) [(0, vr (some (16, 0, 0))), (8, vi s0)] 415 3 [vi (6 : Int32), vi (3 : Int32), vi s0, vr (some (16, 0, 0))] Q))) : Z E YX1_carryOut (d + 1) M [(0, vr (some (16, 0, 0))), (5, vi l5), (6, vi l6), (7, vi l7)] 397 [vi s0] Q := by
  refine sX1_carryOut_397 (d := d) M l5 l6 l7 s0 hw ?_
  refine zite k (fun h14377 k => ?_) (fun h14377 k => ?_)
  · refine sX1_carryOut_421 (d := d) M s0 hw ?_
    refine sX1_gives_0 (d := d) M (7 : Int32) s0 hw ?_
    show Z E YX1_carryOut (d + 1) (si (si M 16 33 (7 : Int32)) 16 32 s0) [] 429 [] Q
    refine sX1_carryOut_429 (d := d) (si (si M 16 33 (7 : Int32)) 16 32 s0) hw ?_
    exact k
  · exact k
theorem iX1_carryOut_248 {E : zE} {d : Nat} {Q : zO → zM → Prop} (M : zM) (hw : cw M) (k : Q (.inl none) M) : Z E YX1_carryOut (d + 1) M [] 248 [] Q := by
  refine sX1_carryOut_248 (d := d) M hw ?_
  refine sX1_carryOut_429 (d := d) M hw ?_
  exact k
theorem iX1_carryOut_257 {E : zE} {d : Nat} {Q : zO → zM → Prop} (M : zM) (hw : cw M) (k : Q (.inl none) M) : Z E YX1_carryOut (d + 1) M [] 257 [] Q := by
  refine sX1_carryOut_257 (d := d) M hw ?_
  refine sX1_carryOut_429 (d := d) M hw ?_
  exact k
theorem iX1_carryOut_321 {E : zE} {d : Nat} {Q : zO → zM → Prop} (M : zM) (l3 : Int32) (s0 : Int32) (hw : cw M) (k : if s0 = 0 then (∃ b14380 m14380 : Nat, (gr M 17 1) = some (b14380, 100, m14380) ∧ (vp_in (l3 + (1 : Int32)) m14380 ∧ (vp_in l3 m14380 ∧ (if ((gi (si M 16 3 (0 : Int32)) b14380 ((l3 + (1 : Int32))).toNatClampNeg) - (gi (si M 16 3 (0 : Int32)) b14380 (l3).toNatClampNeg)) ≤ (0 : Int32) then (Z E YX1_string d (si M 16 3 (0 : Int32)) (zargs 0 [vr (some (16, 0, 0))]) 0 [] (zafter E YX1_carryOut (d + 1) [] 374 3 [vi (6 : Int32), vr (some (16, 0, 0))] Q)) else (∃ b14384 m14384 : Nat, (gr M 17 0) = some (b14384, 101, m14384) ∧ (vp_in ((gi (si M 16 3 (0 : Int32)) b14380 (l3).toNatClampNeg) + (0 : Int32)) m14384 ∧ (vp_in (0 : Int32) 256 ∧ (Z E YX1_string d (si (si (si M 16 3 (0 : Int32)) 16 3 ((0 : Int32) + (1 : Int32))) 20 ((0 : Int32)).toNatClampNeg (vp_nar .byte ((gi (si M 16 3 (0 : Int32)) b14384 (((gi (si M 16 3 (0 : Int32)) b14380 (l3).toNatClampNeg) + (0 : Int32))).toNatClampNeg)).toInt8.toInt32)) (zargs 0 [vr (some (16, 0, 0))]) 0 [] (zafter E YX1_carryOut (d + 1) [] 374 3 [vi (6 : Int32), vr (some (16, 0, 0))] Q))))))))) else (if (gi M 16 32) < 0 then (Z E YX1_string d (si M 16 3 (0 : Int32)) (zargs 0 [vr (some (16, 0, 0))]) 0 [] (zafter E YX1_carryOut (d + 1) [] 374 3 [vi (6 : Int32), vr (some (16, 0, 0))] Q)) else (∃ b14388 m14388 : Nat, (gr M 17 1) = some (b14388, 100, m14388) ∧ (vp_in (l3 + (1 : Int32)) m14388 ∧ (vp_in l3 m14388 ∧ (if ((gi (si M 16 3 (0 : Int32)) b14388 ((l3 + (1 : Int32))).toNatClampNeg) - (gi (si M 16 3 (0 : Int32)) b14388 (l3).toNatClampNeg)) ≤ (gi M 16 32) then (Z E YX1_string d (si M 16 3 (0 : Int32)) (zargs 0 [vr (some (16, 0, 0))]) 0 [] (zafter E YX1_carryOut (d + 1) [] 374 3 [vi (6 : Int32), vr (some (16, 0, 0))] Q)) else (∃ b14392 m14392 : Nat, (gr M 17 0) = some (b14392, 101, m14392) ∧ (vp_in ((gi (si M 16 3 (0 : Int32)) b14388 (l3).toNatClampNeg) + (gi M 16 32)) m14392 ∧ (vp_in (0 : Int32) 256 ∧ (Z E YX1_string d (si (si (si M 16 3 (0 : Int32)) 16 3 ((0 : Int32) + (1 : Int32))) 20 ((0 : Int32)).toNatClampNeg (vp_nar .byte ((gi (si M 16 3 (0 : Int32)) b14392 (((gi (si M 16 3 (0 : Int32)) b14388 (l3).toNatClampNeg) + (gi M 16 32))).toNatClampNeg)).toInt8.toInt32)) (zargs 0 [vr (some (16, 0, 0))]) 0 [] (zafter E YX1_carryOut (d + 1) [] 374 3 [vi (6 : Int32), vr (some (16, 0, 0))] Q))))))))))) : Z E YX1_carryOut (d + 1) M [(0, vr (some (16, 0, 0))), (3, vi l3)] 321 [vi s0] Q := by
  refine sX1_carryOut_321 (d := d) M l3 s0 hw ?_
  refine zite k (fun h14379 k => ?_) (fun h14379 k => ?_)
  · refine sX1_clearRow_0 (d := d) M hw ?_
    show Z E YX1_carryOut (d + 1) (si M 16 3 (0 : Int32)) [(0, vr (some (16, 0, 0))), (3, vi l3), (8, vi (0 : Int32))] 338 [] Q
    refine sX1_carryOut_338 (d := d) (si M 16 3 (0 : Int32)) l3 (0 : Int32) hw ?_
    refine zneg (show ¬ ((0 : Int32) < 0) from by decide) ?_
    refine jX2_length (d := d) (si M 16 3 (0 : Int32)) 17 l3 ?_
    obtain ⟨b14380, m14380, h14380, k⟩ := k
    refine ⟨b14380, m14380, h14380, ?_⟩
    refine zand k (fun h14381 k => ?_)
    refine zand k (fun h14382 k => ?_)
    show Z E YX1_carryOut (d + 1) (si M 16 3 (0 : Int32)) [(0, vr (some (16, 0, 0))), (3, vi l3), (8, vi (0 : Int32))] 353 [vi ((gi (si M 16 3 (0 : Int32)) b14380 ((l3 + (1 : Int32))).toNatClampNeg) - (gi (si M 16 3 (0 : Int32)) b14380 (l3).toNatClampNeg)), vi (0 : Int32)] Q
    refine sX1_carryOut_353 (d := d) (si M 16 3 (0 : Int32)) l3 (0 : Int32) ((gi (si M 16 3 (0 : Int32)) b14380 ((l3 + (1 : Int32))).toNatClampNeg) - (gi (si M 16 3 (0 : Int32)) b14380 (l3).toNatClampNeg)) (0 : Int32) hw ?_
    refine zite k (fun h14383 k => ?_) (fun h14383 k => ?_)
    · refine sX1_carryOut_370 (d := d) (si M 16 3 (0 : Int32)) hw ?_
      exact k
    · refine sX2_sign_0 (d := d) (si M 16 3 (0 : Int32)) 17 l3 (0 : Int32) ?_
      refine ⟨b14380, m14380, h14380, ?_⟩
      refine ⟨h14382, ?_⟩
      obtain ⟨b14384, m14384, h14384, k⟩ := k
      refine ⟨b14384, m14384, h14384, ?_⟩
      refine zand k (fun h14385 k => ?_)
      show Z E YX1_carryOut (d + 1) (si M 16 3 (0 : Int32)) [(0, vr (some (16, 0, 0)))] 367 [vi (gi (si M 16 3 (0 : Int32)) b14384 (((gi (si M 16 3 (0 : Int32)) b14380 (l3).toNatClampNeg) + (0 : Int32))).toNatClampNeg), vr (some (16, 0, 0))] Q
      refine sX1_carryOut_367 (d := d) (si M 16 3 (0 : Int32)) (gi (si M 16 3 (0 : Int32)) b14384 (((gi (si M 16 3 (0 : Int32)) b14380 (l3).toNatClampNeg) + (0 : Int32))).toNatClampNeg) hw ?_
      refine sX1_write_0 (d := d) (si M 16 3 (0 : Int32)) (gi (si M 16 3 (0 : Int32)) b14384 (((gi (si M 16 3 (0 : Int32)) b14380 (l3).toNatClampNeg) + (0 : Int32))).toNatClampNeg) hw ?_
      refine zneg (show ¬ ((256 : Int32) ≤ (0 : Int32)) from by decide) ?_
      refine zand k (fun h14386 k => ?_)
      show Z E YX1_carryOut (d + 1) (si (si (si M 16 3 (0 : Int32)) 16 3 ((0 : Int32) + (1 : Int32))) 20 ((0 : Int32)).toNatClampNeg (vp_nar .byte ((gi (si M 16 3 (0 : Int32)) b14384 (((gi (si M 16 3 (0 : Int32)) b14380 (l3).toNatClampNeg) + (0 : Int32))).toNatClampNeg)).toInt8.toInt32)) [(0, vr (some (16, 0, 0)))] 370 [] Q
      refine sX1_carryOut_370 (d := d) (si (si (si M 16 3 (0 : Int32)) 16 3 ((0 : Int32) + (1 : Int32))) 20 ((0 : Int32)).toNatClampNeg (vp_nar .byte ((gi (si M 16 3 (0 : Int32)) b14384 (((gi (si M 16 3 (0 : Int32)) b14380 (l3).toNatClampNeg) + (0 : Int32))).toNatClampNeg)).toInt8.toInt32)) hw ?_
      exact k
  · refine sX1_clearRow_0 (d := d) M hw ?_
    show Z E YX1_carryOut (d + 1) (si M 16 3 (0 : Int32)) [(0, vr (some (16, 0, 0))), (3, vi l3), (8, vi (gi M 16 32))] 338 [] Q
    refine sX1_carryOut_338 (d := d) (si M 16 3 (0 : Int32)) l3 (gi M 16 32) hw ?_
    refine zite k (fun h14387 k => ?_) (fun h14387 k => ?_)
    · refine sX1_carryOut_370 (d := d) (si M 16 3 (0 : Int32)) hw ?_
      exact k
    · refine jX2_length (d := d) (si M 16 3 (0 : Int32)) 17 l3 ?_
      obtain ⟨b14388, m14388, h14388, k⟩ := k
      refine ⟨b14388, m14388, h14388, ?_⟩
      refine zand k (fun h14389 k => ?_)
      refine zand k (fun h14390 k => ?_)
      show Z E YX1_carryOut (d + 1) (si M 16 3 (0 : Int32)) [(0, vr (some (16, 0, 0))), (3, vi l3), (8, vi (gi M 16 32))] 353 [vi ((gi (si M 16 3 (0 : Int32)) b14388 ((l3 + (1 : Int32))).toNatClampNeg) - (gi (si M 16 3 (0 : Int32)) b14388 (l3).toNatClampNeg)), vi (gi M 16 32)] Q
      refine sX1_carryOut_353 (d := d) (si M 16 3 (0 : Int32)) l3 (gi M 16 32) ((gi (si M 16 3 (0 : Int32)) b14388 ((l3 + (1 : Int32))).toNatClampNeg) - (gi (si M 16 3 (0 : Int32)) b14388 (l3).toNatClampNeg)) (gi M 16 32) hw ?_
      refine zite k (fun h14391 k => ?_) (fun h14391 k => ?_)
      · refine sX1_carryOut_370 (d := d) (si M 16 3 (0 : Int32)) hw ?_
        exact k
      · refine sX2_sign_0 (d := d) (si M 16 3 (0 : Int32)) 17 l3 (gi M 16 32) ?_
        refine ⟨b14388, m14388, h14388, ?_⟩
        refine ⟨h14390, ?_⟩
        obtain ⟨b14392, m14392, h14392, k⟩ := k
        refine ⟨b14392, m14392, h14392, ?_⟩
        refine zand k (fun h14393 k => ?_)
        show Z E YX1_carryOut (d + 1) (si M 16 3 (0 : Int32)) [(0, vr (some (16, 0, 0)))] 367 [vi (gi (si M 16 3 (0 : Int32)) b14392 (((gi (si M 16 3 (0 : Int32)) b14388 (l3).toNatClampNeg) + (gi M 16 32))).toNatClampNeg), vr (some (16, 0, 0))] Q
        refine sX1_carryOut_367 (d := d) (si M 16 3 (0 : Int32)) (gi (si M 16 3 (0 : Int32)) b14392 (((gi (si M 16 3 (0 : Int32)) b14388 (l3).toNatClampNeg) + (gi M 16 32))).toNatClampNeg) hw ?_
        refine sX1_write_0 (d := d) (si M 16 3 (0 : Int32)) (gi (si M 16 3 (0 : Int32)) b14392 (((gi (si M 16 3 (0 : Int32)) b14388 (l3).toNatClampNeg) + (gi M 16 32))).toNatClampNeg) hw ?_
        refine zneg (show ¬ ((256 : Int32) ≤ (0 : Int32)) from by decide) ?_
        refine zand k (fun h14394 k => ?_)
        show Z E YX1_carryOut (d + 1) (si (si (si M 16 3 (0 : Int32)) 16 3 ((0 : Int32) + (1 : Int32))) 20 ((0 : Int32)).toNatClampNeg (vp_nar .byte ((gi (si M 16 3 (0 : Int32)) b14392 (((gi (si M 16 3 (0 : Int32)) b14388 (l3).toNatClampNeg) + (gi M 16 32))).toNatClampNeg)).toInt8.toInt32)) [(0, vr (some (16, 0, 0)))] 370 [] Q
        refine sX1_carryOut_370 (d := d) (si (si (si M 16 3 (0 : Int32)) 16 3 ((0 : Int32) + (1 : Int32))) 20 ((0 : Int32)).toNatClampNeg (vp_nar .byte ((gi (si M 16 3 (0 : Int32)) b14392 (((gi (si M 16 3 (0 : Int32)) b14388 (l3).toNatClampNeg) + (gi M 16 32))).toNatClampNeg)).toInt8.toInt32)) hw ?_
        exact k
theorem iX1_carryOut_286 {E : zE} {d : Nat} {Q : zO → zM → Prop} (M : zM) (s0 : Int32) (hw : cw M) (k : if s0 = (-1 : Int32) then (Q (.inl none) (si (si M 16 33 (3 : Int32)) 16 32 (0 : Int32))) else (Q (.inl none) (si (si M 16 33 (2 : Int32)) 16 32 (0 : Int32)))) : Z E YX1_carryOut (d + 2) M [] 286 [vi s0, vr (some (16, 0, 0))] Q := by
  refine sX1_carryOut_286 (d := (d + 1)) M s0 hw ?_
  refine zite k (fun h14397 k => ?_) (fun h14397 k => ?_)
  · refine jX1_givesTruth (d := d) M (0 : Int32) hw ?_
    refine zpos (show (0 : Int32) = 0 from by decide) ?_
    show Z E YX1_carryOut ((d + 1) + 1) (si (si M 16 33 (3 : Int32)) 16 32 (0 : Int32)) [] 298 [] Q
    refine sX1_carryOut_298 (d := (d + 1)) (si (si M 16 33 (3 : Int32)) 16 32 (0 : Int32)) hw ?_
    refine sX1_carryOut_429 (d := (d + 1)) (si (si M 16 33 (3 : Int32)) 16 32 (0 : Int32)) hw ?_
    exact k
  · refine jX1_givesTruth (d := d) M (1 : Int32) hw ?_
    refine zneg (show ¬ ((1 : Int32) = 0) from by decide) ?_
    show Z E YX1_carryOut ((d + 1) + 1) (si (si M 16 33 (2 : Int32)) 16 32 (0 : Int32)) [] 298 [] Q
    refine sX1_carryOut_298 (d := (d + 1)) (si (si M 16 33 (2 : Int32)) 16 32 (0 : Int32)) hw ?_
    refine sX1_carryOut_429 (d := (d + 1)) (si (si M 16 33 (2 : Int32)) 16 32 (0 : Int32)) hw ?_
    exact k
theorem iX1_carryOut_377 {E : zE} {d : Nat} {Q : zO → zM → Prop} (M : zM) (s0 : Int32) (s1 : Int32) (hw : cw M) (k : Q (.inl none) (si (si M 16 33 s1) 16 32 s0)) : Z E YX1_carryOut (d + 1) M [] 377 [vi s0, vi s1, vr (some (16, 0, 0))] Q := by
  refine sX1_carryOut_377 (d := d) M s0 s1 hw ?_
  refine sX1_gives_0 (d := d) M s1 s0 hw ?_
  show Z E YX1_carryOut (d + 1) (si (si M 16 33 s1) 16 32 s0) [] 380 [] Q
  refine sX1_carryOut_380 (d := d) (si (si M 16 33 s1) 16 32 s0) hw ?_
  refine sX1_carryOut_429 (d := d) (si (si M 16 33 s1) 16 32 s0) hw ?_
  exact k
theorem iX1_carryOut_421 {E : zE} {d : Nat} {Q : zO → zM → Prop} (M : zM) (l8 : Int32) (hw : cw M) (k : Q (.inl none) (si (si M 16 33 (7 : Int32)) 16 32 l8)) : Z E YX1_carryOut (d + 1) M [(0, vr (some (16, 0, 0))), (8, vi l8)] 421 [] Q := by
  refine sX1_carryOut_421 (d := d) M l8 hw ?_
  refine sX1_gives_0 (d := d) M (7 : Int32) l8 hw ?_
  show Z E YX1_carryOut (d + 1) (si (si M 16 33 (7 : Int32)) 16 32 l8) [] 429 [] Q
  refine sX1_carryOut_429 (d := d) (si (si M 16 33 (7 : Int32)) 16 32 l8) hw ?_
  exact k
theorem iX1_enter_28 {E : zE} {d : Nat} {Q : zO → zM → Prop} (M : zM) (l1 : Int32) (l2 : Int32) (l3 : Int32) (l4 : Int32) (l5 : Int32) (l6 : Int32) (l7 : Int32) (u0 : Option zP) (hw : cw M) (k : ∃ b14402 : Nat, u0 = some (b14402, 10, 0) ∧ (vp_in l1 300 ∧ (Z E YX1_born d M (zargs 0 [vr (some (16, 0, 0)), vi (3 : Int32), vi ((29 : Int32) + ((6 : Int32) * ((gi M b14402 0) - (1 : Int32)))), vi (-1 : Int32), vi (gi M 42 (l1).toNatClampNeg)]) 0 [] (zafter E YX1_enter (d + 1) [(0, vr (some (16, 0, 0))), (1, vi l1), (2, vi l2), (3, vi l3), (4, vi l4), (5, vi l5), (6, vi l6), (7, vi l7), (8, vr (some (b14402, 10, 0)))] 51 3 [] Q)))) : Z E YX1_enter (d + 1) M [(0, vr (some (16, 0, 0))), (1, vi l1), (2, vi l2), (3, vi l3), (4, vi l4), (5, vi l5), (6, vi l6), (7, vi l7)] 28 [vr u0] Q := by
  refine sX1_enter_28 (d := d) M l1 l2 l3 l4 l5 l6 l7 u0 hw ?_
  obtain ⟨b14402, h14402, k⟩ := k
  refine ⟨b14402, h14402, ?_⟩
  refine sX1_scopePair_0 (d := d) M (gi M b14402 0) hw ?_
  show Z E YX1_enter (d + 1) M [(0, vr (some (16, 0, 0))), (1, vi l1), (2, vi l2), (3, vi l3), (4, vi l4), (5, vi l5), (6, vi l6), (7, vi l7), (8, vr (some (b14402, 10, 0)))] 44 [vi ((29 : Int32) + ((6 : Int32) * ((gi M b14402 0) - (1 : Int32)))), vi (3 : Int32), vr (some (16, 0, 0))] Q
  refine sX1_enter_44 (d := d) M l1 l2 l3 l4 l5 l6 l7 b14402 ((29 : Int32) + ((6 : Int32) * ((gi M b14402 0) - (1 : Int32)))) (3 : Int32) hw ?_
  exact k
theorem iX1_enter_59 {E : zE} {d : Nat} {Q : zO → zM → Prop} (M : zM) (l1 : Int32) (l2 : Int32) (l3 : Int32) (l4 : Int32) (l5 : Int32) (l6 : Int32) (l7 : Int32) (a8 : Nat) (l9 : Int32) (l10 : Int32) (hw : cw M) (k : if (gi M a8 5) ≤ l10 then (Z E YX1_comes d (si M 16 38 l6) (zargs 0 [vr (some (16, 0, 0)), vi (gi (si M 16 38 l6) a8 0), vi l9, vi l2, vi l3, vi l7]) 0 [] (zafter E YX1_enter (d + 1) [] 211 3 [] Q)) else (if (gi M a8 6) ≤ l10 then (∃ b14406 m14406 : Nat, (gr M a8 4) = some (b14406, 100, m14406) ∧ (vp_in l10 m14406 ∧ (if (gi M b14406 (l10).toNatClampNeg) = (gi M a8 8) then (Z E YX1_setOwn d M (zargs 0 [vr (some (16, 0, 0)), vi l9, vi (gi M a8 8), vi (7 : Int32), vi l1]) 0 [] (zafter E YX1_enter (d + 1) [(0, vr (some (16, 0, 0))), (1, vi l1), (2, vi l2), (3, vi l3), (4, vi l4), (5, vi l5), (6, vi l6), (7, vi l7), (8, vr (some (a8, 10, 0))), (9, vi l9), (10, vi l10)] 165 3 [] Q)) else (Z E YX1_setOwn d M (zargs 0 [vr (some (16, 0, 0)), vi l9, vi (gi M b14406 (l10).toNatClampNeg), vi (0 : Int32), vi (0 : Int32)]) 0 [] (zafter E YX1_enter (d + 1) [(0, vr (some (16, 0, 0))), (1, vi l1), (2, vi l2), (3, vi l3), (4, vi l4), (5, vi l5), (6, vi l6), (7, vi l7), (8, vr (some (a8, 10, 0))), (9, vi l9), (10, vi l10)] 184 3 [] Q))))) else (∃ b14409 m14409 : Nat, (gr M a8 4) = some (b14409, 100, m14409) ∧ (vp_in l10 m14409 ∧ (if l5 ≤ l10 then (Z E YX1_setOwn d M (zargs 0 [vr (some (16, 0, 0)), vi l9, vi (gi M b14409 (l10).toNatClampNeg), vi (0 : Int32), vi (0 : Int32)]) 0 [] (zafter E YX1_enter (d + 1) [(0, vr (some (16, 0, 0))), (1, vi l1), (2, vi l2), (3, vi l3), (4, vi l4), (5, vi l5), (6, vi l6), (7, vi l7), (8, vr (some (a8, 10, 0))), (9, vi l9), (10, vi l10)] 132 3 [] Q)) else (vp_in (l4 + l10) 14500 ∧ (Z E YX1_setOwn d M (zargs 0 [vr (some (16, 0, 0)), vi l9, vi (gi M b14409 (l10).toNatClampNeg), vi (gi M 53 ((l4 + l10)).toNatClampNeg), vi (gi M 54 ((l4 + l10)).toNatClampNeg)]) 0 [] (zafter E YX1_enter (d + 1) [(0, vr (some (16, 0, 0))), (1, vi l1), (2, vi l2), (3, vi l3), (4, vi l4), (5, vi l5), (6, vi l6), (7, vi l7), (8, vr (some (a8, 10, 0))), (9, vi l9), (10, vi l10)] 132 3 [] Q)))))))) : Z E YX1_enter (d + 1) M [(0, vr (some (16, 0, 0))), (1, vi l1), (2, vi l2), (3, vi l3), (4, vi l4), (5, vi l5), (6, vi l6), (7, vi l7), (8, vr (some (a8, 10, 0))), (9, vi l9), (10, vi l10)] 59 [] Q := by
  refine sX1_enter_59 (d := d) M l1 l2 l3 l4 l5 l6 l7 a8 l9 l10 hw ?_
  refine zite k (fun h14404 k => ?_) (fun h14404 k => ?_)
  · exact k
  · refine zite k (fun h14405 k => ?_) (fun h14405 k => ?_)
    · obtain ⟨b14406, m14406, h14406, k⟩ := k
      refine ⟨b14406, m14406, h14406, ?_⟩
      refine zand k (fun h14407 k => ?_)
      refine zite k (fun h14408 k => ?_) (fun h14408 k => ?_)
      · exact k
      · refine ⟨b14406, m14406, h14406, ?_⟩
        refine ⟨h14407, ?_⟩
        exact k
    · obtain ⟨b14409, m14409, h14409, k⟩ := k
      refine ⟨b14409, m14409, h14409, ?_⟩
      refine zand k (fun h14410 k => ?_)
      refine zite k (fun h14411 k => ?_) (fun h14411 k => ?_)
      · refine sX1_enter_111 (d := d) M l1 l2 l3 l4 l5 l6 l7 _ l9 l10 (0 : Int32) (gi M b14409 (l10).toNatClampNeg) l9 hw ?_
        refine zpos h14411 ?_
        exact k
      · refine zand k (fun h14412 k => ?_)
        refine sX1_enter_111 (d := d) M l1 l2 l3 l4 l5 l6 l7 _ l9 l10 (gi M 53 ((l4 + l10)).toNatClampNeg) (gi M b14409 (l10).toNatClampNeg) l9 hw ?_
        refine zneg h14411 ?_
        refine ⟨h14412, ?_⟩
        exact k
theorem iX1_enter_168 {E : zE} {d : Nat} {Q : zO → zM → Prop} (M : zM) (l1 : Int32) (l2 : Int32) (l3 : Int32) (l4 : Int32) (l5 : Int32) (l6 : Int32) (l7 : Int32) (a8 : Nat) (l9 : Int32) (l10 : Int32) (hw : cw M) (k : Z E YX1_enter (d + 1) M [(0, vr (some (16, 0, 0))), (1, vi l1), (2, vi l2), (3, vi l3), (4, vi l4), (5, vi l5), (6, vi l6), (7, vi l7), (8, vr (some (a8, 10, 0))), (9, vi l9), (10, vi (l10 + (1 : Int32)))] 59 [] Q) : Z E YX1_enter (d + 1) M [(0, vr (some (16, 0, 0))), (1, vi l1), (2, vi l2), (3, vi l3), (4, vi l4), (5, vi l5), (6, vi l6), (7, vi l7), (8, vr (some (a8, 10, 0))), (9, vi l9), (10, vi l10)] 168 [] Q := by
  refine sX1_enter_168 (d := d) M l1 l2 l3 l4 l5 l6 l7 a8 l9 l10 hw ?_
  refine sX1_enter_187 (d := d) M l1 l2 l3 l4 l5 l6 l7 _ l9 l10 hw ?_
  exact k
theorem iX1_enter_135 {E : zE} {d : Nat} {Q : zO → zM → Prop} (M : zM) (l1 : Int32) (l2 : Int32) (l3 : Int32) (l4 : Int32) (l5 : Int32) (l6 : Int32) (l7 : Int32) (a8 : Nat) (l9 : Int32) (l10 : Int32) (hw : cw M) (k : Z E YX1_enter (d + 1) M [(0, vr (some (16, 0, 0))), (1, vi l1), (2, vi l2), (3, vi l3), (4, vi l4), (5, vi l5), (6, vi l6), (7, vi l7), (8, vr (some (a8, 10, 0))), (9, vi l9), (10, vi (l10 + (1 : Int32)))] 59 [] Q) : Z E YX1_enter (d + 1) M [(0, vr (some (16, 0, 0))), (1, vi l1), (2, vi l2), (3, vi l3), (4, vi l4), (5, vi l5), (6, vi l6), (7, vi l7), (8, vr (some (a8, 10, 0))), (9, vi l9), (10, vi l10)] 135 [] Q := by
  refine sX1_enter_135 (d := d) M l1 l2 l3 l4 l5 l6 l7 a8 l9 l10 hw ?_
  refine sX1_enter_187 (d := d) M l1 l2 l3 l4 l5 l6 l7 _ l9 l10 hw ?_
  exact k
theorem iX1_equal_90 {E : zE} {d : Nat} {Q : zO → zM → Prop} (M : zM) (l1 : Int32) (l2 : Int32) (l3 : Int32) (l4 : Int32) (l7 : Int32) (s0 : Int32) (hw : cw M) (k : if l7 = s0 then (if l1 = l3 then (if l1 = (4 : Int32) then ((narrow .boolean (.int (0 : Int32)) = .int (0 : Int32)) ∧ (Q (.inl (some (vi (0 : Int32)))) M)) else (if l1 < (5 : Int32) then ((narrow .boolean (.int (1 : Int32)) = .int (1 : Int32)) ∧ (Q (.inl (some (vi (1 : Int32)))) M)) else (if l2 = l4 then ((narrow .boolean (.int (1 : Int32)) = .int (1 : Int32)) ∧ (Q (.inl (some (vi (1 : Int32)))) M)) else ((narrow .boolean (.int (0 : Int32)) = .int (0 : Int32)) ∧ (Q (.inl (some (vi (0 : Int32)))) M))))) else ((narrow .boolean (.int (0 : Int32)) = .int (0 : Int32)) ∧ (Q (.inl (some (vi (0 : Int32)))) M))) else (if l1 = (7 : Int32) then (Q (.inl (some (vi (0 : Int32)))) M) else (if l3 = (7 : Int32) then (Q (.inl (some (vi (0 : Int32)))) M) else (Z E YX1_hasNumber d M (zargs 0 [vr (some (16, 0, 0)), vi l1, vi l2]) 0 [] (zafter E YX1_equal (d + 1) [(0, vr (some (16, 0, 0))), (3, vi l3), (4, vi l4)] 125 3 [] Q))))) : Z E YX1_equal (d + 1) M [(0, vr (some (16, 0, 0))), (1, vi l1), (2, vi l2), (3, vi l3), (4, vi l4), (7, vi l7)] 90 [vi s0] Q := by
  refine sX1_equal_90 (d := d) M l1 l2 l3 l4 l7 s0 hw ?_
  refine zite k (fun h14424 k => ?_) (fun h14424 k => ?_)
  · refine sX1_same_0 (d := d) M l1 l2 l3 l4 hw ?_
    refine zite k (fun h14425 k => ?_) (fun h14425 k => ?_)
    · refine zite k (fun h14426 k => ?_) (fun h14426 k => ?_)
      · show Z E YX1_equal (d + 1) M [] 107 [vi (0 : Int32)] Q
        refine sX1_equal_107 (d := d) M (0 : Int32) hw ?_
        exact k
      · refine zite k (fun h14428 k => ?_) (fun h14428 k => ?_)
        · show Z E YX1_equal (d + 1) M [] 107 [vi (1 : Int32)] Q
          refine sX1_equal_107 (d := d) M (1 : Int32) hw ?_
          exact k
        · refine zite k (fun h14430 k => ?_) (fun h14430 k => ?_)
          · show Z E YX1_equal (d + 1) M [] 107 [vi (1 : Int32)] Q
            refine sX1_equal_107 (d := d) M (1 : Int32) hw ?_
            exact k
          · show Z E YX1_equal (d + 1) M [] 107 [vi (0 : Int32)] Q
            refine sX1_equal_107 (d := d) M (0 : Int32) hw ?_
            exact k
    · show Z E YX1_equal (d + 1) M [] 107 [vi (0 : Int32)] Q
      refine sX1_equal_107 (d := d) M (0 : Int32) hw ?_
      exact k
  · exact k
theorem iX1_givesTruth_0 {E : zE} {d : Nat} {Q : zO → zM → Prop} (M : zM) (l1 : Int32) (hw : cw M) (k : if l1 = 0 then (Q (.inl none) (si (si M 16 33 (3 : Int32)) 16 32 (0 : Int32))) else (Q (.inl none) (si (si M 16 33 (2 : Int32)) 16 32 (0 : Int32)))) : Z E YX1_givesTruth (d + 1) M [(0, vr (some (16, 0, 0))), (1, vi l1)] 0 [] Q := by
  refine sX1_givesTruth_0 (d := d) M l1 hw ?_
  refine zite k (fun h14439 k => ?_) (fun h14439 k => ?_)
  · refine sX1_gives_0 (d := d) M (3 : Int32) (0 : Int32) hw ?_
    show Z E YX1_givesTruth (d + 1) (si (si M 16 33 (3 : Int32)) 16 32 (0 : Int32)) [] 14 [] Q
    refine sX1_givesTruth_14 (d := d) (si (si M 16 33 (3 : Int32)) 16 32 (0 : Int32)) hw ?_
    exact k
  · refine sX1_gives_0 (d := d) M (2 : Int32) (0 : Int32) hw ?_
    show Z E YX1_givesTruth (d + 1) (si (si M 16 33 (2 : Int32)) 16 32 (0 : Int32)) [] 14 [] Q
    refine sX1_givesTruth_14 (d := d) (si (si M 16 33 (2 : Int32)) 16 32 (0 : Int32)) hw ?_
    exact k
theorem iX1_instance_0 {E : zE} {d : Nat} {Q : zO → zM → Prop} (M : zM) (hw : cw M) (k : vp_in ((gi M 16 38) - (1 : Int32)) 14500 ∧ (if (gi M 53 (((gi M 16 38) - (1 : Int32))).toNatClampNeg) = (7 : Int32) then (vp_in (gi M 54 (((gi M 16 38) - (1 : Int32))).toNatClampNeg) 300 ∧ (if (gi M 38 ((gi M 54 (((gi M 16 38) - (1 : Int32))).toNatClampNeg)).toNatClampNeg) = (1 : Int32) then (Z E YX1_find d M (zargs 0 [vr (some (16, 0, 0)), vi (gi M 54 (((gi M 16 38) - (1 : Int32))).toNatClampNeg), vi (1 : Int32)]) 0 [] (zafter E YX1_instance (d + 1) [(0, vr (some (16, 0, 0)))] 48 3 [] Q)) else (Z E YX1_error d M (zargs 0 [vr (some (16, 0, 0)), vi (0 : Int32)]) 0 [] (zafter E YX1_instance (d + 1) [] 31 3 [] Q)))) else (Z E YX1_error d M (zargs 0 [vr (some (16, 0, 0)), vi (0 : Int32)]) 0 [] (zafter E YX1_instance (d + 1) [] 31 3 [] Q)))) : Z E YX1_instance (d + 1) M [(0, vr (some (16, 0, 0)))] 0 [] Q := by
  refine sX1_instance_0 (d := d) M hw ?_
  refine zand k (fun h14447 k => ?_)
  refine ⟨h14447, ?_⟩
  refine sX1_isCalled_0 (d := d) M (gi M 53 (((gi M 16 38) - (1 : Int32))).toNatClampNeg) (gi M 54 (((gi M 16 38) - (1 : Int32))).toNatClampNeg) hw ?_
  refine zite k (fun h14448 k => ?_) (fun h14448 k => ?_)
  · refine zand k (fun h14449 k => ?_)
    refine zite k (fun h14450 k => ?_) (fun h14450 k => ?_)
    · show Z E YX1_instance (d + 1) M [(0, vr (some (16, 0, 0)))] 26 [vi (1 : Int32)] Q
      refine sX1_instance_26 (d := d) M (1 : Int32) hw ?_
      refine zneg (show ¬ ((1 : Int32) = 0) from by decide) ?_
      refine ⟨h14447, ?_⟩
      exact k
    · show Z E YX1_instance (d + 1) M [(0, vr (some (16, 0, 0)))] 26 [vi (0 : Int32)] Q
      refine sX1_instance_26 (d := d) M (0 : Int32) hw ?_
      refine zpos (show (0 : Int32) = 0 from by decide) ?_
      exact k
  · show Z E YX1_instance (d + 1) M [(0, vr (some (16, 0, 0)))] 26 [vi (0 : Int32)] Q
    refine sX1_instance_26 (d := d) M (0 : Int32) hw ?_
    refine zpos (show (0 : Int32) = 0 from by decide) ?_
    exact k
theorem iX1_instance_51 {E : zE} {d : Nat} {Q : zO → zM → Prop} (M : zM) (s0 : Int32) (hw : cw M) (k : if s0 = (-1 : Int32) then (Z E YX1_error d M (zargs 0 [vr (some (16, 0, 0)), vi (0 : Int32)]) 0 [] (zafter E YX1_instance (d + 1) [] 70 3 [] Q)) else (vp_in s0 3000 ∧ (if (gi M 48 (s0).toNatClampNeg) = (7 : Int32) then (vp_in ((gi M 16 38) - (2 : Int32)) 14500 ∧ (if (gi M 53 (((gi M 16 38) - (2 : Int32))).toNatClampNeg) = (7 : Int32) then (vp_in (gi M 54 (((gi M 16 38) - (2 : Int32))).toNatClampNeg) 300 ∧ (Z E YX1_instance (d + 1) M [(0, vr (some (16, 0, 0))), (1, vi s0), (2, vi (gi M 41 ((gi M 54 (((gi M 16 38) - (2 : Int32))).toNatClampNeg)).toNatClampNeg))] 111 [] Q)) else (Z E YX1_instance (d + 1) M [(0, vr (some (16, 0, 0))), (1, vi s0), (2, vi (-1 : Int32))] 111 [] Q))) else (Z E YX1_error d M (zargs 0 [vr (some (16, 0, 0)), vi (0 : Int32)]) 0 [] (zafter E YX1_instance (d + 1) [] 70 3 [] Q))))) : Z E YX1_instance (d + 1) M [(0, vr (some (16, 0, 0)))] 51 [vi s0] Q := by
  refine sX1_instance_51 (d := d) M s0 hw ?_
  refine zite k (fun h14451 k => ?_) (fun h14451 k => ?_)
  · exact k
  · refine zand k (fun h14452 k => ?_)
    refine zite k (fun h14453 k => ?_) (fun h14453 k => ?_)
    · refine zand k (fun h14454 k => ?_)
      refine zite k (fun h14455 k => ?_) (fun h14455 k => ?_)
      · refine ⟨h14454, ?_⟩
        exact k
      · exact k
    · exact k
theorem iX1_instance_111 {E : zE} {d : Nat} {Q : zO → zM → Prop} (M : zM) (l1 : Int32) (l2 : Int32) (hw : cw M) (k : if l2 = (-1 : Int32) then (Q (.inl none) (si (si M 16 33 (3 : Int32)) 16 32 (0 : Int32))) else (vp_in l1 3000 ∧ (if l2 = (gi M 49 (l1).toNatClampNeg) then (Q (.inl none) (si (si M 16 33 (2 : Int32)) 16 32 (0 : Int32))) else (vp_in l2 300 ∧ (Z E YX1_instance ((d + 1) + 1) M [(0, vr (some (16, 0, 0))), (1, vi l1), (2, vi (gi M 41 (l2).toNatClampNeg))] 111 [] Q))))) : Z E YX1_instance (d + 2) M [(0, vr (some (16, 0, 0))), (1, vi l1), (2, vi l2)] 111 [] Q := by
  refine sX1_instance_111 (d := (d + 1)) M l1 l2 hw ?_
  refine zite k (fun h14460 k => ?_) (fun h14460 k => ?_)
  · refine sX1_instance_136 (d := (d + 1)) M l2 hw ?_
    refine zpos h14460 ?_
    refine jX1_givesTruth (d := d) M (0 : Int32) hw ?_
    refine zpos (show (0 : Int32) = 0 from by decide) ?_
    show Z E YX1_instance ((d + 1) + 1) (si (si M 16 33 (3 : Int32)) 16 32 (0 : Int32)) [] 150 [] Q
    refine sX1_instance_150 (d := (d + 1)) (si (si M 16 33 (3 : Int32)) 16 32 (0 : Int32)) hw ?_
    exact k
  · refine zand k (fun h14461 k => ?_)
    refine zite k (fun h14462 k => ?_) (fun h14462 k => ?_)
    · refine sX1_instance_136 (d := (d + 1)) M l2 hw ?_
      refine zneg h14460 ?_
      refine jX1_givesTruth (d := d) M (1 : Int32) hw ?_
      refine zneg (show ¬ ((1 : Int32) = 0) from by decide) ?_
      show Z E YX1_instance ((d + 1) + 1) (si (si M 16 33 (2 : Int32)) 16 32 (0 : Int32)) [] 150 [] Q
      refine sX1_instance_150 (d := (d + 1)) (si (si M 16 33 (2 : Int32)) 16 32 (0 : Int32)) hw ?_
      exact k
    · exact k
theorem iX1_isTrue_0 {E : zE} {d : Nat} {Q : zO → zM → Prop} (M : zM) (l1 : Int32) (l2 : Int32) (hw : cw M) (k : if l1 = (5 : Int32) then (if l2 = 0 then (Q (.inl (some (vi (0 : Int32)))) M) else (Q (.inl (some (vi (1 : Int32)))) M)) else (if l1 = (6 : Int32) then (∃ b14470 m14470 : Nat, (gr M 17 1) = some (b14470, 100, m14470) ∧ (vp_in (l2 + (1 : Int32)) m14470 ∧ (vp_in l2 m14470 ∧ (if ((gi M b14470 ((l2 + (1 : Int32))).toNatClampNeg) - (gi M b14470 (l2).toNatClampNeg)) ≤ 0 then (Q (.inl (some (vi (0 : Int32)))) M) else (Q (.inl (some (vi (1 : Int32)))) M))))) else (if l1 = (2 : Int32) then (Q (.inl (some (vi (1 : Int32)))) M) else (if l1 = (7 : Int32) then (Q (.inl (some (vi (1 : Int32)))) M) else (Q (.inl (some (vi (0 : Int32)))) M))))) : Z E YX1_isTrue (d + 1) M [(0, vr (some (16, 0, 0))), (1, vi l1), (2, vi l2)] 0 [] Q := by
  refine sX1_isTrue_0 (d := d) M l1 l2 hw ?_
  refine zite k (fun h14467 k => ?_) (fun h14467 k => ?_)
  · exact k
  · refine zite k (fun h14469 k => ?_) (fun h14469 k => ?_)
    · refine jX2_length (d := d) M 17 l2 ?_
      obtain ⟨b14470, m14470, h14470, k⟩ := k
      refine ⟨b14470, m14470, h14470, ?_⟩
      refine zand k (fun h14471 k => ?_)
      refine zand k (fun h14472 k => ?_)
      show Z E YX1_isTrue (d + 1) M [] 29 [vi ((gi M b14470 ((l2 + (1 : Int32))).toNatClampNeg) - (gi M b14470 (l2).toNatClampNeg))] Q
      refine sX1_isTrue_29 (d := d) M ((gi M b14470 ((l2 + (1 : Int32))).toNatClampNeg) - (gi M b14470 (l2).toNatClampNeg)) hw ?_
      exact k
    · exact k
theorem iX1_makeNew_0 {E : zE} {d : Nat} {Q : zO → zM → Prop} (M : zM) (l1 : Int32) (l2 : Int32) (hw : cw M) (k : vp_in (((gi M 16 38) - l1) - (1 : Int32)) 14500 ∧ (if (gi M 53 ((((gi M 16 38) - l1) - (1 : Int32))).toNatClampNeg) = (7 : Int32) then (vp_in (gi M 54 ((((gi M 16 38) - l1) - (1 : Int32))).toNatClampNeg) 300 ∧ (if (gi M 38 ((gi M 54 ((((gi M 16 38) - l1) - (1 : Int32))).toNatClampNeg)).toNatClampNeg) = (1 : Int32) then (if (gi M 54 ((((gi M 16 38) - l1) - (1 : Int32))).toNatClampNeg) = (-1 : Int32) then (Z E YX1_makeNew (d + 1) M [(0, vr (some (16, 0, 0))), (1, vi l1), (2, vi l2), (3, vi (((gi M 16 38) - l1) - (1 : Int32))), (4, vi (gi M 54 ((((gi M 16 38) - l1) - (1 : Int32))).toNatClampNeg))] 57 [vi (0 : Int32)] Q) else (Z E YX1_makeNew (d + 1) M [(0, vr (some (16, 0, 0))), (1, vi l1), (2, vi l2), (3, vi (((gi M 16 38) - l1) - (1 : Int32))), (4, vi (gi M 54 ((((gi M 16 38) - l1) - (1 : Int32))).toNatClampNeg))] 57 [vi (gi M 39 ((gi M 54 ((((gi M 16 38) - l1) - (1 : Int32))).toNatClampNeg)).toNatClampNeg)] Q)) else (Z E YX1_makeNew (d + 1) M [(0, vr (some (16, 0, 0))), (1, vi l1), (2, vi l2), (3, vi (((gi M 16 38) - l1) - (1 : Int32))), (4, vi (-1 : Int32))] 57 [vi (0 : Int32)] Q))) else (Z E YX1_makeNew (d + 1) M [(0, vr (some (16, 0, 0))), (1, vi l1), (2, vi l2), (3, vi (((gi M 16 38) - l1) - (1 : Int32))), (4, vi (-1 : Int32))] 57 [vi (0 : Int32)] Q))) : Z E YX1_makeNew (d + 1) M [(0, vr (some (16, 0, 0))), (1, vi l1), (2, vi l2)] 0 [] Q := by
  refine sX1_makeNew_0 (d := d) M l1 l2 hw ?_
  refine zand k (fun h14476 k => ?_)
  refine ⟨h14476, ?_⟩
  refine sX1_isCalled_0 (d := d) M (gi M 53 ((((gi M 16 38) - l1) - (1 : Int32))).toNatClampNeg) (gi M 54 ((((gi M 16 38) - l1) - (1 : Int32))).toNatClampNeg) hw ?_
  refine zite k (fun h14477 k => ?_) (fun h14477 k => ?_)
  · refine zand k (fun h14478 k => ?_)
    refine zite k (fun h14479 k => ?_) (fun h14479 k => ?_)
    · show Z E YX1_makeNew (d + 1) M [(0, vr (some (16, 0, 0))), (1, vi l1), (2, vi l2), (3, vi (((gi M 16 38) - l1) - (1 : Int32)))] 25 [vi (1 : Int32)] Q
      refine sX1_makeNew_25 (d := d) M l1 l2 (((gi M 16 38) - l1) - (1 : Int32)) (1 : Int32) hw ?_
      refine zneg (show ¬ ((1 : Int32) = 0) from by decide) ?_
      refine ⟨h14476, ?_⟩
      refine sX1_makeNew_38 (d := d) M l1 l2 (((gi M 16 38) - l1) - (1 : Int32)) (gi M 54 ((((gi M 16 38) - l1) - (1 : Int32))).toNatClampNeg) hw ?_
      refine zite k (fun h14480 k => ?_) (fun h14480 k => ?_)
      · exact k
      · refine ⟨h14478, ?_⟩
        exact k
    · show Z E YX1_makeNew (d + 1) M [(0, vr (some (16, 0, 0))), (1, vi l1), (2, vi l2), (3, vi (((gi M 16 38) - l1) - (1 : Int32)))] 25 [vi (0 : Int32)] Q
      refine sX1_makeNew_25 (d := d) M l1 l2 (((gi M 16 38) - l1) - (1 : Int32)) (0 : Int32) hw ?_
      refine zpos (show (0 : Int32) = 0 from by decide) ?_
      refine sX1_makeNew_38 (d := d) M l1 l2 (((gi M 16 38) - l1) - (1 : Int32)) (-1 : Int32) hw ?_
      refine zpos (show (-1 : Int32) = (-1 : Int32) from by decide) ?_
      exact k
  · show Z E YX1_makeNew (d + 1) M [(0, vr (some (16, 0, 0))), (1, vi l1), (2, vi l2), (3, vi (((gi M 16 38) - l1) - (1 : Int32)))] 25 [vi (0 : Int32)] Q
    refine sX1_makeNew_25 (d := d) M l1 l2 (((gi M 16 38) - l1) - (1 : Int32)) (0 : Int32) hw ?_
    refine zpos (show (0 : Int32) = 0 from by decide) ?_
    refine sX1_makeNew_38 (d := d) M l1 l2 (((gi M 16 38) - l1) - (1 : Int32)) (-1 : Int32) hw ?_
    refine zpos (show (-1 : Int32) = (-1 : Int32) from by decide) ?_
    exact k
theorem iX1_makeNew_57 {E : zE} {d : Nat} {Q : zO → zM → Prop} (M : zM) (l1 : Int32) (l2 : Int32) (l3 : Int32) (l4 : Int32) (s0 : Int32) (hw : cw M) (k : if l4 = (-1 : Int32) then (Z E YX1_error d M (zargs 0 [vr (some (16, 0, 0)), vi (0 : Int32)]) 0 [] (zafter E YX1_makeNew (d + 1) [] 107 3 [] Q)) else (if 0 ≤ s0 then (Z E YX1_find d M (zargs 0 [vr (some (16, 0, 0)), vi l4, vi (1 : Int32)]) 0 [] (zafter E YX1_makeNew (d + 1) [(0, vr (some (16, 0, 0))), (1, vi l1), (2, vi l2), (3, vi l3), (4, vi l4)] 151 3 [] Q)) else (if s0 = (-10 : Int32) then (Z E YX1_carryOut d M (zargs 0 [vr (some (16, 0, 0)), vi (-s0), vi (0 : Int32), vi (0 : Int32), vi (l3 + (1 : Int32)), vi l1]) 0 [] (zafter E YX1_makeNew (d + 1) [(0, vr (some (16, 0, 0))), (3, vi l3)] 126 3 [] Q)) else (if s0 = (-11 : Int32) then (Z E YX1_carryOut d M (zargs 0 [vr (some (16, 0, 0)), vi (-s0), vi (0 : Int32), vi (0 : Int32), vi (l3 + (1 : Int32)), vi l1]) 0 [] (zafter E YX1_makeNew (d + 1) [(0, vr (some (16, 0, 0))), (3, vi l3)] 126 3 [] Q)) else (if s0 = (-12 : Int32) then (Z E YX1_carryOut d M (zargs 0 [vr (some (16, 0, 0)), vi (-s0), vi (0 : Int32), vi (0 : Int32), vi (l3 + (1 : Int32)), vi l1]) 0 [] (zafter E YX1_makeNew (d + 1) [(0, vr (some (16, 0, 0))), (3, vi l3)] 126 3 [] Q)) else (if (-14 : Int32) < s0 then (Z E YX1_error d M (zargs 0 [vr (some (16, 0, 0)), vi (0 : Int32)]) 0 [] (zafter E YX1_makeNew (d + 1) [] 107 3 [] Q)) else (if (-17 : Int32) ≤ s0 then (Z E YX1_carryOut d M (zargs 0 [vr (some (16, 0, 0)), vi (-s0), vi (0 : Int32), vi (0 : Int32), vi (l3 + (1 : Int32)), vi l1]) 0 [] (zafter E YX1_makeNew (d + 1) [(0, vr (some (16, 0, 0))), (3, vi l3)] 126 3 [] Q)) else (Z E YX1_error d M (zargs 0 [vr (some (16, 0, 0)), vi (0 : Int32)]) 0 [] (zafter E YX1_makeNew (d + 1) [] 107 3 [] Q))))))))) : Z E YX1_makeNew (d + 1) M [(0, vr (some (16, 0, 0))), (1, vi l1), (2, vi l2), (3, vi l3), (4, vi l4)] 57 [vi s0] Q := by
  refine sX1_makeNew_57 (d := d) M l1 l2 l3 l4 s0 hw ?_
  refine zite k (fun h14481 k => ?_) (fun h14481 k => ?_)
  · exact k
  · refine zite k (fun h14482 k => ?_) (fun h14482 k => ?_)
    · refine sX1_makeNew_111 (d := d) M l1 l2 l3 l4 s0 hw ?_
      refine zpos h14482 ?_
      exact k
    · refine zite k (fun h14483 k => ?_) (fun h14483 k => ?_)
      · refine sX1_makeNew_111 (d := d) M l1 l2 l3 l4 s0 hw ?_
        refine zneg h14482 ?_
        exact k
      · refine zite k (fun h14484 k => ?_) (fun h14484 k => ?_)
        · refine sX1_makeNew_111 (d := d) M l1 l2 l3 l4 s0 hw ?_
          refine zneg h14482 ?_
          exact k
        · refine zite k (fun h14485 k => ?_) (fun h14485 k => ?_)
          · refine sX1_makeNew_111 (d := d) M l1 l2 l3 l4 s0 hw ?_
            refine zneg h14482 ?_
            exact k
          · refine zite k (fun h14486 k => ?_) (fun h14486 k => ?_)
            · exact k
            · refine zite k (fun h14487 k => ?_) (fun h14487 k => ?_)
              · refine sX1_makeNew_111 (d := d) M l1 l2 l3 l4 s0 hw ?_
                refine zneg h14482 ?_
                exact k
              · exact k
theorem iX1_makeNew_154 {E : zE} {d : Nat} {Q : zO → zM → Prop} (M : zM) (l1 : Int32) (l2 : Int32) (l3 : Int32) (l4 : Int32) (s0 : Int32) (hw : cw M) (k : ∃ b14489 : Nat, (gr M 16 8) = some (b14489, 11, 0) ∧ (if s0 = (-1 : Int32) then (Z E YX1_born (d + 1) M (zargs 0 [vr (some (16, 0, 0)), vi (0 : Int32), vi (((29 : Int32) + ((6 : Int32) * ((gi M b14489 2) - (1 : Int32)))) + ((2 : Int32) * l2)), vi (1 : Int32), vi (-1 : Int32)]) 0 [] (zafter E YX1_makeNew ((d + 1) + 1) [(0, vr (some (16, 0, 0))), (1, vi l1), (3, vi l3), (4, vi l4)] 193 3 [] Q)) else (vp_in s0 3000 ∧ (if (gi M 48 (s0).toNatClampNeg) = (7 : Int32) then (Z E YX1_born (d + 1) M (zargs 0 [vr (some (16, 0, 0)), vi (0 : Int32), vi (((29 : Int32) + ((6 : Int32) * ((gi M b14489 2) - (1 : Int32)))) + ((2 : Int32) * l2)), vi (gi M 49 (s0).toNatClampNeg), vi (-1 : Int32)]) 0 [] (zafter E YX1_makeNew ((d + 1) + 1) [(0, vr (some (16, 0, 0))), (1, vi l1), (3, vi l3), (4, vi l4)] 193 3 [] Q)) else (Z E YX1_born (d + 1) M (zargs 0 [vr (some (16, 0, 0)), vi (0 : Int32), vi (((29 : Int32) + ((6 : Int32) * ((gi M b14489 2) - (1 : Int32)))) + ((2 : Int32) * l2)), vi (1 : Int32), vi (-1 : Int32)]) 0 [] (zafter E YX1_makeNew ((d + 1) + 1) [(0, vr (some (16, 0, 0))), (1, vi l1), (3, vi l3), (4, vi l4)] 193 3 [] Q)))))) : Z E YX1_makeNew (d + 2) M [(0, vr (some (16, 0, 0))), (1, vi l1), (2, vi l2), (3, vi l3), (4, vi l4)] 154 [vi s0] Q := by
  refine sX1_makeNew_154 (d := (d + 1)) M l1 l2 l3 l4 s0 hw ?_
  refine jX1_sitePair (d := d) M l2 hw ?_
  obtain ⟨b14489, h14489, k⟩ := k
  refine ⟨b14489, h14489, ?_⟩
  show Z E YX1_makeNew ((d + 1) + 1) M [(0, vr (some (16, 0, 0))), (1, vi l1), (3, vi l3), (4, vi l4), (6, vi s0)] 163 [vi (((29 : Int32) + ((6 : Int32) * ((gi M b14489 2) - (1 : Int32)))) + ((2 : Int32) * l2)), vi (0 : Int32), vr (some (16, 0, 0))] Q
  refine sX1_makeNew_163 (d := (d + 1)) M l1 l3 l4 s0 (((29 : Int32) + ((6 : Int32) * ((gi M b14489 2) - (1 : Int32)))) + ((2 : Int32) * l2)) (0 : Int32) hw ?_
  refine zite k (fun h14490 k => ?_) (fun h14490 k => ?_)
  · exact k
  · refine zand k (fun h14491 k => ?_)
    refine zite k (fun h14492 k => ?_) (fun h14492 k => ?_)
    · refine ⟨h14491, ?_⟩
      exact k
    · exact k
theorem iX1_makeNew_129 {E : zE} {d : Nat} {Q : zO → zM → Prop} (M : zM) (l3 : Int32) (hw : cw M) (k : vp_in l3 14500 ∧ (Q (.inl none) (si (si (si (si M 16 38 l3) 53 (l3).toNatClampNeg (vp_nar .byte ((gi M 16 33)).toInt8.toInt32)) 16 38 (l3 + (1 : Int32))) 54 (l3).toNatClampNeg (gi M 16 32)))) : Z E YX1_makeNew (d + 1) M [(0, vr (some (16, 0, 0))), (3, vi l3)] 129 [] Q := by
  refine sX1_makeNew_129 (d := d) M l3 hw ?_
  refine jX1_push (d := d) (si M 16 38 l3) (gi M 16 33) (gi M 16 32) hw ?_
  refine zand k (fun h14493 k => ?_)
  show Z E YX1_makeNew (d + 1) (si (si (si (si M 16 38 l3) 53 (l3).toNatClampNeg (vp_nar .byte ((gi M 16 33)).toInt8.toInt32)) 16 38 (l3 + (1 : Int32))) 54 (l3).toNatClampNeg (gi M 16 32)) [] 146 [] Q
  refine sX1_makeNew_146 (d := d) (si (si (si (si M 16 38 l3) 53 (l3).toNatClampNeg (vp_nar .byte ((gi M 16 33)).toInt8.toInt32)) 16 38 (l3 + (1 : Int32))) 54 (l3).toNatClampNeg (gi M 16 32)) hw ?_
  exact k
theorem iX1_moves_95 {E : zE} {d : Nat} {Q : zO → zM → Prop} (M : zM) (hw : cw M) (k : Q (.inl none) M) : Z E YX1_moves (d + 1) M [] 95 [] Q := by
  refine sX1_moves_95 (d := d) M hw ?_
  refine sX1_moves_524 (d := d) M hw ?_
  exact k
theorem iX1_moves_106 {E : zE} {d : Nat} {Q : zO → zM → Prop} (M : zM) (l4 : Int32) (hw : cw M) (k : vp_in l4 14500 ∧ (vp_in (gi M 16 38) 14500 ∧ (Q (.inl none) (si (si (si (si (si M 53 ((gi M 16 38)).toNatClampNeg (vp_nar .byte (gi M 53 (l4).toNatClampNeg))) 54 ((gi M 16 38)).toNatClampNeg (gi M 54 (l4).toNatClampNeg)) 55 ((gi M 16 38)).toNatClampNeg (gi M 55 (l4).toNatClampNeg)) 56 ((gi M 16 38)).toNatClampNeg (gi M 56 (l4).toNatClampNeg)) 16 38 ((gi M 16 38) + (1 : Int32)))))) : Z E YX1_moves (d + 1) M [(0, vr (some (16, 0, 0))), (4, vi l4)] 106 [] Q := by
  refine sX1_moves_106 (d := d) M l4 hw ?_
  refine jX1_copyOf (d := d) M l4 hw ?_
  refine zand k (fun h14594 k => ?_)
  refine zand k (fun h14595 k => ?_)
  show Z E YX1_moves (d + 1) (si (si (si (si (si M 53 ((gi M 16 38)).toNatClampNeg (vp_nar .byte (gi M 53 (l4).toNatClampNeg))) 54 ((gi M 16 38)).toNatClampNeg (gi M 54 (l4).toNatClampNeg)) 55 ((gi M 16 38)).toNatClampNeg (gi M 55 (l4).toNatClampNeg)) 56 ((gi M 16 38)).toNatClampNeg (gi M 56 (l4).toNatClampNeg)) 16 38 ((gi M 16 38) + (1 : Int32))) [] 112 [] Q
  refine sX1_moves_112 (d := d) (si (si (si (si (si M 53 ((gi M 16 38)).toNatClampNeg (vp_nar .byte (gi M 53 (l4).toNatClampNeg))) 54 ((gi M 16 38)).toNatClampNeg (gi M 54 (l4).toNatClampNeg)) 55 ((gi M 16 38)).toNatClampNeg (gi M 55 (l4).toNatClampNeg)) 56 ((gi M 16 38)).toNatClampNeg (gi M 56 (l4).toNatClampNeg)) 16 38 ((gi M 16 38) + (1 : Int32))) hw ?_
  refine sX1_moves_524 (d := d) (si (si (si (si (si M 53 ((gi M 16 38)).toNatClampNeg (vp_nar .byte (gi M 53 (l4).toNatClampNeg))) 54 ((gi M 16 38)).toNatClampNeg (gi M 54 (l4).toNatClampNeg)) 55 ((gi M 16 38)).toNatClampNeg (gi M 55 (l4).toNatClampNeg)) 56 ((gi M 16 38)).toNatClampNeg (gi M 56 (l4).toNatClampNeg)) 16 38 ((gi M 16 38) + (1 : Int32))) hw ?_
  exact k
theorem iX1_moves_468 {E : zE} {d : Nat} {Q : zO → zM → Prop} (M : zM) (l2 : Int32) (l3 : Int32) (l4 : Int32) (s0 : Int32) (hw : cw M) (k : if s0 = (-1 : Int32) then (vp_in l3 24 ∧ (Q (.inl none) (si (si M 16 38 ((gi M 16 38) - (1 : Int32))) 59 (l3).toNatClampNeg (vp_nar .short (l2).toInt16.toInt32)))) else (vp_in s0 3000 ∧ (vp_in l4 14500 ∧ (vp_in (gi M 16 38) 14500 ∧ (Q (.inl none) (si (si (si (si M 56 (l4).toNatClampNeg (gi M 50 (s0).toNatClampNeg)) 53 ((gi M 16 38)).toNatClampNeg (vp_nar .byte ((6 : Int32)).toInt8.toInt32)) 16 38 ((gi M 16 38) + (1 : Int32))) 54 ((gi M 16 38)).toNatClampNeg (gi M 46 (s0).toNatClampNeg))))))) : Z E YX1_moves (d + 1) M [(0, vr (some (16, 0, 0))), (2, vi l2), (3, vi l3), (4, vi l4)] 468 [vi s0] Q := by
  refine sX1_moves_468 (d := d) M l2 l3 l4 s0 hw ?_
  refine zite k (fun h14596 k => ?_) (fun h14596 k => ?_)
  · refine zand k (fun h14597 k => ?_)
    refine sX1_moves_524 (d := d) (si (si M 16 38 ((gi M 16 38) - (1 : Int32))) 59 (l3).toNatClampNeg (vp_nar .short (l2).toInt16.toInt32)) hw ?_
    exact k
  · refine zand k (fun h14598 k => ?_)
    refine zand k (fun h14599 k => ?_)
    refine ⟨h14598, ?_⟩
    refine jX1_push (d := d) (si M 56 (l4).toNatClampNeg (gi M 50 (s0).toNatClampNeg)) (6 : Int32) (gi M 46 (s0).toNatClampNeg) hw ?_
    refine zand k (fun h14600 k => ?_)
    show Z E YX1_moves (d + 1) (si (si (si (si M 56 (l4).toNatClampNeg (gi M 50 (s0).toNatClampNeg)) 53 ((gi M 16 38)).toNatClampNeg (vp_nar .byte ((6 : Int32)).toInt8.toInt32)) 16 38 ((gi M 16 38) + (1 : Int32))) 54 ((gi M 16 38)).toNatClampNeg (gi M 46 (s0).toNatClampNeg)) [] 524 [] Q
    refine sX1_moves_524 (d := d) (si (si (si (si M 56 (l4).toNatClampNeg (gi M 50 (s0).toNatClampNeg)) 53 ((gi M 16 38)).toNatClampNeg (vp_nar .byte ((6 : Int32)).toInt8.toInt32)) 16 38 ((gi M 16 38) + (1 : Int32))) 54 ((gi M 16 38)).toNatClampNeg (gi M 46 (s0).toNatClampNeg)) hw ?_
    exact k
theorem iX1_moves_239 {E : zE} {d : Nat} {Q : zO → zM → Prop} (M : zM) (l2 : Int32) (l3 : Int32) (s0 : Int32) (hw : cw M) (k : if s0 = 0 then (vp_in l3 24 ∧ (Q (.inl none) (si M 59 (l3).toNatClampNeg (vp_nar .short (l2).toInt16.toInt32)))) else (Q (.inl none) M)) : Z E YX1_moves (d + 1) M [(0, vr (some (16, 0, 0))), (2, vi l2), (3, vi l3)] 239 [vi s0] Q := by
  refine sX1_moves_239 (d := d) M l2 l3 s0 hw ?_
  refine zite k (fun h14601 k => ?_) (fun h14601 k => ?_)
  · refine zand k (fun h14602 k => ?_)
    refine sX1_moves_524 (d := d) (si M 59 (l3).toNatClampNeg (vp_nar .short (l2).toInt16.toInt32)) hw ?_
    exact k
  · refine sX1_moves_524 (d := d) M hw ?_
    exact k
theorem iX1_moves_271 {E : zE} {d : Nat} {Q : zO → zM → Prop} (M : zM) (l1 : Int32) (l2 : Int32) (l3 : Int32) (s0 : Int32) (hw : cw M) (k : vp_in l1 600 ∧ (if (gi M 30 (l1).toNatClampNeg) = (24 : Int32) then (if s0 = (1 : Int32) then (vp_in l3 24 ∧ (Q (.inl none) (si M 59 (l3).toNatClampNeg (vp_nar .short (l2).toInt16.toInt32)))) else (Q (.inl none) (si M 16 38 ((gi M 16 38) - (1 : Int32))))) else (if s0 = (0 : Int32) then (vp_in l3 24 ∧ (Q (.inl none) (si M 59 (l3).toNatClampNeg (vp_nar .short (l2).toInt16.toInt32)))) else (Q (.inl none) (si M 16 38 ((gi M 16 38) - (1 : Int32))))))) : Z E YX1_moves (d + 1) M [(0, vr (some (16, 0, 0))), (1, vi l1), (2, vi l2), (3, vi l3)] 271 [vi s0] Q := by
  refine sX1_moves_271 (d := d) M l1 l2 l3 s0 hw ?_
  refine zand k (fun h14603 k => ?_)
  refine zite k (fun h14604 k => ?_) (fun h14604 k => ?_)
  · refine sX1_moves_290 (d := d) M l2 l3 (1 : Int32) s0 hw ?_
    refine zite k (fun h14605 k => ?_) (fun h14605 k => ?_)
    · refine zand k (fun h14606 k => ?_)
      refine sX1_moves_524 (d := d) (si M 59 (l3).toNatClampNeg (vp_nar .short (l2).toInt16.toInt32)) hw ?_
      exact k
    · refine sX1_moves_524 (d := d) (si M 16 38 ((gi M 16 38) - (1 : Int32))) hw ?_
      exact k
  · refine sX1_moves_290 (d := d) M l2 l3 (0 : Int32) s0 hw ?_
    refine zite k (fun h14607 k => ?_) (fun h14607 k => ?_)
    · refine zand k (fun h14608 k => ?_)
      refine sX1_moves_524 (d := d) (si M 59 (l3).toNatClampNeg (vp_nar .short (l2).toInt16.toInt32)) hw ?_
      exact k
    · refine sX1_moves_524 (d := d) (si M 16 38 ((gi M 16 38) - (1 : Int32))) hw ?_
      exact k
theorem iX1_moves_324 {E : zE} {d : Nat} {Q : zO → zM → Prop} (M : zM) (hw : cw M) (k : Q (.inl none) M) : Z E YX1_moves (d + 1) M [] 324 [] Q := by
  refine sX1_moves_324 (d := d) M hw ?_
  refine sX1_moves_524 (d := d) M hw ?_
  exact k
theorem iX1_moves_430 {E : zE} {d : Nat} {Q : zO → zM → Prop} (M : zM) (l4 : Int32) (s0 : Int32) (s1 : Int32) (hw : cw M) (k : vp_in s1 14500 ∧ (vp_in l4 14500 ∧ (Q (.inl none) (si (si (si (si M 54 (s1).toNatClampNeg s0) 53 (l4).toNatClampNeg (vp_nar .byte (8 : Int32))) 55 (l4).toNatClampNeg (gi M 16 29)) 56 (l4).toNatClampNeg (0 : Int32))))) : Z E YX1_moves (d + 1) M [(0, vr (some (16, 0, 0))), (4, vi l4)] 430 [vi s0, vi s1, vr (some (54, 100, 14500))] Q := by
  refine sX1_moves_430 (d := d) M l4 s0 s1 hw ?_
  refine zand k (fun h14610 k => ?_)
  refine zand k (fun h14611 k => ?_)
  refine ⟨h14611, ?_⟩
  refine ⟨h14611, ?_⟩
  refine sX1_moves_524 (d := d) (si (si (si (si M 54 (s1).toNatClampNeg s0) 53 (l4).toNatClampNeg (vp_nar .byte (8 : Int32))) 55 (l4).toNatClampNeg (gi M 16 29)) 56 (l4).toNatClampNeg (0 : Int32)) hw ?_
  exact k
theorem iX1_moves_125 {E : zE} {d : Nat} {Q : zO → zM → Prop} (M : zM) (l4 : Int32) (l5 : Int32) (hw : cw M) (k : if l5 ≤ (l4 - (2 : Int32)) then (vp_in (l4 + (1 : Int32)) 14500 ∧ (vp_in (l4 - (2 : Int32)) 14500 ∧ (Q (.inl none) (si (si M 53 ((l4 - (2 : Int32))).toNatClampNeg (vp_nar .byte (gi M 53 ((l4 + (1 : Int32))).toNatClampNeg))) 54 ((l4 - (2 : Int32))).toNatClampNeg (gi M 54 ((l4 + (1 : Int32))).toNatClampNeg))))) else (vp_in (l5 - (1 : Int32)) 14500 ∧ (vp_in l5 14500 ∧ (Z E YX1_moves (d + 1) (si (si M 53 (l5).toNatClampNeg (vp_nar .byte (gi M 53 ((l5 - (1 : Int32))).toNatClampNeg))) 54 (l5).toNatClampNeg (gi M 54 ((l5 - (1 : Int32))).toNatClampNeg)) [(0, vr (some (16, 0, 0))), (4, vi l4), (5, vi (l5 + (-1 : Int32)))] 125 [] Q)))) : Z E YX1_moves (d + 1) M [(0, vr (some (16, 0, 0))), (4, vi l4), (5, vi l5)] 125 [] Q := by
  refine sX1_moves_125 (d := d) M l4 l5 hw ?_
  refine zite k (fun h14612 k => ?_) (fun h14612 k => ?_)
  · refine zand k (fun h14613 k => ?_)
    refine zand k (fun h14614 k => ?_)
    refine ⟨h14613, ?_⟩
    refine ⟨h14614, ?_⟩
    refine sX1_moves_524 (d := d) (si (si M 53 ((l4 - (2 : Int32))).toNatClampNeg (vp_nar .byte (gi M 53 ((l4 + (1 : Int32))).toNatClampNeg))) 54 ((l4 - (2 : Int32))).toNatClampNeg (gi M 54 ((l4 + (1 : Int32))).toNatClampNeg)) hw ?_
    exact k
  · refine zand k (fun h14615 k => ?_)
    refine zand k (fun h14616 k => ?_)
    refine ⟨h14615, ?_⟩
    refine ⟨h14616, ?_⟩
    exact k
theorem iX1_order_0 {E : zE} {d : Nat} {Q : zO → zM → Prop} (M : zM) (l1 : Int32) (l2 : Int32) (l3 : Int32) (l4 : Int32) (hw : cw M) (k : if l1 = (6 : Int32) then (if l3 = (6 : Int32) then (∃ b14619 m14619 : Nat, (gr M 17 1) = some (b14619, 100, m14619) ∧ (vp_in (l2 + (1 : Int32)) m14619 ∧ (vp_in l2 m14619 ∧ (vp_in (l4 + (1 : Int32)) m14619 ∧ (vp_in l4 m14619 ∧ (if ((gi M b14619 ((l4 + (1 : Int32))).toNatClampNeg) - (gi M b14619 (l4).toNatClampNeg)) < ((gi M b14619 ((l2 + (1 : Int32))).toNatClampNeg) - (gi M b14619 (l2).toNatClampNeg)) then (Z E YX1_order (d + 1) M [(0, vr (some (16, 0, 0))), (2, vi l2), (4, vi l4), (5, vi ((gi M b14619 ((l4 + (1 : Int32))).toNatClampNeg) - (gi M b14619 (l4).toNatClampNeg))), (6, vi (0 : Int32))] 37 [] Q) else (Z E YX1_order (d + 1) M [(0, vr (some (16, 0, 0))), (2, vi l2), (4, vi l4), (5, vi ((gi M b14619 ((l2 + (1 : Int32))).toNatClampNeg) - (gi M b14619 (l2).toNatClampNeg))), (6, vi (0 : Int32))] 37 [] Q))))))) else (Z E YX1_hasNumber d M (zargs 0 [vr (some (16, 0, 0)), vi l1, vi l2]) 0 [] (zafter E YX1_order (d + 1) [(0, vr (some (16, 0, 0))), (3, vi l3), (4, vi l4)] 128 3 [] Q))) else (Z E YX1_hasNumber d M (zargs 0 [vr (some (16, 0, 0)), vi l1, vi l2]) 0 [] (zafter E YX1_order (d + 1) [(0, vr (some (16, 0, 0))), (3, vi l3), (4, vi l4)] 128 3 [] Q))) : Z E YX1_order (d + 1) M [(0, vr (some (16, 0, 0))), (1, vi l1), (2, vi l2), (3, vi l3), (4, vi l4)] 0 [] Q := by
  refine sX1_order_0 (d := d) M l1 l2 l3 l4 hw ?_
  refine zite k (fun h14617 k => ?_) (fun h14617 k => ?_)
  · refine zite k (fun h14618 k => ?_) (fun h14618 k => ?_)
    · refine jX2_length (d := d) M 17 l2 ?_
      obtain ⟨b14619, m14619, h14619, k⟩ := k
      refine ⟨b14619, m14619, h14619, ?_⟩
      refine zand k (fun h14620 k => ?_)
      refine zand k (fun h14621 k => ?_)
      show Z E YX1_order (d + 1) M [(0, vr (some (16, 0, 0))), (2, vi l2), (4, vi l4)] 20 [vi ((gi M b14619 ((l2 + (1 : Int32))).toNatClampNeg) - (gi M b14619 (l2).toNatClampNeg))] Q
      refine sX1_order_20 (d := d) M l2 l4 ((gi M b14619 ((l2 + (1 : Int32))).toNatClampNeg) - (gi M b14619 (l2).toNatClampNeg)) hw ?_
      refine jX2_length (d := d) M 17 l4 ?_
      refine ⟨b14619, m14619, h14619, ?_⟩
      refine zand k (fun h14622 k => ?_)
      refine zand k (fun h14623 k => ?_)
      show Z E YX1_order (d + 1) M [(0, vr (some (16, 0, 0))), (2, vi l2), (4, vi l4)] 29 [vi ((gi M b14619 ((l4 + (1 : Int32))).toNatClampNeg) - (gi M b14619 (l4).toNatClampNeg)), vi ((gi M b14619 ((l2 + (1 : Int32))).toNatClampNeg) - (gi M b14619 (l2).toNatClampNeg))] Q
      refine sX1_order_29 (d := d) M l2 l4 ((gi M b14619 ((l4 + (1 : Int32))).toNatClampNeg) - (gi M b14619 (l4).toNatClampNeg)) ((gi M b14619 ((l2 + (1 : Int32))).toNatClampNeg) - (gi M b14619 (l2).toNatClampNeg)) hw ?_
      refine sJ11_min_0 (d := d) M ((gi M b14619 ((l2 + (1 : Int32))).toNatClampNeg) - (gi M b14619 (l2).toNatClampNeg)) ((gi M b14619 ((l4 + (1 : Int32))).toNatClampNeg) - (gi M b14619 (l4).toNatClampNeg)) ?_
      refine zite k (fun h14624 k => ?_) (fun h14624 k => ?_)
      · show Z E YX1_order (d + 1) M [(0, vr (some (16, 0, 0))), (2, vi l2), (4, vi l4)] 32 [vi ((gi M b14619 ((l4 + (1 : Int32))).toNatClampNeg) - (gi M b14619 (l4).toNatClampNeg))] Q
        refine sX1_order_32 (d := d) M l2 l4 ((gi M b14619 ((l4 + (1 : Int32))).toNatClampNeg) - (gi M b14619 (l4).toNatClampNeg)) hw ?_
        exact k
      · show Z E YX1_order (d + 1) M [(0, vr (some (16, 0, 0))), (2, vi l2), (4, vi l4)] 32 [vi ((gi M b14619 ((l2 + (1 : Int32))).toNatClampNeg) - (gi M b14619 (l2).toNatClampNeg))] Q
        refine sX1_order_32 (d := d) M l2 l4 ((gi M b14619 ((l2 + (1 : Int32))).toNatClampNeg) - (gi M b14619 (l2).toNatClampNeg)) hw ?_
        exact k
    · exact k
  · exact k
theorem iX1_order_37 {E : zE} {d : Nat} {Q : zO → zM → Prop} (M : zM) (l2 : Int32) (l4 : Int32) (l5 : Int32) (l6 : Int32) (hw : cw M) (k : if l5 ≤ l6 then (∃ b14626 m14626 : Nat, (gr M 17 1) = some (b14626, 100, m14626) ∧ (vp_in (l2 + (1 : Int32)) m14626 ∧ (vp_in l2 m14626 ∧ (vp_in (l4 + (1 : Int32)) m14626 ∧ (vp_in l4 m14626 ∧ (if ((gi M b14626 ((l4 + (1 : Int32))).toNatClampNeg) - (gi M b14626 (l4).toNatClampNeg)) ≤ ((gi M b14626 ((l2 + (1 : Int32))).toNatClampNeg) - (gi M b14626 (l2).toNatClampNeg)) then (if ((gi M b14626 ((l2 + (1 : Int32))).toNatClampNeg) - (gi M b14626 (l2).toNatClampNeg)) = ((gi M b14626 ((l4 + (1 : Int32))).toNatClampNeg) - (gi M b14626 (l4).toNatClampNeg)) then (Q (.inl (some (vi (0 : Int32)))) M) else (Q (.inl (some (vi (1 : Int32)))) M)) else (Q (.inl (some (vi (-1 : Int32)))) M))))))) else (∃ b14633 m14633 : Nat, (gr M 17 1) = some (b14633, 100, m14633) ∧ (vp_in l2 m14633 ∧ (∃ b14635 m14635 : Nat, (gr M 17 0) = some (b14635, 101, m14635) ∧ (vp_in ((gi M b14633 (l2).toNatClampNeg) + l6) m14635 ∧ (vp_in l4 m14633 ∧ (vp_in ((gi M b14633 (l4).toNatClampNeg) + l6) m14635 ∧ (if (gi M b14635 (((gi M b14633 (l2).toNatClampNeg) + l6)).toNatClampNeg) = (gi M b14635 (((gi M b14633 (l4).toNatClampNeg) + l6)).toNatClampNeg) then (Z E YX1_order (d + 1) M [(0, vr (some (16, 0, 0))), (2, vi l2), (4, vi l4), (5, vi l5), (6, vi (l6 + (1 : Int32)))] 37 [] Q) else (if (gi M b14635 (((gi M b14633 (l4).toNatClampNeg) + l6)).toNatClampNeg) ≤ (gi M b14635 (((gi M b14633 (l2).toNatClampNeg) + l6)).toNatClampNeg) then (Q (.inl (some (vi (1 : Int32)))) M) else (Q (.inl (some (vi (-1 : Int32)))) M)))))))))) : Z E YX1_order (d + 1) M [(0, vr (some (16, 0, 0))), (2, vi l2), (4, vi l4), (5, vi l5), (6, vi l6)] 37 [] Q := by
  refine sX1_order_37 (d := d) M l2 l4 l5 l6 hw ?_
  refine zite k (fun h14625 k => ?_) (fun h14625 k => ?_)
  · refine jX2_length (d := d) M 17 l2 ?_
    obtain ⟨b14626, m14626, h14626, k⟩ := k
    refine ⟨b14626, m14626, h14626, ?_⟩
    refine zand k (fun h14627 k => ?_)
    refine zand k (fun h14628 k => ?_)
    show Z E YX1_order (d + 1) M [(0, vr (some (16, 0, 0))), (4, vi l4)] 112 [vi ((gi M b14626 ((l2 + (1 : Int32))).toNatClampNeg) - (gi M b14626 (l2).toNatClampNeg))] Q
    refine sX1_order_112 (d := d) M l4 ((gi M b14626 ((l2 + (1 : Int32))).toNatClampNeg) - (gi M b14626 (l2).toNatClampNeg)) hw ?_
    refine jX2_length (d := d) M 17 l4 ?_
    refine ⟨b14626, m14626, h14626, ?_⟩
    refine zand k (fun h14629 k => ?_)
    refine zand k (fun h14630 k => ?_)
    show Z E YX1_order (d + 1) M [] 121 [vi ((gi M b14626 ((l4 + (1 : Int32))).toNatClampNeg) - (gi M b14626 (l4).toNatClampNeg)), vi ((gi M b14626 ((l2 + (1 : Int32))).toNatClampNeg) - (gi M b14626 (l2).toNatClampNeg))] Q
    refine sX1_order_121 (d := d) M ((gi M b14626 ((l4 + (1 : Int32))).toNatClampNeg) - (gi M b14626 (l4).toNatClampNeg)) ((gi M b14626 ((l2 + (1 : Int32))).toNatClampNeg) - (gi M b14626 (l2).toNatClampNeg)) hw ?_
    refine sJ16_compare_0 (d := d) M ((gi M b14626 ((l2 + (1 : Int32))).toNatClampNeg) - (gi M b14626 (l2).toNatClampNeg)) ((gi M b14626 ((l4 + (1 : Int32))).toNatClampNeg) - (gi M b14626 (l4).toNatClampNeg)) ?_
    refine zite k (fun h14631 k => ?_) (fun h14631 k => ?_)
    · refine zite k (fun h14632 k => ?_) (fun h14632 k => ?_)
      · show Z E YX1_order (d + 1) M [] 124 [vi (0 : Int32)] Q
        refine sX1_order_124 (d := d) M (0 : Int32) hw ?_
        exact k
      · show Z E YX1_order (d + 1) M [] 124 [vi (1 : Int32)] Q
        refine sX1_order_124 (d := d) M (1 : Int32) hw ?_
        exact k
    · show Z E YX1_order (d + 1) M [] 124 [vi (-1 : Int32)] Q
      refine sX1_order_124 (d := d) M (-1 : Int32) hw ?_
      exact k
  · refine sX2_sign_0 (d := d) M 17 l2 l6 ?_
    obtain ⟨b14633, m14633, h14633, k⟩ := k
    refine ⟨b14633, m14633, h14633, ?_⟩
    refine zand k (fun h14634 k => ?_)
    obtain ⟨b14635, m14635, h14635, k⟩ := k
    refine ⟨b14635, m14635, h14635, ?_⟩
    refine zand k (fun h14636 k => ?_)
    show Z E YX1_order (d + 1) M [(0, vr (some (16, 0, 0))), (2, vi l2), (4, vi l4), (5, vi l5), (6, vi l6)] 54 [vi (gi M b14635 (((gi M b14633 (l2).toNatClampNeg) + l6)).toNatClampNeg)] Q
    refine sX1_order_54 (d := d) M l2 l4 l5 l6 (gi M b14635 (((gi M b14633 (l2).toNatClampNeg) + l6)).toNatClampNeg) hw ?_
    refine sX2_sign_0 (d := d) M 17 l4 l6 ?_
    refine ⟨b14633, m14633, h14633, ?_⟩
    refine zand k (fun h14637 k => ?_)
    refine ⟨b14635, m14635, h14635, ?_⟩
    refine zand k (fun h14638 k => ?_)
    show Z E YX1_order (d + 1) M [(0, vr (some (16, 0, 0))), (2, vi l2), (4, vi l4), (5, vi l5), (6, vi l6)] 65 [vi (gi M b14635 (((gi M b14633 (l4).toNatClampNeg) + l6)).toNatClampNeg), vi (gi M b14635 (((gi M b14633 (l2).toNatClampNeg) + l6)).toNatClampNeg)] Q
    refine sX1_order_65 (d := d) M l2 l4 l5 l6 (gi M b14635 (((gi M b14633 (l4).toNatClampNeg) + l6)).toNatClampNeg) (gi M b14635 (((gi M b14633 (l2).toNatClampNeg) + l6)).toNatClampNeg) hw ?_
    refine zite k (fun h14639 k => ?_) (fun h14639 k => ?_)
    · exact k
    · refine sX2_sign_0 (d := d) M 17 l2 l6 ?_
      refine ⟨b14633, m14633, h14633, ?_⟩
      refine ⟨h14634, ?_⟩
      refine ⟨b14635, m14635, h14635, ?_⟩
      refine ⟨h14636, ?_⟩
      show Z E YX1_order (d + 1) M [(0, vr (some (16, 0, 0))), (4, vi l4), (6, vi l6)] 78 [vi (gi M b14635 (((gi M b14633 (l2).toNatClampNeg) + l6)).toNatClampNeg)] Q
      refine sX1_order_78 (d := d) M l4 l6 (gi M b14635 (((gi M b14633 (l2).toNatClampNeg) + l6)).toNatClampNeg) hw ?_
      refine sX2_sign_0 (d := d) M 17 l4 l6 ?_
      refine ⟨b14633, m14633, h14633, ?_⟩
      refine ⟨h14637, ?_⟩
      refine ⟨b14635, m14635, h14635, ?_⟩
      refine ⟨h14638, ?_⟩
      show Z E YX1_order (d + 1) M [] 89 [vi (gi M b14635 (((gi M b14633 (l4).toNatClampNeg) + l6)).toNatClampNeg), vi (gi M b14635 (((gi M b14633 (l2).toNatClampNeg) + l6)).toNatClampNeg)] Q
      refine sX1_order_89 (d := d) M (gi M b14635 (((gi M b14633 (l4).toNatClampNeg) + l6)).toNatClampNeg) (gi M b14635 (((gi M b14633 (l2).toNatClampNeg) + l6)).toNatClampNeg) hw ?_
      exact k
theorem iX1_order_149 {E : zE} {d : Nat} {Q : zO → zM → Prop} (M : zM) (l5 : Int32) (s0 : Int32) (hw : cw M) (k : if s0 = 0 then (Q (.inl (some (vi (2 : Int32)))) M) else (if (gi M 16 32) ≤ l5 then (if l5 = (gi M 16 32) then (Q (.inl (some (vi (0 : Int32)))) M) else (Q (.inl (some (vi (1 : Int32)))) M)) else (Q (.inl (some (vi (-1 : Int32)))) M))) : Z E YX1_order (d + 1) M [(0, vr (some (16, 0, 0))), (5, vi l5)] 149 [vi s0] Q := by
  refine sX1_order_149 (d := d) M l5 s0 hw ?_
  refine zite k (fun h14642 k => ?_) (fun h14642 k => ?_)
  · exact k
  · refine sJ16_compare_0 (d := d) M l5 (gi M 16 32) ?_
    refine zite k (fun h14643 k => ?_) (fun h14643 k => ?_)
    · refine zite k (fun h14644 k => ?_) (fun h14644 k => ?_)
      · show Z E YX1_order (d + 1) M [] 161 [vi (0 : Int32)] Q
        refine sX1_order_161 (d := d) M (0 : Int32) hw ?_
        exact k
      · show Z E YX1_order (d + 1) M [] 161 [vi (1 : Int32)] Q
        refine sX1_order_161 (d := d) M (1 : Int32) hw ?_
        exact k
    · show Z E YX1_order (d + 1) M [] 161 [vi (-1 : Int32)] Q
      refine sX1_order_161 (d := d) M (-1 : Int32) hw ?_
      exact k
theorem iX1_popped_0 {E : zE} {d : Nat} {Q : zO → zM → Prop} (M : zM) (l1 : Int32) (l2 : Int32) (hw : cw M) (k : if l1 = (7 : Int32) then (vp_in l2 300 ∧ (if (gi M 38 (l2).toNatClampNeg) = (2 : Int32) then (Z E YX1_own d M (zargs 0 [vr (some (16, 0, 0)), vi l2, vi (0 : Int32)]) 0 [] (zafter E YX1_popped (d + 1) [(0, vr (some (16, 0, 0))), (2, vi l2)] 18 3 [] Q)) else (Z E YX1_error d M (zargs 0 [vr (some (16, 0, 0)), vi (0 : Int32)]) 0 [] (zafter E YX1_popped (d + 1) [] 11 3 [] Q)))) else (Z E YX1_error d M (zargs 0 [vr (some (16, 0, 0)), vi (0 : Int32)]) 0 [] (zafter E YX1_popped (d + 1) [] 11 3 [] Q))) : Z E YX1_popped (d + 1) M [(0, vr (some (16, 0, 0))), (1, vi l1), (2, vi l2)] 0 [] Q := by
  refine sX1_popped_0 (d := d) M l1 l2 hw ?_
  refine sX1_isArray_0 (d := d) M l1 l2 hw ?_
  refine zite k (fun h14645 k => ?_) (fun h14645 k => ?_)
  · refine zand k (fun h14646 k => ?_)
    refine zite k (fun h14647 k => ?_) (fun h14647 k => ?_)
    · show Z E YX1_popped (d + 1) M [(0, vr (some (16, 0, 0))), (2, vi l2)] 6 [vi (1 : Int32)] Q
      refine sX1_popped_6 (d := d) M l2 (1 : Int32) hw ?_
      refine zneg (show ¬ ((1 : Int32) = 0) from by decide) ?_
      exact k
    · show Z E YX1_popped (d + 1) M [(0, vr (some (16, 0, 0))), (2, vi l2)] 6 [vi (0 : Int32)] Q
      refine sX1_popped_6 (d := d) M l2 (0 : Int32) hw ?_
      refine zpos (show (0 : Int32) = 0 from by decide) ?_
      exact k
  · show Z E YX1_popped (d + 1) M [(0, vr (some (16, 0, 0))), (2, vi l2)] 6 [vi (0 : Int32)] Q
    refine sX1_popped_6 (d := d) M l2 (0 : Int32) hw ?_
    refine zpos (show (0 : Int32) = 0 from by decide) ?_
    exact k
theorem iX1_popped_21 {E : zE} {d : Nat} {Q : zO → zM → Prop} (M : zM) (l2 : Int32) (s0 : Int32) (hw : cw M) (k : vp_in s0 3000 ∧ (if (gi M 49 (s0).toNatClampNeg) = 0 then (Q (.inl none) (si (si M 16 33 (0 : Int32)) 16 32 (0 : Int32))) else (Z E YX1_textOf d M (zargs 0 [vr (some (16, 0, 0)), vi (5 : Int32), vi ((gi M 49 (s0).toNatClampNeg) - (1 : Int32))]) 0 [] (zafter E YX1_popped (d + 1) [(0, vr (some (16, 0, 0))), (2, vi l2), (3, vi s0), (4, vi (gi M 49 (s0).toNatClampNeg))] 48 3 [] Q)))) : Z E YX1_popped (d + 1) M [(0, vr (some (16, 0, 0))), (2, vi l2)] 21 [vi s0] Q := by
  refine sX1_popped_21 (d := d) M l2 s0 hw ?_
  refine zand k (fun h14648 k => ?_)
  refine zite k (fun h14649 k => ?_) (fun h14649 k => ?_)
  · refine sX1_gives_0 (d := d) M (0 : Int32) (0 : Int32) hw ?_
    show Z E YX1_popped (d + 1) (si (si M 16 33 (0 : Int32)) 16 32 (0 : Int32)) [] 41 [] Q
    refine sX1_popped_41 (d := d) (si (si M 16 33 (0 : Int32)) 16 32 (0 : Int32)) hw ?_
    exact k
  · exact k
theorem iX1_popped_61 {E : zE} {d : Nat} {Q : zO → zM → Prop} (M : zM) (l2 : Int32) (l3 : Int32) (l4 : Int32) (l5 : Int32) (s0 : Int32) (hw : cw M) (k : if s0 = (-1 : Int32) then (Z E YX1_remove (d + 1) (si (si M 16 33 (0 : Int32)) 16 32 (0 : Int32)) (zargs 0 [vr (some (16, 0, 0)), vi l2, vi l5]) 0 [] (zafter E YX1_popped ((d + 1) + 1) [(0, vr (some (16, 0, 0))), (3, vi l3), (4, vi l4)] 68 3 [] Q)) else (vp_in s0 3000 ∧ (Z E YX1_remove (d + 1) (si (si M 16 33 (gi M 48 (s0).toNatClampNeg)) 16 32 (gi M 49 (s0).toNatClampNeg)) (zargs 0 [vr (some (16, 0, 0)), vi l2, vi l5]) 0 [] (zafter E YX1_popped ((d + 1) + 1) [(0, vr (some (16, 0, 0))), (3, vi l3), (4, vi l4)] 68 3 [] Q)))) : Z E YX1_popped (d + 2) M [(0, vr (some (16, 0, 0))), (2, vi l2), (3, vi l3), (4, vi l4), (5, vi l5)] 61 [vi s0, vr (some (16, 0, 0))] Q := by
  refine sX1_popped_61 (d := (d + 1)) M l2 l3 l4 l5 s0 hw ?_
  refine jX1_givesProperty (d := d) M s0 hw ?_
  refine zite k (fun h14651 k => ?_) (fun h14651 k => ?_)
  · show Z E YX1_popped ((d + 1) + 1) (si (si M 16 33 (0 : Int32)) 16 32 (0 : Int32)) [(0, vr (some (16, 0, 0))), (2, vi l2), (3, vi l3), (4, vi l4), (5, vi l5)] 64 [] Q
    refine sX1_popped_64 (d := (d + 1)) (si (si M 16 33 (0 : Int32)) 16 32 (0 : Int32)) l2 l3 l4 l5 hw ?_
    exact k
  · refine zand k (fun h14652 k => ?_)
    show Z E YX1_popped ((d + 1) + 1) (si (si M 16 33 (gi M 48 (s0).toNatClampNeg)) 16 32 (gi M 49 (s0).toNatClampNeg)) [(0, vr (some (16, 0, 0))), (2, vi l2), (3, vi l3), (4, vi l4), (5, vi l5)] 64 [] Q
    refine sX1_popped_64 (d := (d + 1)) (si (si M 16 33 (gi M 48 (s0).toNatClampNeg)) 16 32 (gi M 49 (s0).toNatClampNeg)) l2 l3 l4 l5 hw ?_
    exact k
theorem iX1_pushed_0 {E : zE} {d : Nat} {Q : zO → zM → Prop} (M : zM) (l1 : Int32) (l2 : Int32) (l3 : Int32) (l4 : Int32) (hw : cw M) (k : if l1 = (7 : Int32) then (vp_in l2 300 ∧ (if (gi M 38 (l2).toNatClampNeg) = (2 : Int32) then (Z E YX1_own d M (zargs 0 [vr (some (16, 0, 0)), vi l2, vi (0 : Int32)]) 0 [] (zafter E YX1_pushed (d + 1) [(0, vr (some (16, 0, 0))), (2, vi l2), (3, vi l3), (4, vi l4)] 22 3 [vr (some (49, 100, 3000))] Q)) else (Z E YX1_error d M (zargs 0 [vr (some (16, 0, 0)), vi (0 : Int32)]) 0 [] (zafter E YX1_pushed (d + 1) [] 11 3 [] Q)))) else (Z E YX1_error d M (zargs 0 [vr (some (16, 0, 0)), vi (0 : Int32)]) 0 [] (zafter E YX1_pushed (d + 1) [] 11 3 [] Q))) : Z E YX1_pushed (d + 1) M [(0, vr (some (16, 0, 0))), (1, vi l1), (2, vi l2), (3, vi l3), (4, vi l4)] 0 [] Q := by
  refine sX1_pushed_0 (d := d) M l1 l2 l3 l4 hw ?_
  refine sX1_isArray_0 (d := d) M l1 l2 hw ?_
  refine zite k (fun h14654 k => ?_) (fun h14654 k => ?_)
  · refine zand k (fun h14655 k => ?_)
    refine zite k (fun h14656 k => ?_) (fun h14656 k => ?_)
    · show Z E YX1_pushed (d + 1) M [(0, vr (some (16, 0, 0))), (2, vi l2), (3, vi l3), (4, vi l4)] 6 [vi (1 : Int32)] Q
      refine sX1_pushed_6 (d := d) M l2 l3 l4 (1 : Int32) hw ?_
      refine zneg (show ¬ ((1 : Int32) = 0) from by decide) ?_
      exact k
    · show Z E YX1_pushed (d + 1) M [(0, vr (some (16, 0, 0))), (2, vi l2), (3, vi l3), (4, vi l4)] 6 [vi (0 : Int32)] Q
      refine sX1_pushed_6 (d := d) M l2 l3 l4 (0 : Int32) hw ?_
      refine zpos (show (0 : Int32) = 0 from by decide) ?_
      exact k
  · show Z E YX1_pushed (d + 1) M [(0, vr (some (16, 0, 0))), (2, vi l2), (3, vi l3), (4, vi l4)] 6 [vi (0 : Int32)] Q
    refine sX1_pushed_6 (d := d) M l2 l3 l4 (0 : Int32) hw ?_
    refine zpos (show (0 : Int32) = 0 from by decide) ?_
    exact k
theorem iX1_pushed_43 {E : zE} {d : Nat} {Q : zO → zM → Prop} (M : zM) (l2 : Int32) (l5 : Int32) (hw : cw M) (k : if (l5 + (1 : Int32)) < (100 : Int32) then (Z E YX1_own d M (zargs 0 [vr (some (16, 0, 0)), vi l2, vi (0 : Int32)]) 0 [] (zafter E YX1_pushed (d + 1) [(0, vr (some (16, 0, 0))), (5, vi (l5 + (1 : Int32)))] 61 3 [vr (some (49, 100, 3000))] Q)) else (Z E YX1_own d M (zargs 0 [vr (some (16, 0, 0)), vi l2, vi (0 : Int32)]) 0 [] (zafter E YX1_pushed (d + 1) [(0, vr (some (16, 0, 0))), (5, vi (100 : Int32))] 61 3 [vr (some (49, 100, 3000))] Q))) : Z E YX1_pushed (d + 1) M [(0, vr (some (16, 0, 0))), (2, vi l2), (5, vi l5)] 43 [] Q := by
  refine sX1_pushed_43 (d := d) M l2 l5 hw ?_
  refine sJ11_min_0 (d := d) M (100 : Int32) (l5 + (1 : Int32)) ?_
  refine zite k (fun h14659 k => ?_) (fun h14659 k => ?_)
  · show Z E YX1_pushed (d + 1) M [(0, vr (some (16, 0, 0))), (2, vi l2)] 52 [vi (l5 + (1 : Int32))] Q
    refine sX1_pushed_52 (d := d) M l2 (l5 + (1 : Int32)) hw ?_
    exact k
  · show Z E YX1_pushed (d + 1) M [(0, vr (some (16, 0, 0))), (2, vi l2)] 52 [vi (100 : Int32)] Q
    refine sX1_pushed_52 (d := d) M l2 (100 : Int32) hw ?_
    exact k
theorem iX1_pushed_64 {E : zE} {d : Nat} {Q : zO → zM → Prop} (M : zM) (l5 : Int32) (s0 : Int32) (hw : cw M) (k : vp_in s0 3000 ∧ (Q (.inl none) (si (si (si M 49 (s0).toNatClampNeg l5) 16 33 (5 : Int32)) 16 32 l5))) : Z E YX1_pushed (d + 1) M [(0, vr (some (16, 0, 0))), (5, vi l5)] 64 [vi s0, vr (some (49, 100, 3000))] Q := by
  refine sX1_pushed_64 (d := d) M l5 s0 hw ?_
  refine zand k (fun h14660 k => ?_)
  refine sX1_gives_0 (d := d) (si M 49 (s0).toNatClampNeg l5) (5 : Int32) l5 hw ?_
  show Z E YX1_pushed (d + 1) (si (si (si M 49 (s0).toNatClampNeg l5) 16 33 (5 : Int32)) 16 32 l5) [] 74 [] Q
  refine sX1_pushed_74 (d := d) (si (si (si M 49 (s0).toNatClampNeg l5) 16 33 (5 : Int32)) 16 32 l5) hw ?_
  exact k
theorem iX1_readsKey_0 {E : zE} {d : Nat} {Q : zO → zM → Prop} (M : zM) (hw : cw M) (k : vp_in ((gi M 16 38) - (2 : Int32)) 14500 ∧ (Z E YX1_textOf d M (zargs 0 [vr (some (16, 0, 0)), vi (gi M 53 (((gi M 16 38) - (2 : Int32))).toNatClampNeg), vi (gi M 54 (((gi M 16 38) - (2 : Int32))).toNatClampNeg)]) 0 [] (zafter E YX1_readsKey (d + 1) [(0, vr (some (16, 0, 0)))] 23 3 [] Q))) : Z E YX1_readsKey (d + 1) M [(0, vr (some (16, 0, 0)))] 0 [] Q := by
  refine sX1_readsKey_0 (d := d) M hw ?_
  refine zand k (fun h14661 k => ?_)
  refine ⟨h14661, ?_⟩
  exact k
theorem iX1_readsKey_26 {E : zE} {d : Nat} {Q : zO → zM → Prop} (M : zM) (s0 : Int32) (hw : cw M) (k : vp_in ((gi M 16 38) - (1 : Int32)) 14500 ∧ (if (gi M 53 (((gi M 16 38) - (1 : Int32))).toNatClampNeg) = (7 : Int32) then (Z E YX1_find d M (zargs 0 [vr (some (16, 0, 0)), vi (gi M 54 (((gi M 16 38) - (1 : Int32))).toNatClampNeg), vi s0]) 0 [] (zafter E YX1_readsKey (d + 1) [] 63 3 [vr (some (16, 0, 0))] Q)) else (Z E YX1_error d M (zargs 0 [vr (some (16, 0, 0)), vi (0 : Int32)]) 0 [] (zafter E YX1_readsKey (d + 1) [] 45 3 [] Q)))) : Z E YX1_readsKey (d + 1) M [(0, vr (some (16, 0, 0)))] 26 [vi s0] Q := by
  refine sX1_readsKey_26 (d := d) M s0 hw ?_
  refine zand k (fun h14662 k => ?_)
  refine zite k (fun h14663 k => ?_) (fun h14663 k => ?_)
  · refine ⟨h14662, ?_⟩
    exact k
  · exact k
theorem iX1_readsKey_66 {E : zE} {d : Nat} {Q : zO → zM → Prop} (M : zM) (s0 : Int32) (hw : cw M) (k : if s0 = (-1 : Int32) then (Q (.inl none) (si (si M 16 33 (3 : Int32)) 16 32 (0 : Int32))) else (Q (.inl none) (si (si M 16 33 (2 : Int32)) 16 32 (0 : Int32)))) : Z E YX1_readsKey (d + 2) M [] 66 [vi s0, vr (some (16, 0, 0))] Q := by
  refine sX1_readsKey_66 (d := (d + 1)) M s0 hw ?_
  refine zite k (fun h14665 k => ?_) (fun h14665 k => ?_)
  · refine jX1_givesTruth (d := d) M (0 : Int32) hw ?_
    refine zpos (show (0 : Int32) = 0 from by decide) ?_
    show Z E YX1_readsKey ((d + 1) + 1) (si (si M 16 33 (3 : Int32)) 16 32 (0 : Int32)) [] 78 [] Q
    refine sX1_readsKey_78 (d := (d + 1)) (si (si M 16 33 (3 : Int32)) 16 32 (0 : Int32)) hw ?_
    exact k
  · refine jX1_givesTruth (d := d) M (1 : Int32) hw ?_
    refine zneg (show ¬ ((1 : Int32) = 0) from by decide) ?_
    show Z E YX1_readsKey ((d + 1) + 1) (si (si M 16 33 (2 : Int32)) 16 32 (0 : Int32)) [] 78 [] Q
    refine sX1_readsKey_78 (d := (d + 1)) (si (si M 16 33 (2 : Int32)) 16 32 (0 : Int32)) hw ?_
    exact k
theorem iX1_readsNumber_0 {E : zE} {d : Nat} {Q : zO → zM → Prop} (M : zM) (l1 : Int32) (hw : cw M) (k : ∃ b14667 m14667 : Nat, (gr M 17 1) = some (b14667, 100, m14667) ∧ (vp_in (l1 + (1 : Int32)) m14667 ∧ (vp_in l1 m14667 ∧ (if ((gi M b14667 ((l1 + (1 : Int32))).toNatClampNeg) - (gi M b14667 (l1).toNatClampNeg)) ≤ 0 then (Z E YX1_readsNumber (d + 1) M [(0, vr (some (16, 0, 0))), (1, vi l1), (2, vi ((gi M b14667 ((l1 + (1 : Int32))).toNatClampNeg) - (gi M b14667 (l1).toNatClampNeg)))] 32 [vi (0 : Int32)] Q) else (∃ b14671 m14671 : Nat, (gr M 17 0) = some (b14671, 101, m14671) ∧ (vp_in ((gi M b14667 (l1).toNatClampNeg) + (0 : Int32)) m14671 ∧ (if (gi M b14671 (((gi M b14667 (l1).toNatClampNeg) + (0 : Int32))).toNatClampNeg) = (45 : Int32) then (Z E YX1_readsNumber (d + 1) M [(0, vr (some (16, 0, 0))), (1, vi l1), (2, vi ((gi M b14667 ((l1 + (1 : Int32))).toNatClampNeg) - (gi M b14667 (l1).toNatClampNeg)))] 32 [vi (1 : Int32)] Q) else (Z E YX1_readsNumber (d + 1) M [(0, vr (some (16, 0, 0))), (1, vi l1), (2, vi ((gi M b14667 ((l1 + (1 : Int32))).toNatClampNeg) - (gi M b14667 (l1).toNatClampNeg)))] 32 [vi (0 : Int32)] Q)))))))) : Z E YX1_readsNumber (d + 1) M [(0, vr (some (16, 0, 0))), (1, vi l1)] 0 [] Q := by
  refine sX1_readsNumber_0 (d := d) M l1 hw ?_
  refine jX2_length (d := d) M 17 l1 ?_
  obtain ⟨b14667, m14667, h14667, k⟩ := k
  refine ⟨b14667, m14667, h14667, ?_⟩
  refine zand k (fun h14668 k => ?_)
  refine zand k (fun h14669 k => ?_)
  show Z E YX1_readsNumber (d + 1) M [(0, vr (some (16, 0, 0))), (1, vi l1)] 8 [vi ((gi M b14667 ((l1 + (1 : Int32))).toNatClampNeg) - (gi M b14667 (l1).toNatClampNeg))] Q
  refine sX1_readsNumber_8 (d := d) M l1 ((gi M b14667 ((l1 + (1 : Int32))).toNatClampNeg) - (gi M b14667 (l1).toNatClampNeg)) hw ?_
  refine zite k (fun h14670 k => ?_) (fun h14670 k => ?_)
  · exact k
  · refine sX2_sign_0 (d := d) M 17 l1 (0 : Int32) ?_
    refine ⟨b14667, m14667, h14667, ?_⟩
    refine ⟨h14669, ?_⟩
    obtain ⟨b14671, m14671, h14671, k⟩ := k
    refine ⟨b14671, m14671, h14671, ?_⟩
    refine zand k (fun h14672 k => ?_)
    show Z E YX1_readsNumber (d + 1) M [(0, vr (some (16, 0, 0))), (1, vi l1), (2, vi ((gi M b14667 ((l1 + (1 : Int32))).toNatClampNeg) - (gi M b14667 (l1).toNatClampNeg)))] 22 [vi (gi M b14671 (((gi M b14667 (l1).toNatClampNeg) + (0 : Int32))).toNatClampNeg)] Q
    refine sX1_readsNumber_22 (d := d) M l1 ((gi M b14667 ((l1 + (1 : Int32))).toNatClampNeg) - (gi M b14667 (l1).toNatClampNeg)) (gi M b14671 (((gi M b14667 (l1).toNatClampNeg) + (0 : Int32))).toNatClampNeg) hw ?_
    exact k
theorem iX1_readsNumber_60 {E : zE} {d : Nat} {Q : zO → zM → Prop} (M : zM) (l1 : Int32) (l2 : Int32) (l3 : Int32) (l4 : Int64) (l6 : Int32) (hw : cw M) (k : if l2 ≤ l6 then (if l3 = (1 : Int32) then (if (lg_cmp (-l4) (((-l4)).toInt32).toInt64) = 0 then (Q (.inl (some (vi (1 : Int32)))) (si M 16 32 ((-l4)).toInt32)) else (Q (.inl (some (vi (0 : Int32)))) (si M 16 32 ((-l4)).toInt32))) else (if (lg_cmp l4 ((l4).toInt32).toInt64) = 0 then (Q (.inl (some (vi (1 : Int32)))) (si M 16 32 (l4).toInt32)) else (Q (.inl (some (vi (0 : Int32)))) (si M 16 32 (l4).toInt32)))) else (∃ b14681 m14681 : Nat, (gr M 17 1) = some (b14681, 100, m14681) ∧ (vp_in l1 m14681 ∧ (∃ b14683 m14683 : Nat, (gr M 17 0) = some (b14683, 101, m14683) ∧ (vp_in ((gi M b14681 (l1).toNatClampNeg) + l6) m14683 ∧ (if (gi M b14683 (((gi M b14681 (l1).toNatClampNeg) + l6)).toNatClampNeg) < (48 : Int32) then (Q (.inl (some (vi (0 : Int32)))) M) else (if (57 : Int32) < (gi M b14683 (((gi M b14681 (l1).toNatClampNeg) + l6)).toNatClampNeg) then (Q (.inl (some (vi (0 : Int32)))) M) else (Z E YX1_readsNumber (d + 1) M [(0, vr (some (16, 0, 0))), (1, vi l1), (2, vi l2), (3, vi l3), (4, vl ((((10 : Int64) * l4) + ((gi M b14683 (((gi M b14681 (l1).toNatClampNeg) + l6)).toNatClampNeg)).toInt64) - (48 : Int64))), (6, vi (l6 + (1 : Int32)))] 60 [] Q)))))))) : Z E YX1_readsNumber (d + 1) M [(0, vr (some (16, 0, 0))), (1, vi l1), (2, vi l2), (3, vi l3), (4, vl l4), (6, vi l6)] 60 [] Q := by
  refine sX1_readsNumber_60 (d := d) M l1 l2 l3 l4 l6 hw ?_
  refine zite k (fun h14677 k => ?_) (fun h14677 k => ?_)
  · refine zite k (fun h14678 k => ?_) (fun h14678 k => ?_)
    · refine sX1_readsNumber_127 (d := d) M (-l4) hw ?_
      exact k
    · refine sX1_readsNumber_127 (d := d) M l4 hw ?_
      exact k
  · refine sX2_sign_0 (d := d) M 17 l1 l6 ?_
    obtain ⟨b14681, m14681, h14681, k⟩ := k
    refine ⟨b14681, m14681, h14681, ?_⟩
    refine zand k (fun h14682 k => ?_)
    obtain ⟨b14683, m14683, h14683, k⟩ := k
    refine ⟨b14683, m14683, h14683, ?_⟩
    refine zand k (fun h14684 k => ?_)
    show Z E YX1_readsNumber (d + 1) M [(0, vr (some (16, 0, 0))), (1, vi l1), (2, vi l2), (3, vi l3), (4, vl l4), (6, vi l6)] 76 [vi (gi M b14683 (((gi M b14681 (l1).toNatClampNeg) + l6)).toNatClampNeg)] Q
    refine sX1_readsNumber_76 (d := d) M l1 l2 l3 l4 l6 (gi M b14683 (((gi M b14681 (l1).toNatClampNeg) + l6)).toNatClampNeg) hw ?_
    refine sX1_digit_0 (d := d) M (gi M b14683 (((gi M b14681 (l1).toNatClampNeg) + l6)).toNatClampNeg) hw ?_
    refine zite k (fun h14685 k => ?_) (fun h14685 k => ?_)
    · show Z E YX1_readsNumber (d + 1) M [(0, vr (some (16, 0, 0))), (1, vi l1), (2, vi l2), (3, vi l3), (4, vl l4), (6, vi l6)] 79 [vi (0 : Int32)] Q
      refine sX1_readsNumber_79 (d := d) M l1 l2 l3 l4 l6 (0 : Int32) hw ?_
      refine zpos (show (0 : Int32) = 0 from by decide) ?_
      exact k
    · refine zite k (fun h14686 k => ?_) (fun h14686 k => ?_)
      · show Z E YX1_readsNumber (d + 1) M [(0, vr (some (16, 0, 0))), (1, vi l1), (2, vi l2), (3, vi l3), (4, vl l4), (6, vi l6)] 79 [vi (0 : Int32)] Q
        refine sX1_readsNumber_79 (d := d) M l1 l2 l3 l4 l6 (0 : Int32) hw ?_
        refine zpos (show (0 : Int32) = 0 from by decide) ?_
        exact k
      · show Z E YX1_readsNumber (d + 1) M [(0, vr (some (16, 0, 0))), (1, vi l1), (2, vi l2), (3, vi l3), (4, vl l4), (6, vi l6)] 79 [vi (1 : Int32)] Q
        refine sX1_readsNumber_79 (d := d) M l1 l2 l3 l4 l6 (1 : Int32) hw ?_
        refine zneg (show ¬ ((1 : Int32) = 0) from by decide) ?_
        refine sX2_sign_0 (d := d) M 17 l1 l6 ?_
        refine ⟨b14681, m14681, h14681, ?_⟩
        refine ⟨h14682, ?_⟩
        refine ⟨b14683, m14683, h14683, ?_⟩
        refine ⟨h14684, ?_⟩
        show Z E YX1_readsNumber (d + 1) M [(0, vr (some (16, 0, 0))), (1, vi l1), (2, vi l2), (3, vi l3), (6, vi l6)] 100 [vi (gi M b14683 (((gi M b14681 (l1).toNatClampNeg) + l6)).toNatClampNeg), vl ((10 : Int64) * l4)] Q
        refine sX1_readsNumber_100 (d := d) M l1 l2 l3 l6 (gi M b14683 (((gi M b14681 (l1).toNatClampNeg) + l6)).toNatClampNeg) ((10 : Int64) * l4) hw ?_
        exact k
theorem iX1_remove_10 {E : zE} {d : Nat} {Q : zO → zM → Prop} (M : zM) (l1 : Int32) (l2 : Int32) (l3 : Int32) (l4 : Int32) (hw : cw M) (k : if l3 = (-1 : Int32) then (Z E YX1_remove d M [(0, vr (some (16, 0, 0))), (1, vi l1), (3, vi l3), (4, vi l4)] 38 [] Q) else (vp_in l3 3000 ∧ (if (gi M 46 (l3).toNatClampNeg) = l2 then (Z E YX1_remove d M [(0, vr (some (16, 0, 0))), (1, vi l1), (3, vi l3), (4, vi l4)] 38 [] Q) else (Z E YX1_remove d M [(0, vr (some (16, 0, 0))), (1, vi l1), (2, vi l2), (3, vi (gi M 47 (l3).toNatClampNeg)), (4, vi l3)] 10 [] Q)))) : Z E YX1_remove d M [(0, vr (some (16, 0, 0))), (1, vi l1), (2, vi l2), (3, vi l3), (4, vi l4)] 10 [] Q := by
  refine sX1_remove_10 (d := d) M l1 l2 l3 l4 hw ?_
  refine zite k (fun h14688 k => ?_) (fun h14688 k => ?_)
  · exact k
  · refine zand k (fun h14689 k => ?_)
    refine zite k (fun h14690 k => ?_) (fun h14690 k => ?_)
    · exact k
    · refine ⟨h14689, ?_⟩
      exact k
theorem iX1_remove_38 {E : zE} {d : Nat} {Q : zO → zM → Prop} (M : zM) (l1 : Int32) (l3 : Int32) (l4 : Int32) (hw : cw M) (k : if l3 = (-1 : Int32) then (Q (.inl none) M) else (if l4 = (-1 : Int32) then (vp_in l3 3000 ∧ (vp_in l1 300 ∧ (if (gi M 44 (l1).toNatClampNeg) = l3 then (Q (.inl none) (si (si (si (si M 43 (l1).toNatClampNeg (vp_nar .short (gi M 47 (l3).toNatClampNeg))) 44 (l1).toNatClampNeg (vp_nar .short (l4).toInt16.toInt32)) 47 (l3).toNatClampNeg (vp_nar .short ((gi M 16 28)).toInt16.toInt32)) 16 28 l3)) else (Q (.inl none) (si (si (si M 43 (l1).toNatClampNeg (vp_nar .short (gi M 47 (l3).toNatClampNeg))) 47 (l3).toNatClampNeg (vp_nar .short ((gi M 16 28)).toInt16.toInt32)) 16 28 l3))))) else (vp_in l3 3000 ∧ (vp_in l4 3000 ∧ (vp_in l1 300 ∧ (if (gi M 44 (l1).toNatClampNeg) = l3 then (Q (.inl none) (si (si (si (si M 47 (l4).toNatClampNeg (vp_nar .short (gi M 47 (l3).toNatClampNeg))) 44 (l1).toNatClampNeg (vp_nar .short (l4).toInt16.toInt32)) 47 (l3).toNatClampNeg (vp_nar .short ((gi M 16 28)).toInt16.toInt32)) 16 28 l3)) else (Q (.inl none) (si (si (si M 47 (l4).toNatClampNeg (vp_nar .short (gi M 47 (l3).toNatClampNeg))) 47 (l3).toNatClampNeg (vp_nar .short ((gi M 16 28)).toInt16.toInt32)) 16 28 l3)))))))) : Z E YX1_remove d M [(0, vr (some (16, 0, 0))), (1, vi l1), (3, vi l3), (4, vi l4)] 38 [] Q := by
  refine sX1_remove_38 (d := d) M l1 l3 l4 hw ?_
  refine zite k (fun h14691 k => ?_) (fun h14691 k => ?_)
  · exact k
  · refine zite k (fun h14692 k => ?_) (fun h14692 k => ?_)
    · refine zand k (fun h14693 k => ?_)
      refine zand k (fun h14694 k => ?_)
      refine sX1_remove_78 (d := d) (si M 43 (l1).toNatClampNeg (vp_nar .short (gi M 47 (l3).toNatClampNeg))) l1 l3 l4 hw ?_
      refine ⟨h14694, ?_⟩
      refine zite k (fun h14695 k => ?_) (fun h14695 k => ?_)
      · refine ⟨h14694, ?_⟩
        refine sX1_remove_97 (d := d) (si (si M 43 (l1).toNatClampNeg (vp_nar .short (gi M 47 (l3).toNatClampNeg))) 44 (l1).toNatClampNeg (vp_nar .short (l4).toInt16.toInt32)) l3 hw ?_
        refine ⟨h14693, ?_⟩
        exact k
      · refine sX1_remove_97 (d := d) (si M 43 (l1).toNatClampNeg (vp_nar .short (gi M 47 (l3).toNatClampNeg))) l3 hw ?_
        refine ⟨h14693, ?_⟩
        exact k
    · refine zand k (fun h14696 k => ?_)
      refine zand k (fun h14697 k => ?_)
      refine sX1_remove_78 (d := d) (si M 47 (l4).toNatClampNeg (vp_nar .short (gi M 47 (l3).toNatClampNeg))) l1 l3 l4 hw ?_
      refine zand k (fun h14698 k => ?_)
      refine zite k (fun h14699 k => ?_) (fun h14699 k => ?_)
      · refine ⟨h14698, ?_⟩
        refine sX1_remove_97 (d := d) (si (si M 47 (l4).toNatClampNeg (vp_nar .short (gi M 47 (l3).toNatClampNeg))) 44 (l1).toNatClampNeg (vp_nar .short (l4).toInt16.toInt32)) l3 hw ?_
        refine ⟨h14696, ?_⟩
        exact k
      · refine sX1_remove_97 (d := d) (si M 47 (l4).toNatClampNeg (vp_nar .short (gi M 47 (l3).toNatClampNeg))) l3 hw ?_
        refine ⟨h14696, ?_⟩
        exact k
theorem iX1_sum_24 {E : zE} {d : Nat} {Q : zO → zM → Prop} (M : zM) (l1 : Int32) (l7 : Int32) (s0 : Int32) (s1 : Int32) (hw : cw M) (k : if (s1 &&& s0) = 0 then (Q (.inl none) (si (si M 16 33 (4 : Int32)) 16 32 (0 : Int32))) else (if l1 ≤ (2 : Int32) then (Z E YX1_sum (d + 1) M [(0, vr (some (16, 0, 0))), (1, vi l1), (7, vi l7), (8, vi (gi M 16 32))] 57 [] Q) else (if (gi M 16 32) = 0 then (Q (.inl none) (si (si M 16 33 (4 : Int32)) 16 32 (0 : Int32))) else (Z E YX1_sum (d + 1) M [(0, vr (some (16, 0, 0))), (1, vi l1), (7, vi l7), (8, vi (gi M 16 32))] 57 [] Q)))) : Z E YX1_sum (d + 1) M [(0, vr (some (16, 0, 0))), (1, vi l1), (7, vi l7)] 24 [vi s0, vi s1] Q := by
  refine sX1_sum_24 (d := d) M l1 l7 s0 s1 hw ?_
  refine zite k (fun h14704 k => ?_) (fun h14704 k => ?_)
  · refine sX1_gives_0 (d := d) M (4 : Int32) (0 : Int32) hw ?_
    show Z E YX1_sum (d + 1) (si (si M 16 33 (4 : Int32)) 16 32 (0 : Int32)) [] 54 [] Q
    refine sX1_sum_54 (d := d) (si (si M 16 33 (4 : Int32)) 16 32 (0 : Int32)) hw ?_
    refine sX1_sum_118 (d := d) (si (si M 16 33 (4 : Int32)) 16 32 (0 : Int32)) hw ?_
    exact k
  · refine zite k (fun h14705 k => ?_) (fun h14705 k => ?_)
    · exact k
    · refine zite k (fun h14706 k => ?_) (fun h14706 k => ?_)
      · refine sX1_gives_0 (d := d) M (4 : Int32) (0 : Int32) hw ?_
        show Z E YX1_sum (d + 1) (si (si M 16 33 (4 : Int32)) 16 32 (0 : Int32)) [] 54 [] Q
        refine sX1_sum_54 (d := d) (si (si M 16 33 (4 : Int32)) 16 32 (0 : Int32)) hw ?_
        refine sX1_sum_118 (d := d) (si (si M 16 33 (4 : Int32)) 16 32 (0 : Int32)) hw ?_
        exact k
      · exact k
theorem iX1_sum_57 {E : zE} {d : Nat} {Q : zO → zM → Prop} (M : zM) (l1 : Int32) (l7 : Int32) (l8 : Int32) (hw : cw M) (k : if l1 = 0 then (Q (.inl none) (si (si M 16 33 (5 : Int32)) 16 32 (l7 + l8))) else (if l1 = (1 : Int32) then (Q (.inl none) (si (si M 16 33 (5 : Int32)) 16 32 (l7 - l8))) else (if l1 = (2 : Int32) then (Q (.inl none) (si (si M 16 33 (5 : Int32)) 16 32 (l7 * l8))) else (if l1 = (3 : Int32) then ((¬ l8 = 0) ∧ (Q (.inl none) (si (si M 16 33 (5 : Int32)) 16 32 (l7 / l8)))) else ((¬ l8 = 0) ∧ (Q (.inl none) (si (si M 16 33 (5 : Int32)) 16 32 (l7 - l7 / l8 * l8)))))))) : Z E YX1_sum (d + 1) M [(0, vr (some (16, 0, 0))), (1, vi l1), (7, vi l7), (8, vi l8)] 57 [] Q := by
  refine sX1_sum_57 (d := d) M l1 l7 l8 hw ?_
  refine zite k (fun h14707 k => ?_) (fun h14707 k => ?_)
  · refine sX1_gives_0 (d := d) M (5 : Int32) (l7 + l8) hw ?_
    show Z E YX1_sum (d + 1) (si (si M 16 33 (5 : Int32)) 16 32 (l7 + l8)) [] 118 [] Q
    refine sX1_sum_118 (d := d) (si (si M 16 33 (5 : Int32)) 16 32 (l7 + l8)) hw ?_
    exact k
  · refine zite k (fun h14708 k => ?_) (fun h14708 k => ?_)
    · refine sX1_gives_0 (d := d) M (5 : Int32) (l7 - l8) hw ?_
      show Z E YX1_sum (d + 1) (si (si M 16 33 (5 : Int32)) 16 32 (l7 - l8)) [] 118 [] Q
      refine sX1_sum_118 (d := d) (si (si M 16 33 (5 : Int32)) 16 32 (l7 - l8)) hw ?_
      exact k
    · refine zite k (fun h14709 k => ?_) (fun h14709 k => ?_)
      · refine sX1_gives_0 (d := d) M (5 : Int32) (l7 * l8) hw ?_
        show Z E YX1_sum (d + 1) (si (si M 16 33 (5 : Int32)) 16 32 (l7 * l8)) [] 118 [] Q
        refine sX1_sum_118 (d := d) (si (si M 16 33 (5 : Int32)) 16 32 (l7 * l8)) hw ?_
        exact k
      · refine zite k (fun h14710 k => ?_) (fun h14710 k => ?_)
        · refine zand k (fun h14711 k => ?_)
          refine sX1_gives_0 (d := d) M (5 : Int32) (l7 / l8) hw ?_
          show Z E YX1_sum (d + 1) (si (si M 16 33 (5 : Int32)) 16 32 (l7 / l8)) [] 118 [] Q
          refine sX1_sum_118 (d := d) (si (si M 16 33 (5 : Int32)) 16 32 (l7 / l8)) hw ?_
          exact k
        · refine zand k (fun h14712 k => ?_)
          refine sX1_gives_0 (d := d) M (5 : Int32) (l7 - l7 / l8 * l8) hw ?_
          show Z E YX1_sum (d + 1) (si (si M 16 33 (5 : Int32)) 16 32 (l7 - l7 / l8 * l8)) [] 118 [] Q
          refine sX1_sum_118 (d := d) (si (si M 16 33 (5 : Int32)) 16 32 (l7 - l7 / l8 * l8)) hw ?_
          exact k
theorem iX1_unary_12 {E : zE} {d : Nat} {Q : zO → zM → Prop} (M : zM) (s0 : Int32) (hw : cw M) (k : if s0 = 0 then (Q (.inl none) (si (si M 16 33 (2 : Int32)) 16 32 (0 : Int32))) else (Q (.inl none) (si (si M 16 33 (3 : Int32)) 16 32 (0 : Int32)))) : Z E YX1_unary (d + 2) M [] 12 [vi s0, vr (some (16, 0, 0))] Q := by
  refine sX1_unary_12 (d := (d + 1)) M s0 hw ?_
  refine zite k (fun h14716 k => ?_) (fun h14716 k => ?_)
  · refine jX1_givesTruth (d := d) M (1 : Int32) hw ?_
    refine zneg (show ¬ ((1 : Int32) = 0) from by decide) ?_
    show Z E YX1_unary ((d + 1) + 1) (si (si M 16 33 (2 : Int32)) 16 32 (0 : Int32)) [] 23 [] Q
    refine sX1_unary_23 (d := (d + 1)) (si (si M 16 33 (2 : Int32)) 16 32 (0 : Int32)) hw ?_
    refine sX1_unary_117 (d := (d + 1)) (si (si M 16 33 (2 : Int32)) 16 32 (0 : Int32)) hw ?_
    exact k
  · refine jX1_givesTruth (d := d) M (0 : Int32) hw ?_
    refine zpos (show (0 : Int32) = 0 from by decide) ?_
    show Z E YX1_unary ((d + 1) + 1) (si (si M 16 33 (3 : Int32)) 16 32 (0 : Int32)) [] 23 [] Q
    refine sX1_unary_23 (d := (d + 1)) (si (si M 16 33 (3 : Int32)) 16 32 (0 : Int32)) hw ?_
    refine sX1_unary_117 (d := (d + 1)) (si (si M 16 33 (3 : Int32)) 16 32 (0 : Int32)) hw ?_
    exact k
theorem iX1_unary_40 {E : zE} {d : Nat} {Q : zO → zM → Prop} (M : zM) (s0 : Int32) (s1 : Int32) (hw : cw M) (k : Q (.inl none) (si (si M 16 33 s1) 16 32 s0)) : Z E YX1_unary (d + 1) M [] 40 [vi s0, vi s1, vr (some (16, 0, 0))] Q := by
  refine sX1_unary_40 (d := d) M s0 s1 hw ?_
  refine sX1_gives_0 (d := d) M s1 s0 hw ?_
  show Z E YX1_unary (d + 1) (si (si M 16 33 s1) 16 32 s0) [] 43 [] Q
  refine sX1_unary_43 (d := d) (si (si M 16 33 s1) 16 32 s0) hw ?_
  refine sX1_unary_117 (d := d) (si (si M 16 33 s1) 16 32 s0) hw ?_
  exact k
theorem iX1_unary_52 {E : zE} {d : Nat} {Q : zO → zM → Prop} (M : zM) (l1 : Int32) (s0 : Int32) (hw : cw M) (k : if l1 = (2 : Int32) then (if s0 = 0 then (Q (.inl none) (si (si M 16 33 (5 : Int32)) 16 32 ((0 : Int32) ^^^ (-1 : Int32)))) else (Q (.inl none) (si (si M 16 33 (5 : Int32)) 16 32 ((gi M 16 32) ^^^ (-1 : Int32))))) else (if s0 = 0 then (Q (.inl none) (si (si M 16 33 (4 : Int32)) 16 32 (0 : Int32))) else (if l1 = 0 then (Q (.inl none) (si (si M 16 33 (5 : Int32)) 16 32 (gi M 16 32))) else (Q (.inl none) (si (si M 16 33 (5 : Int32)) 16 32 (-(gi M 16 32))))))) : Z E YX1_unary (d + 1) M [(0, vr (some (16, 0, 0))), (1, vi l1)] 52 [vi s0] Q := by
  refine sX1_unary_52 (d := d) M l1 s0 hw ?_
  refine zite k (fun h14717 k => ?_) (fun h14717 k => ?_)
  · refine zite k (fun h14718 k => ?_) (fun h14718 k => ?_)
    · refine sX1_gives_0 (d := d) M (5 : Int32) ((0 : Int32) ^^^ (-1 : Int32)) hw ?_
      show Z E YX1_unary (d + 1) (si (si M 16 33 (5 : Int32)) 16 32 ((0 : Int32) ^^^ (-1 : Int32))) [] 79 [] Q
      refine sX1_unary_79 (d := d) (si (si M 16 33 (5 : Int32)) 16 32 ((0 : Int32) ^^^ (-1 : Int32))) hw ?_
      refine sX1_unary_117 (d := d) (si (si M 16 33 (5 : Int32)) 16 32 ((0 : Int32) ^^^ (-1 : Int32))) hw ?_
      exact k
    · refine sX1_gives_0 (d := d) M (5 : Int32) ((gi M 16 32) ^^^ (-1 : Int32)) hw ?_
      show Z E YX1_unary (d + 1) (si (si M 16 33 (5 : Int32)) 16 32 ((gi M 16 32) ^^^ (-1 : Int32))) [] 79 [] Q
      refine sX1_unary_79 (d := d) (si (si M 16 33 (5 : Int32)) 16 32 ((gi M 16 32) ^^^ (-1 : Int32))) hw ?_
      refine sX1_unary_117 (d := d) (si (si M 16 33 (5 : Int32)) 16 32 ((gi M 16 32) ^^^ (-1 : Int32))) hw ?_
      exact k
  · refine zite k (fun h14719 k => ?_) (fun h14719 k => ?_)
    · refine sX1_gives_0 (d := d) M (4 : Int32) (0 : Int32) hw ?_
      show Z E YX1_unary (d + 1) (si (si M 16 33 (4 : Int32)) 16 32 (0 : Int32)) [] 93 [] Q
      refine sX1_unary_93 (d := d) (si (si M 16 33 (4 : Int32)) 16 32 (0 : Int32)) hw ?_
      refine sX1_unary_117 (d := d) (si (si M 16 33 (4 : Int32)) 16 32 (0 : Int32)) hw ?_
      exact k
    · refine zite k (fun h14720 k => ?_) (fun h14720 k => ?_)
      · refine sX1_gives_0 (d := d) M (5 : Int32) (gi M 16 32) hw ?_
        show Z E YX1_unary (d + 1) (si (si M 16 33 (5 : Int32)) 16 32 (gi M 16 32)) [] 117 [] Q
        refine sX1_unary_117 (d := d) (si (si M 16 33 (5 : Int32)) 16 32 (gi M 16 32)) hw ?_
        exact k
      · refine sX1_gives_0 (d := d) M (5 : Int32) (-(gi M 16 32)) hw ?_
        show Z E YX1_unary (d + 1) (si (si M 16 33 (5 : Int32)) 16 32 (-(gi M 16 32))) [] 117 [] Q
        refine sX1_unary_117 (d := d) (si (si M 16 33 (5 : Int32)) 16 32 (-(gi M 16 32))) hw ?_
        exact k
theorem iX1_comeBack_0 {E : zE} {d : Nat} {Q : zO → zM → Prop} (M : zM) (l1 : Int32) (l2 : Int32) (hw : cw M) (k : vp_in l2 14500 ∧ (vp_in l1 24 ∧ (if (gi M 61 (l1).toNatClampNeg) = (-1 : Int32) then (if ((gi M 16 49) - (1 : Int32)) = 0 then (Q (.inl none) (si (si (si (si M 16 38 (gi M 60 (l1).toNatClampNeg)) 16 50 (gi M 62 (l1).toNatClampNeg)) 16 49 ((gi M 16 49) - (1 : Int32))) 16 51 (2 : Int32))) else (vp_in (gi M 60 (l1).toNatClampNeg) 14500 ∧ (Q (.inl none) (si (si (si (si (si (si M 16 38 (gi M 60 (l1).toNatClampNeg)) 16 50 (gi M 62 (l1).toNatClampNeg)) 16 49 ((gi M 16 49) - (1 : Int32))) 53 ((gi M 60 (l1).toNatClampNeg)).toNatClampNeg (vp_nar .byte ((gi M 53 (l2).toNatClampNeg)).toInt8.toInt32)) 16 38 ((gi M 60 (l1).toNatClampNeg) + (1 : Int32))) 54 ((gi M 60 (l1).toNatClampNeg)).toNatClampNeg (gi M 54 (l2).toNatClampNeg))))) else (if (gi M 53 (l2).toNatClampNeg) = (7 : Int32) then (if ((gi M 16 49) - (1 : Int32)) = 0 then (Q (.inl none) (si (si (si (si M 16 38 (gi M 60 (l1).toNatClampNeg)) 16 50 (gi M 62 (l1).toNatClampNeg)) 16 49 ((gi M 16 49) - (1 : Int32))) 16 51 (2 : Int32))) else (vp_in (gi M 60 (l1).toNatClampNeg) 14500 ∧ (Q (.inl none) (si (si (si (si (si (si M 16 38 (gi M 60 (l1).toNatClampNeg)) 16 50 (gi M 62 (l1).toNatClampNeg)) 16 49 ((gi M 16 49) - (1 : Int32))) 53 ((gi M 60 (l1).toNatClampNeg)).toNatClampNeg (vp_nar .byte ((gi M 53 (l2).toNatClampNeg)).toInt8.toInt32)) 16 38 ((gi M 60 (l1).toNatClampNeg) + (1 : Int32))) 54 ((gi M 60 (l1).toNatClampNeg)).toNatClampNeg (gi M 54 (l2).toNatClampNeg))))) else (if ((gi M 16 49) - (1 : Int32)) = 0 then (Q (.inl none) (si (si (si (si M 16 38 (gi M 60 (l1).toNatClampNeg)) 16 50 (gi M 62 (l1).toNatClampNeg)) 16 49 ((gi M 16 49) - (1 : Int32))) 16 51 (2 : Int32))) else (vp_in (gi M 60 (l1).toNatClampNeg) 14500 ∧ (Q (.inl none) (si (si (si (si (si (si M 16 38 (gi M 60 (l1).toNatClampNeg)) 16 50 (gi M 62 (l1).toNatClampNeg)) 16 49 ((gi M 16 49) - (1 : Int32))) 53 ((gi M 60 (l1).toNatClampNeg)).toNatClampNeg (vp_nar .byte ((7 : Int32)).toInt8.toInt32)) 16 38 ((gi M 60 (l1).toNatClampNeg) + (1 : Int32))) 54 ((gi M 60 (l1).toNatClampNeg)).toNatClampNeg (gi M 61 (l1).toNatClampNeg))))))))) : Z E YX1_comeBack (d + 1) M [(0, vr (some (16, 0, 0))), (1, vi l1), (2, vi l2)] 0 [] Q := by
  refine sX1_comeBack_0 (d := d) M l1 l2 hw ?_
  refine zand k (fun h14721 k => ?_)
  refine ⟨h14721, ?_⟩
  refine zand k (fun h14722 k => ?_)
  refine zite k (fun h14723 k => ?_) (fun h14723 k => ?_)
  · refine sX1_comeBack_42 (d := d) M l1 (gi M 53 (l2).toNatClampNeg) (gi M 54 (l2).toNatClampNeg) hw ?_
    refine ⟨h14722, ?_⟩
    refine ⟨h14722, ?_⟩
    refine zite k (fun h14724 k => ?_) (fun h14724 k => ?_)
    · refine sX1_comeBack_94 (d := d) (si (si (si (si M 16 38 (gi M 60 (l1).toNatClampNeg)) 16 50 (gi M 62 (l1).toNatClampNeg)) 16 49 ((gi M 16 49) - (1 : Int32))) 16 51 (2 : Int32)) hw ?_
      exact k
    · refine jX1_push (d := d) (si (si (si M 16 38 (gi M 60 (l1).toNatClampNeg)) 16 50 (gi M 62 (l1).toNatClampNeg)) 16 49 ((gi M 16 49) - (1 : Int32))) (gi M 53 (l2).toNatClampNeg) (gi M 54 (l2).toNatClampNeg) hw ?_
      refine zand k (fun h14725 k => ?_)
      show Z E YX1_comeBack (d + 1) (si (si (si (si (si (si M 16 38 (gi M 60 (l1).toNatClampNeg)) 16 50 (gi M 62 (l1).toNatClampNeg)) 16 49 ((gi M 16 49) - (1 : Int32))) 53 ((gi M 60 (l1).toNatClampNeg)).toNatClampNeg (vp_nar .byte ((gi M 53 (l2).toNatClampNeg)).toInt8.toInt32)) 16 38 ((gi M 60 (l1).toNatClampNeg) + (1 : Int32))) 54 ((gi M 60 (l1).toNatClampNeg)).toNatClampNeg (gi M 54 (l2).toNatClampNeg)) [] 94 [] Q
      refine sX1_comeBack_94 (d := d) (si (si (si (si (si (si M 16 38 (gi M 60 (l1).toNatClampNeg)) 16 50 (gi M 62 (l1).toNatClampNeg)) 16 49 ((gi M 16 49) - (1 : Int32))) 53 ((gi M 60 (l1).toNatClampNeg)).toNatClampNeg (vp_nar .byte ((gi M 53 (l2).toNatClampNeg)).toInt8.toInt32)) 16 38 ((gi M 60 (l1).toNatClampNeg) + (1 : Int32))) 54 ((gi M 60 (l1).toNatClampNeg)).toNatClampNeg (gi M 54 (l2).toNatClampNeg)) hw ?_
      exact k
  · refine zite k (fun h14726 k => ?_) (fun h14726 k => ?_)
    · refine sX1_comeBack_42 (d := d) M l1 (gi M 53 (l2).toNatClampNeg) (gi M 54 (l2).toNatClampNeg) hw ?_
      refine ⟨h14722, ?_⟩
      refine ⟨h14722, ?_⟩
      refine zite k (fun h14727 k => ?_) (fun h14727 k => ?_)
      · refine sX1_comeBack_94 (d := d) (si (si (si (si M 16 38 (gi M 60 (l1).toNatClampNeg)) 16 50 (gi M 62 (l1).toNatClampNeg)) 16 49 ((gi M 16 49) - (1 : Int32))) 16 51 (2 : Int32)) hw ?_
        exact k
      · refine jX1_push (d := d) (si (si (si M 16 38 (gi M 60 (l1).toNatClampNeg)) 16 50 (gi M 62 (l1).toNatClampNeg)) 16 49 ((gi M 16 49) - (1 : Int32))) (gi M 53 (l2).toNatClampNeg) (gi M 54 (l2).toNatClampNeg) hw ?_
        refine zand k (fun h14728 k => ?_)
        show Z E YX1_comeBack (d + 1) (si (si (si (si (si (si M 16 38 (gi M 60 (l1).toNatClampNeg)) 16 50 (gi M 62 (l1).toNatClampNeg)) 16 49 ((gi M 16 49) - (1 : Int32))) 53 ((gi M 60 (l1).toNatClampNeg)).toNatClampNeg (vp_nar .byte ((gi M 53 (l2).toNatClampNeg)).toInt8.toInt32)) 16 38 ((gi M 60 (l1).toNatClampNeg) + (1 : Int32))) 54 ((gi M 60 (l1).toNatClampNeg)).toNatClampNeg (gi M 54 (l2).toNatClampNeg)) [] 94 [] Q
        refine sX1_comeBack_94 (d := d) (si (si (si (si (si (si M 16 38 (gi M 60 (l1).toNatClampNeg)) 16 50 (gi M 62 (l1).toNatClampNeg)) 16 49 ((gi M 16 49) - (1 : Int32))) 53 ((gi M 60 (l1).toNatClampNeg)).toNatClampNeg (vp_nar .byte ((gi M 53 (l2).toNatClampNeg)).toInt8.toInt32)) 16 38 ((gi M 60 (l1).toNatClampNeg) + (1 : Int32))) 54 ((gi M 60 (l1).toNatClampNeg)).toNatClampNeg (gi M 54 (l2).toNatClampNeg)) hw ?_
        exact k
    · refine ⟨h14722, ?_⟩
      refine sX1_comeBack_42 (d := d) M l1 (7 : Int32) (gi M 61 (l1).toNatClampNeg) hw ?_
      refine ⟨h14722, ?_⟩
      refine ⟨h14722, ?_⟩
      refine zite k (fun h14729 k => ?_) (fun h14729 k => ?_)
      · refine sX1_comeBack_94 (d := d) (si (si (si (si M 16 38 (gi M 60 (l1).toNatClampNeg)) 16 50 (gi M 62 (l1).toNatClampNeg)) 16 49 ((gi M 16 49) - (1 : Int32))) 16 51 (2 : Int32)) hw ?_
        exact k
      · refine jX1_push (d := d) (si (si (si M 16 38 (gi M 60 (l1).toNatClampNeg)) 16 50 (gi M 62 (l1).toNatClampNeg)) 16 49 ((gi M 16 49) - (1 : Int32))) (7 : Int32) (gi M 61 (l1).toNatClampNeg) hw ?_
        refine zand k (fun h14730 k => ?_)
        show Z E YX1_comeBack (d + 1) (si (si (si (si (si (si M 16 38 (gi M 60 (l1).toNatClampNeg)) 16 50 (gi M 62 (l1).toNatClampNeg)) 16 49 ((gi M 16 49) - (1 : Int32))) 53 ((gi M 60 (l1).toNatClampNeg)).toNatClampNeg (vp_nar .byte ((7 : Int32)).toInt8.toInt32)) 16 38 ((gi M 60 (l1).toNatClampNeg) + (1 : Int32))) 54 ((gi M 60 (l1).toNatClampNeg)).toNatClampNeg (gi M 61 (l1).toNatClampNeg)) [] 94 [] Q
        refine sX1_comeBack_94 (d := d) (si (si (si (si (si (si M 16 38 (gi M 60 (l1).toNatClampNeg)) 16 50 (gi M 62 (l1).toNatClampNeg)) 16 49 ((gi M 16 49) - (1 : Int32))) 53 ((gi M 60 (l1).toNatClampNeg)).toNatClampNeg (vp_nar .byte ((7 : Int32)).toInt8.toInt32)) 16 38 ((gi M 60 (l1).toNatClampNeg) + (1 : Int32))) 54 ((gi M 60 (l1).toNatClampNeg)).toNatClampNeg (gi M 61 (l1).toNatClampNeg)) hw ?_
        exact k
theorem iX1_copyOf_0 {E : zE} {d : Nat} {Q : zO → zM → Prop} (M : zM) (l1 : Int32) (hw : cw M) (k : vp_in l1 14500 ∧ (vp_in (gi M 16 38) 14500 ∧ (Q (.inl none) (si (si (si (si (si M 53 ((gi M 16 38)).toNatClampNeg (vp_nar .byte (gi M 53 (l1).toNatClampNeg))) 54 ((gi M 16 38)).toNatClampNeg (gi M 54 (l1).toNatClampNeg)) 55 ((gi M 16 38)).toNatClampNeg (gi M 55 (l1).toNatClampNeg)) 56 ((gi M 16 38)).toNatClampNeg (gi M 56 (l1).toNatClampNeg)) 16 38 ((gi M 16 38) + (1 : Int32)))))) : Z E YX1_copyOf d M [(0, vr (some (16, 0, 0))), (1, vi l1)] 0 [] Q := by
  refine sX1_copyOf_0 (d := d) M l1 hw ?_
  refine zand k (fun h14731 k => ?_)
  refine zand k (fun h14732 k => ?_)
  refine ⟨h14731, ?_⟩
  refine ⟨h14732, ?_⟩
  refine ⟨h14731, ?_⟩
  refine ⟨h14732, ?_⟩
  refine ⟨h14731, ?_⟩
  refine ⟨h14732, ?_⟩
  exact k
theorem iX1_unwind_0 {E : zE} {d : Nat} {Q : zO → zM → Prop} (M : zM) (hw : cw M) (k : if (gi M 16 49) ≤ 0 then (if (gi M 16 49) = 0 then (Q (.inl none) (si (si (si (si M 16 38 (0 : Int32)) 16 51 (3 : Int32)) 16 54 (gi M 16 57)) 16 55 (gi M 16 58))) else (vp_in ((gi M 16 49) - (1 : Int32)) 24 ∧ (vp_in ((gi M 16 50) - (1 : Int32)) 960 ∧ (vp_in ((gi M 60 (((gi M 16 49) - (1 : Int32))).toNatClampNeg) + (gi M 66 (((gi M 16 50) - (1 : Int32))).toNatClampNeg)) 14500 ∧ (Q (.inl none) (si (si (si (si (si (si M 16 50 ((gi M 16 50) - (1 : Int32))) 16 38 ((gi M 60 (((gi M 16 49) - (1 : Int32))).toNatClampNeg) + (gi M 66 (((gi M 16 50) - (1 : Int32))).toNatClampNeg))) 53 (((gi M 60 (((gi M 16 49) - (1 : Int32))).toNatClampNeg) + (gi M 66 (((gi M 16 50) - (1 : Int32))).toNatClampNeg))).toNatClampNeg (vp_nar .byte ((gi M 16 57)).toInt8.toInt32)) 16 38 (((gi M 60 (((gi M 16 49) - (1 : Int32))).toNatClampNeg) + (gi M 66 (((gi M 16 50) - (1 : Int32))).toNatClampNeg)) + (1 : Int32))) 54 (((gi M 60 (((gi M 16 49) - (1 : Int32))).toNatClampNeg) + (gi M 66 (((gi M 16 50) - (1 : Int32))).toNatClampNeg))).toNatClampNeg (gi M 16 58)) 59 (((gi M 16 49) - (1 : Int32))).toNatClampNeg (vp_nar .short (gi M 65 (((gi M 16 50) - (1 : Int32))).toNatClampNeg)))))))) else (vp_in ((gi M 16 49) - (1 : Int32)) 24 ∧ (if (gi M 16 50) = (gi M 62 (((gi M 16 49) - (1 : Int32))).toNatClampNeg) then (Z E YX1_unwind (d + 1) (si M 16 49 ((gi M 16 49) - (1 : Int32))) [(0, vr (some (16, 0, 0)))] 0 [] Q) else (if (gi M 16 49) = 0 then (Q (.inl none) (si (si (si (si M 16 38 (0 : Int32)) 16 51 (3 : Int32)) 16 54 (gi M 16 57)) 16 55 (gi M 16 58))) else (vp_in ((gi M 16 50) - (1 : Int32)) 960 ∧ (vp_in ((gi M 60 (((gi M 16 49) - (1 : Int32))).toNatClampNeg) + (gi M 66 (((gi M 16 50) - (1 : Int32))).toNatClampNeg)) 14500 ∧ (Q (.inl none) (si (si (si (si (si (si M 16 50 ((gi M 16 50) - (1 : Int32))) 16 38 ((gi M 60 (((gi M 16 49) - (1 : Int32))).toNatClampNeg) + (gi M 66 (((gi M 16 50) - (1 : Int32))).toNatClampNeg))) 53 (((gi M 60 (((gi M 16 49) - (1 : Int32))).toNatClampNeg) + (gi M 66 (((gi M 16 50) - (1 : Int32))).toNatClampNeg))).toNatClampNeg (vp_nar .byte ((gi M 16 57)).toInt8.toInt32)) 16 38 (((gi M 60 (((gi M 16 49) - (1 : Int32))).toNatClampNeg) + (gi M 66 (((gi M 16 50) - (1 : Int32))).toNatClampNeg)) + (1 : Int32))) 54 (((gi M 60 (((gi M 16 49) - (1 : Int32))).toNatClampNeg) + (gi M 66 (((gi M 16 50) - (1 : Int32))).toNatClampNeg))).toNatClampNeg (gi M 16 58)) 59 (((gi M 16 49) - (1 : Int32))).toNatClampNeg (vp_nar .short (gi M 65 (((gi M 16 50) - (1 : Int32))).toNatClampNeg)))))))))) : Z E YX1_unwind (d + 1) M [(0, vr (some (16, 0, 0)))] 0 [] Q := by
  refine sX1_unwind_0 (d := d) M hw ?_
  refine zite k (fun h14733 k => ?_) (fun h14733 k => ?_)
  · refine sX1_unwind_38 (d := d) M hw ?_
    refine zite k (fun h14734 k => ?_) (fun h14734 k => ?_)
    · exact k
    · refine zand k (fun h14735 k => ?_)
      refine zand k (fun h14736 k => ?_)
      refine jX1_push (d := d) (si (si M 16 50 ((gi M 16 50) - (1 : Int32))) 16 38 ((gi M 60 (((gi M 16 49) - (1 : Int32))).toNatClampNeg) + (gi M 66 (((gi M 16 50) - (1 : Int32))).toNatClampNeg))) (gi M 16 57) (gi M 16 58) hw ?_
      refine zand k (fun h14737 k => ?_)
      show Z E YX1_unwind (d + 1) (si (si (si (si (si M 16 50 ((gi M 16 50) - (1 : Int32))) 16 38 ((gi M 60 (((gi M 16 49) - (1 : Int32))).toNatClampNeg) + (gi M 66 (((gi M 16 50) - (1 : Int32))).toNatClampNeg))) 53 (((gi M 60 (((gi M 16 49) - (1 : Int32))).toNatClampNeg) + (gi M 66 (((gi M 16 50) - (1 : Int32))).toNatClampNeg))).toNatClampNeg (vp_nar .byte ((gi M 16 57)).toInt8.toInt32)) 16 38 (((gi M 60 (((gi M 16 49) - (1 : Int32))).toNatClampNeg) + (gi M 66 (((gi M 16 50) - (1 : Int32))).toNatClampNeg)) + (1 : Int32))) 54 (((gi M 60 (((gi M 16 49) - (1 : Int32))).toNatClampNeg) + (gi M 66 (((gi M 16 50) - (1 : Int32))).toNatClampNeg))).toNatClampNeg (gi M 16 58)) [(0, vr (some (16, 0, 0)))] 119 [] Q
      refine sX1_unwind_119 (d := d) (si (si (si (si (si M 16 50 ((gi M 16 50) - (1 : Int32))) 16 38 ((gi M 60 (((gi M 16 49) - (1 : Int32))).toNatClampNeg) + (gi M 66 (((gi M 16 50) - (1 : Int32))).toNatClampNeg))) 53 (((gi M 60 (((gi M 16 49) - (1 : Int32))).toNatClampNeg) + (gi M 66 (((gi M 16 50) - (1 : Int32))).toNatClampNeg))).toNatClampNeg (vp_nar .byte ((gi M 16 57)).toInt8.toInt32)) 16 38 (((gi M 60 (((gi M 16 49) - (1 : Int32))).toNatClampNeg) + (gi M 66 (((gi M 16 50) - (1 : Int32))).toNatClampNeg)) + (1 : Int32))) 54 (((gi M 60 (((gi M 16 49) - (1 : Int32))).toNatClampNeg) + (gi M 66 (((gi M 16 50) - (1 : Int32))).toNatClampNeg))).toNatClampNeg (gi M 16 58)) hw ?_
      refine ⟨h14736, ?_⟩
      refine ⟨h14735, ?_⟩
      exact k
  · refine zand k (fun h14738 k => ?_)
    refine zite k (fun h14739 k => ?_) (fun h14739 k => ?_)
    · exact k
    · refine sX1_unwind_38 (d := d) M hw ?_
      refine zite k (fun h14740 k => ?_) (fun h14740 k => ?_)
      · exact k
      · refine ⟨h14738, ?_⟩
        refine zand k (fun h14741 k => ?_)
        refine jX1_push (d := d) (si (si M 16 50 ((gi M 16 50) - (1 : Int32))) 16 38 ((gi M 60 (((gi M 16 49) - (1 : Int32))).toNatClampNeg) + (gi M 66 (((gi M 16 50) - (1 : Int32))).toNatClampNeg))) (gi M 16 57) (gi M 16 58) hw ?_
        refine zand k (fun h14742 k => ?_)
        show Z E YX1_unwind (d + 1) (si (si (si (si (si M 16 50 ((gi M 16 50) - (1 : Int32))) 16 38 ((gi M 60 (((gi M 16 49) - (1 : Int32))).toNatClampNeg) + (gi M 66 (((gi M 16 50) - (1 : Int32))).toNatClampNeg))) 53 (((gi M 60 (((gi M 16 49) - (1 : Int32))).toNatClampNeg) + (gi M 66 (((gi M 16 50) - (1 : Int32))).toNatClampNeg))).toNatClampNeg (vp_nar .byte ((gi M 16 57)).toInt8.toInt32)) 16 38 (((gi M 60 (((gi M 16 49) - (1 : Int32))).toNatClampNeg) + (gi M 66 (((gi M 16 50) - (1 : Int32))).toNatClampNeg)) + (1 : Int32))) 54 (((gi M 60 (((gi M 16 49) - (1 : Int32))).toNatClampNeg) + (gi M 66 (((gi M 16 50) - (1 : Int32))).toNatClampNeg))).toNatClampNeg (gi M 16 58)) [(0, vr (some (16, 0, 0)))] 119 [] Q
        refine sX1_unwind_119 (d := d) (si (si (si (si (si M 16 50 ((gi M 16 50) - (1 : Int32))) 16 38 ((gi M 60 (((gi M 16 49) - (1 : Int32))).toNatClampNeg) + (gi M 66 (((gi M 16 50) - (1 : Int32))).toNatClampNeg))) 53 (((gi M 60 (((gi M 16 49) - (1 : Int32))).toNatClampNeg) + (gi M 66 (((gi M 16 50) - (1 : Int32))).toNatClampNeg))).toNatClampNeg (vp_nar .byte ((gi M 16 57)).toInt8.toInt32)) 16 38 (((gi M 60 (((gi M 16 49) - (1 : Int32))).toNatClampNeg) + (gi M 66 (((gi M 16 50) - (1 : Int32))).toNatClampNeg)) + (1 : Int32))) 54 (((gi M 60 (((gi M 16 49) - (1 : Int32))).toNatClampNeg) + (gi M 66 (((gi M 16 50) - (1 : Int32))).toNatClampNeg))).toNatClampNeg (gi M 16 58)) hw ?_
        refine ⟨h14741, ?_⟩
        refine ⟨h14738, ?_⟩
        exact k
theorem jX42_grown {E : zE} {d : Nat} {Q : zO → zM → Prop} (M : zM) (a0 : Nat) (r1 : Option zP) (k : ∃ b14765 m14765 : Nat, r1 = some (b14765, 105, m14765) ∧ ((¬ ((2 : Int32) * (Int32.ofNat m14765)) < 0 ∧ (((2 : Int32) * (Int32.ofNat m14765))).toNatClampNeg * 8 ≤ 536870912) ∧ (16 ≤ (zsz M) ∧ ((1 ≤ d) ∧ (((¬ (0 : Int32) < 0 ∧ ¬ (0 : Int32) < 0 ∧ ¬ (gi (zn M (((2 : Int32) * (Int32.ofNat m14765))).toNatClampNeg) a0 19) < 0) ∧ ((0 : Int32)).toNatClampNeg + ((gi (zn M (((2 : Int32) * (Int32.ofNat m14765))).toNatClampNeg) a0 19)).toNatClampNeg ≤ m14765 ∧ ((0 : Int32)).toNatClampNeg + ((gi (zn M (((2 : Int32) * (Int32.ofNat m14765))).toNatClampNeg) a0 19)).toNatClampNeg ≤ (((2 : Int32) * (Int32.ofNat m14765))).toNatClampNeg) ∧ (Q (.inl (some (vr (some ((zsz M), 105, (((2 : Int32) * (Int32.ofNat m14765))).toNatClampNeg))))) (cpl (zn M (((2 : Int32) * (Int32.ofNat m14765))).toNatClampNeg) b14765 ((0 : Int32)).toNatClampNeg (zsz M) ((0 : Int32)).toNatClampNeg ((gi (zn M (((2 : Int32) * (Int32.ofNat m14765))).toNatClampNeg) a0 19)).toNatClampNeg))))))) : Z E YX42_grown d M [(0, vr (some (a0, 6, 0))), (1, vr r1)] 0 [] Q := by
  refine sX42_grown_0 (d := d) M a0 r1 ?_
  obtain ⟨b14765, m14765, h14765, k⟩ := k
  refine ⟨b14765, m14765, h14765, ?_⟩
  refine zand k (fun h14766 k => ?_)
  refine sX42_grown_6 (d := d) (zn M (((2 : Int32) * (Int32.ofNat m14765))).toNatClampNeg) _ b14765 m14765 (zsz M) ((((2 : Int32) * (Int32.ofNat m14765))).toNatClampNeg) ?_
  refine zand k (fun h14767 k => ?_)
  refine zand k (fun h14768 k => ?_)
  refine zand k (fun h14769 k => ?_)
  refine sX42_grown_18 (d := d) (cpl (zn M (((2 : Int32) * (Int32.ofNat m14765))).toNatClampNeg) b14765 ((0 : Int32)).toNatClampNeg (zsz M) ((0 : Int32)).toNatClampNeg ((gi (zn M (((2 : Int32) * (Int32.ofNat m14765))).toNatClampNeg) a0 19)).toNatClampNeg) (zsz M) ((((2 : Int32) * (Int32.ofNat m14765))).toNatClampNeg) ?_
  exact k
theorem jX42_flagsOf {E : zE} {d : Nat} {Q : zO → zM → Prop} (M : zM) (a0 : Nat) (r1 : Option zP) (l2 : Int32) (k : ∃ b14897 : Nat, r1 = some (b14897, 7, 0) ∧ (∃ b14898 m14898 : Nat, (gr M b14897 8) = some (b14898, 104, m14898) ∧ (vp_in l2 m14898 ∧ (if (gi M b14898 (l2).toNatClampNeg) = 0 then (∃ b14901 m14901 : Nat, (gr M b14897 9) = some (b14901, 104, m14901) ∧ (vp_in l2 m14901 ∧ (if (gi M b14901 (l2).toNatClampNeg) = 0 then (Q (.inl (some (vi ((0 : Int32) ||| (0 : Int32))))) M) else (Q (.inl (some (vi ((0 : Int32) ||| (2 : Int32))))) M)))) else (∃ b14904 m14904 : Nat, (gr M b14897 9) = some (b14904, 104, m14904) ∧ (vp_in l2 m14904 ∧ (if (gi M b14904 (l2).toNatClampNeg) = 0 then (Q (.inl (some (vi ((1 : Int32) ||| (0 : Int32))))) M) else (Q (.inl (some (vi ((1 : Int32) ||| (2 : Int32))))) M)))))))) : Z E YX42_flagsOf d M [(0, vr (some (a0, 6, 0))), (1, vr r1), (2, vi l2)] 0 [] Q := by
  refine sX42_flagsOf_0 (d := d) M a0 r1 l2 ?_
  obtain ⟨b14897, h14897, k⟩ := k
  refine ⟨b14897, h14897, ?_⟩
  obtain ⟨b14898, m14898, h14898, k⟩ := k
  refine ⟨b14898, m14898, h14898, ?_⟩
  refine zand k (fun h14899 k => ?_)
  refine zite k (fun h14900 k => ?_) (fun h14900 k => ?_)
  · refine sX42_flagsOf_14 (d := d) M b14897 l2 (0 : Int32) ?_
    exact k
  · refine sX42_flagsOf_14 (d := d) M b14897 l2 (1 : Int32) ?_
    exact k
theorem iX42_begin_0 {E : zE} {d : Nat} {Q : zO → zM → Prop} (M : zM) (a0 : Nat) (l1 : Int32) (r2 : Option zP) (k : ∃ b14743 : Nat, (gr M a0 0) = some (b14743, 0, 0) ∧ (∃ b14744 : Nat, r2 = some (b14744, 7, 0) ∧ (∃ b14745 m14745 : Nat, (gr M a0 9) = some (b14745, 100, m14745) ∧ (16 ≤ b14745 ∧ (vp_in l1 m14745 ∧ (∃ b14748 m14748 : Nat, (gr M a0 10) = some (b14748, 100, m14748) ∧ (16 ≤ b14748 ∧ (vp_in l1 m14748 ∧ (Z E YX42_begin (d + 1) (si (si M b14745 (l1).toNatClampNeg (gi M b14744 13)) b14748 (l1).toNatClampNeg (gi (si M b14745 (l1).toNatClampNeg (gi M b14744 13)) a0 19)) [(0, vr (some (a0, 6, 0))), (1, vi l1), (2, vr (some (b14744, 7, 0))), (3, vi ((gi M b14743 11) * ((gi M b14743 1) + (1 : Int32)))), (4, vi (l1 * ((gi M b14743 11) * ((gi M b14743 1) + (1 : Int32))))), (5, vi (l1 * (gi M b14743 11)))] 54 [] Q))))))))) : Z E YX42_begin (d + 1) M [(0, vr (some (a0, 6, 0))), (1, vi l1), (2, vr r2)] 0 [] Q := by
  refine sX42_begin_0 (d := d) M a0 l1 r2 ?_
  obtain ⟨b14743, h14743, k⟩ := k
  refine ⟨b14743, h14743, ?_⟩
  refine ⟨b14743, h14743, ?_⟩
  refine ⟨b14743, h14743, ?_⟩
  exact k
theorem iX42_begin_130 {E : zE} {d : Nat} {Q : zO → zM → Prop} (M : zM) (a0 : Nat) (l1 : Int32) (a2 : Nat) (l3 : Int32) (l4 : Int32) (l5 : Int32) (k : ∃ b14825 m14825 : Nat, (gr M a0 17) = some (b14825, 105, m14825) ∧ (∃ b14826 m14826 : Nat, (gr M a2 11) = some (b14826, 105, m14826) ∧ (16 ≤ b14825 ∧ ((1 ≤ (d + 1)) ∧ (((¬ (0 : Int32) < 0 ∧ ¬ (gi M a0 19) < 0 ∧ ¬ (gi M a2 13) < 0) ∧ ((0 : Int32)).toNatClampNeg + ((gi M a2 13)).toNatClampNeg ≤ m14826 ∧ ((gi M a0 19)).toNatClampNeg + ((gi M a2 13)).toNatClampNeg ≤ m14825) ∧ (∃ b14830 m14830 : Nat, (gr (cpl M b14826 ((0 : Int32)).toNatClampNeg b14825 ((gi M a0 19)).toNatClampNeg ((gi M a2 13)).toNatClampNeg) a0 18) = some (b14830, 105, m14830) ∧ (∃ b14831 m14831 : Nat, (gr (cpl M b14826 ((0 : Int32)).toNatClampNeg b14825 ((gi M a0 19)).toNatClampNeg ((gi M a2 13)).toNatClampNeg) a2 12) = some (b14831, 105, m14831) ∧ (16 ≤ b14830 ∧ (((¬ (0 : Int32) < 0 ∧ ¬ (gi (cpl M b14826 ((0 : Int32)).toNatClampNeg b14825 ((gi M a0 19)).toNatClampNeg ((gi M a2 13)).toNatClampNeg) a0 19) < 0 ∧ ¬ (gi (cpl M b14826 ((0 : Int32)).toNatClampNeg b14825 ((gi M a0 19)).toNatClampNeg ((gi M a2 13)).toNatClampNeg) a2 13) < 0) ∧ ((0 : Int32)).toNatClampNeg + ((gi (cpl M b14826 ((0 : Int32)).toNatClampNeg b14825 ((gi M a0 19)).toNatClampNeg ((gi M a2 13)).toNatClampNeg) a2 13)).toNatClampNeg ≤ m14831 ∧ ((gi (cpl M b14826 ((0 : Int32)).toNatClampNeg b14825 ((gi M a0 19)).toNatClampNeg ((gi M a2 13)).toNatClampNeg) a0 19)).toNatClampNeg + ((gi (cpl M b14826 ((0 : Int32)).toNatClampNeg b14825 ((gi M a0 19)).toNatClampNeg ((gi M a2 13)).toNatClampNeg) a2 13)).toNatClampNeg ≤ m14830) ∧ (16 ≤ a0 ∧ (∃ b14835 m14835 : Nat, (gr (cpl (cpl M b14826 ((0 : Int32)).toNatClampNeg b14825 ((gi M a0 19)).toNatClampNeg ((gi M a2 13)).toNatClampNeg) b14831 ((0 : Int32)).toNatClampNeg b14830 ((gi (cpl M b14826 ((0 : Int32)).toNatClampNeg b14825 ((gi M a0 19)).toNatClampNeg ((gi M a2 13)).toNatClampNeg) a0 19)).toNatClampNeg ((gi (cpl M b14826 ((0 : Int32)).toNatClampNeg b14825 ((gi M a0 19)).toNatClampNeg ((gi M a2 13)).toNatClampNeg) a2 13)).toNatClampNeg) a0 1) = some (b14835, 105, m14835) ∧ (∃ b14836 m14836 : Nat, (gr (cpl (cpl M b14826 ((0 : Int32)).toNatClampNeg b14825 ((gi M a0 19)).toNatClampNeg ((gi M a2 13)).toNatClampNeg) b14831 ((0 : Int32)).toNatClampNeg b14830 ((gi (cpl M b14826 ((0 : Int32)).toNatClampNeg b14825 ((gi M a0 19)).toNatClampNeg ((gi M a2 13)).toNatClampNeg) a0 19)).toNatClampNeg ((gi (cpl M b14826 ((0 : Int32)).toNatClampNeg b14825 ((gi M a0 19)).toNatClampNeg ((gi M a2 13)).toNatClampNeg) a2 13)).toNatClampNeg) a2 1) = some (b14836, 105, m14836) ∧ (16 ≤ b14835 ∧ (((¬ (0 : Int32) < 0 ∧ ¬ l4 < 0 ∧ ¬ l3 < 0) ∧ ((0 : Int32)).toNatClampNeg + (l3).toNatClampNeg ≤ m14836 ∧ (l4).toNatClampNeg + (l3).toNatClampNeg ≤ m14835) ∧ (Z E YX42_begin (d + 1) (cpl (si (cpl (cpl M b14826 ((0 : Int32)).toNatClampNeg b14825 ((gi M a0 19)).toNatClampNeg ((gi M a2 13)).toNatClampNeg) b14831 ((0 : Int32)).toNatClampNeg b14830 ((gi (cpl M b14826 ((0 : Int32)).toNatClampNeg b14825 ((gi M a0 19)).toNatClampNeg ((gi M a2 13)).toNatClampNeg) a0 19)).toNatClampNeg ((gi (cpl M b14826 ((0 : Int32)).toNatClampNeg b14825 ((gi M a0 19)).toNatClampNeg ((gi M a2 13)).toNatClampNeg) a2 13)).toNatClampNeg) a0 19 ((gi (cpl (cpl M b14826 ((0 : Int32)).toNatClampNeg b14825 ((gi M a0 19)).toNatClampNeg ((gi M a2 13)).toNatClampNeg) b14831 ((0 : Int32)).toNatClampNeg b14830 ((gi (cpl M b14826 ((0 : Int32)).toNatClampNeg b14825 ((gi M a0 19)).toNatClampNeg ((gi M a2 13)).toNatClampNeg) a0 19)).toNatClampNeg ((gi (cpl M b14826 ((0 : Int32)).toNatClampNeg b14825 ((gi M a0 19)).toNatClampNeg ((gi M a2 13)).toNatClampNeg) a2 13)).toNatClampNeg) a0 19) + (gi (cpl (cpl M b14826 ((0 : Int32)).toNatClampNeg b14825 ((gi M a0 19)).toNatClampNeg ((gi M a2 13)).toNatClampNeg) b14831 ((0 : Int32)).toNatClampNeg b14830 ((gi (cpl M b14826 ((0 : Int32)).toNatClampNeg b14825 ((gi M a0 19)).toNatClampNeg ((gi M a2 13)).toNatClampNeg) a0 19)).toNatClampNeg ((gi (cpl M b14826 ((0 : Int32)).toNatClampNeg b14825 ((gi M a0 19)).toNatClampNeg ((gi M a2 13)).toNatClampNeg) a2 13)).toNatClampNeg) a2 13))) b14836 ((0 : Int32)).toNatClampNeg b14835 (l4).toNatClampNeg (l3).toNatClampNeg) [(0, vr (some (a0, 6, 0))), (1, vi l1), (2, vr (some (a2, 7, 0))), (3, vi l3), (4, vi l4), (5, vi l5)] 198 [] Q))))))))))))))) : Z E YX42_begin (d + 1) M [(0, vr (some (a0, 6, 0))), (1, vi l1), (2, vr (some (a2, 7, 0))), (3, vi l3), (4, vi l4), (5, vi l5)] 130 [] Q := by
  refine sX42_begin_130 (d := d) M a0 l1 a2 l3 l4 l5 ?_
  obtain ⟨b14825, m14825, h14825, k⟩ := k
  refine ⟨b14825, m14825, h14825, ?_⟩
  obtain ⟨b14826, m14826, h14826, k⟩ := k
  refine ⟨b14826, m14826, h14826, ?_⟩
  refine zand k (fun h14827 k => ?_)
  refine zand k (fun h14828 k => ?_)
  refine zand k (fun h14829 k => ?_)
  refine sX42_begin_150 (d := d) (cpl M b14826 ((0 : Int32)).toNatClampNeg b14825 ((gi M a0 19)).toNatClampNeg ((gi M a2 13)).toNatClampNeg) _ l1 _ l3 l4 l5 ?_
  obtain ⟨b14830, m14830, h14830, k⟩ := k
  refine ⟨b14830, m14830, h14830, ?_⟩
  obtain ⟨b14831, m14831, h14831, k⟩ := k
  refine ⟨b14831, m14831, h14831, ?_⟩
  refine zand k (fun h14832 k => ?_)
  refine ⟨h14828, ?_⟩
  refine zand k (fun h14833 k => ?_)
  refine sX42_begin_170 (d := d) (cpl (cpl M b14826 ((0 : Int32)).toNatClampNeg b14825 ((gi M a0 19)).toNatClampNeg ((gi M a2 13)).toNatClampNeg) b14831 ((0 : Int32)).toNatClampNeg b14830 ((gi (cpl M b14826 ((0 : Int32)).toNatClampNeg b14825 ((gi M a0 19)).toNatClampNeg ((gi M a2 13)).toNatClampNeg) a0 19)).toNatClampNeg ((gi (cpl M b14826 ((0 : Int32)).toNatClampNeg b14825 ((gi M a0 19)).toNatClampNeg ((gi M a2 13)).toNatClampNeg) a2 13)).toNatClampNeg) _ l1 _ l3 l4 l5 ?_
  refine zand k (fun h14834 k => ?_)
  obtain ⟨b14835, m14835, h14835, k⟩ := k
  refine ⟨b14835, m14835, h14835, ?_⟩
  obtain ⟨b14836, m14836, h14836, k⟩ := k
  refine ⟨b14836, m14836, h14836, ?_⟩
  refine zand k (fun h14837 k => ?_)
  refine ⟨h14828, ?_⟩
  exact k
theorem iX42_begin_80 {E : zE} {d : Nat} {Q : zO → zM → Prop} (M : zM) (a0 : Nat) (l1 : Int32) (a2 : Nat) (l3 : Int32) (l4 : Int32) (l5 : Int32) (u0 : Option zP) (k : 16 ≤ a0 ∧ (∃ b14840 m14840 : Nat, (gr (sr M a0 16 u0) a0 17) = some (b14840, 105, m14840) ∧ ((¬ ((2 : Int32) * (Int32.ofNat m14840)) < 0 ∧ (((2 : Int32) * (Int32.ofNat m14840))).toNatClampNeg * 8 ≤ 536870912) ∧ (16 ≤ (zsz (sr M a0 16 u0)) ∧ ((1 ≤ d) ∧ (((¬ (0 : Int32) < 0 ∧ ¬ (0 : Int32) < 0 ∧ ¬ (gi (zn (sr M a0 16 u0) (((2 : Int32) * (Int32.ofNat m14840))).toNatClampNeg) a0 19) < 0) ∧ ((0 : Int32)).toNatClampNeg + ((gi (zn (sr M a0 16 u0) (((2 : Int32) * (Int32.ofNat m14840))).toNatClampNeg) a0 19)).toNatClampNeg ≤ m14840 ∧ ((0 : Int32)).toNatClampNeg + ((gi (zn (sr M a0 16 u0) (((2 : Int32) * (Int32.ofNat m14840))).toNatClampNeg) a0 19)).toNatClampNeg ≤ (((2 : Int32) * (Int32.ofNat m14840))).toNatClampNeg) ∧ (Z E YX42_grown d (sr (cpl (zn (sr M a0 16 u0) (((2 : Int32) * (Int32.ofNat m14840))).toNatClampNeg) b14840 ((0 : Int32)).toNatClampNeg (zsz (sr M a0 16 u0)) ((0 : Int32)).toNatClampNeg ((gi (zn (sr M a0 16 u0) (((2 : Int32) * (Int32.ofNat m14840))).toNatClampNeg) a0 19)).toNatClampNeg) a0 17 (some ((zsz (sr M a0 16 u0)), 105, (((2 : Int32) * (Int32.ofNat m14840))).toNatClampNeg))) (zargs 0 [vr (some (a0, 6, 0)), vr (gr (sr (cpl (zn (sr M a0 16 u0) (((2 : Int32) * (Int32.ofNat m14840))).toNatClampNeg) b14840 ((0 : Int32)).toNatClampNeg (zsz (sr M a0 16 u0)) ((0 : Int32)).toNatClampNeg ((gi (zn (sr M a0 16 u0) (((2 : Int32) * (Int32.ofNat m14840))).toNatClampNeg) a0 19)).toNatClampNeg) a0 17 (some ((zsz (sr M a0 16 u0)), 105, (((2 : Int32) * (Int32.ofNat m14840))).toNatClampNeg))) a0 18)]) 0 [] (zafter E YX42_begin (d + 1) [(0, vr (some (a0, 6, 0))), (1, vi l1), (2, vr (some (a2, 7, 0))), (3, vi l3), (4, vi l4), (5, vi l5)] 101 3 [vr (some (a0, 6, 0))] Q)))))))) : Z E YX42_begin (d + 1) M [(0, vr (some (a0, 6, 0))), (1, vi l1), (2, vr (some (a2, 7, 0))), (3, vi l3), (4, vi l4), (5, vi l5)] 80 [vr u0, vr (some (a0, 6, 0))] Q := by
  refine sX42_begin_80 (d := d) M a0 l1 a2 l3 l4 l5 u0 ?_
  refine zand k (fun h14839 k => ?_)
  refine jX42_grown (d := d) (sr M a0 16 u0) _ (gr (sr M a0 16 u0) a0 17) ?_
  obtain ⟨b14840, m14840, h14840, k⟩ := k
  refine ⟨b14840, m14840, h14840, ?_⟩
  refine zand k (fun h14841 k => ?_)
  refine zand k (fun h14842 k => ?_)
  refine zand k (fun h14843 k => ?_)
  refine zand k (fun h14844 k => ?_)
  show Z E YX42_begin (d + 1) (cpl (zn (sr M a0 16 u0) (((2 : Int32) * (Int32.ofNat m14840))).toNatClampNeg) b14840 ((0 : Int32)).toNatClampNeg (zsz (sr M a0 16 u0)) ((0 : Int32)).toNatClampNeg ((gi (zn (sr M a0 16 u0) (((2 : Int32) * (Int32.ofNat m14840))).toNatClampNeg) a0 19)).toNatClampNeg) [(0, vr (some (a0, 6, 0))), (1, vi l1), (2, vr (some (a2, 7, 0))), (3, vi l3), (4, vi l4), (5, vi l5)] 92 [vr (some ((zsz (sr M a0 16 u0)), 105, (((2 : Int32) * (Int32.ofNat m14840))).toNatClampNeg)), vr (some (a0, 6, 0))] Q
  refine sX42_begin_92 (d := d) (cpl (zn (sr M a0 16 u0) (((2 : Int32) * (Int32.ofNat m14840))).toNatClampNeg) b14840 ((0 : Int32)).toNatClampNeg (zsz (sr M a0 16 u0)) ((0 : Int32)).toNatClampNeg ((gi (zn (sr M a0 16 u0) (((2 : Int32) * (Int32.ofNat m14840))).toNatClampNeg) a0 19)).toNatClampNeg) _ l1 _ l3 l4 l5 (some ((zsz (sr M a0 16 u0)), 105, (((2 : Int32) * (Int32.ofNat m14840))).toNatClampNeg)) ?_
  refine ⟨h14839, ?_⟩
  exact k
theorem iX42_begin_198 {E : zE} {d : Nat} {Q : zO → zM → Prop} (M : zM) (a0 : Nat) (l1 : Int32) (a2 : Nat) (l3 : Int32) (l4 : Int32) (l5 : Int32) (k : ∃ b14849 m14849 : Nat, (gr M a0 2) = some (b14849, 105, m14849) ∧ (∃ b14850 m14850 : Nat, (gr M a2 2) = some (b14850, 105, m14850) ∧ (16 ≤ b14849 ∧ ((1 ≤ (d + 1)) ∧ (((¬ (0 : Int32) < 0 ∧ ¬ l4 < 0 ∧ ¬ l3 < 0) ∧ ((0 : Int32)).toNatClampNeg + (l3).toNatClampNeg ≤ m14850 ∧ (l4).toNatClampNeg + (l3).toNatClampNeg ≤ m14849) ∧ (∃ b14854 m14854 : Nat, (gr (cpl M b14850 ((0 : Int32)).toNatClampNeg b14849 (l4).toNatClampNeg (l3).toNatClampNeg) a0 3) = some (b14854, 105, m14854) ∧ (∃ b14855 m14855 : Nat, (gr (cpl M b14850 ((0 : Int32)).toNatClampNeg b14849 (l4).toNatClampNeg (l3).toNatClampNeg) a2 3) = some (b14855, 105, m14855) ∧ (16 ≤ b14854 ∧ (((¬ (0 : Int32) < 0 ∧ ¬ l4 < 0 ∧ ¬ l3 < 0) ∧ ((0 : Int32)).toNatClampNeg + (l3).toNatClampNeg ≤ m14855 ∧ (l4).toNatClampNeg + (l3).toNatClampNeg ≤ m14854) ∧ (∃ b14858 : Nat, (gr (cpl (cpl M b14850 ((0 : Int32)).toNatClampNeg b14849 (l4).toNatClampNeg (l3).toNatClampNeg) b14855 ((0 : Int32)).toNatClampNeg b14854 (l4).toNatClampNeg (l3).toNatClampNeg) a0 0) = some (b14858, 0, 0) ∧ (∃ b14859 m14859 : Nat, (gr (cpl (cpl M b14850 ((0 : Int32)).toNatClampNeg b14849 (l4).toNatClampNeg (l3).toNatClampNeg) b14855 ((0 : Int32)).toNatClampNeg b14854 (l4).toNatClampNeg (l3).toNatClampNeg) a0 4) = some (b14859, 105, m14859) ∧ (∃ b14860 m14860 : Nat, (gr (cpl (cpl M b14850 ((0 : Int32)).toNatClampNeg b14849 (l4).toNatClampNeg (l3).toNatClampNeg) b14855 ((0 : Int32)).toNatClampNeg b14854 (l4).toNatClampNeg (l3).toNatClampNeg) a2 4) = some (b14860, 105, m14860) ∧ (16 ≤ b14859 ∧ (((¬ (0 : Int32) < 0 ∧ ¬ l5 < 0 ∧ ¬ (gi (cpl (cpl M b14850 ((0 : Int32)).toNatClampNeg b14849 (l4).toNatClampNeg (l3).toNatClampNeg) b14855 ((0 : Int32)).toNatClampNeg b14854 (l4).toNatClampNeg (l3).toNatClampNeg) b14858 11) < 0) ∧ ((0 : Int32)).toNatClampNeg + ((gi (cpl (cpl M b14850 ((0 : Int32)).toNatClampNeg b14849 (l4).toNatClampNeg (l3).toNatClampNeg) b14855 ((0 : Int32)).toNatClampNeg b14854 (l4).toNatClampNeg (l3).toNatClampNeg) b14858 11)).toNatClampNeg ≤ m14860 ∧ (l5).toNatClampNeg + ((gi (cpl (cpl M b14850 ((0 : Int32)).toNatClampNeg b14849 (l4).toNatClampNeg (l3).toNatClampNeg) b14855 ((0 : Int32)).toNatClampNeg b14854 (l4).toNatClampNeg (l3).toNatClampNeg) b14858 11)).toNatClampNeg ≤ m14859) ∧ (∃ b14863 : Nat, (gr (cpl (cpl (cpl M b14850 ((0 : Int32)).toNatClampNeg b14849 (l4).toNatClampNeg (l3).toNatClampNeg) b14855 ((0 : Int32)).toNatClampNeg b14854 (l4).toNatClampNeg (l3).toNatClampNeg) b14860 ((0 : Int32)).toNatClampNeg b14859 (l5).toNatClampNeg ((gi (cpl (cpl M b14850 ((0 : Int32)).toNatClampNeg b14849 (l4).toNatClampNeg (l3).toNatClampNeg) b14855 ((0 : Int32)).toNatClampNeg b14854 (l4).toNatClampNeg (l3).toNatClampNeg) b14858 11)).toNatClampNeg) a0 0) = some (b14863, 0, 0) ∧ (∃ b14864 m14864 : Nat, (gr (cpl (cpl (cpl M b14850 ((0 : Int32)).toNatClampNeg b14849 (l4).toNatClampNeg (l3).toNatClampNeg) b14855 ((0 : Int32)).toNatClampNeg b14854 (l4).toNatClampNeg (l3).toNatClampNeg) b14860 ((0 : Int32)).toNatClampNeg b14859 (l5).toNatClampNeg ((gi (cpl (cpl M b14850 ((0 : Int32)).toNatClampNeg b14849 (l4).toNatClampNeg (l3).toNatClampNeg) b14855 ((0 : Int32)).toNatClampNeg b14854 (l4).toNatClampNeg (l3).toNatClampNeg) b14858 11)).toNatClampNeg) a0 5) = some (b14864, 105, m14864) ∧ (∃ b14865 m14865 : Nat, (gr (cpl (cpl (cpl M b14850 ((0 : Int32)).toNatClampNeg b14849 (l4).toNatClampNeg (l3).toNatClampNeg) b14855 ((0 : Int32)).toNatClampNeg b14854 (l4).toNatClampNeg (l3).toNatClampNeg) b14860 ((0 : Int32)).toNatClampNeg b14859 (l5).toNatClampNeg ((gi (cpl (cpl M b14850 ((0 : Int32)).toNatClampNeg b14849 (l4).toNatClampNeg (l3).toNatClampNeg) b14855 ((0 : Int32)).toNatClampNeg b14854 (l4).toNatClampNeg (l3).toNatClampNeg) b14858 11)).toNatClampNeg) a2 5) = some (b14865, 105, m14865) ∧ (16 ≤ b14864 ∧ (((¬ (0 : Int32) < 0 ∧ ¬ l5 < 0 ∧ ¬ (gi (cpl (cpl (cpl M b14850 ((0 : Int32)).toNatClampNeg b14849 (l4).toNatClampNeg (l3).toNatClampNeg) b14855 ((0 : Int32)).toNatClampNeg b14854 (l4).toNatClampNeg (l3).toNatClampNeg) b14860 ((0 : Int32)).toNatClampNeg b14859 (l5).toNatClampNeg ((gi (cpl (cpl M b14850 ((0 : Int32)).toNatClampNeg b14849 (l4).toNatClampNeg (l3).toNatClampNeg) b14855 ((0 : Int32)).toNatClampNeg b14854 (l4).toNatClampNeg (l3).toNatClampNeg) b14858 11)).toNatClampNeg) b14863 11) < 0) ∧ ((0 : Int32)).toNatClampNeg + ((gi (cpl (cpl (cpl M b14850 ((0 : Int32)).toNatClampNeg b14849 (l4).toNatClampNeg (l3).toNatClampNeg) b14855 ((0 : Int32)).toNatClampNeg b14854 (l4).toNatClampNeg (l3).toNatClampNeg) b14860 ((0 : Int32)).toNatClampNeg b14859 (l5).toNatClampNeg ((gi (cpl (cpl M b14850 ((0 : Int32)).toNatClampNeg b14849 (l4).toNatClampNeg (l3).toNatClampNeg) b14855 ((0 : Int32)).toNatClampNeg b14854 (l4).toNatClampNeg (l3).toNatClampNeg) b14858 11)).toNatClampNeg) b14863 11)).toNatClampNeg ≤ m14865 ∧ (l5).toNatClampNeg + ((gi (cpl (cpl (cpl M b14850 ((0 : Int32)).toNatClampNeg b14849 (l4).toNatClampNeg (l3).toNatClampNeg) b14855 ((0 : Int32)).toNatClampNeg b14854 (l4).toNatClampNeg (l3).toNatClampNeg) b14860 ((0 : Int32)).toNatClampNeg b14859 (l5).toNatClampNeg ((gi (cpl (cpl M b14850 ((0 : Int32)).toNatClampNeg b14849 (l4).toNatClampNeg (l3).toNatClampNeg) b14855 ((0 : Int32)).toNatClampNeg b14854 (l4).toNatClampNeg (l3).toNatClampNeg) b14858 11)).toNatClampNeg) b14863 11)).toNatClampNeg ≤ m14864) ∧ (Z E YX42_begin (d + 1) (cpl (cpl (cpl (cpl M b14850 ((0 : Int32)).toNatClampNeg b14849 (l4).toNatClampNeg (l3).toNatClampNeg) b14855 ((0 : Int32)).toNatClampNeg b14854 (l4).toNatClampNeg (l3).toNatClampNeg) b14860 ((0 : Int32)).toNatClampNeg b14859 (l5).toNatClampNeg ((gi (cpl (cpl M b14850 ((0 : Int32)).toNatClampNeg b14849 (l4).toNatClampNeg (l3).toNatClampNeg) b14855 ((0 : Int32)).toNatClampNeg b14854 (l4).toNatClampNeg (l3).toNatClampNeg) b14858 11)).toNatClampNeg) b14865 ((0 : Int32)).toNatClampNeg b14864 (l5).toNatClampNeg ((gi (cpl (cpl (cpl M b14850 ((0 : Int32)).toNatClampNeg b14849 (l4).toNatClampNeg (l3).toNatClampNeg) b14855 ((0 : Int32)).toNatClampNeg b14854 (l4).toNatClampNeg (l3).toNatClampNeg) b14860 ((0 : Int32)).toNatClampNeg b14859 (l5).toNatClampNeg ((gi (cpl (cpl M b14850 ((0 : Int32)).toNatClampNeg b14849 (l4).toNatClampNeg (l3).toNatClampNeg) b14855 ((0 : Int32)).toNatClampNeg b14854 (l4).toNatClampNeg (l3).toNatClampNeg) b14858 11)).toNatClampNeg) b14863 11)).toNatClampNeg) [(0, vr (some (a0, 6, 0))), (1, vi l1), (2, vr (some (a2, 7, 0))), (5, vi l5)] 270 [] Q)))))))))))))))))))) : Z E YX42_begin (d + 1) M [(0, vr (some (a0, 6, 0))), (1, vi l1), (2, vr (some (a2, 7, 0))), (3, vi l3), (4, vi l4), (5, vi l5)] 198 [] Q := by
  refine sX42_begin_198 (d := d) M a0 l1 a2 l3 l4 l5 ?_
  obtain ⟨b14849, m14849, h14849, k⟩ := k
  refine ⟨b14849, m14849, h14849, ?_⟩
  obtain ⟨b14850, m14850, h14850, k⟩ := k
  refine ⟨b14850, m14850, h14850, ?_⟩
  refine zand k (fun h14851 k => ?_)
  refine zand k (fun h14852 k => ?_)
  refine zand k (fun h14853 k => ?_)
  refine sX42_begin_213 (d := d) (cpl M b14850 ((0 : Int32)).toNatClampNeg b14849 (l4).toNatClampNeg (l3).toNatClampNeg) _ l1 _ l3 l4 l5 ?_
  obtain ⟨b14854, m14854, h14854, k⟩ := k
  refine ⟨b14854, m14854, h14854, ?_⟩
  obtain ⟨b14855, m14855, h14855, k⟩ := k
  refine ⟨b14855, m14855, h14855, ?_⟩
  refine zand k (fun h14856 k => ?_)
  refine ⟨h14852, ?_⟩
  refine zand k (fun h14857 k => ?_)
  refine sX42_begin_228 (d := d) (cpl (cpl M b14850 ((0 : Int32)).toNatClampNeg b14849 (l4).toNatClampNeg (l3).toNatClampNeg) b14855 ((0 : Int32)).toNatClampNeg b14854 (l4).toNatClampNeg (l3).toNatClampNeg) _ l1 _ l5 ?_
  obtain ⟨b14858, h14858, k⟩ := k
  refine ⟨b14858, h14858, ?_⟩
  obtain ⟨b14859, m14859, h14859, k⟩ := k
  refine ⟨b14859, m14859, h14859, ?_⟩
  obtain ⟨b14860, m14860, h14860, k⟩ := k
  refine ⟨b14860, m14860, h14860, ?_⟩
  refine zand k (fun h14861 k => ?_)
  refine ⟨h14852, ?_⟩
  refine zand k (fun h14862 k => ?_)
  refine sX42_begin_249 (d := d) (cpl (cpl (cpl M b14850 ((0 : Int32)).toNatClampNeg b14849 (l4).toNatClampNeg (l3).toNatClampNeg) b14855 ((0 : Int32)).toNatClampNeg b14854 (l4).toNatClampNeg (l3).toNatClampNeg) b14860 ((0 : Int32)).toNatClampNeg b14859 (l5).toNatClampNeg ((gi (cpl (cpl M b14850 ((0 : Int32)).toNatClampNeg b14849 (l4).toNatClampNeg (l3).toNatClampNeg) b14855 ((0 : Int32)).toNatClampNeg b14854 (l4).toNatClampNeg (l3).toNatClampNeg) b14858 11)).toNatClampNeg) _ l1 _ l5 ?_
  obtain ⟨b14863, h14863, k⟩ := k
  refine ⟨b14863, h14863, ?_⟩
  obtain ⟨b14864, m14864, h14864, k⟩ := k
  refine ⟨b14864, m14864, h14864, ?_⟩
  obtain ⟨b14865, m14865, h14865, k⟩ := k
  refine ⟨b14865, m14865, h14865, ?_⟩
  refine zand k (fun h14866 k => ?_)
  refine ⟨h14852, ?_⟩
  exact k
theorem iX42_begin_270 {E : zE} {d : Nat} {Q : zO → zM → Prop} (M : zM) (a0 : Nat) (l1 : Int32) (a2 : Nat) (l5 : Int32) (k : ∃ b14869 : Nat, (gr M a0 0) = some (b14869, 0, 0) ∧ (∃ b14870 m14870 : Nat, (gr M a0 6) = some (b14870, 105, m14870) ∧ (∃ b14871 m14871 : Nat, (gr M a2 6) = some (b14871, 105, m14871) ∧ (16 ≤ b14870 ∧ ((1 ≤ (d + 1)) ∧ (((¬ (0 : Int32) < 0 ∧ ¬ l5 < 0 ∧ ¬ (gi M b14869 11) < 0) ∧ ((0 : Int32)).toNatClampNeg + ((gi M b14869 11)).toNatClampNeg ≤ m14871 ∧ (l5).toNatClampNeg + ((gi M b14869 11)).toNatClampNeg ≤ m14870) ∧ (∃ b14875 : Nat, (gr (cpl M b14871 ((0 : Int32)).toNatClampNeg b14870 (l5).toNatClampNeg ((gi M b14869 11)).toNatClampNeg) a0 0) = some (b14875, 0, 0) ∧ (∃ b14876 m14876 : Nat, (gr (cpl M b14871 ((0 : Int32)).toNatClampNeg b14870 (l5).toNatClampNeg ((gi M b14869 11)).toNatClampNeg) a0 7) = some (b14876, 105, m14876) ∧ (∃ b14877 m14877 : Nat, (gr (cpl M b14871 ((0 : Int32)).toNatClampNeg b14870 (l5).toNatClampNeg ((gi M b14869 11)).toNatClampNeg) a2 7) = some (b14877, 105, m14877) ∧ (16 ≤ b14876 ∧ (((¬ (0 : Int32) < 0 ∧ ¬ l5 < 0 ∧ ¬ (gi (cpl M b14871 ((0 : Int32)).toNatClampNeg b14870 (l5).toNatClampNeg ((gi M b14869 11)).toNatClampNeg) b14875 11) < 0) ∧ ((0 : Int32)).toNatClampNeg + ((gi (cpl M b14871 ((0 : Int32)).toNatClampNeg b14870 (l5).toNatClampNeg ((gi M b14869 11)).toNatClampNeg) b14875 11)).toNatClampNeg ≤ m14877 ∧ (l5).toNatClampNeg + ((gi (cpl M b14871 ((0 : Int32)).toNatClampNeg b14870 (l5).toNatClampNeg ((gi M b14869 11)).toNatClampNeg) b14875 11)).toNatClampNeg ≤ m14876) ∧ (Z E YX42_begin (d + 1) (cpl (cpl M b14871 ((0 : Int32)).toNatClampNeg b14870 (l5).toNatClampNeg ((gi M b14869 11)).toNatClampNeg) b14877 ((0 : Int32)).toNatClampNeg b14876 (l5).toNatClampNeg ((gi (cpl M b14871 ((0 : Int32)).toNatClampNeg b14870 (l5).toNatClampNeg ((gi M b14869 11)).toNatClampNeg) b14875 11)).toNatClampNeg) [(0, vr (some (a0, 6, 0))), (1, vi l1), (2, vr (some (a2, 7, 0))), (5, vi l5), (6, vi (0 : Int32))] 315 [] Q)))))))))))) : Z E YX42_begin (d + 1) M [(0, vr (some (a0, 6, 0))), (1, vi l1), (2, vr (some (a2, 7, 0))), (5, vi l5)] 270 [] Q := by
  refine sX42_begin_270 (d := d) M a0 l1 a2 l5 ?_
  obtain ⟨b14869, h14869, k⟩ := k
  refine ⟨b14869, h14869, ?_⟩
  obtain ⟨b14870, m14870, h14870, k⟩ := k
  refine ⟨b14870, m14870, h14870, ?_⟩
  obtain ⟨b14871, m14871, h14871, k⟩ := k
  refine ⟨b14871, m14871, h14871, ?_⟩
  refine zand k (fun h14872 k => ?_)
  refine zand k (fun h14873 k => ?_)
  refine zand k (fun h14874 k => ?_)
  refine sX42_begin_291 (d := d) (cpl M b14871 ((0 : Int32)).toNatClampNeg b14870 (l5).toNatClampNeg ((gi M b14869 11)).toNatClampNeg) _ l1 _ l5 ?_
  obtain ⟨b14875, h14875, k⟩ := k
  refine ⟨b14875, h14875, ?_⟩
  obtain ⟨b14876, m14876, h14876, k⟩ := k
  refine ⟨b14876, m14876, h14876, ?_⟩
  obtain ⟨b14877, m14877, h14877, k⟩ := k
  refine ⟨b14877, m14877, h14877, ?_⟩
  refine zand k (fun h14878 k => ?_)
  refine ⟨h14873, ?_⟩
  refine zand k (fun h14879 k => ?_)
  refine sX42_begin_312 (d := d) (cpl (cpl M b14871 ((0 : Int32)).toNatClampNeg b14870 (l5).toNatClampNeg ((gi M b14869 11)).toNatClampNeg) b14877 ((0 : Int32)).toNatClampNeg b14876 (l5).toNatClampNeg ((gi (cpl M b14871 ((0 : Int32)).toNatClampNeg b14870 (l5).toNatClampNeg ((gi M b14869 11)).toNatClampNeg) b14875 11)).toNatClampNeg) _ l1 _ l5 ?_
  exact k
theorem iX42_begin_315 {E : zE} {d : Nat} {Q : zO → zM → Prop} (M : zM) (a0 : Nat) (l1 : Int32) (a2 : Nat) (l5 : Int32) (l6 : Int32) (k : ∃ b14880 : Nat, (gr M a0 0) = some (b14880, 0, 0) ∧ (if (gi M b14880 11) ≤ l6 then (∃ b14882 m14882 : Nat, (gr M a0 11) = some (b14882, 105, m14882) ∧ (16 ≤ b14882 ∧ (vp_in l1 m14882 ∧ (∃ b14885 m14885 : Nat, (gr M a0 12) = some (b14885, 105, m14885) ∧ (16 ≤ b14885 ∧ (vp_in l1 m14885 ∧ (∃ b14888 m14888 : Nat, (gr M a0 13) = some (b14888, 105, m14888) ∧ (16 ≤ b14888 ∧ (vp_in l1 m14888 ∧ (∃ b14891 m14891 : Nat, (gr M a0 14) = some (b14891, 105, m14891) ∧ (16 ≤ b14891 ∧ (vp_in l1 m14891 ∧ (∃ b14894 m14894 : Nat, (gr M a0 15) = some (b14894, 105, m14894) ∧ (16 ≤ b14894 ∧ (vp_in l1 m14894 ∧ (Q (.inl none) (sl (sl (sl (sl (sl M b14882 (l1).toNatClampNeg (gl M a2 14)) b14885 (l1).toNatClampNeg (gl (sl M b14882 (l1).toNatClampNeg (gl M a2 14)) a2 15)) b14888 (l1).toNatClampNeg (gl (sl (sl M b14882 (l1).toNatClampNeg (gl M a2 14)) b14885 (l1).toNatClampNeg (gl (sl M b14882 (l1).toNatClampNeg (gl M a2 14)) a2 15)) a2 16)) b14891 (l1).toNatClampNeg (gl (sl (sl (sl M b14882 (l1).toNatClampNeg (gl M a2 14)) b14885 (l1).toNatClampNeg (gl (sl M b14882 (l1).toNatClampNeg (gl M a2 14)) a2 15)) b14888 (l1).toNatClampNeg (gl (sl (sl M b14882 (l1).toNatClampNeg (gl M a2 14)) b14885 (l1).toNatClampNeg (gl (sl M b14882 (l1).toNatClampNeg (gl M a2 14)) a2 15)) a2 16)) a2 17)) b14894 (l1).toNatClampNeg (gl (sl (sl (sl (sl M b14882 (l1).toNatClampNeg (gl M a2 14)) b14885 (l1).toNatClampNeg (gl (sl M b14882 (l1).toNatClampNeg (gl M a2 14)) a2 15)) b14888 (l1).toNatClampNeg (gl (sl (sl M b14882 (l1).toNatClampNeg (gl M a2 14)) b14885 (l1).toNatClampNeg (gl (sl M b14882 (l1).toNatClampNeg (gl M a2 14)) a2 15)) a2 16)) b14891 (l1).toNatClampNeg (gl (sl (sl (sl M b14882 (l1).toNatClampNeg (gl M a2 14)) b14885 (l1).toNatClampNeg (gl (sl M b14882 (l1).toNatClampNeg (gl M a2 14)) a2 15)) b14888 (l1).toNatClampNeg (gl (sl (sl M b14882 (l1).toNatClampNeg (gl M a2 14)) b14885 (l1).toNatClampNeg (gl (sl M b14882 (l1).toNatClampNeg (gl M a2 14)) a2 15)) a2 16)) a2 17)) a2 18)))))))))))))))))) else (∃ b14907 m14907 : Nat, (gr M a2 8) = some (b14907, 104, m14907) ∧ (vp_in l6 m14907 ∧ (if (gi M b14907 (l6).toNatClampNeg) = 0 then (∃ b14910 m14910 : Nat, (gr M a2 9) = some (b14910, 104, m14910) ∧ (vp_in l6 m14910 ∧ (if (gi M b14910 (l6).toNatClampNeg) = 0 then (∃ b14913 m14913 : Nat, (gr M a0 8) = some (b14913, 101, m14913) ∧ (16 ≤ b14913 ∧ (vp_in (l5 + l6) m14913 ∧ (Z E YX42_begin (d + 1) (si M b14913 ((l5 + l6)).toNatClampNeg (vp_nar .byte (((0 : Int32) ||| (0 : Int32))).toInt8.toInt32)) [(0, vr (some (a0, 6, 0))), (1, vi l1), (2, vr (some (a2, 7, 0))), (5, vi l5), (6, vi (l6 + (1 : Int32)))] 315 [] Q)))) else (∃ b14916 m14916 : Nat, (gr M a0 8) = some (b14916, 101, m14916) ∧ (16 ≤ b14916 ∧ (vp_in (l5 + l6) m14916 ∧ (Z E YX42_begin (d + 1) (si M b14916 ((l5 + l6)).toNatClampNeg (vp_nar .byte (((0 : Int32) ||| (2 : Int32))).toInt8.toInt32)) [(0, vr (some (a0, 6, 0))), (1, vi l1), (2, vr (some (a2, 7, 0))), (5, vi l5), (6, vi (l6 + (1 : Int32)))] 315 [] Q))))))) else (∃ b14919 m14919 : Nat, (gr M a2 9) = some (b14919, 104, m14919) ∧ (vp_in l6 m14919 ∧ (if (gi M b14919 (l6).toNatClampNeg) = 0 then (∃ b14922 m14922 : Nat, (gr M a0 8) = some (b14922, 101, m14922) ∧ (16 ≤ b14922 ∧ (vp_in (l5 + l6) m14922 ∧ (Z E YX42_begin (d + 1) (si M b14922 ((l5 + l6)).toNatClampNeg (vp_nar .byte (((1 : Int32) ||| (0 : Int32))).toInt8.toInt32)) [(0, vr (some (a0, 6, 0))), (1, vi l1), (2, vr (some (a2, 7, 0))), (5, vi l5), (6, vi (l6 + (1 : Int32)))] 315 [] Q)))) else (∃ b14925 m14925 : Nat, (gr M a0 8) = some (b14925, 101, m14925) ∧ (16 ≤ b14925 ∧ (vp_in (l5 + l6) m14925 ∧ (Z E YX42_begin (d + 1) (si M b14925 ((l5 + l6)).toNatClampNeg (vp_nar .byte (((1 : Int32) ||| (2 : Int32))).toInt8.toInt32)) [(0, vr (some (a0, 6, 0))), (1, vi l1), (2, vr (some (a2, 7, 0))), (5, vi l5), (6, vi (l6 + (1 : Int32)))] 315 [] Q)))))))))))) : Z E YX42_begin (d + 1) M [(0, vr (some (a0, 6, 0))), (1, vi l1), (2, vr (some (a2, 7, 0))), (5, vi l5), (6, vi l6)] 315 [] Q := by
  refine sX42_begin_315 (d := d) M a0 l1 a2 l5 l6 ?_
  obtain ⟨b14880, h14880, k⟩ := k
  refine ⟨b14880, h14880, ?_⟩
  refine zite k (fun h14881 k => ?_) (fun h14881 k => ?_)
  · exact k
  · refine jX42_flagsOf (d := d) M _ (some (a2, 7, 0)) l6 ?_
    refine ⟨a2, rfl, ?_⟩
    obtain ⟨b14907, m14907, h14907, k⟩ := k
    refine ⟨b14907, m14907, h14907, ?_⟩
    refine zand k (fun h14908 k => ?_)
    refine zite k (fun h14909 k => ?_) (fun h14909 k => ?_)
    · obtain ⟨b14910, m14910, h14910, k⟩ := k
      refine ⟨b14910, m14910, h14910, ?_⟩
      refine zand k (fun h14911 k => ?_)
      refine zite k (fun h14912 k => ?_) (fun h14912 k => ?_)
      · show Z E YX42_begin (d + 1) M [(0, vr (some (a0, 6, 0))), (1, vi l1), (2, vr (some (a2, 7, 0))), (5, vi l5), (6, vi l6)] 343 [vi ((0 : Int32) ||| (0 : Int32)), vi (l5 + l6), vr (gr M a0 8)] Q
        refine sX42_begin_343 (d := d) M _ l1 _ l5 l6 ((0 : Int32) ||| (0 : Int32)) (l5 + l6) (gr M a0 8) ?_
        exact k
      · show Z E YX42_begin (d + 1) M [(0, vr (some (a0, 6, 0))), (1, vi l1), (2, vr (some (a2, 7, 0))), (5, vi l5), (6, vi l6)] 343 [vi ((0 : Int32) ||| (2 : Int32)), vi (l5 + l6), vr (gr M a0 8)] Q
        refine sX42_begin_343 (d := d) M _ l1 _ l5 l6 ((0 : Int32) ||| (2 : Int32)) (l5 + l6) (gr M a0 8) ?_
        exact k
    · obtain ⟨b14919, m14919, h14919, k⟩ := k
      refine ⟨b14919, m14919, h14919, ?_⟩
      refine zand k (fun h14920 k => ?_)
      refine zite k (fun h14921 k => ?_) (fun h14921 k => ?_)
      · show Z E YX42_begin (d + 1) M [(0, vr (some (a0, 6, 0))), (1, vi l1), (2, vr (some (a2, 7, 0))), (5, vi l5), (6, vi l6)] 343 [vi ((1 : Int32) ||| (0 : Int32)), vi (l5 + l6), vr (gr M a0 8)] Q
        refine sX42_begin_343 (d := d) M _ l1 _ l5 l6 ((1 : Int32) ||| (0 : Int32)) (l5 + l6) (gr M a0 8) ?_
        exact k
      · show Z E YX42_begin (d + 1) M [(0, vr (some (a0, 6, 0))), (1, vi l1), (2, vr (some (a2, 7, 0))), (5, vi l5), (6, vi l6)] 343 [vi ((1 : Int32) ||| (2 : Int32)), vi (l5 + l6), vr (gr M a0 8)] Q
        refine sX42_begin_343 (d := d) M _ l1 _ l5 l6 ((1 : Int32) ||| (2 : Int32)) (l5 + l6) (gr M a0 8) ?_
        exact k
theorem iX42_flagsOf_0 {E : zE} {d : Nat} {Q : zO → zM → Prop} (M : zM) (a0 : Nat) (r1 : Option zP) (l2 : Int32) (k : ∃ b14933 : Nat, r1 = some (b14933, 7, 0) ∧ (∃ b14934 m14934 : Nat, (gr M b14933 8) = some (b14934, 104, m14934) ∧ (vp_in l2 m14934 ∧ (if (gi M b14934 (l2).toNatClampNeg) = 0 then (∃ b14937 m14937 : Nat, (gr M b14933 9) = some (b14937, 104, m14937) ∧ (vp_in l2 m14937 ∧ (if (gi M b14937 (l2).toNatClampNeg) = 0 then (Q (.inl (some (vi ((0 : Int32) ||| (0 : Int32))))) M) else (Q (.inl (some (vi ((0 : Int32) ||| (2 : Int32))))) M)))) else (∃ b14940 m14940 : Nat, (gr M b14933 9) = some (b14940, 104, m14940) ∧ (vp_in l2 m14940 ∧ (if (gi M b14940 (l2).toNatClampNeg) = 0 then (Q (.inl (some (vi ((1 : Int32) ||| (0 : Int32))))) M) else (Q (.inl (some (vi ((1 : Int32) ||| (2 : Int32))))) M)))))))) : Z E YX42_flagsOf d M [(0, vr (some (a0, 6, 0))), (1, vr r1), (2, vi l2)] 0 [] Q := by
  refine sX42_flagsOf_0 (d := d) M a0 r1 l2 ?_
  obtain ⟨b14933, h14933, k⟩ := k
  refine ⟨b14933, h14933, ?_⟩
  obtain ⟨b14934, m14934, h14934, k⟩ := k
  refine ⟨b14934, m14934, h14934, ?_⟩
  refine zand k (fun h14935 k => ?_)
  refine zite k (fun h14936 k => ?_) (fun h14936 k => ?_)
  · refine sX42_flagsOf_14 (d := d) M b14933 l2 (0 : Int32) ?_
    exact k
  · refine sX42_flagsOf_14 (d := d) M b14933 l2 (1 : Int32) ?_
    exact k
theorem iX42_grown_0 {E : zE} {d : Nat} {Q : zO → zM → Prop} (M : zM) (a0 : Nat) (r1 : Option zP) (k : ∃ b14943 m14943 : Nat, r1 = some (b14943, 105, m14943) ∧ ((¬ ((2 : Int32) * (Int32.ofNat m14943)) < 0 ∧ (((2 : Int32) * (Int32.ofNat m14943))).toNatClampNeg * 8 ≤ 536870912) ∧ (16 ≤ (zsz M) ∧ ((1 ≤ d) ∧ (((¬ (0 : Int32) < 0 ∧ ¬ (0 : Int32) < 0 ∧ ¬ (gi (zn M (((2 : Int32) * (Int32.ofNat m14943))).toNatClampNeg) a0 19) < 0) ∧ ((0 : Int32)).toNatClampNeg + ((gi (zn M (((2 : Int32) * (Int32.ofNat m14943))).toNatClampNeg) a0 19)).toNatClampNeg ≤ m14943 ∧ ((0 : Int32)).toNatClampNeg + ((gi (zn M (((2 : Int32) * (Int32.ofNat m14943))).toNatClampNeg) a0 19)).toNatClampNeg ≤ (((2 : Int32) * (Int32.ofNat m14943))).toNatClampNeg) ∧ (Q (.inl (some (vr (some ((zsz M), 105, (((2 : Int32) * (Int32.ofNat m14943))).toNatClampNeg))))) (cpl (zn M (((2 : Int32) * (Int32.ofNat m14943))).toNatClampNeg) b14943 ((0 : Int32)).toNatClampNeg (zsz M) ((0 : Int32)).toNatClampNeg ((gi (zn M (((2 : Int32) * (Int32.ofNat m14943))).toNatClampNeg) a0 19)).toNatClampNeg))))))) : Z E YX42_grown d M [(0, vr (some (a0, 6, 0))), (1, vr r1)] 0 [] Q := by
  refine sX42_grown_0 (d := d) M a0 r1 ?_
  obtain ⟨b14943, m14943, h14943, k⟩ := k
  refine ⟨b14943, m14943, h14943, ?_⟩
  refine zand k (fun h14944 k => ?_)
  refine sX42_grown_6 (d := d) (zn M (((2 : Int32) * (Int32.ofNat m14943))).toNatClampNeg) _ b14943 m14943 (zsz M) ((((2 : Int32) * (Int32.ofNat m14943))).toNatClampNeg) ?_
  refine zand k (fun h14945 k => ?_)
  refine zand k (fun h14946 k => ?_)
  refine zand k (fun h14947 k => ?_)
  refine sX42_grown_18 (d := d) (cpl (zn M (((2 : Int32) * (Int32.ofNat m14943))).toNatClampNeg) b14943 ((0 : Int32)).toNatClampNeg (zsz M) ((0 : Int32)).toNatClampNeg ((gi (zn M (((2 : Int32) * (Int32.ofNat m14943))).toNatClampNeg) a0 19)).toNatClampNeg) (zsz M) ((((2 : Int32) * (Int32.ofNat m14943))).toNatClampNeg) ?_
  exact k
theorem iX42_heap_49 {E : zE} {d : Nat} {Q : zO → zM → Prop} (M : zM) (a0 : Nat) (a2 : Nat) (l3 : Int32) (l4 : Int32) (l5 : Int32) (k : ∃ b15008 m15008 : Nat, (gr M a2 2) = some (b15008, 105, m15008) ∧ (∃ b15009 m15009 : Nat, (gr M a0 2) = some (b15009, 105, m15009) ∧ (16 ≤ b15008 ∧ ((1 ≤ d) ∧ (((¬ l4 < 0 ∧ ¬ (0 : Int32) < 0 ∧ ¬ l3 < 0) ∧ (l4).toNatClampNeg + (l3).toNatClampNeg ≤ m15009 ∧ ((0 : Int32)).toNatClampNeg + (l3).toNatClampNeg ≤ m15008) ∧ (∃ b15013 m15013 : Nat, (gr (cpl M b15009 (l4).toNatClampNeg b15008 ((0 : Int32)).toNatClampNeg (l3).toNatClampNeg) a2 3) = some (b15013, 105, m15013) ∧ (∃ b15014 m15014 : Nat, (gr (cpl M b15009 (l4).toNatClampNeg b15008 ((0 : Int32)).toNatClampNeg (l3).toNatClampNeg) a0 3) = some (b15014, 105, m15014) ∧ (16 ≤ b15013 ∧ (((¬ l4 < 0 ∧ ¬ (0 : Int32) < 0 ∧ ¬ l3 < 0) ∧ (l4).toNatClampNeg + (l3).toNatClampNeg ≤ m15014 ∧ ((0 : Int32)).toNatClampNeg + (l3).toNatClampNeg ≤ m15013) ∧ (∃ b15017 : Nat, (gr (cpl (cpl M b15009 (l4).toNatClampNeg b15008 ((0 : Int32)).toNatClampNeg (l3).toNatClampNeg) b15014 (l4).toNatClampNeg b15013 ((0 : Int32)).toNatClampNeg (l3).toNatClampNeg) a0 0) = some (b15017, 0, 0) ∧ (∃ b15018 m15018 : Nat, (gr (cpl (cpl M b15009 (l4).toNatClampNeg b15008 ((0 : Int32)).toNatClampNeg (l3).toNatClampNeg) b15014 (l4).toNatClampNeg b15013 ((0 : Int32)).toNatClampNeg (l3).toNatClampNeg) a2 4) = some (b15018, 105, m15018) ∧ (∃ b15019 m15019 : Nat, (gr (cpl (cpl M b15009 (l4).toNatClampNeg b15008 ((0 : Int32)).toNatClampNeg (l3).toNatClampNeg) b15014 (l4).toNatClampNeg b15013 ((0 : Int32)).toNatClampNeg (l3).toNatClampNeg) a0 4) = some (b15019, 105, m15019) ∧ (16 ≤ b15018 ∧ (((¬ l5 < 0 ∧ ¬ (0 : Int32) < 0 ∧ ¬ (gi (cpl (cpl M b15009 (l4).toNatClampNeg b15008 ((0 : Int32)).toNatClampNeg (l3).toNatClampNeg) b15014 (l4).toNatClampNeg b15013 ((0 : Int32)).toNatClampNeg (l3).toNatClampNeg) b15017 11) < 0) ∧ (l5).toNatClampNeg + ((gi (cpl (cpl M b15009 (l4).toNatClampNeg b15008 ((0 : Int32)).toNatClampNeg (l3).toNatClampNeg) b15014 (l4).toNatClampNeg b15013 ((0 : Int32)).toNatClampNeg (l3).toNatClampNeg) b15017 11)).toNatClampNeg ≤ m15019 ∧ ((0 : Int32)).toNatClampNeg + ((gi (cpl (cpl M b15009 (l4).toNatClampNeg b15008 ((0 : Int32)).toNatClampNeg (l3).toNatClampNeg) b15014 (l4).toNatClampNeg b15013 ((0 : Int32)).toNatClampNeg (l3).toNatClampNeg) b15017 11)).toNatClampNeg ≤ m15018) ∧ (∃ b15022 : Nat, (gr (cpl (cpl (cpl M b15009 (l4).toNatClampNeg b15008 ((0 : Int32)).toNatClampNeg (l3).toNatClampNeg) b15014 (l4).toNatClampNeg b15013 ((0 : Int32)).toNatClampNeg (l3).toNatClampNeg) b15019 (l5).toNatClampNeg b15018 ((0 : Int32)).toNatClampNeg ((gi (cpl (cpl M b15009 (l4).toNatClampNeg b15008 ((0 : Int32)).toNatClampNeg (l3).toNatClampNeg) b15014 (l4).toNatClampNeg b15013 ((0 : Int32)).toNatClampNeg (l3).toNatClampNeg) b15017 11)).toNatClampNeg) a0 0) = some (b15022, 0, 0) ∧ (∃ b15023 m15023 : Nat, (gr (cpl (cpl (cpl M b15009 (l4).toNatClampNeg b15008 ((0 : Int32)).toNatClampNeg (l3).toNatClampNeg) b15014 (l4).toNatClampNeg b15013 ((0 : Int32)).toNatClampNeg (l3).toNatClampNeg) b15019 (l5).toNatClampNeg b15018 ((0 : Int32)).toNatClampNeg ((gi (cpl (cpl M b15009 (l4).toNatClampNeg b15008 ((0 : Int32)).toNatClampNeg (l3).toNatClampNeg) b15014 (l4).toNatClampNeg b15013 ((0 : Int32)).toNatClampNeg (l3).toNatClampNeg) b15017 11)).toNatClampNeg) a2 5) = some (b15023, 105, m15023) ∧ (∃ b15024 m15024 : Nat, (gr (cpl (cpl (cpl M b15009 (l4).toNatClampNeg b15008 ((0 : Int32)).toNatClampNeg (l3).toNatClampNeg) b15014 (l4).toNatClampNeg b15013 ((0 : Int32)).toNatClampNeg (l3).toNatClampNeg) b15019 (l5).toNatClampNeg b15018 ((0 : Int32)).toNatClampNeg ((gi (cpl (cpl M b15009 (l4).toNatClampNeg b15008 ((0 : Int32)).toNatClampNeg (l3).toNatClampNeg) b15014 (l4).toNatClampNeg b15013 ((0 : Int32)).toNatClampNeg (l3).toNatClampNeg) b15017 11)).toNatClampNeg) a0 5) = some (b15024, 105, m15024) ∧ (16 ≤ b15023 ∧ (((¬ l5 < 0 ∧ ¬ (0 : Int32) < 0 ∧ ¬ (gi (cpl (cpl (cpl M b15009 (l4).toNatClampNeg b15008 ((0 : Int32)).toNatClampNeg (l3).toNatClampNeg) b15014 (l4).toNatClampNeg b15013 ((0 : Int32)).toNatClampNeg (l3).toNatClampNeg) b15019 (l5).toNatClampNeg b15018 ((0 : Int32)).toNatClampNeg ((gi (cpl (cpl M b15009 (l4).toNatClampNeg b15008 ((0 : Int32)).toNatClampNeg (l3).toNatClampNeg) b15014 (l4).toNatClampNeg b15013 ((0 : Int32)).toNatClampNeg (l3).toNatClampNeg) b15017 11)).toNatClampNeg) b15022 11) < 0) ∧ (l5).toNatClampNeg + ((gi (cpl (cpl (cpl M b15009 (l4).toNatClampNeg b15008 ((0 : Int32)).toNatClampNeg (l3).toNatClampNeg) b15014 (l4).toNatClampNeg b15013 ((0 : Int32)).toNatClampNeg (l3).toNatClampNeg) b15019 (l5).toNatClampNeg b15018 ((0 : Int32)).toNatClampNeg ((gi (cpl (cpl M b15009 (l4).toNatClampNeg b15008 ((0 : Int32)).toNatClampNeg (l3).toNatClampNeg) b15014 (l4).toNatClampNeg b15013 ((0 : Int32)).toNatClampNeg (l3).toNatClampNeg) b15017 11)).toNatClampNeg) b15022 11)).toNatClampNeg ≤ m15024 ∧ ((0 : Int32)).toNatClampNeg + ((gi (cpl (cpl (cpl M b15009 (l4).toNatClampNeg b15008 ((0 : Int32)).toNatClampNeg (l3).toNatClampNeg) b15014 (l4).toNatClampNeg b15013 ((0 : Int32)).toNatClampNeg (l3).toNatClampNeg) b15019 (l5).toNatClampNeg b15018 ((0 : Int32)).toNatClampNeg ((gi (cpl (cpl M b15009 (l4).toNatClampNeg b15008 ((0 : Int32)).toNatClampNeg (l3).toNatClampNeg) b15014 (l4).toNatClampNeg b15013 ((0 : Int32)).toNatClampNeg (l3).toNatClampNeg) b15017 11)).toNatClampNeg) b15022 11)).toNatClampNeg ≤ m15023) ∧ (Z E YX42_heap d (cpl (cpl (cpl (cpl M b15009 (l4).toNatClampNeg b15008 ((0 : Int32)).toNatClampNeg (l3).toNatClampNeg) b15014 (l4).toNatClampNeg b15013 ((0 : Int32)).toNatClampNeg (l3).toNatClampNeg) b15019 (l5).toNatClampNeg b15018 ((0 : Int32)).toNatClampNeg ((gi (cpl (cpl M b15009 (l4).toNatClampNeg b15008 ((0 : Int32)).toNatClampNeg (l3).toNatClampNeg) b15014 (l4).toNatClampNeg b15013 ((0 : Int32)).toNatClampNeg (l3).toNatClampNeg) b15017 11)).toNatClampNeg) b15024 (l5).toNatClampNeg b15023 ((0 : Int32)).toNatClampNeg ((gi (cpl (cpl (cpl M b15009 (l4).toNatClampNeg b15008 ((0 : Int32)).toNatClampNeg (l3).toNatClampNeg) b15014 (l4).toNatClampNeg b15013 ((0 : Int32)).toNatClampNeg (l3).toNatClampNeg) b15019 (l5).toNatClampNeg b15018 ((0 : Int32)).toNatClampNeg ((gi (cpl (cpl M b15009 (l4).toNatClampNeg b15008 ((0 : Int32)).toNatClampNeg (l3).toNatClampNeg) b15014 (l4).toNatClampNeg b15013 ((0 : Int32)).toNatClampNeg (l3).toNatClampNeg) b15017 11)).toNatClampNeg) b15022 11)).toNatClampNeg) [(0, vr (some (a0, 6, 0))), (2, vr (some (a2, 7, 0))), (5, vi l5)] 121 [] Q)))))))))))))))))))) : Z E YX42_heap d M [(0, vr (some (a0, 6, 0))), (2, vr (some (a2, 7, 0))), (3, vi l3), (4, vi l4), (5, vi l5)] 49 [] Q := by
  refine sX42_heap_49 (d := d) M a0 a2 l3 l4 l5 ?_
  obtain ⟨b15008, m15008, h15008, k⟩ := k
  refine ⟨b15008, m15008, h15008, ?_⟩
  obtain ⟨b15009, m15009, h15009, k⟩ := k
  refine ⟨b15009, m15009, h15009, ?_⟩
  refine zand k (fun h15010 k => ?_)
  refine zand k (fun h15011 k => ?_)
  refine zand k (fun h15012 k => ?_)
  refine sX42_heap_64 (d := d) (cpl M b15009 (l4).toNatClampNeg b15008 ((0 : Int32)).toNatClampNeg (l3).toNatClampNeg) _ _ l3 l4 l5 ?_
  obtain ⟨b15013, m15013, h15013, k⟩ := k
  refine ⟨b15013, m15013, h15013, ?_⟩
  obtain ⟨b15014, m15014, h15014, k⟩ := k
  refine ⟨b15014, m15014, h15014, ?_⟩
  refine zand k (fun h15015 k => ?_)
  refine ⟨h15011, ?_⟩
  refine zand k (fun h15016 k => ?_)
  refine sX42_heap_79 (d := d) (cpl (cpl M b15009 (l4).toNatClampNeg b15008 ((0 : Int32)).toNatClampNeg (l3).toNatClampNeg) b15014 (l4).toNatClampNeg b15013 ((0 : Int32)).toNatClampNeg (l3).toNatClampNeg) _ _ l5 ?_
  obtain ⟨b15017, h15017, k⟩ := k
  refine ⟨b15017, h15017, ?_⟩
  obtain ⟨b15018, m15018, h15018, k⟩ := k
  refine ⟨b15018, m15018, h15018, ?_⟩
  obtain ⟨b15019, m15019, h15019, k⟩ := k
  refine ⟨b15019, m15019, h15019, ?_⟩
  refine zand k (fun h15020 k => ?_)
  refine ⟨h15011, ?_⟩
  refine zand k (fun h15021 k => ?_)
  refine sX42_heap_100 (d := d) (cpl (cpl (cpl M b15009 (l4).toNatClampNeg b15008 ((0 : Int32)).toNatClampNeg (l3).toNatClampNeg) b15014 (l4).toNatClampNeg b15013 ((0 : Int32)).toNatClampNeg (l3).toNatClampNeg) b15019 (l5).toNatClampNeg b15018 ((0 : Int32)).toNatClampNeg ((gi (cpl (cpl M b15009 (l4).toNatClampNeg b15008 ((0 : Int32)).toNatClampNeg (l3).toNatClampNeg) b15014 (l4).toNatClampNeg b15013 ((0 : Int32)).toNatClampNeg (l3).toNatClampNeg) b15017 11)).toNatClampNeg) _ _ l5 ?_
  obtain ⟨b15022, h15022, k⟩ := k
  refine ⟨b15022, h15022, ?_⟩
  obtain ⟨b15023, m15023, h15023, k⟩ := k
  refine ⟨b15023, m15023, h15023, ?_⟩
  obtain ⟨b15024, m15024, h15024, k⟩ := k
  refine ⟨b15024, m15024, h15024, ?_⟩
  refine zand k (fun h15025 k => ?_)
  refine ⟨h15011, ?_⟩
  exact k
theorem iX42_heap_121 {E : zE} {d : Nat} {Q : zO → zM → Prop} (M : zM) (a0 : Nat) (a2 : Nat) (l5 : Int32) (k : ∃ b15027 : Nat, (gr M a0 0) = some (b15027, 0, 0) ∧ (∃ b15028 m15028 : Nat, (gr M a2 6) = some (b15028, 105, m15028) ∧ (∃ b15029 m15029 : Nat, (gr M a0 6) = some (b15029, 105, m15029) ∧ (16 ≤ b15028 ∧ ((1 ≤ d) ∧ (((¬ l5 < 0 ∧ ¬ (0 : Int32) < 0 ∧ ¬ (gi M b15027 11) < 0) ∧ (l5).toNatClampNeg + ((gi M b15027 11)).toNatClampNeg ≤ m15029 ∧ ((0 : Int32)).toNatClampNeg + ((gi M b15027 11)).toNatClampNeg ≤ m15028) ∧ (∃ b15033 : Nat, (gr (cpl M b15029 (l5).toNatClampNeg b15028 ((0 : Int32)).toNatClampNeg ((gi M b15027 11)).toNatClampNeg) a0 0) = some (b15033, 0, 0) ∧ (∃ b15034 m15034 : Nat, (gr (cpl M b15029 (l5).toNatClampNeg b15028 ((0 : Int32)).toNatClampNeg ((gi M b15027 11)).toNatClampNeg) a2 7) = some (b15034, 105, m15034) ∧ (∃ b15035 m15035 : Nat, (gr (cpl M b15029 (l5).toNatClampNeg b15028 ((0 : Int32)).toNatClampNeg ((gi M b15027 11)).toNatClampNeg) a0 7) = some (b15035, 105, m15035) ∧ (16 ≤ b15034 ∧ (((¬ l5 < 0 ∧ ¬ (0 : Int32) < 0 ∧ ¬ (gi (cpl M b15029 (l5).toNatClampNeg b15028 ((0 : Int32)).toNatClampNeg ((gi M b15027 11)).toNatClampNeg) b15033 11) < 0) ∧ (l5).toNatClampNeg + ((gi (cpl M b15029 (l5).toNatClampNeg b15028 ((0 : Int32)).toNatClampNeg ((gi M b15027 11)).toNatClampNeg) b15033 11)).toNatClampNeg ≤ m15035 ∧ ((0 : Int32)).toNatClampNeg + ((gi (cpl M b15029 (l5).toNatClampNeg b15028 ((0 : Int32)).toNatClampNeg ((gi M b15027 11)).toNatClampNeg) b15033 11)).toNatClampNeg ≤ m15034) ∧ (Z E YX42_heap d (cpl (cpl M b15029 (l5).toNatClampNeg b15028 ((0 : Int32)).toNatClampNeg ((gi M b15027 11)).toNatClampNeg) b15035 (l5).toNatClampNeg b15034 ((0 : Int32)).toNatClampNeg ((gi (cpl M b15029 (l5).toNatClampNeg b15028 ((0 : Int32)).toNatClampNeg ((gi M b15027 11)).toNatClampNeg) b15033 11)).toNatClampNeg) [(0, vr (some (a0, 6, 0))), (2, vr (some (a2, 7, 0))), (5, vi l5), (6, vi (0 : Int32))] 166 [] Q)))))))))))) : Z E YX42_heap d M [(0, vr (some (a0, 6, 0))), (2, vr (some (a2, 7, 0))), (5, vi l5)] 121 [] Q := by
  refine sX42_heap_121 (d := d) M a0 a2 l5 ?_
  obtain ⟨b15027, h15027, k⟩ := k
  refine ⟨b15027, h15027, ?_⟩
  obtain ⟨b15028, m15028, h15028, k⟩ := k
  refine ⟨b15028, m15028, h15028, ?_⟩
  obtain ⟨b15029, m15029, h15029, k⟩ := k
  refine ⟨b15029, m15029, h15029, ?_⟩
  refine zand k (fun h15030 k => ?_)
  refine zand k (fun h15031 k => ?_)
  refine zand k (fun h15032 k => ?_)
  refine sX42_heap_142 (d := d) (cpl M b15029 (l5).toNatClampNeg b15028 ((0 : Int32)).toNatClampNeg ((gi M b15027 11)).toNatClampNeg) _ _ l5 ?_
  obtain ⟨b15033, h15033, k⟩ := k
  refine ⟨b15033, h15033, ?_⟩
  obtain ⟨b15034, m15034, h15034, k⟩ := k
  refine ⟨b15034, m15034, h15034, ?_⟩
  obtain ⟨b15035, m15035, h15035, k⟩ := k
  refine ⟨b15035, m15035, h15035, ?_⟩
  refine zand k (fun h15036 k => ?_)
  refine ⟨h15031, ?_⟩
  refine zand k (fun h15037 k => ?_)
  refine sX42_heap_163 (d := d) (cpl (cpl M b15029 (l5).toNatClampNeg b15028 ((0 : Int32)).toNatClampNeg ((gi M b15027 11)).toNatClampNeg) b15035 (l5).toNatClampNeg b15034 ((0 : Int32)).toNatClampNeg ((gi (cpl M b15029 (l5).toNatClampNeg b15028 ((0 : Int32)).toNatClampNeg ((gi M b15027 11)).toNatClampNeg) b15033 11)).toNatClampNeg) _ _ l5 ?_
  exact k
theorem iX42_heap_166 {E : zE} {d : Nat} {Q : zO → zM → Prop} (M : zM) (a0 : Nat) (a2 : Nat) (l5 : Int32) (l6 : Int32) (k : ∃ b15038 : Nat, (gr M a0 0) = some (b15038, 0, 0) ∧ (if (gi M b15038 11) ≤ l6 then (Q (.inl none) M) else (∃ b15040 m15040 : Nat, (gr M a0 8) = some (b15040, 101, m15040) ∧ (vp_in (l5 + l6) m15040 ∧ (if ((gi M b15040 ((l5 + l6)).toNatClampNeg) &&& (1 : Int32)) = 0 then (∃ b15043 m15043 : Nat, (gr M a2 8) = some (b15043, 104, m15043) ∧ (16 ≤ b15043 ∧ (vp_in l6 m15043 ∧ (if ((gi (si M b15043 (l6).toNatClampNeg (vp_nar .boolean (0 : Int32))) b15040 ((l5 + l6)).toNatClampNeg) &&& (2 : Int32)) = 0 then (∃ b15047 m15047 : Nat, (gr M a2 9) = some (b15047, 104, m15047) ∧ (16 ≤ b15047 ∧ (vp_in l6 m15047 ∧ (Z E YX42_heap d (si (si M b15043 (l6).toNatClampNeg (vp_nar .boolean (0 : Int32))) b15047 (l6).toNatClampNeg (vp_nar .boolean (0 : Int32))) [(0, vr (some (a0, 6, 0))), (2, vr (some (a2, 7, 0))), (5, vi l5), (6, vi (l6 + (1 : Int32)))] 166 [] Q)))) else (∃ b15050 m15050 : Nat, (gr M a2 9) = some (b15050, 104, m15050) ∧ (16 ≤ b15050 ∧ (vp_in l6 m15050 ∧ (Z E YX42_heap d (si (si M b15043 (l6).toNatClampNeg (vp_nar .boolean (0 : Int32))) b15050 (l6).toNatClampNeg (vp_nar .boolean (1 : Int32))) [(0, vr (some (a0, 6, 0))), (2, vr (some (a2, 7, 0))), (5, vi l5), (6, vi (l6 + (1 : Int32)))] 166 [] Q)))))))) else (∃ b15053 m15053 : Nat, (gr M a2 8) = some (b15053, 104, m15053) ∧ (16 ≤ b15053 ∧ (vp_in l6 m15053 ∧ (if ((gi (si M b15053 (l6).toNatClampNeg (vp_nar .boolean (1 : Int32))) b15040 ((l5 + l6)).toNatClampNeg) &&& (2 : Int32)) = 0 then (∃ b15057 m15057 : Nat, (gr M a2 9) = some (b15057, 104, m15057) ∧ (16 ≤ b15057 ∧ (vp_in l6 m15057 ∧ (Z E YX42_heap d (si (si M b15053 (l6).toNatClampNeg (vp_nar .boolean (1 : Int32))) b15057 (l6).toNatClampNeg (vp_nar .boolean (0 : Int32))) [(0, vr (some (a0, 6, 0))), (2, vr (some (a2, 7, 0))), (5, vi l5), (6, vi (l6 + (1 : Int32)))] 166 [] Q)))) else (∃ b15060 m15060 : Nat, (gr M a2 9) = some (b15060, 104, m15060) ∧ (16 ≤ b15060 ∧ (vp_in l6 m15060 ∧ (Z E YX42_heap d (si (si M b15053 (l6).toNatClampNeg (vp_nar .boolean (1 : Int32))) b15060 (l6).toNatClampNeg (vp_nar .boolean (1 : Int32))) [(0, vr (some (a0, 6, 0))), (2, vr (some (a2, 7, 0))), (5, vi l5), (6, vi (l6 + (1 : Int32)))] 166 [] Q))))))))))))) : Z E YX42_heap d M [(0, vr (some (a0, 6, 0))), (2, vr (some (a2, 7, 0))), (5, vi l5), (6, vi l6)] 166 [] Q := by
  refine sX42_heap_166 (d := d) M a0 a2 l5 l6 ?_
  obtain ⟨b15038, h15038, k⟩ := k
  refine ⟨b15038, h15038, ?_⟩
  refine zite k (fun h15039 k => ?_) (fun h15039 k => ?_)
  · exact k
  · obtain ⟨b15040, m15040, h15040, k⟩ := k
    refine ⟨b15040, m15040, h15040, ?_⟩
    refine zand k (fun h15041 k => ?_)
    refine zite k (fun h15042 k => ?_) (fun h15042 k => ?_)
    · refine sX42_heap_204 (d := d) M _ _ l5 l6 (0 : Int32) l6 (gr M a2 8) ?_
      obtain ⟨b15043, m15043, h15043, k⟩ := k
      refine ⟨b15043, m15043, h15043, ?_⟩
      refine zand k (fun h15044 k => ?_)
      refine zand k (fun h15045 k => ?_)
      refine ⟨b15040, m15040, h15040, ?_⟩
      refine ⟨h15041, ?_⟩
      exact k
    · refine sX42_heap_204 (d := d) M _ _ l5 l6 (1 : Int32) l6 (gr M a2 8) ?_
      obtain ⟨b15053, m15053, h15053, k⟩ := k
      refine ⟨b15053, m15053, h15053, ?_⟩
      refine zand k (fun h15054 k => ?_)
      refine zand k (fun h15055 k => ?_)
      refine ⟨b15040, m15040, h15040, ?_⟩
      refine ⟨h15041, ?_⟩
      exact k
theorem iX42_init_0 {E : zE} {d : Nat} {Q : zO → zM → Prop} (M : zM) (a0 : Nat) (r1 : Option zP) (k : 16 ≤ a0 ∧ (Z E YX42_init (d + 1) (zn (sr (zn (sr (zn (sr (zn (sr (zn (sr (zn M 465000) a0 1 (some ((zsz M), 105, 465000))) 465000) a0 2 (some ((zsz (zn M 465000)), 105, 465000))) 465000) a0 3 (some ((zsz (zn (sr (zn M 465000) a0 1 (some ((zsz M), 105, 465000))) 465000)), 105, 465000))) 15000) a0 4 (some ((zsz (zn (sr (zn (sr (zn M 465000) a0 1 (some ((zsz M), 105, 465000))) 465000) a0 2 (some ((zsz (zn M 465000)), 105, 465000))) 465000)), 105, 15000))) 15000) a0 5 (some ((zsz (zn (sr (zn (sr (zn (sr (zn M 465000) a0 1 (some ((zsz M), 105, 465000))) 465000) a0 2 (some ((zsz (zn M 465000)), 105, 465000))) 465000) a0 3 (some ((zsz (zn (sr (zn M 465000) a0 1 (some ((zsz M), 105, 465000))) 465000)), 105, 465000))) 15000)), 105, 15000))) 15000) [(0, vr (some (a0, 6, 0))), (1, vr r1)] 52 [vr (some ((zsz (zn (sr (zn (sr (zn (sr (zn (sr (zn M 465000) a0 1 (some ((zsz M), 105, 465000))) 465000) a0 2 (some ((zsz (zn M 465000)), 105, 465000))) 465000) a0 3 (some ((zsz (zn (sr (zn M 465000) a0 1 (some ((zsz M), 105, 465000))) 465000)), 105, 465000))) 15000) a0 4 (some ((zsz (zn (sr (zn (sr (zn M 465000) a0 1 (some ((zsz M), 105, 465000))) 465000) a0 2 (some ((zsz (zn M 465000)), 105, 465000))) 465000)), 105, 15000))) 15000)), 105, 15000)), vr (some (a0, 6, 0))] Q)) : Z E YX42_init (d + 1) M [(0, vr (some (a0, 6, 0))), (1, vr r1)] 0 [] Q := by
  refine sX42_init_0 (d := d) M a0 r1 ?_
  refine sX42_init_9 (d := d) (zn M 465000) _ r1 (zsz M) ?_
  refine zand k (fun h15063 k => ?_)
  refine sX42_init_17 (d := d) (zn (sr (zn M 465000) a0 1 (some ((zsz M), 105, 465000))) 465000) _ r1 (zsz (zn M 465000)) ?_
  refine ⟨h15063, ?_⟩
  refine sX42_init_25 (d := d) (zn (sr (zn (sr (zn M 465000) a0 1 (some ((zsz M), 105, 465000))) 465000) a0 2 (some ((zsz (zn M 465000)), 105, 465000))) 465000) _ r1 (zsz (zn (sr (zn M 465000) a0 1 (some ((zsz M), 105, 465000))) 465000)) ?_
  refine ⟨h15063, ?_⟩
  refine sX42_init_34 (d := d) (zn (sr (zn (sr (zn (sr (zn M 465000) a0 1 (some ((zsz M), 105, 465000))) 465000) a0 2 (some ((zsz (zn M 465000)), 105, 465000))) 465000) a0 3 (some ((zsz (zn (sr (zn M 465000) a0 1 (some ((zsz M), 105, 465000))) 465000)), 105, 465000))) 15000) _ r1 (zsz (zn (sr (zn (sr (zn M 465000) a0 1 (some ((zsz M), 105, 465000))) 465000) a0 2 (some ((zsz (zn M 465000)), 105, 465000))) 465000)) ?_
  refine ⟨h15063, ?_⟩
  refine sX42_init_43 (d := d) (zn (sr (zn (sr (zn (sr (zn (sr (zn M 465000) a0 1 (some ((zsz M), 105, 465000))) 465000) a0 2 (some ((zsz (zn M 465000)), 105, 465000))) 465000) a0 3 (some ((zsz (zn (sr (zn M 465000) a0 1 (some ((zsz M), 105, 465000))) 465000)), 105, 465000))) 15000) a0 4 (some ((zsz (zn (sr (zn (sr (zn M 465000) a0 1 (some ((zsz M), 105, 465000))) 465000) a0 2 (some ((zsz (zn M 465000)), 105, 465000))) 465000)), 105, 15000))) 15000) _ r1 (zsz (zn (sr (zn (sr (zn (sr (zn M 465000) a0 1 (some ((zsz M), 105, 465000))) 465000) a0 2 (some ((zsz (zn M 465000)), 105, 465000))) 465000) a0 3 (some ((zsz (zn (sr (zn M 465000) a0 1 (some ((zsz M), 105, 465000))) 465000)), 105, 465000))) 15000)) ?_
  refine ⟨h15063, ?_⟩
  exact k
theorem iX42_init_52 {E : zE} {d : Nat} {Q : zO → zM → Prop} (M : zM) (a0 : Nat) (r1 : Option zP) (p0 : Nat) (k : 16 ≤ a0 ∧ (Z E YX42_init (d + 1) (zn (sr (zn (sr (zn (sr (zn (sr (zn (sr (zn (sr M a0 6 (some (p0, 105, 15000))) 15000) a0 7 (some ((zsz M), 105, 15000))) 15000) a0 8 (some ((zsz (zn (sr M a0 6 (some (p0, 105, 15000))) 15000)), 101, 15000))) 624) a0 9 (some ((zsz (zn (sr (zn (sr M a0 6 (some (p0, 105, 15000))) 15000) a0 7 (some ((zsz M), 105, 15000))) 15000)), 100, 624))) 624) a0 10 (some ((zsz (zn (sr (zn (sr (zn (sr M a0 6 (some (p0, 105, 15000))) 15000) a0 7 (some ((zsz M), 105, 15000))) 15000) a0 8 (some ((zsz (zn (sr M a0 6 (some (p0, 105, 15000))) 15000)), 101, 15000))) 624)), 100, 624))) 624) a0 11 (some ((zsz (zn (sr (zn (sr (zn (sr (zn (sr M a0 6 (some (p0, 105, 15000))) 15000) a0 7 (some ((zsz M), 105, 15000))) 15000) a0 8 (some ((zsz (zn (sr M a0 6 (some (p0, 105, 15000))) 15000)), 101, 15000))) 624) a0 9 (some ((zsz (zn (sr (zn (sr M a0 6 (some (p0, 105, 15000))) 15000) a0 7 (some ((zsz M), 105, 15000))) 15000)), 100, 624))) 624)), 105, 624))) 624) [(0, vr (some (a0, 6, 0))), (1, vr r1)] 106 [vr (some ((zsz (zn (sr (zn (sr (zn (sr (zn (sr (zn (sr M a0 6 (some (p0, 105, 15000))) 15000) a0 7 (some ((zsz M), 105, 15000))) 15000) a0 8 (some ((zsz (zn (sr M a0 6 (some (p0, 105, 15000))) 15000)), 101, 15000))) 624) a0 9 (some ((zsz (zn (sr (zn (sr M a0 6 (some (p0, 105, 15000))) 15000) a0 7 (some ((zsz M), 105, 15000))) 15000)), 100, 624))) 624) a0 10 (some ((zsz (zn (sr (zn (sr (zn (sr M a0 6 (some (p0, 105, 15000))) 15000) a0 7 (some ((zsz M), 105, 15000))) 15000) a0 8 (some ((zsz (zn (sr M a0 6 (some (p0, 105, 15000))) 15000)), 101, 15000))) 624)), 100, 624))) 624)), 105, 624)), vr (some (a0, 6, 0))] Q)) : Z E YX42_init (d + 1) M [(0, vr (some (a0, 6, 0))), (1, vr r1)] 52 [vr (some (p0, 105, 15000)), vr (some (a0, 6, 0))] Q := by
  refine sX42_init_52 (d := d) M a0 r1 p0 ?_
  refine zand k (fun h15064 k => ?_)
  refine sX42_init_61 (d := d) (zn (sr M a0 6 (some (p0, 105, 15000))) 15000) _ r1 (zsz M) ?_
  refine ⟨h15064, ?_⟩
  refine sX42_init_70 (d := d) (zn (sr (zn (sr M a0 6 (some (p0, 105, 15000))) 15000) a0 7 (some ((zsz M), 105, 15000))) 15000) _ r1 (zsz (zn (sr M a0 6 (some (p0, 105, 15000))) 15000)) ?_
  refine ⟨h15064, ?_⟩
  refine sX42_init_79 (d := d) (zn (sr (zn (sr (zn (sr M a0 6 (some (p0, 105, 15000))) 15000) a0 7 (some ((zsz M), 105, 15000))) 15000) a0 8 (some ((zsz (zn (sr M a0 6 (some (p0, 105, 15000))) 15000)), 101, 15000))) 624) _ r1 (zsz (zn (sr (zn (sr M a0 6 (some (p0, 105, 15000))) 15000) a0 7 (some ((zsz M), 105, 15000))) 15000)) ?_
  refine ⟨h15064, ?_⟩
  refine sX42_init_88 (d := d) (zn (sr (zn (sr (zn (sr (zn (sr M a0 6 (some (p0, 105, 15000))) 15000) a0 7 (some ((zsz M), 105, 15000))) 15000) a0 8 (some ((zsz (zn (sr M a0 6 (some (p0, 105, 15000))) 15000)), 101, 15000))) 624) a0 9 (some ((zsz (zn (sr (zn (sr M a0 6 (some (p0, 105, 15000))) 15000) a0 7 (some ((zsz M), 105, 15000))) 15000)), 100, 624))) 624) _ r1 (zsz (zn (sr (zn (sr (zn (sr M a0 6 (some (p0, 105, 15000))) 15000) a0 7 (some ((zsz M), 105, 15000))) 15000) a0 8 (some ((zsz (zn (sr M a0 6 (some (p0, 105, 15000))) 15000)), 101, 15000))) 624)) ?_
  refine ⟨h15064, ?_⟩
  refine sX42_init_97 (d := d) (zn (sr (zn (sr (zn (sr (zn (sr (zn (sr M a0 6 (some (p0, 105, 15000))) 15000) a0 7 (some ((zsz M), 105, 15000))) 15000) a0 8 (some ((zsz (zn (sr M a0 6 (some (p0, 105, 15000))) 15000)), 101, 15000))) 624) a0 9 (some ((zsz (zn (sr (zn (sr M a0 6 (some (p0, 105, 15000))) 15000) a0 7 (some ((zsz M), 105, 15000))) 15000)), 100, 624))) 624) a0 10 (some ((zsz (zn (sr (zn (sr (zn (sr M a0 6 (some (p0, 105, 15000))) 15000) a0 7 (some ((zsz M), 105, 15000))) 15000) a0 8 (some ((zsz (zn (sr M a0 6 (some (p0, 105, 15000))) 15000)), 101, 15000))) 624)), 100, 624))) 624) _ r1 (zsz (zn (sr (zn (sr (zn (sr (zn (sr M a0 6 (some (p0, 105, 15000))) 15000) a0 7 (some ((zsz M), 105, 15000))) 15000) a0 8 (some ((zsz (zn (sr M a0 6 (some (p0, 105, 15000))) 15000)), 101, 15000))) 624) a0 9 (some ((zsz (zn (sr (zn (sr M a0 6 (some (p0, 105, 15000))) 15000) a0 7 (some ((zsz M), 105, 15000))) 15000)), 100, 624))) 624)) ?_
  refine ⟨h15064, ?_⟩
  exact k
theorem iX42_init_106 {E : zE} {d : Nat} {Q : zO → zM → Prop} (M : zM) (a0 : Nat) (r1 : Option zP) (p0 : Nat) (k : 16 ≤ a0 ∧ (Z E YX42_init (d + 1) (zn (sr (zn (sr (zn (sr (zn (sr (zn (sr (zn (sr M a0 12 (some (p0, 105, 624))) 624) a0 13 (some ((zsz M), 105, 624))) 624) a0 14 (some ((zsz (zn (sr M a0 12 (some (p0, 105, 624))) 624)), 105, 624))) 624) a0 15 (some ((zsz (zn (sr (zn (sr M a0 12 (some (p0, 105, 624))) 624) a0 13 (some ((zsz M), 105, 624))) 624)), 105, 624))) 4096) a0 16 (some ((zsz (zn (sr (zn (sr (zn (sr M a0 12 (some (p0, 105, 624))) 624) a0 13 (some ((zsz M), 105, 624))) 624) a0 14 (some ((zsz (zn (sr M a0 12 (some (p0, 105, 624))) 624)), 105, 624))) 624)), 105, 4096))) 4096) a0 17 (some ((zsz (zn (sr (zn (sr (zn (sr (zn (sr M a0 12 (some (p0, 105, 624))) 624) a0 13 (some ((zsz M), 105, 624))) 624) a0 14 (some ((zsz (zn (sr M a0 12 (some (p0, 105, 624))) 624)), 105, 624))) 624) a0 15 (some ((zsz (zn (sr (zn (sr M a0 12 (some (p0, 105, 624))) 624) a0 13 (some ((zsz M), 105, 624))) 624)), 105, 624))) 4096)), 105, 4096))) 4096) [(0, vr (some (a0, 6, 0))), (1, vr r1)] 160 [vr (some ((zsz (zn (sr (zn (sr (zn (sr (zn (sr (zn (sr M a0 12 (some (p0, 105, 624))) 624) a0 13 (some ((zsz M), 105, 624))) 624) a0 14 (some ((zsz (zn (sr M a0 12 (some (p0, 105, 624))) 624)), 105, 624))) 624) a0 15 (some ((zsz (zn (sr (zn (sr M a0 12 (some (p0, 105, 624))) 624) a0 13 (some ((zsz M), 105, 624))) 624)), 105, 624))) 4096) a0 16 (some ((zsz (zn (sr (zn (sr (zn (sr M a0 12 (some (p0, 105, 624))) 624) a0 13 (some ((zsz M), 105, 624))) 624) a0 14 (some ((zsz (zn (sr M a0 12 (some (p0, 105, 624))) 624)), 105, 624))) 624)), 105, 4096))) 4096)), 105, 4096)), vr (some (a0, 6, 0))] Q)) : Z E YX42_init (d + 1) M [(0, vr (some (a0, 6, 0))), (1, vr r1)] 106 [vr (some (p0, 105, 624)), vr (some (a0, 6, 0))] Q := by
  refine sX42_init_106 (d := d) M a0 r1 p0 ?_
  refine zand k (fun h15065 k => ?_)
  refine sX42_init_115 (d := d) (zn (sr M a0 12 (some (p0, 105, 624))) 624) _ r1 (zsz M) ?_
  refine ⟨h15065, ?_⟩
  refine sX42_init_124 (d := d) (zn (sr (zn (sr M a0 12 (some (p0, 105, 624))) 624) a0 13 (some ((zsz M), 105, 624))) 624) _ r1 (zsz (zn (sr M a0 12 (some (p0, 105, 624))) 624)) ?_
  refine ⟨h15065, ?_⟩
  refine sX42_init_133 (d := d) (zn (sr (zn (sr (zn (sr M a0 12 (some (p0, 105, 624))) 624) a0 13 (some ((zsz M), 105, 624))) 624) a0 14 (some ((zsz (zn (sr M a0 12 (some (p0, 105, 624))) 624)), 105, 624))) 624) _ r1 (zsz (zn (sr (zn (sr M a0 12 (some (p0, 105, 624))) 624) a0 13 (some ((zsz M), 105, 624))) 624)) ?_
  refine ⟨h15065, ?_⟩
  refine sX42_init_142 (d := d) (zn (sr (zn (sr (zn (sr (zn (sr M a0 12 (some (p0, 105, 624))) 624) a0 13 (some ((zsz M), 105, 624))) 624) a0 14 (some ((zsz (zn (sr M a0 12 (some (p0, 105, 624))) 624)), 105, 624))) 624) a0 15 (some ((zsz (zn (sr (zn (sr M a0 12 (some (p0, 105, 624))) 624) a0 13 (some ((zsz M), 105, 624))) 624)), 105, 624))) 4096) _ r1 (zsz (zn (sr (zn (sr (zn (sr M a0 12 (some (p0, 105, 624))) 624) a0 13 (some ((zsz M), 105, 624))) 624) a0 14 (some ((zsz (zn (sr M a0 12 (some (p0, 105, 624))) 624)), 105, 624))) 624)) ?_
  refine ⟨h15065, ?_⟩
  refine sX42_init_151 (d := d) (zn (sr (zn (sr (zn (sr (zn (sr (zn (sr M a0 12 (some (p0, 105, 624))) 624) a0 13 (some ((zsz M), 105, 624))) 624) a0 14 (some ((zsz (zn (sr M a0 12 (some (p0, 105, 624))) 624)), 105, 624))) 624) a0 15 (some ((zsz (zn (sr (zn (sr M a0 12 (some (p0, 105, 624))) 624) a0 13 (some ((zsz M), 105, 624))) 624)), 105, 624))) 4096) a0 16 (some ((zsz (zn (sr (zn (sr (zn (sr M a0 12 (some (p0, 105, 624))) 624) a0 13 (some ((zsz M), 105, 624))) 624) a0 14 (some ((zsz (zn (sr M a0 12 (some (p0, 105, 624))) 624)), 105, 624))) 624)), 105, 4096))) 4096) _ r1 (zsz (zn (sr (zn (sr (zn (sr (zn (sr M a0 12 (some (p0, 105, 624))) 624) a0 13 (some ((zsz M), 105, 624))) 624) a0 14 (some ((zsz (zn (sr M a0 12 (some (p0, 105, 624))) 624)), 105, 624))) 624) a0 15 (some ((zsz (zn (sr (zn (sr M a0 12 (some (p0, 105, 624))) 624) a0 13 (some ((zsz M), 105, 624))) 624)), 105, 624))) 4096)) ?_
  refine ⟨h15065, ?_⟩
  exact k
theorem iX42_init_160 {E : zE} {d : Nat} {Q : zO → zM → Prop} (M : zM) (a0 : Nat) (r1 : Option zP) (p0 : Nat) (k : 16 ≤ a0 ∧ (Q (.inl none) (sr (sr M a0 18 (some (p0, 105, 4096))) a0 0 r1))) : Z E YX42_init (d + 1) M [(0, vr (some (a0, 6, 0))), (1, vr r1)] 160 [vr (some (p0, 105, 4096)), vr (some (a0, 6, 0))] Q := by
  refine sX42_init_160 (d := d) M a0 r1 p0 ?_
  refine zand k (fun h15066 k => ?_)
  refine ⟨h15066, ?_⟩
  exact k
theorem iX42_join_0 {E : zE} {d : Nat} {Q : zO → zM → Prop} (M : zM) (a0 : Nat) (l1 : Int32) (r2 : Option zP) (k : ∃ b15067 m15067 : Nat, (gr M a0 9) = some (b15067, 100, m15067) ∧ (vp_in l1 m15067 ∧ (if (gi M b15067 (l1).toNatClampNeg) = (-1 : Int32) then (Z E YX42_begin d M (zargs 0 [vr (some (a0, 6, 0)), vi l1, vr r2]) 0 [] (zafter E YX42_join (d + 1) [] 13 3 [] Q)) else (16 ≤ a0 ∧ (∃ b15089 : Nat, (gr M a0 0) = some (b15089, 0, 0) ∧ (∃ b15090 m15090 : Nat, (gr M a0 10) = some (b15090, 100, m15090) ∧ (vp_in l1 m15090 ∧ (Z E YX42_join (d + 1) (si M a0 20 (0 : Int32)) [(0, vr (some (a0, 6, 0))), (1, vi l1), (2, vr r2), (3, vi ((gi (si M a0 20 (0 : Int32)) b15089 11) * ((gi (si M a0 20 (0 : Int32)) b15089 1) + (1 : Int32)))), (4, vi (l1 * ((gi (si M a0 20 (0 : Int32)) b15089 11) * ((gi (si M a0 20 (0 : Int32)) b15089 1) + (1 : Int32))))), (5, vi (l1 * (gi (si M a0 20 (0 : Int32)) b15089 11))), (6, vi (gi (si M a0 20 (0 : Int32)) b15090 (l1).toNatClampNeg)), (7, vi (0 : Int32))] 68 [] Q)))))))) : Z E YX42_join (d + 1) M [(0, vr (some (a0, 6, 0))), (1, vi l1), (2, vr r2)] 0 [] Q := by
  refine sX42_join_0 (d := d) M a0 l1 r2 ?_
  obtain ⟨b15067, m15067, h15067, k⟩ := k
  refine ⟨b15067, m15067, h15067, ?_⟩
  refine zand k (fun h15068 k => ?_)
  refine zite k (fun h15069 k => ?_) (fun h15069 k => ?_)
  · exact k
  · refine zand k (fun h15088 k => ?_)
    obtain ⟨b15089, h15089, k⟩ := k
    refine ⟨b15089, h15089, ?_⟩
    refine ⟨b15089, h15089, ?_⟩
    refine ⟨b15089, h15089, ?_⟩
    exact k
theorem iX42_join_68 {E : zE} {d : Nat} {Q : zO → zM → Prop} (M : zM) (a0 : Nat) (l1 : Int32) (r2 : Option zP) (l3 : Int32) (l4 : Int32) (l5 : Int32) (l6 : Int32) (l7 : Int32) (k : if l3 ≤ l7 then (Z E YX42_join (d + 1) M [(0, vr (some (a0, 6, 0))), (1, vi l1), (2, vr r2), (5, vi l5), (6, vi l6), (7, vi (0 : Int32))] 211 [] Q) else (∃ b15416 m15416 : Nat, (gr M a0 1) = some (b15416, 105, m15416) ∧ (vp_in (l4 + l7) m15416 ∧ (∃ b15418 : Nat, r2 = some (b15418, 7, 0) ∧ (∃ b15419 m15419 : Nat, (gr M b15418 1) = some (b15419, 105, m15419) ∧ (vp_in l7 m15419 ∧ (Z E YX42_more d M (zargs 0 [vr (some (a0, 6, 0)), vl (gl M b15416 ((l4 + l7)).toNatClampNeg), vl ((gl M b15416 ((l4 + l7)).toNatClampNeg) ||| (gl M b15419 (l7).toNatClampNeg))]) 0 [] (zafter E YX42_join (d + 1) [(0, vr (some (a0, 6, 0))), (1, vi l1), (2, vr (some (b15418, 7, 0))), (3, vi l3), (4, vi l4), (5, vi l5), (6, vi l6), (7, vi l7)] 112 3 [vi (l4 + l7), vr (some (b15416, 105, m15416))] Q)))))))) : Z E YX42_join (d + 1) M [(0, vr (some (a0, 6, 0))), (1, vi l1), (2, vr r2), (3, vi l3), (4, vi l4), (5, vi l5), (6, vi l6), (7, vi l7)] 68 [] Q := by
  refine sX42_join_68 (d := d) M a0 l1 r2 l3 l4 l5 l6 l7 ?_
  refine zite k (fun h15415 k => ?_) (fun h15415 k => ?_)
  · exact k
  · obtain ⟨b15416, m15416, h15416, k⟩ := k
    refine ⟨b15416, m15416, h15416, ?_⟩
    refine zand k (fun h15417 k => ?_)
    refine ⟨b15416, m15416, h15416, ?_⟩
    refine ⟨h15417, ?_⟩
    exact k
theorem iX42_join_211 {E : zE} {d : Nat} {Q : zO → zM → Prop} (M : zM) (a0 : Nat) (l1 : Int32) (r2 : Option zP) (l5 : Int32) (l6 : Int32) (l7 : Int32) (k : ∃ b15533 : Nat, (gr M a0 0) = some (b15533, 0, 0) ∧ (if (gi M b15533 11) ≤ l7 then (Z E YX42_join (d + 1) M [(0, vr (some (a0, 6, 0))), (1, vi l1), (2, vr r2), (6, vi l6), (7, vi (0 : Int32))] 446 [] Q) else (∃ b15535 m15535 : Nat, (gr M a0 4) = some (b15535, 105, m15535) ∧ (vp_in (l5 + l7) m15535 ∧ (∃ b15537 : Nat, r2 = some (b15537, 7, 0) ∧ (∃ b15538 m15538 : Nat, (gr M b15537 4) = some (b15538, 105, m15538) ∧ (vp_in l7 m15538 ∧ (Z E YX42_more d M (zargs 0 [vr (some (a0, 6, 0)), vl (gl M b15535 ((l5 + l7)).toNatClampNeg), vl ((gl M b15535 ((l5 + l7)).toNatClampNeg) ||| (gl M b15538 (l7).toNatClampNeg))]) 0 [] (zafter E YX42_join (d + 1) [(0, vr (some (a0, 6, 0))), (1, vi l1), (2, vr (some (b15537, 7, 0))), (5, vi l5), (6, vi l6), (7, vi l7)] 261 3 [vi (l5 + l7), vr (some (b15535, 105, m15535))] Q))))))))) : Z E YX42_join (d + 1) M [(0, vr (some (a0, 6, 0))), (1, vi l1), (2, vr r2), (5, vi l5), (6, vi l6), (7, vi l7)] 211 [] Q := by
  refine sX42_join_211 (d := d) M a0 l1 r2 l5 l6 l7 ?_
  obtain ⟨b15533, h15533, k⟩ := k
  refine ⟨b15533, h15533, ?_⟩
  refine zite k (fun h15534 k => ?_) (fun h15534 k => ?_)
  · exact k
  · obtain ⟨b15535, m15535, h15535, k⟩ := k
    refine ⟨b15535, m15535, h15535, ?_⟩
    refine zand k (fun h15536 k => ?_)
    refine ⟨b15535, m15535, h15535, ?_⟩
    refine ⟨h15536, ?_⟩
    exact k
theorem iX42_join_115 {E : zE} {d : Nat} {Q : zO → zM → Prop} (M : zM) (a0 : Nat) (l1 : Int32) (a2 : Nat) (l3 : Int32) (l4 : Int32) (l5 : Int32) (l6 : Int32) (l7 : Int32) (s0 : Int64) (s1 : Int32) (p2 : Nat) (np2 : Nat) (k : 16 ≤ p2 ∧ (vp_in s1 np2 ∧ (∃ b15542 m15542 : Nat, (gr M a0 2) = some (b15542, 105, m15542) ∧ (vp_in (l4 + l7) m15542 ∧ (∃ b15544 m15544 : Nat, (gr M a2 2) = some (b15544, 105, m15544) ∧ (vp_in l7 m15544 ∧ (if (lg_cmp (gl (sl M p2 (s1).toNatClampNeg s0) b15542 ((l4 + l7)).toNatClampNeg) ((gl (sl M p2 (s1).toNatClampNeg s0) b15542 ((l4 + l7)).toNatClampNeg) ||| (gl (sl M p2 (s1).toNatClampNeg s0) b15544 (l7).toNatClampNeg))) = 0 then (16 ≤ a0 ∧ (zfit .boolean ((gi M a0 20) ||| (0 : Int32)) ∧ (16 ≤ b15542 ∧ (∃ b15550 m15550 : Nat, (gr M a0 3) = some (b15550, 105, m15550) ∧ (vp_in (l4 + l7) m15550 ∧ (∃ b15552 m15552 : Nat, (gr M a2 3) = some (b15552, 105, m15552) ∧ (vp_in l7 m15552 ∧ (Z E YX1_joined d (sl (si (sl M p2 (s1).toNatClampNeg s0) a0 20 ((gi M a0 20) ||| (0 : Int32))) b15542 ((l4 + l7)).toNatClampNeg ((gl (sl M p2 (s1).toNatClampNeg s0) b15542 ((l4 + l7)).toNatClampNeg) ||| (gl (sl M p2 (s1).toNatClampNeg s0) b15544 (l7).toNatClampNeg))) (zargs 0 [vl (gl (sl (si (sl M p2 (s1).toNatClampNeg s0) a0 20 ((gi M a0 20) ||| (0 : Int32))) b15542 ((l4 + l7)).toNatClampNeg ((gl (sl M p2 (s1).toNatClampNeg s0) b15542 ((l4 + l7)).toNatClampNeg) ||| (gl (sl M p2 (s1).toNatClampNeg s0) b15544 (l7).toNatClampNeg))) b15550 ((l4 + l7)).toNatClampNeg), vl (gl (sl (si (sl M p2 (s1).toNatClampNeg s0) a0 20 ((gi M a0 20) ||| (0 : Int32))) b15542 ((l4 + l7)).toNatClampNeg ((gl (sl M p2 (s1).toNatClampNeg s0) b15542 ((l4 + l7)).toNatClampNeg) ||| (gl (sl M p2 (s1).toNatClampNeg s0) b15544 (l7).toNatClampNeg))) b15552 (l7).toNatClampNeg)]) 0 [] (zafter E YX42_join (d + 1) [(0, vr (some (a0, 6, 0))), (1, vi l1), (2, vr (some (a2, 7, 0))), (3, vi l3), (4, vi l4), (5, vi l5), (6, vi l6), (7, vi l7)] 195 3 [vl (gl (sl (si (sl M p2 (s1).toNatClampNeg s0) a0 20 ((gi M a0 20) ||| (0 : Int32))) b15542 ((l4 + l7)).toNatClampNeg ((gl (sl M p2 (s1).toNatClampNeg s0) b15542 ((l4 + l7)).toNatClampNeg) ||| (gl (sl M p2 (s1).toNatClampNeg s0) b15544 (l7).toNatClampNeg))) b15550 ((l4 + l7)).toNatClampNeg), vr (some (a0, 6, 0)), vi (l4 + l7), vr (some (b15550, 105, m15550))] Q))))))))) else (16 ≤ a0 ∧ (zfit .boolean ((gi M a0 20) ||| (1 : Int32)) ∧ (16 ≤ b15542 ∧ (∃ b15557 m15557 : Nat, (gr M a0 3) = some (b15557, 105, m15557) ∧ (vp_in (l4 + l7) m15557 ∧ (∃ b15559 m15559 : Nat, (gr M a2 3) = some (b15559, 105, m15559) ∧ (vp_in l7 m15559 ∧ (Z E YX1_joined d (sl (si (sl M p2 (s1).toNatClampNeg s0) a0 20 ((gi M a0 20) ||| (1 : Int32))) b15542 ((l4 + l7)).toNatClampNeg ((gl (sl M p2 (s1).toNatClampNeg s0) b15542 ((l4 + l7)).toNatClampNeg) ||| (gl (sl M p2 (s1).toNatClampNeg s0) b15544 (l7).toNatClampNeg))) (zargs 0 [vl (gl (sl (si (sl M p2 (s1).toNatClampNeg s0) a0 20 ((gi M a0 20) ||| (1 : Int32))) b15542 ((l4 + l7)).toNatClampNeg ((gl (sl M p2 (s1).toNatClampNeg s0) b15542 ((l4 + l7)).toNatClampNeg) ||| (gl (sl M p2 (s1).toNatClampNeg s0) b15544 (l7).toNatClampNeg))) b15557 ((l4 + l7)).toNatClampNeg), vl (gl (sl (si (sl M p2 (s1).toNatClampNeg s0) a0 20 ((gi M a0 20) ||| (1 : Int32))) b15542 ((l4 + l7)).toNatClampNeg ((gl (sl M p2 (s1).toNatClampNeg s0) b15542 ((l4 + l7)).toNatClampNeg) ||| (gl (sl M p2 (s1).toNatClampNeg s0) b15544 (l7).toNatClampNeg))) b15559 (l7).toNatClampNeg)]) 0 [] (zafter E YX42_join (d + 1) [(0, vr (some (a0, 6, 0))), (1, vi l1), (2, vr (some (a2, 7, 0))), (3, vi l3), (4, vi l4), (5, vi l5), (6, vi l6), (7, vi l7)] 195 3 [vl (gl (sl (si (sl M p2 (s1).toNatClampNeg s0) a0 20 ((gi M a0 20) ||| (1 : Int32))) b15542 ((l4 + l7)).toNatClampNeg ((gl (sl M p2 (s1).toNatClampNeg s0) b15542 ((l4 + l7)).toNatClampNeg) ||| (gl (sl M p2 (s1).toNatClampNeg s0) b15544 (l7).toNatClampNeg))) b15557 ((l4 + l7)).toNatClampNeg), vr (some (a0, 6, 0)), vi (l4 + l7), vr (some (b15557, 105, m15557))] Q)))))))))))))))) : Z E YX42_join (d + 1) M [(0, vr (some (a0, 6, 0))), (1, vi l1), (2, vr (some (a2, 7, 0))), (3, vi l3), (4, vi l4), (5, vi l5), (6, vi l6), (7, vi l7)] 115 [vl s0, vi s1, vr (some (p2, 105, np2))] Q := by
  refine sX42_join_115 (d := d) M a0 l1 a2 l3 l4 l5 l6 l7 s0 s1 p2 np2 ?_
  refine zand k (fun h15540 k => ?_)
  refine zand k (fun h15541 k => ?_)
  obtain ⟨b15542, m15542, h15542, k⟩ := k
  refine ⟨b15542, m15542, h15542, ?_⟩
  refine zand k (fun h15543 k => ?_)
  refine ⟨b15542, m15542, h15542, ?_⟩
  refine ⟨h15543, ?_⟩
  obtain ⟨b15544, m15544, h15544, k⟩ := k
  refine ⟨b15544, m15544, h15544, ?_⟩
  refine zand k (fun h15545 k => ?_)
  refine sX42_more_0 (d := d) (sl M p2 (s1).toNatClampNeg s0) _ (gl (sl M p2 (s1).toNatClampNeg s0) b15542 ((l4 + l7)).toNatClampNeg) ((gl (sl M p2 (s1).toNatClampNeg s0) b15542 ((l4 + l7)).toNatClampNeg) ||| (gl (sl M p2 (s1).toNatClampNeg s0) b15544 (l7).toNatClampNeg)) ?_
  refine zite k (fun h15546 k => ?_) (fun h15546 k => ?_)
  · refine zand k (fun h15547 k => ?_)
    refine zand k (fun h15548 k => ?_)
    show Z E YX42_join (d + 1) (si (sl M p2 (s1).toNatClampNeg s0) a0 20 ((gi M a0 20) ||| (0 : Int32))) [(0, vr (some (a0, 6, 0))), (1, vi l1), (2, vr (some (a2, 7, 0))), (3, vi l3), (4, vi l4), (5, vi l5), (6, vi l6), (7, vi l7)] 157 [vl ((gl (sl M p2 (s1).toNatClampNeg s0) b15542 ((l4 + l7)).toNatClampNeg) ||| (gl (sl M p2 (s1).toNatClampNeg s0) b15544 (l7).toNatClampNeg)), vi (l4 + l7), vr (some (b15542, 105, m15542))] Q
    refine sX42_join_157 (d := d) (si (sl M p2 (s1).toNatClampNeg s0) a0 20 ((gi M a0 20) ||| (0 : Int32))) _ l1 _ l3 l4 l5 l6 l7 ((gl (sl M p2 (s1).toNatClampNeg s0) b15542 ((l4 + l7)).toNatClampNeg) ||| (gl (sl M p2 (s1).toNatClampNeg s0) b15544 (l7).toNatClampNeg)) (l4 + l7) b15542 m15542 ?_
    refine zand k (fun h15549 k => ?_)
    refine ⟨h15543, ?_⟩
    obtain ⟨b15550, m15550, h15550, k⟩ := k
    refine ⟨b15550, m15550, h15550, ?_⟩
    refine zand k (fun h15551 k => ?_)
    refine ⟨b15550, m15550, h15550, ?_⟩
    refine ⟨h15551, ?_⟩
    exact k
  · refine zand k (fun h15554 k => ?_)
    refine zand k (fun h15555 k => ?_)
    show Z E YX42_join (d + 1) (si (sl M p2 (s1).toNatClampNeg s0) a0 20 ((gi M a0 20) ||| (1 : Int32))) [(0, vr (some (a0, 6, 0))), (1, vi l1), (2, vr (some (a2, 7, 0))), (3, vi l3), (4, vi l4), (5, vi l5), (6, vi l6), (7, vi l7)] 157 [vl ((gl (sl M p2 (s1).toNatClampNeg s0) b15542 ((l4 + l7)).toNatClampNeg) ||| (gl (sl M p2 (s1).toNatClampNeg s0) b15544 (l7).toNatClampNeg)), vi (l4 + l7), vr (some (b15542, 105, m15542))] Q
    refine sX42_join_157 (d := d) (si (sl M p2 (s1).toNatClampNeg s0) a0 20 ((gi M a0 20) ||| (1 : Int32))) _ l1 _ l3 l4 l5 l6 l7 ((gl (sl M p2 (s1).toNatClampNeg s0) b15542 ((l4 + l7)).toNatClampNeg) ||| (gl (sl M p2 (s1).toNatClampNeg s0) b15544 (l7).toNatClampNeg)) (l4 + l7) b15542 m15542 ?_
    refine zand k (fun h15556 k => ?_)
    refine ⟨h15543, ?_⟩
    obtain ⟨b15557, m15557, h15557, k⟩ := k
    refine ⟨b15557, m15557, h15557, ?_⟩
    refine zand k (fun h15558 k => ?_)
    refine ⟨b15557, m15557, h15557, ?_⟩
    refine ⟨h15558, ?_⟩
    exact k
theorem iX42_join_446 {E : zE} {d : Nat} {Q : zO → zM → Prop} (M : zM) (a0 : Nat) (l1 : Int32) (r2 : Option zP) (l6 : Int32) (l7 : Int32) (k : ∃ b15723 m15723 : Nat, (gr M a0 9) = some (b15723, 100, m15723) ∧ (vp_in l1 m15723 ∧ (if (gi M b15723 (l1).toNatClampNeg) ≤ l7 then (∃ b15726 m15726 : Nat, (gr M a0 11) = some (b15726, 105, m15726) ∧ (vp_in l1 m15726 ∧ (∃ b15728 : Nat, r2 = some (b15728, 7, 0) ∧ (Z E YX42_more d M (zargs 0 [vr (some (a0, 6, 0)), vl (gl M b15726 (l1).toNatClampNeg), vl ((gl M b15726 (l1).toNatClampNeg) ||| (gl M b15728 14))]) 0 [] (zafter E YX42_join (d + 1) [(0, vr (some (a0, 6, 0))), (1, vi l1), (2, vr (some (b15728, 7, 0)))] 614 3 [vi l1, vr (some (b15726, 105, m15726))] Q))))) else (∃ b15729 m15729 : Nat, (gr M a0 16) = some (b15729, 105, m15729) ∧ (vp_in (l6 + l7) m15729 ∧ (∃ b15731 : Nat, r2 = some (b15731, 7, 0) ∧ (∃ b15732 m15732 : Nat, (gr M b15731 10) = some (b15732, 105, m15732) ∧ (vp_in l7 m15732 ∧ (Z E YX42_more d M (zargs 0 [vr (some (a0, 6, 0)), vl (gl M b15729 ((l6 + l7)).toNatClampNeg), vl ((gl M b15729 ((l6 + l7)).toNatClampNeg) ||| (gl M b15732 (l7).toNatClampNeg))]) 0 [] (zafter E YX42_join (d + 1) [(0, vr (some (a0, 6, 0))), (1, vi l1), (2, vr (some (b15731, 7, 0))), (6, vi l6), (7, vi l7)] 495 3 [vi (l6 + l7), vr (some (b15729, 105, m15729))] Q)))))))))) : Z E YX42_join (d + 1) M [(0, vr (some (a0, 6, 0))), (1, vi l1), (2, vr r2), (6, vi l6), (7, vi l7)] 446 [] Q := by
  refine sX42_join_446 (d := d) M a0 l1 r2 l6 l7 ?_
  obtain ⟨b15723, m15723, h15723, k⟩ := k
  refine ⟨b15723, m15723, h15723, ?_⟩
  refine zand k (fun h15724 k => ?_)
  refine zite k (fun h15725 k => ?_) (fun h15725 k => ?_)
  · obtain ⟨b15726, m15726, h15726, k⟩ := k
    refine ⟨b15726, m15726, h15726, ?_⟩
    refine zand k (fun h15727 k => ?_)
    refine ⟨b15726, m15726, h15726, ?_⟩
    refine ⟨h15727, ?_⟩
    exact k
  · obtain ⟨b15729, m15729, h15729, k⟩ := k
    refine ⟨b15729, m15729, h15729, ?_⟩
    refine zand k (fun h15730 k => ?_)
    refine ⟨b15729, m15729, h15729, ?_⟩
    refine ⟨h15730, ?_⟩
    exact k
theorem iX42_join_264 {E : zE} {d : Nat} {Q : zO → zM → Prop} (M : zM) (a0 : Nat) (l1 : Int32) (a2 : Nat) (l5 : Int32) (l6 : Int32) (l7 : Int32) (s0 : Int64) (s1 : Int32) (p2 : Nat) (np2 : Nat) (k : 16 ≤ p2 ∧ (vp_in s1 np2 ∧ (∃ b15846 m15846 : Nat, (gr M a0 5) = some (b15846, 105, m15846) ∧ (vp_in (l5 + l7) m15846 ∧ (∃ b15848 m15848 : Nat, (gr M a2 5) = some (b15848, 105, m15848) ∧ (vp_in l7 m15848 ∧ (Z E YX42_more d (sl M p2 (s1).toNatClampNeg s0) (zargs 0 [vr (some (a0, 6, 0)), vl (gl (sl M p2 (s1).toNatClampNeg s0) b15846 ((l5 + l7)).toNatClampNeg), vl ((gl (sl M p2 (s1).toNatClampNeg s0) b15846 ((l5 + l7)).toNatClampNeg) ||| (gl (sl M p2 (s1).toNatClampNeg s0) b15848 (l7).toNatClampNeg))]) 0 [] (zafter E YX42_join (d + 1) [(0, vr (some (a0, 6, 0))), (1, vi l1), (2, vr (some (a2, 7, 0))), (5, vi l5), (6, vi l6), (7, vi l7)] 303 3 [vi (l5 + l7), vr (some (b15846, 105, m15846))] Q)))))))) : Z E YX42_join (d + 1) M [(0, vr (some (a0, 6, 0))), (1, vi l1), (2, vr (some (a2, 7, 0))), (5, vi l5), (6, vi l6), (7, vi l7)] 264 [vl s0, vi s1, vr (some (p2, 105, np2))] Q := by
  refine sX42_join_264 (d := d) M a0 l1 a2 l5 l6 l7 s0 s1 p2 np2 ?_
  refine zand k (fun h15844 k => ?_)
  refine zand k (fun h15845 k => ?_)
  obtain ⟨b15846, m15846, h15846, k⟩ := k
  refine ⟨b15846, m15846, h15846, ?_⟩
  refine zand k (fun h15847 k => ?_)
  refine ⟨b15846, m15846, h15846, ?_⟩
  refine ⟨h15847, ?_⟩
  exact k
theorem iX42_join_198 {E : zE} {d : Nat} {Q : zO → zM → Prop} (M : zM) (a0 : Nat) (l1 : Int32) (a2 : Nat) (l3 : Int32) (l4 : Int32) (l5 : Int32) (l6 : Int32) (l7 : Int32) (s0 : Int64) (s1 : Int64) (s3 : Int32) (p4 : Nat) (np4 : Nat) (k : if (lg_cmp s1 s0) = 0 then (16 ≤ a0 ∧ (zfit .boolean ((gi M a0 20) ||| (0 : Int32)) ∧ (16 ≤ p4 ∧ (vp_in s3 np4 ∧ (Z E YX42_join (d + 1) (sl (si M a0 20 ((gi M a0 20) ||| (0 : Int32))) p4 (s3).toNatClampNeg s0) [(0, vr (some (a0, 6, 0))), (1, vi l1), (2, vr (some (a2, 7, 0))), (3, vi l3), (4, vi l4), (5, vi l5), (6, vi l6), (7, vi (l7 + (1 : Int32)))] 68 [] Q))))) else (16 ≤ a0 ∧ (zfit .boolean ((gi M a0 20) ||| (1 : Int32)) ∧ (16 ≤ p4 ∧ (vp_in s3 np4 ∧ (Z E YX42_join (d + 1) (sl (si M a0 20 ((gi M a0 20) ||| (1 : Int32))) p4 (s3).toNatClampNeg s0) [(0, vr (some (a0, 6, 0))), (1, vi l1), (2, vr (some (a2, 7, 0))), (3, vi l3), (4, vi l4), (5, vi l5), (6, vi l6), (7, vi (l7 + (1 : Int32)))] 68 [] Q)))))) : Z E YX42_join (d + 1) M [(0, vr (some (a0, 6, 0))), (1, vi l1), (2, vr (some (a2, 7, 0))), (3, vi l3), (4, vi l4), (5, vi l5), (6, vi l6), (7, vi l7)] 198 [vl s0, vl s1, vr (some (a0, 6, 0)), vi s3, vr (some (p4, 105, np4))] Q := by
  refine sX42_join_198 (d := d) M a0 l1 a2 l3 l4 l5 l6 l7 s0 s1 s3 p4 np4 ?_
  refine sX42_more_0 (d := d) M _ s1 s0 ?_
  refine zite k (fun h15850 k => ?_) (fun h15850 k => ?_)
  · refine zand k (fun h15851 k => ?_)
    refine zand k (fun h15852 k => ?_)
    show Z E YX42_join (d + 1) (si M a0 20 ((gi M a0 20) ||| (0 : Int32))) [(0, vr (some (a0, 6, 0))), (1, vi l1), (2, vr (some (a2, 7, 0))), (3, vi l3), (4, vi l4), (5, vi l5), (6, vi l6), (7, vi l7)] 201 [vl s0, vi s3, vr (some (p4, 105, np4))] Q
    refine sX42_join_201 (d := d) (si M a0 20 ((gi M a0 20) ||| (0 : Int32))) _ l1 _ l3 l4 l5 l6 l7 s0 s3 p4 np4 ?_
    exact k
  · refine zand k (fun h15855 k => ?_)
    refine zand k (fun h15856 k => ?_)
    show Z E YX42_join (d + 1) (si M a0 20 ((gi M a0 20) ||| (1 : Int32))) [(0, vr (some (a0, 6, 0))), (1, vi l1), (2, vr (some (a2, 7, 0))), (3, vi l3), (4, vi l4), (5, vi l5), (6, vi l6), (7, vi l7)] 201 [vl s0, vi s3, vr (some (p4, 105, np4))] Q
    refine sX42_join_201 (d := d) (si M a0 20 ((gi M a0 20) ||| (1 : Int32))) _ l1 _ l3 l4 l5 l6 l7 s0 s3 p4 np4 ?_
    exact k
theorem iX42_join_617 {E : zE} {d : Nat} {Q : zO → zM → Prop} (M : zM) (a0 : Nat) (l1 : Int32) (a2 : Nat) (s0 : Int64) (s1 : Int32) (p2 : Nat) (np2 : Nat) (k : 16 ≤ p2 ∧ (vp_in s1 np2 ∧ (∃ b15861 m15861 : Nat, (gr M a0 12) = some (b15861, 105, m15861) ∧ (vp_in l1 m15861 ∧ (if (lg_cmp (gl (sl M p2 (s1).toNatClampNeg s0) b15861 (l1).toNatClampNeg) ((gl (sl M p2 (s1).toNatClampNeg s0) b15861 (l1).toNatClampNeg) ||| (gl (sl M p2 (s1).toNatClampNeg s0) a2 15))) = 0 then (16 ≤ a0 ∧ (zfit .boolean ((gi M a0 20) ||| (0 : Int32)) ∧ (16 ≤ b15861 ∧ (∃ b15867 m15867 : Nat, (gr M a0 13) = some (b15867, 105, m15867) ∧ (vp_in l1 m15867 ∧ (Z E YX1_joined d (sl (si (sl M p2 (s1).toNatClampNeg s0) a0 20 ((gi M a0 20) ||| (0 : Int32))) b15861 (l1).toNatClampNeg ((gl (sl M p2 (s1).toNatClampNeg s0) b15861 (l1).toNatClampNeg) ||| (gl (sl M p2 (s1).toNatClampNeg s0) a2 15))) (zargs 0 [vl (gl (sl (si (sl M p2 (s1).toNatClampNeg s0) a0 20 ((gi M a0 20) ||| (0 : Int32))) b15861 (l1).toNatClampNeg ((gl (sl M p2 (s1).toNatClampNeg s0) b15861 (l1).toNatClampNeg) ||| (gl (sl M p2 (s1).toNatClampNeg s0) a2 15))) b15867 (l1).toNatClampNeg), vl (gl (sl (si (sl M p2 (s1).toNatClampNeg s0) a0 20 ((gi M a0 20) ||| (0 : Int32))) b15861 (l1).toNatClampNeg ((gl (sl M p2 (s1).toNatClampNeg s0) b15861 (l1).toNatClampNeg) ||| (gl (sl M p2 (s1).toNatClampNeg s0) a2 15))) a2 16)]) 0 [] (zafter E YX42_join (d + 1) [(0, vr (some (a0, 6, 0))), (1, vi l1), (2, vr (some (a2, 7, 0)))] 667 3 [vl (gl (sl (si (sl M p2 (s1).toNatClampNeg s0) a0 20 ((gi M a0 20) ||| (0 : Int32))) b15861 (l1).toNatClampNeg ((gl (sl M p2 (s1).toNatClampNeg s0) b15861 (l1).toNatClampNeg) ||| (gl (sl M p2 (s1).toNatClampNeg s0) a2 15))) b15867 (l1).toNatClampNeg), vr (some (a0, 6, 0)), vi l1, vr (some (b15867, 105, m15867))] Q))))))) else (16 ≤ a0 ∧ (zfit .boolean ((gi M a0 20) ||| (1 : Int32)) ∧ (16 ≤ b15861 ∧ (∃ b15872 m15872 : Nat, (gr M a0 13) = some (b15872, 105, m15872) ∧ (vp_in l1 m15872 ∧ (Z E YX1_joined d (sl (si (sl M p2 (s1).toNatClampNeg s0) a0 20 ((gi M a0 20) ||| (1 : Int32))) b15861 (l1).toNatClampNeg ((gl (sl M p2 (s1).toNatClampNeg s0) b15861 (l1).toNatClampNeg) ||| (gl (sl M p2 (s1).toNatClampNeg s0) a2 15))) (zargs 0 [vl (gl (sl (si (sl M p2 (s1).toNatClampNeg s0) a0 20 ((gi M a0 20) ||| (1 : Int32))) b15861 (l1).toNatClampNeg ((gl (sl M p2 (s1).toNatClampNeg s0) b15861 (l1).toNatClampNeg) ||| (gl (sl M p2 (s1).toNatClampNeg s0) a2 15))) b15872 (l1).toNatClampNeg), vl (gl (sl (si (sl M p2 (s1).toNatClampNeg s0) a0 20 ((gi M a0 20) ||| (1 : Int32))) b15861 (l1).toNatClampNeg ((gl (sl M p2 (s1).toNatClampNeg s0) b15861 (l1).toNatClampNeg) ||| (gl (sl M p2 (s1).toNatClampNeg s0) a2 15))) a2 16)]) 0 [] (zafter E YX42_join (d + 1) [(0, vr (some (a0, 6, 0))), (1, vi l1), (2, vr (some (a2, 7, 0)))] 667 3 [vl (gl (sl (si (sl M p2 (s1).toNatClampNeg s0) a0 20 ((gi M a0 20) ||| (1 : Int32))) b15861 (l1).toNatClampNeg ((gl (sl M p2 (s1).toNatClampNeg s0) b15861 (l1).toNatClampNeg) ||| (gl (sl M p2 (s1).toNatClampNeg s0) a2 15))) b15872 (l1).toNatClampNeg), vr (some (a0, 6, 0)), vi l1, vr (some (b15872, 105, m15872))] Q)))))))))))) : Z E YX42_join (d + 1) M [(0, vr (some (a0, 6, 0))), (1, vi l1), (2, vr (some (a2, 7, 0)))] 617 [vl s0, vi s1, vr (some (p2, 105, np2))] Q := by
  refine sX42_join_617 (d := d) M a0 l1 a2 s0 s1 p2 np2 ?_
  refine zand k (fun h15859 k => ?_)
  refine zand k (fun h15860 k => ?_)
  obtain ⟨b15861, m15861, h15861, k⟩ := k
  refine ⟨b15861, m15861, h15861, ?_⟩
  refine zand k (fun h15862 k => ?_)
  refine ⟨b15861, m15861, h15861, ?_⟩
  refine ⟨h15862, ?_⟩
  refine sX42_more_0 (d := d) (sl M p2 (s1).toNatClampNeg s0) _ (gl (sl M p2 (s1).toNatClampNeg s0) b15861 (l1).toNatClampNeg) ((gl (sl M p2 (s1).toNatClampNeg s0) b15861 (l1).toNatClampNeg) ||| (gl (sl M p2 (s1).toNatClampNeg s0) a2 15)) ?_
  refine zite k (fun h15863 k => ?_) (fun h15863 k => ?_)
  · refine zand k (fun h15864 k => ?_)
    refine zand k (fun h15865 k => ?_)
    show Z E YX42_join (d + 1) (si (sl M p2 (s1).toNatClampNeg s0) a0 20 ((gi M a0 20) ||| (0 : Int32))) [(0, vr (some (a0, 6, 0))), (1, vi l1), (2, vr (some (a2, 7, 0)))] 644 [vl ((gl (sl M p2 (s1).toNatClampNeg s0) b15861 (l1).toNatClampNeg) ||| (gl (sl M p2 (s1).toNatClampNeg s0) a2 15)), vi l1, vr (some (b15861, 105, m15861))] Q
    refine sX42_join_644 (d := d) (si (sl M p2 (s1).toNatClampNeg s0) a0 20 ((gi M a0 20) ||| (0 : Int32))) _ l1 _ ((gl (sl M p2 (s1).toNatClampNeg s0) b15861 (l1).toNatClampNeg) ||| (gl (sl M p2 (s1).toNatClampNeg s0) a2 15)) l1 b15861 m15861 ?_
    refine zand k (fun h15866 k => ?_)
    refine ⟨h15862, ?_⟩
    obtain ⟨b15867, m15867, h15867, k⟩ := k
    refine ⟨b15867, m15867, h15867, ?_⟩
    refine zand k (fun h15868 k => ?_)
    refine ⟨b15867, m15867, h15867, ?_⟩
    refine ⟨h15868, ?_⟩
    exact k
  · refine zand k (fun h15869 k => ?_)
    refine zand k (fun h15870 k => ?_)
    show Z E YX42_join (d + 1) (si (sl M p2 (s1).toNatClampNeg s0) a0 20 ((gi M a0 20) ||| (1 : Int32))) [(0, vr (some (a0, 6, 0))), (1, vi l1), (2, vr (some (a2, 7, 0)))] 644 [vl ((gl (sl M p2 (s1).toNatClampNeg s0) b15861 (l1).toNatClampNeg) ||| (gl (sl M p2 (s1).toNatClampNeg s0) a2 15)), vi l1, vr (some (b15861, 105, m15861))] Q
    refine sX42_join_644 (d := d) (si (sl M p2 (s1).toNatClampNeg s0) a0 20 ((gi M a0 20) ||| (1 : Int32))) _ l1 _ ((gl (sl M p2 (s1).toNatClampNeg s0) b15861 (l1).toNatClampNeg) ||| (gl (sl M p2 (s1).toNatClampNeg s0) a2 15)) l1 b15861 m15861 ?_
    refine zand k (fun h15871 k => ?_)
    refine ⟨h15862, ?_⟩
    obtain ⟨b15872, m15872, h15872, k⟩ := k
    refine ⟨b15872, m15872, h15872, ?_⟩
    refine zand k (fun h15873 k => ?_)
    refine ⟨b15872, m15872, h15872, ?_⟩
    refine ⟨h15873, ?_⟩
    exact k
theorem iX42_join_498 {E : zE} {d : Nat} {Q : zO → zM → Prop} (M : zM) (a0 : Nat) (l1 : Int32) (a2 : Nat) (l6 : Int32) (l7 : Int32) (s0 : Int64) (s1 : Int32) (p2 : Nat) (np2 : Nat) (k : 16 ≤ p2 ∧ (vp_in s1 np2 ∧ (∃ b15876 m15876 : Nat, (gr M a0 17) = some (b15876, 105, m15876) ∧ (vp_in (l6 + l7) m15876 ∧ (∃ b15878 m15878 : Nat, (gr M a2 11) = some (b15878, 105, m15878) ∧ (vp_in l7 m15878 ∧ (if (lg_cmp (gl (sl M p2 (s1).toNatClampNeg s0) b15876 ((l6 + l7)).toNatClampNeg) ((gl (sl M p2 (s1).toNatClampNeg s0) b15876 ((l6 + l7)).toNatClampNeg) ||| (gl (sl M p2 (s1).toNatClampNeg s0) b15878 (l7).toNatClampNeg))) = 0 then (16 ≤ a0 ∧ (zfit .boolean ((gi M a0 20) ||| (0 : Int32)) ∧ (16 ≤ b15876 ∧ (∃ b15884 m15884 : Nat, (gr M a0 18) = some (b15884, 105, m15884) ∧ (vp_in (l6 + l7) m15884 ∧ (∃ b15886 m15886 : Nat, (gr M a2 12) = some (b15886, 105, m15886) ∧ (vp_in l7 m15886 ∧ (Z E YX1_joined d (sl (si (sl M p2 (s1).toNatClampNeg s0) a0 20 ((gi M a0 20) ||| (0 : Int32))) b15876 ((l6 + l7)).toNatClampNeg ((gl (sl M p2 (s1).toNatClampNeg s0) b15876 ((l6 + l7)).toNatClampNeg) ||| (gl (sl M p2 (s1).toNatClampNeg s0) b15878 (l7).toNatClampNeg))) (zargs 0 [vl (gl (sl (si (sl M p2 (s1).toNatClampNeg s0) a0 20 ((gi M a0 20) ||| (0 : Int32))) b15876 ((l6 + l7)).toNatClampNeg ((gl (sl M p2 (s1).toNatClampNeg s0) b15876 ((l6 + l7)).toNatClampNeg) ||| (gl (sl M p2 (s1).toNatClampNeg s0) b15878 (l7).toNatClampNeg))) b15884 ((l6 + l7)).toNatClampNeg), vl (gl (sl (si (sl M p2 (s1).toNatClampNeg s0) a0 20 ((gi M a0 20) ||| (0 : Int32))) b15876 ((l6 + l7)).toNatClampNeg ((gl (sl M p2 (s1).toNatClampNeg s0) b15876 ((l6 + l7)).toNatClampNeg) ||| (gl (sl M p2 (s1).toNatClampNeg s0) b15878 (l7).toNatClampNeg))) b15886 (l7).toNatClampNeg)]) 0 [] (zafter E YX42_join (d + 1) [(0, vr (some (a0, 6, 0))), (1, vi l1), (2, vr (some (a2, 7, 0))), (6, vi l6), (7, vi l7)] 578 3 [vl (gl (sl (si (sl M p2 (s1).toNatClampNeg s0) a0 20 ((gi M a0 20) ||| (0 : Int32))) b15876 ((l6 + l7)).toNatClampNeg ((gl (sl M p2 (s1).toNatClampNeg s0) b15876 ((l6 + l7)).toNatClampNeg) ||| (gl (sl M p2 (s1).toNatClampNeg s0) b15878 (l7).toNatClampNeg))) b15884 ((l6 + l7)).toNatClampNeg), vr (some (a0, 6, 0)), vi (l6 + l7), vr (some (b15884, 105, m15884))] Q))))))))) else (16 ≤ a0 ∧ (zfit .boolean ((gi M a0 20) ||| (1 : Int32)) ∧ (16 ≤ b15876 ∧ (∃ b15891 m15891 : Nat, (gr M a0 18) = some (b15891, 105, m15891) ∧ (vp_in (l6 + l7) m15891 ∧ (∃ b15893 m15893 : Nat, (gr M a2 12) = some (b15893, 105, m15893) ∧ (vp_in l7 m15893 ∧ (Z E YX1_joined d (sl (si (sl M p2 (s1).toNatClampNeg s0) a0 20 ((gi M a0 20) ||| (1 : Int32))) b15876 ((l6 + l7)).toNatClampNeg ((gl (sl M p2 (s1).toNatClampNeg s0) b15876 ((l6 + l7)).toNatClampNeg) ||| (gl (sl M p2 (s1).toNatClampNeg s0) b15878 (l7).toNatClampNeg))) (zargs 0 [vl (gl (sl (si (sl M p2 (s1).toNatClampNeg s0) a0 20 ((gi M a0 20) ||| (1 : Int32))) b15876 ((l6 + l7)).toNatClampNeg ((gl (sl M p2 (s1).toNatClampNeg s0) b15876 ((l6 + l7)).toNatClampNeg) ||| (gl (sl M p2 (s1).toNatClampNeg s0) b15878 (l7).toNatClampNeg))) b15891 ((l6 + l7)).toNatClampNeg), vl (gl (sl (si (sl M p2 (s1).toNatClampNeg s0) a0 20 ((gi M a0 20) ||| (1 : Int32))) b15876 ((l6 + l7)).toNatClampNeg ((gl (sl M p2 (s1).toNatClampNeg s0) b15876 ((l6 + l7)).toNatClampNeg) ||| (gl (sl M p2 (s1).toNatClampNeg s0) b15878 (l7).toNatClampNeg))) b15893 (l7).toNatClampNeg)]) 0 [] (zafter E YX42_join (d + 1) [(0, vr (some (a0, 6, 0))), (1, vi l1), (2, vr (some (a2, 7, 0))), (6, vi l6), (7, vi l7)] 578 3 [vl (gl (sl (si (sl M p2 (s1).toNatClampNeg s0) a0 20 ((gi M a0 20) ||| (1 : Int32))) b15876 ((l6 + l7)).toNatClampNeg ((gl (sl M p2 (s1).toNatClampNeg s0) b15876 ((l6 + l7)).toNatClampNeg) ||| (gl (sl M p2 (s1).toNatClampNeg s0) b15878 (l7).toNatClampNeg))) b15891 ((l6 + l7)).toNatClampNeg), vr (some (a0, 6, 0)), vi (l6 + l7), vr (some (b15891, 105, m15891))] Q)))))))))))))))) : Z E YX42_join (d + 1) M [(0, vr (some (a0, 6, 0))), (1, vi l1), (2, vr (some (a2, 7, 0))), (6, vi l6), (7, vi l7)] 498 [vl s0, vi s1, vr (some (p2, 105, np2))] Q := by
  refine sX42_join_498 (d := d) M a0 l1 a2 l6 l7 s0 s1 p2 np2 ?_
  refine zand k (fun h15874 k => ?_)
  refine zand k (fun h15875 k => ?_)
  obtain ⟨b15876, m15876, h15876, k⟩ := k
  refine ⟨b15876, m15876, h15876, ?_⟩
  refine zand k (fun h15877 k => ?_)
  refine ⟨b15876, m15876, h15876, ?_⟩
  refine ⟨h15877, ?_⟩
  obtain ⟨b15878, m15878, h15878, k⟩ := k
  refine ⟨b15878, m15878, h15878, ?_⟩
  refine zand k (fun h15879 k => ?_)
  refine sX42_more_0 (d := d) (sl M p2 (s1).toNatClampNeg s0) _ (gl (sl M p2 (s1).toNatClampNeg s0) b15876 ((l6 + l7)).toNatClampNeg) ((gl (sl M p2 (s1).toNatClampNeg s0) b15876 ((l6 + l7)).toNatClampNeg) ||| (gl (sl M p2 (s1).toNatClampNeg s0) b15878 (l7).toNatClampNeg)) ?_
  refine zite k (fun h15880 k => ?_) (fun h15880 k => ?_)
  · refine zand k (fun h15881 k => ?_)
    refine zand k (fun h15882 k => ?_)
    show Z E YX42_join (d + 1) (si (sl M p2 (s1).toNatClampNeg s0) a0 20 ((gi M a0 20) ||| (0 : Int32))) [(0, vr (some (a0, 6, 0))), (1, vi l1), (2, vr (some (a2, 7, 0))), (6, vi l6), (7, vi l7)] 540 [vl ((gl (sl M p2 (s1).toNatClampNeg s0) b15876 ((l6 + l7)).toNatClampNeg) ||| (gl (sl M p2 (s1).toNatClampNeg s0) b15878 (l7).toNatClampNeg)), vi (l6 + l7), vr (some (b15876, 105, m15876))] Q
    refine sX42_join_540 (d := d) (si (sl M p2 (s1).toNatClampNeg s0) a0 20 ((gi M a0 20) ||| (0 : Int32))) _ l1 _ l6 l7 ((gl (sl M p2 (s1).toNatClampNeg s0) b15876 ((l6 + l7)).toNatClampNeg) ||| (gl (sl M p2 (s1).toNatClampNeg s0) b15878 (l7).toNatClampNeg)) (l6 + l7) b15876 m15876 ?_
    refine zand k (fun h15883 k => ?_)
    refine ⟨h15877, ?_⟩
    obtain ⟨b15884, m15884, h15884, k⟩ := k
    refine ⟨b15884, m15884, h15884, ?_⟩
    refine zand k (fun h15885 k => ?_)
    refine ⟨b15884, m15884, h15884, ?_⟩
    refine ⟨h15885, ?_⟩
    exact k
  · refine zand k (fun h15888 k => ?_)
    refine zand k (fun h15889 k => ?_)
    show Z E YX42_join (d + 1) (si (sl M p2 (s1).toNatClampNeg s0) a0 20 ((gi M a0 20) ||| (1 : Int32))) [(0, vr (some (a0, 6, 0))), (1, vi l1), (2, vr (some (a2, 7, 0))), (6, vi l6), (7, vi l7)] 540 [vl ((gl (sl M p2 (s1).toNatClampNeg s0) b15876 ((l6 + l7)).toNatClampNeg) ||| (gl (sl M p2 (s1).toNatClampNeg s0) b15878 (l7).toNatClampNeg)), vi (l6 + l7), vr (some (b15876, 105, m15876))] Q
    refine sX42_join_540 (d := d) (si (sl M p2 (s1).toNatClampNeg s0) a0 20 ((gi M a0 20) ||| (1 : Int32))) _ l1 _ l6 l7 ((gl (sl M p2 (s1).toNatClampNeg s0) b15876 ((l6 + l7)).toNatClampNeg) ||| (gl (sl M p2 (s1).toNatClampNeg s0) b15878 (l7).toNatClampNeg)) (l6 + l7) b15876 m15876 ?_
    refine zand k (fun h15890 k => ?_)
    refine ⟨h15877, ?_⟩
    obtain ⟨b15891, m15891, h15891, k⟩ := k
    refine ⟨b15891, m15891, h15891, ?_⟩
    refine zand k (fun h15892 k => ?_)
    refine ⟨b15891, m15891, h15891, ?_⟩
    refine ⟨h15892, ?_⟩
    exact k
theorem iX42_join_306 {E : zE} {d : Nat} {Q : zO → zM → Prop} (M : zM) (a0 : Nat) (l1 : Int32) (a2 : Nat) (l5 : Int32) (l6 : Int32) (l7 : Int32) (s0 : Int64) (s1 : Int32) (p2 : Nat) (np2 : Nat) (k : 16 ≤ p2 ∧ (vp_in s1 np2 ∧ (∃ b15999 m15999 : Nat, (gr M a0 6) = some (b15999, 105, m15999) ∧ (vp_in (l5 + l7) m15999 ∧ (∃ b16001 m16001 : Nat, (gr M a2 6) = some (b16001, 105, m16001) ∧ (vp_in l7 m16001 ∧ (Z E YX42_more d (sl M p2 (s1).toNatClampNeg s0) (zargs 0 [vr (some (a0, 6, 0)), vl (gl (sl M p2 (s1).toNatClampNeg s0) b15999 ((l5 + l7)).toNatClampNeg), vl ((gl (sl M p2 (s1).toNatClampNeg s0) b15999 ((l5 + l7)).toNatClampNeg) ||| (gl (sl M p2 (s1).toNatClampNeg s0) b16001 (l7).toNatClampNeg))]) 0 [] (zafter E YX42_join (d + 1) [(0, vr (some (a0, 6, 0))), (1, vi l1), (2, vr (some (a2, 7, 0))), (5, vi l5), (6, vi l6), (7, vi l7)] 345 3 [vi (l5 + l7), vr (some (b15999, 105, m15999))] Q)))))))) : Z E YX42_join (d + 1) M [(0, vr (some (a0, 6, 0))), (1, vi l1), (2, vr (some (a2, 7, 0))), (5, vi l5), (6, vi l6), (7, vi l7)] 306 [vl s0, vi s1, vr (some (p2, 105, np2))] Q := by
  refine sX42_join_306 (d := d) M a0 l1 a2 l5 l6 l7 s0 s1 p2 np2 ?_
  refine zand k (fun h15997 k => ?_)
  refine zand k (fun h15998 k => ?_)
  obtain ⟨b15999, m15999, h15999, k⟩ := k
  refine ⟨b15999, m15999, h15999, ?_⟩
  refine zand k (fun h16000 k => ?_)
  refine ⟨b15999, m15999, h15999, ?_⟩
  refine ⟨h16000, ?_⟩
  exact k
theorem iX42_join_581 {E : zE} {d : Nat} {Q : zO → zM → Prop} (M : zM) (a0 : Nat) (l1 : Int32) (a2 : Nat) (l6 : Int32) (l7 : Int32) (s0 : Int64) (s1 : Int64) (s3 : Int32) (p4 : Nat) (np4 : Nat) (k : if (lg_cmp s1 s0) = 0 then (16 ≤ a0 ∧ (zfit .boolean ((gi M a0 20) ||| (0 : Int32)) ∧ (16 ≤ p4 ∧ (vp_in s3 np4 ∧ (Z E YX42_join (d + 1) (sl (si M a0 20 ((gi M a0 20) ||| (0 : Int32))) p4 (s3).toNatClampNeg s0) [(0, vr (some (a0, 6, 0))), (1, vi l1), (2, vr (some (a2, 7, 0))), (6, vi l6), (7, vi (l7 + (1 : Int32)))] 446 [] Q))))) else (16 ≤ a0 ∧ (zfit .boolean ((gi M a0 20) ||| (1 : Int32)) ∧ (16 ≤ p4 ∧ (vp_in s3 np4 ∧ (Z E YX42_join (d + 1) (sl (si M a0 20 ((gi M a0 20) ||| (1 : Int32))) p4 (s3).toNatClampNeg s0) [(0, vr (some (a0, 6, 0))), (1, vi l1), (2, vr (some (a2, 7, 0))), (6, vi l6), (7, vi (l7 + (1 : Int32)))] 446 [] Q)))))) : Z E YX42_join (d + 1) M [(0, vr (some (a0, 6, 0))), (1, vi l1), (2, vr (some (a2, 7, 0))), (6, vi l6), (7, vi l7)] 581 [vl s0, vl s1, vr (some (a0, 6, 0)), vi s3, vr (some (p4, 105, np4))] Q := by
  refine sX42_join_581 (d := d) M a0 l1 a2 l6 l7 s0 s1 s3 p4 np4 ?_
  refine sX42_more_0 (d := d) M _ s1 s0 ?_
  refine zite k (fun h16121 k => ?_) (fun h16121 k => ?_)
  · refine zand k (fun h16122 k => ?_)
    refine zand k (fun h16123 k => ?_)
    show Z E YX42_join (d + 1) (si M a0 20 ((gi M a0 20) ||| (0 : Int32))) [(0, vr (some (a0, 6, 0))), (1, vi l1), (2, vr (some (a2, 7, 0))), (6, vi l6), (7, vi l7)] 584 [vl s0, vi s3, vr (some (p4, 105, np4))] Q
    refine sX42_join_584 (d := d) (si M a0 20 ((gi M a0 20) ||| (0 : Int32))) _ l1 _ l6 l7 s0 s3 p4 np4 ?_
    exact k
  · refine zand k (fun h16126 k => ?_)
    refine zand k (fun h16127 k => ?_)
    show Z E YX42_join (d + 1) (si M a0 20 ((gi M a0 20) ||| (1 : Int32))) [(0, vr (some (a0, 6, 0))), (1, vi l1), (2, vr (some (a2, 7, 0))), (6, vi l6), (7, vi l7)] 584 [vl s0, vi s3, vr (some (p4, 105, np4))] Q
    refine sX42_join_584 (d := d) (si M a0 20 ((gi M a0 20) ||| (1 : Int32))) _ l1 _ l6 l7 s0 s3 p4 np4 ?_
    exact k
theorem iX42_join_348 {E : zE} {d : Nat} {Q : zO → zM → Prop} (M : zM) (a0 : Nat) (l1 : Int32) (a2 : Nat) (l5 : Int32) (l6 : Int32) (l7 : Int32) (s0 : Int64) (s1 : Int32) (p2 : Nat) (np2 : Nat) (k : 16 ≤ p2 ∧ (vp_in s1 np2 ∧ (∃ b16207 m16207 : Nat, (gr M a0 7) = some (b16207, 105, m16207) ∧ (vp_in (l5 + l7) m16207 ∧ (∃ b16209 m16209 : Nat, (gr M a2 7) = some (b16209, 105, m16209) ∧ (vp_in l7 m16209 ∧ (if (lg_cmp (gl (sl M p2 (s1).toNatClampNeg s0) b16207 ((l5 + l7)).toNatClampNeg) ((gl (sl M p2 (s1).toNatClampNeg s0) b16207 ((l5 + l7)).toNatClampNeg) ||| (gl (sl M p2 (s1).toNatClampNeg s0) b16209 (l7).toNatClampNeg))) = 0 then (16 ≤ a0 ∧ (zfit .boolean ((gi M a0 20) ||| (0 : Int32)) ∧ (16 ≤ b16207 ∧ (∃ b16215 m16215 : Nat, (gr M a0 8) = some (b16215, 101, m16215) ∧ (vp_in (l5 + l7) m16215 ∧ (Z E YX42_flagsOf d (sl (si (sl M p2 (s1).toNatClampNeg s0) a0 20 ((gi M a0 20) ||| (0 : Int32))) b16207 ((l5 + l7)).toNatClampNeg ((gl (sl M p2 (s1).toNatClampNeg s0) b16207 ((l5 + l7)).toNatClampNeg) ||| (gl (sl M p2 (s1).toNatClampNeg s0) b16209 (l7).toNatClampNeg))) (zargs 0 [vr (some (a0, 6, 0)), vr (some (a2, 7, 0)), vi l7]) 0 [] (zafter E YX42_join (d + 1) [(0, vr (some (a0, 6, 0))), (1, vi l1), (2, vr (some (a2, 7, 0))), (5, vi l5), (6, vi l6), (7, vi l7)] 426 3 [vi (gi (si (sl M p2 (s1).toNatClampNeg s0) a0 20 ((gi M a0 20) ||| (0 : Int32))) b16215 ((l5 + l7)).toNatClampNeg), vl ((gi (si (sl M p2 (s1).toNatClampNeg s0) a0 20 ((gi M a0 20) ||| (0 : Int32))) b16215 ((l5 + l7)).toNatClampNeg)).toInt64, vr (some (a0, 6, 0)), vi (l5 + l7), vr (some (b16215, 101, m16215))] Q))))))) else (16 ≤ a0 ∧ (zfit .boolean ((gi M a0 20) ||| (1 : Int32)) ∧ (16 ≤ b16207 ∧ (∃ b16220 m16220 : Nat, (gr M a0 8) = some (b16220, 101, m16220) ∧ (vp_in (l5 + l7) m16220 ∧ (Z E YX42_flagsOf d (sl (si (sl M p2 (s1).toNatClampNeg s0) a0 20 ((gi M a0 20) ||| (1 : Int32))) b16207 ((l5 + l7)).toNatClampNeg ((gl (sl M p2 (s1).toNatClampNeg s0) b16207 ((l5 + l7)).toNatClampNeg) ||| (gl (sl M p2 (s1).toNatClampNeg s0) b16209 (l7).toNatClampNeg))) (zargs 0 [vr (some (a0, 6, 0)), vr (some (a2, 7, 0)), vi l7]) 0 [] (zafter E YX42_join (d + 1) [(0, vr (some (a0, 6, 0))), (1, vi l1), (2, vr (some (a2, 7, 0))), (5, vi l5), (6, vi l6), (7, vi l7)] 426 3 [vi (gi (si (sl M p2 (s1).toNatClampNeg s0) a0 20 ((gi M a0 20) ||| (1 : Int32))) b16220 ((l5 + l7)).toNatClampNeg), vl ((gi (si (sl M p2 (s1).toNatClampNeg s0) a0 20 ((gi M a0 20) ||| (1 : Int32))) b16220 ((l5 + l7)).toNatClampNeg)).toInt64, vr (some (a0, 6, 0)), vi (l5 + l7), vr (some (b16220, 101, m16220))] Q)))))))))))))) : Z E YX42_join (d + 1) M [(0, vr (some (a0, 6, 0))), (1, vi l1), (2, vr (some (a2, 7, 0))), (5, vi l5), (6, vi l6), (7, vi l7)] 348 [vl s0, vi s1, vr (some (p2, 105, np2))] Q := by
  refine sX42_join_348 (d := d) M a0 l1 a2 l5 l6 l7 s0 s1 p2 np2 ?_
  refine zand k (fun h16205 k => ?_)
  refine zand k (fun h16206 k => ?_)
  obtain ⟨b16207, m16207, h16207, k⟩ := k
  refine ⟨b16207, m16207, h16207, ?_⟩
  refine zand k (fun h16208 k => ?_)
  refine ⟨b16207, m16207, h16207, ?_⟩
  refine ⟨h16208, ?_⟩
  obtain ⟨b16209, m16209, h16209, k⟩ := k
  refine ⟨b16209, m16209, h16209, ?_⟩
  refine zand k (fun h16210 k => ?_)
  refine sX42_more_0 (d := d) (sl M p2 (s1).toNatClampNeg s0) _ (gl (sl M p2 (s1).toNatClampNeg s0) b16207 ((l5 + l7)).toNatClampNeg) ((gl (sl M p2 (s1).toNatClampNeg s0) b16207 ((l5 + l7)).toNatClampNeg) ||| (gl (sl M p2 (s1).toNatClampNeg s0) b16209 (l7).toNatClampNeg)) ?_
  refine zite k (fun h16211 k => ?_) (fun h16211 k => ?_)
  · refine zand k (fun h16212 k => ?_)
    refine zand k (fun h16213 k => ?_)
    show Z E YX42_join (d + 1) (si (sl M p2 (s1).toNatClampNeg s0) a0 20 ((gi M a0 20) ||| (0 : Int32))) [(0, vr (some (a0, 6, 0))), (1, vi l1), (2, vr (some (a2, 7, 0))), (5, vi l5), (6, vi l6), (7, vi l7)] 390 [vl ((gl (sl M p2 (s1).toNatClampNeg s0) b16207 ((l5 + l7)).toNatClampNeg) ||| (gl (sl M p2 (s1).toNatClampNeg s0) b16209 (l7).toNatClampNeg)), vi (l5 + l7), vr (some (b16207, 105, m16207))] Q
    refine sX42_join_390 (d := d) (si (sl M p2 (s1).toNatClampNeg s0) a0 20 ((gi M a0 20) ||| (0 : Int32))) _ l1 _ l5 l6 l7 ((gl (sl M p2 (s1).toNatClampNeg s0) b16207 ((l5 + l7)).toNatClampNeg) ||| (gl (sl M p2 (s1).toNatClampNeg s0) b16209 (l7).toNatClampNeg)) (l5 + l7) b16207 m16207 ?_
    refine zand k (fun h16214 k => ?_)
    refine ⟨h16208, ?_⟩
    obtain ⟨b16215, m16215, h16215, k⟩ := k
    refine ⟨b16215, m16215, h16215, ?_⟩
    refine zand k (fun h16216 k => ?_)
    refine ⟨b16215, m16215, h16215, ?_⟩
    refine ⟨h16216, ?_⟩
    exact k
  · refine zand k (fun h16217 k => ?_)
    refine zand k (fun h16218 k => ?_)
    show Z E YX42_join (d + 1) (si (sl M p2 (s1).toNatClampNeg s0) a0 20 ((gi M a0 20) ||| (1 : Int32))) [(0, vr (some (a0, 6, 0))), (1, vi l1), (2, vr (some (a2, 7, 0))), (5, vi l5), (6, vi l6), (7, vi l7)] 390 [vl ((gl (sl M p2 (s1).toNatClampNeg s0) b16207 ((l5 + l7)).toNatClampNeg) ||| (gl (sl M p2 (s1).toNatClampNeg s0) b16209 (l7).toNatClampNeg)), vi (l5 + l7), vr (some (b16207, 105, m16207))] Q
    refine sX42_join_390 (d := d) (si (sl M p2 (s1).toNatClampNeg s0) a0 20 ((gi M a0 20) ||| (1 : Int32))) _ l1 _ l5 l6 l7 ((gl (sl M p2 (s1).toNatClampNeg s0) b16207 ((l5 + l7)).toNatClampNeg) ||| (gl (sl M p2 (s1).toNatClampNeg s0) b16209 (l7).toNatClampNeg)) (l5 + l7) b16207 m16207 ?_
    refine zand k (fun h16219 k => ?_)
    refine ⟨h16208, ?_⟩
    obtain ⟨b16220, m16220, h16220, k⟩ := k
    refine ⟨b16220, m16220, h16220, ?_⟩
    refine zand k (fun h16221 k => ?_)
    refine ⟨b16220, m16220, h16220, ?_⟩
    refine ⟨h16221, ?_⟩
    exact k
theorem iX42_join_673 {E : zE} {d : Nat} {Q : zO → zM → Prop} (M : zM) (a0 : Nat) (l1 : Int32) (a2 : Nat) (s0 : Int64) (s1 : Int32) (p2 : Nat) (np2 : Nat) (k : 16 ≤ p2 ∧ (vp_in s1 np2 ∧ (∃ b16282 m16282 : Nat, (gr M a0 14) = some (b16282, 105, m16282) ∧ (vp_in l1 m16282 ∧ (Z E YX42_more d (sl M p2 (s1).toNatClampNeg s0) (zargs 0 [vr (some (a0, 6, 0)), vl (gl (sl M p2 (s1).toNatClampNeg s0) b16282 (l1).toNatClampNeg), vl ((gl (sl M p2 (s1).toNatClampNeg s0) b16282 (l1).toNatClampNeg) ||| (gl (sl M p2 (s1).toNatClampNeg s0) a2 17))]) 0 [] (zafter E YX42_join (d + 1) [(0, vr (some (a0, 6, 0))), (1, vi l1), (2, vr (some (a2, 7, 0)))] 697 3 [vi l1, vr (some (b16282, 105, m16282))] Q)))))) : Z E YX42_join (d + 1) M [(0, vr (some (a0, 6, 0))), (1, vi l1), (2, vr (some (a2, 7, 0)))] 673 [vl s0, vi s1, vr (some (p2, 105, np2))] Q := by
  refine sX42_join_673 (d := d) M a0 l1 a2 s0 s1 p2 np2 ?_
  refine zand k (fun h16280 k => ?_)
  refine zand k (fun h16281 k => ?_)
  obtain ⟨b16282, m16282, h16282, k⟩ := k
  refine ⟨b16282, m16282, h16282, ?_⟩
  refine zand k (fun h16283 k => ?_)
  refine ⟨b16282, m16282, h16282, ?_⟩
  refine ⟨h16283, ?_⟩
  exact k
theorem iX42_join_429 {E : zE} {d : Nat} {Q : zO → zM → Prop} (M : zM) (a0 : Nat) (l1 : Int32) (a2 : Nat) (l5 : Int32) (l6 : Int32) (l7 : Int32) (s0 : Int32) (s1 : Int32) (s2 : Int64) (s4 : Int32) (p5 : Nat) (np5 : Nat) (k : if (lg_cmp s2 ((s1 ||| s0)).toInt64) = 0 then (16 ≤ a0 ∧ (zfit .boolean ((gi M a0 20) ||| (0 : Int32)) ∧ (16 ≤ p5 ∧ (vp_in s4 np5 ∧ (Z E YX42_join (d + 1) (si (si M a0 20 ((gi M a0 20) ||| (0 : Int32))) p5 (s4).toNatClampNeg (vp_nar .byte ((((s1 ||| s0)).toInt64).toInt32).toInt8.toInt32)) [(0, vr (some (a0, 6, 0))), (1, vi l1), (2, vr (some (a2, 7, 0))), (5, vi l5), (6, vi l6), (7, vi (l7 + (1 : Int32)))] 211 [] Q))))) else (16 ≤ a0 ∧ (zfit .boolean ((gi M a0 20) ||| (1 : Int32)) ∧ (16 ≤ p5 ∧ (vp_in s4 np5 ∧ (Z E YX42_join (d + 1) (si (si M a0 20 ((gi M a0 20) ||| (1 : Int32))) p5 (s4).toNatClampNeg (vp_nar .byte ((((s1 ||| s0)).toInt64).toInt32).toInt8.toInt32)) [(0, vr (some (a0, 6, 0))), (1, vi l1), (2, vr (some (a2, 7, 0))), (5, vi l5), (6, vi l6), (7, vi (l7 + (1 : Int32)))] 211 [] Q)))))) : Z E YX42_join (d + 1) M [(0, vr (some (a0, 6, 0))), (1, vi l1), (2, vr (some (a2, 7, 0))), (5, vi l5), (6, vi l6), (7, vi l7)] 429 [vi s0, vi s1, vl s2, vr (some (a0, 6, 0)), vi s4, vr (some (p5, 101, np5))] Q := by
  refine sX42_join_429 (d := d) M a0 l1 a2 l5 l6 l7 s0 s1 s2 s4 p5 np5 ?_
  refine sX42_more_0 (d := d) M _ s2 (((s1 ||| s0)).toInt64) ?_
  refine zite k (fun h16284 k => ?_) (fun h16284 k => ?_)
  · refine zand k (fun h16285 k => ?_)
    refine zand k (fun h16286 k => ?_)
    show Z E YX42_join (d + 1) (si M a0 20 ((gi M a0 20) ||| (0 : Int32))) [(0, vr (some (a0, 6, 0))), (1, vi l1), (2, vr (some (a2, 7, 0))), (5, vi l5), (6, vi l6), (7, vi l7)] 434 [vl ((s1 ||| s0)).toInt64, vi s4, vr (some (p5, 101, np5))] Q
    refine sX42_join_434 (d := d) (si M a0 20 ((gi M a0 20) ||| (0 : Int32))) _ l1 _ l5 l6 l7 (((s1 ||| s0)).toInt64) s4 p5 np5 ?_
    exact k
  · refine zand k (fun h16289 k => ?_)
    refine zand k (fun h16290 k => ?_)
    show Z E YX42_join (d + 1) (si M a0 20 ((gi M a0 20) ||| (1 : Int32))) [(0, vr (some (a0, 6, 0))), (1, vi l1), (2, vr (some (a2, 7, 0))), (5, vi l5), (6, vi l6), (7, vi l7)] 434 [vl ((s1 ||| s0)).toInt64, vi s4, vr (some (p5, 101, np5))] Q
    refine sX42_join_434 (d := d) (si M a0 20 ((gi M a0 20) ||| (1 : Int32))) _ l1 _ l5 l6 l7 (((s1 ||| s0)).toInt64) s4 p5 np5 ?_
    exact k
theorem iX42_join_700 {E : zE} {d : Nat} {Q : zO → zM → Prop} (M : zM) (a0 : Nat) (l1 : Int32) (a2 : Nat) (s0 : Int64) (s1 : Int32) (p2 : Nat) (np2 : Nat) (k : 16 ≤ p2 ∧ (vp_in s1 np2 ∧ (∃ b16295 m16295 : Nat, (gr M a0 15) = some (b16295, 105, m16295) ∧ (vp_in l1 m16295 ∧ (if (lg_cmp (gl (sl M p2 (s1).toNatClampNeg s0) b16295 (l1).toNatClampNeg) ((gl (sl M p2 (s1).toNatClampNeg s0) b16295 (l1).toNatClampNeg) ||| (gl (sl M p2 (s1).toNatClampNeg s0) a2 18))) = 0 then (16 ≤ a0 ∧ (zfit .boolean ((gi M a0 20) ||| (0 : Int32)) ∧ (16 ≤ b16295 ∧ ((narrow .boolean (.int (gi (si (sl M p2 (s1).toNatClampNeg s0) a0 20 ((gi M a0 20) ||| (0 : Int32))) a0 20)) = .int (gi (si (sl M p2 (s1).toNatClampNeg s0) a0 20 ((gi M a0 20) ||| (0 : Int32))) a0 20)) ∧ (Q (.inl (some (vi (gi (si (sl M p2 (s1).toNatClampNeg s0) a0 20 ((gi M a0 20) ||| (0 : Int32))) a0 20)))) (sl (si (sl M p2 (s1).toNatClampNeg s0) a0 20 ((gi M a0 20) ||| (0 : Int32))) b16295 (l1).toNatClampNeg ((gl (sl M p2 (s1).toNatClampNeg s0) b16295 (l1).toNatClampNeg) ||| (gl (sl M p2 (s1).toNatClampNeg s0) a2 18)))))))) else (16 ≤ a0 ∧ (zfit .boolean ((gi M a0 20) ||| (1 : Int32)) ∧ (16 ≤ b16295 ∧ ((narrow .boolean (.int (gi (si (sl M p2 (s1).toNatClampNeg s0) a0 20 ((gi M a0 20) ||| (1 : Int32))) a0 20)) = .int (gi (si (sl M p2 (s1).toNatClampNeg s0) a0 20 ((gi M a0 20) ||| (1 : Int32))) a0 20)) ∧ (Q (.inl (some (vi (gi (si (sl M p2 (s1).toNatClampNeg s0) a0 20 ((gi M a0 20) ||| (1 : Int32))) a0 20)))) (sl (si (sl M p2 (s1).toNatClampNeg s0) a0 20 ((gi M a0 20) ||| (1 : Int32))) b16295 (l1).toNatClampNeg ((gl (sl M p2 (s1).toNatClampNeg s0) b16295 (l1).toNatClampNeg) ||| (gl (sl M p2 (s1).toNatClampNeg s0) a2 18))))))))))))) : Z E YX42_join (d + 1) M [(0, vr (some (a0, 6, 0))), (1, vi l1), (2, vr (some (a2, 7, 0)))] 700 [vl s0, vi s1, vr (some (p2, 105, np2))] Q := by
  refine sX42_join_700 (d := d) M a0 l1 a2 s0 s1 p2 np2 ?_
  refine zand k (fun h16293 k => ?_)
  refine zand k (fun h16294 k => ?_)
  obtain ⟨b16295, m16295, h16295, k⟩ := k
  refine ⟨b16295, m16295, h16295, ?_⟩
  refine zand k (fun h16296 k => ?_)
  refine ⟨b16295, m16295, h16295, ?_⟩
  refine ⟨h16296, ?_⟩
  refine sX42_more_0 (d := d) (sl M p2 (s1).toNatClampNeg s0) _ (gl (sl M p2 (s1).toNatClampNeg s0) b16295 (l1).toNatClampNeg) ((gl (sl M p2 (s1).toNatClampNeg s0) b16295 (l1).toNatClampNeg) ||| (gl (sl M p2 (s1).toNatClampNeg s0) a2 18)) ?_
  refine zite k (fun h16297 k => ?_) (fun h16297 k => ?_)
  · refine zand k (fun h16298 k => ?_)
    refine zand k (fun h16299 k => ?_)
    show Z E YX42_join (d + 1) (si (sl M p2 (s1).toNatClampNeg s0) a0 20 ((gi M a0 20) ||| (0 : Int32))) [(0, vr (some (a0, 6, 0)))] 727 [vl ((gl (sl M p2 (s1).toNatClampNeg s0) b16295 (l1).toNatClampNeg) ||| (gl (sl M p2 (s1).toNatClampNeg s0) a2 18)), vi l1, vr (some (b16295, 105, m16295))] Q
    refine sX42_join_727 (d := d) (si (sl M p2 (s1).toNatClampNeg s0) a0 20 ((gi M a0 20) ||| (0 : Int32))) _ ((gl (sl M p2 (s1).toNatClampNeg s0) b16295 (l1).toNatClampNeg) ||| (gl (sl M p2 (s1).toNatClampNeg s0) a2 18)) l1 b16295 m16295 ?_
    refine zand k (fun h16300 k => ?_)
    refine ⟨h16296, ?_⟩
    exact k
  · refine zand k (fun h16302 k => ?_)
    refine zand k (fun h16303 k => ?_)
    show Z E YX42_join (d + 1) (si (sl M p2 (s1).toNatClampNeg s0) a0 20 ((gi M a0 20) ||| (1 : Int32))) [(0, vr (some (a0, 6, 0)))] 727 [vl ((gl (sl M p2 (s1).toNatClampNeg s0) b16295 (l1).toNatClampNeg) ||| (gl (sl M p2 (s1).toNatClampNeg s0) a2 18)), vi l1, vr (some (b16295, 105, m16295))] Q
    refine sX42_join_727 (d := d) (si (sl M p2 (s1).toNatClampNeg s0) a0 20 ((gi M a0 20) ||| (1 : Int32))) _ ((gl (sl M p2 (s1).toNatClampNeg s0) b16295 (l1).toNatClampNeg) ||| (gl (sl M p2 (s1).toNatClampNeg s0) a2 18)) l1 b16295 m16295 ?_
    refine zand k (fun h16304 k => ?_)
    refine ⟨h16296, ?_⟩
    exact k
theorem iX42_load_6 {E : zE} {d : Nat} {Q : zO → zM → Prop} (M : zM) (a0 : Nat) (l1 : Int32) (r2 : Option zP) (k : ∃ b16326 m16326 : Nat, (gr M a0 9) = some (b16326, 100, m16326) ∧ (vp_in l1 m16326 ∧ (∃ b16328 : Nat, r2 = some (b16328, 7, 0) ∧ (16 ≤ b16328 ∧ (∃ b16330 m16330 : Nat, (gr M a0 10) = some (b16330, 100, m16330) ∧ (vp_in l1 m16330 ∧ (∃ b16332 m16332 : Nat, (gr M b16328 10) = some (b16332, 105, m16332) ∧ (∃ b16333 m16333 : Nat, (gr M a0 16) = some (b16333, 105, m16333) ∧ (16 ≤ b16332 ∧ ((1 ≤ (d + 1)) ∧ (((¬ (gi (si M b16328 13 (gi M b16326 (l1).toNatClampNeg)) b16330 (l1).toNatClampNeg) < 0 ∧ ¬ (0 : Int32) < 0 ∧ ¬ (gi (si M b16328 13 (gi M b16326 (l1).toNatClampNeg)) b16328 13) < 0) ∧ ((gi (si M b16328 13 (gi M b16326 (l1).toNatClampNeg)) b16330 (l1).toNatClampNeg)).toNatClampNeg + ((gi (si M b16328 13 (gi M b16326 (l1).toNatClampNeg)) b16328 13)).toNatClampNeg ≤ m16333 ∧ ((0 : Int32)).toNatClampNeg + ((gi (si M b16328 13 (gi M b16326 (l1).toNatClampNeg)) b16328 13)).toNatClampNeg ≤ m16332) ∧ (∃ b16337 m16337 : Nat, (gr (cpl (si M b16328 13 (gi M b16326 (l1).toNatClampNeg)) b16333 ((gi (si M b16328 13 (gi M b16326 (l1).toNatClampNeg)) b16330 (l1).toNatClampNeg)).toNatClampNeg b16332 ((0 : Int32)).toNatClampNeg ((gi (si M b16328 13 (gi M b16326 (l1).toNatClampNeg)) b16328 13)).toNatClampNeg) a0 10) = some (b16337, 100, m16337) ∧ (vp_in l1 m16337 ∧ (∃ b16339 m16339 : Nat, (gr (cpl (si M b16328 13 (gi M b16326 (l1).toNatClampNeg)) b16333 ((gi (si M b16328 13 (gi M b16326 (l1).toNatClampNeg)) b16330 (l1).toNatClampNeg)).toNatClampNeg b16332 ((0 : Int32)).toNatClampNeg ((gi (si M b16328 13 (gi M b16326 (l1).toNatClampNeg)) b16328 13)).toNatClampNeg) b16328 11) = some (b16339, 105, m16339) ∧ (∃ b16340 m16340 : Nat, (gr (cpl (si M b16328 13 (gi M b16326 (l1).toNatClampNeg)) b16333 ((gi (si M b16328 13 (gi M b16326 (l1).toNatClampNeg)) b16330 (l1).toNatClampNeg)).toNatClampNeg b16332 ((0 : Int32)).toNatClampNeg ((gi (si M b16328 13 (gi M b16326 (l1).toNatClampNeg)) b16328 13)).toNatClampNeg) a0 17) = some (b16340, 105, m16340) ∧ (16 ≤ b16339 ∧ (((¬ (gi (cpl (si M b16328 13 (gi M b16326 (l1).toNatClampNeg)) b16333 ((gi (si M b16328 13 (gi M b16326 (l1).toNatClampNeg)) b16330 (l1).toNatClampNeg)).toNatClampNeg b16332 ((0 : Int32)).toNatClampNeg ((gi (si M b16328 13 (gi M b16326 (l1).toNatClampNeg)) b16328 13)).toNatClampNeg) b16337 (l1).toNatClampNeg) < 0 ∧ ¬ (0 : Int32) < 0 ∧ ¬ (gi (cpl (si M b16328 13 (gi M b16326 (l1).toNatClampNeg)) b16333 ((gi (si M b16328 13 (gi M b16326 (l1).toNatClampNeg)) b16330 (l1).toNatClampNeg)).toNatClampNeg b16332 ((0 : Int32)).toNatClampNeg ((gi (si M b16328 13 (gi M b16326 (l1).toNatClampNeg)) b16328 13)).toNatClampNeg) b16328 13) < 0) ∧ ((gi (cpl (si M b16328 13 (gi M b16326 (l1).toNatClampNeg)) b16333 ((gi (si M b16328 13 (gi M b16326 (l1).toNatClampNeg)) b16330 (l1).toNatClampNeg)).toNatClampNeg b16332 ((0 : Int32)).toNatClampNeg ((gi (si M b16328 13 (gi M b16326 (l1).toNatClampNeg)) b16328 13)).toNatClampNeg) b16337 (l1).toNatClampNeg)).toNatClampNeg + ((gi (cpl (si M b16328 13 (gi M b16326 (l1).toNatClampNeg)) b16333 ((gi (si M b16328 13 (gi M b16326 (l1).toNatClampNeg)) b16330 (l1).toNatClampNeg)).toNatClampNeg b16332 ((0 : Int32)).toNatClampNeg ((gi (si M b16328 13 (gi M b16326 (l1).toNatClampNeg)) b16328 13)).toNatClampNeg) b16328 13)).toNatClampNeg ≤ m16340 ∧ ((0 : Int32)).toNatClampNeg + ((gi (cpl (si M b16328 13 (gi M b16326 (l1).toNatClampNeg)) b16333 ((gi (si M b16328 13 (gi M b16326 (l1).toNatClampNeg)) b16330 (l1).toNatClampNeg)).toNatClampNeg b16332 ((0 : Int32)).toNatClampNeg ((gi (si M b16328 13 (gi M b16326 (l1).toNatClampNeg)) b16328 13)).toNatClampNeg) b16328 13)).toNatClampNeg ≤ m16339) ∧ (Z E YX42_load (d + 1) (cpl (cpl (si M b16328 13 (gi M b16326 (l1).toNatClampNeg)) b16333 ((gi (si M b16328 13 (gi M b16326 (l1).toNatClampNeg)) b16330 (l1).toNatClampNeg)).toNatClampNeg b16332 ((0 : Int32)).toNatClampNeg ((gi (si M b16328 13 (gi M b16326 (l1).toNatClampNeg)) b16328 13)).toNatClampNeg) b16340 ((gi (cpl (si M b16328 13 (gi M b16326 (l1).toNatClampNeg)) b16333 ((gi (si M b16328 13 (gi M b16326 (l1).toNatClampNeg)) b16330 (l1).toNatClampNeg)).toNatClampNeg b16332 ((0 : Int32)).toNatClampNeg ((gi (si M b16328 13 (gi M b16326 (l1).toNatClampNeg)) b16328 13)).toNatClampNeg) b16337 (l1).toNatClampNeg)).toNatClampNeg b16339 ((0 : Int32)).toNatClampNeg ((gi (cpl (si M b16328 13 (gi M b16326 (l1).toNatClampNeg)) b16333 ((gi (si M b16328 13 (gi M b16326 (l1).toNatClampNeg)) b16330 (l1).toNatClampNeg)).toNatClampNeg b16332 ((0 : Int32)).toNatClampNeg ((gi (si M b16328 13 (gi M b16326 (l1).toNatClampNeg)) b16328 13)).toNatClampNeg) b16328 13)).toNatClampNeg) [(0, vr (some (a0, 6, 0))), (1, vi l1), (2, vr (some (b16328, 7, 0)))] 60 [] Q)))))))))))))))))) : Z E YX42_load (d + 1) M [(0, vr (some (a0, 6, 0))), (1, vi l1), (2, vr r2)] 6 [] Q := by
  refine sX42_load_6 (d := d) M a0 l1 r2 ?_
  obtain ⟨b16326, m16326, h16326, k⟩ := k
  refine ⟨b16326, m16326, h16326, ?_⟩
  refine zand k (fun h16327 k => ?_)
  obtain ⟨b16328, h16328, k⟩ := k
  refine ⟨b16328, h16328, ?_⟩
  refine zand k (fun h16329 k => ?_)
  obtain ⟨b16330, m16330, h16330, k⟩ := k
  refine ⟨b16330, m16330, h16330, ?_⟩
  refine zand k (fun h16331 k => ?_)
  obtain ⟨b16332, m16332, h16332, k⟩ := k
  refine ⟨b16332, m16332, h16332, ?_⟩
  obtain ⟨b16333, m16333, h16333, k⟩ := k
  refine ⟨b16333, m16333, h16333, ?_⟩
  refine zand k (fun h16334 k => ?_)
  refine zand k (fun h16335 k => ?_)
  refine zand k (fun h16336 k => ?_)
  refine sX42_load_38 (d := d) (cpl (si M b16328 13 (gi M b16326 (l1).toNatClampNeg)) b16333 ((gi (si M b16328 13 (gi M b16326 (l1).toNatClampNeg)) b16330 (l1).toNatClampNeg)).toNatClampNeg b16332 ((0 : Int32)).toNatClampNeg ((gi (si M b16328 13 (gi M b16326 (l1).toNatClampNeg)) b16328 13)).toNatClampNeg) _ l1 b16328 ?_
  obtain ⟨b16337, m16337, h16337, k⟩ := k
  refine ⟨b16337, m16337, h16337, ?_⟩
  refine zand k (fun h16338 k => ?_)
  obtain ⟨b16339, m16339, h16339, k⟩ := k
  refine ⟨b16339, m16339, h16339, ?_⟩
  obtain ⟨b16340, m16340, h16340, k⟩ := k
  refine ⟨b16340, m16340, h16340, ?_⟩
  refine zand k (fun h16341 k => ?_)
  refine ⟨h16335, ?_⟩
  exact k
theorem iX42_load_82 {E : zE} {d : Nat} {Q : zO → zM → Prop} (M : zM) (a0 : Nat) (l1 : Int32) (a2 : Nat) (k : ∃ b16350 m16350 : Nat, (gr M a0 11) = some (b16350, 105, m16350) ∧ (vp_in l1 m16350 ∧ (16 ≤ a2 ∧ (∃ b16353 m16353 : Nat, (gr M a0 12) = some (b16353, 105, m16353) ∧ (vp_in l1 m16353 ∧ (∃ b16355 m16355 : Nat, (gr M a0 13) = some (b16355, 105, m16355) ∧ (vp_in l1 m16355 ∧ (∃ b16357 m16357 : Nat, (gr M a0 14) = some (b16357, 105, m16357) ∧ (vp_in l1 m16357 ∧ (∃ b16359 m16359 : Nat, (gr M a0 15) = some (b16359, 105, m16359) ∧ (vp_in l1 m16359 ∧ (Q (.inl none) (sl (sl (sl (sl (sl M a2 14 (gl M b16350 (l1).toNatClampNeg)) a2 15 (gl (sl M a2 14 (gl M b16350 (l1).toNatClampNeg)) b16353 (l1).toNatClampNeg)) a2 16 (gl (sl (sl M a2 14 (gl M b16350 (l1).toNatClampNeg)) a2 15 (gl (sl M a2 14 (gl M b16350 (l1).toNatClampNeg)) b16353 (l1).toNatClampNeg)) b16355 (l1).toNatClampNeg)) a2 17 (gl (sl (sl (sl M a2 14 (gl M b16350 (l1).toNatClampNeg)) a2 15 (gl (sl M a2 14 (gl M b16350 (l1).toNatClampNeg)) b16353 (l1).toNatClampNeg)) a2 16 (gl (sl (sl M a2 14 (gl M b16350 (l1).toNatClampNeg)) a2 15 (gl (sl M a2 14 (gl M b16350 (l1).toNatClampNeg)) b16353 (l1).toNatClampNeg)) b16355 (l1).toNatClampNeg)) b16357 (l1).toNatClampNeg)) a2 18 (gl (sl (sl (sl (sl M a2 14 (gl M b16350 (l1).toNatClampNeg)) a2 15 (gl (sl M a2 14 (gl M b16350 (l1).toNatClampNeg)) b16353 (l1).toNatClampNeg)) a2 16 (gl (sl (sl M a2 14 (gl M b16350 (l1).toNatClampNeg)) a2 15 (gl (sl M a2 14 (gl M b16350 (l1).toNatClampNeg)) b16353 (l1).toNatClampNeg)) b16355 (l1).toNatClampNeg)) a2 17 (gl (sl (sl (sl M a2 14 (gl M b16350 (l1).toNatClampNeg)) a2 15 (gl (sl M a2 14 (gl M b16350 (l1).toNatClampNeg)) b16353 (l1).toNatClampNeg)) a2 16 (gl (sl (sl M a2 14 (gl M b16350 (l1).toNatClampNeg)) a2 15 (gl (sl M a2 14 (gl M b16350 (l1).toNatClampNeg)) b16353 (l1).toNatClampNeg)) b16355 (l1).toNatClampNeg)) b16357 (l1).toNatClampNeg)) b16359 (l1).toNatClampNeg)))))))))))))) : Z E YX42_load (d + 1) M [(0, vr (some (a0, 6, 0))), (1, vi l1), (2, vr (some (a2, 7, 0)))] 82 [] Q := by
  refine sX42_load_82 (d := d) M a0 l1 a2 ?_
  obtain ⟨b16350, m16350, h16350, k⟩ := k
  refine ⟨b16350, m16350, h16350, ?_⟩
  refine zand k (fun h16351 k => ?_)
  refine zand k (fun h16352 k => ?_)
  obtain ⟨b16353, m16353, h16353, k⟩ := k
  refine ⟨b16353, m16353, h16353, ?_⟩
  refine zand k (fun h16354 k => ?_)
  refine ⟨h16352, ?_⟩
  obtain ⟨b16355, m16355, h16355, k⟩ := k
  refine ⟨b16355, m16355, h16355, ?_⟩
  refine zand k (fun h16356 k => ?_)
  refine ⟨h16352, ?_⟩
  obtain ⟨b16357, m16357, h16357, k⟩ := k
  refine ⟨b16357, m16357, h16357, ?_⟩
  refine zand k (fun h16358 k => ?_)
  refine ⟨h16352, ?_⟩
  obtain ⟨b16359, m16359, h16359, k⟩ := k
  refine ⟨b16359, m16359, h16359, ?_⟩
  refine zand k (fun h16360 k => ?_)
  refine ⟨h16352, ?_⟩
  exact k
theorem iX43_at_0 {E : zE} {d : Nat} {Q : zO → zM → Prop} (M : zM) (a0 : Nat) (l1 : Int32) (r2 : Option zP) (k : ∃ b16366 m16366 : Nat, (gr M a0 10) = some (b16366, 105, m16366) ∧ (vp_in l1 m16366 ∧ (∃ b16368 : Nat, r2 = some (b16368, 4, 0) ∧ (16 ≤ b16368 ∧ (∃ b16370 m16370 : Nat, (gr M a0 11) = some (b16370, 105, m16370) ∧ (vp_in l1 m16370 ∧ (∃ b16372 m16372 : Nat, (gr M a0 12) = some (b16372, 105, m16372) ∧ (vp_in l1 m16372 ∧ (Q (.inl (some (vr (some (b16368, 4, 0))))) (sl (sl (sl M b16368 0 (gl M b16366 (l1).toNatClampNeg)) b16368 1 (gl (sl M b16368 0 (gl M b16366 (l1).toNatClampNeg)) b16370 (l1).toNatClampNeg)) b16368 2 (gl (sl (sl M b16368 0 (gl M b16366 (l1).toNatClampNeg)) b16368 1 (gl (sl M b16368 0 (gl M b16366 (l1).toNatClampNeg)) b16370 (l1).toNatClampNeg)) b16372 (l1).toNatClampNeg))))))))))) : Z E YX43_at d M [(0, vr (some (a0, 7, 0))), (1, vi l1), (2, vr r2)] 0 [] Q := by
  refine sX43_at_0 (d := d) M a0 l1 r2 ?_
  obtain ⟨b16366, m16366, h16366, k⟩ := k
  refine ⟨b16366, m16366, h16366, ?_⟩
  refine zand k (fun h16367 k => ?_)
  obtain ⟨b16368, h16368, k⟩ := k
  refine ⟨b16368, h16368, ?_⟩
  refine zand k (fun h16369 k => ?_)
  obtain ⟨b16370, m16370, h16370, k⟩ := k
  refine ⟨b16370, m16370, h16370, ?_⟩
  refine zand k (fun h16371 k => ?_)
  refine ⟨h16369, ?_⟩
  obtain ⟨b16372, m16372, h16372, k⟩ := k
  refine ⟨b16372, m16372, h16372, ?_⟩
  refine zand k (fun h16373 k => ?_)
  refine ⟨h16369, ?_⟩
  exact k
theorem iX43_init_0 {E : zE} {d : Nat} {Q : zO → zM → Prop} (M : zM) (a0 : Nat) (r1 : Option zP) (k : 16 ≤ a0 ∧ (Z E YX43_init (d + 1) (zn (sr (zn (sr (zn (sr (sr (zn (sr (zn (sr (zn M 620) a0 10 (some ((zsz M), 105, 620))) 620) a0 11 (some ((zsz (zn M 620)), 105, 620))) 620) a0 12 (some ((zsz (zn (sr (zn M 620) a0 10 (some ((zsz M), 105, 620))) 620)), 105, 620))) a0 0 r1) 11648) a0 1 (some ((zsz (zn (sr (zn (sr (zn M 620) a0 10 (some ((zsz M), 105, 620))) 620) a0 11 (some ((zsz (zn M 620)), 105, 620))) 620)), 105, 11648))) 11648) a0 2 (some ((zsz (zn (sr (sr (zn (sr (zn (sr (zn M 620) a0 10 (some ((zsz M), 105, 620))) 620) a0 11 (some ((zsz (zn M 620)), 105, 620))) 620) a0 12 (some ((zsz (zn (sr (zn M 620) a0 10 (some ((zsz M), 105, 620))) 620)), 105, 620))) a0 0 r1) 11648)), 105, 11648))) 11648) [(0, vr (some (a0, 7, 0)))] 60 [vr (some ((zsz (zn (sr (zn (sr (sr (zn (sr (zn (sr (zn M 620) a0 10 (some ((zsz M), 105, 620))) 620) a0 11 (some ((zsz (zn M 620)), 105, 620))) 620) a0 12 (some ((zsz (zn (sr (zn M 620) a0 10 (some ((zsz M), 105, 620))) 620)), 105, 620))) a0 0 r1) 11648) a0 1 (some ((zsz (zn (sr (zn (sr (zn M 620) a0 10 (some ((zsz M), 105, 620))) 620) a0 11 (some ((zsz (zn M 620)), 105, 620))) 620)), 105, 11648))) 11648)), 105, 11648)), vr (some (a0, 7, 0))] Q)) : Z E YX43_init (d + 1) M [(0, vr (some (a0, 7, 0))), (1, vr r1)] 0 [] Q := by
  refine sX43_init_0 (d := d) M a0 r1 ?_
  refine sX43_init_10 (d := d) (zn M 620) _ r1 (zsz M) ?_
  refine zand k (fun h16375 k => ?_)
  refine sX43_init_19 (d := d) (zn (sr (zn M 620) a0 10 (some ((zsz M), 105, 620))) 620) _ r1 (zsz (zn M 620)) ?_
  refine ⟨h16375, ?_⟩
  refine sX43_init_28 (d := d) (zn (sr (zn (sr (zn M 620) a0 10 (some ((zsz M), 105, 620))) 620) a0 11 (some ((zsz (zn M 620)), 105, 620))) 620) _ r1 (zsz (zn (sr (zn M 620) a0 10 (some ((zsz M), 105, 620))) 620)) ?_
  refine ⟨h16375, ?_⟩
  refine ⟨h16375, ?_⟩
  refine sX43_init_42 (d := d) (zn (sr (sr (zn (sr (zn (sr (zn M 620) a0 10 (some ((zsz M), 105, 620))) 620) a0 11 (some ((zsz (zn M 620)), 105, 620))) 620) a0 12 (some ((zsz (zn (sr (zn M 620) a0 10 (some ((zsz M), 105, 620))) 620)), 105, 620))) a0 0 r1) 11648) _ (zsz (zn (sr (zn (sr (zn M 620) a0 10 (some ((zsz M), 105, 620))) 620) a0 11 (some ((zsz (zn M 620)), 105, 620))) 620)) ?_
  refine ⟨h16375, ?_⟩
  refine sX43_init_51 (d := d) (zn (sr (zn (sr (sr (zn (sr (zn (sr (zn M 620) a0 10 (some ((zsz M), 105, 620))) 620) a0 11 (some ((zsz (zn M 620)), 105, 620))) 620) a0 12 (some ((zsz (zn (sr (zn M 620) a0 10 (some ((zsz M), 105, 620))) 620)), 105, 620))) a0 0 r1) 11648) a0 1 (some ((zsz (zn (sr (zn (sr (zn M 620) a0 10 (some ((zsz M), 105, 620))) 620) a0 11 (some ((zsz (zn M 620)), 105, 620))) 620)), 105, 11648))) 11648) _ (zsz (zn (sr (sr (zn (sr (zn (sr (zn M 620) a0 10 (some ((zsz M), 105, 620))) 620) a0 11 (some ((zsz (zn M 620)), 105, 620))) 620) a0 12 (some ((zsz (zn (sr (zn M 620) a0 10 (some ((zsz M), 105, 620))) 620)), 105, 620))) a0 0 r1) 11648)) ?_
  refine ⟨h16375, ?_⟩
  exact k
theorem iX43_init_60 {E : zE} {d : Nat} {Q : zO → zM → Prop} (M : zM) (a0 : Nat) (p0 : Nat) (k : 16 ≤ a0 ∧ (Z E YX43_init (d + 1) (zn (sr (zn (sr (zn (sr (zn (sr (zn (sr (zn (sr M a0 3 (some (p0, 105, 11648))) 128) a0 4 (some ((zsz M), 105, 128))) 128) a0 5 (some ((zsz (zn (sr M a0 3 (some (p0, 105, 11648))) 128)), 105, 128))) 128) a0 6 (some ((zsz (zn (sr (zn (sr M a0 3 (some (p0, 105, 11648))) 128) a0 4 (some ((zsz M), 105, 128))) 128)), 105, 128))) 128) a0 7 (some ((zsz (zn (sr (zn (sr (zn (sr M a0 3 (some (p0, 105, 11648))) 128) a0 4 (some ((zsz M), 105, 128))) 128) a0 5 (some ((zsz (zn (sr M a0 3 (some (p0, 105, 11648))) 128)), 105, 128))) 128)), 105, 128))) 128) a0 8 (some ((zsz (zn (sr (zn (sr (zn (sr (zn (sr M a0 3 (some (p0, 105, 11648))) 128) a0 4 (some ((zsz M), 105, 128))) 128) a0 5 (some ((zsz (zn (sr M a0 3 (some (p0, 105, 11648))) 128)), 105, 128))) 128) a0 6 (some ((zsz (zn (sr (zn (sr M a0 3 (some (p0, 105, 11648))) 128) a0 4 (some ((zsz M), 105, 128))) 128)), 105, 128))) 128)), 104, 128))) 128) [] 114 [vr (some ((zsz (zn (sr (zn (sr (zn (sr (zn (sr (zn (sr M a0 3 (some (p0, 105, 11648))) 128) a0 4 (some ((zsz M), 105, 128))) 128) a0 5 (some ((zsz (zn (sr M a0 3 (some (p0, 105, 11648))) 128)), 105, 128))) 128) a0 6 (some ((zsz (zn (sr (zn (sr M a0 3 (some (p0, 105, 11648))) 128) a0 4 (some ((zsz M), 105, 128))) 128)), 105, 128))) 128) a0 7 (some ((zsz (zn (sr (zn (sr (zn (sr M a0 3 (some (p0, 105, 11648))) 128) a0 4 (some ((zsz M), 105, 128))) 128) a0 5 (some ((zsz (zn (sr M a0 3 (some (p0, 105, 11648))) 128)), 105, 128))) 128)), 105, 128))) 128)), 104, 128)), vr (some (a0, 7, 0))] Q)) : Z E YX43_init (d + 1) M [(0, vr (some (a0, 7, 0)))] 60 [vr (some (p0, 105, 11648)), vr (some (a0, 7, 0))] Q := by
  refine sX43_init_60 (d := d) M a0 p0 ?_
  refine zand k (fun h16376 k => ?_)
  refine sX43_init_69 (d := d) (zn (sr M a0 3 (some (p0, 105, 11648))) 128) _ (zsz M) ?_
  refine ⟨h16376, ?_⟩
  refine sX43_init_78 (d := d) (zn (sr (zn (sr M a0 3 (some (p0, 105, 11648))) 128) a0 4 (some ((zsz M), 105, 128))) 128) _ (zsz (zn (sr M a0 3 (some (p0, 105, 11648))) 128)) ?_
  refine ⟨h16376, ?_⟩
  refine sX43_init_87 (d := d) (zn (sr (zn (sr (zn (sr M a0 3 (some (p0, 105, 11648))) 128) a0 4 (some ((zsz M), 105, 128))) 128) a0 5 (some ((zsz (zn (sr M a0 3 (some (p0, 105, 11648))) 128)), 105, 128))) 128) _ (zsz (zn (sr (zn (sr M a0 3 (some (p0, 105, 11648))) 128) a0 4 (some ((zsz M), 105, 128))) 128)) ?_
  refine ⟨h16376, ?_⟩
  refine sX43_init_96 (d := d) (zn (sr (zn (sr (zn (sr (zn (sr M a0 3 (some (p0, 105, 11648))) 128) a0 4 (some ((zsz M), 105, 128))) 128) a0 5 (some ((zsz (zn (sr M a0 3 (some (p0, 105, 11648))) 128)), 105, 128))) 128) a0 6 (some ((zsz (zn (sr (zn (sr M a0 3 (some (p0, 105, 11648))) 128) a0 4 (some ((zsz M), 105, 128))) 128)), 105, 128))) 128) _ (zsz (zn (sr (zn (sr (zn (sr M a0 3 (some (p0, 105, 11648))) 128) a0 4 (some ((zsz M), 105, 128))) 128) a0 5 (some ((zsz (zn (sr M a0 3 (some (p0, 105, 11648))) 128)), 105, 128))) 128)) ?_
  refine ⟨h16376, ?_⟩
  refine sX43_init_105 (d := d) (zn (sr (zn (sr (zn (sr (zn (sr (zn (sr M a0 3 (some (p0, 105, 11648))) 128) a0 4 (some ((zsz M), 105, 128))) 128) a0 5 (some ((zsz (zn (sr M a0 3 (some (p0, 105, 11648))) 128)), 105, 128))) 128) a0 6 (some ((zsz (zn (sr (zn (sr M a0 3 (some (p0, 105, 11648))) 128) a0 4 (some ((zsz M), 105, 128))) 128)), 105, 128))) 128) a0 7 (some ((zsz (zn (sr (zn (sr (zn (sr M a0 3 (some (p0, 105, 11648))) 128) a0 4 (some ((zsz M), 105, 128))) 128) a0 5 (some ((zsz (zn (sr M a0 3 (some (p0, 105, 11648))) 128)), 105, 128))) 128)), 105, 128))) 128) _ (zsz (zn (sr (zn (sr (zn (sr (zn (sr M a0 3 (some (p0, 105, 11648))) 128) a0 4 (some ((zsz M), 105, 128))) 128) a0 5 (some ((zsz (zn (sr M a0 3 (some (p0, 105, 11648))) 128)), 105, 128))) 128) a0 6 (some ((zsz (zn (sr (zn (sr M a0 3 (some (p0, 105, 11648))) 128) a0 4 (some ((zsz M), 105, 128))) 128)), 105, 128))) 128)) ?_
  refine ⟨h16376, ?_⟩
  exact k
theorem iX43_joinField_0 {E : zE} {d : Nat} {Q : zO → zM → Prop} (M : zM) (a0 : Nat) (l1 : Int32) (l2 : Int32) (r3 : Option zP) (k : ∃ b16379 : Nat, (gr M a0 0) = some (b16379, 0, 0) ∧ (∃ b16380 m16380 : Nat, (gr M a0 1) = some (b16380, 105, m16380) ∧ (vp_in ((l1 * ((gi M b16379 1) + (1 : Int32))) + l2) m16380 ∧ (∃ b16382 : Nat, r3 = some (b16382, 4, 0) ∧ (16 ≤ b16380 ∧ (∃ b16384 m16384 : Nat, (gr M a0 2) = some (b16384, 105, m16384) ∧ (vp_in ((l1 * ((gi M b16379 1) + (1 : Int32))) + l2) m16384 ∧ (16 ≤ b16384 ∧ (∃ b16387 m16387 : Nat, (gr M a0 3) = some (b16387, 105, m16387) ∧ (vp_in ((l1 * ((gi M b16379 1) + (1 : Int32))) + l2) m16387 ∧ (Z E YX1_joined d (sl (sl M b16380 (((l1 * ((gi M b16379 1) + (1 : Int32))) + l2)).toNatClampNeg ((gl M b16380 (((l1 * ((gi M b16379 1) + (1 : Int32))) + l2)).toNatClampNeg) ||| (gl M b16382 0))) b16384 (((l1 * ((gi M b16379 1) + (1 : Int32))) + l2)).toNatClampNeg ((gl (sl M b16380 (((l1 * ((gi M b16379 1) + (1 : Int32))) + l2)).toNatClampNeg ((gl M b16380 (((l1 * ((gi M b16379 1) + (1 : Int32))) + l2)).toNatClampNeg) ||| (gl M b16382 0))) b16384 (((l1 * ((gi M b16379 1) + (1 : Int32))) + l2)).toNatClampNeg) ||| (gl (sl M b16380 (((l1 * ((gi M b16379 1) + (1 : Int32))) + l2)).toNatClampNeg ((gl M b16380 (((l1 * ((gi M b16379 1) + (1 : Int32))) + l2)).toNatClampNeg) ||| (gl M b16382 0))) b16382 1))) (zargs 0 [vl (gl (sl (sl M b16380 (((l1 * ((gi M b16379 1) + (1 : Int32))) + l2)).toNatClampNeg ((gl M b16380 (((l1 * ((gi M b16379 1) + (1 : Int32))) + l2)).toNatClampNeg) ||| (gl M b16382 0))) b16384 (((l1 * ((gi M b16379 1) + (1 : Int32))) + l2)).toNatClampNeg ((gl (sl M b16380 (((l1 * ((gi M b16379 1) + (1 : Int32))) + l2)).toNatClampNeg ((gl M b16380 (((l1 * ((gi M b16379 1) + (1 : Int32))) + l2)).toNatClampNeg) ||| (gl M b16382 0))) b16384 (((l1 * ((gi M b16379 1) + (1 : Int32))) + l2)).toNatClampNeg) ||| (gl (sl M b16380 (((l1 * ((gi M b16379 1) + (1 : Int32))) + l2)).toNatClampNeg ((gl M b16380 (((l1 * ((gi M b16379 1) + (1 : Int32))) + l2)).toNatClampNeg) ||| (gl M b16382 0))) b16382 1))) b16387 (((l1 * ((gi M b16379 1) + (1 : Int32))) + l2)).toNatClampNeg), vl ((gl (sl (sl M b16380 (((l1 * ((gi M b16379 1) + (1 : Int32))) + l2)).toNatClampNeg ((gl M b16380 (((l1 * ((gi M b16379 1) + (1 : Int32))) + l2)).toNatClampNeg) ||| (gl M b16382 0))) b16384 (((l1 * ((gi M b16379 1) + (1 : Int32))) + l2)).toNatClampNeg ((gl (sl M b16380 (((l1 * ((gi M b16379 1) + (1 : Int32))) + l2)).toNatClampNeg ((gl M b16380 (((l1 * ((gi M b16379 1) + (1 : Int32))) + l2)).toNatClampNeg) ||| (gl M b16382 0))) b16384 (((l1 * ((gi M b16379 1) + (1 : Int32))) + l2)).toNatClampNeg) ||| (gl (sl M b16380 (((l1 * ((gi M b16379 1) + (1 : Int32))) + l2)).toNatClampNeg ((gl M b16380 (((l1 * ((gi M b16379 1) + (1 : Int32))) + l2)).toNatClampNeg) ||| (gl M b16382 0))) b16382 1))) b16382 2) &&& (-513 : Int64))]) 0 [] (zafter E YX43_joinField (d + 1) [] 57 3 [vi ((l1 * ((gi M b16379 1) + (1 : Int32))) + l2), vr (some (b16387, 105, m16387))] Q)))))))))))) : Z E YX43_joinField (d + 1) M [(0, vr (some (a0, 7, 0))), (1, vi l1), (2, vi l2), (3, vr r3)] 0 [] Q := by
  refine sX43_joinField_0 (d := d) M a0 l1 l2 r3 ?_
  refine sX43_cell_0 (d := d) M _ l1 l2 ?_
  obtain ⟨b16379, h16379, k⟩ := k
  refine ⟨b16379, h16379, ?_⟩
  show Z E YX43_joinField (d + 1) M [(0, vr (some (a0, 7, 0))), (3, vr r3)] 6 [vi ((l1 * ((gi M b16379 1) + (1 : Int32))) + l2)] Q
  refine sX43_joinField_6 (d := d) M _ r3 ((l1 * ((gi M b16379 1) + (1 : Int32))) + l2) ?_
  obtain ⟨b16380, m16380, h16380, k⟩ := k
  refine ⟨b16380, m16380, h16380, ?_⟩
  refine zand k (fun h16381 k => ?_)
  obtain ⟨b16382, h16382, k⟩ := k
  refine ⟨b16382, h16382, ?_⟩
  refine zand k (fun h16383 k => ?_)
  refine ⟨h16381, ?_⟩
  obtain ⟨b16384, m16384, h16384, k⟩ := k
  refine ⟨b16384, m16384, h16384, ?_⟩
  refine zand k (fun h16385 k => ?_)
  refine zand k (fun h16386 k => ?_)
  refine ⟨h16385, ?_⟩
  exact k
theorem jX1_in {E : zE} {d : Nat} {Q : zO → zM → Prop} (M : zM) (l0 : Int32) (l1 : Int64) (l3 : Int64) (hw : cw M) (k : if (64 : Int32) ≤ l0 then (∀ x1_v16398 : Int64, x1_v16398 = (zls (zlr l3 (l0 - (64 : Int32))) (63 : Int32)) → (if (lg_cmp x1_v16398 (0 : Int64)) = 0 then (Q (.inl (some (vi (0 : Int32)))) M) else (Q (.inl (some (vi (1 : Int32)))) M))) else (∀ x1_v16400 : Int64, x1_v16400 = (zls (zlr l1 l0) (63 : Int32)) → (if (lg_cmp x1_v16400 (0 : Int64)) = 0 then (Q (.inl (some (vi (0 : Int32)))) M) else (Q (.inl (some (vi (1 : Int32)))) M)))) : Z E YX1_in d M [(0, vi l0), (1, vl l1), (3, vl l3)] 0 [] Q := by
  refine sX1_in_0 (d := d) M l0 l1 l3 hw ?_
  refine zite k (fun h16397 k => ?_) (fun h16397 k => ?_)
  · refine sX1_in_18 (d := d) M (zlr l3 (l0 - (64 : Int32))) hw ?_
    exact k
  · refine sX1_in_18 (d := d) M (zlr l1 l0) hw ?_
    exact k
theorem iX43_make_0 {E : zE} {d : Nat} {Q : zO → zM → Prop} (M : zM) (a0 : Nat) (l1 : Int32) (l2 : Int32) (k : ∃ b16391 : Nat, (gr M a0 0) = some (b16391, 0, 0) ∧ (Z E YX43_renames d M (zargs 0 [vr (some (a0, 7, 0)), vr (gr M a0 1), vr (gr M a0 2), vi (0 : Int32), vi ((gi M b16391 11) * ((gi M b16391 1) + (1 : Int32))), vi l1]) 0 [] (zafter E YX43_make (d + 1) [(0, vr (some (a0, 7, 0))), (1, vi l1), (2, vi l2)] 28 3 [] Q))) : Z E YX43_make (d + 1) M [(0, vr (some (a0, 7, 0))), (1, vi l1), (2, vi l2)] 0 [] Q := by
  refine sX43_make_0 (d := d) M a0 l1 l2 ?_
  obtain ⟨b16391, h16391, k⟩ := k
  refine ⟨b16391, h16391, ?_⟩
  refine ⟨b16391, h16391, ?_⟩
  exact k
theorem iX43_make_91 {E : zE} {d : Nat} {Q : zO → zM → Prop} (M : zM) (a0 : Nat) (l1 : Int32) (l2 : Int32) (k : Z E YX43_renamedHigh d M (zargs 0 [vr (some (a0, 7, 0)), vl (gl M a0 14), vl (gl M a0 15), vi l1]) 0 [] (zafter E YX43_make (d + 1) [(0, vr (some (a0, 7, 0))), (1, vi l1), (2, vi l2), (3, vl (gl M a0 14)), (5, vl (gl M a0 17))] 110 3 [vr (some (a0, 7, 0))] Q)) : Z E YX43_make (d + 1) M [(0, vr (some (a0, 7, 0))), (1, vi l1), (2, vi l2)] 91 [] Q := by
  refine sX43_make_91 (d := d) M a0 l1 l2 ?_
  exact k
theorem iX43_make_113 {E : zE} {d : Nat} {Q : zO → zM → Prop} (M : zM) (a0 : Nat) (l1 : Int32) (l2 : Int32) (l3 : Int64) (l5 : Int64) (s0 : Int64) (k : 16 ≤ a0 ∧ (Z E YX43_renamedLow d (sl M a0 15 s0) (zargs 0 [vr (some (a0, 7, 0)), vl l3, vi l1]) 0 [] (zafter E YX43_make (d + 1) [(0, vr (some (a0, 7, 0))), (1, vi l1), (2, vi l2), (5, vl l5)] 120 3 [vr (some (a0, 7, 0))] Q))) : Z E YX43_make (d + 1) M [(0, vr (some (a0, 7, 0))), (1, vi l1), (2, vi l2), (3, vl l3), (5, vl l5)] 113 [vl s0, vr (some (a0, 7, 0))] Q := by
  refine sX43_make_113 (d := d) M a0 l1 l2 l3 l5 s0 ?_
  exact k
theorem iX43_make_138 {E : zE} {d : Nat} {Q : zO → zM → Prop} (M : zM) (a0 : Nat) (l1 : Int32) (l2 : Int32) (l5 : Int64) (s0 : Int64) (k : 16 ≤ a0 ∧ (if (64 : Int32) ≤ l1 then (∃ b17043 m17043 : Nat, (gr M a0 8) = some (b17043, 104, m17043) ∧ (vp_in l1 m17043 ∧ (if (gi M b17043 (l1).toNatClampNeg) = 0 then (if l2 = (-1 : Int32) then (Z E YX43_renew d (sl (sl M a0 18 s0) a0 17 l5) (zargs 0 [vr (some (a0, 7, 0)), vi l1, vi l2, vi (1 : Int32)]) 0 [] (zafter E YX43_make (d + 1) [] 365 3 [] Q)) else (Z E YX43_renew d (sl (sl M a0 18 s0) a0 17 l5) (zargs 0 [vr (some (a0, 7, 0)), vi l1, vi l2, vi (0 : Int32)]) 0 [] (zafter E YX43_make (d + 1) [] 365 3 [] Q))) else (16 ≤ b17043 ∧ (vp_in (l1 + (1 : Int32)) m17043 ∧ (Z E YX43_make (d + 1) (si (sl (sl M a0 18 s0) a0 17 l5) b17043 ((l1 + (1 : Int32))).toNatClampNeg (vp_nar .boolean (1 : Int32))) [(0, vr (some (a0, 7, 0))), (1, vi l1), (2, vi l2), (7, vi (l1 + (1 : Int32))), (8, vi (0 : Int32))] 177 [] Q)))))) else (if (lg_cmp ((zlr l5 l1) &&& (1 : Int64)) (0 : Int64)) = 0 then (∃ b17050 m17050 : Nat, (gr M a0 8) = some (b17050, 104, m17050) ∧ (vp_in l1 m17050 ∧ (if (gi M b17050 (l1).toNatClampNeg) = 0 then (if l2 = (-1 : Int32) then (Z E YX43_renew d (sl (sl M a0 18 s0) a0 17 l5) (zargs 0 [vr (some (a0, 7, 0)), vi l1, vi l2, vi (1 : Int32)]) 0 [] (zafter E YX43_make (d + 1) [] 365 3 [] Q)) else (Z E YX43_renew d (sl (sl M a0 18 s0) a0 17 l5) (zargs 0 [vr (some (a0, 7, 0)), vi l1, vi l2, vi (0 : Int32)]) 0 [] (zafter E YX43_make (d + 1) [] 365 3 [] Q))) else (16 ≤ b17050 ∧ (vp_in (l1 + (1 : Int32)) m17050 ∧ (Z E YX43_make (d + 1) (si (sl (sl M a0 18 s0) a0 17 l5) b17050 ((l1 + (1 : Int32))).toNatClampNeg (vp_nar .boolean (1 : Int32))) [(0, vr (some (a0, 7, 0))), (1, vi l1), (2, vi l2), (7, vi (l1 + (1 : Int32))), (8, vi (0 : Int32))] 177 [] Q)))))) else (if l1 = (63 : Int32) then (∃ b17057 m17057 : Nat, (gr M a0 8) = some (b17057, 104, m17057) ∧ (vp_in l1 m17057 ∧ (if (gi M b17057 (l1).toNatClampNeg) = 0 then (if l2 = (-1 : Int32) then (Z E YX43_renew d (sl (sl M a0 18 s0) a0 17 ((l5 &&& ((zls (1 : Int64) l1) ^^^ (-1 : Int64))) ||| (0 : Int64))) (zargs 0 [vr (some (a0, 7, 0)), vi l1, vi l2, vi (1 : Int32)]) 0 [] (zafter E YX43_make (d + 1) [] 365 3 [] Q)) else (Z E YX43_renew d (sl (sl M a0 18 s0) a0 17 ((l5 &&& ((zls (1 : Int64) l1) ^^^ (-1 : Int64))) ||| (0 : Int64))) (zargs 0 [vr (some (a0, 7, 0)), vi l1, vi l2, vi (0 : Int32)]) 0 [] (zafter E YX43_make (d + 1) [] 365 3 [] Q))) else (16 ≤ b17057 ∧ (vp_in (l1 + (1 : Int32)) m17057 ∧ (Z E YX43_make (d + 1) (si (sl (sl M a0 18 s0) a0 17 ((l5 &&& ((zls (1 : Int64) l1) ^^^ (-1 : Int64))) ||| (0 : Int64))) b17057 ((l1 + (1 : Int32))).toNatClampNeg (vp_nar .boolean (1 : Int32))) [(0, vr (some (a0, 7, 0))), (1, vi l1), (2, vi l2), (7, vi (l1 + (1 : Int32))), (8, vi (0 : Int32))] 177 [] Q)))))) else (∃ b17063 m17063 : Nat, (gr M a0 8) = some (b17063, 104, m17063) ∧ (vp_in l1 m17063 ∧ (if (gi M b17063 (l1).toNatClampNeg) = 0 then (if l2 = (-1 : Int32) then (Z E YX43_renew d (sl (sl M a0 18 s0) a0 17 ((l5 &&& ((zls (1 : Int64) l1) ^^^ (-1 : Int64))) ||| (zls (1 : Int64) (l1 + (1 : Int32))))) (zargs 0 [vr (some (a0, 7, 0)), vi l1, vi l2, vi (1 : Int32)]) 0 [] (zafter E YX43_make (d + 1) [] 365 3 [] Q)) else (Z E YX43_renew d (sl (sl M a0 18 s0) a0 17 ((l5 &&& ((zls (1 : Int64) l1) ^^^ (-1 : Int64))) ||| (zls (1 : Int64) (l1 + (1 : Int32))))) (zargs 0 [vr (some (a0, 7, 0)), vi l1, vi l2, vi (0 : Int32)]) 0 [] (zafter E YX43_make (d + 1) [] 365 3 [] Q))) else (16 ≤ b17063 ∧ (vp_in (l1 + (1 : Int32)) m17063 ∧ (Z E YX43_make (d + 1) (si (sl (sl M a0 18 s0) a0 17 ((l5 &&& ((zls (1 : Int64) l1) ^^^ (-1 : Int64))) ||| (zls (1 : Int64) (l1 + (1 : Int32))))) b17063 ((l1 + (1 : Int32))).toNatClampNeg (vp_nar .boolean (1 : Int32))) [(0, vr (some (a0, 7, 0))), (1, vi l1), (2, vi l2), (7, vi (l1 + (1 : Int32))), (8, vi (0 : Int32))] 177 [] Q)))))))))) : Z E YX43_make (d + 1) M [(0, vr (some (a0, 7, 0))), (1, vi l1), (2, vi l2), (5, vl l5)] 138 [vl s0, vr (some (a0, 7, 0))] Q := by
  refine sX43_make_138 (d := d) M a0 l1 l2 l5 s0 ?_
  refine zand k (fun h17041 k => ?_)
  refine sX43_renamedLow_0 (d := d) (sl M a0 18 s0) _ l5 l1 ?_
  refine zite k (fun h17042 k => ?_) (fun h17042 k => ?_)
  · show Z E YX43_make (d + 1) (sl M a0 18 s0) [(0, vr (some (a0, 7, 0))), (1, vi l1), (2, vi l2)] 149 [vl l5, vr (some (a0, 7, 0))] Q
    refine sX43_make_149 (d := d) (sl M a0 18 s0) _ l1 l2 l5 ?_
    refine ⟨h17041, ?_⟩
    obtain ⟨b17043, m17043, h17043, k⟩ := k
    refine ⟨b17043, m17043, h17043, ?_⟩
    refine zand k (fun h17044 k => ?_)
    refine zite k (fun h17045 k => ?_) (fun h17045 k => ?_)
    · refine sX43_make_352 (d := d) (sl (sl M a0 18 s0) a0 17 l5) _ l1 l2 ?_
      exact k
    · refine ⟨b17043, m17043, h17043, ?_⟩
      exact k
  · refine zite k (fun h17049 k => ?_) (fun h17049 k => ?_)
    · show Z E YX43_make (d + 1) (sl M a0 18 s0) [(0, vr (some (a0, 7, 0))), (1, vi l1), (2, vi l2)] 149 [vl l5, vr (some (a0, 7, 0))] Q
      refine sX43_make_149 (d := d) (sl M a0 18 s0) _ l1 l2 l5 ?_
      refine ⟨h17041, ?_⟩
      obtain ⟨b17050, m17050, h17050, k⟩ := k
      refine ⟨b17050, m17050, h17050, ?_⟩
      refine zand k (fun h17051 k => ?_)
      refine zite k (fun h17052 k => ?_) (fun h17052 k => ?_)
      · refine sX43_make_352 (d := d) (sl (sl M a0 18 s0) a0 17 l5) _ l1 l2 ?_
        exact k
      · refine ⟨b17050, m17050, h17050, ?_⟩
        exact k
    · refine zite k (fun h17056 k => ?_) (fun h17056 k => ?_)
      · show Z E YX43_make (d + 1) (sl M a0 18 s0) [(0, vr (some (a0, 7, 0))), (1, vi l1), (2, vi l2)] 149 [vl ((l5 &&& ((zls (1 : Int64) l1) ^^^ (-1 : Int64))) ||| (0 : Int64)), vr (some (a0, 7, 0))] Q
        refine sX43_make_149 (d := d) (sl M a0 18 s0) _ l1 l2 ((l5 &&& ((zls (1 : Int64) l1) ^^^ (-1 : Int64))) ||| (0 : Int64)) ?_
        refine ⟨h17041, ?_⟩
        obtain ⟨b17057, m17057, h17057, k⟩ := k
        refine ⟨b17057, m17057, h17057, ?_⟩
        refine zand k (fun h17058 k => ?_)
        refine zite k (fun h17059 k => ?_) (fun h17059 k => ?_)
        · refine sX43_make_352 (d := d) (sl (sl M a0 18 s0) a0 17 ((l5 &&& ((zls (1 : Int64) l1) ^^^ (-1 : Int64))) ||| (0 : Int64))) _ l1 l2 ?_
          exact k
        · refine ⟨b17057, m17057, h17057, ?_⟩
          exact k
      · show Z E YX43_make (d + 1) (sl M a0 18 s0) [(0, vr (some (a0, 7, 0))), (1, vi l1), (2, vi l2)] 149 [vl ((l5 &&& ((zls (1 : Int64) l1) ^^^ (-1 : Int64))) ||| (zls (1 : Int64) (l1 + (1 : Int32)))), vr (some (a0, 7, 0))] Q
        refine sX43_make_149 (d := d) (sl M a0 18 s0) _ l1 l2 ((l5 &&& ((zls (1 : Int64) l1) ^^^ (-1 : Int64))) ||| (zls (1 : Int64) (l1 + (1 : Int32)))) ?_
        refine ⟨h17041, ?_⟩
        obtain ⟨b17063, m17063, h17063, k⟩ := k
        refine ⟨b17063, m17063, h17063, ?_⟩
        refine zand k (fun h17064 k => ?_)
        refine zite k (fun h17065 k => ?_) (fun h17065 k => ?_)
        · refine sX43_make_352 (d := d) (sl (sl M a0 18 s0) a0 17 ((l5 &&& ((zls (1 : Int64) l1) ^^^ (-1 : Int64))) ||| (zls (1 : Int64) (l1 + (1 : Int32))))) _ l1 l2 ?_
          exact k
        · refine ⟨b17063, m17063, h17063, ?_⟩
          exact k
theorem iX43_make_197 {E : zE} {d : Nat} {Q : zO → zM → Prop} (M : zM) (a0 : Nat) (l1 : Int32) (l2 : Int32) (l7 : Int32) (l8 : Int32) (s0 : Int32) (k : ∃ b17169 : Nat, (gr M a0 0) = some (b17169, 0, 0) ∧ (∃ b17170 m17170 : Nat, (gr M a0 1) = some (b17170, 105, m17170) ∧ (vp_in s0 m17170 ∧ (vp_in ((l1 * ((gi M b17169 1) + (1 : Int32))) + l8) m17170 ∧ (16 ≤ b17170 ∧ (∃ b17174 m17174 : Nat, (gr M a0 2) = some (b17174, 105, m17174) ∧ (vp_in s0 m17174 ∧ (vp_in ((l1 * ((gi M b17169 1) + (1 : Int32))) + l8) m17174 ∧ (16 ≤ b17174 ∧ (∃ b17178 m17178 : Nat, (gr M a0 3) = some (b17178, 105, m17178) ∧ (vp_in s0 m17178 ∧ (vp_in ((l1 * ((gi M b17169 1) + (1 : Int32))) + l8) m17178 ∧ (Z E YX1_joined d (sl (sl M b17170 (s0).toNatClampNeg ((gl M b17170 (s0).toNatClampNeg) ||| (gl M b17170 (((l1 * ((gi M b17169 1) + (1 : Int32))) + l8)).toNatClampNeg))) b17174 (s0).toNatClampNeg ((gl (sl M b17170 (s0).toNatClampNeg ((gl M b17170 (s0).toNatClampNeg) ||| (gl M b17170 (((l1 * ((gi M b17169 1) + (1 : Int32))) + l8)).toNatClampNeg))) b17174 (s0).toNatClampNeg) ||| (gl (sl M b17170 (s0).toNatClampNeg ((gl M b17170 (s0).toNatClampNeg) ||| (gl M b17170 (((l1 * ((gi M b17169 1) + (1 : Int32))) + l8)).toNatClampNeg))) b17174 (((l1 * ((gi M b17169 1) + (1 : Int32))) + l8)).toNatClampNeg))) (zargs 0 [vl (gl (sl (sl M b17170 (s0).toNatClampNeg ((gl M b17170 (s0).toNatClampNeg) ||| (gl M b17170 (((l1 * ((gi M b17169 1) + (1 : Int32))) + l8)).toNatClampNeg))) b17174 (s0).toNatClampNeg ((gl (sl M b17170 (s0).toNatClampNeg ((gl M b17170 (s0).toNatClampNeg) ||| (gl M b17170 (((l1 * ((gi M b17169 1) + (1 : Int32))) + l8)).toNatClampNeg))) b17174 (s0).toNatClampNeg) ||| (gl (sl M b17170 (s0).toNatClampNeg ((gl M b17170 (s0).toNatClampNeg) ||| (gl M b17170 (((l1 * ((gi M b17169 1) + (1 : Int32))) + l8)).toNatClampNeg))) b17174 (((l1 * ((gi M b17169 1) + (1 : Int32))) + l8)).toNatClampNeg))) b17178 (s0).toNatClampNeg), vl (gl (sl (sl M b17170 (s0).toNatClampNeg ((gl M b17170 (s0).toNatClampNeg) ||| (gl M b17170 (((l1 * ((gi M b17169 1) + (1 : Int32))) + l8)).toNatClampNeg))) b17174 (s0).toNatClampNeg ((gl (sl M b17170 (s0).toNatClampNeg ((gl M b17170 (s0).toNatClampNeg) ||| (gl M b17170 (((l1 * ((gi M b17169 1) + (1 : Int32))) + l8)).toNatClampNeg))) b17174 (s0).toNatClampNeg) ||| (gl (sl M b17170 (s0).toNatClampNeg ((gl M b17170 (s0).toNatClampNeg) ||| (gl M b17170 (((l1 * ((gi M b17169 1) + (1 : Int32))) + l8)).toNatClampNeg))) b17174 (((l1 * ((gi M b17169 1) + (1 : Int32))) + l8)).toNatClampNeg))) b17178 (((l1 * ((gi M b17169 1) + (1 : Int32))) + l8)).toNatClampNeg)]) 0 [] (zafter E YX43_make (d + 1) [(0, vr (some (a0, 7, 0))), (1, vi l1), (2, vi l2), (7, vi l7), (8, vi l8)] 262 3 [vi s0, vr (some (b17178, 105, m17178))] Q)))))))))))))) : Z E YX43_make (d + 1) M [(0, vr (some (a0, 7, 0))), (1, vi l1), (2, vi l2), (7, vi l7), (8, vi l8)] 197 [vi s0] Q := by
  refine sX43_make_197 (d := d) M a0 l1 l2 l7 l8 s0 ?_
  refine sX43_cell_0 (d := d) M _ l1 l8 ?_
  obtain ⟨b17169, h17169, k⟩ := k
  refine ⟨b17169, h17169, ?_⟩
  show Z E YX43_make (d + 1) M [(0, vr (some (a0, 7, 0))), (1, vi l1), (2, vi l2), (7, vi l7), (8, vi l8), (9, vi s0)] 206 [vi ((l1 * ((gi M b17169 1) + (1 : Int32))) + l8)] Q
  refine sX43_make_206 (d := d) M _ l1 l2 l7 l8 s0 ((l1 * ((gi M b17169 1) + (1 : Int32))) + l8) ?_
  obtain ⟨b17170, m17170, h17170, k⟩ := k
  refine ⟨b17170, m17170, h17170, ?_⟩
  refine zand k (fun h17171 k => ?_)
  refine ⟨b17170, m17170, h17170, ?_⟩
  refine zand k (fun h17172 k => ?_)
  refine zand k (fun h17173 k => ?_)
  refine ⟨h17171, ?_⟩
  obtain ⟨b17174, m17174, h17174, k⟩ := k
  refine ⟨b17174, m17174, h17174, ?_⟩
  refine zand k (fun h17175 k => ?_)
  refine ⟨b17174, m17174, h17174, ?_⟩
  refine zand k (fun h17176 k => ?_)
  refine zand k (fun h17177 k => ?_)
  refine ⟨h17175, ?_⟩
  obtain ⟨b17178, m17178, h17178, k⟩ := k
  refine ⟨b17178, m17178, h17178, ?_⟩
  refine zand k (fun h17179 k => ?_)
  refine ⟨b17178, m17178, h17178, ?_⟩
  exact k
theorem iX43_push_0 {E : zE} {d : Nat} {Q : zO → zM → Prop} (M : zM) (a0 : Nat) (r1 : Option zP) (k : ∃ b17183 : Nat, r1 = some (b17183, 4, 0) ∧ (∃ b17194 m17194 : Nat, (gr M a0 10) = some (b17194, 105, m17194) ∧ (16 ≤ b17194 ∧ (vp_in (gi M a0 13) m17194 ∧ (∃ b17197 m17197 : Nat, (gr M a0 11) = some (b17197, 105, m17197) ∧ (16 ≤ b17197 ∧ (vp_in (gi M a0 13) m17197 ∧ (16 ≤ a0 ∧ (∃ b17201 m17201 : Nat, (gr M a0 12) = some (b17201, 105, m17201) ∧ (16 ≤ b17201 ∧ (vp_in (gi M a0 13) m17201 ∧ (Q (.inl none) (sl (si (sl (sl M b17194 ((gi M a0 13)).toNatClampNeg (gl M b17183 0)) b17197 ((gi M a0 13)).toNatClampNeg (gl M b17183 1)) a0 13 ((gi M a0 13) + (1 : Int32))) b17201 ((gi M a0 13)).toNatClampNeg ((gl M b17183 2) &&& (-513 : Int64))))))))))))))) : Z E YX43_push (d + 1) M [(0, vr (some (a0, 7, 0))), (1, vr r1)] 0 [] Q := by
  refine sX43_push_0 (d := d) M a0 r1 ?_
  obtain ⟨b17183, h17183, k⟩ := k
  refine ⟨b17183, h17183, ?_⟩
  refine sX43_push_2_0 (d := d) M _ (gl M b17183 0) (gl M b17183 1) ((gl M b17183 2) &&& (-513 : Int64)) ?_
  obtain ⟨b17194, m17194, h17194, k⟩ := k
  refine ⟨b17194, m17194, h17194, ?_⟩
  refine zand k (fun h17195 k => ?_)
  refine zand k (fun h17196 k => ?_)
  obtain ⟨b17197, m17197, h17197, k⟩ := k
  refine ⟨b17197, m17197, h17197, ?_⟩
  refine zand k (fun h17198 k => ?_)
  refine zand k (fun h17199 k => ?_)
  refine zand k (fun h17200 k => ?_)
  obtain ⟨b17201, m17201, h17201, k⟩ := k
  refine ⟨b17201, m17201, h17201, ?_⟩
  refine zand k (fun h17202 k => ?_)
  refine zand k (fun h17203 k => ?_)
  show Z E YX43_push (d + 1) (sl (si (sl (sl M b17194 ((gi M a0 13)).toNatClampNeg (gl M b17183 0)) b17197 ((gi M a0 13)).toNatClampNeg (gl M b17183 1)) a0 13 ((gi M a0 13) + (1 : Int32))) b17201 ((gi M a0 13)).toNatClampNeg ((gl M b17183 2) &&& (-513 : Int64))) [] 20 [] Q
  refine sX43_push_20 (d := d) (sl (si (sl (sl M b17194 ((gi M a0 13)).toNatClampNeg (gl M b17183 0)) b17197 ((gi M a0 13)).toNatClampNeg (gl M b17183 1)) a0 13 ((gi M a0 13) + (1 : Int32))) b17201 ((gi M a0 13)).toNatClampNeg ((gl M b17183 2) &&& (-513 : Int64)))  ?_
  exact k
theorem iX43_put_0 {E : zE} {d : Nat} {Q : zO → zM → Prop} (M : zM) (a0 : Nat) (l1 : Int32) (l2 : Int32) (l3 : Int64) (l5 : Int64) (l7 : Int64) (k : ∃ b17214 : Nat, (gr M a0 0) = some (b17214, 0, 0) ∧ (∃ b17215 m17215 : Nat, (gr M a0 1) = some (b17215, 105, m17215) ∧ (16 ≤ b17215 ∧ (vp_in ((l1 * ((gi M b17214 1) + (1 : Int32))) + l2) m17215 ∧ (∃ b17218 m17218 : Nat, (gr M a0 2) = some (b17218, 105, m17218) ∧ (16 ≤ b17218 ∧ (vp_in ((l1 * ((gi M b17214 1) + (1 : Int32))) + l2) m17218 ∧ (∃ b17221 m17221 : Nat, (gr M a0 3) = some (b17221, 105, m17221) ∧ (16 ≤ b17221 ∧ (vp_in ((l1 * ((gi M b17214 1) + (1 : Int32))) + l2) m17221 ∧ (Q (.inl none) (sl (sl (sl M b17215 (((l1 * ((gi M b17214 1) + (1 : Int32))) + l2)).toNatClampNeg l3) b17218 (((l1 * ((gi M b17214 1) + (1 : Int32))) + l2)).toNatClampNeg l5) b17221 (((l1 * ((gi M b17214 1) + (1 : Int32))) + l2)).toNatClampNeg l7)))))))))))) : Z E YX43_put (d + 1) M [(0, vr (some (a0, 7, 0))), (1, vi l1), (2, vi l2), (3, vl l3), (5, vl l5), (7, vl l7)] 0 [] Q := by
  refine sX43_put_0 (d := d) M a0 l1 l2 l3 l5 l7 ?_
  refine sX43_cell_0 (d := d) M _ l1 l2 ?_
  obtain ⟨b17214, h17214, k⟩ := k
  refine ⟨b17214, h17214, ?_⟩
  show Z E YX43_put (d + 1) M [(0, vr (some (a0, 7, 0))), (3, vl l3), (5, vl l5), (7, vl l7)] 6 [vi ((l1 * ((gi M b17214 1) + (1 : Int32))) + l2)] Q
  refine sX43_put_6 (d := d) M _ l3 l5 l7 ((l1 * ((gi M b17214 1) + (1 : Int32))) + l2) ?_
  exact k
theorem iX43_renew_0 {E : zE} {d : Nat} {Q : zO → zM → Prop} (M : zM) (a0 : Nat) (l1 : Int32) (l2 : Int32) (l3 : Int32) (k : ∃ b17224 m17224 : Nat, (gr M a0 8) = some (b17224, 104, m17224) ∧ (16 ≤ b17224 ∧ (vp_in l1 m17224 ∧ (∃ b17227 : Nat, (gr M a0 0) = some (b17227, 0, 0) ∧ (Z E YX43_renew (d + 1) (si M b17224 (l1).toNatClampNeg (vp_nar .boolean (1 : Int32))) [(0, vr (some (a0, 7, 0))), (1, vi l1), (2, vi l2), (3, vi l3), (4, vi ((l1 * ((gi (si M b17224 (l1).toNatClampNeg (vp_nar .boolean (1 : Int32))) b17227 1) + (1 : Int32))) + (0 : Int32)))] 15 [] Q))))) : Z E YX43_renew (d + 1) M [(0, vr (some (a0, 7, 0))), (1, vi l1), (2, vi l2), (3, vi l3)] 0 [] Q := by
  refine sX43_renew_0 (d := d) M a0 l1 l2 l3 ?_
  obtain ⟨b17224, m17224, h17224, k⟩ := k
  refine ⟨b17224, m17224, h17224, ?_⟩
  refine zand k (fun h17225 k => ?_)
  refine zand k (fun h17226 k => ?_)
  refine sX43_cell_0 (d := d) (si M b17224 (l1).toNatClampNeg (vp_nar .boolean (1 : Int32))) _ l1 (0 : Int32) ?_
  obtain ⟨b17227, h17227, k⟩ := k
  refine ⟨b17227, h17227, ?_⟩
  show Z E YX43_renew (d + 1) (si M b17224 (l1).toNatClampNeg (vp_nar .boolean (1 : Int32))) [(0, vr (some (a0, 7, 0))), (1, vi l1), (2, vi l2), (3, vi l3)] 13 [vi ((l1 * ((gi (si M b17224 (l1).toNatClampNeg (vp_nar .boolean (1 : Int32))) b17227 1) + (1 : Int32))) + (0 : Int32))] Q
  refine sX43_renew_13 (d := d) (si M b17224 (l1).toNatClampNeg (vp_nar .boolean (1 : Int32))) _ l1 l2 l3 ((l1 * ((gi (si M b17224 (l1).toNatClampNeg (vp_nar .boolean (1 : Int32))) b17227 1) + (1 : Int32))) + (0 : Int32)) ?_
  exact k
theorem iX43_renew_15 {E : zE} {d : Nat} {Q : zO → zM → Prop} (M : zM) (a0 : Nat) (l1 : Int32) (l2 : Int32) (l3 : Int32) (l4 : Int32) (k : ∃ b17228 : Nat, (gr M a0 0) = some (b17228, 0, 0) ∧ (if ((l1 * ((gi M b17228 1) + (1 : Int32))) + (gi M b17228 1)) < l4 then (if l2 < 0 then (∃ b17231 m17231 : Nat, (gr M a0 4) = some (b17231, 105, m17231) ∧ (16 ≤ b17231 ∧ (vp_in l1 m17231 ∧ (if l2 < (64 : Int32) then (∃ b17235 m17235 : Nat, (gr M a0 5) = some (b17235, 105, m17235) ∧ (16 ≤ b17235 ∧ (vp_in l1 m17235 ∧ (∃ b17238 m17238 : Nat, (gr M a0 9) = some (b17238, 104, m17238) ∧ (16 ≤ b17238 ∧ (vp_in l1 m17238 ∧ (∃ b17241 m17241 : Nat, (gr M a0 6) = some (b17241, 105, m17241) ∧ (16 ≤ b17241 ∧ (vp_in l1 m17241 ∧ (∃ b17244 m17244 : Nat, (gr M a0 7) = some (b17244, 105, m17244) ∧ (16 ≤ b17244 ∧ (vp_in l1 m17244 ∧ (Q (.inl none) (sl (sl (si (sl (sl M b17231 (l1).toNatClampNeg (0 : Int64)) b17235 (l1).toNatClampNeg (0 : Int64)) b17238 (l1).toNatClampNeg (vp_nar .boolean l3)) b17241 (l1).toNatClampNeg (0 : Int64)) b17244 (l1).toNatClampNeg (0 : Int64))))))))))))))) else (∃ b17247 m17247 : Nat, (gr M a0 5) = some (b17247, 105, m17247) ∧ (16 ≤ b17247 ∧ (vp_in l1 m17247 ∧ (∃ b17250 m17250 : Nat, (gr M a0 9) = some (b17250, 104, m17250) ∧ (16 ≤ b17250 ∧ (vp_in l1 m17250 ∧ (∃ b17253 m17253 : Nat, (gr M a0 6) = some (b17253, 105, m17253) ∧ (16 ≤ b17253 ∧ (vp_in l1 m17253 ∧ (∃ b17256 m17256 : Nat, (gr M a0 7) = some (b17256, 105, m17256) ∧ (16 ≤ b17256 ∧ (vp_in l1 m17256 ∧ (Q (.inl none) (sl (sl (si (sl (sl M b17231 (l1).toNatClampNeg (0 : Int64)) b17247 (l1).toNatClampNeg (zls (1 : Int64) (l2 - (64 : Int32)))) b17250 (l1).toNatClampNeg (vp_nar .boolean l3)) b17253 (l1).toNatClampNeg (0 : Int64)) b17256 (l1).toNatClampNeg (0 : Int64))))))))))))))))))) else (if (64 : Int32) ≤ l2 then (∃ b17260 m17260 : Nat, (gr M a0 4) = some (b17260, 105, m17260) ∧ (16 ≤ b17260 ∧ (vp_in l1 m17260 ∧ (if l2 < (64 : Int32) then (∃ b17264 m17264 : Nat, (gr M a0 5) = some (b17264, 105, m17264) ∧ (16 ≤ b17264 ∧ (vp_in l1 m17264 ∧ (∃ b17267 m17267 : Nat, (gr M a0 9) = some (b17267, 104, m17267) ∧ (16 ≤ b17267 ∧ (vp_in l1 m17267 ∧ (∃ b17270 m17270 : Nat, (gr M a0 6) = some (b17270, 105, m17270) ∧ (16 ≤ b17270 ∧ (vp_in l1 m17270 ∧ (∃ b17273 m17273 : Nat, (gr M a0 7) = some (b17273, 105, m17273) ∧ (16 ≤ b17273 ∧ (vp_in l1 m17273 ∧ (Q (.inl none) (sl (sl (si (sl (sl M b17260 (l1).toNatClampNeg (0 : Int64)) b17264 (l1).toNatClampNeg (0 : Int64)) b17267 (l1).toNatClampNeg (vp_nar .boolean l3)) b17270 (l1).toNatClampNeg (0 : Int64)) b17273 (l1).toNatClampNeg (0 : Int64))))))))))))))) else (∃ b17276 m17276 : Nat, (gr M a0 5) = some (b17276, 105, m17276) ∧ (16 ≤ b17276 ∧ (vp_in l1 m17276 ∧ (∃ b17279 m17279 : Nat, (gr M a0 9) = some (b17279, 104, m17279) ∧ (16 ≤ b17279 ∧ (vp_in l1 m17279 ∧ (∃ b17282 m17282 : Nat, (gr M a0 6) = some (b17282, 105, m17282) ∧ (16 ≤ b17282 ∧ (vp_in l1 m17282 ∧ (∃ b17285 m17285 : Nat, (gr M a0 7) = some (b17285, 105, m17285) ∧ (16 ≤ b17285 ∧ (vp_in l1 m17285 ∧ (Q (.inl none) (sl (sl (si (sl (sl M b17260 (l1).toNatClampNeg (0 : Int64)) b17276 (l1).toNatClampNeg (zls (1 : Int64) (l2 - (64 : Int32)))) b17279 (l1).toNatClampNeg (vp_nar .boolean l3)) b17282 (l1).toNatClampNeg (0 : Int64)) b17285 (l1).toNatClampNeg (0 : Int64))))))))))))))))))) else (∃ b17288 m17288 : Nat, (gr M a0 4) = some (b17288, 105, m17288) ∧ (16 ≤ b17288 ∧ (vp_in l1 m17288 ∧ (if l2 < (64 : Int32) then (∃ b17292 m17292 : Nat, (gr M a0 5) = some (b17292, 105, m17292) ∧ (16 ≤ b17292 ∧ (vp_in l1 m17292 ∧ (∃ b17295 m17295 : Nat, (gr M a0 9) = some (b17295, 104, m17295) ∧ (16 ≤ b17295 ∧ (vp_in l1 m17295 ∧ (∃ b17298 m17298 : Nat, (gr M a0 6) = some (b17298, 105, m17298) ∧ (16 ≤ b17298 ∧ (vp_in l1 m17298 ∧ (∃ b17301 m17301 : Nat, (gr M a0 7) = some (b17301, 105, m17301) ∧ (16 ≤ b17301 ∧ (vp_in l1 m17301 ∧ (Q (.inl none) (sl (sl (si (sl (sl M b17288 (l1).toNatClampNeg (zls (1 : Int64) l2)) b17292 (l1).toNatClampNeg (0 : Int64)) b17295 (l1).toNatClampNeg (vp_nar .boolean l3)) b17298 (l1).toNatClampNeg (0 : Int64)) b17301 (l1).toNatClampNeg (0 : Int64))))))))))))))) else (∃ b17304 m17304 : Nat, (gr M a0 5) = some (b17304, 105, m17304) ∧ (16 ≤ b17304 ∧ (vp_in l1 m17304 ∧ (∃ b17307 m17307 : Nat, (gr M a0 9) = some (b17307, 104, m17307) ∧ (16 ≤ b17307 ∧ (vp_in l1 m17307 ∧ (∃ b17310 m17310 : Nat, (gr M a0 6) = some (b17310, 105, m17310) ∧ (16 ≤ b17310 ∧ (vp_in l1 m17310 ∧ (∃ b17313 m17313 : Nat, (gr M a0 7) = some (b17313, 105, m17313) ∧ (16 ≤ b17313 ∧ (vp_in l1 m17313 ∧ (Q (.inl none) (sl (sl (si (sl (sl M b17288 (l1).toNatClampNeg (zls (1 : Int64) l2)) b17304 (l1).toNatClampNeg (zls (1 : Int64) (l2 - (64 : Int32)))) b17307 (l1).toNatClampNeg (vp_nar .boolean l3)) b17310 (l1).toNatClampNeg (0 : Int64)) b17313 (l1).toNatClampNeg (0 : Int64))))))))))))))))))))) else (∃ b17316 m17316 : Nat, (gr M a0 1) = some (b17316, 105, m17316) ∧ (16 ≤ b17316 ∧ (vp_in l4 m17316 ∧ (∃ b17319 m17319 : Nat, (gr M a0 2) = some (b17319, 105, m17319) ∧ (16 ≤ b17319 ∧ (vp_in l4 m17319 ∧ (∃ b17322 m17322 : Nat, (gr M a0 3) = some (b17322, 105, m17322) ∧ (16 ≤ b17322 ∧ (vp_in l4 m17322 ∧ (Z E YX43_renew (d + 1) (sl (sl (sl M b17316 (l4).toNatClampNeg (0 : Int64)) b17319 (l4).toNatClampNeg (0 : Int64)) b17322 (l4).toNatClampNeg (512 : Int64)) [(0, vr (some (a0, 7, 0))), (1, vi l1), (2, vi l2), (3, vi l3), (4, vi (l4 + (1 : Int32)))] 15 [] Q)))))))))))) : Z E YX43_renew (d + 1) M [(0, vr (some (a0, 7, 0))), (1, vi l1), (2, vi l2), (3, vi l3), (4, vi l4)] 15 [] Q := by
  refine sX43_renew_15 (d := d) M a0 l1 l2 l3 l4 ?_
  obtain ⟨b17228, h17228, k⟩ := k
  refine ⟨b17228, h17228, ?_⟩
  refine sX43_cell_0 (d := d) M _ l1 (gi M b17228 1) ?_
  refine ⟨b17228, h17228, ?_⟩
  show Z E YX43_renew (d + 1) M [(0, vr (some (a0, 7, 0))), (1, vi l1), (2, vi l2), (3, vi l3), (4, vi l4)] 29 [vi ((l1 * ((gi M b17228 1) + (1 : Int32))) + (gi M b17228 1)), vi l4] Q
  refine sX43_renew_29 (d := d) M _ l1 l2 l3 l4 ((l1 * ((gi M b17228 1) + (1 : Int32))) + (gi M b17228 1)) l4 ?_
  refine zite k (fun h17229 k => ?_) (fun h17229 k => ?_)
  · refine zite k (fun h17230 k => ?_) (fun h17230 k => ?_)
    · refine sX43_renew_86 (d := d) M _ l1 l2 l3 (0 : Int64) l1 (gr M a0 4) ?_
      obtain ⟨b17231, m17231, h17231, k⟩ := k
      refine ⟨b17231, m17231, h17231, ?_⟩
      refine zand k (fun h17232 k => ?_)
      refine zand k (fun h17233 k => ?_)
      refine zite k (fun h17234 k => ?_) (fun h17234 k => ?_)
      · refine sX43_renew_108 (d := d) (sl M b17231 (l1).toNatClampNeg (0 : Int64)) _ l1 l3 (0 : Int64) l1 (gr M a0 5) ?_
        exact k
      · refine sX43_renew_108 (d := d) (sl M b17231 (l1).toNatClampNeg (0 : Int64)) _ l1 l3 (zls (1 : Int64) (l2 - (64 : Int32))) l1 (gr M a0 5) ?_
        exact k
    · refine zite k (fun h17259 k => ?_) (fun h17259 k => ?_)
      · refine sX43_renew_86 (d := d) M _ l1 l2 l3 (0 : Int64) l1 (gr M a0 4) ?_
        obtain ⟨b17260, m17260, h17260, k⟩ := k
        refine ⟨b17260, m17260, h17260, ?_⟩
        refine zand k (fun h17261 k => ?_)
        refine zand k (fun h17262 k => ?_)
        refine zite k (fun h17263 k => ?_) (fun h17263 k => ?_)
        · refine sX43_renew_108 (d := d) (sl M b17260 (l1).toNatClampNeg (0 : Int64)) _ l1 l3 (0 : Int64) l1 (gr M a0 5) ?_
          exact k
        · refine sX43_renew_108 (d := d) (sl M b17260 (l1).toNatClampNeg (0 : Int64)) _ l1 l3 (zls (1 : Int64) (l2 - (64 : Int32))) l1 (gr M a0 5) ?_
          exact k
      · refine sX43_renew_86 (d := d) M _ l1 l2 l3 (zls (1 : Int64) l2) l1 (gr M a0 4) ?_
        obtain ⟨b17288, m17288, h17288, k⟩ := k
        refine ⟨b17288, m17288, h17288, ?_⟩
        refine zand k (fun h17289 k => ?_)
        refine zand k (fun h17290 k => ?_)
        refine zite k (fun h17291 k => ?_) (fun h17291 k => ?_)
        · refine sX43_renew_108 (d := d) (sl M b17288 (l1).toNatClampNeg (zls (1 : Int64) l2)) _ l1 l3 (0 : Int64) l1 (gr M a0 5) ?_
          exact k
        · refine sX43_renew_108 (d := d) (sl M b17288 (l1).toNatClampNeg (zls (1 : Int64) l2)) _ l1 l3 (zls (1 : Int64) (l2 - (64 : Int32))) l1 (gr M a0 5) ?_
          exact k
  · exact k
theorem iX6_copy_0 {E : zE} {d : Nat} {Q : zO → zM → Prop} (M : zM) (a0 : Nat) (r1 : Option zP) (k : ∃ b17328 : Nat, r1 = some (b17328, 4, 0) ∧ (16 ≤ a0 ∧ (Q (.inl (some (vr (some (a0, 4, 0))))) (sl (sl (sl M a0 0 (gl M b17328 0)) a0 1 (gl (sl M a0 0 (gl M b17328 0)) b17328 1)) a0 2 (gl (sl (sl M a0 0 (gl M b17328 0)) a0 1 (gl (sl M a0 0 (gl M b17328 0)) b17328 1)) b17328 2))))) : Z E YX6_copy d M [(0, vr (some (a0, 4, 0))), (1, vr r1)] 0 [] Q := by
  refine sX6_copy_0 (d := d) M a0 r1 ?_
  obtain ⟨b17328, h17328, k⟩ := k
  refine ⟨b17328, h17328, ?_⟩
  refine zand k (fun h17329 k => ?_)
  refine ⟨h17329, ?_⟩
  refine ⟨h17329, ?_⟩
  exact k
theorem iX6_empty_0 {E : zE} {d : Nat} {Q : zO → zM → Prop} (M : zM) (a0 : Nat) (k : 16 ≤ a0 ∧ (Q (.inl (some (vr (some (a0, 4, 0))))) (sl (sl (sl M a0 0 (0 : Int64)) a0 1 (0 : Int64)) a0 2 (0 : Int64)))) : Z E YX6_empty d M [(0, vr (some (a0, 4, 0)))] 0 [] Q := by
  refine sX6_empty_0 (d := d) M a0 ?_
  refine zand k (fun h17330 k => ?_)
  refine ⟨h17330, ?_⟩
  refine ⟨h17330, ?_⟩
  exact k
theorem iX6_isAlone_0 {E : zE} {d : Nat} {Q : zO → zM → Prop} (M : zM) (a0 : Nat) (k : if (lg_cmp (gl M a0 0) (0 : Int64)) = 0 then (if (lg_cmp (gl M a0 1) (0 : Int64)) = 0 then (Z E YJ17_bitCount d M (zargs 0 [vl ((gl M a0 2) &&& (511 : Int64))]) 0 [] (zafter E YX6_isAlone (d + 1) [(0, vr (some (a0, 4, 0)))] 15 3 [] Q)) else (Q (.inl (some (vi (0 : Int32)))) M)) else (Q (.inl (some (vi (0 : Int32)))) M)) : Z E YX6_isAlone (d + 1) M [(0, vr (some (a0, 4, 0)))] 0 [] Q := by
  refine sX6_isAlone_0 (d := d) M a0 ?_
  refine sX6_hasLabels_0 (d := d) M _ ?_
  refine zite k (fun h17339 k => ?_) (fun h17339 k => ?_)
  · refine zite k (fun h17340 k => ?_) (fun h17340 k => ?_)
    · show Z E YX6_isAlone (d + 1) M [(0, vr (some (a0, 4, 0)))] 4 [vi (0 : Int32)] Q
      refine sX6_isAlone_4 (d := d) M _ (0 : Int32) ?_
      refine zpos (show (0 : Int32) = 0 from by decide) ?_
      exact k
    · show Z E YX6_isAlone (d + 1) M [(0, vr (some (a0, 4, 0)))] 4 [vi (1 : Int32)] Q
      refine sX6_isAlone_4 (d := d) M _ (1 : Int32) ?_
      refine zneg (show ¬ ((1 : Int32) = 0) from by decide) ?_
      exact k
  · show Z E YX6_isAlone (d + 1) M [(0, vr (some (a0, 4, 0)))] 4 [vi (1 : Int32)] Q
    refine sX6_isAlone_4 (d := d) M _ (1 : Int32) ?_
    refine zneg (show ¬ ((1 : Int32) = 0) from by decide) ?_
    exact k
theorem iX6_join3_0 {E : zE} {d : Nat} {Q : zO → zM → Prop} (M : zM) (a0 : Nat) (l1 : Int64) (l3 : Int64) (l5 : Int64) (k : 16 ≤ a0 ∧ (Z E YX1_joined d (sl (sl M a0 0 ((gl M a0 0) ||| l1)) a0 1 ((gl (sl M a0 0 ((gl M a0 0) ||| l1)) a0 1) ||| l3)) (zargs 0 [vl (gl (sl (sl M a0 0 ((gl M a0 0) ||| l1)) a0 1 ((gl (sl M a0 0 ((gl M a0 0) ||| l1)) a0 1) ||| l3)) a0 2), vl l5]) 0 [] (zafter E YX6_join3 (d + 1) [(0, vr (some (a0, 4, 0)))] 27 3 [vr (some (a0, 4, 0))] Q))) : Z E YX6_join3 (d + 1) M [(0, vr (some (a0, 4, 0))), (1, vl l1), (3, vl l3), (5, vl l5)] 0 [] Q := by
  refine sX6_join3_0 (d := d) M a0 l1 l3 l5 ?_
  refine zand k (fun h17347 k => ?_)
  refine ⟨h17347, ?_⟩
  exact k
theorem iX6_of_0 {E : zE} {d : Nat} {Q : zO → zM → Prop} (M : zM) (a0 : Nat) (l1 : Int64) (k : 16 ≤ a0 ∧ (Q (.inl (some (vr (some (a0, 4, 0))))) (sl (sl (sl M a0 0 (0 : Int64)) a0 1 (0 : Int64)) a0 2 l1))) : Z E YX6_of d M [(0, vr (some (a0, 4, 0))), (1, vl l1)] 0 [] Q := by
  refine sX6_of_0 (d := d) M a0 l1 ?_
  refine zand k (fun h17352 k => ?_)
  refine ⟨h17352, ?_⟩
  refine ⟨h17352, ?_⟩
  exact k
theorem iX6_sort_0 {E : zE} {d : Nat} {Q : zO → zM → Prop} (M : zM) (a0 : Nat) (k : if (lg_cmp ((gl M a0 2) &&& ((32 : Int32)).toInt64) (0 : Int64)) = 0 then (if (lg_cmp ((gl M a0 2) &&& ((128 : Int32)).toInt64) (0 : Int64)) = 0 then (Z E YJ17_numberOfTrailingZeros d M (zargs 0 [vl ((gl M a0 2) &&& (31 : Int64))]) 0 [] (zafter E YX6_sort (d + 1) [] 36 3 [] Q)) else (Q (.inl (some (vi (6 : Int32)))) M)) else (Q (.inl (some (vi (5 : Int32)))) M)) : Z E YX6_sort (d + 1) M [(0, vr (some (a0, 4, 0)))] 0 [] Q := by
  refine sX6_sort_0 (d := d) M a0 ?_
  refine sX6_has_0 (d := d) M _ (32 : Int32) ?_
  refine zite k (fun h17354 k => ?_) (fun h17354 k => ?_)
  · show Z E YX6_sort (d + 1) M [(0, vr (some (a0, 4, 0)))] 6 [vi (0 : Int32)] Q
    refine sX6_sort_6 (d := d) M _ (0 : Int32) ?_
    refine zpos (show (0 : Int32) = 0 from by decide) ?_
    refine sX6_has_0 (d := d) M _ (128 : Int32) ?_
    refine zite k (fun h17355 k => ?_) (fun h17355 k => ?_)
    · show Z E YX6_sort (d + 1) M [(0, vr (some (a0, 4, 0)))] 20 [vi (0 : Int32)] Q
      refine sX6_sort_20 (d := d) M _ (0 : Int32) ?_
      refine zpos (show (0 : Int32) = 0 from by decide) ?_
      exact k
    · show Z E YX6_sort (d + 1) M [(0, vr (some (a0, 4, 0)))] 20 [vi (1 : Int32)] Q
      refine sX6_sort_20 (d := d) M _ (1 : Int32) ?_
      refine zneg (show ¬ ((1 : Int32) = 0) from by decide) ?_
      refine sX6_sort_39 (d := d) M (6 : Int32) ?_
      exact k
  · show Z E YX6_sort (d + 1) M [(0, vr (some (a0, 4, 0)))] 6 [vi (1 : Int32)] Q
    refine sX6_sort_6 (d := d) M _ (1 : Int32) ?_
    refine zneg (show ¬ ((1 : Int32) = 0) from by decide) ?_
    refine sX6_sort_39 (d := d) M (5 : Int32) ?_
    exact k
theorem iX6_told_0 {E : zE} {d : Nat} {Q : zO → zM → Prop} (M : zM) (a0 : Nat) (l1 : Int32) (k : if l1 = 0 then (Q (.inl (some (vl ((gl M a0 2) &&& (1023 : Int64))))) M) else (if l1 = (1 : Int32) then (if (lg_cmp ((gl M a0 2) &&& ((32 : Int32)).toInt64) (0 : Int64)) = 0 then (Q (.inl (some (vl (0 : Int64)))) M) else (∀ x1_v17361v17362 : Int64, x1_v17361v17362 = (zlr (gl M a0 2) (32 : Int32)) → (Q (.inl (some (vl ((x1_v17361v17362).toInt32).toInt64))) M))) else (if l1 = (2 : Int32) then (if (lg_cmp ((gl M a0 2) &&& ((128 : Int32)).toInt64) (0 : Int64)) = 0 then (Q (.inl (some (vl (0 : Int64)))) M) else (Q (.inl (some (vl ((((zlr (gl M a0 2) (16 : Int32)) &&& (65535 : Int64))).toInt32).toInt64))) M)) else (if l1 = (3 : Int32) then (Q (.inl (some (vl (gl M a0 0)))) M) else (if l1 = (4 : Int32) then (Q (.inl (some (vl (gl M a0 1)))) M) else (Q (.inl (some (vl (0 : Int64)))) M)))))) : Z E YX6_told (d + 1) M [(0, vr (some (a0, 4, 0))), (1, vi l1)] 0 [] Q := by
  refine sX6_told_0 (d := d) M a0 l1 ?_
  refine zite k (fun h17358 k => ?_) (fun h17358 k => ?_)
  · exact k
  · refine zite k (fun h17359 k => ?_) (fun h17359 k => ?_)
    · refine sX6_has_0 (d := d) M _ (32 : Int32) ?_
      refine zite k (fun h17360 k => ?_) (fun h17360 k => ?_)
      · show Z E YX6_told (d + 1) M [(0, vr (some (a0, 4, 0)))] 26 [vi (0 : Int32)] Q
        refine sX6_told_26 (d := d) M _ (0 : Int32) ?_
        refine zpos (show (0 : Int32) = 0 from by decide) ?_
        exact k
      · show Z E YX6_told (d + 1) M [(0, vr (some (a0, 4, 0)))] 26 [vi (1 : Int32)] Q
        refine sX6_told_26 (d := d) M _ (1 : Int32) ?_
        refine zneg (show ¬ ((1 : Int32) = 0) from by decide) ?_
        refine sX6_number_0 (d := d) M _ ?_
        intro x1_v17361v17362 h17362
        have k := k x1_v17361v17362 h17362
        show Z E YX6_told (d + 1) M [] 33 [vi (x1_v17361v17362).toInt32] Q
        refine sX6_told_33 (d := d) M ((x1_v17361v17362).toInt32) ?_
        exact k
    · refine zite k (fun h17363 k => ?_) (fun h17363 k => ?_)
      · refine sX6_has_0 (d := d) M _ (128 : Int32) ?_
        refine zite k (fun h17364 k => ?_) (fun h17364 k => ?_)
        · show Z E YX6_told (d + 1) M [(0, vr (some (a0, 4, 0)))] 53 [vi (0 : Int32)] Q
          refine sX6_told_53 (d := d) M _ (0 : Int32) ?_
          refine zpos (show (0 : Int32) = 0 from by decide) ?_
          exact k
        · show Z E YX6_told (d + 1) M [(0, vr (some (a0, 4, 0)))] 53 [vi (1 : Int32)] Q
          refine sX6_told_53 (d := d) M _ (1 : Int32) ?_
          refine zneg (show ¬ ((1 : Int32) = 0) from by decide) ?_
          refine sX6_name_0 (d := d) M _ ?_
          show Z E YX6_told (d + 1) M [] 60 [vi (((zlr (gl M a0 2) (16 : Int32)) &&& (65535 : Int64))).toInt32] Q
          refine sX6_told_60 (d := d) M ((((zlr (gl M a0 2) (16 : Int32)) &&& (65535 : Int64))).toInt32) ?_
          exact k
      · exact k
theorem iX6_value_0 {E : zE} {d : Nat} {Q : zO → zM → Prop} (M : zM) (a0 : Nat) (k : if (lg_cmp ((gl M a0 2) &&& ((32 : Int32)).toInt64) (0 : Int64)) = 0 then (if (lg_cmp ((gl M a0 2) &&& ((128 : Int32)).toInt64) (0 : Int64)) = 0 then (Q (.inl (some (vi (0 : Int32)))) M) else (Q (.inl (some (vi (((zlr (gl M a0 2) (16 : Int32)) &&& (65535 : Int64))).toInt32))) M)) else (∀ x1_v17361v17369 : Int64, x1_v17361v17369 = (zlr (gl M a0 2) (32 : Int32)) → (Q (.inl (some (vi (x1_v17361v17369).toInt32))) M))) : Z E YX6_value (d + 1) M [(0, vr (some (a0, 4, 0)))] 0 [] Q := by
  refine sX6_value_0 (d := d) M a0 ?_
  refine sX6_has_0 (d := d) M _ (32 : Int32) ?_
  refine zite k (fun h17367 k => ?_) (fun h17367 k => ?_)
  · show Z E YX6_value (d + 1) M [(0, vr (some (a0, 4, 0)))] 6 [vi (0 : Int32)] Q
    refine sX6_value_6 (d := d) M _ (0 : Int32) ?_
    refine zpos (show (0 : Int32) = 0 from by decide) ?_
    refine sX6_has_0 (d := d) M _ (128 : Int32) ?_
    refine zite k (fun h17368 k => ?_) (fun h17368 k => ?_)
    · show Z E YX6_value (d + 1) M [(0, vr (some (a0, 4, 0)))] 23 [vi (0 : Int32)] Q
      refine sX6_value_23 (d := d) M _ (0 : Int32) ?_
      refine zpos (show (0 : Int32) = 0 from by decide) ?_
      exact k
    · show Z E YX6_value (d + 1) M [(0, vr (some (a0, 4, 0)))] 23 [vi (1 : Int32)] Q
      refine sX6_value_23 (d := d) M _ (1 : Int32) ?_
      refine zneg (show ¬ ((1 : Int32) = 0) from by decide) ?_
      refine sX6_name_0 (d := d) M _ ?_
      show Z E YX6_value (d + 1) M [] 30 [vi (((zlr (gl M a0 2) (16 : Int32)) &&& (65535 : Int64))).toInt32] Q
      refine sX6_value_30 (d := d) M ((((zlr (gl M a0 2) (16 : Int32)) &&& (65535 : Int64))).toInt32) ?_
      exact k
  · show Z E YX6_value (d + 1) M [(0, vr (some (a0, 4, 0)))] 6 [vi (1 : Int32)] Q
    refine sX6_value_6 (d := d) M _ (1 : Int32) ?_
    refine zneg (show ¬ ((1 : Int32) = 0) from by decide) ?_
    refine sX6_number_0 (d := d) M _ ?_
    intro x1_v17361v17369 h17369
    have k := k x1_v17361v17369 h17369
    show Z E YX6_value (d + 1) M [] 13 [vi (x1_v17361v17369).toInt32] Q
    refine sX6_value_13 (d := d) M ((x1_v17361v17369).toInt32) ?_
    exact k
theorem iX7_init_0 {E : zE} {d : Nat} {Q : zO → zM → Prop} (M : zM) (a0 : Nat) (r1 : Option zP) (k : 16 ≤ a0 ∧ (Q (.inl none) (sr (sr (zn (sr (zn (sr (zn M 91) a0 1 (some ((zsz M), 105, 91))) 91) a0 2 (some ((zsz (zn M 91)), 105, 91))) 91) a0 3 (some ((zsz (zn (sr (zn M 91) a0 1 (some ((zsz M), 105, 91))) 91)), 105, 91))) a0 0 r1))) : Z E YX7_init (d + 1) M [(0, vr (some (a0, 5, 0))), (1, vr r1)] 0 [] Q := by
  refine sX7_init_0 (d := d) M a0 r1 ?_
  refine sX7_init_9 (d := d) (zn M 91) _ r1 (zsz M) ?_
  refine zand k (fun h17370 k => ?_)
  refine sX7_init_17 (d := d) (zn (sr (zn M 91) a0 1 (some ((zsz M), 105, 91))) 91) _ r1 (zsz (zn M 91)) ?_
  refine ⟨h17370, ?_⟩
  refine sX7_init_25 (d := d) (zn (sr (zn (sr (zn M 91) a0 1 (some ((zsz M), 105, 91))) 91) a0 2 (some ((zsz (zn M 91)), 105, 91))) 91) _ r1 (zsz (zn (sr (zn M 91) a0 1 (some ((zsz M), 105, 91))) 91)) ?_
  refine ⟨h17370, ?_⟩
  refine ⟨h17370, ?_⟩
  exact k
theorem iX7_restore_0 {E : zE} {d : Nat} {Q : zO → zM → Prop} (M : zM) (a0 : Nat) (r1 : Option zP) (l2 : Int32) (k : ∃ b17371 : Nat, r1 = some (b17371, 7, 0) ∧ (∃ b17372 : Nat, (gr M b17371 0) = some (b17372, 0, 0) ∧ (Z E YX7_restore (d + 1) M [(0, vr (some (a0, 5, 0))), (1, vr (some (b17371, 7, 0))), (2, vi l2), (3, vi ((l2 * ((gi M b17372 1) + (1 : Int32))) + (0 : Int32))), (4, vi (0 : Int32))] 10 [] Q))) : Z E YX7_restore (d + 1) M [(0, vr (some (a0, 5, 0))), (1, vr r1), (2, vi l2)] 0 [] Q := by
  refine sX7_restore_0 (d := d) M a0 r1 l2 ?_
  obtain ⟨b17371, h17371, k⟩ := k
  refine ⟨b17371, h17371, ?_⟩
  refine sX43_cell_0 (d := d) M b17371 l2 (0 : Int32) ?_
  obtain ⟨b17372, h17372, k⟩ := k
  refine ⟨b17372, h17372, ?_⟩
  show Z E YX7_restore (d + 1) M [(0, vr (some (a0, 5, 0))), (1, vr (some (b17371, 7, 0))), (2, vi l2)] 6 [vi ((l2 * ((gi M b17372 1) + (1 : Int32))) + (0 : Int32))] Q
  refine sX7_restore_6 (d := d) M _ b17371 l2 ((l2 * ((gi M b17372 1) + (1 : Int32))) + (0 : Int32)) ?_
  exact k
theorem iX7_save_0 {E : zE} {d : Nat} {Q : zO → zM → Prop} (M : zM) (a0 : Nat) (r1 : Option zP) (l2 : Int32) (k : ∃ b17396 : Nat, r1 = some (b17396, 7, 0) ∧ (∃ b17397 : Nat, (gr M b17396 0) = some (b17397, 0, 0) ∧ (Z E YX7_save (d + 1) M [(0, vr (some (a0, 5, 0))), (1, vr (some (b17396, 7, 0))), (2, vi l2), (3, vi ((l2 * ((gi M b17397 1) + (1 : Int32))) + (0 : Int32))), (4, vi (0 : Int32))] 10 [] Q))) : Z E YX7_save (d + 1) M [(0, vr (some (a0, 5, 0))), (1, vr r1), (2, vi l2)] 0 [] Q := by
  refine sX7_save_0 (d := d) M a0 r1 l2 ?_
  obtain ⟨b17396, h17396, k⟩ := k
  refine ⟨b17396, h17396, ?_⟩
  refine sX43_cell_0 (d := d) M b17396 l2 (0 : Int32) ?_
  obtain ⟨b17397, h17397, k⟩ := k
  refine ⟨b17397, h17397, ?_⟩
  show Z E YX7_save (d + 1) M [(0, vr (some (a0, 5, 0))), (1, vr (some (b17396, 7, 0))), (2, vi l2)] 6 [vi ((l2 * ((gi M b17397 1) + (1 : Int32))) + (0 : Int32))] Q
  refine sX7_save_6 (d := d) M _ b17396 l2 ((l2 * ((gi M b17397 1) + (1 : Int32))) + (0 : Int32)) ?_
  exact k
theorem iX7_save_10 {E : zE} {d : Nat} {Q : zO → zM → Prop} (M : zM) (a0 : Nat) (a1 : Nat) (l2 : Int32) (l3 : Int32) (l4 : Int32) (k : ∃ b17398 : Nat, (gr M a0 0) = some (b17398, 0, 0) ∧ (if (gi M b17398 1) < l4 then (∃ b17400 m17400 : Nat, (gr M a1 4) = some (b17400, 105, m17400) ∧ (vp_in l2 m17400 ∧ (16 ≤ a0 ∧ (∃ b17403 m17403 : Nat, (gr M a1 8) = some (b17403, 104, m17403) ∧ (vp_in l2 m17403 ∧ (zfit .boolean (gi M b17403 (l2).toNatClampNeg) ∧ (Q (.inl none) (si (sl M a0 4 (gl M b17400 (l2).toNatClampNeg)) a0 5 (gi M b17403 (l2).toNatClampNeg))))))))) else (∃ b17406 m17406 : Nat, (gr M a1 1) = some (b17406, 105, m17406) ∧ (vp_in (l3 + l4) m17406 ∧ (∃ b17408 m17408 : Nat, (gr M a0 1) = some (b17408, 105, m17408) ∧ (16 ≤ b17408 ∧ (vp_in l4 m17408 ∧ (∃ b17411 m17411 : Nat, (gr M a1 2) = some (b17411, 105, m17411) ∧ (vp_in (l3 + l4) m17411 ∧ (∃ b17413 m17413 : Nat, (gr M a0 2) = some (b17413, 105, m17413) ∧ (16 ≤ b17413 ∧ (vp_in l4 m17413 ∧ (∃ b17416 m17416 : Nat, (gr M a1 3) = some (b17416, 105, m17416) ∧ (vp_in (l3 + l4) m17416 ∧ (∃ b17418 m17418 : Nat, (gr M a0 3) = some (b17418, 105, m17418) ∧ (16 ≤ b17418 ∧ (vp_in l4 m17418 ∧ (Z E YX7_save (d + 1) (sl (sl (sl M b17408 (l4).toNatClampNeg (gl M b17406 ((l3 + l4)).toNatClampNeg)) b17413 (l4).toNatClampNeg (gl (sl M b17408 (l4).toNatClampNeg (gl M b17406 ((l3 + l4)).toNatClampNeg)) b17411 ((l3 + l4)).toNatClampNeg)) b17418 (l4).toNatClampNeg (gl (sl (sl M b17408 (l4).toNatClampNeg (gl M b17406 ((l3 + l4)).toNatClampNeg)) b17413 (l4).toNatClampNeg (gl (sl M b17408 (l4).toNatClampNeg (gl M b17406 ((l3 + l4)).toNatClampNeg)) b17411 ((l3 + l4)).toNatClampNeg)) b17416 ((l3 + l4)).toNatClampNeg)) [(0, vr (some (a0, 5, 0))), (1, vr (some (a1, 7, 0))), (2, vi l2), (3, vi l3), (4, vi (l4 + (1 : Int32)))] 10 [] Q)))))))))))))))))) : Z E YX7_save (d + 1) M [(0, vr (some (a0, 5, 0))), (1, vr (some (a1, 7, 0))), (2, vi l2), (3, vi l3), (4, vi l4)] 10 [] Q := by
  refine sX7_save_10 (d := d) M a0 a1 l2 l3 l4 ?_
  obtain ⟨b17398, h17398, k⟩ := k
  refine ⟨b17398, h17398, ?_⟩
  refine zite k (fun h17399 k => ?_) (fun h17399 k => ?_)
  · obtain ⟨b17400, m17400, h17400, k⟩ := k
    refine ⟨b17400, m17400, h17400, ?_⟩
    refine zand k (fun h17401 k => ?_)
    refine zand k (fun h17402 k => ?_)
    obtain ⟨b17403, m17403, h17403, k⟩ := k
    refine ⟨b17403, m17403, h17403, ?_⟩
    refine zand k (fun h17404 k => ?_)
    refine ⟨h17402, ?_⟩
    exact k
  · exact k
theorem jX43_put {E : zE} {d : Nat} {Q : zO → zM → Prop} (M : zM) (a0 : Nat) (l1 : Int32) (l2 : Int32) (l3 : Int64) (l5 : Int64) (l7 : Int64) (k : ∃ b17436 : Nat, (gr M a0 0) = some (b17436, 0, 0) ∧ (∃ b17437 m17437 : Nat, (gr M a0 1) = some (b17437, 105, m17437) ∧ (16 ≤ b17437 ∧ (vp_in ((l1 * ((gi M b17436 1) + (1 : Int32))) + l2) m17437 ∧ (∃ b17440 m17440 : Nat, (gr M a0 2) = some (b17440, 105, m17440) ∧ (16 ≤ b17440 ∧ (vp_in ((l1 * ((gi M b17436 1) + (1 : Int32))) + l2) m17440 ∧ (∃ b17443 m17443 : Nat, (gr M a0 3) = some (b17443, 105, m17443) ∧ (16 ≤ b17443 ∧ (vp_in ((l1 * ((gi M b17436 1) + (1 : Int32))) + l2) m17443 ∧ (Q (.inl none) (sl (sl (sl M b17437 (((l1 * ((gi M b17436 1) + (1 : Int32))) + l2)).toNatClampNeg l3) b17440 (((l1 * ((gi M b17436 1) + (1 : Int32))) + l2)).toNatClampNeg l5) b17443 (((l1 * ((gi M b17436 1) + (1 : Int32))) + l2)).toNatClampNeg l7)))))))))))) : Z E YX43_put (d + 1) M [(0, vr (some (a0, 7, 0))), (1, vi l1), (2, vi l2), (3, vl l3), (5, vl l5), (7, vl l7)] 0 [] Q := by
  refine sX43_put_0 (d := d) M a0 l1 l2 l3 l5 l7 ?_
  refine sX43_cell_0 (d := d) M _ l1 l2 ?_
  obtain ⟨b17436, h17436, k⟩ := k
  refine ⟨b17436, h17436, ?_⟩
  show Z E YX43_put (d + 1) M [(0, vr (some (a0, 7, 0))), (3, vl l3), (5, vl l5), (7, vl l7)] 6 [vi ((l1 * ((gi M b17436 1) + (1 : Int32))) + l2)] Q
  refine sX43_put_6 (d := d) M _ l3 l5 l7 ((l1 * ((gi M b17436 1) + (1 : Int32))) + l2) ?_
  exact k
theorem jX1_thing {E : zE} {d : Nat} {Q : zO → zM → Prop} (M : zM) (l1 : Int32) (l2 : Int32) (l3 : Int32) (hw : cw M) (k : if (64 : Int32) ≤ l3 then (∃ b17447 : Nat, (gr M 16 60) = some (b17447, 7, 0) ∧ (∃ b17448 : Nat, (gr M b17447 0) = some (b17448, 0, 0) ∧ (∃ b17449 m17449 : Nat, (gr M b17447 1) = some (b17449, 105, m17449) ∧ (16 ≤ b17449 ∧ (vp_in ((l1 * ((gi M b17448 1) + (1 : Int32))) + l2) m17449 ∧ (∃ b17452 m17452 : Nat, (gr M b17447 2) = some (b17452, 105, m17452) ∧ (16 ≤ b17452 ∧ (vp_in ((l1 * ((gi M b17448 1) + (1 : Int32))) + l2) m17452 ∧ (∃ b17455 m17455 : Nat, (gr M b17447 3) = some (b17455, 105, m17455) ∧ (16 ≤ b17455 ∧ (vp_in ((l1 * ((gi M b17448 1) + (1 : Int32))) + l2) m17455 ∧ (Q (.inl none) (sl (sl (sl M b17449 (((l1 * ((gi M b17448 1) + (1 : Int32))) + l2)).toNatClampNeg (0 : Int64)) b17452 (((l1 * ((gi M b17448 1) + (1 : Int32))) + l2)).toNatClampNeg (zls (1 : Int64) (l3 - (64 : Int32)))) b17455 (((l1 * ((gi M b17448 1) + (1 : Int32))) + l2)).toNatClampNeg (0 : Int64)))))))))))))) else (∃ b17458 : Nat, (gr M 16 60) = some (b17458, 7, 0) ∧ (∃ b17459 : Nat, (gr M b17458 0) = some (b17459, 0, 0) ∧ (∃ b17460 m17460 : Nat, (gr M b17458 1) = some (b17460, 105, m17460) ∧ (16 ≤ b17460 ∧ (vp_in ((l1 * ((gi M b17459 1) + (1 : Int32))) + l2) m17460 ∧ (∃ b17463 m17463 : Nat, (gr M b17458 2) = some (b17463, 105, m17463) ∧ (16 ≤ b17463 ∧ (vp_in ((l1 * ((gi M b17459 1) + (1 : Int32))) + l2) m17463 ∧ (∃ b17466 m17466 : Nat, (gr M b17458 3) = some (b17466, 105, m17466) ∧ (16 ≤ b17466 ∧ (vp_in ((l1 * ((gi M b17459 1) + (1 : Int32))) + l2) m17466 ∧ (Q (.inl none) (sl (sl (sl M b17460 (((l1 * ((gi M b17459 1) + (1 : Int32))) + l2)).toNatClampNeg (zls (1 : Int64) l3)) b17463 (((l1 * ((gi M b17459 1) + (1 : Int32))) + l2)).toNatClampNeg (0 : Int64)) b17466 (((l1 * ((gi M b17459 1) + (1 : Int32))) + l2)).toNatClampNeg (0 : Int64))))))))))))))) : Z E YX1_thing (d + 2) M [(0, vr (some (16, 0, 0))), (1, vi l1), (2, vi l2), (3, vi l3)] 0 [] Q := by
  refine sX1_thing_0 (d := (d + 1)) M l1 l2 l3 hw ?_
  refine zite k (fun h17446 k => ?_) (fun h17446 k => ?_)
  · refine sX1_thing_19 (d := (d + 1)) M l3 (0 : Int64) l2 l1 (gr M 16 60) hw ?_
    refine zpos h17446 ?_
    obtain ⟨b17447, h17447, k⟩ := k
    refine ⟨b17447, h17447, ?_⟩
    refine jX43_put (d := d) M b17447 l1 l2 (0 : Int64) (zls (1 : Int64) (l3 - (64 : Int32))) (0 : Int64) ?_
    obtain ⟨b17448, h17448, k⟩ := k
    refine ⟨b17448, h17448, ?_⟩
    obtain ⟨b17449, m17449, h17449, k⟩ := k
    refine ⟨b17449, m17449, h17449, ?_⟩
    refine zand k (fun h17450 k => ?_)
    refine zand k (fun h17451 k => ?_)
    obtain ⟨b17452, m17452, h17452, k⟩ := k
    refine ⟨b17452, m17452, h17452, ?_⟩
    refine zand k (fun h17453 k => ?_)
    refine zand k (fun h17454 k => ?_)
    obtain ⟨b17455, m17455, h17455, k⟩ := k
    refine ⟨b17455, m17455, h17455, ?_⟩
    refine zand k (fun h17456 k => ?_)
    refine zand k (fun h17457 k => ?_)
    show Z E YX1_thing ((d + 1) + 1) (sl (sl (sl M b17449 (((l1 * ((gi M b17448 1) + (1 : Int32))) + l2)).toNatClampNeg (0 : Int64)) b17452 (((l1 * ((gi M b17448 1) + (1 : Int32))) + l2)).toNatClampNeg (zls (1 : Int64) (l3 - (64 : Int32)))) b17455 (((l1 * ((gi M b17448 1) + (1 : Int32))) + l2)).toNatClampNeg (0 : Int64)) [] 39 [] Q
    refine sX1_thing_39 (d := (d + 1)) (sl (sl (sl M b17449 (((l1 * ((gi M b17448 1) + (1 : Int32))) + l2)).toNatClampNeg (0 : Int64)) b17452 (((l1 * ((gi M b17448 1) + (1 : Int32))) + l2)).toNatClampNeg (zls (1 : Int64) (l3 - (64 : Int32)))) b17455 (((l1 * ((gi M b17448 1) + (1 : Int32))) + l2)).toNatClampNeg (0 : Int64)) hw ?_
    exact k
  · refine sX1_thing_19 (d := (d + 1)) M l3 (zls (1 : Int64) l3) l2 l1 (gr M 16 60) hw ?_
    refine zneg h17446 ?_
    obtain ⟨b17458, h17458, k⟩ := k
    refine ⟨b17458, h17458, ?_⟩
    refine jX43_put (d := d) M b17458 l1 l2 (zls (1 : Int64) l3) (0 : Int64) (0 : Int64) ?_
    obtain ⟨b17459, h17459, k⟩ := k
    refine ⟨b17459, h17459, ?_⟩
    obtain ⟨b17460, m17460, h17460, k⟩ := k
    refine ⟨b17460, m17460, h17460, ?_⟩
    refine zand k (fun h17461 k => ?_)
    refine zand k (fun h17462 k => ?_)
    obtain ⟨b17463, m17463, h17463, k⟩ := k
    refine ⟨b17463, m17463, h17463, ?_⟩
    refine zand k (fun h17464 k => ?_)
    refine zand k (fun h17465 k => ?_)
    obtain ⟨b17466, m17466, h17466, k⟩ := k
    refine ⟨b17466, m17466, h17466, ?_⟩
    refine zand k (fun h17467 k => ?_)
    refine zand k (fun h17468 k => ?_)
    show Z E YX1_thing ((d + 1) + 1) (sl (sl (sl M b17460 (((l1 * ((gi M b17459 1) + (1 : Int32))) + l2)).toNatClampNeg (zls (1 : Int64) l3)) b17463 (((l1 * ((gi M b17459 1) + (1 : Int32))) + l2)).toNatClampNeg (0 : Int64)) b17466 (((l1 * ((gi M b17459 1) + (1 : Int32))) + l2)).toNatClampNeg (0 : Int64)) [] 39 [] Q
    refine sX1_thing_39 (d := (d + 1)) (sl (sl (sl M b17460 (((l1 * ((gi M b17459 1) + (1 : Int32))) + l2)).toNatClampNeg (zls (1 : Int64) l3)) b17463 (((l1 * ((gi M b17459 1) + (1 : Int32))) + l2)).toNatClampNeg (0 : Int64)) b17466 (((l1 * ((gi M b17459 1) + (1 : Int32))) + l2)).toNatClampNeg (0 : Int64)) hw ?_
    exact k
theorem iX1_atFirst_84 {E : zE} {d : Nat} {Q : zO → zM → Prop} (M : zM) (l1 : Int32) (hw : cw M) (k : if (23 : Int32) ≤ l1 then (Z E YX1_atFirst (d + 1) M [(0, vr (some (16, 0, 0))), (1, vi (9 : Int32))] 147 [] Q) else (if l1 = (1 : Int32) then (∃ b17427 : Nat, (gr M 16 60) = some (b17427, 7, 0) ∧ (Z E YX43_renew d M (zargs 0 [vr (some (b17427, 7, 0)), vi l1, vi (-1 : Int32), vi (1 : Int32)]) 0 [] (zafter E YX1_atFirst (d + 1) [(0, vr (some (16, 0, 0))), (1, vi l1)] 135 3 [] Q))) else (if (6 : Int32) ≤ l1 then (if (9 : Int32) ≤ l1 then (∃ b17430 : Nat, (gr M 16 60) = some (b17430, 7, 0) ∧ (Z E YX43_renew d M (zargs 0 [vr (some (b17430, 7, 0)), vi l1, vi (2 : Int32), vi (0 : Int32)]) 0 [] (zafter E YX1_atFirst (d + 1) [(0, vr (some (16, 0, 0))), (1, vi l1)] 135 3 [] Q))) else (∃ b17431 : Nat, (gr M 16 60) = some (b17431, 7, 0) ∧ (Z E YX43_renew d M (zargs 0 [vr (some (b17431, 7, 0)), vi l1, vi (5 : Int32), vi (0 : Int32)]) 0 [] (zafter E YX1_atFirst (d + 1) [(0, vr (some (16, 0, 0))), (1, vi l1)] 135 3 [] Q)))) else (∃ b17432 : Nat, (gr M 16 60) = some (b17432, 7, 0) ∧ (Z E YX43_renew d M (zargs 0 [vr (some (b17432, 7, 0)), vi l1, vi (1 : Int32), vi (0 : Int32)]) 0 [] (zafter E YX1_atFirst (d + 1) [(0, vr (some (16, 0, 0))), (1, vi l1)] 135 3 [] Q)))))) : Z E YX1_atFirst (d + 1) M [(0, vr (some (16, 0, 0))), (1, vi l1)] 84 [] Q := by
  refine sX1_atFirst_84 (d := d) M l1 hw ?_
  refine zite k (fun h17425 k => ?_) (fun h17425 k => ?_)
  · exact k
  · refine zite k (fun h17426 k => ?_) (fun h17426 k => ?_)
    · refine sX1_atFirst_125 (d := d) M l1 (-1 : Int32) l1 (gr M 16 60) hw ?_
      refine zpos h17426 ?_
      exact k
    · refine zite k (fun h17428 k => ?_) (fun h17428 k => ?_)
      · refine zite k (fun h17429 k => ?_) (fun h17429 k => ?_)
        · refine sX1_atFirst_125 (d := d) M l1 (2 : Int32) l1 (gr M 16 60) hw ?_
          refine zneg h17426 ?_
          exact k
        · refine sX1_atFirst_125 (d := d) M l1 (5 : Int32) l1 (gr M 16 60) hw ?_
          refine zneg h17426 ?_
          exact k
      · refine sX1_atFirst_125 (d := d) M l1 (1 : Int32) l1 (gr M 16 60) hw ?_
        refine zneg h17426 ?_
        exact k
theorem iX1_atFirst_147 {E : zE} {d : Nat} {Q : zO → zM → Prop} (M : zM) (l1 : Int32) (hw : cw M) (k : if (18 : Int32) ≤ l1 then (∃ b17470 : Nat, (gr M 16 60) = some (b17470, 7, 0) ∧ (∃ b17471 : Nat, (gr M b17470 0) = some (b17471, 0, 0) ∧ (∃ b17472 m17472 : Nat, (gr M b17470 1) = some (b17472, 105, m17472) ∧ (16 ≤ b17472 ∧ (vp_in (((1 : Int32) * ((gi M b17471 1) + (1 : Int32))) + (2 : Int32)) m17472 ∧ (∃ b17475 m17475 : Nat, (gr M b17470 2) = some (b17475, 105, m17475) ∧ (16 ≤ b17475 ∧ (vp_in (((1 : Int32) * ((gi M b17471 1) + (1 : Int32))) + (2 : Int32)) m17475 ∧ (∃ b17478 m17478 : Nat, (gr M b17470 3) = some (b17478, 105, m17478) ∧ (16 ≤ b17478 ∧ (vp_in (((1 : Int32) * ((gi M b17471 1) + (1 : Int32))) + (2 : Int32)) m17478 ∧ (Z E YX1_thing (d + 2) (sl (sl (sl M b17472 ((((1 : Int32) * ((gi M b17471 1) + (1 : Int32))) + (2 : Int32))).toNatClampNeg (zls (1 : Int64) (10 : Int32))) b17475 ((((1 : Int32) * ((gi M b17471 1) + (1 : Int32))) + (2 : Int32))).toNatClampNeg (0 : Int64)) b17478 ((((1 : Int32) * ((gi M b17471 1) + (1 : Int32))) + (2 : Int32))).toNatClampNeg (0 : Int64)) (zargs 0 [vr (some (16, 0, 0)), vi (1 : Int32), vi (17 : Int32), vi (21 : Int32)]) 0 [] (zafter E YX1_atFirst ((d + 2) + 1) [(0, vr (some (16, 0, 0)))] 182 3 [] Q))))))))))))) else (if (64 : Int32) ≤ l1 then (∃ b17485 : Nat, (gr M 16 60) = some (b17485, 7, 0) ∧ (∃ b17486 : Nat, (gr M b17485 0) = some (b17486, 0, 0) ∧ (∃ b17487 m17487 : Nat, (gr M b17485 1) = some (b17487, 105, m17487) ∧ (16 ≤ b17487 ∧ (vp_in (((0 : Int32) * ((gi M b17486 1) + (1 : Int32))) + (l1 - (4 : Int32))) m17487 ∧ (∃ b17490 m17490 : Nat, (gr M b17485 2) = some (b17490, 105, m17490) ∧ (16 ≤ b17490 ∧ (vp_in (((0 : Int32) * ((gi M b17486 1) + (1 : Int32))) + (l1 - (4 : Int32))) m17490 ∧ (∃ b17493 m17493 : Nat, (gr M b17485 3) = some (b17493, 105, m17493) ∧ (16 ≤ b17493 ∧ (vp_in (((0 : Int32) * ((gi M b17486 1) + (1 : Int32))) + (l1 - (4 : Int32))) m17493 ∧ (Z E YX1_atFirst ((d + 2) + 1) (sl (sl (sl M b17487 ((((0 : Int32) * ((gi M b17486 1) + (1 : Int32))) + (l1 - (4 : Int32)))).toNatClampNeg (0 : Int64)) b17490 ((((0 : Int32) * ((gi M b17486 1) + (1 : Int32))) + (l1 - (4 : Int32)))).toNatClampNeg (zls (1 : Int64) (l1 - (64 : Int32)))) b17493 ((((0 : Int32) * ((gi M b17486 1) + (1 : Int32))) + (l1 - (4 : Int32)))).toNatClampNeg (0 : Int64)) [(0, vr (some (16, 0, 0))), (1, vi (l1 + (1 : Int32)))] 147 [] Q)))))))))))) else (∃ b17496 : Nat, (gr M 16 60) = some (b17496, 7, 0) ∧ (∃ b17497 : Nat, (gr M b17496 0) = some (b17497, 0, 0) ∧ (∃ b17498 m17498 : Nat, (gr M b17496 1) = some (b17498, 105, m17498) ∧ (16 ≤ b17498 ∧ (vp_in (((0 : Int32) * ((gi M b17497 1) + (1 : Int32))) + (l1 - (4 : Int32))) m17498 ∧ (∃ b17501 m17501 : Nat, (gr M b17496 2) = some (b17501, 105, m17501) ∧ (16 ≤ b17501 ∧ (vp_in (((0 : Int32) * ((gi M b17497 1) + (1 : Int32))) + (l1 - (4 : Int32))) m17501 ∧ (∃ b17504 m17504 : Nat, (gr M b17496 3) = some (b17504, 105, m17504) ∧ (16 ≤ b17504 ∧ (vp_in (((0 : Int32) * ((gi M b17497 1) + (1 : Int32))) + (l1 - (4 : Int32))) m17504 ∧ (Z E YX1_atFirst ((d + 2) + 1) (sl (sl (sl M b17498 ((((0 : Int32) * ((gi M b17497 1) + (1 : Int32))) + (l1 - (4 : Int32)))).toNatClampNeg (zls (1 : Int64) l1)) b17501 ((((0 : Int32) * ((gi M b17497 1) + (1 : Int32))) + (l1 - (4 : Int32)))).toNatClampNeg (0 : Int64)) b17504 ((((0 : Int32) * ((gi M b17497 1) + (1 : Int32))) + (l1 - (4 : Int32)))).toNatClampNeg (0 : Int64)) [(0, vr (some (16, 0, 0))), (1, vi (l1 + (1 : Int32)))] 147 [] Q)))))))))))))) : Z E YX1_atFirst (d + 3) M [(0, vr (some (16, 0, 0))), (1, vi l1)] 147 [] Q := by
  refine sX1_atFirst_147 (d := (d + 2)) M l1 hw ?_
  refine zite k (fun h17469 k => ?_) (fun h17469 k => ?_)
  · refine jX1_thing (d := d) M (1 : Int32) (2 : Int32) (10 : Int32) hw ?_
    refine zneg (show ¬ ((64 : Int32) ≤ (10 : Int32)) from by decide) ?_
    obtain ⟨b17470, h17470, k⟩ := k
    refine ⟨b17470, h17470, ?_⟩
    obtain ⟨b17471, h17471, k⟩ := k
    refine ⟨b17471, h17471, ?_⟩
    obtain ⟨b17472, m17472, h17472, k⟩ := k
    refine ⟨b17472, m17472, h17472, ?_⟩
    refine zand k (fun h17473 k => ?_)
    refine zand k (fun h17474 k => ?_)
    obtain ⟨b17475, m17475, h17475, k⟩ := k
    refine ⟨b17475, m17475, h17475, ?_⟩
    refine zand k (fun h17476 k => ?_)
    refine zand k (fun h17477 k => ?_)
    obtain ⟨b17478, m17478, h17478, k⟩ := k
    refine ⟨b17478, m17478, h17478, ?_⟩
    refine zand k (fun h17479 k => ?_)
    refine zand k (fun h17480 k => ?_)
    show Z E YX1_atFirst ((d + 2) + 1) (sl (sl (sl M b17472 ((((1 : Int32) * ((gi M b17471 1) + (1 : Int32))) + (2 : Int32))).toNatClampNeg (zls (1 : Int64) (10 : Int32))) b17475 ((((1 : Int32) * ((gi M b17471 1) + (1 : Int32))) + (2 : Int32))).toNatClampNeg (0 : Int64)) b17478 ((((1 : Int32) * ((gi M b17471 1) + (1 : Int32))) + (2 : Int32))).toNatClampNeg (0 : Int64)) [(0, vr (some (16, 0, 0)))] 176 [] Q
    refine sX1_atFirst_176 (d := (d + 2)) (sl (sl (sl M b17472 ((((1 : Int32) * ((gi M b17471 1) + (1 : Int32))) + (2 : Int32))).toNatClampNeg (zls (1 : Int64) (10 : Int32))) b17475 ((((1 : Int32) * ((gi M b17471 1) + (1 : Int32))) + (2 : Int32))).toNatClampNeg (0 : Int64)) b17478 ((((1 : Int32) * ((gi M b17471 1) + (1 : Int32))) + (2 : Int32))).toNatClampNeg (0 : Int64)) hw ?_
    exact k
  · refine jX1_thing (d := d) M (0 : Int32) (l1 - (4 : Int32)) l1 hw ?_
    refine zite k (fun h17484 k => ?_) (fun h17484 k => ?_)
    · obtain ⟨b17485, h17485, k⟩ := k
      refine ⟨b17485, h17485, ?_⟩
      obtain ⟨b17486, h17486, k⟩ := k
      refine ⟨b17486, h17486, ?_⟩
      obtain ⟨b17487, m17487, h17487, k⟩ := k
      refine ⟨b17487, m17487, h17487, ?_⟩
      refine zand k (fun h17488 k => ?_)
      refine zand k (fun h17489 k => ?_)
      obtain ⟨b17490, m17490, h17490, k⟩ := k
      refine ⟨b17490, m17490, h17490, ?_⟩
      refine zand k (fun h17491 k => ?_)
      refine zand k (fun h17492 k => ?_)
      obtain ⟨b17493, m17493, h17493, k⟩ := k
      refine ⟨b17493, m17493, h17493, ?_⟩
      refine zand k (fun h17494 k => ?_)
      refine zand k (fun h17495 k => ?_)
      show Z E YX1_atFirst ((d + 2) + 1) (sl (sl (sl M b17487 ((((0 : Int32) * ((gi M b17486 1) + (1 : Int32))) + (l1 - (4 : Int32)))).toNatClampNeg (0 : Int64)) b17490 ((((0 : Int32) * ((gi M b17486 1) + (1 : Int32))) + (l1 - (4 : Int32)))).toNatClampNeg (zls (1 : Int64) (l1 - (64 : Int32)))) b17493 ((((0 : Int32) * ((gi M b17486 1) + (1 : Int32))) + (l1 - (4 : Int32)))).toNatClampNeg (0 : Int64)) [(0, vr (some (16, 0, 0))), (1, vi l1)] 162 [] Q
      refine sX1_atFirst_162 (d := (d + 2)) (sl (sl (sl M b17487 ((((0 : Int32) * ((gi M b17486 1) + (1 : Int32))) + (l1 - (4 : Int32)))).toNatClampNeg (0 : Int64)) b17490 ((((0 : Int32) * ((gi M b17486 1) + (1 : Int32))) + (l1 - (4 : Int32)))).toNatClampNeg (zls (1 : Int64) (l1 - (64 : Int32)))) b17493 ((((0 : Int32) * ((gi M b17486 1) + (1 : Int32))) + (l1 - (4 : Int32)))).toNatClampNeg (0 : Int64)) l1 hw ?_
      exact k
    · obtain ⟨b17496, h17496, k⟩ := k
      refine ⟨b17496, h17496, ?_⟩
      obtain ⟨b17497, h17497, k⟩ := k
      refine ⟨b17497, h17497, ?_⟩
      obtain ⟨b17498, m17498, h17498, k⟩ := k
      refine ⟨b17498, m17498, h17498, ?_⟩
      refine zand k (fun h17499 k => ?_)
      refine zand k (fun h17500 k => ?_)
      obtain ⟨b17501, m17501, h17501, k⟩ := k
      refine ⟨b17501, m17501, h17501, ?_⟩
      refine zand k (fun h17502 k => ?_)
      refine zand k (fun h17503 k => ?_)
      obtain ⟨b17504, m17504, h17504, k⟩ := k
      refine ⟨b17504, m17504, h17504, ?_⟩
      refine zand k (fun h17505 k => ?_)
      refine zand k (fun h17506 k => ?_)
      show Z E YX1_atFirst ((d + 2) + 1) (sl (sl (sl M b17498 ((((0 : Int32) * ((gi M b17497 1) + (1 : Int32))) + (l1 - (4 : Int32)))).toNatClampNeg (zls (1 : Int64) l1)) b17501 ((((0 : Int32) * ((gi M b17497 1) + (1 : Int32))) + (l1 - (4 : Int32)))).toNatClampNeg (0 : Int64)) b17504 ((((0 : Int32) * ((gi M b17497 1) + (1 : Int32))) + (l1 - (4 : Int32)))).toNatClampNeg (0 : Int64)) [(0, vr (some (16, 0, 0))), (1, vi l1)] 162 [] Q
      refine sX1_atFirst_162 (d := (d + 2)) (sl (sl (sl M b17498 ((((0 : Int32) * ((gi M b17497 1) + (1 : Int32))) + (l1 - (4 : Int32)))).toNatClampNeg (zls (1 : Int64) l1)) b17501 ((((0 : Int32) * ((gi M b17497 1) + (1 : Int32))) + (l1 - (4 : Int32)))).toNatClampNeg (0 : Int64)) b17504 ((((0 : Int32) * ((gi M b17497 1) + (1 : Int32))) + (l1 - (4 : Int32)))).toNatClampNeg (0 : Int64)) l1 hw ?_
      exact k
theorem iX1_atFirst_30 {E : zE} {d : Nat} {Q : zO → zM → Prop} (M : zM) (l1 : Int32) (l2 : Int32) (hw : cw M) (k : if (gi M 16 1) < l2 then (∃ b17517 : Nat, (gr M 16 60) = some (b17517, 7, 0) ∧ (∃ b17518 m17518 : Nat, (gr M b17517 8) = some (b17518, 104, m17518) ∧ (16 ≤ b17518 ∧ (vp_in l1 m17518 ∧ (∃ b17521 m17521 : Nat, (gr M b17517 4) = some (b17521, 105, m17521) ∧ (16 ≤ b17521 ∧ (vp_in l1 m17521 ∧ (Z E YX1_atFirst ((d + 1) + 1) (sl (si M b17518 (l1).toNatClampNeg (vp_nar .boolean (0 : Int32))) b17521 (l1).toNatClampNeg (0 : Int64)) [(0, vr (some (16, 0, 0))), (1, vi (l1 + (1 : Int32)))] 10 [] Q)))))))) else (∃ b17524 : Nat, (gr M 16 60) = some (b17524, 7, 0) ∧ (∃ b17525 : Nat, (gr M b17524 0) = some (b17525, 0, 0) ∧ (∃ b17526 m17526 : Nat, (gr M b17524 1) = some (b17526, 105, m17526) ∧ (16 ≤ b17526 ∧ (vp_in ((l1 * ((gi M b17525 1) + (1 : Int32))) + l2) m17526 ∧ (∃ b17529 m17529 : Nat, (gr M b17524 2) = some (b17529, 105, m17529) ∧ (16 ≤ b17529 ∧ (vp_in ((l1 * ((gi M b17525 1) + (1 : Int32))) + l2) m17529 ∧ (∃ b17532 m17532 : Nat, (gr M b17524 3) = some (b17532, 105, m17532) ∧ (16 ≤ b17532 ∧ (vp_in ((l1 * ((gi M b17525 1) + (1 : Int32))) + l2) m17532 ∧ (Z E YX1_atFirst ((d + 1) + 1) (sl (sl (sl M b17526 (((l1 * ((gi M b17525 1) + (1 : Int32))) + l2)).toNatClampNeg (0 : Int64)) b17529 (((l1 * ((gi M b17525 1) + (1 : Int32))) + l2)).toNatClampNeg (0 : Int64)) b17532 (((l1 * ((gi M b17525 1) + (1 : Int32))) + l2)).toNatClampNeg (0 : Int64)) [(0, vr (some (16, 0, 0))), (1, vi l1), (2, vi (l2 + (1 : Int32)))] 30 [] Q))))))))))))) : Z E YX1_atFirst (d + 2) M [(0, vr (some (16, 0, 0))), (1, vi l1), (2, vi l2)] 30 [] Q := by
  refine sX1_atFirst_30 (d := (d + 1)) M l1 l2 hw ?_
  refine zite k (fun h17516 k => ?_) (fun h17516 k => ?_)
  · obtain ⟨b17517, h17517, k⟩ := k
    refine ⟨b17517, h17517, ?_⟩
    obtain ⟨b17518, m17518, h17518, k⟩ := k
    refine ⟨b17518, m17518, h17518, ?_⟩
    refine zand k (fun h17519 k => ?_)
    refine zand k (fun h17520 k => ?_)
    refine ⟨b17517, h17517, ?_⟩
    exact k
  · obtain ⟨b17524, h17524, k⟩ := k
    refine ⟨b17524, h17524, ?_⟩
    refine jX43_put (d := d) M b17524 l1 l2 (0 : Int64) (0 : Int64) (0 : Int64) ?_
    obtain ⟨b17525, h17525, k⟩ := k
    refine ⟨b17525, h17525, ?_⟩
    obtain ⟨b17526, m17526, h17526, k⟩ := k
    refine ⟨b17526, m17526, h17526, ?_⟩
    refine zand k (fun h17527 k => ?_)
    refine zand k (fun h17528 k => ?_)
    obtain ⟨b17529, m17529, h17529, k⟩ := k
    refine ⟨b17529, m17529, h17529, ?_⟩
    refine zand k (fun h17530 k => ?_)
    refine zand k (fun h17531 k => ?_)
    obtain ⟨b17532, m17532, h17532, k⟩ := k
    refine ⟨b17532, m17532, h17532, ?_⟩
    refine zand k (fun h17533 k => ?_)
    refine zand k (fun h17534 k => ?_)
    show Z E YX1_atFirst ((d + 1) + 1) (sl (sl (sl M b17526 (((l1 * ((gi M b17525 1) + (1 : Int32))) + l2)).toNatClampNeg (0 : Int64)) b17529 (((l1 * ((gi M b17525 1) + (1 : Int32))) + l2)).toNatClampNeg (0 : Int64)) b17532 (((l1 * ((gi M b17525 1) + (1 : Int32))) + l2)).toNatClampNeg (0 : Int64)) [(0, vr (some (16, 0, 0))), (1, vi l1), (2, vi l2)] 50 [] Q
    refine sX1_atFirst_50 (d := (d + 1)) (sl (sl (sl M b17526 (((l1 * ((gi M b17525 1) + (1 : Int32))) + l2)).toNatClampNeg (0 : Int64)) b17529 (((l1 * ((gi M b17525 1) + (1 : Int32))) + l2)).toNatClampNeg (0 : Int64)) b17532 (((l1 * ((gi M b17525 1) + (1 : Int32))) + l2)).toNatClampNeg (0 : Int64)) l1 l2 hw ?_
    exact k
theorem iX1_atFirst_185 {E : zE} {d : Nat} {Q : zO → zM → Prop} (M : zM) (hw : cw M) (k : ∃ b17535 : Nat, (gr M 16 60) = some (b17535, 7, 0) ∧ (∃ b17536 : Nat, (gr M b17535 0) = some (b17536, 0, 0) ∧ (∃ b17537 m17537 : Nat, (gr M b17535 1) = some (b17537, 105, m17537) ∧ (16 ≤ b17537 ∧ (vp_in (((2 : Int32) * ((gi M b17536 1) + (1 : Int32))) + (16 : Int32)) m17537 ∧ (∃ b17540 m17540 : Nat, (gr M b17535 2) = some (b17540, 105, m17540) ∧ (16 ≤ b17540 ∧ (vp_in (((2 : Int32) * ((gi M b17536 1) + (1 : Int32))) + (16 : Int32)) m17540 ∧ (∃ b17543 m17543 : Nat, (gr M b17535 3) = some (b17543, 105, m17543) ∧ (16 ≤ b17543 ∧ (vp_in (((2 : Int32) * ((gi M b17536 1) + (1 : Int32))) + (16 : Int32)) m17543 ∧ (Z E YX1_thing (d + 2) (sl (sl (sl M b17537 ((((2 : Int32) * ((gi M b17536 1) + (1 : Int32))) + (16 : Int32))).toNatClampNeg (zls (1 : Int64) (20 : Int32))) b17540 ((((2 : Int32) * ((gi M b17536 1) + (1 : Int32))) + (16 : Int32))).toNatClampNeg (0 : Int64)) b17543 ((((2 : Int32) * ((gi M b17536 1) + (1 : Int32))) + (16 : Int32))).toNatClampNeg (0 : Int64)) (zargs 0 [vr (some (16, 0, 0)), vi (3 : Int32), vi (2 : Int32), vi (11 : Int32)]) 0 [] (zafter E YX1_atFirst ((d + 2) + 1) [(0, vr (some (16, 0, 0)))] 199 3 [] Q))))))))))))) : Z E YX1_atFirst (d + 3) M [(0, vr (some (16, 0, 0)))] 185 [] Q := by
  refine sX1_atFirst_185 (d := (d + 2)) M hw ?_
  refine jX1_thing (d := d) M (2 : Int32) (16 : Int32) (20 : Int32) hw ?_
  refine zneg (show ¬ ((64 : Int32) ≤ (20 : Int32)) from by decide) ?_
  obtain ⟨b17535, h17535, k⟩ := k
  refine ⟨b17535, h17535, ?_⟩
  obtain ⟨b17536, h17536, k⟩ := k
  refine ⟨b17536, h17536, ?_⟩
  obtain ⟨b17537, m17537, h17537, k⟩ := k
  refine ⟨b17537, m17537, h17537, ?_⟩
  refine zand k (fun h17538 k => ?_)
  refine zand k (fun h17539 k => ?_)
  obtain ⟨b17540, m17540, h17540, k⟩ := k
  refine ⟨b17540, m17540, h17540, ?_⟩
  refine zand k (fun h17541 k => ?_)
  refine zand k (fun h17542 k => ?_)
  obtain ⟨b17543, m17543, h17543, k⟩ := k
  refine ⟨b17543, m17543, h17543, ?_⟩
  refine zand k (fun h17544 k => ?_)
  refine zand k (fun h17545 k => ?_)
  show Z E YX1_atFirst ((d + 2) + 1) (sl (sl (sl M b17537 ((((2 : Int32) * ((gi M b17536 1) + (1 : Int32))) + (16 : Int32))).toNatClampNeg (zls (1 : Int64) (20 : Int32))) b17540 ((((2 : Int32) * ((gi M b17536 1) + (1 : Int32))) + (16 : Int32))).toNatClampNeg (0 : Int64)) b17543 ((((2 : Int32) * ((gi M b17536 1) + (1 : Int32))) + (16 : Int32))).toNatClampNeg (0 : Int64)) [(0, vr (some (16, 0, 0)))] 194 [] Q
  refine sX1_atFirst_194 (d := (d + 2)) (sl (sl (sl M b17537 ((((2 : Int32) * ((gi M b17536 1) + (1 : Int32))) + (16 : Int32))).toNatClampNeg (zls (1 : Int64) (20 : Int32))) b17540 ((((2 : Int32) * ((gi M b17536 1) + (1 : Int32))) + (16 : Int32))).toNatClampNeg (0 : Int64)) b17543 ((((2 : Int32) * ((gi M b17536 1) + (1 : Int32))) + (16 : Int32))).toNatClampNeg (0 : Int64)) hw ?_
  exact k
theorem iX1_atFirst_202 {E : zE} {d : Nat} {Q : zO → zM → Prop} (M : zM) (hw : cw M) (k : ∃ b17549 : Nat, (gr M 16 60) = some (b17549, 7, 0) ∧ (∃ b17550 : Nat, (gr M b17549 0) = some (b17550, 0, 0) ∧ (∃ b17551 m17551 : Nat, (gr M b17549 1) = some (b17551, 105, m17551) ∧ (16 ≤ b17551 ∧ (vp_in (((3 : Int32) * ((gi M b17550 1) + (1 : Int32))) + (14 : Int32)) m17551 ∧ (∃ b17554 m17554 : Nat, (gr M b17549 2) = some (b17554, 105, m17554) ∧ (16 ≤ b17554 ∧ (vp_in (((3 : Int32) * ((gi M b17550 1) + (1 : Int32))) + (14 : Int32)) m17554 ∧ (∃ b17557 m17557 : Nat, (gr M b17549 3) = some (b17557, 105, m17557) ∧ (16 ≤ b17557 ∧ (vp_in (((3 : Int32) * ((gi M b17550 1) + (1 : Int32))) + (14 : Int32)) m17557 ∧ (Z E YX1_thing (d + 2) (sl (sl (sl M b17551 ((((3 : Int32) * ((gi M b17550 1) + (1 : Int32))) + (14 : Int32))).toNatClampNeg (zls (1 : Int64) (18 : Int32))) b17554 ((((3 : Int32) * ((gi M b17550 1) + (1 : Int32))) + (14 : Int32))).toNatClampNeg (0 : Int64)) b17557 ((((3 : Int32) * ((gi M b17550 1) + (1 : Int32))) + (14 : Int32))).toNatClampNeg (0 : Int64)) (zargs 0 [vr (some (16, 0, 0)), vi (3 : Int32), vi (15 : Int32), vi (19 : Int32)]) 0 [] (zafter E YX1_atFirst ((d + 2) + 1) [(0, vr (some (16, 0, 0)))] 217 3 [] Q))))))))))))) : Z E YX1_atFirst (d + 3) M [(0, vr (some (16, 0, 0)))] 202 [] Q := by
  refine sX1_atFirst_202 (d := (d + 2)) M hw ?_
  refine jX1_thing (d := d) M (3 : Int32) (14 : Int32) (18 : Int32) hw ?_
  refine zneg (show ¬ ((64 : Int32) ≤ (18 : Int32)) from by decide) ?_
  obtain ⟨b17549, h17549, k⟩ := k
  refine ⟨b17549, h17549, ?_⟩
  obtain ⟨b17550, h17550, k⟩ := k
  refine ⟨b17550, h17550, ?_⟩
  obtain ⟨b17551, m17551, h17551, k⟩ := k
  refine ⟨b17551, m17551, h17551, ?_⟩
  refine zand k (fun h17552 k => ?_)
  refine zand k (fun h17553 k => ?_)
  obtain ⟨b17554, m17554, h17554, k⟩ := k
  refine ⟨b17554, m17554, h17554, ?_⟩
  refine zand k (fun h17555 k => ?_)
  refine zand k (fun h17556 k => ?_)
  obtain ⟨b17557, m17557, h17557, k⟩ := k
  refine ⟨b17557, m17557, h17557, ?_⟩
  refine zand k (fun h17558 k => ?_)
  refine zand k (fun h17559 k => ?_)
  show Z E YX1_atFirst ((d + 2) + 1) (sl (sl (sl M b17551 ((((3 : Int32) * ((gi M b17550 1) + (1 : Int32))) + (14 : Int32))).toNatClampNeg (zls (1 : Int64) (18 : Int32))) b17554 ((((3 : Int32) * ((gi M b17550 1) + (1 : Int32))) + (14 : Int32))).toNatClampNeg (0 : Int64)) b17557 ((((3 : Int32) * ((gi M b17550 1) + (1 : Int32))) + (14 : Int32))).toNatClampNeg (0 : Int64)) [(0, vr (some (16, 0, 0)))] 211 [] Q
  refine sX1_atFirst_211 (d := (d + 2)) (sl (sl (sl M b17551 ((((3 : Int32) * ((gi M b17550 1) + (1 : Int32))) + (14 : Int32))).toNatClampNeg (zls (1 : Int64) (18 : Int32))) b17554 ((((3 : Int32) * ((gi M b17550 1) + (1 : Int32))) + (14 : Int32))).toNatClampNeg (0 : Int64)) b17557 ((((3 : Int32) * ((gi M b17550 1) + (1 : Int32))) + (14 : Int32))).toNatClampNeg (0 : Int64)) hw ?_
  exact k
theorem iX1_atFirst_220 {E : zE} {d : Nat} {Q : zO → zM → Prop} (M : zM) (hw : cw M) (k : ∃ b17563 : Nat, (gr M 16 60) = some (b17563, 7, 0) ∧ (∃ b17564 : Nat, (gr M b17563 0) = some (b17564, 0, 0) ∧ (∃ b17565 m17565 : Nat, (gr M b17563 1) = some (b17565, 105, m17565) ∧ (16 ≤ b17565 ∧ (vp_in (((4 : Int32) * ((gi M b17564 1) + (1 : Int32))) + (2 : Int32)) m17565 ∧ (∃ b17568 m17568 : Nat, (gr M b17563 2) = some (b17568, 105, m17568) ∧ (16 ≤ b17568 ∧ (vp_in (((4 : Int32) * ((gi M b17564 1) + (1 : Int32))) + (2 : Int32)) m17568 ∧ (∃ b17571 m17571 : Nat, (gr M b17563 3) = some (b17571, 105, m17571) ∧ (16 ≤ b17571 ∧ (vp_in (((4 : Int32) * ((gi M b17564 1) + (1 : Int32))) + (2 : Int32)) m17571 ∧ (Z E YX1_thing (d + 2) (sl (sl (sl M b17565 ((((4 : Int32) * ((gi M b17564 1) + (1 : Int32))) + (2 : Int32))).toNatClampNeg (zls (1 : Int64) (12 : Int32))) b17568 ((((4 : Int32) * ((gi M b17564 1) + (1 : Int32))) + (2 : Int32))).toNatClampNeg (0 : Int64)) b17571 ((((4 : Int32) * ((gi M b17564 1) + (1 : Int32))) + (2 : Int32))).toNatClampNeg (0 : Int64)) (zargs 0 [vr (some (16, 0, 0)), vi (4 : Int32), vi (18 : Int32), vi (22 : Int32)]) 0 [] (zafter E YX1_atFirst ((d + 2) + 1) [(0, vr (some (16, 0, 0)))] 234 3 [] Q))))))))))))) : Z E YX1_atFirst (d + 3) M [(0, vr (some (16, 0, 0)))] 220 [] Q := by
  refine sX1_atFirst_220 (d := (d + 2)) M hw ?_
  refine jX1_thing (d := d) M (4 : Int32) (2 : Int32) (12 : Int32) hw ?_
  refine zneg (show ¬ ((64 : Int32) ≤ (12 : Int32)) from by decide) ?_
  obtain ⟨b17563, h17563, k⟩ := k
  refine ⟨b17563, h17563, ?_⟩
  obtain ⟨b17564, h17564, k⟩ := k
  refine ⟨b17564, h17564, ?_⟩
  obtain ⟨b17565, m17565, h17565, k⟩ := k
  refine ⟨b17565, m17565, h17565, ?_⟩
  refine zand k (fun h17566 k => ?_)
  refine zand k (fun h17567 k => ?_)
  obtain ⟨b17568, m17568, h17568, k⟩ := k
  refine ⟨b17568, m17568, h17568, ?_⟩
  refine zand k (fun h17569 k => ?_)
  refine zand k (fun h17570 k => ?_)
  obtain ⟨b17571, m17571, h17571, k⟩ := k
  refine ⟨b17571, m17571, h17571, ?_⟩
  refine zand k (fun h17572 k => ?_)
  refine zand k (fun h17573 k => ?_)
  show Z E YX1_atFirst ((d + 2) + 1) (sl (sl (sl M b17565 ((((4 : Int32) * ((gi M b17564 1) + (1 : Int32))) + (2 : Int32))).toNatClampNeg (zls (1 : Int64) (12 : Int32))) b17568 ((((4 : Int32) * ((gi M b17564 1) + (1 : Int32))) + (2 : Int32))).toNatClampNeg (0 : Int64)) b17571 ((((4 : Int32) * ((gi M b17564 1) + (1 : Int32))) + (2 : Int32))).toNatClampNeg (0 : Int64)) [(0, vr (some (16, 0, 0)))] 228 [] Q
  refine sX1_atFirst_228 (d := (d + 2)) (sl (sl (sl M b17565 ((((4 : Int32) * ((gi M b17564 1) + (1 : Int32))) + (2 : Int32))).toNatClampNeg (zls (1 : Int64) (12 : Int32))) b17568 ((((4 : Int32) * ((gi M b17564 1) + (1 : Int32))) + (2 : Int32))).toNatClampNeg (0 : Int64)) b17571 ((((4 : Int32) * ((gi M b17564 1) + (1 : Int32))) + (2 : Int32))).toNatClampNeg (0 : Int64)) hw ?_
  exact k
theorem iX1_atFirst_281 {E : zE} {d : Nat} {Q : zO → zM → Prop} (M : zM) (l1 : Int32) (hw : cw M) (k : if (18 : Int32) ≤ l1 then (∃ b17794 : Nat, (gr M 16 60) = some (b17794, 7, 0) ∧ (16 ≤ b17794 ∧ (Q (.inl none) (sl (sl (sl (sl (sl M b17794 14 (0 : Int64)) b17794 15 (0 : Int64)) b17794 16 (1 : Int64)) b17794 17 (0 : Int64)) b17794 18 (0 : Int64))))) else (if l1 = (13 : Int32) then (Z E YX1_atFirst (d + 1) M [(0, vr (some (16, 0, 0))), (1, vi (l1 + (1 : Int32)))] 281 [] Q) else (if l1 = (10 : Int32) then (Z E YX1_thing d M (zargs 0 [vr (some (16, 0, 0)), vi l1, vi (1 : Int32), vi (1 : Int32)]) 0 [] (zafter E YX1_atFirst (d + 1) [(0, vr (some (16, 0, 0))), (1, vi l1)] 323 3 [] Q)) else (if (13 : Int32) ≤ l1 then (Z E YX1_thing d M (zargs 0 [vr (some (16, 0, 0)), vi l1, vi (1 : Int32), vi (l1 - (9 : Int32))]) 0 [] (zafter E YX1_atFirst (d + 1) [(0, vr (some (16, 0, 0))), (1, vi l1)] 323 3 [] Q)) else (Z E YX1_thing d M (zargs 0 [vr (some (16, 0, 0)), vi l1, vi (1 : Int32), vi (l1 - (8 : Int32))]) 0 [] (zafter E YX1_atFirst (d + 1) [(0, vr (some (16, 0, 0))), (1, vi l1)] 323 3 [] Q)))))) : Z E YX1_atFirst (d + 1) M [(0, vr (some (16, 0, 0))), (1, vi l1)] 281 [] Q := by
  refine sX1_atFirst_281 (d := d) M l1 hw ?_
  refine zite k (fun h17793 k => ?_) (fun h17793 k => ?_)
  · obtain ⟨b17794, h17794, k⟩ := k
    refine ⟨b17794, h17794, ?_⟩
    refine zand k (fun h17795 k => ?_)
    refine ⟨b17794, h17794, ?_⟩
    refine ⟨h17795, ?_⟩
    refine ⟨b17794, h17794, ?_⟩
    refine ⟨h17795, ?_⟩
    refine ⟨b17794, h17794, ?_⟩
    refine ⟨h17795, ?_⟩
    refine ⟨b17794, h17794, ?_⟩
    refine ⟨h17795, ?_⟩
    exact k
  · refine zite k (fun h17796 k => ?_) (fun h17796 k => ?_)
    · refine sX1_atFirst_326 (d := d) M l1 hw ?_
      exact k
    · exact k
theorem iX1_atFirst_255 {E : zE} {d : Nat} {Q : zO → zM → Prop} (M : zM) (l1 : Int32) (hw : cw M) (k : if (l1 + (5 : Int32)) = (-1 : Int32) then (∃ b17802 : Nat, (gr M 16 60) = some (b17802, 7, 0) ∧ (∃ b17803 : Nat, (gr M b17802 0) = some (b17803, 0, 0) ∧ (∃ b17804 m17804 : Nat, (gr M b17802 1) = some (b17804, 105, m17804) ∧ (16 ≤ b17804 ∧ (vp_in ((l1 * ((gi M b17803 1) + (1 : Int32))) + (4 : Int32)) m17804 ∧ (∃ b17807 m17807 : Nat, (gr M b17802 2) = some (b17807, 105, m17807) ∧ (16 ≤ b17807 ∧ (vp_in ((l1 * ((gi M b17803 1) + (1 : Int32))) + (4 : Int32)) m17807 ∧ (∃ b17810 m17810 : Nat, (gr M b17802 3) = some (b17810, 105, m17810) ∧ (16 ≤ b17810 ∧ (vp_in ((l1 * ((gi M b17803 1) + (1 : Int32))) + (4 : Int32)) m17810 ∧ (Z E YX1_atFirst ((d + 1) + 1) (sl (sl (sl M b17804 (((l1 * ((gi M b17803 1) + (1 : Int32))) + (4 : Int32))).toNatClampNeg (0 : Int64)) b17807 (((l1 * ((gi M b17803 1) + (1 : Int32))) + (4 : Int32))).toNatClampNeg (0 : Int64)) b17810 (((l1 * ((gi M b17803 1) + (1 : Int32))) + (4 : Int32))).toNatClampNeg (256 : Int64)) [(0, vr (some (16, 0, 0))), (1, vi (l1 + (1 : Int32)))] 239 [] Q)))))))))))) else (∃ b17813 : Nat, (gr M 16 60) = some (b17813, 7, 0) ∧ (∃ b17814 : Nat, (gr M b17813 0) = some (b17814, 0, 0) ∧ (∃ b17815 m17815 : Nat, (gr M b17813 1) = some (b17815, 105, m17815) ∧ (16 ≤ b17815 ∧ (vp_in ((l1 * ((gi M b17814 1) + (1 : Int32))) + (4 : Int32)) m17815 ∧ (∃ b17818 m17818 : Nat, (gr M b17813 2) = some (b17818, 105, m17818) ∧ (16 ≤ b17818 ∧ (vp_in ((l1 * ((gi M b17814 1) + (1 : Int32))) + (4 : Int32)) m17818 ∧ (∃ b17821 m17821 : Nat, (gr M b17813 3) = some (b17821, 105, m17821) ∧ (16 ≤ b17821 ∧ (vp_in ((l1 * ((gi M b17814 1) + (1 : Int32))) + (4 : Int32)) m17821 ∧ (Z E YX1_atFirst ((d + 1) + 1) (sl (sl (sl M b17815 (((l1 * ((gi M b17814 1) + (1 : Int32))) + (4 : Int32))).toNatClampNeg (0 : Int64)) b17818 (((l1 * ((gi M b17814 1) + (1 : Int32))) + (4 : Int32))).toNatClampNeg (0 : Int64)) b17821 (((l1 * ((gi M b17814 1) + (1 : Int32))) + (4 : Int32))).toNatClampNeg ((128 : Int64) ||| (zls ((l1 + (5 : Int32))).toInt64 (16 : Int32)))) [(0, vr (some (16, 0, 0))), (1, vi (l1 + (1 : Int32)))] 239 [] Q))))))))))))) : Z E YX1_atFirst (d + 2) M [(0, vr (some (16, 0, 0))), (1, vi l1)] 255 [] Q := by
  refine sX1_atFirst_255 (d := (d + 1)) M l1 hw ?_
  refine sX1_textSet_0 (d := (d + 1)) M (l1 + (5 : Int32)) hw ?_
  refine zite k (fun h17801 k => ?_) (fun h17801 k => ?_)
  · show Z E YX1_atFirst ((d + 1) + 1) M [(0, vr (some (16, 0, 0))), (1, vi l1)] 269 [vl (256 : Int64), vl (0 : Int64), vl (0 : Int64), vi (4 : Int32), vi l1, vr (gr M 16 60)] Q
    refine sX1_atFirst_269 (d := (d + 1)) M l1 (256 : Int64) (0 : Int64) (0 : Int64) (4 : Int32) l1 (gr M 16 60) hw ?_
    obtain ⟨b17802, h17802, k⟩ := k
    refine ⟨b17802, h17802, ?_⟩
    refine jX43_put (d := d) M b17802 l1 (4 : Int32) (0 : Int64) (0 : Int64) (256 : Int64) ?_
    obtain ⟨b17803, h17803, k⟩ := k
    refine ⟨b17803, h17803, ?_⟩
    obtain ⟨b17804, m17804, h17804, k⟩ := k
    refine ⟨b17804, m17804, h17804, ?_⟩
    refine zand k (fun h17805 k => ?_)
    refine zand k (fun h17806 k => ?_)
    obtain ⟨b17807, m17807, h17807, k⟩ := k
    refine ⟨b17807, m17807, h17807, ?_⟩
    refine zand k (fun h17808 k => ?_)
    refine zand k (fun h17809 k => ?_)
    obtain ⟨b17810, m17810, h17810, k⟩ := k
    refine ⟨b17810, m17810, h17810, ?_⟩
    refine zand k (fun h17811 k => ?_)
    refine zand k (fun h17812 k => ?_)
    show Z E YX1_atFirst ((d + 1) + 1) (sl (sl (sl M b17804 (((l1 * ((gi M b17803 1) + (1 : Int32))) + (4 : Int32))).toNatClampNeg (0 : Int64)) b17807 (((l1 * ((gi M b17803 1) + (1 : Int32))) + (4 : Int32))).toNatClampNeg (0 : Int64)) b17810 (((l1 * ((gi M b17803 1) + (1 : Int32))) + (4 : Int32))).toNatClampNeg (256 : Int64)) [(0, vr (some (16, 0, 0))), (1, vi l1)] 272 [] Q
    refine sX1_atFirst_272 (d := (d + 1)) (sl (sl (sl M b17804 (((l1 * ((gi M b17803 1) + (1 : Int32))) + (4 : Int32))).toNatClampNeg (0 : Int64)) b17807 (((l1 * ((gi M b17803 1) + (1 : Int32))) + (4 : Int32))).toNatClampNeg (0 : Int64)) b17810 (((l1 * ((gi M b17803 1) + (1 : Int32))) + (4 : Int32))).toNatClampNeg (256 : Int64)) l1 hw ?_
    exact k
  · show Z E YX1_atFirst ((d + 1) + 1) M [(0, vr (some (16, 0, 0))), (1, vi l1)] 269 [vl ((128 : Int64) ||| (zls ((l1 + (5 : Int32))).toInt64 (16 : Int32))), vl (0 : Int64), vl (0 : Int64), vi (4 : Int32), vi l1, vr (gr M 16 60)] Q
    refine sX1_atFirst_269 (d := (d + 1)) M l1 ((128 : Int64) ||| (zls ((l1 + (5 : Int32))).toInt64 (16 : Int32))) (0 : Int64) (0 : Int64) (4 : Int32) l1 (gr M 16 60) hw ?_
    obtain ⟨b17813, h17813, k⟩ := k
    refine ⟨b17813, h17813, ?_⟩
    refine jX43_put (d := d) M b17813 l1 (4 : Int32) (0 : Int64) (0 : Int64) ((128 : Int64) ||| (zls ((l1 + (5 : Int32))).toInt64 (16 : Int32))) ?_
    obtain ⟨b17814, h17814, k⟩ := k
    refine ⟨b17814, h17814, ?_⟩
    obtain ⟨b17815, m17815, h17815, k⟩ := k
    refine ⟨b17815, m17815, h17815, ?_⟩
    refine zand k (fun h17816 k => ?_)
    refine zand k (fun h17817 k => ?_)
    obtain ⟨b17818, m17818, h17818, k⟩ := k
    refine ⟨b17818, m17818, h17818, ?_⟩
    refine zand k (fun h17819 k => ?_)
    refine zand k (fun h17820 k => ?_)
    obtain ⟨b17821, m17821, h17821, k⟩ := k
    refine ⟨b17821, m17821, h17821, ?_⟩
    refine zand k (fun h17822 k => ?_)
    refine zand k (fun h17823 k => ?_)
    show Z E YX1_atFirst ((d + 1) + 1) (sl (sl (sl M b17815 (((l1 * ((gi M b17814 1) + (1 : Int32))) + (4 : Int32))).toNatClampNeg (0 : Int64)) b17818 (((l1 * ((gi M b17814 1) + (1 : Int32))) + (4 : Int32))).toNatClampNeg (0 : Int64)) b17821 (((l1 * ((gi M b17814 1) + (1 : Int32))) + (4 : Int32))).toNatClampNeg ((128 : Int64) ||| (zls ((l1 + (5 : Int32))).toInt64 (16 : Int32)))) [(0, vr (some (16, 0, 0))), (1, vi l1)] 272 [] Q
    refine sX1_atFirst_272 (d := (d + 1)) (sl (sl (sl M b17815 (((l1 * ((gi M b17814 1) + (1 : Int32))) + (4 : Int32))).toNatClampNeg (0 : Int64)) b17818 (((l1 * ((gi M b17814 1) + (1 : Int32))) + (4 : Int32))).toNatClampNeg (0 : Int64)) b17821 (((l1 * ((gi M b17814 1) + (1 : Int32))) + (4 : Int32))).toNatClampNeg ((128 : Int64) ||| (zls ((l1 + (5 : Int32))).toInt64 (16 : Int32)))) l1 hw ?_
    exact k
theorem iX1_bit_0 {E : zE} {d : Nat} {Q : zO → zM → Prop} (M : zM) (l1 : Int32) (l2 : Int32) (l3 : Int32) (hw : cw M) (k : if l2 = 0 then (Q (.inl none) M) else (if (64 : Int32) ≤ l1 then (Z E YX1_bit d M [(0, vr (some (16, 0, 0))), (3, vi l3), (4, vl (0 : Int64))] 36 [vl (zls (1 : Int64) (l1 - (64 : Int32)))] Q) else (Z E YX1_bit d M [(0, vr (some (16, 0, 0))), (3, vi l3), (4, vl (zls (1 : Int64) l1))] 36 [vl (0 : Int64)] Q))) : Z E YX1_bit d M [(0, vr (some (16, 0, 0))), (1, vi l1), (2, vi l2), (3, vi l3)] 0 [] Q := by
  refine sX1_bit_0 (d := d) M l1 l2 l3 hw ?_
  refine zite k (fun h17824 k => ?_) (fun h17824 k => ?_)
  · exact k
  · refine zite k (fun h17825 k => ?_) (fun h17825 k => ?_)
    · refine sX1_bit_18 (d := d) M l1 l3 (0 : Int64) hw ?_
      refine zpos h17825 ?_
      exact k
    · refine sX1_bit_18 (d := d) M l1 l3 (zls (1 : Int64) l1) hw ?_
      refine zneg h17825 ?_
      exact k
theorem jX6_of {E : zE} {d : Nat} {Q : zO → zM → Prop} (M : zM) (a0 : Nat) (l1 : Int64) (k : 16 ≤ a0 ∧ (Q (.inl (some (vr (some (a0, 4, 0))))) (sl (sl (sl M a0 0 (0 : Int64)) a0 1 (0 : Int64)) a0 2 l1))) : Z E YX6_of d M [(0, vr (some (a0, 4, 0))), (1, vl l1)] 0 [] Q := by
  refine sX6_of_0 (d := d) M a0 l1 ?_
  refine zand k (fun h17849 k => ?_)
  refine ⟨h17849, ?_⟩
  refine ⟨h17849, ?_⟩
  exact k
theorem iX1_field_0 {E : zE} {d : Nat} {Q : zO → zM → Prop} (M : zM) (l1 : Int32) (l2 : Int32) (l3 : Int32) (l4 : Int32) (hw : cw M) (k : if (gi M 16 62) = 0 then (Q (.inl (some (vl (0 : Int64)))) M) else (if l1 < 0 then (Q (.inl (some (vl (0 : Int64)))) M) else (if (gi M 16 75) ≤ l1 then (Q (.inl (some (vl (0 : Int64)))) M) else (∃ b17839 : Nat, (gr M 16 59) = some (b17839, 6, 0) ∧ (∃ b17840 m17840 : Nat, (gr M b17839 9) = some (b17840, 100, m17840) ∧ (vp_in l1 m17840 ∧ (if (gi M b17840 (l1).toNatClampNeg) = (-1 : Int32) then (Q (.inl (some (vl (0 : Int64)))) M) else (if l2 < 0 then (Q (.inl (some (vl (0 : Int64)))) M) else (if (gi M 16 11) ≤ l2 then (Q (.inl (some (vl (0 : Int64)))) M) else (if l3 < 0 then (Q (.inl (some (vl (0 : Int64)))) M) else (if l3 ≤ (gi M 16 1) then (∃ b17847 m17847 : Nat, (gr M b17839 3) = some (b17847, 105, m17847) ∧ (vp_in ((((l1 * (gi M 16 11)) + l2) * ((gi M 16 1) + (1 : Int32))) + l3) m17847 ∧ (16 ≤ 71 ∧ (∃ b17851 m17851 : Nat, (gr M b17839 1) = some (b17851, 105, m17851) ∧ (vp_in ((((l1 * (gi M 16 11)) + l2) * ((gi M 16 1) + (1 : Int32))) + l3) m17851 ∧ (∃ b17853 m17853 : Nat, (gr M b17839 2) = some (b17853, 105, m17853) ∧ (vp_in ((((l1 * (gi M 16 11)) + l2) * ((gi M 16 1) + (1 : Int32))) + l3) m17853 ∧ (Z E YX6_join3 d (sl (sl (sl M 71 0 (0 : Int64)) 71 1 (0 : Int64)) 71 2 (gl M b17847 (((((l1 * (gi M 16 11)) + l2) * ((gi M 16 1) + (1 : Int32))) + l3)).toNatClampNeg)) (zargs 0 [vr (some (71, 4, 0)), vl (gl (sl (sl (sl M 71 0 (0 : Int64)) 71 1 (0 : Int64)) 71 2 (gl M b17847 (((((l1 * (gi M 16 11)) + l2) * ((gi M 16 1) + (1 : Int32))) + l3)).toNatClampNeg)) b17851 (((((l1 * (gi M 16 11)) + l2) * ((gi M 16 1) + (1 : Int32))) + l3)).toNatClampNeg), vl (gl (sl (sl (sl M 71 0 (0 : Int64)) 71 1 (0 : Int64)) 71 2 (gl M b17847 (((((l1 * (gi M 16 11)) + l2) * ((gi M 16 1) + (1 : Int32))) + l3)).toNatClampNeg)) b17853 (((((l1 * (gi M 16 11)) + l2) * ((gi M 16 1) + (1 : Int32))) + l3)).toNatClampNeg), vl (0 : Int64)]) 0 [] (zafter E YX1_field (d + 1) [(4, vi l4)] 91 3 [] Q))))))))) else (Q (.inl (some (vl (0 : Int64)))) M)))))))))))) : Z E YX1_field (d + 1) M [(0, vr (some (16, 0, 0))), (1, vi l1), (2, vi l2), (3, vi l3), (4, vi l4)] 0 [] Q := by
  refine sX1_field_0 (d := d) M l1 l2 l3 l4 hw ?_
  refine sX1_isReached_0 (d := d) M l1 hw ?_
  refine zite k (fun h17836 k => ?_) (fun h17836 k => ?_)
  · show Z E YX1_field (d + 1) M [(0, vr (some (16, 0, 0))), (1, vi l1), (2, vi l2), (3, vi l3), (4, vi l4)] 5 [vi (0 : Int32)] Q
    refine sX1_field_5 (d := d) M l1 l2 l3 l4 (0 : Int32) hw ?_
    refine zpos (show (0 : Int32) = 0 from by decide) ?_
    exact k
  · refine zite k (fun h17837 k => ?_) (fun h17837 k => ?_)
    · show Z E YX1_field (d + 1) M [(0, vr (some (16, 0, 0))), (1, vi l1), (2, vi l2), (3, vi l3), (4, vi l4)] 5 [vi (0 : Int32)] Q
      refine sX1_field_5 (d := d) M l1 l2 l3 l4 (0 : Int32) hw ?_
      refine zpos (show (0 : Int32) = 0 from by decide) ?_
      exact k
    · refine zite k (fun h17838 k => ?_) (fun h17838 k => ?_)
      · show Z E YX1_field (d + 1) M [(0, vr (some (16, 0, 0))), (1, vi l1), (2, vi l2), (3, vi l3), (4, vi l4)] 5 [vi (0 : Int32)] Q
        refine sX1_field_5 (d := d) M l1 l2 l3 l4 (0 : Int32) hw ?_
        refine zpos (show (0 : Int32) = 0 from by decide) ?_
        exact k
      · obtain ⟨b17839, h17839, k⟩ := k
        refine ⟨b17839, h17839, ?_⟩
        obtain ⟨b17840, m17840, h17840, k⟩ := k
        refine ⟨b17840, m17840, h17840, ?_⟩
        refine zand k (fun h17841 k => ?_)
        refine zite k (fun h17842 k => ?_) (fun h17842 k => ?_)
        · show Z E YX1_field (d + 1) M [(0, vr (some (16, 0, 0))), (1, vi l1), (2, vi l2), (3, vi l3), (4, vi l4)] 5 [vi (0 : Int32)] Q
          refine sX1_field_5 (d := d) M l1 l2 l3 l4 (0 : Int32) hw ?_
          refine zpos (show (0 : Int32) = 0 from by decide) ?_
          exact k
        · show Z E YX1_field (d + 1) M [(0, vr (some (16, 0, 0))), (1, vi l1), (2, vi l2), (3, vi l3), (4, vi l4)] 5 [vi (1 : Int32)] Q
          refine sX1_field_5 (d := d) M l1 l2 l3 l4 (1 : Int32) hw ?_
          refine zneg (show ¬ ((1 : Int32) = 0) from by decide) ?_
          refine zite k (fun h17843 k => ?_) (fun h17843 k => ?_)
          · exact k
          · refine zite k (fun h17844 k => ?_) (fun h17844 k => ?_)
            · exact k
            · refine zite k (fun h17845 k => ?_) (fun h17845 k => ?_)
              · exact k
              · refine zite k (fun h17846 k => ?_) (fun h17846 k => ?_)
                · refine ⟨b17839, h17839, ?_⟩
                  obtain ⟨b17847, m17847, h17847, k⟩ := k
                  refine ⟨b17847, m17847, h17847, ?_⟩
                  refine zand k (fun h17848 k => ?_)
                  refine jX6_of (d := d) M 71 (gl M b17847 (((((l1 * (gi M 16 11)) + l2) * ((gi M 16 1) + (1 : Int32))) + l3)).toNatClampNeg) ?_
                  refine zand k (fun h17850 k => ?_)
                  show Z E YX1_field (d + 1) (sl (sl (sl M 71 0 (0 : Int64)) 71 1 (0 : Int64)) 71 2 (gl M b17847 (((((l1 * (gi M 16 11)) + l2) * ((gi M 16 1) + (1 : Int32))) + l3)).toNatClampNeg)) [(0, vr (some (16, 0, 0))), (4, vi l4), (5, vi ((((l1 * (gi M 16 11)) + l2) * ((gi M 16 1) + (1 : Int32))) + l3))] 70 [vr (some (71, 4, 0))] Q
                  refine sX1_field_70 (d := d) (sl (sl (sl M 71 0 (0 : Int64)) 71 1 (0 : Int64)) 71 2 (gl M b17847 (((((l1 * (gi M 16 11)) + l2) * ((gi M 16 1) + (1 : Int32))) + l3)).toNatClampNeg)) l4 ((((l1 * (gi M 16 11)) + l2) * ((gi M 16 1) + (1 : Int32))) + l3) (some (71, 4, 0)) hw ?_
                  refine ⟨b17839, h17839, ?_⟩
                  obtain ⟨b17851, m17851, h17851, k⟩ := k
                  refine ⟨b17851, m17851, h17851, ?_⟩
                  refine zand k (fun h17852 k => ?_)
                  refine ⟨b17839, h17839, ?_⟩
                  obtain ⟨b17853, m17853, h17853, k⟩ := k
                  refine ⟨b17853, m17853, h17853, ?_⟩
                  refine zand k (fun h17854 k => ?_)
                  refine ⟨71, rfl, ?_⟩
                  exact k
                · exact k
theorem iX1_goes_41 {E : zE} {d : Nat} {Q : zO → zM → Prop} (M : zM) (l3 : Int32) (l4 : Int32) (hw : cw M) (k : if (gi M 16 75) ≤ l4 then (Q (.inl none) M) else (vp_in l4 624 ∧ (if (((gi M 69 (l4).toNatClampNeg) >>> (l3 &&& 31)) &&& (1 : Int32)) = 0 then (Z E YX1_goes (d + 1) M [(0, vr (some (16, 0, 0))), (3, vi l3), (4, vi (l4 + (1 : Int32)))] 41 [] Q) else (Z E YX1_goes (d + 1) (si M 68 (l4).toNatClampNeg (vp_nar .boolean (1 : Int32))) [(0, vr (some (16, 0, 0))), (3, vi l3), (4, vi (l4 + (1 : Int32)))] 41 [] Q)))) : Z E YX1_goes (d + 1) M [(0, vr (some (16, 0, 0))), (3, vi l3), (4, vi l4)] 41 [] Q := by
  refine sX1_goes_41 (d := d) M l3 l4 hw ?_
  refine zite k (fun h17872 k => ?_) (fun h17872 k => ?_)
  · exact k
  · refine zand k (fun h17873 k => ?_)
    refine zite k (fun h17874 k => ?_) (fun h17874 k => ?_)
    · exact k
    · refine ⟨h17873, ?_⟩
      exact k
theorem iX1_height_0 {E : zE} {d : Nat} {Q : zO → zM → Prop} (M : zM) (l1 : Int32) (hw : cw M) (k : if (gi M 16 62) = 0 then (Q (.inl (some (vi (-1 : Int32)))) M) else (if l1 < 0 then (Q (.inl (some (vi (-1 : Int32)))) M) else (if (gi M 16 75) ≤ l1 then (Q (.inl (some (vi (-1 : Int32)))) M) else (∃ b17878 : Nat, (gr M 16 59) = some (b17878, 6, 0) ∧ (∃ b17879 m17879 : Nat, (gr M b17878 9) = some (b17879, 100, m17879) ∧ (vp_in l1 m17879 ∧ (if (gi M b17879 (l1).toNatClampNeg) = (-1 : Int32) then (Q (.inl (some (vi (-1 : Int32)))) M) else (Q (.inl (some (vi (gi M b17879 (l1).toNatClampNeg)))) M)))))))) : Z E YX1_height (d + 1) M [(0, vr (some (16, 0, 0))), (1, vi l1)] 0 [] Q := by
  refine sX1_height_0 (d := d) M l1 hw ?_
  refine sX1_isReached_0 (d := d) M l1 hw ?_
  refine zite k (fun h17875 k => ?_) (fun h17875 k => ?_)
  · show Z E YX1_height (d + 1) M [(0, vr (some (16, 0, 0))), (1, vi l1)] 5 [vi (0 : Int32)] Q
    refine sX1_height_5 (d := d) M l1 (0 : Int32) hw ?_
    refine zpos (show (0 : Int32) = 0 from by decide) ?_
    exact k
  · refine zite k (fun h17876 k => ?_) (fun h17876 k => ?_)
    · show Z E YX1_height (d + 1) M [(0, vr (some (16, 0, 0))), (1, vi l1)] 5 [vi (0 : Int32)] Q
      refine sX1_height_5 (d := d) M l1 (0 : Int32) hw ?_
      refine zpos (show (0 : Int32) = 0 from by decide) ?_
      exact k
    · refine zite k (fun h17877 k => ?_) (fun h17877 k => ?_)
      · show Z E YX1_height (d + 1) M [(0, vr (some (16, 0, 0))), (1, vi l1)] 5 [vi (0 : Int32)] Q
        refine sX1_height_5 (d := d) M l1 (0 : Int32) hw ?_
        refine zpos (show (0 : Int32) = 0 from by decide) ?_
        exact k
      · obtain ⟨b17878, h17878, k⟩ := k
        refine ⟨b17878, h17878, ?_⟩
        obtain ⟨b17879, m17879, h17879, k⟩ := k
        refine ⟨b17879, m17879, h17879, ?_⟩
        refine zand k (fun h17880 k => ?_)
        refine zite k (fun h17881 k => ?_) (fun h17881 k => ?_)
        · show Z E YX1_height (d + 1) M [(0, vr (some (16, 0, 0))), (1, vi l1)] 5 [vi (0 : Int32)] Q
          refine sX1_height_5 (d := d) M l1 (0 : Int32) hw ?_
          refine zpos (show (0 : Int32) = 0 from by decide) ?_
          exact k
        · show Z E YX1_height (d + 1) M [(0, vr (some (16, 0, 0))), (1, vi l1)] 5 [vi (1 : Int32)] Q
          refine sX1_height_5 (d := d) M l1 (1 : Int32) hw ?_
          refine zneg (show ¬ ((1 : Int32) = 0) from by decide) ?_
          refine ⟨b17878, h17878, ?_⟩
          refine ⟨b17879, m17879, h17879, ?_⟩
          refine ⟨h17880, ?_⟩
          exact k
theorem iX1_isInt_0 {E : zE} {d : Nat} {Q : zO → zM → Prop} (M : zM) (l1 : Int32) (hw : cw M) (k : ∃ b17882 m17882 : Nat, (gr M 17 1) = some (b17882, 100, m17882) ∧ (vp_in (l1 + (1 : Int32)) m17882 ∧ (vp_in l1 m17882 ∧ (if ((gi M b17882 ((l1 + (1 : Int32))).toNatClampNeg) - (gi M b17882 (l1).toNatClampNeg)) ≤ 0 then (if ((gi M b17882 ((l1 + (1 : Int32))).toNatClampNeg) - (gi M b17882 (l1).toNatClampNeg)) = (0 : Int32) then (Q (.inl (some (vi (0 : Int32)))) M) else (∃ b17887 m17887 : Nat, (gr M 17 0) = some (b17887, 101, m17887) ∧ (vp_in ((gi M b17882 (l1).toNatClampNeg) + (0 : Int32)) m17887 ∧ (if (gi M b17887 (((gi M b17882 (l1).toNatClampNeg) + (0 : Int32))).toNatClampNeg) = (48 : Int32) then (if ((gi M b17882 ((l1 + (1 : Int32))).toNatClampNeg) - (gi M b17882 (l1).toNatClampNeg)) ≤ (1 : Int32) then (Z E YX1_hasNumber d M (zargs 0 [vr (some (16, 0, 0)), vi (6 : Int32), vi l1]) 0 [] (zafter E YX1_isInt (d + 1) [] 63 3 [] Q)) else (Q (.inl (some (vi (0 : Int32)))) M)) else (Z E YX1_hasNumber d M (zargs 0 [vr (some (16, 0, 0)), vi (6 : Int32), vi l1]) 0 [] (zafter E YX1_isInt (d + 1) [] 63 3 [] Q)))))) else (∃ b17891 m17891 : Nat, (gr M 17 0) = some (b17891, 101, m17891) ∧ (vp_in ((gi M b17882 (l1).toNatClampNeg) + (0 : Int32)) m17891 ∧ (if (gi M b17891 (((gi M b17882 (l1).toNatClampNeg) + (0 : Int32))).toNatClampNeg) = (45 : Int32) then (if ((gi M b17882 ((l1 + (1 : Int32))).toNatClampNeg) - (gi M b17882 (l1).toNatClampNeg)) = (1 : Int32) then (Q (.inl (some (vi (0 : Int32)))) M) else (vp_in ((gi M b17882 (l1).toNatClampNeg) + (1 : Int32)) m17891 ∧ (if (gi M b17891 (((gi M b17882 (l1).toNatClampNeg) + (1 : Int32))).toNatClampNeg) = (48 : Int32) then (if ((gi M b17882 ((l1 + (1 : Int32))).toNatClampNeg) - (gi M b17882 (l1).toNatClampNeg)) ≤ (1 : Int32) then (Z E YX1_hasNumber d M (zargs 0 [vr (some (16, 0, 0)), vi (6 : Int32), vi l1]) 0 [] (zafter E YX1_isInt (d + 1) [] 63 3 [] Q)) else (Q (.inl (some (vi (0 : Int32)))) M)) else (Z E YX1_hasNumber d M (zargs 0 [vr (some (16, 0, 0)), vi (6 : Int32), vi l1]) 0 [] (zafter E YX1_isInt (d + 1) [] 63 3 [] Q))))) else (if ((gi M b17882 ((l1 + (1 : Int32))).toNatClampNeg) - (gi M b17882 (l1).toNatClampNeg)) = (0 : Int32) then (Q (.inl (some (vi (0 : Int32)))) M) else (if (gi M b17891 (((gi M b17882 (l1).toNatClampNeg) + (0 : Int32))).toNatClampNeg) = (48 : Int32) then (if ((gi M b17882 ((l1 + (1 : Int32))).toNatClampNeg) - (gi M b17882 (l1).toNatClampNeg)) ≤ (1 : Int32) then (Z E YX1_hasNumber d M (zargs 0 [vr (some (16, 0, 0)), vi (6 : Int32), vi l1]) 0 [] (zafter E YX1_isInt (d + 1) [] 63 3 [] Q)) else (Q (.inl (some (vi (0 : Int32)))) M)) else (Z E YX1_hasNumber d M (zargs 0 [vr (some (16, 0, 0)), vi (6 : Int32), vi l1]) 0 [] (zafter E YX1_isInt (d + 1) [] 63 3 [] Q))))))))))) : Z E YX1_isInt (d + 1) M [(0, vr (some (16, 0, 0))), (1, vi l1)] 0 [] Q := by
  refine sX1_isInt_0 (d := d) M l1 hw ?_
  refine jX2_length (d := d) M 17 l1 ?_
  obtain ⟨b17882, m17882, h17882, k⟩ := k
  refine ⟨b17882, m17882, h17882, ?_⟩
  refine zand k (fun h17883 k => ?_)
  refine zand k (fun h17884 k => ?_)
  show Z E YX1_isInt (d + 1) M [(0, vr (some (16, 0, 0))), (1, vi l1)] 8 [vi ((gi M b17882 ((l1 + (1 : Int32))).toNatClampNeg) - (gi M b17882 (l1).toNatClampNeg))] Q
  refine sX1_isInt_8 (d := d) M l1 ((gi M b17882 ((l1 + (1 : Int32))).toNatClampNeg) - (gi M b17882 (l1).toNatClampNeg)) hw ?_
  refine zite k (fun h17885 k => ?_) (fun h17885 k => ?_)
  · refine sX1_isInt_32 (d := d) M l1 ((gi M b17882 ((l1 + (1 : Int32))).toNatClampNeg) - (gi M b17882 (l1).toNatClampNeg)) (0 : Int32) hw ?_
    refine zite k (fun h17886 k => ?_) (fun h17886 k => ?_)
    · exact k
    · refine sX2_sign_0 (d := d) M 17 l1 (0 : Int32) ?_
      refine ⟨b17882, m17882, h17882, ?_⟩
      refine ⟨h17884, ?_⟩
      obtain ⟨b17887, m17887, h17887, k⟩ := k
      refine ⟨b17887, m17887, h17887, ?_⟩
      refine zand k (fun h17888 k => ?_)
      show Z E YX1_isInt (d + 1) M [(0, vr (some (16, 0, 0))), (1, vi l1), (2, vi ((gi M b17882 ((l1 + (1 : Int32))).toNatClampNeg) - (gi M b17882 (l1).toNatClampNeg)))] 47 [vi (gi M b17887 (((gi M b17882 (l1).toNatClampNeg) + (0 : Int32))).toNatClampNeg)] Q
      refine sX1_isInt_47 (d := d) M l1 ((gi M b17882 ((l1 + (1 : Int32))).toNatClampNeg) - (gi M b17882 (l1).toNatClampNeg)) (gi M b17887 (((gi M b17882 (l1).toNatClampNeg) + (0 : Int32))).toNatClampNeg) hw ?_
      exact k
  · refine sX2_sign_0 (d := d) M 17 l1 (0 : Int32) ?_
    refine ⟨b17882, m17882, h17882, ?_⟩
    refine ⟨h17884, ?_⟩
    obtain ⟨b17891, m17891, h17891, k⟩ := k
    refine ⟨b17891, m17891, h17891, ?_⟩
    refine zand k (fun h17892 k => ?_)
    show Z E YX1_isInt (d + 1) M [(0, vr (some (16, 0, 0))), (1, vi l1), (2, vi ((gi M b17882 ((l1 + (1 : Int32))).toNatClampNeg) - (gi M b17882 (l1).toNatClampNeg)))] 22 [vi (gi M b17891 (((gi M b17882 (l1).toNatClampNeg) + (0 : Int32))).toNatClampNeg)] Q
    refine sX1_isInt_22 (d := d) M l1 ((gi M b17882 ((l1 + (1 : Int32))).toNatClampNeg) - (gi M b17882 (l1).toNatClampNeg)) (gi M b17891 (((gi M b17882 (l1).toNatClampNeg) + (0 : Int32))).toNatClampNeg) hw ?_
    refine zite k (fun h17893 k => ?_) (fun h17893 k => ?_)
    · refine sX1_isInt_32 (d := d) M l1 ((gi M b17882 ((l1 + (1 : Int32))).toNatClampNeg) - (gi M b17882 (l1).toNatClampNeg)) (1 : Int32) hw ?_
      refine zite k (fun h17894 k => ?_) (fun h17894 k => ?_)
      · exact k
      · refine sX2_sign_0 (d := d) M 17 l1 (1 : Int32) ?_
        refine ⟨b17882, m17882, h17882, ?_⟩
        refine ⟨h17884, ?_⟩
        refine ⟨b17891, m17891, h17891, ?_⟩
        refine zand k (fun h17895 k => ?_)
        show Z E YX1_isInt (d + 1) M [(0, vr (some (16, 0, 0))), (1, vi l1), (2, vi ((gi M b17882 ((l1 + (1 : Int32))).toNatClampNeg) - (gi M b17882 (l1).toNatClampNeg)))] 47 [vi (gi M b17891 (((gi M b17882 (l1).toNatClampNeg) + (1 : Int32))).toNatClampNeg)] Q
        refine sX1_isInt_47 (d := d) M l1 ((gi M b17882 ((l1 + (1 : Int32))).toNatClampNeg) - (gi M b17882 (l1).toNatClampNeg)) (gi M b17891 (((gi M b17882 (l1).toNatClampNeg) + (1 : Int32))).toNatClampNeg) hw ?_
        exact k
    · refine sX1_isInt_32 (d := d) M l1 ((gi M b17882 ((l1 + (1 : Int32))).toNatClampNeg) - (gi M b17882 (l1).toNatClampNeg)) (0 : Int32) hw ?_
      refine zite k (fun h17898 k => ?_) (fun h17898 k => ?_)
      · exact k
      · refine sX2_sign_0 (d := d) M 17 l1 (0 : Int32) ?_
        refine ⟨b17882, m17882, h17882, ?_⟩
        refine ⟨h17884, ?_⟩
        refine ⟨b17891, m17891, h17891, ?_⟩
        refine ⟨h17892, ?_⟩
        show Z E YX1_isInt (d + 1) M [(0, vr (some (16, 0, 0))), (1, vi l1), (2, vi ((gi M b17882 ((l1 + (1 : Int32))).toNatClampNeg) - (gi M b17882 (l1).toNatClampNeg)))] 47 [vi (gi M b17891 (((gi M b17882 (l1).toNatClampNeg) + (0 : Int32))).toNatClampNeg)] Q
        refine sX1_isInt_47 (d := d) M l1 ((gi M b17882 ((l1 + (1 : Int32))).toNatClampNeg) - (gi M b17882 (l1).toNatClampNeg)) (gi M b17891 (((gi M b17882 (l1).toNatClampNeg) + (0 : Int32))).toNatClampNeg) hw ?_
        exact k
theorem iX1_joined_144 {E : zE} {d : Nat} {Q : zO → zM → Prop} (M : zM) (l0 : Int64) (l2 : Int64) (l4 : Int64) (l6 : Int64) (l8 : Int64) (hw : cw M) (k : if (lg_cmp (l4 &&& (256 : Int64)) (0 : Int64)) = 0 then (if (lg_cmp ((l0 &&& l2) &&& (128 : Int64)) (0 : Int64)) = 0 then (if (lg_cmp (l4 &&& (128 : Int64)) (0 : Int64)) = 0 then (if (lg_cmp (l4 &&& (32 : Int64)) (0 : Int64)) = 0 then (Q (.inl (some (vl ((l4 ||| (0 : Int64)) ||| (0 : Int64))))) M) else (∀ x1_v17924 : Int64, x1_v17924 = (zls l6 (32 : Int32)) → (Q (.inl (some (vl ((l4 ||| (0 : Int64)) ||| x1_v17924)))) M))) else (if (lg_cmp (l4 &&& (32 : Int64)) (0 : Int64)) = 0 then (Q (.inl (some (vl ((l4 ||| (zls l8 (16 : Int32))) ||| (0 : Int64))))) M) else (∀ x1_v17926 : Int64, x1_v17926 = (zls l6 (32 : Int32)) → (Q (.inl (some (vl ((l4 ||| (zls l8 (16 : Int32))) ||| x1_v17926)))) M)))) else (if (lg_cmp ((zlr l0 (16 : Int32)) &&& (65535 : Int64)) ((zlr l2 (16 : Int32)) &&& (65535 : Int64))) = 0 then (if (lg_cmp (l4 &&& (128 : Int64)) (0 : Int64)) = 0 then (if (lg_cmp (l4 &&& (32 : Int64)) (0 : Int64)) = 0 then (Q (.inl (some (vl ((l4 ||| (0 : Int64)) ||| (0 : Int64))))) M) else (∀ x1_v17930 : Int64, x1_v17930 = (zls l6 (32 : Int32)) → (Q (.inl (some (vl ((l4 ||| (0 : Int64)) ||| x1_v17930)))) M))) else (if (lg_cmp (l4 &&& (32 : Int64)) (0 : Int64)) = 0 then (Q (.inl (some (vl ((l4 ||| (zls l8 (16 : Int32))) ||| (0 : Int64))))) M) else (∀ x1_v17932 : Int64, x1_v17932 = (zls l6 (32 : Int32)) → (Q (.inl (some (vl ((l4 ||| (zls l8 (16 : Int32))) ||| x1_v17932)))) M)))) else (if (lg_cmp (((l4 &&& (-129 : Int64)) ||| (256 : Int64)) &&& (128 : Int64)) (0 : Int64)) = 0 then (if (lg_cmp (((l4 &&& (-129 : Int64)) ||| (256 : Int64)) &&& (32 : Int64)) (0 : Int64)) = 0 then (Q (.inl (some (vl ((((l4 &&& (-129 : Int64)) ||| (256 : Int64)) ||| (0 : Int64)) ||| (0 : Int64))))) M) else (∀ x1_v17935 : Int64, x1_v17935 = (zls l6 (32 : Int32)) → (Q (.inl (some (vl ((((l4 &&& (-129 : Int64)) ||| (256 : Int64)) ||| (0 : Int64)) ||| x1_v17935)))) M))) else (if (lg_cmp (((l4 &&& (-129 : Int64)) ||| (256 : Int64)) &&& (32 : Int64)) (0 : Int64)) = 0 then (Q (.inl (some (vl ((((l4 &&& (-129 : Int64)) ||| (256 : Int64)) ||| (zls l8 (16 : Int32))) ||| (0 : Int64))))) M) else (∀ x1_v17937 : Int64, x1_v17937 = (zls l6 (32 : Int32)) → (Q (.inl (some (vl ((((l4 &&& (-129 : Int64)) ||| (256 : Int64)) ||| (zls l8 (16 : Int32))) ||| x1_v17937)))) M)))))) else (if (lg_cmp ((l4 &&& (-129 : Int64)) &&& (128 : Int64)) (0 : Int64)) = 0 then (if (lg_cmp ((l4 &&& (-129 : Int64)) &&& (32 : Int64)) (0 : Int64)) = 0 then (Q (.inl (some (vl (((l4 &&& (-129 : Int64)) ||| (0 : Int64)) ||| (0 : Int64))))) M) else (∀ x1_v17940 : Int64, x1_v17940 = (zls l6 (32 : Int32)) → (Q (.inl (some (vl (((l4 &&& (-129 : Int64)) ||| (0 : Int64)) ||| x1_v17940)))) M))) else (if (lg_cmp ((l4 &&& (-129 : Int64)) &&& (32 : Int64)) (0 : Int64)) = 0 then (Q (.inl (some (vl (((l4 &&& (-129 : Int64)) ||| (zls l8 (16 : Int32))) ||| (0 : Int64))))) M) else (∀ x1_v17942 : Int64, x1_v17942 = (zls l6 (32 : Int32)) → (Q (.inl (some (vl (((l4 &&& (-129 : Int64)) ||| (zls l8 (16 : Int32))) ||| x1_v17942)))) M))))) : Z E YX1_joined d M [(0, vl l0), (2, vl l2), (4, vl l4), (6, vl l6), (8, vl l8)] 144 [] Q := by
  refine sX1_joined_144 (d := d) M l0 l2 l4 l6 l8 hw ?_
  refine zite k (fun h17920 k => ?_) (fun h17920 k => ?_)
  · refine zite k (fun h17921 k => ?_) (fun h17921 k => ?_)
    · refine sX1_joined_210 (d := d) M l4 l6 l8 hw ?_
      refine zite k (fun h17922 k => ?_) (fun h17922 k => ?_)
      · refine sX1_joined_232 (d := d) M l4 l6 (0 : Int64) l4 hw ?_
        exact k
      · refine sX1_joined_232 (d := d) M l4 l6 (zls l8 (16 : Int32)) l4 hw ?_
        exact k
    · refine zite k (fun h17927 k => ?_) (fun h17927 k => ?_)
      · refine sX1_joined_210 (d := d) M l4 l6 l8 hw ?_
        refine zite k (fun h17928 k => ?_) (fun h17928 k => ?_)
        · refine sX1_joined_232 (d := d) M l4 l6 (0 : Int64) l4 hw ?_
          exact k
        · refine sX1_joined_232 (d := d) M l4 l6 (zls l8 (16 : Int32)) l4 hw ?_
          exact k
      · refine sX1_joined_210 (d := d) M ((l4 &&& (-129 : Int64)) ||| (256 : Int64)) l6 l8 hw ?_
        refine zite k (fun h17933 k => ?_) (fun h17933 k => ?_)
        · refine sX1_joined_232 (d := d) M ((l4 &&& (-129 : Int64)) ||| (256 : Int64)) l6 (0 : Int64) ((l4 &&& (-129 : Int64)) ||| (256 : Int64)) hw ?_
          exact k
        · refine sX1_joined_232 (d := d) M ((l4 &&& (-129 : Int64)) ||| (256 : Int64)) l6 (zls l8 (16 : Int32)) ((l4 &&& (-129 : Int64)) ||| (256 : Int64)) hw ?_
          exact k
  · refine sX1_joined_210 (d := d) M (l4 &&& (-129 : Int64)) l6 l8 hw ?_
    refine zite k (fun h17938 k => ?_) (fun h17938 k => ?_)
    · refine sX1_joined_232 (d := d) M (l4 &&& (-129 : Int64)) l6 (0 : Int64) (l4 &&& (-129 : Int64)) hw ?_
      exact k
    · refine sX1_joined_232 (d := d) M (l4 &&& (-129 : Int64)) l6 (zls l8 (16 : Int32)) (l4 &&& (-129 : Int64)) hw ?_
      exact k
theorem iX1_link_0 {E : zE} {d : Nat} {Q : zO → zM → Prop} (M : zM) (l1 : Int32) (l2 : Int32) (l3 : Int32) (hw : cw M) (k : if (gi M 16 62) = 0 then (Q (.inl (some (vl (0 : Int64)))) M) else (if l1 < 0 then (Q (.inl (some (vl (0 : Int64)))) M) else (if (gi M 16 75) ≤ l1 then (Q (.inl (some (vl (0 : Int64)))) M) else (∃ b17946 : Nat, (gr M 16 59) = some (b17946, 6, 0) ∧ (∃ b17947 m17947 : Nat, (gr M b17946 9) = some (b17947, 100, m17947) ∧ (vp_in l1 m17947 ∧ (if (gi M b17947 (l1).toNatClampNeg) = (-1 : Int32) then (Q (.inl (some (vl (0 : Int64)))) M) else (if l2 < (-1 : Int32) then (Q (.inl (some (vl (0 : Int64)))) M) else (if l2 < (gi M 16 11) then (if l2 = (-1 : Int32) then (if l3 = (3 : Int32) then (∃ b17954 m17954 : Nat, (gr M b17946 14) = some (b17954, 105, m17954) ∧ (vp_in l1 m17954 ∧ (Q (.inl (some (vl (gl M b17954 (l1).toNatClampNeg)))) M))) else (if l3 = (4 : Int32) then (∃ b17957 m17957 : Nat, (gr M b17946 15) = some (b17957, 105, m17957) ∧ (vp_in l1 m17957 ∧ (Q (.inl (some (vl (gl M b17957 (l1).toNatClampNeg)))) M))) else (Q (.inl (some (vl (0 : Int64)))) M))) else (if l3 = 0 then (∃ b17960 m17960 : Nat, (gr M b17946 4) = some (b17960, 105, m17960) ∧ (vp_in ((l1 * (gi M 16 11)) + l2) m17960 ∧ (Q (.inl (some (vl (gl M b17960 (((l1 * (gi M 16 11)) + l2)).toNatClampNeg)))) M))) else (if l3 = 1 then (∃ b17963 m17963 : Nat, (gr M b17946 5) = some (b17963, 105, m17963) ∧ (vp_in ((l1 * (gi M 16 11)) + l2) m17963 ∧ (Q (.inl (some (vl (gl M b17963 (((l1 * (gi M 16 11)) + l2)).toNatClampNeg)))) M))) else (if l3 = 2 then (∃ b17966 m17966 : Nat, (gr M b17946 8) = some (b17966, 101, m17966) ∧ (vp_in ((l1 * (gi M 16 11)) + l2) m17966 ∧ (Q (.inl (some (vl ((((gi M b17966 (((l1 * (gi M 16 11)) + l2)).toNatClampNeg) >>> ((1 : Int32) &&& 31)) &&& (1 : Int32))).toInt64))) M))) else (if l3 = 3 then (∃ b17969 m17969 : Nat, (gr M b17946 6) = some (b17969, 105, m17969) ∧ (vp_in ((l1 * (gi M 16 11)) + l2) m17969 ∧ (Q (.inl (some (vl (gl M b17969 (((l1 * (gi M 16 11)) + l2)).toNatClampNeg)))) M))) else (if l3 = 4 then (∃ b17972 m17972 : Nat, (gr M b17946 7) = some (b17972, 105, m17972) ∧ (vp_in ((l1 * (gi M 16 11)) + l2) m17972 ∧ (Q (.inl (some (vl (gl M b17972 (((l1 * (gi M 16 11)) + l2)).toNatClampNeg)))) M))) else (if l3 = 5 then (∃ b17975 m17975 : Nat, (gr M b17946 8) = some (b17975, 101, m17975) ∧ (vp_in ((l1 * (gi M 16 11)) + l2) m17975 ∧ (Q (.inl (some (vl (((gi M b17975 (((l1 * (gi M 16 11)) + l2)).toNatClampNeg) &&& (1 : Int32))).toInt64))) M))) else (Q (.inl (some (vl (0 : Int64)))) M)))))))) else (Q (.inl (some (vl (0 : Int64)))) M)))))))))) : Z E YX1_link (d + 1) M [(0, vr (some (16, 0, 0))), (1, vi l1), (2, vi l2), (3, vi l3)] 0 [] Q := by
  refine sX1_link_0 (d := d) M l1 l2 l3 hw ?_
  refine sX1_isReached_0 (d := d) M l1 hw ?_
  refine zite k (fun h17943 k => ?_) (fun h17943 k => ?_)
  · show Z E YX1_link (d + 1) M [(0, vr (some (16, 0, 0))), (1, vi l1), (2, vi l2), (3, vi l3)] 5 [vi (0 : Int32)] Q
    refine sX1_link_5 (d := d) M l1 l2 l3 (0 : Int32) hw ?_
    refine zpos (show (0 : Int32) = 0 from by decide) ?_
    exact k
  · refine zite k (fun h17944 k => ?_) (fun h17944 k => ?_)
    · show Z E YX1_link (d + 1) M [(0, vr (some (16, 0, 0))), (1, vi l1), (2, vi l2), (3, vi l3)] 5 [vi (0 : Int32)] Q
      refine sX1_link_5 (d := d) M l1 l2 l3 (0 : Int32) hw ?_
      refine zpos (show (0 : Int32) = 0 from by decide) ?_
      exact k
    · refine zite k (fun h17945 k => ?_) (fun h17945 k => ?_)
      · show Z E YX1_link (d + 1) M [(0, vr (some (16, 0, 0))), (1, vi l1), (2, vi l2), (3, vi l3)] 5 [vi (0 : Int32)] Q
        refine sX1_link_5 (d := d) M l1 l2 l3 (0 : Int32) hw ?_
        refine zpos (show (0 : Int32) = 0 from by decide) ?_
        exact k
      · obtain ⟨b17946, h17946, k⟩ := k
        refine ⟨b17946, h17946, ?_⟩
        obtain ⟨b17947, m17947, h17947, k⟩ := k
        refine ⟨b17947, m17947, h17947, ?_⟩
        refine zand k (fun h17948 k => ?_)
        refine zite k (fun h17949 k => ?_) (fun h17949 k => ?_)
        · show Z E YX1_link (d + 1) M [(0, vr (some (16, 0, 0))), (1, vi l1), (2, vi l2), (3, vi l3)] 5 [vi (0 : Int32)] Q
          refine sX1_link_5 (d := d) M l1 l2 l3 (0 : Int32) hw ?_
          refine zpos (show (0 : Int32) = 0 from by decide) ?_
          exact k
        · show Z E YX1_link (d + 1) M [(0, vr (some (16, 0, 0))), (1, vi l1), (2, vi l2), (3, vi l3)] 5 [vi (1 : Int32)] Q
          refine sX1_link_5 (d := d) M l1 l2 l3 (1 : Int32) hw ?_
          refine zneg (show ¬ ((1 : Int32) = 0) from by decide) ?_
          refine zite k (fun h17950 k => ?_) (fun h17950 k => ?_)
          · exact k
          · refine zite k (fun h17951 k => ?_) (fun h17951 k => ?_)
            · refine zite k (fun h17952 k => ?_) (fun h17952 k => ?_)
              · refine zite k (fun h17953 k => ?_) (fun h17953 k => ?_)
                · refine ⟨b17946, h17946, ?_⟩
                  exact k
                · refine zite k (fun h17956 k => ?_) (fun h17956 k => ?_)
                  · refine ⟨b17946, h17946, ?_⟩
                    exact k
                  · exact k
              · refine zite k (fun h17959 k => ?_) (fun h17959 k => ?_)
                · refine ⟨b17946, h17946, ?_⟩
                  exact k
                · refine zite k (fun h17962 k => ?_) (fun h17962 k => ?_)
                  · refine ⟨b17946, h17946, ?_⟩
                    exact k
                  · refine zite k (fun h17965 k => ?_) (fun h17965 k => ?_)
                    · refine ⟨b17946, h17946, ?_⟩
                      exact k
                    · refine zite k (fun h17968 k => ?_) (fun h17968 k => ?_)
                      · refine ⟨b17946, h17946, ?_⟩
                        exact k
                      · refine zite k (fun h17971 k => ?_) (fun h17971 k => ?_)
                        · refine ⟨b17946, h17946, ?_⟩
                          exact k
                        · refine zite k (fun h17974 k => ?_) (fun h17974 k => ?_)
                          · refine ⟨b17946, h17946, ?_⟩
                            exact k
                          · exact k
            · exact k
theorem iX1_masks_97 {E : zE} {d : Nat} {Q : zO → zM → Prop} (M : zM) (l1 : Int32) (hw : cw M) (k : if (gi M 16 12) ≤ l1 then (Z E YX1_masks ((d + 1) + 1) M [(0, vr (some (16, 0, 0))), (1, vi (1 : Int32))] 165 [] Q) else (vp_in l1 20 ∧ (vp_in (gi M 36 (l1).toNatClampNeg) 600 ∧ (if (gi M 30 ((gi M 36 (l1).toNatClampNeg)).toNatClampNeg) = (8 : Int32) then (∃ b18003 : Nat, (gr M 16 8) = some (b18003, 11, 0) ∧ (Z E YX1_bit (d + 1) M (zargs 0 [vr (some (16, 0, 0)), vi (((29 : Int32) + ((6 : Int32) * ((gi M b18003 2) - (1 : Int32)))) + ((2 : Int32) * l1)), vi (1 : Int32), vi (2 : Int32)]) 0 [] (zafter E YX1_masks ((d + 1) + 1) [(0, vr (some (16, 0, 0))), (1, vi l1), (2, vi (1 : Int32))] 141 3 [] Q))) else (∃ b18004 : Nat, (gr M 16 8) = some (b18004, 11, 0) ∧ (Z E YX1_bit (d + 1) M (zargs 0 [vr (some (16, 0, 0)), vi (((29 : Int32) + ((6 : Int32) * ((gi M b18004 2) - (1 : Int32)))) + ((2 : Int32) * l1)), vi (0 : Int32), vi (2 : Int32)]) 0 [] (zafter E YX1_masks ((d + 1) + 1) [(0, vr (some (16, 0, 0))), (1, vi l1), (2, vi (0 : Int32))] 141 3 [] Q))))))) : Z E YX1_masks (d + 2) M [(0, vr (some (16, 0, 0))), (1, vi l1)] 97 [] Q := by
  refine sX1_masks_97 (d := (d + 1)) M l1 hw ?_
  refine zite k (fun h17999 k => ?_) (fun h17999 k => ?_)
  · exact k
  · refine zand k (fun h18000 k => ?_)
    refine zand k (fun h18001 k => ?_)
    refine zite k (fun h18002 k => ?_) (fun h18002 k => ?_)
    · refine jX1_sitePair (d := d) M l1 hw ?_
      obtain ⟨b18003, h18003, k⟩ := k
      refine ⟨b18003, h18003, ?_⟩
      show Z E YX1_masks ((d + 1) + 1) M [(0, vr (some (16, 0, 0))), (1, vi l1), (2, vi (1 : Int32))] 139 [vi (((29 : Int32) + ((6 : Int32) * ((gi M b18003 2) - (1 : Int32)))) + ((2 : Int32) * l1)), vr (some (16, 0, 0))] Q
      refine sX1_masks_139 (d := (d + 1)) M l1 (1 : Int32) (((29 : Int32) + ((6 : Int32) * ((gi M b18003 2) - (1 : Int32)))) + ((2 : Int32) * l1)) hw ?_
      exact k
    · refine jX1_sitePair (d := d) M l1 hw ?_
      obtain ⟨b18004, h18004, k⟩ := k
      refine ⟨b18004, h18004, ?_⟩
      show Z E YX1_masks ((d + 1) + 1) M [(0, vr (some (16, 0, 0))), (1, vi l1), (2, vi (0 : Int32))] 139 [vi (((29 : Int32) + ((6 : Int32) * ((gi M b18004 2) - (1 : Int32)))) + ((2 : Int32) * l1)), vr (some (16, 0, 0))] Q
      refine sX1_masks_139 (d := (d + 1)) M l1 (0 : Int32) (((29 : Int32) + ((6 : Int32) * ((gi M b18004 2) - (1 : Int32)))) + ((2 : Int32) * l1)) hw ?_
      exact k
theorem iX1_masks_165 {E : zE} {d : Nat} {Q : zO → zM → Prop} (M : zM) (l1 : Int32) (hw : cw M) (k : ∃ b18005 : Nat, (gr M 16 8) = some (b18005, 11, 0) ∧ (if (gi M b18005 2) ≤ l1 then (Q (.inl none) M) else (Z E YX1_bit d M (zargs 0 [vr (some (16, 0, 0)), vi (((29 : Int32) + ((6 : Int32) * (l1 - (1 : Int32)))) + (2 : Int32)), vi (1 : Int32), vi (3 : Int32)]) 0 [] (zafter E YX1_masks (d + 1) [(0, vr (some (16, 0, 0))), (1, vi l1)] 186 3 [] Q)))) : Z E YX1_masks (d + 1) M [(0, vr (some (16, 0, 0))), (1, vi l1)] 165 [] Q := by
  refine sX1_masks_165 (d := d) M l1 hw ?_
  obtain ⟨b18005, h18005, k⟩ := k
  refine ⟨b18005, h18005, ?_⟩
  refine sJ2_size_0 (d := d) M b18005 ?_
  show Z E YX1_masks (d + 1) M [(0, vr (some (16, 0, 0))), (1, vi l1)] 173 [vi (gi M b18005 2), vi l1] Q
  refine sX1_masks_173 (d := d) M l1 (gi M b18005 2) l1 hw ?_
  refine zite k (fun h18006 k => ?_) (fun h18006 k => ?_)
  · exact k
  · refine sX1_scopePair_0 (d := d) M l1 hw ?_
    show Z E YX1_masks (d + 1) M [(0, vr (some (16, 0, 0))), (1, vi l1)] 182 [vi ((29 : Int32) + ((6 : Int32) * (l1 - (1 : Int32)))), vr (some (16, 0, 0))] Q
    refine sX1_masks_182 (d := d) M l1 ((29 : Int32) + ((6 : Int32) * (l1 - (1 : Int32)))) hw ?_
    exact k
theorem iX1_masks_144 {E : zE} {d : Nat} {Q : zO → zM → Prop} (M : zM) (l1 : Int32) (l2 : Int32) (hw : cw M) (k : ∃ b18007 : Nat, (gr M 16 8) = some (b18007, 11, 0) ∧ (Z E YX1_bit (d + 1) M (zargs 0 [vr (some (16, 0, 0)), vi ((((29 : Int32) + ((6 : Int32) * ((gi M b18007 2) - (1 : Int32)))) + ((2 : Int32) * l1)) + (1 : Int32)), vi l2, vi (2 : Int32)]) 0 [] (zafter E YX1_masks ((d + 1) + 1) [(0, vr (some (16, 0, 0))), (1, vi l1)] 154 3 [] Q))) : Z E YX1_masks (d + 2) M [(0, vr (some (16, 0, 0))), (1, vi l1), (2, vi l2)] 144 [] Q := by
  refine sX1_masks_144 (d := (d + 1)) M l1 l2 hw ?_
  refine jX1_sitePair (d := d) M l1 hw ?_
  obtain ⟨b18007, h18007, k⟩ := k
  refine ⟨b18007, h18007, ?_⟩
  show Z E YX1_masks ((d + 1) + 1) M [(0, vr (some (16, 0, 0))), (1, vi l1), (2, vi l2)] 150 [vi (((29 : Int32) + ((6 : Int32) * ((gi M b18007 2) - (1 : Int32)))) + ((2 : Int32) * l1)), vr (some (16, 0, 0))] Q
  refine sX1_masks_150 (d := (d + 1)) M l1 l2 (((29 : Int32) + ((6 : Int32) * ((gi M b18007 2) - (1 : Int32)))) + ((2 : Int32) * l1)) hw ?_
  exact k
theorem iX1_masks_189 {E : zE} {d : Nat} {Q : zO → zM → Prop} (M : zM) (l1 : Int32) (hw : cw M) (k : Z E YX1_bit d M (zargs 0 [vr (some (16, 0, 0)), vi (((29 : Int32) + ((6 : Int32) * (l1 - (1 : Int32)))) + (3 : Int32)), vi (1 : Int32), vi (3 : Int32)]) 0 [] (zafter E YX1_masks (d + 1) [(0, vr (some (16, 0, 0))), (1, vi l1)] 199 3 [] Q)) : Z E YX1_masks (d + 1) M [(0, vr (some (16, 0, 0))), (1, vi l1)] 189 [] Q := by
  refine sX1_masks_189 (d := d) M l1 hw ?_
  refine sX1_scopePair_0 (d := d) M l1 hw ?_
  show Z E YX1_masks (d + 1) M [(0, vr (some (16, 0, 0))), (1, vi l1)] 195 [vi ((29 : Int32) + ((6 : Int32) * (l1 - (1 : Int32)))), vr (some (16, 0, 0))] Q
  refine sX1_masks_195 (d := d) M l1 ((29 : Int32) + ((6 : Int32) * (l1 - (1 : Int32)))) hw ?_
  exact k
theorem jX43_push {E : zE} {d : Nat} {Q : zO → zM → Prop} (M : zM) (a0 : Nat) (r1 : Option zP) (k : ∃ b18017 : Nat, r1 = some (b18017, 4, 0) ∧ (∃ b18018 m18018 : Nat, (gr M a0 10) = some (b18018, 105, m18018) ∧ (16 ≤ b18018 ∧ (vp_in (gi M a0 13) m18018 ∧ (∃ b18021 m18021 : Nat, (gr M a0 11) = some (b18021, 105, m18021) ∧ (16 ≤ b18021 ∧ (vp_in (gi M a0 13) m18021 ∧ (16 ≤ a0 ∧ (∃ b18025 m18025 : Nat, (gr M a0 12) = some (b18025, 105, m18025) ∧ (16 ≤ b18025 ∧ (vp_in (gi M a0 13) m18025 ∧ (Q (.inl none) (sl (si (sl (sl M b18018 ((gi M a0 13)).toNatClampNeg (gl M b18017 0)) b18021 ((gi M a0 13)).toNatClampNeg (gl M b18017 1)) a0 13 ((gi M a0 13) + (1 : Int32))) b18025 ((gi M a0 13)).toNatClampNeg ((gl M b18017 2) &&& (-513 : Int64))))))))))))))) : Z E YX43_push (d + 1) M [(0, vr (some (a0, 7, 0))), (1, vr r1)] 0 [] Q := by
  refine sX43_push_0 (d := d) M a0 r1 ?_
  obtain ⟨b18017, h18017, k⟩ := k
  refine ⟨b18017, h18017, ?_⟩
  refine sX43_push_2_0 (d := d) M _ (gl M b18017 0) (gl M b18017 1) ((gl M b18017 2) &&& (-513 : Int64)) ?_
  obtain ⟨b18018, m18018, h18018, k⟩ := k
  refine ⟨b18018, m18018, h18018, ?_⟩
  refine zand k (fun h18019 k => ?_)
  refine zand k (fun h18020 k => ?_)
  obtain ⟨b18021, m18021, h18021, k⟩ := k
  refine ⟨b18021, m18021, h18021, ?_⟩
  refine zand k (fun h18022 k => ?_)
  refine zand k (fun h18023 k => ?_)
  refine zand k (fun h18024 k => ?_)
  obtain ⟨b18025, m18025, h18025, k⟩ := k
  refine ⟨b18025, m18025, h18025, ?_⟩
  refine zand k (fun h18026 k => ?_)
  refine zand k (fun h18027 k => ?_)
  show Z E YX43_push (d + 1) (sl (si (sl (sl M b18018 ((gi M a0 13)).toNatClampNeg (gl M b18017 0)) b18021 ((gi M a0 13)).toNatClampNeg (gl M b18017 1)) a0 13 ((gi M a0 13) + (1 : Int32))) b18025 ((gi M a0 13)).toNatClampNeg ((gl M b18017 2) &&& (-513 : Int64))) [] 20 [] Q
  refine sX43_push_20 (d := d) (sl (si (sl (sl M b18018 ((gi M a0 13)).toNatClampNeg (gl M b18017 0)) b18021 ((gi M a0 13)).toNatClampNeg (gl M b18017 1)) a0 13 ((gi M a0 13) + (1 : Int32))) b18025 ((gi M a0 13)).toNatClampNeg ((gl M b18017 2) &&& (-513 : Int64)))  ?_
  exact k
theorem iX1_nextWith_4 {E : zE} {d : Nat} {Q : zO → zM → Prop} (M : zM) (a1 : Nat) (s0 : Int32) (hw : cw M) (k : if s0 = 0 then (∃ b18070 : Nat, (gr M 16 60) = some (b18070, 7, 0) ∧ (∃ b18071 m18071 : Nat, (gr M b18070 10) = some (b18071, 105, m18071) ∧ (16 ≤ b18071 ∧ (vp_in (gi M b18070 13) m18071 ∧ (∃ b18074 m18074 : Nat, (gr M b18070 11) = some (b18074, 105, m18074) ∧ (16 ≤ b18074 ∧ (vp_in (gi M b18070 13) m18074 ∧ (16 ≤ b18070 ∧ (∃ b18078 m18078 : Nat, (gr M b18070 12) = some (b18078, 105, m18078) ∧ (16 ≤ b18078 ∧ (vp_in (gi M b18070 13) m18078 ∧ (Z E YX1_next (d + 1) (sl (si (sl (sl M b18071 ((gi M b18070 13)).toNatClampNeg (gl M a1 0)) b18074 ((gi M b18070 13)).toNatClampNeg (gl M a1 1)) b18070 13 ((gi M b18070 13) + (1 : Int32))) b18078 ((gi M b18070 13)).toNatClampNeg ((gl M a1 2) &&& (-513 : Int64))) (zargs 0 [vr (some (16, 0, 0)), vi ((gi (si (sl (sl M b18071 ((gi M b18070 13)).toNatClampNeg (gl M a1 0)) b18074 ((gi M b18070 13)).toNatClampNeg (gl M a1 1)) b18070 13 ((gi M b18070 13) + (1 : Int32))) 16 76) + (1 : Int32))]) 0 [] (zafter E YX1_nextWith ((d + 1) + 1) [(0, vr (some (16, 0, 0)))] 23 3 [] Q))))))))))))) else (Q (.inl none) M)) : Z E YX1_nextWith (d + 2) M [(0, vr (some (16, 0, 0))), (1, vr (some (a1, 4, 0)))] 4 [vi s0] Q := by
  refine sX1_nextWith_4 (d := (d + 1)) M a1 s0 hw ?_
  refine zite k (fun h18069 k => ?_) (fun h18069 k => ?_)
  · obtain ⟨b18070, h18070, k⟩ := k
    refine ⟨b18070, h18070, ?_⟩
    refine jX43_push (d := d) M b18070 (some (a1, 4, 0)) ?_
    refine ⟨a1, rfl, ?_⟩
    obtain ⟨b18071, m18071, h18071, k⟩ := k
    refine ⟨b18071, m18071, h18071, ?_⟩
    refine zand k (fun h18072 k => ?_)
    refine zand k (fun h18073 k => ?_)
    obtain ⟨b18074, m18074, h18074, k⟩ := k
    refine ⟨b18074, m18074, h18074, ?_⟩
    refine zand k (fun h18075 k => ?_)
    refine zand k (fun h18076 k => ?_)
    refine zand k (fun h18077 k => ?_)
    obtain ⟨b18078, m18078, h18078, k⟩ := k
    refine ⟨b18078, m18078, h18078, ?_⟩
    refine zand k (fun h18079 k => ?_)
    refine zand k (fun h18080 k => ?_)
    show Z E YX1_nextWith ((d + 1) + 1) (sl (si (sl (sl M b18071 ((gi M b18070 13)).toNatClampNeg (gl M a1 0)) b18074 ((gi M b18070 13)).toNatClampNeg (gl M a1 1)) b18070 13 ((gi M b18070 13) + (1 : Int32))) b18078 ((gi M b18070 13)).toNatClampNeg ((gl M a1 2) &&& (-513 : Int64))) [(0, vr (some (16, 0, 0)))] 16 [] Q
    refine sX1_nextWith_16 (d := (d + 1)) (sl (si (sl (sl M b18071 ((gi M b18070 13)).toNatClampNeg (gl M a1 0)) b18074 ((gi M b18070 13)).toNatClampNeg (gl M a1 1)) b18070 13 ((gi M b18070 13) + (1 : Int32))) b18078 ((gi M b18070 13)).toNatClampNeg ((gl M a1 2) &&& (-513 : Int64))) hw ?_
    exact k
  · exact k
theorem jX1_letter {E : zE} {d : Nat} {Q : zO → zM → Prop} (M : zM) (l1 : Int32) (l2 : Int32) (hw : cw M) (k : if (gi M 16 10) = 0 then (Q (.inl (some (vi (-1 : Int32)))) M) else (if l1 < 0 then (Q (.inl (some (vi (-1 : Int32)))) M) else (if (gi M 17 2) ≤ l1 then (Q (.inl (some (vi (-1 : Int32)))) M) else (if l2 < 0 then (Q (.inl (some (vi (-1 : Int32)))) M) else (∃ b18094 m18094 : Nat, (gr M 17 1) = some (b18094, 100, m18094) ∧ (vp_in (l1 + (1 : Int32)) m18094 ∧ (vp_in l1 m18094 ∧ (if l2 < ((gi M b18094 ((l1 + (1 : Int32))).toNatClampNeg) - (gi M b18094 (l1).toNatClampNeg)) then (∃ b18098 m18098 : Nat, (gr M 17 0) = some (b18098, 101, m18098) ∧ (vp_in ((gi M b18094 (l1).toNatClampNeg) + l2) m18098 ∧ (Q (.inl (some (vi (gi M b18098 (((gi M b18094 (l1).toNatClampNeg) + l2)).toNatClampNeg)))) M))) else (Q (.inl (some (vi (-1 : Int32)))) M))))))))) : Z E YX1_letter (d + 1) M [(0, vr (some (16, 0, 0))), (1, vi l1), (2, vi l2)] 0 [] Q := by
  refine sX1_letter_0 (d := d) M l1 l2 hw ?_
  refine zite k (fun h18090 k => ?_) (fun h18090 k => ?_)
  · refine sX1_letter_51 (d := d) M (-1 : Int32) hw ?_
    exact k
  · refine zite k (fun h18091 k => ?_) (fun h18091 k => ?_)
    · refine sX1_letter_51 (d := d) M (-1 : Int32) hw ?_
      exact k
    · refine zite k (fun h18092 k => ?_) (fun h18092 k => ?_)
      · refine sX1_letter_51 (d := d) M (-1 : Int32) hw ?_
        exact k
      · refine zite k (fun h18093 k => ?_) (fun h18093 k => ?_)
        · refine sX1_letter_51 (d := d) M (-1 : Int32) hw ?_
          exact k
        · refine jX2_length (d := d) M 17 l1 ?_
          obtain ⟨b18094, m18094, h18094, k⟩ := k
          refine ⟨b18094, m18094, h18094, ?_⟩
          refine zand k (fun h18095 k => ?_)
          refine zand k (fun h18096 k => ?_)
          show Z E YX1_letter (d + 1) M [(0, vr (some (16, 0, 0))), (1, vi l1), (2, vi l2)] 35 [vi ((gi M b18094 ((l1 + (1 : Int32))).toNatClampNeg) - (gi M b18094 (l1).toNatClampNeg)), vi l2] Q
          refine sX1_letter_35 (d := d) M l1 l2 ((gi M b18094 ((l1 + (1 : Int32))).toNatClampNeg) - (gi M b18094 (l1).toNatClampNeg)) l2 hw ?_
          refine zite k (fun h18097 k => ?_) (fun h18097 k => ?_)
          · refine sX2_sign_0 (d := d) M 17 l1 l2 ?_
            refine ⟨b18094, m18094, h18094, ?_⟩
            refine ⟨h18096, ?_⟩
            obtain ⟨b18098, m18098, h18098, k⟩ := k
            refine ⟨b18098, m18098, h18098, ?_⟩
            refine zand k (fun h18099 k => ?_)
            show Z E YX1_letter (d + 1) M [] 51 [vi (gi M b18098 (((gi M b18094 (l1).toNatClampNeg) + l2)).toNatClampNeg)] Q
            refine sX1_letter_51 (d := d) M (gi M b18098 (((gi M b18094 (l1).toNatClampNeg) + l2)).toNatClampNeg) hw ?_
            exact k
          · refine sX1_letter_51 (d := d) M (-1 : Int32) hw ?_
            exact k
theorem iX1_printed_0 {E : zE} {d : Nat} {Q : zO → zM → Prop} (M : zM) (l1 : Int32) (l2 : Int32) (hw : cw M) (k : if (gi M 16 51) = 0 then (Q (.inl (some (vi (-1 : Int32)))) M) else (if l1 < 0 then (Q (.inl (some (vi (-1 : Int32)))) M) else (if l1 < (gi M 16 53) then (if l2 = (-1 : Int32) then (vp_in l1 100 ∧ (Q (.inl (some (vi (gi M 67 (l1).toNatClampNeg)))) M)) else (vp_in l1 100 ∧ (if (gi M 16 10) = 0 then (Q (.inl (some (vi (-1 : Int32)))) M) else (if (gi M 67 (l1).toNatClampNeg) < 0 then (Q (.inl (some (vi (-1 : Int32)))) M) else (if (gi M 17 2) ≤ (gi M 67 (l1).toNatClampNeg) then (Q (.inl (some (vi (-1 : Int32)))) M) else (if l2 < 0 then (Q (.inl (some (vi (-1 : Int32)))) M) else (∃ b18110 m18110 : Nat, (gr M 17 1) = some (b18110, 100, m18110) ∧ (vp_in ((gi M 67 (l1).toNatClampNeg) + (1 : Int32)) m18110 ∧ (vp_in (gi M 67 (l1).toNatClampNeg) m18110 ∧ (if l2 < ((gi M b18110 (((gi M 67 (l1).toNatClampNeg) + (1 : Int32))).toNatClampNeg) - (gi M b18110 ((gi M 67 (l1).toNatClampNeg)).toNatClampNeg)) then (∃ b18114 m18114 : Nat, (gr M 17 0) = some (b18114, 101, m18114) ∧ (vp_in ((gi M b18110 ((gi M 67 (l1).toNatClampNeg)).toNatClampNeg) + l2) m18114 ∧ (Q (.inl (some (vi (gi M b18114 (((gi M b18110 ((gi M 67 (l1).toNatClampNeg)).toNatClampNeg) + l2)).toNatClampNeg)))) M))) else (Q (.inl (some (vi (-1 : Int32)))) M))))))))))) else (Q (.inl (some (vi (-1 : Int32)))) M)))) : Z E YX1_printed (d + 2) M [(0, vr (some (16, 0, 0))), (1, vi l1), (2, vi l2)] 0 [] Q := by
  refine sX1_printed_0 (d := (d + 1)) M l1 l2 hw ?_
  refine zite k (fun h18100 k => ?_) (fun h18100 k => ?_)
  · exact k
  · refine zite k (fun h18101 k => ?_) (fun h18101 k => ?_)
    · exact k
    · refine zite k (fun h18102 k => ?_) (fun h18102 k => ?_)
      · refine zite k (fun h18103 k => ?_) (fun h18103 k => ?_)
        · refine zand k (fun h18104 k => ?_)
          refine sX1_printed_46 (d := (d + 1)) M (gi M 67 (l1).toNatClampNeg) hw ?_
          exact k
        · refine zand k (fun h18105 k => ?_)
          refine jX1_letter (d := d) M (gi M 67 (l1).toNatClampNeg) l2 hw ?_
          refine zite k (fun h18106 k => ?_) (fun h18106 k => ?_)
          · show Z E YX1_printed ((d + 1) + 1) M [] 46 [vi (-1 : Int32)] Q
            refine sX1_printed_46 (d := (d + 1)) M (-1 : Int32) hw ?_
            exact k
          · refine zite k (fun h18107 k => ?_) (fun h18107 k => ?_)
            · show Z E YX1_printed ((d + 1) + 1) M [] 46 [vi (-1 : Int32)] Q
              refine sX1_printed_46 (d := (d + 1)) M (-1 : Int32) hw ?_
              exact k
            · refine zite k (fun h18108 k => ?_) (fun h18108 k => ?_)
              · show Z E YX1_printed ((d + 1) + 1) M [] 46 [vi (-1 : Int32)] Q
                refine sX1_printed_46 (d := (d + 1)) M (-1 : Int32) hw ?_
                exact k
              · refine zite k (fun h18109 k => ?_) (fun h18109 k => ?_)
                · show Z E YX1_printed ((d + 1) + 1) M [] 46 [vi (-1 : Int32)] Q
                  refine sX1_printed_46 (d := (d + 1)) M (-1 : Int32) hw ?_
                  exact k
                · obtain ⟨b18110, m18110, h18110, k⟩ := k
                  refine ⟨b18110, m18110, h18110, ?_⟩
                  refine zand k (fun h18111 k => ?_)
                  refine zand k (fun h18112 k => ?_)
                  refine zite k (fun h18113 k => ?_) (fun h18113 k => ?_)
                  · obtain ⟨b18114, m18114, h18114, k⟩ := k
                    refine ⟨b18114, m18114, h18114, ?_⟩
                    refine zand k (fun h18115 k => ?_)
                    show Z E YX1_printed ((d + 1) + 1) M [] 46 [vi (gi M b18114 (((gi M b18110 ((gi M 67 (l1).toNatClampNeg)).toNatClampNeg) + l2)).toNatClampNeg)] Q
                    refine sX1_printed_46 (d := (d + 1)) M (gi M b18114 (((gi M b18110 ((gi M 67 (l1).toNatClampNeg)).toNatClampNeg) + l2)).toNatClampNeg) hw ?_
                    exact k
                  · show Z E YX1_printed ((d + 1) + 1) M [] 46 [vi (-1 : Int32)] Q
                    refine sX1_printed_46 (d := (d + 1)) M (-1 : Int32) hw ?_
                    exact k
      · exact k
theorem iX1_result_0 {E : zE} {d : Nat} {Q : zO → zM → Prop} (M : zM) (l1 : Int32) (l2 : Int32) (l3 : Int32) (hw : cw M) (k : if (gi M 16 62) = 0 then (Q (.inl (some (vl (0 : Int64)))) M) else (if l1 < 0 then (Q (.inl (some (vl (0 : Int64)))) M) else (∃ b18118 : Nat, (gr M 16 8) = some (b18118, 11, 0) ∧ (if (gi M b18118 2) ≤ l1 then (Q (.inl (some (vl (0 : Int64)))) M) else (if l2 < 0 then (Q (.inl (some (vl (0 : Int64)))) M) else (if (1 : Int32) < l2 then (Q (.inl (some (vl (0 : Int64)))) M) else (∃ b18122 : Nat, (gr M 16 59) = some (b18122, 6, 0) ∧ (∃ b18123 m18123 : Nat, (gr M b18122 9) = some (b18123, 100, m18123) ∧ (vp_in (((gi M 16 75) + ((2 : Int32) * l1)) + l2) m18123 ∧ (if (gi M b18123 ((((gi M 16 75) + ((2 : Int32) * l1)) + l2)).toNatClampNeg) = (-1 : Int32) then (Q (.inl (some (vl (0 : Int64)))) M) else (∃ b18126 m18126 : Nat, (gr M b18122 10) = some (b18126, 100, m18126) ∧ (vp_in (((gi M 16 75) + ((2 : Int32) * l1)) + l2) m18126 ∧ (∃ b18128 m18128 : Nat, (gr M b18122 18) = some (b18128, 105, m18128) ∧ (vp_in (gi M b18126 ((((gi M 16 75) + ((2 : Int32) * l1)) + l2)).toNatClampNeg) m18128 ∧ (16 ≤ 71 ∧ (∃ b18131 m18131 : Nat, (gr M b18122 16) = some (b18131, 105, m18131) ∧ (vp_in (gi M b18126 ((((gi M 16 75) + ((2 : Int32) * l1)) + l2)).toNatClampNeg) m18131 ∧ (∃ b18133 m18133 : Nat, (gr M b18122 17) = some (b18133, 105, m18133) ∧ (vp_in (gi M b18126 ((((gi M 16 75) + ((2 : Int32) * l1)) + l2)).toNatClampNeg) m18133 ∧ (Z E YX6_join3 d (sl (sl (sl M 71 0 (0 : Int64)) 71 1 (0 : Int64)) 71 2 (gl M b18128 ((gi M b18126 ((((gi M 16 75) + ((2 : Int32) * l1)) + l2)).toNatClampNeg)).toNatClampNeg)) (zargs 0 [vr (some (71, 4, 0)), vl (gl (sl (sl (sl M 71 0 (0 : Int64)) 71 1 (0 : Int64)) 71 2 (gl M b18128 ((gi M b18126 ((((gi M 16 75) + ((2 : Int32) * l1)) + l2)).toNatClampNeg)).toNatClampNeg)) b18131 ((gi M b18126 ((((gi M 16 75) + ((2 : Int32) * l1)) + l2)).toNatClampNeg)).toNatClampNeg), vl (gl (sl (sl (sl M 71 0 (0 : Int64)) 71 1 (0 : Int64)) 71 2 (gl M b18128 ((gi M b18126 ((((gi M 16 75) + ((2 : Int32) * l1)) + l2)).toNatClampNeg)).toNatClampNeg)) b18133 ((gi M b18126 ((((gi M 16 75) + ((2 : Int32) * l1)) + l2)).toNatClampNeg)).toNatClampNeg), vl (0 : Int64)]) 0 [] (zafter E YX1_result (d + 1) [(3, vi l3)] 113 3 [] Q))))))))))))))))))))) : Z E YX1_result (d + 1) M [(0, vr (some (16, 0, 0))), (1, vi l1), (2, vi l2), (3, vi l3)] 0 [] Q := by
  refine sX1_result_0 (d := d) M l1 l2 l3 hw ?_
  refine zite k (fun h18116 k => ?_) (fun h18116 k => ?_)
  · exact k
  · refine zite k (fun h18117 k => ?_) (fun h18117 k => ?_)
    · exact k
    · obtain ⟨b18118, h18118, k⟩ := k
      refine ⟨b18118, h18118, ?_⟩
      refine sJ2_size_0 (d := d) M b18118 ?_
      show Z E YX1_result (d + 1) M [(0, vr (some (16, 0, 0))), (1, vi l1), (2, vi l2), (3, vi l3)] 19 [vi (gi M b18118 2), vi l1] Q
      refine sX1_result_19 (d := d) M l1 l2 l3 (gi M b18118 2) l1 hw ?_
      refine zite k (fun h18119 k => ?_) (fun h18119 k => ?_)
      · exact k
      · refine zite k (fun h18120 k => ?_) (fun h18120 k => ?_)
        · exact k
        · refine zite k (fun h18121 k => ?_) (fun h18121 k => ?_)
          · exact k
          · obtain ⟨b18122, h18122, k⟩ := k
            refine ⟨b18122, h18122, ?_⟩
            obtain ⟨b18123, m18123, h18123, k⟩ := k
            refine ⟨b18123, m18123, h18123, ?_⟩
            refine zand k (fun h18124 k => ?_)
            refine zite k (fun h18125 k => ?_) (fun h18125 k => ?_)
            · exact k
            · refine ⟨b18122, h18122, ?_⟩
              obtain ⟨b18126, m18126, h18126, k⟩ := k
              refine ⟨b18126, m18126, h18126, ?_⟩
              refine zand k (fun h18127 k => ?_)
              refine ⟨b18122, h18122, ?_⟩
              obtain ⟨b18128, m18128, h18128, k⟩ := k
              refine ⟨b18128, m18128, h18128, ?_⟩
              refine zand k (fun h18129 k => ?_)
              refine jX6_of (d := d) M 71 (gl M b18128 ((gi M b18126 ((((gi M 16 75) + ((2 : Int32) * l1)) + l2)).toNatClampNeg)).toNatClampNeg) ?_
              refine zand k (fun h18130 k => ?_)
              show Z E YX1_result (d + 1) (sl (sl (sl M 71 0 (0 : Int64)) 71 1 (0 : Int64)) 71 2 (gl M b18128 ((gi M b18126 ((((gi M 16 75) + ((2 : Int32) * l1)) + l2)).toNatClampNeg)).toNatClampNeg)) [(0, vr (some (16, 0, 0))), (3, vi l3), (4, vi (gi M b18126 ((((gi M 16 75) + ((2 : Int32) * l1)) + l2)).toNatClampNeg))] 92 [vr (some (71, 4, 0))] Q
              refine sX1_result_92 (d := d) (sl (sl (sl M 71 0 (0 : Int64)) 71 1 (0 : Int64)) 71 2 (gl M b18128 ((gi M b18126 ((((gi M 16 75) + ((2 : Int32) * l1)) + l2)).toNatClampNeg)).toNatClampNeg)) l3 (gi M b18126 ((((gi M 16 75) + ((2 : Int32) * l1)) + l2)).toNatClampNeg) (some (71, 4, 0)) hw ?_
              refine ⟨b18122, h18122, ?_⟩
              obtain ⟨b18131, m18131, h18131, k⟩ := k
              refine ⟨b18131, m18131, h18131, ?_⟩
              refine zand k (fun h18132 k => ?_)
              refine ⟨b18122, h18122, ?_⟩
              obtain ⟨b18133, m18133, h18133, k⟩ := k
              refine ⟨b18133, m18133, h18133, ?_⟩
              refine zand k (fun h18134 k => ?_)
              refine ⟨71, rfl, ?_⟩
              exact k
theorem iX1_slot_0 {E : zE} {d : Nat} {Q : zO → zM → Prop} (M : zM) (l1 : Int32) (l2 : Int32) (l3 : Int32) (hw : cw M) (k : if (gi M 16 62) = 0 then (Q (.inl (some (vl (0 : Int64)))) M) else (if l1 < 0 then (Q (.inl (some (vl (0 : Int64)))) M) else (if (gi M 16 75) ≤ l1 then (Q (.inl (some (vl (0 : Int64)))) M) else (∃ b18139 : Nat, (gr M 16 59) = some (b18139, 6, 0) ∧ (∃ b18140 m18140 : Nat, (gr M b18139 9) = some (b18140, 100, m18140) ∧ (vp_in l1 m18140 ∧ (if (gi M b18140 (l1).toNatClampNeg) = (-1 : Int32) then (Q (.inl (some (vl (0 : Int64)))) M) else (if l2 < (-1 : Int32) then (Q (.inl (some (vl (0 : Int64)))) M) else (if l2 < (gi M b18140 (l1).toNatClampNeg) then (if l2 = (-1 : Int32) then (∃ b18146 m18146 : Nat, (gr M b18139 13) = some (b18146, 105, m18146) ∧ (vp_in l1 m18146 ∧ (16 ≤ 71 ∧ (∃ b18149 m18149 : Nat, (gr M b18139 11) = some (b18149, 105, m18149) ∧ (vp_in l1 m18149 ∧ (∃ b18151 m18151 : Nat, (gr M b18139 12) = some (b18151, 105, m18151) ∧ (vp_in l1 m18151 ∧ (Z E YX6_join3 d (sl (sl (sl M 71 0 (0 : Int64)) 71 1 (0 : Int64)) 71 2 (gl M b18146 (l1).toNatClampNeg)) (zargs 0 [vr (some (71, 4, 0)), vl (gl (sl (sl (sl M 71 0 (0 : Int64)) 71 1 (0 : Int64)) 71 2 (gl M b18146 (l1).toNatClampNeg)) b18149 (l1).toNatClampNeg), vl (gl (sl (sl (sl M 71 0 (0 : Int64)) 71 1 (0 : Int64)) 71 2 (gl M b18146 (l1).toNatClampNeg)) b18151 (l1).toNatClampNeg), vl (0 : Int64)]) 0 [] (zafter E YX1_slot (d + 1) [(3, vi l3)] 68 3 [] Q))))))))) else (∃ b18153 m18153 : Nat, (gr M b18139 10) = some (b18153, 100, m18153) ∧ (vp_in l1 m18153 ∧ (∃ b18155 m18155 : Nat, (gr M b18139 18) = some (b18155, 105, m18155) ∧ (vp_in ((gi M b18153 (l1).toNatClampNeg) + l2) m18155 ∧ (16 ≤ 71 ∧ (∃ b18158 m18158 : Nat, (gr M b18139 16) = some (b18158, 105, m18158) ∧ (vp_in ((gi M b18153 (l1).toNatClampNeg) + l2) m18158 ∧ (∃ b18160 m18160 : Nat, (gr M b18139 17) = some (b18160, 105, m18160) ∧ (vp_in ((gi M b18153 (l1).toNatClampNeg) + l2) m18160 ∧ (Z E YX6_join3 d (sl (sl (sl M 71 0 (0 : Int64)) 71 1 (0 : Int64)) 71 2 (gl M b18155 (((gi M b18153 (l1).toNatClampNeg) + l2)).toNatClampNeg)) (zargs 0 [vr (some (71, 4, 0)), vl (gl (sl (sl (sl M 71 0 (0 : Int64)) 71 1 (0 : Int64)) 71 2 (gl M b18155 (((gi M b18153 (l1).toNatClampNeg) + l2)).toNatClampNeg)) b18158 (((gi M b18153 (l1).toNatClampNeg) + l2)).toNatClampNeg), vl (gl (sl (sl (sl M 71 0 (0 : Int64)) 71 1 (0 : Int64)) 71 2 (gl M b18155 (((gi M b18153 (l1).toNatClampNeg) + l2)).toNatClampNeg)) b18160 (((gi M b18153 (l1).toNatClampNeg) + l2)).toNatClampNeg), vl (0 : Int64)]) 0 [] (zafter E YX1_slot (d + 1) [(3, vi l3)] 127 3 [] Q)))))))))))) else (Q (.inl (some (vl (0 : Int64)))) M)))))))))) : Z E YX1_slot (d + 1) M [(0, vr (some (16, 0, 0))), (1, vi l1), (2, vi l2), (3, vi l3)] 0 [] Q := by
  refine sX1_slot_0 (d := d) M l1 l2 l3 hw ?_
  refine sX1_isReached_0 (d := d) M l1 hw ?_
  refine zite k (fun h18136 k => ?_) (fun h18136 k => ?_)
  · show Z E YX1_slot (d + 1) M [(0, vr (some (16, 0, 0))), (1, vi l1), (2, vi l2), (3, vi l3)] 5 [vi (0 : Int32)] Q
    refine sX1_slot_5 (d := d) M l1 l2 l3 (0 : Int32) hw ?_
    refine zpos (show (0 : Int32) = 0 from by decide) ?_
    exact k
  · refine zite k (fun h18137 k => ?_) (fun h18137 k => ?_)
    · show Z E YX1_slot (d + 1) M [(0, vr (some (16, 0, 0))), (1, vi l1), (2, vi l2), (3, vi l3)] 5 [vi (0 : Int32)] Q
      refine sX1_slot_5 (d := d) M l1 l2 l3 (0 : Int32) hw ?_
      refine zpos (show (0 : Int32) = 0 from by decide) ?_
      exact k
    · refine zite k (fun h18138 k => ?_) (fun h18138 k => ?_)
      · show Z E YX1_slot (d + 1) M [(0, vr (some (16, 0, 0))), (1, vi l1), (2, vi l2), (3, vi l3)] 5 [vi (0 : Int32)] Q
        refine sX1_slot_5 (d := d) M l1 l2 l3 (0 : Int32) hw ?_
        refine zpos (show (0 : Int32) = 0 from by decide) ?_
        exact k
      · obtain ⟨b18139, h18139, k⟩ := k
        refine ⟨b18139, h18139, ?_⟩
        obtain ⟨b18140, m18140, h18140, k⟩ := k
        refine ⟨b18140, m18140, h18140, ?_⟩
        refine zand k (fun h18141 k => ?_)
        refine zite k (fun h18142 k => ?_) (fun h18142 k => ?_)
        · show Z E YX1_slot (d + 1) M [(0, vr (some (16, 0, 0))), (1, vi l1), (2, vi l2), (3, vi l3)] 5 [vi (0 : Int32)] Q
          refine sX1_slot_5 (d := d) M l1 l2 l3 (0 : Int32) hw ?_
          refine zpos (show (0 : Int32) = 0 from by decide) ?_
          exact k
        · show Z E YX1_slot (d + 1) M [(0, vr (some (16, 0, 0))), (1, vi l1), (2, vi l2), (3, vi l3)] 5 [vi (1 : Int32)] Q
          refine sX1_slot_5 (d := d) M l1 l2 l3 (1 : Int32) hw ?_
          refine zneg (show ¬ ((1 : Int32) = 0) from by decide) ?_
          refine zite k (fun h18143 k => ?_) (fun h18143 k => ?_)
          · exact k
          · refine ⟨b18139, h18139, ?_⟩
            refine ⟨b18140, m18140, h18140, ?_⟩
            refine ⟨h18141, ?_⟩
            refine zite k (fun h18144 k => ?_) (fun h18144 k => ?_)
            · refine zite k (fun h18145 k => ?_) (fun h18145 k => ?_)
              · refine ⟨b18139, h18139, ?_⟩
                obtain ⟨b18146, m18146, h18146, k⟩ := k
                refine ⟨b18146, m18146, h18146, ?_⟩
                refine zand k (fun h18147 k => ?_)
                refine jX6_of (d := d) M 71 (gl M b18146 (l1).toNatClampNeg) ?_
                refine zand k (fun h18148 k => ?_)
                show Z E YX1_slot (d + 1) (sl (sl (sl M 71 0 (0 : Int64)) 71 1 (0 : Int64)) 71 2 (gl M b18146 (l1).toNatClampNeg)) [(0, vr (some (16, 0, 0))), (1, vi l1), (3, vi l3)] 49 [vr (some (71, 4, 0))] Q
                refine sX1_slot_49 (d := d) (sl (sl (sl M 71 0 (0 : Int64)) 71 1 (0 : Int64)) 71 2 (gl M b18146 (l1).toNatClampNeg)) l1 l3 (some (71, 4, 0)) hw ?_
                refine ⟨b18139, h18139, ?_⟩
                obtain ⟨b18149, m18149, h18149, k⟩ := k
                refine ⟨b18149, m18149, h18149, ?_⟩
                refine zand k (fun h18150 k => ?_)
                refine ⟨b18139, h18139, ?_⟩
                obtain ⟨b18151, m18151, h18151, k⟩ := k
                refine ⟨b18151, m18151, h18151, ?_⟩
                refine zand k (fun h18152 k => ?_)
                refine ⟨71, rfl, ?_⟩
                exact k
              · refine ⟨b18139, h18139, ?_⟩
                obtain ⟨b18153, m18153, h18153, k⟩ := k
                refine ⟨b18153, m18153, h18153, ?_⟩
                refine zand k (fun h18154 k => ?_)
                refine ⟨b18139, h18139, ?_⟩
                obtain ⟨b18155, m18155, h18155, k⟩ := k
                refine ⟨b18155, m18155, h18155, ?_⟩
                refine zand k (fun h18156 k => ?_)
                refine jX6_of (d := d) M 71 (gl M b18155 (((gi M b18153 (l1).toNatClampNeg) + l2)).toNatClampNeg) ?_
                refine zand k (fun h18157 k => ?_)
                show Z E YX1_slot (d + 1) (sl (sl (sl M 71 0 (0 : Int64)) 71 1 (0 : Int64)) 71 2 (gl M b18155 (((gi M b18153 (l1).toNatClampNeg) + l2)).toNatClampNeg)) [(0, vr (some (16, 0, 0))), (3, vi l3), (4, vi ((gi M b18153 (l1).toNatClampNeg) + l2))] 106 [vr (some (71, 4, 0))] Q
                refine sX1_slot_106 (d := d) (sl (sl (sl M 71 0 (0 : Int64)) 71 1 (0 : Int64)) 71 2 (gl M b18155 (((gi M b18153 (l1).toNatClampNeg) + l2)).toNatClampNeg)) l3 ((gi M b18153 (l1).toNatClampNeg) + l2) (some (71, 4, 0)) hw ?_
                refine ⟨b18139, h18139, ?_⟩
                obtain ⟨b18158, m18158, h18158, k⟩ := k
                refine ⟨b18158, m18158, h18158, ?_⟩
                refine zand k (fun h18159 k => ?_)
                refine ⟨b18139, h18139, ?_⟩
                obtain ⟨b18160, m18160, h18160, k⟩ := k
                refine ⟨b18160, m18160, h18160, ?_⟩
                refine zand k (fun h18161 k => ?_)
                refine ⟨71, rfl, ?_⟩
                exact k
            · exact k
theorem iX1_solve_74 {E : zE} {d : Nat} {Q : zO → zM → Prop} (M : zM) (hw : cw M) (k : ∃ b18170 : Nat, (gr M 16 8) = some (b18170, 11, 0) ∧ (∃ b18171 : Nat, (gr M 16 59) = some (b18171, 6, 0) ∧ (Z E YX42_clear d (si M 16 75 (gi M 29 7)) (zargs 0 [vr (some (b18171, 6, 0)), vi ((gi M 29 7) + ((2 : Int32) * (gi (si M 16 75 (gi M 29 7)) b18170 2)))]) 0 [] (zafter E YX1_solve (d + 1) [(0, vr (some (16, 0, 0))), (1, vi ((gi M 29 7) + ((2 : Int32) * (gi (si M 16 75 (gi M 29 7)) b18170 2))))] 105 3 [] Q)))) : Z E YX1_solve (d + 1) M [(0, vr (some (16, 0, 0)))] 74 [] Q := by
  refine sX1_solve_74 (d := d) M hw ?_
  obtain ⟨b18170, h18170, k⟩ := k
  refine ⟨b18170, h18170, ?_⟩
  refine sJ2_size_0 (d := d) (si M 16 75 (gi M 29 7)) b18170 ?_
  show Z E YX1_solve (d + 1) (si M 16 75 (gi M 29 7)) [(0, vr (some (16, 0, 0)))] 97 [vi (gi (si M 16 75 (gi M 29 7)) b18170 2), vi (2 : Int32), vi (gi M 29 7)] Q
  refine sX1_solve_97 (d := d) (si M 16 75 (gi M 29 7)) (gi (si M 16 75 (gi M 29 7)) b18170 2) (2 : Int32) (gi M 29 7) hw ?_
  exact k
theorem iX1_solve_110 {E : zE} {d : Nat} {Q : zO → zM → Prop} (M : zM) (l1 : Int32) (l2 : Int32) (hw : cw M) (k : if l1 ≤ l2 then (Z E YX1_atFirst d M (zargs 0 [vr (some (16, 0, 0))]) 0 [] (zafter E YX1_solve (d + 1) [(0, vr (some (16, 0, 0)))] 136 3 [] Q)) else (vp_in l2 624 ∧ (Z E YX1_solve (d + 1) (si (si M 68 (l2).toNatClampNeg (vp_nar .boolean (0 : Int32))) 69 (l2).toNatClampNeg (vp_nar .short (0 : Int32))) [(0, vr (some (16, 0, 0))), (1, vi l1), (2, vi (l2 + (1 : Int32)))] 110 [] Q))) : Z E YX1_solve (d + 1) M [(0, vr (some (16, 0, 0))), (1, vi l1), (2, vi l2)] 110 [] Q := by
  refine sX1_solve_110 (d := d) M l1 l2 hw ?_
  refine zite k (fun h18178 k => ?_) (fun h18178 k => ?_)
  · exact k
  · refine zand k (fun h18182 k => ?_)
    refine ⟨h18182, ?_⟩
    exact k
theorem iX1_solve_158 {E : zE} {d : Nat} {Q : zO → zM → Prop} (M : zM) (l2 : Int32) (l3 : Int32) (hw : cw M) (k : if (gi M 29 7) ≤ l3 then (Z E YX1_solve (d + 1) M [(0, vr (some (16, 0, 0))), (2, vi l2)] 150 [] Q) else (vp_in l3 624 ∧ (if (gi M 68 (l3).toNatClampNeg) = 0 then (Z E YX1_solve (d + 1) M [(0, vr (some (16, 0, 0))), (2, vi l2), (3, vi (l3 + (1 : Int32)))] 158 [] Q) else (∃ b18192 : Nat, (gr M 16 59) = some (b18192, 6, 0) ∧ (Z E YX42_load d (si M 68 (l3).toNatClampNeg (vp_nar .boolean (0 : Int32))) (zargs 0 [vr (some (b18192, 6, 0)), vi l3, vr (gr M 16 60)]) 0 [] (zafter E YX1_solve (d + 1) [(0, vr (some (16, 0, 0))), (2, vi (1 : Int32)), (3, vi l3)] 199 3 [] Q)))))) : Z E YX1_solve (d + 1) M [(0, vr (some (16, 0, 0))), (2, vi l2), (3, vi l3)] 158 [] Q := by
  refine sX1_solve_158 (d := d) M l2 l3 hw ?_
  refine zite k (fun h18189 k => ?_) (fun h18189 k => ?_)
  · exact k
  · refine zand k (fun h18190 k => ?_)
    refine zite k (fun h18191 k => ?_) (fun h18191 k => ?_)
    · exact k
    · refine ⟨h18190, ?_⟩
      exact k
theorem iX1_solve_202 {E : zE} {d : Nat} {Q : zO → zM → Prop} (M : zM) (l2 : Int32) (l3 : Int32) (hw : cw M) (k : vp_in l3 600 ∧ (Z E YX1_transfer d (si (si (si M 70 (l3).toNatClampNeg (vp_nar .byte (0 : Int32))) 16 77 (0 : Int32)) 16 76 l3) (zargs 0 [vr (some (16, 0, 0)), vi (gi M 30 (l3).toNatClampNeg), vi (gi M 31 (l3).toNatClampNeg), vi (gi M 34 (l3).toNatClampNeg)]) 0 [] (zafter E YX1_solve (d + 1) [(0, vr (some (16, 0, 0))), (2, vi l2), (3, vi l3)] 247 3 [] Q))) : Z E YX1_solve (d + 1) M [(0, vr (some (16, 0, 0))), (2, vi l2), (3, vi l3)] 202 [] Q := by
  refine sX1_solve_202 (d := d) M l2 l3 hw ?_
  refine zand k (fun h18193 k => ?_)
  refine ⟨h18193, ?_⟩
  refine ⟨h18193, ?_⟩
  refine ⟨h18193, ?_⟩
  exact k
theorem iX1_solve_250 {E : zE} {d : Nat} {Q : zO → zM → Prop} (M : zM) (l2 : Int32) (l3 : Int32) (hw : cw M) (k : if (gi M 16 77) = 0 then (vp_in l3 600 ∧ (Z E YX1_solve (d + 1) (si M 70 (l3).toNatClampNeg (vp_nar .byte (((gi M 70 (l3).toNatClampNeg) ||| (4 : Int32))).toInt8.toInt32)) [(0, vr (some (16, 0, 0))), (2, vi l2), (3, vi (l3 + (1 : Int32)))] 158 [] Q)) else (Z E YX1_solve (d + 1) M [(0, vr (some (16, 0, 0))), (2, vi l2), (3, vi (l3 + (1 : Int32)))] 158 [] Q)) : Z E YX1_solve (d + 1) M [(0, vr (some (16, 0, 0))), (2, vi l2), (3, vi l3)] 250 [] Q := by
  refine sX1_solve_250 (d := d) M l2 l3 hw ?_
  refine zite k (fun h18219 k => ?_) (fun h18219 k => ?_)
  · refine zand k (fun h18220 k => ?_)
    refine ⟨h18220, ?_⟩
    exact k
  · exact k
theorem iX1_thing_0 {E : zE} {d : Nat} {Q : zO → zM → Prop} (M : zM) (l1 : Int32) (l2 : Int32) (l3 : Int32) (hw : cw M) (k : if (64 : Int32) ≤ l3 then (∃ b18225 : Nat, (gr M 16 60) = some (b18225, 7, 0) ∧ (∃ b18226 : Nat, (gr M b18225 0) = some (b18226, 0, 0) ∧ (∃ b18227 m18227 : Nat, (gr M b18225 1) = some (b18227, 105, m18227) ∧ (16 ≤ b18227 ∧ (vp_in ((l1 * ((gi M b18226 1) + (1 : Int32))) + l2) m18227 ∧ (∃ b18230 m18230 : Nat, (gr M b18225 2) = some (b18230, 105, m18230) ∧ (16 ≤ b18230 ∧ (vp_in ((l1 * ((gi M b18226 1) + (1 : Int32))) + l2) m18230 ∧ (∃ b18233 m18233 : Nat, (gr M b18225 3) = some (b18233, 105, m18233) ∧ (16 ≤ b18233 ∧ (vp_in ((l1 * ((gi M b18226 1) + (1 : Int32))) + l2) m18233 ∧ (Q (.inl none) (sl (sl (sl M b18227 (((l1 * ((gi M b18226 1) + (1 : Int32))) + l2)).toNatClampNeg (0 : Int64)) b18230 (((l1 * ((gi M b18226 1) + (1 : Int32))) + l2)).toNatClampNeg (zls (1 : Int64) (l3 - (64 : Int32)))) b18233 (((l1 * ((gi M b18226 1) + (1 : Int32))) + l2)).toNatClampNeg (0 : Int64)))))))))))))) else (∃ b18236 : Nat, (gr M 16 60) = some (b18236, 7, 0) ∧ (∃ b18237 : Nat, (gr M b18236 0) = some (b18237, 0, 0) ∧ (∃ b18238 m18238 : Nat, (gr M b18236 1) = some (b18238, 105, m18238) ∧ (16 ≤ b18238 ∧ (vp_in ((l1 * ((gi M b18237 1) + (1 : Int32))) + l2) m18238 ∧ (∃ b18241 m18241 : Nat, (gr M b18236 2) = some (b18241, 105, m18241) ∧ (16 ≤ b18241 ∧ (vp_in ((l1 * ((gi M b18237 1) + (1 : Int32))) + l2) m18241 ∧ (∃ b18244 m18244 : Nat, (gr M b18236 3) = some (b18244, 105, m18244) ∧ (16 ≤ b18244 ∧ (vp_in ((l1 * ((gi M b18237 1) + (1 : Int32))) + l2) m18244 ∧ (Q (.inl none) (sl (sl (sl M b18238 (((l1 * ((gi M b18237 1) + (1 : Int32))) + l2)).toNatClampNeg (zls (1 : Int64) l3)) b18241 (((l1 * ((gi M b18237 1) + (1 : Int32))) + l2)).toNatClampNeg (0 : Int64)) b18244 (((l1 * ((gi M b18237 1) + (1 : Int32))) + l2)).toNatClampNeg (0 : Int64))))))))))))))) : Z E YX1_thing (d + 2) M [(0, vr (some (16, 0, 0))), (1, vi l1), (2, vi l2), (3, vi l3)] 0 [] Q := by
  refine sX1_thing_0 (d := (d + 1)) M l1 l2 l3 hw ?_
  refine zite k (fun h18224 k => ?_) (fun h18224 k => ?_)
  · refine sX1_thing_19 (d := (d + 1)) M l3 (0 : Int64) l2 l1 (gr M 16 60) hw ?_
    refine zpos h18224 ?_
    obtain ⟨b18225, h18225, k⟩ := k
    refine ⟨b18225, h18225, ?_⟩
    refine jX43_put (d := d) M b18225 l1 l2 (0 : Int64) (zls (1 : Int64) (l3 - (64 : Int32))) (0 : Int64) ?_
    obtain ⟨b18226, h18226, k⟩ := k
    refine ⟨b18226, h18226, ?_⟩
    obtain ⟨b18227, m18227, h18227, k⟩ := k
    refine ⟨b18227, m18227, h18227, ?_⟩
    refine zand k (fun h18228 k => ?_)
    refine zand k (fun h18229 k => ?_)
    obtain ⟨b18230, m18230, h18230, k⟩ := k
    refine ⟨b18230, m18230, h18230, ?_⟩
    refine zand k (fun h18231 k => ?_)
    refine zand k (fun h18232 k => ?_)
    obtain ⟨b18233, m18233, h18233, k⟩ := k
    refine ⟨b18233, m18233, h18233, ?_⟩
    refine zand k (fun h18234 k => ?_)
    refine zand k (fun h18235 k => ?_)
    show Z E YX1_thing ((d + 1) + 1) (sl (sl (sl M b18227 (((l1 * ((gi M b18226 1) + (1 : Int32))) + l2)).toNatClampNeg (0 : Int64)) b18230 (((l1 * ((gi M b18226 1) + (1 : Int32))) + l2)).toNatClampNeg (zls (1 : Int64) (l3 - (64 : Int32)))) b18233 (((l1 * ((gi M b18226 1) + (1 : Int32))) + l2)).toNatClampNeg (0 : Int64)) [] 39 [] Q
    refine sX1_thing_39 (d := (d + 1)) (sl (sl (sl M b18227 (((l1 * ((gi M b18226 1) + (1 : Int32))) + l2)).toNatClampNeg (0 : Int64)) b18230 (((l1 * ((gi M b18226 1) + (1 : Int32))) + l2)).toNatClampNeg (zls (1 : Int64) (l3 - (64 : Int32)))) b18233 (((l1 * ((gi M b18226 1) + (1 : Int32))) + l2)).toNatClampNeg (0 : Int64)) hw ?_
    exact k
  · refine sX1_thing_19 (d := (d + 1)) M l3 (zls (1 : Int64) l3) l2 l1 (gr M 16 60) hw ?_
    refine zneg h18224 ?_
    obtain ⟨b18236, h18236, k⟩ := k
    refine ⟨b18236, h18236, ?_⟩
    refine jX43_put (d := d) M b18236 l1 l2 (zls (1 : Int64) l3) (0 : Int64) (0 : Int64) ?_
    obtain ⟨b18237, h18237, k⟩ := k
    refine ⟨b18237, h18237, ?_⟩
    obtain ⟨b18238, m18238, h18238, k⟩ := k
    refine ⟨b18238, m18238, h18238, ?_⟩
    refine zand k (fun h18239 k => ?_)
    refine zand k (fun h18240 k => ?_)
    obtain ⟨b18241, m18241, h18241, k⟩ := k
    refine ⟨b18241, m18241, h18241, ?_⟩
    refine zand k (fun h18242 k => ?_)
    refine zand k (fun h18243 k => ?_)
    obtain ⟨b18244, m18244, h18244, k⟩ := k
    refine ⟨b18244, m18244, h18244, ?_⟩
    refine zand k (fun h18245 k => ?_)
    refine zand k (fun h18246 k => ?_)
    show Z E YX1_thing ((d + 1) + 1) (sl (sl (sl M b18238 (((l1 * ((gi M b18237 1) + (1 : Int32))) + l2)).toNatClampNeg (zls (1 : Int64) l3)) b18241 (((l1 * ((gi M b18237 1) + (1 : Int32))) + l2)).toNatClampNeg (0 : Int64)) b18244 (((l1 * ((gi M b18237 1) + (1 : Int32))) + l2)).toNatClampNeg (0 : Int64)) [] 39 [] Q
    refine sX1_thing_39 (d := (d + 1)) (sl (sl (sl M b18238 (((l1 * ((gi M b18237 1) + (1 : Int32))) + l2)).toNatClampNeg (zls (1 : Int64) l3)) b18241 (((l1 * ((gi M b18237 1) + (1 : Int32))) + l2)).toNatClampNeg (0 : Int64)) b18244 (((l1 * ((gi M b18237 1) + (1 : Int32))) + l2)).toNatClampNeg (0 : Int64)) hw ?_
    exact k
theorem jX43_at {E : zE} {d : Nat} {Q : zO → zM → Prop} (M : zM) (a0 : Nat) (l1 : Int32) (r2 : Option zP) (k : ∃ b18280 m18280 : Nat, (gr M a0 10) = some (b18280, 105, m18280) ∧ (vp_in l1 m18280 ∧ (∃ b18282 : Nat, r2 = some (b18282, 4, 0) ∧ (16 ≤ b18282 ∧ (∃ b18284 m18284 : Nat, (gr M a0 11) = some (b18284, 105, m18284) ∧ (vp_in l1 m18284 ∧ (∃ b18286 m18286 : Nat, (gr M a0 12) = some (b18286, 105, m18286) ∧ (vp_in l1 m18286 ∧ (Q (.inl (some (vr (some (b18282, 4, 0))))) (sl (sl (sl M b18282 0 (gl M b18280 (l1).toNatClampNeg)) b18282 1 (gl (sl M b18282 0 (gl M b18280 (l1).toNatClampNeg)) b18284 (l1).toNatClampNeg)) b18282 2 (gl (sl (sl M b18282 0 (gl M b18280 (l1).toNatClampNeg)) b18282 1 (gl (sl M b18282 0 (gl M b18280 (l1).toNatClampNeg)) b18284 (l1).toNatClampNeg)) b18286 (l1).toNatClampNeg))))))))))) : Z E YX43_at d M [(0, vr (some (a0, 7, 0))), (1, vi l1), (2, vr r2)] 0 [] Q := by
  refine sX43_at_0 (d := d) M a0 l1 r2 ?_
  obtain ⟨b18280, m18280, h18280, k⟩ := k
  refine ⟨b18280, m18280, h18280, ?_⟩
  refine zand k (fun h18281 k => ?_)
  obtain ⟨b18282, h18282, k⟩ := k
  refine ⟨b18282, h18282, ?_⟩
  refine zand k (fun h18283 k => ?_)
  obtain ⟨b18284, m18284, h18284, k⟩ := k
  refine ⟨b18284, m18284, h18284, ?_⟩
  refine zand k (fun h18285 k => ?_)
  refine ⟨h18283, ?_⟩
  obtain ⟨b18286, m18286, h18286, k⟩ := k
  refine ⟨b18286, m18286, h18286, ?_⟩
  refine zand k (fun h18287 k => ?_)
  refine ⟨h18283, ?_⟩
  exact k
theorem jX6_empty {E : zE} {d : Nat} {Q : zO → zM → Prop} (M : zM) (a0 : Nat) (k : 16 ≤ a0 ∧ (Q (.inl (some (vr (some (a0, 4, 0))))) (sl (sl (sl M a0 0 (0 : Int64)) a0 1 (0 : Int64)) a0 2 (0 : Int64)))) : Z E YX6_empty d M [(0, vr (some (a0, 4, 0)))] 0 [] Q := by
  refine sX6_empty_0 (d := d) M a0 ?_
  refine zand k (fun h18547 k => ?_)
  refine ⟨h18547, ?_⟩
  refine ⟨h18547, ?_⟩
  exact k
theorem jX1_isKey {E : zE} {d : Nat} {Q : zO → zM → Prop} (M : zM) (l1 : Int32) (hw : cw M) (k : if l1 = (gi M 16 1) then ((narrow .boolean (.int (gi M 16 90)) = .int (gi M 16 90)) ∧ (Q (.inl (some (vi (gi M 16 90)))) M)) else (if (64 : Int32) ≤ l1 then (∀ x1_v16398v18661 : Int64, x1_v16398v18661 = (zls (zlr (gl M 16 89) (l1 - (64 : Int32))) (63 : Int32)) → (if (lg_cmp x1_v16398v18661 (0 : Int64)) = 0 then ((narrow .boolean (.int (0 : Int32)) = .int (0 : Int32)) ∧ (Q (.inl (some (vi (0 : Int32)))) M)) else ((narrow .boolean (.int (1 : Int32)) = .int (1 : Int32)) ∧ (Q (.inl (some (vi (1 : Int32)))) M)))) else (∀ x1_v16400v18665 : Int64, x1_v16400v18665 = (zls (zlr (gl M 16 88) l1) (63 : Int32)) → (if (lg_cmp x1_v16400v18665 (0 : Int64)) = 0 then ((narrow .boolean (.int (0 : Int32)) = .int (0 : Int32)) ∧ (Q (.inl (some (vi (0 : Int32)))) M)) else ((narrow .boolean (.int (1 : Int32)) = .int (1 : Int32)) ∧ (Q (.inl (some (vi (1 : Int32)))) M)))))) : Z E YX1_isKey (d + 1) M [(0, vr (some (16, 0, 0))), (1, vi l1)] 0 [] Q := by
  refine sX1_isKey_0 (d := d) M l1 hw ?_
  refine zite k (fun h18658 k => ?_) (fun h18658 k => ?_)
  · refine sX1_isKey_27 (d := d) M (gi M 16 90) hw ?_
    exact k
  · refine jX1_in (d := d) M l1 (gl M 16 88) (gl M 16 89) hw ?_
    refine zite k (fun h18660 k => ?_) (fun h18660 k => ?_)
    · intro x1_v16398v18661 h18661
      have k := k x1_v16398v18661 h18661
      refine zite k (fun h18662 k => ?_) (fun h18662 k => ?_)
      · show Z E YX1_isKey (d + 1) M [] 27 [vi (0 : Int32)] Q
        refine sX1_isKey_27 (d := d) M (0 : Int32) hw ?_
        exact k
      · show Z E YX1_isKey (d + 1) M [] 27 [vi (1 : Int32)] Q
        refine sX1_isKey_27 (d := d) M (1 : Int32) hw ?_
        exact k
    · intro x1_v16400v18665 h18665
      have k := k x1_v16400v18665 h18665
      refine zite k (fun h18666 k => ?_) (fun h18666 k => ?_)
      · show Z E YX1_isKey (d + 1) M [] 27 [vi (0 : Int32)] Q
        refine sX1_isKey_27 (d := d) M (0 : Int32) hw ?_
        exact k
      · show Z E YX1_isKey (d + 1) M [] 27 [vi (1 : Int32)] Q
        refine sX1_isKey_27 (d := d) M (1 : Int32) hw ?_
        exact k
theorem iX1_transfer_90 {E : zE} {d : Nat} {Q : zO → zM → Prop} (M : zM) (s0 : Int64) (hw : cw M) (k : 16 ≤ 71 ∧ (Z E YX1_nextWith d (sl (sl (sl M 71 0 (0 : Int64)) 71 1 (0 : Int64)) 71 2 s0) (zargs 0 [vr (some (16, 0, 0)), vr (some (71, 4, 0))]) 0 [] (zafter E YX1_transfer (d + 1) [] 112 3 [] Q))) : Z E YX1_transfer (d + 1) M [] 90 [vl s0, vr (some (71, 4, 0)), vr (some (16, 0, 0))] Q := by
  refine sX1_transfer_90 (d := d) M s0 hw ?_
  refine jX6_of (d := d) M 71 s0 ?_
  refine zand k (fun h18516 k => ?_)
  show Z E YX1_transfer (d + 1) (sl (sl (sl M 71 0 (0 : Int64)) 71 1 (0 : Int64)) 71 2 s0) [] 112 [vr (some (71, 4, 0)), vr (some (16, 0, 0))] Q
  refine sX1_transfer_112 (d := d) (sl (sl (sl M 71 0 (0 : Int64)) 71 1 (0 : Int64)) 71 2 s0) (some (71, 4, 0)) hw ?_
  exact k
theorem iX1_transfer_103 {E : zE} {d : Nat} {Q : zO → zM → Prop} (M : zM) (s0 : Int64) (hw : cw M) (k : 16 ≤ 71 ∧ (Z E YX1_nextWith d (sl (sl (sl M 71 0 (0 : Int64)) 71 1 (0 : Int64)) 71 2 s0) (zargs 0 [vr (some (16, 0, 0)), vr (some (71, 4, 0))]) 0 [] (zafter E YX1_transfer (d + 1) [] 112 3 [] Q))) : Z E YX1_transfer (d + 1) M [] 103 [vl s0, vr (some (71, 4, 0)), vr (some (16, 0, 0))] Q := by
  refine sX1_transfer_103 (d := d) M s0 hw ?_
  refine jX6_of (d := d) M 71 s0 ?_
  refine zand k (fun h18517 k => ?_)
  show Z E YX1_transfer (d + 1) (sl (sl (sl M 71 0 (0 : Int64)) 71 1 (0 : Int64)) 71 2 s0) [] 112 [vr (some (71, 4, 0)), vr (some (16, 0, 0))] Q
  refine sX1_transfer_112 (d := d) (sl (sl (sl M 71 0 (0 : Int64)) 71 1 (0 : Int64)) 71 2 s0) (some (71, 4, 0)) hw ?_
  exact k
theorem iX1_transfer_124 {E : zE} {d : Nat} {Q : zO → zM → Prop} (M : zM) (hw : cw M) (k : Q (.inl none) M) : Z E YX1_transfer (d + 1) M [] 124 [] Q := by
  refine sX1_transfer_124 (d := d) M hw ?_
  refine sX1_transfer_521 (d := d) M hw ?_
  exact k
theorem iX1_transfer_132 {E : zE} {d : Nat} {Q : zO → zM → Prop} (M : zM) (l3 : Int32) (hw : cw M) (k : ∃ b18518 : Nat, (gr M 16 60) = some (b18518, 7, 0) ∧ (∃ b18519 m18519 : Nat, (gr M b18518 10) = some (b18519, 105, m18519) ∧ (vp_in ((gi M b18518 13) - (1 : Int32)) m18519 ∧ (16 ≤ 71 ∧ (∃ b18522 m18522 : Nat, (gr M b18518 11) = some (b18522, 105, m18522) ∧ (vp_in ((gi M b18518 13) - (1 : Int32)) m18522 ∧ (∃ b18524 m18524 : Nat, (gr M b18518 12) = some (b18524, 105, m18524) ∧ (vp_in ((gi M b18518 13) - (1 : Int32)) m18524 ∧ (if (64 : Int32) ≤ l3 then (Z E YX1_writes d (sl (si (sl (sl (sl (sl (sl M 71 0 (gl M b18519 (((gi M b18518 13) - (1 : Int32))).toNatClampNeg)) 71 1 (gl (sl M 71 0 (gl M b18519 (((gi M b18518 13) - (1 : Int32))).toNatClampNeg)) b18522 (((gi M b18518 13) - (1 : Int32))).toNatClampNeg)) 71 2 (gl (sl (sl M 71 0 (gl M b18519 (((gi M b18518 13) - (1 : Int32))).toNatClampNeg)) 71 1 (gl (sl M 71 0 (gl M b18519 (((gi M b18518 13) - (1 : Int32))).toNatClampNeg)) b18522 (((gi M b18518 13) - (1 : Int32))).toNatClampNeg)) b18524 (((gi M b18518 13) - (1 : Int32))).toNatClampNeg)) 16 89 (0 : Int64)) 16 88 (0 : Int64)) 16 90 (0 : Int32)) 16 89 ((0 : Int64) ||| (zls (1 : Int64) (l3 - (64 : Int32))))) (zargs 0 [vr (some (16, 0, 0)), vl (gl M 16 93), vl (gl M 16 94), vi (1 : Int32), vr (some (71, 4, 0))]) 0 [] (zafter E YX1_transfer (d + 1) [(0, vr (some (16, 0, 0)))] 187 3 [] Q)) else (Z E YX1_writes d (sl (si (sl (sl (sl (sl (sl M 71 0 (gl M b18519 (((gi M b18518 13) - (1 : Int32))).toNatClampNeg)) 71 1 (gl (sl M 71 0 (gl M b18519 (((gi M b18518 13) - (1 : Int32))).toNatClampNeg)) b18522 (((gi M b18518 13) - (1 : Int32))).toNatClampNeg)) 71 2 (gl (sl (sl M 71 0 (gl M b18519 (((gi M b18518 13) - (1 : Int32))).toNatClampNeg)) 71 1 (gl (sl M 71 0 (gl M b18519 (((gi M b18518 13) - (1 : Int32))).toNatClampNeg)) b18522 (((gi M b18518 13) - (1 : Int32))).toNatClampNeg)) b18524 (((gi M b18518 13) - (1 : Int32))).toNatClampNeg)) 16 89 (0 : Int64)) 16 88 (0 : Int64)) 16 90 (0 : Int32)) 16 88 ((0 : Int64) ||| (zls (1 : Int64) l3))) (zargs 0 [vr (some (16, 0, 0)), vl (gl M 16 93), vl (gl M 16 94), vi (1 : Int32), vr (some (71, 4, 0))]) 0 [] (zafter E YX1_transfer (d + 1) [(0, vr (some (16, 0, 0)))] 187 3 [] Q))))))))))) : Z E YX1_transfer (d + 1) M [(0, vr (some (16, 0, 0))), (3, vi l3)] 132 [] Q := by
  refine sX1_transfer_132 (d := d) M l3 hw ?_
  obtain ⟨b18518, h18518, k⟩ := k
  refine ⟨b18518, h18518, ?_⟩
  refine jX43_at (d := d) M b18518 ((gi M b18518 13) - (1 : Int32)) (some (71, 4, 0)) ?_
  obtain ⟨b18519, m18519, h18519, k⟩ := k
  refine ⟨b18519, m18519, h18519, ?_⟩
  refine zand k (fun h18520 k => ?_)
  refine ⟨71, rfl, ?_⟩
  refine zand k (fun h18521 k => ?_)
  obtain ⟨b18522, m18522, h18522, k⟩ := k
  refine ⟨b18522, m18522, h18522, ?_⟩
  refine zand k (fun h18523 k => ?_)
  obtain ⟨b18524, m18524, h18524, k⟩ := k
  refine ⟨b18524, m18524, h18524, ?_⟩
  refine zand k (fun h18525 k => ?_)
  show Z E YX1_transfer (d + 1) (sl (sl (sl M 71 0 (gl M b18519 (((gi M b18518 13) - (1 : Int32))).toNatClampNeg)) 71 1 (gl (sl M 71 0 (gl M b18519 (((gi M b18518 13) - (1 : Int32))).toNatClampNeg)) b18522 (((gi M b18518 13) - (1 : Int32))).toNatClampNeg)) 71 2 (gl (sl (sl M 71 0 (gl M b18519 (((gi M b18518 13) - (1 : Int32))).toNatClampNeg)) 71 1 (gl (sl M 71 0 (gl M b18519 (((gi M b18518 13) - (1 : Int32))).toNatClampNeg)) b18522 (((gi M b18518 13) - (1 : Int32))).toNatClampNeg)) b18524 (((gi M b18518 13) - (1 : Int32))).toNatClampNeg)) [(0, vr (some (16, 0, 0))), (3, vi l3)] 152 [vr (some (71, 4, 0))] Q
  refine sX1_transfer_152 (d := d) (sl (sl (sl M 71 0 (gl M b18519 (((gi M b18518 13) - (1 : Int32))).toNatClampNeg)) 71 1 (gl (sl M 71 0 (gl M b18519 (((gi M b18518 13) - (1 : Int32))).toNatClampNeg)) b18522 (((gi M b18518 13) - (1 : Int32))).toNatClampNeg)) 71 2 (gl (sl (sl M 71 0 (gl M b18519 (((gi M b18518 13) - (1 : Int32))).toNatClampNeg)) 71 1 (gl (sl M 71 0 (gl M b18519 (((gi M b18518 13) - (1 : Int32))).toNatClampNeg)) b18522 (((gi M b18518 13) - (1 : Int32))).toNatClampNeg)) b18524 (((gi M b18518 13) - (1 : Int32))).toNatClampNeg)) l3 (some (71, 4, 0)) hw ?_
  refine sX1_key_0 (d := d) (si (sl (sl (sl (sl (sl M 71 0 (gl M b18519 (((gi M b18518 13) - (1 : Int32))).toNatClampNeg)) 71 1 (gl (sl M 71 0 (gl M b18519 (((gi M b18518 13) - (1 : Int32))).toNatClampNeg)) b18522 (((gi M b18518 13) - (1 : Int32))).toNatClampNeg)) 71 2 (gl (sl (sl M 71 0 (gl M b18519 (((gi M b18518 13) - (1 : Int32))).toNatClampNeg)) 71 1 (gl (sl M 71 0 (gl M b18519 (((gi M b18518 13) - (1 : Int32))).toNatClampNeg)) b18522 (((gi M b18518 13) - (1 : Int32))).toNatClampNeg)) b18524 (((gi M b18518 13) - (1 : Int32))).toNatClampNeg)) 16 89 (0 : Int64)) 16 88 (0 : Int64)) 16 90 (0 : Int32)) l3 hw ?_
  refine zite k (fun h18527 k => ?_) (fun h18527 k => ?_)
  · show Z E YX1_transfer (d + 1) (sl (si (sl (sl (sl (sl (sl M 71 0 (gl M b18519 (((gi M b18518 13) - (1 : Int32))).toNatClampNeg)) 71 1 (gl (sl M 71 0 (gl M b18519 (((gi M b18518 13) - (1 : Int32))).toNatClampNeg)) b18522 (((gi M b18518 13) - (1 : Int32))).toNatClampNeg)) 71 2 (gl (sl (sl M 71 0 (gl M b18519 (((gi M b18518 13) - (1 : Int32))).toNatClampNeg)) 71 1 (gl (sl M 71 0 (gl M b18519 (((gi M b18518 13) - (1 : Int32))).toNatClampNeg)) b18522 (((gi M b18518 13) - (1 : Int32))).toNatClampNeg)) b18524 (((gi M b18518 13) - (1 : Int32))).toNatClampNeg)) 16 89 (0 : Int64)) 16 88 (0 : Int64)) 16 90 (0 : Int32)) 16 89 ((0 : Int64) ||| (zls (1 : Int64) (l3 - (64 : Int32))))) [(0, vr (some (16, 0, 0)))] 173 [] Q
    refine sX1_transfer_173 (d := d) (sl (si (sl (sl (sl (sl (sl M 71 0 (gl M b18519 (((gi M b18518 13) - (1 : Int32))).toNatClampNeg)) 71 1 (gl (sl M 71 0 (gl M b18519 (((gi M b18518 13) - (1 : Int32))).toNatClampNeg)) b18522 (((gi M b18518 13) - (1 : Int32))).toNatClampNeg)) 71 2 (gl (sl (sl M 71 0 (gl M b18519 (((gi M b18518 13) - (1 : Int32))).toNatClampNeg)) 71 1 (gl (sl M 71 0 (gl M b18519 (((gi M b18518 13) - (1 : Int32))).toNatClampNeg)) b18522 (((gi M b18518 13) - (1 : Int32))).toNatClampNeg)) b18524 (((gi M b18518 13) - (1 : Int32))).toNatClampNeg)) 16 89 (0 : Int64)) 16 88 (0 : Int64)) 16 90 (0 : Int32)) 16 89 ((0 : Int64) ||| (zls (1 : Int64) (l3 - (64 : Int32))))) hw ?_
    exact k
  · show Z E YX1_transfer (d + 1) (sl (si (sl (sl (sl (sl (sl M 71 0 (gl M b18519 (((gi M b18518 13) - (1 : Int32))).toNatClampNeg)) 71 1 (gl (sl M 71 0 (gl M b18519 (((gi M b18518 13) - (1 : Int32))).toNatClampNeg)) b18522 (((gi M b18518 13) - (1 : Int32))).toNatClampNeg)) 71 2 (gl (sl (sl M 71 0 (gl M b18519 (((gi M b18518 13) - (1 : Int32))).toNatClampNeg)) 71 1 (gl (sl M 71 0 (gl M b18519 (((gi M b18518 13) - (1 : Int32))).toNatClampNeg)) b18522 (((gi M b18518 13) - (1 : Int32))).toNatClampNeg)) b18524 (((gi M b18518 13) - (1 : Int32))).toNatClampNeg)) 16 89 (0 : Int64)) 16 88 (0 : Int64)) 16 90 (0 : Int32)) 16 88 ((0 : Int64) ||| (zls (1 : Int64) l3))) [(0, vr (some (16, 0, 0)))] 173 [] Q
    refine sX1_transfer_173 (d := d) (sl (si (sl (sl (sl (sl (sl M 71 0 (gl M b18519 (((gi M b18518 13) - (1 : Int32))).toNatClampNeg)) 71 1 (gl (sl M 71 0 (gl M b18519 (((gi M b18518 13) - (1 : Int32))).toNatClampNeg)) b18522 (((gi M b18518 13) - (1 : Int32))).toNatClampNeg)) 71 2 (gl (sl (sl M 71 0 (gl M b18519 (((gi M b18518 13) - (1 : Int32))).toNatClampNeg)) 71 1 (gl (sl M 71 0 (gl M b18519 (((gi M b18518 13) - (1 : Int32))).toNatClampNeg)) b18522 (((gi M b18518 13) - (1 : Int32))).toNatClampNeg)) b18524 (((gi M b18518 13) - (1 : Int32))).toNatClampNeg)) 16 89 (0 : Int64)) 16 88 (0 : Int64)) 16 90 (0 : Int32)) 16 88 ((0 : Int64) ||| (zls (1 : Int64) l3))) hw ?_
    exact k
theorem iX1_transfer_209 {E : zE} {d : Nat} {Q : zO → zM → Prop} (M : zM) (hw : cw M) (k : Q (.inl none) M) : Z E YX1_transfer (d + 1) M [] 209 [] Q := by
  refine sX1_transfer_209 (d := d) M hw ?_
  refine sX1_transfer_521 (d := d) M hw ?_
  exact k
theorem iX1_transfer_232 {E : zE} {d : Nat} {Q : zO → zM → Prop} (M : zM) (l3 : Int32) (u0 : Option zP) (hw : cw M) (k : ∃ b18531 : Nat, (gr M 16 60) = some (b18531, 7, 0) ∧ (∃ b18532 : Nat, (gr M b18531 0) = some (b18532, 0, 0) ∧ (∃ b18533 m18533 : Nat, (gr M b18531 1) = some (b18533, 105, m18533) ∧ (16 ≤ b18533 ∧ (vp_in (((0 : Int32) * ((gi M b18532 1) + (1 : Int32))) + l3) m18533 ∧ (∃ b18536 m18536 : Nat, (gr M b18531 2) = some (b18536, 105, m18536) ∧ (16 ≤ b18536 ∧ (vp_in (((0 : Int32) * ((gi M b18532 1) + (1 : Int32))) + l3) m18536 ∧ (∃ b18539 m18539 : Nat, (gr M b18531 3) = some (b18539, 105, m18539) ∧ (16 ≤ b18539 ∧ (vp_in (((0 : Int32) * ((gi M b18532 1) + (1 : Int32))) + l3) m18539 ∧ (Z E YX1_next (d + 1) (sl (sl (sl M b18533 ((((0 : Int32) * ((gi M b18532 1) + (1 : Int32))) + l3)).toNatClampNeg (gl M 71 0)) b18536 ((((0 : Int32) * ((gi M b18532 1) + (1 : Int32))) + l3)).toNatClampNeg (gl M 71 1)) b18539 ((((0 : Int32) * ((gi M b18532 1) + (1 : Int32))) + l3)).toNatClampNeg (gl M 71 2)) (zargs 0 [vr (some (16, 0, 0)), vi ((gi M 16 76) + (1 : Int32))]) 0 [] (zafter E YX1_transfer ((d + 1) + 1) [] 270 3 [] Q))))))))))))) : Z E YX1_transfer (d + 2) M [(0, vr (some (16, 0, 0))), (3, vi l3)] 232 [vr u0] Q := by
  refine sX1_transfer_232 (d := (d + 1)) M l3 u0 hw ?_
  obtain ⟨b18531, h18531, k⟩ := k
  refine ⟨b18531, h18531, ?_⟩
  refine jX43_put (d := d) M b18531 (0 : Int32) l3 (gl M 71 0) (gl M 71 1) (gl M 71 2) ?_
  obtain ⟨b18532, h18532, k⟩ := k
  refine ⟨b18532, h18532, ?_⟩
  obtain ⟨b18533, m18533, h18533, k⟩ := k
  refine ⟨b18533, m18533, h18533, ?_⟩
  refine zand k (fun h18534 k => ?_)
  refine zand k (fun h18535 k => ?_)
  obtain ⟨b18536, m18536, h18536, k⟩ := k
  refine ⟨b18536, m18536, h18536, ?_⟩
  refine zand k (fun h18537 k => ?_)
  refine zand k (fun h18538 k => ?_)
  obtain ⟨b18539, m18539, h18539, k⟩ := k
  refine ⟨b18539, m18539, h18539, ?_⟩
  refine zand k (fun h18540 k => ?_)
  refine zand k (fun h18541 k => ?_)
  show Z E YX1_transfer ((d + 1) + 1) (sl (sl (sl M b18533 ((((0 : Int32) * ((gi M b18532 1) + (1 : Int32))) + l3)).toNatClampNeg (gl M 71 0)) b18536 ((((0 : Int32) * ((gi M b18532 1) + (1 : Int32))) + l3)).toNatClampNeg (gl M 71 1)) b18539 ((((0 : Int32) * ((gi M b18532 1) + (1 : Int32))) + l3)).toNatClampNeg (gl M 71 2)) [(0, vr (some (16, 0, 0)))] 263 [] Q
  refine sX1_transfer_263 (d := (d + 1)) (sl (sl (sl M b18533 ((((0 : Int32) * ((gi M b18532 1) + (1 : Int32))) + l3)).toNatClampNeg (gl M 71 0)) b18536 ((((0 : Int32) * ((gi M b18532 1) + (1 : Int32))) + l3)).toNatClampNeg (gl M 71 1)) b18539 ((((0 : Int32) * ((gi M b18532 1) + (1 : Int32))) + l3)).toNatClampNeg (gl M 71 2)) hw ?_
  exact k
theorem iX1_transfer_282 {E : zE} {d : Nat} {Q : zO → zM → Prop} (M : zM) (hw : cw M) (k : Q (.inl none) M) : Z E YX1_transfer (d + 1) M [] 282 [] Q := by
  refine sX1_transfer_282 (d := d) M hw ?_
  refine sX1_transfer_521 (d := d) M hw ?_
  exact k
theorem iX1_transfer_299 {E : zE} {d : Nat} {Q : zO → zM → Prop} (M : zM) (u0 : Option zP) (hw : cw M) (k : ∃ b18542 : Nat, (gr M 16 60) = some (b18542, 7, 0) ∧ (∃ b18543 : Nat, u0 = some (b18543, 4, 0) ∧ (Z E YX6_join3 d M (zargs 0 [vr (some (b18543, 4, 0)), vl (gl M b18542 14), vl (gl M b18542 15), vl (0 : Int64)]) 0 [] (zafter E YX1_transfer (d + 1) [(0, vr (some (16, 0, 0)))] 314 3 [] Q)))) : Z E YX1_transfer (d + 1) M [(0, vr (some (16, 0, 0)))] 299 [vr u0] Q := by
  refine sX1_transfer_299 (d := d) M u0 hw ?_
  obtain ⟨b18542, h18542, k⟩ := k
  refine ⟨b18542, h18542, ?_⟩
  refine ⟨b18542, h18542, ?_⟩
  exact k
theorem iX1_transfer_404 {E : zE} {d : Nat} {Q : zO → zM → Prop} (M : zM) (hw : cw M) (k : Q (.inl none) M) : Z E YX1_transfer (d + 1) M [] 404 [] Q := by
  refine sX1_transfer_404 (d := d) M hw ?_
  refine sX1_transfer_521 (d := d) M hw ?_
  exact k
theorem iX1_transfer_411 {E : zE} {d : Nat} {Q : zO → zM → Prop} (M : zM) (hw : cw M) (k : Q (.inl none) M) : Z E YX1_transfer (d + 1) M [] 411 [] Q := by
  refine sX1_transfer_411 (d := d) M hw ?_
  refine sX1_transfer_521 (d := d) M hw ?_
  exact k
theorem iX1_transfer_418 {E : zE} {d : Nat} {Q : zO → zM → Prop} (M : zM) (hw : cw M) (k : Q (.inl none) M) : Z E YX1_transfer (d + 1) M [] 418 [] Q := by
  refine sX1_transfer_418 (d := d) M hw ?_
  refine sX1_transfer_521 (d := d) M hw ?_
  exact k
theorem iX1_transfer_425 {E : zE} {d : Nat} {Q : zO → zM → Prop} (M : zM) (hw : cw M) (k : Q (.inl none) M) : Z E YX1_transfer (d + 1) M [] 425 [] Q := by
  refine sX1_transfer_425 (d := d) M hw ?_
  refine sX1_transfer_521 (d := d) M hw ?_
  exact k
theorem iX1_transfer_115 {E : zE} {d : Nat} {Q : zO → zM → Prop} (M : zM) (hw : cw M) (k : Q (.inl none) M) : Z E YX1_transfer (d + 1) M [] 115 [] Q := by
  refine sX1_transfer_115 (d := d) M hw ?_
  refine sX1_transfer_521 (d := d) M hw ?_
  exact k
theorem iX1_transfer_273 {E : zE} {d : Nat} {Q : zO → zM → Prop} (M : zM) (hw : cw M) (k : Q (.inl none) M) : Z E YX1_transfer (d + 1) M [] 273 [] Q := by
  refine sX1_transfer_273 (d := d) M hw ?_
  refine sX1_transfer_521 (d := d) M hw ?_
  exact k
theorem iX1_transfer_200 {E : zE} {d : Nat} {Q : zO → zM → Prop} (M : zM) (hw : cw M) (k : Q (.inl none) M) : Z E YX1_transfer (d + 1) M [] 200 [] Q := by
  refine sX1_transfer_200 (d := d) M hw ?_
  refine sX1_transfer_521 (d := d) M hw ?_
  exact k
theorem iX1_transfer_326 {E : zE} {d : Nat} {Q : zO → zM → Prop} (M : zM) (hw : cw M) (k : Q (.inl none) M) : Z E YX1_transfer (d + 1) M [] 326 [] Q := by
  refine sX1_transfer_326 (d := d) M hw ?_
  refine sX1_transfer_521 (d := d) M hw ?_
  exact k
theorem iX1_transfer_367 {E : zE} {d : Nat} {Q : zO → zM → Prop} (M : zM) (l2 : Int32) (s0 : Int32) (u1 : Option zP) (hw : cw M) (k : ∀ x1_v18196v18720 : Int64, x1_v18196v18720 = (zls ((0 : Int32)).toInt64 (32 : Int32)) → (∃ b18721 : Nat, u1 = some (b18721, 7, 0) ∧ (∃ b18722 : Nat, (gr M b18721 0) = some (b18722, 0, 0) ∧ (∃ b18723 m18723 : Nat, (gr M b18721 1) = some (b18723, 105, m18723) ∧ (16 ≤ b18723 ∧ (vp_in ((s0 * ((gi M b18722 1) + (1 : Int32))) + (0 : Int32)) m18723 ∧ (∃ b18726 m18726 : Nat, (gr M b18721 2) = some (b18726, 105, m18726) ∧ (16 ≤ b18726 ∧ (vp_in ((s0 * ((gi M b18722 1) + (1 : Int32))) + (0 : Int32)) m18726 ∧ (∃ b18729 m18729 : Nat, (gr M b18721 3) = some (b18729, 105, m18729) ∧ (16 ≤ b18729 ∧ (vp_in ((s0 * ((gi M b18722 1) + (1 : Int32))) + (0 : Int32)) m18729 ∧ (16 ≤ 71 ∧ (∃ b18733 : Nat, (gr M 16 8) = some (b18733, 11, 0) ∧ (Z E YX6_add (d + 1) (sl (sl (sl (sl (sl (sl M b18723 (((s0 * ((gi M b18722 1) + (1 : Int32))) + (0 : Int32))).toNatClampNeg (0 : Int64)) b18726 (((s0 * ((gi M b18722 1) + (1 : Int32))) + (0 : Int32))).toNatClampNeg (0 : Int64)) b18729 (((s0 * ((gi M b18722 1) + (1 : Int32))) + (0 : Int32))).toNatClampNeg ((32 : Int64) ||| x1_v18196v18720)) 71 0 (0 : Int64)) 71 1 (0 : Int64)) 71 2 (0 : Int64)) (zargs 0 [vr (some (71, 4, 0)), vi (((29 : Int32) + ((6 : Int32) * ((gi M b18733 2) - (1 : Int32)))) + ((2 : Int32) * l2))]) 0 [] (zafter E YX1_transfer ((d + 1) + 1) [] 390 3 [vr (some (16, 0, 0))] Q)))))))))))))))) : Z E YX1_transfer (d + 2) M [(0, vr (some (16, 0, 0))), (2, vi l2)] 367 [vi s0, vr u1] Q := by
  refine sX1_transfer_367 (d := (d + 1)) M l2 s0 u1 hw ?_
  refine sX1_numberSet_0 (d := (d + 1)) M (0 : Int32) hw ?_
  intro x1_v18196v18720 h18720
  have k := k x1_v18196v18720 h18720
  show Z E YX1_transfer ((d + 1) + 1) M [(0, vr (some (16, 0, 0))), (2, vi l2)] 374 [vl ((32 : Int64) ||| x1_v18196v18720), vl (0 : Int64), vl (0 : Int64), vi (0 : Int32), vi s0, vr u1] Q
  refine sX1_transfer_374 (d := (d + 1)) M l2 ((32 : Int64) ||| x1_v18196v18720) (0 : Int64) (0 : Int64) (0 : Int32) s0 u1 hw ?_
  obtain ⟨b18721, h18721, k⟩ := k
  refine ⟨b18721, h18721, ?_⟩
  refine jX43_put (d := d) M b18721 s0 (0 : Int32) (0 : Int64) (0 : Int64) ((32 : Int64) ||| x1_v18196v18720) ?_
  obtain ⟨b18722, h18722, k⟩ := k
  refine ⟨b18722, h18722, ?_⟩
  obtain ⟨b18723, m18723, h18723, k⟩ := k
  refine ⟨b18723, m18723, h18723, ?_⟩
  refine zand k (fun h18724 k => ?_)
  refine zand k (fun h18725 k => ?_)
  obtain ⟨b18726, m18726, h18726, k⟩ := k
  refine ⟨b18726, m18726, h18726, ?_⟩
  refine zand k (fun h18727 k => ?_)
  refine zand k (fun h18728 k => ?_)
  obtain ⟨b18729, m18729, h18729, k⟩ := k
  refine ⟨b18729, m18729, h18729, ?_⟩
  refine zand k (fun h18730 k => ?_)
  refine zand k (fun h18731 k => ?_)
  show Z E YX1_transfer ((d + 1) + 1) (sl (sl (sl M b18723 (((s0 * ((gi M b18722 1) + (1 : Int32))) + (0 : Int32))).toNatClampNeg (0 : Int64)) b18726 (((s0 * ((gi M b18722 1) + (1 : Int32))) + (0 : Int32))).toNatClampNeg (0 : Int64)) b18729 (((s0 * ((gi M b18722 1) + (1 : Int32))) + (0 : Int32))).toNatClampNeg ((32 : Int64) ||| x1_v18196v18720)) [(0, vr (some (16, 0, 0))), (2, vi l2)] 377 [] Q
  refine sX1_transfer_377 (d := (d + 1)) (sl (sl (sl M b18723 (((s0 * ((gi M b18722 1) + (1 : Int32))) + (0 : Int32))).toNatClampNeg (0 : Int64)) b18726 (((s0 * ((gi M b18722 1) + (1 : Int32))) + (0 : Int32))).toNatClampNeg (0 : Int64)) b18729 (((s0 * ((gi M b18722 1) + (1 : Int32))) + (0 : Int32))).toNatClampNeg ((32 : Int64) ||| x1_v18196v18720)) l2 hw ?_
  refine jX6_empty (d := (d + 1)) (sl (sl (sl M b18723 (((s0 * ((gi M b18722 1) + (1 : Int32))) + (0 : Int32))).toNatClampNeg (0 : Int64)) b18726 (((s0 * ((gi M b18722 1) + (1 : Int32))) + (0 : Int32))).toNatClampNeg (0 : Int64)) b18729 (((s0 * ((gi M b18722 1) + (1 : Int32))) + (0 : Int32))).toNatClampNeg ((32 : Int64) ||| x1_v18196v18720)) 71 ?_
  refine zand k (fun h18732 k => ?_)
  show Z E YX1_transfer ((d + 1) + 1) (sl (sl (sl (sl (sl (sl M b18723 (((s0 * ((gi M b18722 1) + (1 : Int32))) + (0 : Int32))).toNatClampNeg (0 : Int64)) b18726 (((s0 * ((gi M b18722 1) + (1 : Int32))) + (0 : Int32))).toNatClampNeg (0 : Int64)) b18729 (((s0 * ((gi M b18722 1) + (1 : Int32))) + (0 : Int32))).toNatClampNeg ((32 : Int64) ||| x1_v18196v18720)) 71 0 (0 : Int64)) 71 1 (0 : Int64)) 71 2 (0 : Int64)) [(0, vr (some (16, 0, 0))), (2, vi l2)] 385 [vr (some (71, 4, 0)), vr (some (16, 0, 0))] Q
  refine sX1_transfer_385 (d := (d + 1)) (sl (sl (sl (sl (sl (sl M b18723 (((s0 * ((gi M b18722 1) + (1 : Int32))) + (0 : Int32))).toNatClampNeg (0 : Int64)) b18726 (((s0 * ((gi M b18722 1) + (1 : Int32))) + (0 : Int32))).toNatClampNeg (0 : Int64)) b18729 (((s0 * ((gi M b18722 1) + (1 : Int32))) + (0 : Int32))).toNatClampNeg ((32 : Int64) ||| x1_v18196v18720)) 71 0 (0 : Int64)) 71 1 (0 : Int64)) 71 2 (0 : Int64)) l2 (some (71, 4, 0)) hw ?_
  refine jX1_sitePair (d := d) (sl (sl (sl (sl (sl (sl M b18723 (((s0 * ((gi M b18722 1) + (1 : Int32))) + (0 : Int32))).toNatClampNeg (0 : Int64)) b18726 (((s0 * ((gi M b18722 1) + (1 : Int32))) + (0 : Int32))).toNatClampNeg (0 : Int64)) b18729 (((s0 * ((gi M b18722 1) + (1 : Int32))) + (0 : Int32))).toNatClampNeg ((32 : Int64) ||| x1_v18196v18720)) 71 0 (0 : Int64)) 71 1 (0 : Int64)) 71 2 (0 : Int64)) l2 hw ?_
  obtain ⟨b18733, h18733, k⟩ := k
  refine ⟨b18733, h18733, ?_⟩
  show Z E YX1_transfer ((d + 1) + 1) (sl (sl (sl (sl (sl (sl M b18723 (((s0 * ((gi M b18722 1) + (1 : Int32))) + (0 : Int32))).toNatClampNeg (0 : Int64)) b18726 (((s0 * ((gi M b18722 1) + (1 : Int32))) + (0 : Int32))).toNatClampNeg (0 : Int64)) b18729 (((s0 * ((gi M b18722 1) + (1 : Int32))) + (0 : Int32))).toNatClampNeg ((32 : Int64) ||| x1_v18196v18720)) 71 0 (0 : Int64)) 71 1 (0 : Int64)) 71 2 (0 : Int64)) [] 390 [vi (((29 : Int32) + ((6 : Int32) * ((gi M b18733 2) - (1 : Int32)))) + ((2 : Int32) * l2)), vr (some (71, 4, 0)), vr (some (16, 0, 0))] Q
  refine sX1_transfer_390 (d := (d + 1)) (sl (sl (sl (sl (sl (sl M b18723 (((s0 * ((gi M b18722 1) + (1 : Int32))) + (0 : Int32))).toNatClampNeg (0 : Int64)) b18726 (((s0 * ((gi M b18722 1) + (1 : Int32))) + (0 : Int32))).toNatClampNeg (0 : Int64)) b18729 (((s0 * ((gi M b18722 1) + (1 : Int32))) + (0 : Int32))).toNatClampNeg ((32 : Int64) ||| x1_v18196v18720)) 71 0 (0 : Int64)) 71 1 (0 : Int64)) 71 2 (0 : Int64)) (((29 : Int32) + ((6 : Int32) * ((gi M b18733 2) - (1 : Int32)))) + ((2 : Int32) * l2)) (some (71, 4, 0)) hw ?_
  refine ⟨71, rfl, ?_⟩
  exact k
theorem iX1_transfer_377 {E : zE} {d : Nat} {Q : zO → zM → Prop} (M : zM) (l2 : Int32) (hw : cw M) (k : 16 ≤ 71 ∧ (∃ b18736 : Nat, (gr M 16 8) = some (b18736, 11, 0) ∧ (if (64 : Int32) ≤ (((29 : Int32) + ((6 : Int32) * ((gi M b18736 2) - (1 : Int32)))) + ((2 : Int32) * l2)) then (Z E YX1_nextWith (d + 1) (sl (sl (sl (sl M 71 0 (0 : Int64)) 71 1 (0 : Int64)) 71 2 (0 : Int64)) 71 1 ((0 : Int64) ||| (zls (1 : Int64) ((((29 : Int32) + ((6 : Int32) * ((gi M b18736 2) - (1 : Int32)))) + ((2 : Int32) * l2)) - (64 : Int32))))) (zargs 0 [vr (some (16, 0, 0)), vr (some (71, 4, 0))]) 0 [] (zafter E YX1_transfer ((d + 1) + 1) [] 393 3 [] Q)) else (Z E YX1_nextWith (d + 1) (sl (sl (sl (sl M 71 0 (0 : Int64)) 71 1 (0 : Int64)) 71 2 (0 : Int64)) 71 0 ((0 : Int64) ||| (zls (1 : Int64) (((29 : Int32) + ((6 : Int32) * ((gi M b18736 2) - (1 : Int32)))) + ((2 : Int32) * l2))))) (zargs 0 [vr (some (16, 0, 0)), vr (some (71, 4, 0))]) 0 [] (zafter E YX1_transfer ((d + 1) + 1) [] 393 3 [] Q))))) : Z E YX1_transfer (d + 2) M [(0, vr (some (16, 0, 0))), (2, vi l2)] 377 [] Q := by
  refine sX1_transfer_377 (d := (d + 1)) M l2 hw ?_
  refine jX6_empty (d := (d + 1)) M 71 ?_
  refine zand k (fun h18735 k => ?_)
  show Z E YX1_transfer ((d + 1) + 1) (sl (sl (sl M 71 0 (0 : Int64)) 71 1 (0 : Int64)) 71 2 (0 : Int64)) [(0, vr (some (16, 0, 0))), (2, vi l2)] 385 [vr (some (71, 4, 0)), vr (some (16, 0, 0))] Q
  refine sX1_transfer_385 (d := (d + 1)) (sl (sl (sl M 71 0 (0 : Int64)) 71 1 (0 : Int64)) 71 2 (0 : Int64)) l2 (some (71, 4, 0)) hw ?_
  refine jX1_sitePair (d := d) (sl (sl (sl M 71 0 (0 : Int64)) 71 1 (0 : Int64)) 71 2 (0 : Int64)) l2 hw ?_
  obtain ⟨b18736, h18736, k⟩ := k
  refine ⟨b18736, h18736, ?_⟩
  show Z E YX1_transfer ((d + 1) + 1) (sl (sl (sl M 71 0 (0 : Int64)) 71 1 (0 : Int64)) 71 2 (0 : Int64)) [] 390 [vi (((29 : Int32) + ((6 : Int32) * ((gi M b18736 2) - (1 : Int32)))) + ((2 : Int32) * l2)), vr (some (71, 4, 0)), vr (some (16, 0, 0))] Q
  refine sX1_transfer_390 (d := (d + 1)) (sl (sl (sl M 71 0 (0 : Int64)) 71 1 (0 : Int64)) 71 2 (0 : Int64)) (((29 : Int32) + ((6 : Int32) * ((gi M b18736 2) - (1 : Int32)))) + ((2 : Int32) * l2)) (some (71, 4, 0)) hw ?_
  refine ⟨71, rfl, ?_⟩
  refine sX6_add_0 (d := (d + 1)) (sl (sl (sl M 71 0 (0 : Int64)) 71 1 (0 : Int64)) 71 2 (0 : Int64)) 71 (((29 : Int32) + ((6 : Int32) * ((gi M b18736 2) - (1 : Int32)))) + ((2 : Int32) * l2)) ?_
  refine zite k (fun h18737 k => ?_) (fun h18737 k => ?_)
  · refine ⟨h18735, ?_⟩
    show Z E YX1_transfer ((d + 1) + 1) (sl (sl (sl (sl M 71 0 (0 : Int64)) 71 1 (0 : Int64)) 71 2 (0 : Int64)) 71 1 ((0 : Int64) ||| (zls (1 : Int64) ((((29 : Int32) + ((6 : Int32) * ((gi M b18736 2) - (1 : Int32)))) + ((2 : Int32) * l2)) - (64 : Int32))))) [] 393 [vr (some (71, 4, 0)), vr (some (16, 0, 0))] Q
    refine sX1_transfer_393 (d := (d + 1)) (sl (sl (sl (sl M 71 0 (0 : Int64)) 71 1 (0 : Int64)) 71 2 (0 : Int64)) 71 1 ((0 : Int64) ||| (zls (1 : Int64) ((((29 : Int32) + ((6 : Int32) * ((gi M b18736 2) - (1 : Int32)))) + ((2 : Int32) * l2)) - (64 : Int32))))) (some (71, 4, 0)) hw ?_
    exact k
  · refine ⟨h18735, ?_⟩
    show Z E YX1_transfer ((d + 1) + 1) (sl (sl (sl (sl M 71 0 (0 : Int64)) 71 1 (0 : Int64)) 71 2 (0 : Int64)) 71 0 ((0 : Int64) ||| (zls (1 : Int64) (((29 : Int32) + ((6 : Int32) * ((gi M b18736 2) - (1 : Int32)))) + ((2 : Int32) * l2))))) [] 393 [vr (some (71, 4, 0)), vr (some (16, 0, 0))] Q
    refine sX1_transfer_393 (d := (d + 1)) (sl (sl (sl (sl M 71 0 (0 : Int64)) 71 1 (0 : Int64)) 71 2 (0 : Int64)) 71 0 ((0 : Int64) ||| (zls (1 : Int64) (((29 : Int32) + ((6 : Int32) * ((gi M b18736 2) - (1 : Int32)))) + ((2 : Int32) * l2))))) (some (71, 4, 0)) hw ?_
    exact k
theorem iX1_transfer_453 {E : zE} {d : Nat} {Q : zO → zM → Prop} (M : zM) (hw : cw M) (k : Q (.inl none) M) : Z E YX1_transfer (d + 1) M [] 453 [] Q := by
  refine sX1_transfer_453 (d := d) M hw ?_
  refine sX1_transfer_521 (d := d) M hw ?_
  exact k
theorem iX1_transfer_490 {E : zE} {d : Nat} {Q : zO → zM → Prop} (M : zM) (hw : cw M) (k : Q (.inl none) M) : Z E YX1_transfer (d + 1) M [] 490 [] Q := by
  refine sX1_transfer_490 (d := d) M hw ?_
  refine sX1_transfer_521 (d := d) M hw ?_
  exact k
theorem iX1_transfer_503 {E : zE} {d : Nat} {Q : zO → zM → Prop} (M : zM) (hw : cw M) (k : Q (.inl none) M) : Z E YX1_transfer (d + 1) M [] 503 [] Q := by
  refine sX1_transfer_503 (d := d) M hw ?_
  refine sX1_transfer_521 (d := d) M hw ?_
  exact k
theorem iX1_transfer_511 {E : zE} {d : Nat} {Q : zO → zM → Prop} (M : zM) (hw : cw M) (k : Q (.inl none) M) : Z E YX1_transfer (d + 1) M [] 511 [] Q := by
  refine sX1_transfer_511 (d := d) M hw ?_
  refine sX1_transfer_521 (d := d) M hw ?_
  exact k
theorem iX1_transfer_396 {E : zE} {d : Nat} {Q : zO → zM → Prop} (M : zM) (hw : cw M) (k : Q (.inl none) M) : Z E YX1_transfer (d + 1) M [] 396 [] Q := by
  refine sX1_transfer_396 (d := d) M hw ?_
  refine sX1_transfer_521 (d := d) M hw ?_
  exact k
theorem iX1_uncaught_0 {E : zE} {d : Nat} {Q : zO → zM → Prop} (M : zM) (l1 : Int32) (hw : cw M) (k : if (gi M 16 51) = (3 : Int32) then (if l1 = 0 then (Q (.inl (some (vi (gi M 16 54)))) M) else (if l1 = (1 : Int32) then (if (gi M 16 54) < (5 : Int32) then (Q (.inl (some (vi (0 : Int32)))) M) else (Q (.inl (some (vi (gi M 16 55)))) M)) else (Q (.inl (some (vi (-1 : Int32)))) M))) else (Q (.inl (some (vi (-1 : Int32)))) M)) : Z E YX1_uncaught (d + 1) M [(0, vr (some (16, 0, 0))), (1, vi l1)] 0 [] Q := by
  refine sX1_uncaught_0 (d := d) M l1 hw ?_
  refine zite k (fun h18738 k => ?_) (fun h18738 k => ?_)
  · refine sX1_told_0 (d := d) M (gi M 16 54) (gi M 16 55) l1 hw ?_
    refine zite k (fun h18739 k => ?_) (fun h18739 k => ?_)
    · show Z E YX1_uncaught (d + 1) M [] 21 [vi (gi M 16 54)] Q
      refine sX1_uncaught_21 (d := d) M (gi M 16 54) hw ?_
      exact k
    · refine zite k (fun h18740 k => ?_) (fun h18740 k => ?_)
      · refine zite k (fun h18741 k => ?_) (fun h18741 k => ?_)
        · show Z E YX1_uncaught (d + 1) M [] 21 [vi (0 : Int32)] Q
          refine sX1_uncaught_21 (d := d) M (0 : Int32) hw ?_
          exact k
        · show Z E YX1_uncaught (d + 1) M [] 21 [vi (gi M 16 55)] Q
          refine sX1_uncaught_21 (d := d) M (gi M 16 55) hw ?_
          exact k
      · show Z E YX1_uncaught (d + 1) M [] 21 [vi (-1 : Int32)] Q
        refine sX1_uncaught_21 (d := d) M (-1 : Int32) hw ?_
        exact k
  · exact k
theorem iX1_warns_0 {E : zE} {d : Nat} {Q : zO → zM → Prop} (M : zM) (l1 : Int32) (hw : cw M) (k : if (gi M 16 62) = 0 then (Q (.inl (some (vi (-1 : Int32)))) M) else (if l1 < 0 then (Q (.inl (some (vi (-1 : Int32)))) M) else (if (gi M 16 75) ≤ l1 then (Q (.inl (some (vi (-1 : Int32)))) M) else (∃ b18745 : Nat, (gr M 16 59) = some (b18745, 6, 0) ∧ (∃ b18746 m18746 : Nat, (gr M b18745 9) = some (b18746, 100, m18746) ∧ (vp_in l1 m18746 ∧ (if (gi M b18746 (l1).toNatClampNeg) = (-1 : Int32) then (Q (.inl (some (vi (-1 : Int32)))) M) else (vp_in l1 600 ∧ (Q (.inl (some (vi (gi M 70 (l1).toNatClampNeg)))) M))))))))) : Z E YX1_warns (d + 1) M [(0, vr (some (16, 0, 0))), (1, vi l1)] 0 [] Q := by
  refine sX1_warns_0 (d := d) M l1 hw ?_
  refine sX1_isReached_0 (d := d) M l1 hw ?_
  refine zite k (fun h18742 k => ?_) (fun h18742 k => ?_)
  · show Z E YX1_warns (d + 1) M [(0, vr (some (16, 0, 0))), (1, vi l1)] 5 [vi (0 : Int32)] Q
    refine sX1_warns_5 (d := d) M l1 (0 : Int32) hw ?_
    refine zpos (show (0 : Int32) = 0 from by decide) ?_
    exact k
  · refine zite k (fun h18743 k => ?_) (fun h18743 k => ?_)
    · show Z E YX1_warns (d + 1) M [(0, vr (some (16, 0, 0))), (1, vi l1)] 5 [vi (0 : Int32)] Q
      refine sX1_warns_5 (d := d) M l1 (0 : Int32) hw ?_
      refine zpos (show (0 : Int32) = 0 from by decide) ?_
      exact k
    · refine zite k (fun h18744 k => ?_) (fun h18744 k => ?_)
      · show Z E YX1_warns (d + 1) M [(0, vr (some (16, 0, 0))), (1, vi l1)] 5 [vi (0 : Int32)] Q
        refine sX1_warns_5 (d := d) M l1 (0 : Int32) hw ?_
        refine zpos (show (0 : Int32) = 0 from by decide) ?_
        exact k
      · obtain ⟨b18745, h18745, k⟩ := k
        refine ⟨b18745, h18745, ?_⟩
        obtain ⟨b18746, m18746, h18746, k⟩ := k
        refine ⟨b18746, m18746, h18746, ?_⟩
        refine zand k (fun h18747 k => ?_)
        refine zite k (fun h18748 k => ?_) (fun h18748 k => ?_)
        · show Z E YX1_warns (d + 1) M [(0, vr (some (16, 0, 0))), (1, vi l1)] 5 [vi (0 : Int32)] Q
          refine sX1_warns_5 (d := d) M l1 (0 : Int32) hw ?_
          refine zpos (show (0 : Int32) = 0 from by decide) ?_
          exact k
        · show Z E YX1_warns (d + 1) M [(0, vr (some (16, 0, 0))), (1, vi l1)] 5 [vi (1 : Int32)] Q
          refine sX1_warns_5 (d := d) M l1 (1 : Int32) hw ?_
          refine zneg (show ¬ ((1 : Int32) = 0) from by decide) ?_
          exact k
theorem iX43_copy_46 {E : zE} {d : Nat} {Q : zO → zM → Prop} (M : zM) (a0 : Nat) (a1 : Nat) (l2 : Int32) (k : ∃ b18867 m18867 : Nat, (gr M a0 3) = some (b18867, 105, m18867) ∧ (∃ b18868 m18868 : Nat, (gr M a1 3) = some (b18868, 105, m18868) ∧ (16 ≤ b18867 ∧ ((1 ≤ d) ∧ (((¬ (0 : Int32) < 0 ∧ ¬ (0 : Int32) < 0 ∧ ¬ l2 < 0) ∧ ((0 : Int32)).toNatClampNeg + (l2).toNatClampNeg ≤ m18868 ∧ ((0 : Int32)).toNatClampNeg + (l2).toNatClampNeg ≤ m18867) ∧ (∃ b18872 : Nat, (gr (cpl M b18868 ((0 : Int32)).toNatClampNeg b18867 ((0 : Int32)).toNatClampNeg (l2).toNatClampNeg) a0 0) = some (b18872, 0, 0) ∧ (∃ b18873 m18873 : Nat, (gr (cpl M b18868 ((0 : Int32)).toNatClampNeg b18867 ((0 : Int32)).toNatClampNeg (l2).toNatClampNeg) a0 4) = some (b18873, 105, m18873) ∧ (∃ b18874 m18874 : Nat, (gr (cpl M b18868 ((0 : Int32)).toNatClampNeg b18867 ((0 : Int32)).toNatClampNeg (l2).toNatClampNeg) a1 4) = some (b18874, 105, m18874) ∧ (16 ≤ b18873 ∧ (((¬ (0 : Int32) < 0 ∧ ¬ (0 : Int32) < 0 ∧ ¬ (gi (cpl M b18868 ((0 : Int32)).toNatClampNeg b18867 ((0 : Int32)).toNatClampNeg (l2).toNatClampNeg) b18872 11) < 0) ∧ ((0 : Int32)).toNatClampNeg + ((gi (cpl M b18868 ((0 : Int32)).toNatClampNeg b18867 ((0 : Int32)).toNatClampNeg (l2).toNatClampNeg) b18872 11)).toNatClampNeg ≤ m18874 ∧ ((0 : Int32)).toNatClampNeg + ((gi (cpl M b18868 ((0 : Int32)).toNatClampNeg b18867 ((0 : Int32)).toNatClampNeg (l2).toNatClampNeg) b18872 11)).toNatClampNeg ≤ m18873) ∧ (∃ b18877 : Nat, (gr (cpl (cpl M b18868 ((0 : Int32)).toNatClampNeg b18867 ((0 : Int32)).toNatClampNeg (l2).toNatClampNeg) b18874 ((0 : Int32)).toNatClampNeg b18873 ((0 : Int32)).toNatClampNeg ((gi (cpl M b18868 ((0 : Int32)).toNatClampNeg b18867 ((0 : Int32)).toNatClampNeg (l2).toNatClampNeg) b18872 11)).toNatClampNeg) a0 0) = some (b18877, 0, 0) ∧ (∃ b18878 m18878 : Nat, (gr (cpl (cpl M b18868 ((0 : Int32)).toNatClampNeg b18867 ((0 : Int32)).toNatClampNeg (l2).toNatClampNeg) b18874 ((0 : Int32)).toNatClampNeg b18873 ((0 : Int32)).toNatClampNeg ((gi (cpl M b18868 ((0 : Int32)).toNatClampNeg b18867 ((0 : Int32)).toNatClampNeg (l2).toNatClampNeg) b18872 11)).toNatClampNeg) a0 5) = some (b18878, 105, m18878) ∧ (∃ b18879 m18879 : Nat, (gr (cpl (cpl M b18868 ((0 : Int32)).toNatClampNeg b18867 ((0 : Int32)).toNatClampNeg (l2).toNatClampNeg) b18874 ((0 : Int32)).toNatClampNeg b18873 ((0 : Int32)).toNatClampNeg ((gi (cpl M b18868 ((0 : Int32)).toNatClampNeg b18867 ((0 : Int32)).toNatClampNeg (l2).toNatClampNeg) b18872 11)).toNatClampNeg) a1 5) = some (b18879, 105, m18879) ∧ (16 ≤ b18878 ∧ (((¬ (0 : Int32) < 0 ∧ ¬ (0 : Int32) < 0 ∧ ¬ (gi (cpl (cpl M b18868 ((0 : Int32)).toNatClampNeg b18867 ((0 : Int32)).toNatClampNeg (l2).toNatClampNeg) b18874 ((0 : Int32)).toNatClampNeg b18873 ((0 : Int32)).toNatClampNeg ((gi (cpl M b18868 ((0 : Int32)).toNatClampNeg b18867 ((0 : Int32)).toNatClampNeg (l2).toNatClampNeg) b18872 11)).toNatClampNeg) b18877 11) < 0) ∧ ((0 : Int32)).toNatClampNeg + ((gi (cpl (cpl M b18868 ((0 : Int32)).toNatClampNeg b18867 ((0 : Int32)).toNatClampNeg (l2).toNatClampNeg) b18874 ((0 : Int32)).toNatClampNeg b18873 ((0 : Int32)).toNatClampNeg ((gi (cpl M b18868 ((0 : Int32)).toNatClampNeg b18867 ((0 : Int32)).toNatClampNeg (l2).toNatClampNeg) b18872 11)).toNatClampNeg) b18877 11)).toNatClampNeg ≤ m18879 ∧ ((0 : Int32)).toNatClampNeg + ((gi (cpl (cpl M b18868 ((0 : Int32)).toNatClampNeg b18867 ((0 : Int32)).toNatClampNeg (l2).toNatClampNeg) b18874 ((0 : Int32)).toNatClampNeg b18873 ((0 : Int32)).toNatClampNeg ((gi (cpl M b18868 ((0 : Int32)).toNatClampNeg b18867 ((0 : Int32)).toNatClampNeg (l2).toNatClampNeg) b18872 11)).toNatClampNeg) b18877 11)).toNatClampNeg ≤ m18878) ∧ (Z E YX43_copy d (cpl (cpl (cpl M b18868 ((0 : Int32)).toNatClampNeg b18867 ((0 : Int32)).toNatClampNeg (l2).toNatClampNeg) b18874 ((0 : Int32)).toNatClampNeg b18873 ((0 : Int32)).toNatClampNeg ((gi (cpl M b18868 ((0 : Int32)).toNatClampNeg b18867 ((0 : Int32)).toNatClampNeg (l2).toNatClampNeg) b18872 11)).toNatClampNeg) b18879 ((0 : Int32)).toNatClampNeg b18878 ((0 : Int32)).toNatClampNeg ((gi (cpl (cpl M b18868 ((0 : Int32)).toNatClampNeg b18867 ((0 : Int32)).toNatClampNeg (l2).toNatClampNeg) b18874 ((0 : Int32)).toNatClampNeg b18873 ((0 : Int32)).toNatClampNeg ((gi (cpl M b18868 ((0 : Int32)).toNatClampNeg b18867 ((0 : Int32)).toNatClampNeg (l2).toNatClampNeg) b18872 11)).toNatClampNeg) b18877 11)).toNatClampNeg) [(0, vr (some (a0, 7, 0))), (1, vr (some (a1, 7, 0)))] 100 [] Q)))))))))))))))) : Z E YX43_copy d M [(0, vr (some (a0, 7, 0))), (1, vr (some (a1, 7, 0))), (2, vi l2)] 46 [] Q := by
  refine sX43_copy_46 (d := d) M a0 a1 l2 ?_
  obtain ⟨b18867, m18867, h18867, k⟩ := k
  refine ⟨b18867, m18867, h18867, ?_⟩
  obtain ⟨b18868, m18868, h18868, k⟩ := k
  refine ⟨b18868, m18868, h18868, ?_⟩
  refine zand k (fun h18869 k => ?_)
  refine zand k (fun h18870 k => ?_)
  refine zand k (fun h18871 k => ?_)
  refine sX43_copy_60 (d := d) (cpl M b18868 ((0 : Int32)).toNatClampNeg b18867 ((0 : Int32)).toNatClampNeg (l2).toNatClampNeg) _ _ ?_
  obtain ⟨b18872, h18872, k⟩ := k
  refine ⟨b18872, h18872, ?_⟩
  obtain ⟨b18873, m18873, h18873, k⟩ := k
  refine ⟨b18873, m18873, h18873, ?_⟩
  obtain ⟨b18874, m18874, h18874, k⟩ := k
  refine ⟨b18874, m18874, h18874, ?_⟩
  refine zand k (fun h18875 k => ?_)
  refine ⟨h18870, ?_⟩
  refine zand k (fun h18876 k => ?_)
  refine sX43_copy_80 (d := d) (cpl (cpl M b18868 ((0 : Int32)).toNatClampNeg b18867 ((0 : Int32)).toNatClampNeg (l2).toNatClampNeg) b18874 ((0 : Int32)).toNatClampNeg b18873 ((0 : Int32)).toNatClampNeg ((gi (cpl M b18868 ((0 : Int32)).toNatClampNeg b18867 ((0 : Int32)).toNatClampNeg (l2).toNatClampNeg) b18872 11)).toNatClampNeg) _ _ ?_
  obtain ⟨b18877, h18877, k⟩ := k
  refine ⟨b18877, h18877, ?_⟩
  obtain ⟨b18878, m18878, h18878, k⟩ := k
  refine ⟨b18878, m18878, h18878, ?_⟩
  obtain ⟨b18879, m18879, h18879, k⟩ := k
  refine ⟨b18879, m18879, h18879, ?_⟩
  refine zand k (fun h18880 k => ?_)
  refine ⟨h18870, ?_⟩
  exact k
theorem iX43_copy_100 {E : zE} {d : Nat} {Q : zO → zM → Prop} (M : zM) (a0 : Nat) (a1 : Nat) (k : ∃ b18882 : Nat, (gr M a0 0) = some (b18882, 0, 0) ∧ (∃ b18883 m18883 : Nat, (gr M a0 6) = some (b18883, 105, m18883) ∧ (∃ b18884 m18884 : Nat, (gr M a1 6) = some (b18884, 105, m18884) ∧ (16 ≤ b18883 ∧ ((1 ≤ d) ∧ (((¬ (0 : Int32) < 0 ∧ ¬ (0 : Int32) < 0 ∧ ¬ (gi M b18882 11) < 0) ∧ ((0 : Int32)).toNatClampNeg + ((gi M b18882 11)).toNatClampNeg ≤ m18884 ∧ ((0 : Int32)).toNatClampNeg + ((gi M b18882 11)).toNatClampNeg ≤ m18883) ∧ (∃ b18888 : Nat, (gr (cpl M b18884 ((0 : Int32)).toNatClampNeg b18883 ((0 : Int32)).toNatClampNeg ((gi M b18882 11)).toNatClampNeg) a0 0) = some (b18888, 0, 0) ∧ (∃ b18889 m18889 : Nat, (gr (cpl M b18884 ((0 : Int32)).toNatClampNeg b18883 ((0 : Int32)).toNatClampNeg ((gi M b18882 11)).toNatClampNeg) a0 7) = some (b18889, 105, m18889) ∧ (∃ b18890 m18890 : Nat, (gr (cpl M b18884 ((0 : Int32)).toNatClampNeg b18883 ((0 : Int32)).toNatClampNeg ((gi M b18882 11)).toNatClampNeg) a1 7) = some (b18890, 105, m18890) ∧ (16 ≤ b18889 ∧ (((¬ (0 : Int32) < 0 ∧ ¬ (0 : Int32) < 0 ∧ ¬ (gi (cpl M b18884 ((0 : Int32)).toNatClampNeg b18883 ((0 : Int32)).toNatClampNeg ((gi M b18882 11)).toNatClampNeg) b18888 11) < 0) ∧ ((0 : Int32)).toNatClampNeg + ((gi (cpl M b18884 ((0 : Int32)).toNatClampNeg b18883 ((0 : Int32)).toNatClampNeg ((gi M b18882 11)).toNatClampNeg) b18888 11)).toNatClampNeg ≤ m18890 ∧ ((0 : Int32)).toNatClampNeg + ((gi (cpl M b18884 ((0 : Int32)).toNatClampNeg b18883 ((0 : Int32)).toNatClampNeg ((gi M b18882 11)).toNatClampNeg) b18888 11)).toNatClampNeg ≤ m18889) ∧ (∃ b18893 : Nat, (gr (cpl (cpl M b18884 ((0 : Int32)).toNatClampNeg b18883 ((0 : Int32)).toNatClampNeg ((gi M b18882 11)).toNatClampNeg) b18890 ((0 : Int32)).toNatClampNeg b18889 ((0 : Int32)).toNatClampNeg ((gi (cpl M b18884 ((0 : Int32)).toNatClampNeg b18883 ((0 : Int32)).toNatClampNeg ((gi M b18882 11)).toNatClampNeg) b18888 11)).toNatClampNeg) a0 0) = some (b18893, 0, 0) ∧ (∃ b18894 m18894 : Nat, (gr (cpl (cpl M b18884 ((0 : Int32)).toNatClampNeg b18883 ((0 : Int32)).toNatClampNeg ((gi M b18882 11)).toNatClampNeg) b18890 ((0 : Int32)).toNatClampNeg b18889 ((0 : Int32)).toNatClampNeg ((gi (cpl M b18884 ((0 : Int32)).toNatClampNeg b18883 ((0 : Int32)).toNatClampNeg ((gi M b18882 11)).toNatClampNeg) b18888 11)).toNatClampNeg) a0 8) = some (b18894, 104, m18894) ∧ (∃ b18895 m18895 : Nat, (gr (cpl (cpl M b18884 ((0 : Int32)).toNatClampNeg b18883 ((0 : Int32)).toNatClampNeg ((gi M b18882 11)).toNatClampNeg) b18890 ((0 : Int32)).toNatClampNeg b18889 ((0 : Int32)).toNatClampNeg ((gi (cpl M b18884 ((0 : Int32)).toNatClampNeg b18883 ((0 : Int32)).toNatClampNeg ((gi M b18882 11)).toNatClampNeg) b18888 11)).toNatClampNeg) a1 8) = some (b18895, 104, m18895) ∧ (16 ≤ b18894 ∧ (((¬ (0 : Int32) < 0 ∧ ¬ (0 : Int32) < 0 ∧ ¬ (gi (cpl (cpl M b18884 ((0 : Int32)).toNatClampNeg b18883 ((0 : Int32)).toNatClampNeg ((gi M b18882 11)).toNatClampNeg) b18890 ((0 : Int32)).toNatClampNeg b18889 ((0 : Int32)).toNatClampNeg ((gi (cpl M b18884 ((0 : Int32)).toNatClampNeg b18883 ((0 : Int32)).toNatClampNeg ((gi M b18882 11)).toNatClampNeg) b18888 11)).toNatClampNeg) b18893 11) < 0) ∧ ((0 : Int32)).toNatClampNeg + ((gi (cpl (cpl M b18884 ((0 : Int32)).toNatClampNeg b18883 ((0 : Int32)).toNatClampNeg ((gi M b18882 11)).toNatClampNeg) b18890 ((0 : Int32)).toNatClampNeg b18889 ((0 : Int32)).toNatClampNeg ((gi (cpl M b18884 ((0 : Int32)).toNatClampNeg b18883 ((0 : Int32)).toNatClampNeg ((gi M b18882 11)).toNatClampNeg) b18888 11)).toNatClampNeg) b18893 11)).toNatClampNeg ≤ m18895 ∧ ((0 : Int32)).toNatClampNeg + ((gi (cpl (cpl M b18884 ((0 : Int32)).toNatClampNeg b18883 ((0 : Int32)).toNatClampNeg ((gi M b18882 11)).toNatClampNeg) b18890 ((0 : Int32)).toNatClampNeg b18889 ((0 : Int32)).toNatClampNeg ((gi (cpl M b18884 ((0 : Int32)).toNatClampNeg b18883 ((0 : Int32)).toNatClampNeg ((gi M b18882 11)).toNatClampNeg) b18888 11)).toNatClampNeg) b18893 11)).toNatClampNeg ≤ m18894) ∧ ((∀ i, i < ((gi (cpl (cpl M b18884 ((0 : Int32)).toNatClampNeg b18883 ((0 : Int32)).toNatClampNeg ((gi M b18882 11)).toNatClampNeg) b18890 ((0 : Int32)).toNatClampNeg b18889 ((0 : Int32)).toNatClampNeg ((gi (cpl M b18884 ((0 : Int32)).toNatClampNeg b18883 ((0 : Int32)).toNatClampNeg ((gi M b18882 11)).toNatClampNeg) b18888 11)).toNatClampNeg) b18893 11)).toNatClampNeg → zfit .boolean (gi (cpl (cpl M b18884 ((0 : Int32)).toNatClampNeg b18883 ((0 : Int32)).toNatClampNeg ((gi M b18882 11)).toNatClampNeg) b18890 ((0 : Int32)).toNatClampNeg b18889 ((0 : Int32)).toNatClampNeg ((gi (cpl M b18884 ((0 : Int32)).toNatClampNeg b18883 ((0 : Int32)).toNatClampNeg ((gi M b18882 11)).toNatClampNeg) b18888 11)).toNatClampNeg) b18895 (((0 : Int32)).toNatClampNeg + i))) ∧ (Z E YX43_copy d (cpi (cpl (cpl M b18884 ((0 : Int32)).toNatClampNeg b18883 ((0 : Int32)).toNatClampNeg ((gi M b18882 11)).toNatClampNeg) b18890 ((0 : Int32)).toNatClampNeg b18889 ((0 : Int32)).toNatClampNeg ((gi (cpl M b18884 ((0 : Int32)).toNatClampNeg b18883 ((0 : Int32)).toNatClampNeg ((gi M b18882 11)).toNatClampNeg) b18888 11)).toNatClampNeg) b18895 ((0 : Int32)).toNatClampNeg b18894 ((0 : Int32)).toNatClampNeg ((gi (cpl (cpl M b18884 ((0 : Int32)).toNatClampNeg b18883 ((0 : Int32)).toNatClampNeg ((gi M b18882 11)).toNatClampNeg) b18890 ((0 : Int32)).toNatClampNeg b18889 ((0 : Int32)).toNatClampNeg ((gi (cpl M b18884 ((0 : Int32)).toNatClampNeg b18883 ((0 : Int32)).toNatClampNeg ((gi M b18882 11)).toNatClampNeg) b18888 11)).toNatClampNeg) b18893 11)).toNatClampNeg) [(0, vr (some (a0, 7, 0))), (1, vr (some (a1, 7, 0)))] 160 [] Q)))))))))))))))))) : Z E YX43_copy d M [(0, vr (some (a0, 7, 0))), (1, vr (some (a1, 7, 0)))] 100 [] Q := by
  refine sX43_copy_100 (d := d) M a0 a1 ?_
  obtain ⟨b18882, h18882, k⟩ := k
  refine ⟨b18882, h18882, ?_⟩
  obtain ⟨b18883, m18883, h18883, k⟩ := k
  refine ⟨b18883, m18883, h18883, ?_⟩
  obtain ⟨b18884, m18884, h18884, k⟩ := k
  refine ⟨b18884, m18884, h18884, ?_⟩
  refine zand k (fun h18885 k => ?_)
  refine zand k (fun h18886 k => ?_)
  refine zand k (fun h18887 k => ?_)
  refine sX43_copy_120 (d := d) (cpl M b18884 ((0 : Int32)).toNatClampNeg b18883 ((0 : Int32)).toNatClampNeg ((gi M b18882 11)).toNatClampNeg) _ _ ?_
  obtain ⟨b18888, h18888, k⟩ := k
  refine ⟨b18888, h18888, ?_⟩
  obtain ⟨b18889, m18889, h18889, k⟩ := k
  refine ⟨b18889, m18889, h18889, ?_⟩
  obtain ⟨b18890, m18890, h18890, k⟩ := k
  refine ⟨b18890, m18890, h18890, ?_⟩
  refine zand k (fun h18891 k => ?_)
  refine ⟨h18886, ?_⟩
  refine zand k (fun h18892 k => ?_)
  refine sX43_copy_140 (d := d) (cpl (cpl M b18884 ((0 : Int32)).toNatClampNeg b18883 ((0 : Int32)).toNatClampNeg ((gi M b18882 11)).toNatClampNeg) b18890 ((0 : Int32)).toNatClampNeg b18889 ((0 : Int32)).toNatClampNeg ((gi (cpl M b18884 ((0 : Int32)).toNatClampNeg b18883 ((0 : Int32)).toNatClampNeg ((gi M b18882 11)).toNatClampNeg) b18888 11)).toNatClampNeg) _ _ ?_
  obtain ⟨b18893, h18893, k⟩ := k
  refine ⟨b18893, h18893, ?_⟩
  obtain ⟨b18894, m18894, h18894, k⟩ := k
  refine ⟨b18894, m18894, h18894, ?_⟩
  obtain ⟨b18895, m18895, h18895, k⟩ := k
  refine ⟨b18895, m18895, h18895, ?_⟩
  refine zand k (fun h18896 k => ?_)
  refine ⟨h18886, ?_⟩
  exact k
