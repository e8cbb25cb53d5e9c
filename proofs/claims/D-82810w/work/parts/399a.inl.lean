/-! the inlining layer: small callees run through, what is known on a path isn't asked again (printed by gen/inl.py) -/
theorem zite {c A B A' B' : Prop} [Decidable c] (k : if c then A' else B') (h1 : c → A' → A) (h2 : ¬ c → B' → B) : if c then A else B := by
  by_cases h : c
  · rw [if_pos h] at k ⊢; exact h1 h k
  · rw [if_neg h] at k ⊢; exact h2 h k
theorem zand {p A A' : Prop} (k : p ∧ A') (h : p → A' → A) : p ∧ A := ⟨k.1, h k.1 k.2⟩
theorem zpos {c A B : Prop} [Decidable c] (h : c) (k : A) : if c then A else B := by rw [if_pos h]; exact k
theorem zneg {c A B : Prop} [Decidable c] (h : ¬ c) (k : B) : if c then A else B := by rw [if_neg h]; exact k
theorem jX8_isSign {E : zE} {d : Nat} {Q : zO → zM → Prop} (M : zM) (l1 : Int32) (k : vp_in (gi M 97 20) 4002 ∧ (if (gi M 103 ((gi M 97 20)).toNatClampNeg) = (5 : Int32) then (if (gi M 104 ((gi M 97 20)).toNatClampNeg) = l1 then (Q (.inl (some (vi (1 : Int32)))) M) else (Q (.inl (some (vi (0 : Int32)))) M)) else (Q (.inl (some (vi (0 : Int32)))) M))) : Zm E YX8_isSign d M [(0, vr (some (97, 1, 0))), (1, vi l1)] 0 [] Q := by
  refine sX8_isSign_0 (d := d) M l1 ?_
  refine zand k (fun h1013 k => ?_)
  refine zite k (fun h1014 k => ?_) (fun h1014 k => ?_)
  · refine ⟨h1013, ?_⟩
    exact k
  · exact k
theorem jX8_isKeyword {E : zE} {d : Nat} {Q : zO → zM → Prop} (M : zM) (l1 : Int32) (k : vp_in (gi M 97 20) 4002 ∧ (if (gi M 103 ((gi M 97 20)).toNatClampNeg) = (2 : Int32) then (if (gi M 104 ((gi M 97 20)).toNatClampNeg) = l1 then (Q (.inl (some (vi (1 : Int32)))) M) else (Q (.inl (some (vi (0 : Int32)))) M)) else (Q (.inl (some (vi (0 : Int32)))) M))) : Zm E YX8_isKeyword d M [(0, vr (some (97, 1, 0))), (1, vi l1)] 0 [] Q := by
  refine sX8_isKeyword_0 (d := d) M l1 ?_
  refine zand k (fun h1027 k => ?_)
  refine zite k (fun h1028 k => ?_) (fun h1028 k => ?_)
  · refine ⟨h1027, ?_⟩
    exact k
  · exact k
theorem iX8_beginsExpression_0 {E : zE} {d : Nat} {Q : zO → zM → Prop} (M : zM)  (k : vp_in (gi M 97 20) 4002 ∧ (if (gi M 103 ((gi M 97 20)).toNatClampNeg) = (1 : Int32) then (Q (.inl (some (vi (1 : Int32)))) M) else (if (gi M 103 ((gi M 97 20)).toNatClampNeg) = (3 : Int32) then (Q (.inl (some (vi (1 : Int32)))) M) else (if (gi M 103 ((gi M 97 20)).toNatClampNeg) = (4 : Int32) then (Q (.inl (some (vi (1 : Int32)))) M) else (if (gi M 103 ((gi M 97 20)).toNatClampNeg) = (5 : Int32) then (if (gi M 104 ((gi M 97 20)).toNatClampNeg) = (26 : Int32) then (Q (.inl (some (vi (1 : Int32)))) M) else (if (gi M 104 ((gi M 97 20)).toNatClampNeg) = (28 : Int32) then (Q (.inl (some (vi (1 : Int32)))) M) else (if (gi M 104 ((gi M 97 20)).toNatClampNeg) = (24 : Int32) then (Q (.inl (some (vi (1 : Int32)))) M) else (Zm E YX8_isPrefix d M (zargs 0 [vr (some (97, 1, 0))]) 0 [] (zma E YX8_beginsExpression (d + 1) [] 82 3 [] Q))))) else (if (gi M 103 ((gi M 97 20)).toNatClampNeg) = (2 : Int32) then (Zm E YX8_isPrefix d M (zargs 0 [vr (some (97, 1, 0))]) 0 [] (zma E YX8_beginsExpression (d + 1) [(0, vr (some (97, 1, 0)))] 110 3 [] Q)) else (Q (.inl (some (vi (0 : Int32)))) M))))))) : Zm E YX8_beginsExpression (d + 1) M [(0, vr (some (97, 1, 0)))] 0 [] Q := by
  refine sX8_beginsExpression_0 (d := d) M  ?_
  refine zand k (fun h1008 k => ?_)
  refine zite k (fun h1009 k => ?_) (fun h1009 k => ?_)
  · exact k
  · refine ⟨h1008, ?_⟩
    refine zite k (fun h1010 k => ?_) (fun h1010 k => ?_)
    · exact k
    · refine ⟨h1008, ?_⟩
      refine zite k (fun h1011 k => ?_) (fun h1011 k => ?_)
      · exact k
      · refine ⟨h1008, ?_⟩
        refine zite k (fun h1012 k => ?_) (fun h1012 k => ?_)
        · refine jX8_isSign (d := d) M (26 : Int32) ?_
          refine ⟨h1008, ?_⟩
          refine zpos h1012 ?_
          refine zite k (fun h1016 k => ?_) (fun h1016 k => ?_)
          · show Zm E YX8_beginsExpression (d + 1) M [(0, vr (some (97, 1, 0)))] 60 [vi (1 : Int32)] Q
            refine sX8_beginsExpression_60 (d := d) M (1 : Int32) ?_
            refine zneg (show ¬ ((1 : Int32) = 0) from by decide) ?_
            exact k
          · show Zm E YX8_beginsExpression (d + 1) M [(0, vr (some (97, 1, 0)))] 60 [vi (0 : Int32)] Q
            refine sX8_beginsExpression_60 (d := d) M (0 : Int32) ?_
            refine zpos (show (0 : Int32) = 0 from by decide) ?_
            refine jX8_isSign (d := d) M (28 : Int32) ?_
            refine ⟨h1008, ?_⟩
            refine zpos h1012 ?_
            refine zite k (fun h1017 k => ?_) (fun h1017 k => ?_)
            · show Zm E YX8_beginsExpression (d + 1) M [(0, vr (some (97, 1, 0)))] 69 [vi (1 : Int32)] Q
              refine sX8_beginsExpression_69 (d := d) M (1 : Int32) ?_
              refine zneg (show ¬ ((1 : Int32) = 0) from by decide) ?_
              exact k
            · show Zm E YX8_beginsExpression (d + 1) M [(0, vr (some (97, 1, 0)))] 69 [vi (0 : Int32)] Q
              refine sX8_beginsExpression_69 (d := d) M (0 : Int32) ?_
              refine zpos (show (0 : Int32) = 0 from by decide) ?_
              refine jX8_isSign (d := d) M (24 : Int32) ?_
              refine ⟨h1008, ?_⟩
              refine zpos h1012 ?_
              refine zite k (fun h1018 k => ?_) (fun h1018 k => ?_)
              · show Zm E YX8_beginsExpression (d + 1) M [(0, vr (some (97, 1, 0)))] 78 [vi (1 : Int32)] Q
                refine sX8_beginsExpression_78 (d := d) M (1 : Int32) ?_
                refine zneg (show ¬ ((1 : Int32) = 0) from by decide) ?_
                exact k
              · show Zm E YX8_beginsExpression (d + 1) M [(0, vr (some (97, 1, 0)))] 78 [vi (0 : Int32)] Q
                refine sX8_beginsExpression_78 (d := d) M (0 : Int32) ?_
                refine zpos (show (0 : Int32) = 0 from by decide) ?_
                exact k
        · refine ⟨h1008, ?_⟩
          exact k
theorem iX8_beginsExpression_113 {E : zE} {d : Nat} {Q : zO → zM → Prop} (M : zM) (s0 : Int32) (k : if s0 = 0 then (vp_in (gi M 97 20) 4002 ∧ (if (gi M 103 ((gi M 97 20)).toNatClampNeg) = (2 : Int32) then (if (gi M 104 ((gi M 97 20)).toNatClampNeg) = (20 : Int32) then (Q (.inl (some (vi (1 : Int32)))) M) else (if (gi M 104 ((gi M 97 20)).toNatClampNeg) = (16 : Int32) then (Q (.inl (some (vi (1 : Int32)))) M) else (if (gi M 104 ((gi M 97 20)).toNatClampNeg) = (11 : Int32) then (Q (.inl (some (vi (1 : Int32)))) M) else (Zm E YX8_isLiteral d M (zargs 0 [vr (some (97, 1, 0))]) 0 [] (zma E YX8_beginsExpression (d + 1) [] 144 3 [] Q))))) else (Zm E YX8_isLiteral d M (zargs 0 [vr (some (97, 1, 0))]) 0 [] (zma E YX8_beginsExpression (d + 1) [] 144 3 [] Q)))) else (Q (.inl (some (vi (1 : Int32)))) M)) : Zm E YX8_beginsExpression (d + 1) M [(0, vr (some (97, 1, 0)))] 113 [vi s0] Q := by
  refine sX8_beginsExpression_113 (d := d) M s0 ?_
  refine zite k (fun h1040 k => ?_) (fun h1040 k => ?_)
  · refine jX8_isKeyword (d := d) M (20 : Int32) ?_
    refine zand k (fun h1041 k => ?_)
    refine zite k (fun h1042 k => ?_) (fun h1042 k => ?_)
    · refine zite k (fun h1043 k => ?_) (fun h1043 k => ?_)
      · show Zm E YX8_beginsExpression (d + 1) M [(0, vr (some (97, 1, 0)))] 122 [vi (1 : Int32)] Q
        refine sX8_beginsExpression_122 (d := d) M (1 : Int32) ?_
        refine zneg (show ¬ ((1 : Int32) = 0) from by decide) ?_
        exact k
      · show Zm E YX8_beginsExpression (d + 1) M [(0, vr (some (97, 1, 0)))] 122 [vi (0 : Int32)] Q
        refine sX8_beginsExpression_122 (d := d) M (0 : Int32) ?_
        refine zpos (show (0 : Int32) = 0 from by decide) ?_
        refine jX8_isKeyword (d := d) M (16 : Int32) ?_
        refine ⟨h1041, ?_⟩
        refine zpos h1042 ?_
        refine zite k (fun h1044 k => ?_) (fun h1044 k => ?_)
        · show Zm E YX8_beginsExpression (d + 1) M [(0, vr (some (97, 1, 0)))] 131 [vi (1 : Int32)] Q
          refine sX8_beginsExpression_131 (d := d) M (1 : Int32) ?_
          refine zneg (show ¬ ((1 : Int32) = 0) from by decide) ?_
          exact k
        · show Zm E YX8_beginsExpression (d + 1) M [(0, vr (some (97, 1, 0)))] 131 [vi (0 : Int32)] Q
          refine sX8_beginsExpression_131 (d := d) M (0 : Int32) ?_
          refine zpos (show (0 : Int32) = 0 from by decide) ?_
          refine jX8_isKeyword (d := d) M (11 : Int32) ?_
          refine ⟨h1041, ?_⟩
          refine zpos h1042 ?_
          refine zite k (fun h1045 k => ?_) (fun h1045 k => ?_)
          · show Zm E YX8_beginsExpression (d + 1) M [(0, vr (some (97, 1, 0)))] 140 [vi (1 : Int32)] Q
            refine sX8_beginsExpression_140 (d := d) M (1 : Int32) ?_
            refine zneg (show ¬ ((1 : Int32) = 0) from by decide) ?_
            exact k
          · show Zm E YX8_beginsExpression (d + 1) M [(0, vr (some (97, 1, 0)))] 140 [vi (0 : Int32)] Q
            refine sX8_beginsExpression_140 (d := d) M (0 : Int32) ?_
            refine zpos (show (0 : Int32) = 0 from by decide) ?_
            exact k
    · show Zm E YX8_beginsExpression (d + 1) M [(0, vr (some (97, 1, 0)))] 122 [vi (0 : Int32)] Q
      refine sX8_beginsExpression_122 (d := d) M (0 : Int32) ?_
      refine zpos (show (0 : Int32) = 0 from by decide) ?_
      refine jX8_isKeyword (d := d) M (16 : Int32) ?_
      refine ⟨h1041, ?_⟩
      refine zneg h1042 ?_
      show Zm E YX8_beginsExpression (d + 1) M [(0, vr (some (97, 1, 0)))] 131 [vi (0 : Int32)] Q
      refine sX8_beginsExpression_131 (d := d) M (0 : Int32) ?_
      refine zpos (show (0 : Int32) = 0 from by decide) ?_
      refine jX8_isKeyword (d := d) M (11 : Int32) ?_
      refine ⟨h1041, ?_⟩
      refine zneg h1042 ?_
      show Zm E YX8_beginsExpression (d + 1) M [(0, vr (some (97, 1, 0)))] 140 [vi (0 : Int32)] Q
      refine sX8_beginsExpression_140 (d := d) M (0 : Int32) ?_
      refine zpos (show (0 : Int32) = 0 from by decide) ?_
      exact k
  · exact k
theorem iX8_beginsStatement_0 {E : zE} {d : Nat} {Q : zO → zM → Prop} (M : zM)  (k : vp_in (gi M 97 20) 4002 ∧ (if (gi M 103 ((gi M 97 20)).toNatClampNeg) = (5 : Int32) then (if (gi M 104 ((gi M 97 20)).toNatClampNeg) = (24 : Int32) then (Q (.inl (some (vi (1 : Int32)))) M) else (if (gi M 104 ((gi M 97 20)).toNatClampNeg) = (31 : Int32) then (Q (.inl (some (vi (1 : Int32)))) M) else (if (gi M 103 ((gi M 97 20)).toNatClampNeg) = (2 : Int32) then (if (gi M 104 ((gi M 97 20)).toNatClampNeg) = (26 : Int32) then (Q (.inl (some (vi (1 : Int32)))) M) else (if (gi M 104 ((gi M 97 20)).toNatClampNeg) = (12 : Int32) then (Q (.inl (some (vi (1 : Int32)))) M) else (if (gi M 104 ((gi M 97 20)).toNatClampNeg) = (28 : Int32) then (Q (.inl (some (vi (1 : Int32)))) M) else (if (gi M 104 ((gi M 97 20)).toNatClampNeg) = (6 : Int32) then (Q (.inl (some (vi (1 : Int32)))) M) else (if (gi M 104 ((gi M 97 20)).toNatClampNeg) = (10 : Int32) then (Q (.inl (some (vi (1 : Int32)))) M) else (if (gi M 104 ((gi M 97 20)).toNatClampNeg) = (3 : Int32) then (Q (.inl (some (vi (1 : Int32)))) M) else (if (gi M 104 ((gi M 97 20)).toNatClampNeg) = 0 then (Q (.inl (some (vi (1 : Int32)))) M) else (if (gi M 104 ((gi M 97 20)).toNatClampNeg) = (18 : Int32) then (Q (.inl (some (vi (1 : Int32)))) M) else (if (gi M 104 ((gi M 97 20)).toNatClampNeg) = (21 : Int32) then (Q (.inl (some (vi (1 : Int32)))) M) else (if (gi M 104 ((gi M 97 20)).toNatClampNeg) = (23 : Int32) then (Q (.inl (some (vi (1 : Int32)))) M) else (if (gi M 104 ((gi M 97 20)).toNatClampNeg) = (19 : Int32) then (Q (.inl (some (vi (1 : Int32)))) M) else (if (gi M 104 ((gi M 97 20)).toNatClampNeg) = (11 : Int32) then (Q (.inl (some (vi (0 : Int32)))) M) else (Zm E YX8_beginsExpression d M (zargs 0 [vr (some (97, 1, 0))]) 0 [] (zma E YX8_beginsStatement (d + 1) [] 118 3 [] Q)))))))))))))) else (Zm E YX8_beginsExpression d M (zargs 0 [vr (some (97, 1, 0))]) 0 [] (zma E YX8_beginsStatement (d + 1) [] 34 3 [] Q))))) else (if (gi M 103 ((gi M 97 20)).toNatClampNeg) = (2 : Int32) then (if (gi M 104 ((gi M 97 20)).toNatClampNeg) = (26 : Int32) then (Q (.inl (some (vi (1 : Int32)))) M) else (if (gi M 104 ((gi M 97 20)).toNatClampNeg) = (12 : Int32) then (Q (.inl (some (vi (1 : Int32)))) M) else (if (gi M 104 ((gi M 97 20)).toNatClampNeg) = (28 : Int32) then (Q (.inl (some (vi (1 : Int32)))) M) else (if (gi M 104 ((gi M 97 20)).toNatClampNeg) = (6 : Int32) then (Q (.inl (some (vi (1 : Int32)))) M) else (if (gi M 104 ((gi M 97 20)).toNatClampNeg) = (10 : Int32) then (Q (.inl (some (vi (1 : Int32)))) M) else (if (gi M 104 ((gi M 97 20)).toNatClampNeg) = (3 : Int32) then (Q (.inl (some (vi (1 : Int32)))) M) else (if (gi M 104 ((gi M 97 20)).toNatClampNeg) = 0 then (Q (.inl (some (vi (1 : Int32)))) M) else (if (gi M 104 ((gi M 97 20)).toNatClampNeg) = (18 : Int32) then (Q (.inl (some (vi (1 : Int32)))) M) else (if (gi M 104 ((gi M 97 20)).toNatClampNeg) = (21 : Int32) then (Q (.inl (some (vi (1 : Int32)))) M) else (if (gi M 104 ((gi M 97 20)).toNatClampNeg) = (23 : Int32) then (Q (.inl (some (vi (1 : Int32)))) M) else (if (gi M 104 ((gi M 97 20)).toNatClampNeg) = (19 : Int32) then (Q (.inl (some (vi (1 : Int32)))) M) else (if (gi M 104 ((gi M 97 20)).toNatClampNeg) = (11 : Int32) then (Q (.inl (some (vi (0 : Int32)))) M) else (Zm E YX8_beginsExpression d M (zargs 0 [vr (some (97, 1, 0))]) 0 [] (zma E YX8_beginsStatement (d + 1) [] 118 3 [] Q)))))))))))))) else (Zm E YX8_beginsExpression d M (zargs 0 [vr (some (97, 1, 0))]) 0 [] (zma E YX8_beginsStatement (d + 1) [] 34 3 [] Q))))) : Zm E YX8_beginsStatement (d + 1) M [(0, vr (some (97, 1, 0)))] 0 [] Q := by
  refine sX8_beginsStatement_0 (d := d) M  ?_
  refine jX8_isSign (d := d) M (24 : Int32) ?_
  refine zand k (fun h1054 k => ?_)
  refine zite k (fun h1055 k => ?_) (fun h1055 k => ?_)
  · refine zite k (fun h1056 k => ?_) (fun h1056 k => ?_)
    · show Zm E YX8_beginsStatement (d + 1) M [(0, vr (some (97, 1, 0)))] 6 [vi (1 : Int32)] Q
      refine sX8_beginsStatement_6 (d := d) M (1 : Int32) ?_
      refine zneg (show ¬ ((1 : Int32) = 0) from by decide) ?_
      exact k
    · show Zm E YX8_beginsStatement (d + 1) M [(0, vr (some (97, 1, 0)))] 6 [vi (0 : Int32)] Q
      refine sX8_beginsStatement_6 (d := d) M (0 : Int32) ?_
      refine zpos (show (0 : Int32) = 0 from by decide) ?_
      refine jX8_isSign (d := d) M (31 : Int32) ?_
      refine ⟨h1054, ?_⟩
      refine zpos h1055 ?_
      refine zite k (fun h1057 k => ?_) (fun h1057 k => ?_)
      · show Zm E YX8_beginsStatement (d + 1) M [(0, vr (some (97, 1, 0)))] 15 [vi (1 : Int32)] Q
        refine sX8_beginsStatement_15 (d := d) M (1 : Int32) ?_
        refine zneg (show ¬ ((1 : Int32) = 0) from by decide) ?_
        exact k
      · show Zm E YX8_beginsStatement (d + 1) M [(0, vr (some (97, 1, 0)))] 15 [vi (0 : Int32)] Q
        refine sX8_beginsStatement_15 (d := d) M (0 : Int32) ?_
        refine zpos (show (0 : Int32) = 0 from by decide) ?_
        refine ⟨h1054, ?_⟩
        refine zite k (fun h1058 k => ?_) (fun h1058 k => ?_)
        · refine ⟨h1054, ?_⟩
          exact k
        · exact k
  · show Zm E YX8_beginsStatement (d + 1) M [(0, vr (some (97, 1, 0)))] 6 [vi (0 : Int32)] Q
    refine sX8_beginsStatement_6 (d := d) M (0 : Int32) ?_
    refine zpos (show (0 : Int32) = 0 from by decide) ?_
    refine jX8_isSign (d := d) M (31 : Int32) ?_
    refine ⟨h1054, ?_⟩
    refine zneg h1055 ?_
    show Zm E YX8_beginsStatement (d + 1) M [(0, vr (some (97, 1, 0)))] 15 [vi (0 : Int32)] Q
    refine sX8_beginsStatement_15 (d := d) M (0 : Int32) ?_
    refine zpos (show (0 : Int32) = 0 from by decide) ?_
    refine ⟨h1054, ?_⟩
    refine zite k (fun h1079 k => ?_) (fun h1079 k => ?_)
    · refine ⟨h1054, ?_⟩
      exact k
    · exact k
theorem iX8_cut_25 {E : zE} {d : Nat} {Q : zO → zM → Prop} (M : zM) (s0 : Int32) (k : vp_in (gi M 97 12) 4002 ∧ (if s0 = 0 then (Zm E YX8_cut (d + 1) (si (si (si M 105 ((gi M 97 12)).toNatClampNeg (gi M 97 18)) 107 ((gi M 97 12)).toNatClampNeg (gi M 97 19)) 103 ((gi M 97 12)).toNatClampNeg (6 : Int32)) [(0, vr (some (97, 1, 0)))] 98 [] Q) else (if (gi M 97 4) ≤ (gi M 97 18) then (Zm E YX8_cut (d + 1) (si (si (si M 105 ((gi M 97 12)).toNatClampNeg (gi M 97 18)) 107 ((gi M 97 12)).toNatClampNeg (gi M 97 19)) 103 ((gi M 97 12)).toNatClampNeg (0 : Int32)) [(0, vr (some (97, 1, 0)))] 98 [] Q) else (Zm E YX8_cutOne d (si (si M 105 ((gi M 97 12)).toNatClampNeg (gi M 97 18)) 107 ((gi M 97 12)).toNatClampNeg (gi M 97 19)) (zargs 0 [vr (some (97, 1, 0))]) 0 [] (zma E YX8_cut (d + 1) [(0, vr (some (97, 1, 0)))] 95 3 [] Q))))) : Zm E YX8_cut (d + 1) M [(0, vr (some (97, 1, 0)))] 25 [vi s0] Q := by
  refine sX8_cut_25 (d := d) M s0 ?_
  refine zand k (fun h1116 k => ?_)
  refine ⟨h1116, ?_⟩
  refine zite k (fun h1117 k => ?_) (fun h1117 k => ?_)
  · refine ⟨h1116, ?_⟩
    exact k
  · refine sX8_isThere_0 (d := d) (si (si M 105 ((gi M 97 12)).toNatClampNeg (gi M 97 18)) 107 ((gi M 97 12)).toNatClampNeg (gi M 97 19)) (gi M 97 18) ?_
    refine zite k (fun h1118 k => ?_) (fun h1118 k => ?_)
    · show Zm E YX8_cut (d + 1) (si (si M 105 ((gi M 97 12)).toNatClampNeg (gi M 97 18)) 107 ((gi M 97 12)).toNatClampNeg (gi M 97 19)) [(0, vr (some (97, 1, 0)))] 78 [vi (0 : Int32)] Q
      refine sX8_cut_78 (d := d) (si (si M 105 ((gi M 97 12)).toNatClampNeg (gi M 97 18)) 107 ((gi M 97 12)).toNatClampNeg (gi M 97 19)) (0 : Int32) ?_
      refine zpos (show (0 : Int32) = 0 from by decide) ?_
      refine ⟨h1116, ?_⟩
      exact k
    · show Zm E YX8_cut (d + 1) (si (si M 105 ((gi M 97 12)).toNatClampNeg (gi M 97 18)) 107 ((gi M 97 12)).toNatClampNeg (gi M 97 19)) [(0, vr (some (97, 1, 0)))] 78 [vi (1 : Int32)] Q
      refine sX8_cut_78 (d := d) (si (si M 105 ((gi M 97 12)).toNatClampNeg (gi M 97 18)) 107 ((gi M 97 12)).toNatClampNeg (gi M 97 19)) (1 : Int32) ?_
      refine zneg (show ¬ ((1 : Int32) = 0) from by decide) ?_
      exact k
theorem iX8_cut_98 {E : zE} {d : Nat} {Q : zO → zM → Prop} (M : zM)  (k : vp_in (gi M 97 12) 4002 ∧ (if (gi M 103 ((gi M 97 12)).toNatClampNeg) = (6 : Int32) then (Zm E YX8_cut (d + 1) (si (si M 106 ((gi M 97 12)).toNatClampNeg (gi M 97 18)) 97 12 ((gi M 97 12) + (1 : Int32))) [(0, vr (some (97, 1, 0))), (1, vi (0 : Int32))] 17 [] Q) else (if (gi M 103 ((gi M 97 12)).toNatClampNeg) = 0 then (Zm E YX8_cut (d + 1) (si (si M 106 ((gi M 97 12)).toNatClampNeg (gi M 97 18)) 97 12 ((gi M 97 12) + (1 : Int32))) [(0, vr (some (97, 1, 0))), (1, vi (0 : Int32))] 17 [] Q) else (Zm E YX8_cut (d + 1) (si (si M 106 ((gi M 97 12)).toNatClampNeg (gi M 97 18)) 97 12 ((gi M 97 12) + (1 : Int32))) [(0, vr (some (97, 1, 0))), (1, vi (1 : Int32))] 17 [] Q)))) : Zm E YX8_cut (d + 1) M [(0, vr (some (97, 1, 0)))] 98 [] Q := by
  refine sX8_cut_98 (d := d) M  ?_
  refine zand k (fun h1134 k => ?_)
  refine ⟨h1134, ?_⟩
  refine zite k (fun h1135 k => ?_) (fun h1135 k => ?_)
  · refine sX8_cut_142 (d := d) (si M 106 ((gi M 97 12)).toNatClampNeg (gi M 97 18)) (0 : Int32) ?_
    exact k
  · refine ⟨h1134, ?_⟩
    refine zite k (fun h1136 k => ?_) (fun h1136 k => ?_)
    · refine sX8_cut_142 (d := d) (si M 106 ((gi M 97 12)).toNatClampNeg (gi M 97 18)) (0 : Int32) ?_
      exact k
    · refine sX8_cut_142 (d := d) (si M 106 ((gi M 97 12)).toNatClampNeg (gi M 97 18)) (1 : Int32) ?_
      exact k
theorem iX8_cutName_48 {E : zE} {d : Nat} {Q : zO → zM → Prop} (M : zM) (l1 : Int32) (s0 : Int32) (s1 : Int32) (k : vp_in s1 4002 ∧ (if ((gi M 97 18) - l1) ≤ (16 : Int32) then (vp_in (gi M 97 12) 4002 ∧ (if (gi (si M 104 (s1).toNatClampNeg s0) 104 ((gi M 97 12)).toNatClampNeg) = (-1 : Int32) then (Q (.inl none) (si (si M 104 (s1).toNatClampNeg s0) 103 ((gi M 97 12)).toNatClampNeg (1 : Int32))) else (Q (.inl none) (si (si M 104 (s1).toNatClampNeg s0) 103 ((gi M 97 12)).toNatClampNeg (2 : Int32))))) else (vp_in (gi M 97 12) 4002 ∧ (Q (.inl none) (si (si M 104 (s1).toNatClampNeg s0) 103 ((gi M 97 12)).toNatClampNeg (6 : Int32)))))) : Zm E YX8_cutName (d + 1) M [(0, vr (some (97, 1, 0))), (1, vi l1)] 48 [vi s0, vi s1, vr (some (104, 100, 4002))] Q := by
  refine sX8_cutName_48 (d := d) M l1 s0 s1 ?_
  refine zand k (fun h1169 k => ?_)
  refine zite k (fun h1170 k => ?_) (fun h1170 k => ?_)
  · refine zand k (fun h1171 k => ?_)
    refine zite k (fun h1172 k => ?_) (fun h1172 k => ?_)
    · refine ⟨h1171, ?_⟩
      exact k
    · refine ⟨h1171, ?_⟩
      exact k
  · exact k
theorem iX8_cutNumber_7 {E : zE} {d : Nat} {Q : zO → zM → Prop} (M : zM) (l1 : Int32) (l2 : Int64) (k : if (gi M 97 4) ≤ (gi M 97 18) then (Zm E YX8_cutNumber (d + 1) M [(0, vr (some (97, 1, 0))), (1, vi l1), (2, vl l2)] 80 [] Q) else (vp_in (gi M 97 18) 4000 ∧ (if ((gi M 99 ((gi M 97 18)).toNatClampNeg) &&& (255 : Int32)) < (48 : Int32) then (Zm E YX8_cutNumber (d + 1) M [(0, vr (some (97, 1, 0))), (1, vi l1), (2, vl l2)] 80 [] Q) else (if (57 : Int32) < ((gi M 99 ((gi M 97 18)).toNatClampNeg) &&& (255 : Int32)) then (Zm E YX8_cutNumber (d + 1) M [(0, vr (some (97, 1, 0))), (1, vi l1), (2, vl l2)] 80 [] Q) else (if (10 : Int32) ≤ ((gi M 97 18) - l1) then (Zm E YX8_cutNumber (d + 1) (si M 97 18 ((gi M 97 18) + (1 : Int32))) [(0, vr (some (97, 1, 0))), (1, vi l1), (2, vl l2)] 7 [] Q) else (Zm E YX8_cutNumber (d + 1) (si M 97 18 ((gi M 97 18) + (1 : Int32))) [(0, vr (some (97, 1, 0))), (1, vi l1), (2, vl ((((10 : Int64) * l2) + (((gi M 99 ((gi M 97 18)).toNatClampNeg) &&& (255 : Int32))).toInt64) - (48 : Int64)))] 7 [] Q)))))) : Zm E YX8_cutNumber (d + 1) M [(0, vr (some (97, 1, 0))), (1, vi l1), (2, vl l2)] 7 [] Q := by
  refine sX8_cutNumber_7 (d := d) M l1 l2 ?_
  refine sX8_isThere_0 (d := d) M (gi M 97 18) ?_
  refine zite k (fun h1174 k => ?_) (fun h1174 k => ?_)
  · show Zm E YX8_cutNumber (d + 1) M [(0, vr (some (97, 1, 0))), (1, vi l1), (2, vl l2)] 15 [vi (0 : Int32)] Q
    refine sX8_cutNumber_15 (d := d) M l1 l2 (0 : Int32) ?_
    refine zpos (show (0 : Int32) = 0 from by decide) ?_
    exact k
  · show Zm E YX8_cutNumber (d + 1) M [(0, vr (some (97, 1, 0))), (1, vi l1), (2, vl l2)] 15 [vi (1 : Int32)] Q
    refine sX8_cutNumber_15 (d := d) M l1 l2 (1 : Int32) ?_
    refine zneg (show ¬ ((1 : Int32) = 0) from by decide) ?_
    refine sX8_look_0 (d := d) M (gi M 97 18) ?_
    refine zneg h1174 ?_
    refine zand k (fun h1175 k => ?_)
    show Zm E YX8_cutNumber (d + 1) M [(0, vr (some (97, 1, 0))), (1, vi l1), (2, vl l2)] 26 [vi ((gi M 99 ((gi M 97 18)).toNatClampNeg) &&& (255 : Int32))] Q
    refine sX8_cutNumber_26 (d := d) M l1 l2 ((gi M 99 ((gi M 97 18)).toNatClampNeg) &&& (255 : Int32)) ?_
    refine sX8_isDigit_0 (d := d) M ((gi M 99 ((gi M 97 18)).toNatClampNeg) &&& (255 : Int32)) ?_
    refine zite k (fun h1178 k => ?_) (fun h1178 k => ?_)
    · show Zm E YX8_cutNumber (d + 1) M [(0, vr (some (97, 1, 0))), (1, vi l1), (2, vl l2)] 29 [vi (0 : Int32)] Q
      refine sX8_cutNumber_29 (d := d) M l1 l2 (0 : Int32) ?_
      refine zpos (show (0 : Int32) = 0 from by decide) ?_
      exact k
    · refine zite k (fun h1179 k => ?_) (fun h1179 k => ?_)
      · show Zm E YX8_cutNumber (d + 1) M [(0, vr (some (97, 1, 0))), (1, vi l1), (2, vl l2)] 29 [vi (0 : Int32)] Q
        refine sX8_cutNumber_29 (d := d) M l1 l2 (0 : Int32) ?_
        refine zpos (show (0 : Int32) = 0 from by decide) ?_
        exact k
      · show Zm E YX8_cutNumber (d + 1) M [(0, vr (some (97, 1, 0))), (1, vi l1), (2, vl l2)] 29 [vi (1 : Int32)] Q
        refine sX8_cutNumber_29 (d := d) M l1 l2 (1 : Int32) ?_
        refine zneg (show ¬ ((1 : Int32) = 0) from by decide) ?_
        refine zite k (fun h1180 k => ?_) (fun h1180 k => ?_)
        · refine sX8_cutNumber_66 (d := d) M l1 l2 ?_
          exact k
        · refine sX8_look_0 (d := d) M (gi M 97 18) ?_
          refine zneg h1174 ?_
          refine ⟨h1175, ?_⟩
          show Zm E YX8_cutNumber (d + 1) M [(0, vr (some (97, 1, 0))), (1, vi l1)] 56 [vi ((gi M 99 ((gi M 97 18)).toNatClampNeg) &&& (255 : Int32)), vl ((10 : Int64) * l2)] Q
          refine sX8_cutNumber_56 (d := d) M l1 ((gi M 99 ((gi M 97 18)).toNatClampNeg) &&& (255 : Int32)) ((10 : Int64) * l2) ?_
          refine sX8_cutNumber_66 (d := d) M l1 ((((10 : Int64) * l2) + (((gi M 99 ((gi M 97 18)).toNatClampNeg) &&& (255 : Int32))).toInt64) - (48 : Int64)) ?_
          exact k
theorem iX8_cutNumber_80 {E : zE} {d : Nat} {Q : zO → zM → Prop} (M : zM) (l1 : Int32) (l2 : Int64) (k : if (10 : Int32) < ((gi M 97 18) - l1) then (vp_in (gi M 97 12) 4002 ∧ (Q (.inl none) (si (si M 103 ((gi M 97 12)).toNatClampNeg (6 : Int32)) 104 ((gi M 97 12)).toNatClampNeg (l2).toInt32))) else (if 0 < (lg_cmp l2 (2147483647 : Int64)) then (vp_in (gi M 97 12) 4002 ∧ (Q (.inl none) (si (si M 103 ((gi M 97 12)).toNatClampNeg (6 : Int32)) 104 ((gi M 97 12)).toNatClampNeg (l2).toInt32))) else (Zm E YX8_isWordly d M (zargs 0 [vr (some (97, 1, 0)), vi (gi M 97 18)]) 0 [] (zma E YX8_cutNumber (d + 1) [(0, vr (some (97, 1, 0))), (2, vl l2)] 104 3 [] Q)))) : Zm E YX8_cutNumber (d + 1) M [(0, vr (some (97, 1, 0))), (1, vi l1), (2, vl l2)] 80 [] Q := by
  refine sX8_cutNumber_80 (d := d) M l1 l2 ?_
  refine zite k (fun h1181 k => ?_) (fun h1181 k => ?_)
  · refine sX8_cutNumber_115 (d := d) M l2 (0 : Int32) ?_
    refine zpos (show (0 : Int32) = 0 from by decide) ?_
    refine sX8_cutNumber_136 (d := d) M l2 (6 : Int32) (gi M 97 12) ?_
    refine zand k (fun h1182 k => ?_)
    refine ⟨h1182, ?_⟩
    exact k
  · refine zite k (fun h1183 k => ?_) (fun h1183 k => ?_)
    · refine sX8_cutNumber_115 (d := d) M l2 (0 : Int32) ?_
      refine zpos (show (0 : Int32) = 0 from by decide) ?_
      refine sX8_cutNumber_136 (d := d) M l2 (6 : Int32) (gi M 97 12) ?_
      refine zand k (fun h1184 k => ?_)
      refine ⟨h1184, ?_⟩
      exact k
    · exact k
theorem iX8_cutNumber_107 {E : zE} {d : Nat} {Q : zO → zM → Prop} (M : zM) (l2 : Int64) (s0 : Int32) (k : if s0 = 0 then (vp_in (gi M 97 12) 4002 ∧ (Q (.inl none) (si (si M 103 ((gi M 97 12)).toNatClampNeg (3 : Int32)) 104 ((gi M 97 12)).toNatClampNeg (l2).toInt32))) else (vp_in (gi M 97 12) 4002 ∧ (Q (.inl none) (si (si M 103 ((gi M 97 12)).toNatClampNeg (6 : Int32)) 104 ((gi M 97 12)).toNatClampNeg (l2).toInt32)))) : Zm E YX8_cutNumber (d + 1) M [(0, vr (some (97, 1, 0))), (2, vl l2)] 107 [vi s0] Q := by
  refine sX8_cutNumber_107 (d := d) M l2 s0 ?_
  refine zite k (fun h1185 k => ?_) (fun h1185 k => ?_)
  · refine sX8_cutNumber_115 (d := d) M l2 (1 : Int32) ?_
    refine zneg (show ¬ ((1 : Int32) = 0) from by decide) ?_
    refine sX8_cutNumber_136 (d := d) M l2 (3 : Int32) (gi M 97 12) ?_
    refine zand k (fun h1186 k => ?_)
    refine ⟨h1186, ?_⟩
    exact k
  · refine sX8_cutNumber_115 (d := d) M l2 (0 : Int32) ?_
    refine zpos (show (0 : Int32) = 0 from by decide) ?_
    refine sX8_cutNumber_136 (d := d) M l2 (6 : Int32) (gi M 97 12) ?_
    refine zand k (fun h1187 k => ?_)
    refine ⟨h1187, ?_⟩
    exact k
theorem iX8_cutOne_0 {E : zE} {d : Nat} {Q : zO → zM → Prop} (M : zM)  (k : if (gi M 97 4) ≤ (gi M 97 18) then (Zm E YX8_isLetter d M (zargs 0 [vi (0 : Int32)]) 0 [] (zma E YX8_cutOne (d + 1) [(0, vr (some (97, 1, 0))), (1, vi (0 : Int32))] 10 3 [] Q)) else (vp_in (gi M 97 18) 4000 ∧ (Zm E YX8_isLetter d M (zargs 0 [vi ((gi M 99 ((gi M 97 18)).toNatClampNeg) &&& (255 : Int32))]) 0 [] (zma E YX8_cutOne (d + 1) [(0, vr (some (97, 1, 0))), (1, vi ((gi M 99 ((gi M 97 18)).toNatClampNeg) &&& (255 : Int32)))] 10 3 [] Q)))) : Zm E YX8_cutOne (d + 1) M [(0, vr (some (97, 1, 0)))] 0 [] Q := by
  refine sX8_cutOne_0 (d := d) M  ?_
  refine sX8_look_0 (d := d) M (gi M 97 18) ?_
  refine zite k (fun h1188 k => ?_) (fun h1188 k => ?_)
  · show Zm E YX8_cutOne (d + 1) M [(0, vr (some (97, 1, 0)))] 8 [vi (0 : Int32)] Q
    refine sX8_cutOne_8 (d := d) M (0 : Int32) ?_
    exact k
  · refine zand k (fun h1189 k => ?_)
    show Zm E YX8_cutOne (d + 1) M [(0, vr (some (97, 1, 0)))] 8 [vi ((gi M 99 ((gi M 97 18)).toNatClampNeg) &&& (255 : Int32))] Q
    refine sX8_cutOne_8 (d := d) M ((gi M 99 ((gi M 97 18)).toNatClampNeg) &&& (255 : Int32)) ?_
    exact k
theorem iX8_cutOne_13 {E : zE} {d : Nat} {Q : zO → zM → Prop} (M : zM) (l1 : Int32) (s0 : Int32) (k : if s0 = 0 then (if l1 < (48 : Int32) then (if l1 = (34 : Int32) then (Zm E YX8_cutString d M (zargs 0 [vr (some (97, 1, 0)), vi l1]) 0 [] (zma E YX8_cutOne (d + 1) [] 51 3 [] Q)) else (if l1 = (39 : Int32) then (Zm E YX8_cutString d M (zargs 0 [vr (some (97, 1, 0)), vi l1]) 0 [] (zma E YX8_cutOne (d + 1) [] 51 3 [] Q)) else (Zm E YX8_cutSign d M (zargs 0 [vr (some (97, 1, 0))]) 0 [] (zma E YX8_cutOne (d + 1) [] 58 3 [] Q)))) else (if (57 : Int32) < l1 then (if l1 = (34 : Int32) then (Zm E YX8_cutString d M (zargs 0 [vr (some (97, 1, 0)), vi l1]) 0 [] (zma E YX8_cutOne (d + 1) [] 51 3 [] Q)) else (if l1 = (39 : Int32) then (Zm E YX8_cutString d M (zargs 0 [vr (some (97, 1, 0)), vi l1]) 0 [] (zma E YX8_cutOne (d + 1) [] 51 3 [] Q)) else (Zm E YX8_cutSign d M (zargs 0 [vr (some (97, 1, 0))]) 0 [] (zma E YX8_cutOne (d + 1) [] 58 3 [] Q)))) else (Zm E YX8_cutNumber d M (zargs 0 [vr (some (97, 1, 0))]) 0 [] (zma E YX8_cutOne (d + 1) [] 31 3 [] Q)))) else (Zm E YX8_cutName d M (zargs 0 [vr (some (97, 1, 0))]) 0 [] (zma E YX8_cutOne (d + 1) [] 17 3 [] Q))) : Zm E YX8_cutOne (d + 1) M [(0, vr (some (97, 1, 0))), (1, vi l1)] 13 [vi s0] Q := by
  refine sX8_cutOne_13 (d := d) M l1 s0 ?_
  refine zite k (fun h1190 k => ?_) (fun h1190 k => ?_)
  · refine sX8_isDigit_0 (d := d) M l1 ?_
    refine zite k (fun h1191 k => ?_) (fun h1191 k => ?_)
    · show Zm E YX8_cutOne (d + 1) M [(0, vr (some (97, 1, 0))), (1, vi l1)] 27 [vi (0 : Int32)] Q
      refine sX8_cutOne_27 (d := d) M l1 (0 : Int32) ?_
      refine zpos (show (0 : Int32) = 0 from by decide) ?_
      exact k
    · refine zite k (fun h1215 k => ?_) (fun h1215 k => ?_)
      · show Zm E YX8_cutOne (d + 1) M [(0, vr (some (97, 1, 0))), (1, vi l1)] 27 [vi (0 : Int32)] Q
        refine sX8_cutOne_27 (d := d) M l1 (0 : Int32) ?_
        refine zpos (show (0 : Int32) = 0 from by decide) ?_
        exact k
      · show Zm E YX8_cutOne (d + 1) M [(0, vr (some (97, 1, 0))), (1, vi l1)] 27 [vi (1 : Int32)] Q
        refine sX8_cutOne_27 (d := d) M l1 (1 : Int32) ?_
        refine zneg (show ¬ ((1 : Int32) = 0) from by decide) ?_
        exact k
  · exact k
theorem iX8_cutOne_54 {E : zE} {d : Nat} {Q : zO → zM → Prop} (M : zM)  (k : Q (.inl none) M) : Zm E YX8_cutOne (d + 1) M [] 54 [] Q := by
  refine sX8_cutOne_54 (d := d) M  ?_
  refine sX8_cutOne_61 (d := d) M  ?_
  exact k
theorem iX8_cutOne_34 {E : zE} {d : Nat} {Q : zO → zM → Prop} (M : zM)  (k : Q (.inl none) M) : Zm E YX8_cutOne (d + 1) M [] 34 [] Q := by
  refine sX8_cutOne_34 (d := d) M  ?_
  refine sX8_cutOne_61 (d := d) M  ?_
  exact k
theorem iX8_cutOne_20 {E : zE} {d : Nat} {Q : zO → zM → Prop} (M : zM)  (k : Q (.inl none) M) : Zm E YX8_cutOne (d + 1) M [] 20 [] Q := by
  refine sX8_cutOne_20 (d := d) M  ?_
  refine sX8_cutOne_61 (d := d) M  ?_
  exact k
theorem iX8_cutString_14 {E : zE} {d : Nat} {Q : zO → zM → Prop} (M : zM) (l1 : Int32) (l2 : Int32) (l3 : Int32) (k : if l3 = 0 then (vp_in (gi M 97 12) 4002 ∧ (Q (.inl none) (si (si M 103 ((gi M 97 12)).toNatClampNeg (6 : Int32)) 97 18 ((gi M 97 18) + (1 : Int32))))) else (if (gi M 97 4) ≤ (gi M 97 18) then (vp_in (gi M 97 12) 4002 ∧ (Q (.inl none) (si (si M 103 ((gi M 97 12)).toNatClampNeg (6 : Int32)) 97 18 ((gi M 97 18) + (1 : Int32))))) else (vp_in (gi M 97 18) 4000 ∧ (if ((gi M 99 ((gi M 97 18)).toNatClampNeg) &&& (255 : Int32)) = l1 then (if (40 : Int32) < l2 then (vp_in (gi M 97 12) 4002 ∧ (Q (.inl none) (si (si M 103 ((gi M 97 12)).toNatClampNeg (6 : Int32)) 97 18 ((gi M 97 18) + (1 : Int32))))) else (vp_in (gi M 97 12) 4002 ∧ (Q (.inl none) (si (si M 103 ((gi M 97 12)).toNatClampNeg (4 : Int32)) 97 18 ((gi M 97 18) + (1 : Int32)))))) else (if ((gi M 99 ((gi M 97 18)).toNatClampNeg) &&& (255 : Int32)) = (92 : Int32) then (if (gi M 97 4) ≤ ((gi M 97 18) + (1 : Int32)) then (Zm E YX8_cutString (d + 1) M [(0, vr (some (97, 1, 0))), (1, vi l1), (2, vi l2), (4, vi (1 : Int32))] 87 [vi (0 : Int32)] Q) else (vp_in ((gi M 97 18) + (1 : Int32)) 4000 ∧ (Zm E YX8_cutString (d + 1) M [(0, vr (some (97, 1, 0))), (1, vi l1), (2, vi l2), (4, vi (1 : Int32))] 87 [vi ((gi M 99 (((gi M 97 18) + (1 : Int32))).toNatClampNeg) &&& (255 : Int32))] Q))) else (if ((gi M 99 ((gi M 97 18)).toNatClampNeg) &&& (255 : Int32)) < (32 : Int32) then (Zm E YX8_cutString (d + 1) (si M 97 18 ((gi M 97 18) + (1 : Int32))) [(0, vr (some (97, 1, 0))), (1, vi l1), (2, vi (l2 + (1 : Int32))), (3, vi (0 : Int32))] 14 [] Q) else (if (126 : Int32) < ((gi M 99 ((gi M 97 18)).toNatClampNeg) &&& (255 : Int32)) then (Zm E YX8_cutString (d + 1) (si M 97 18 ((gi M 97 18) + (1 : Int32))) [(0, vr (some (97, 1, 0))), (1, vi l1), (2, vi (l2 + (1 : Int32))), (3, vi (0 : Int32))] 14 [] Q) else (Zm E YX8_cutString (d + 1) (si M 97 18 ((gi M 97 18) + (1 : Int32))) [(0, vr (some (97, 1, 0))), (1, vi l1), (2, vi (l2 + (1 : Int32))), (3, vi (1 : Int32))] 14 [] Q)))))))) : Zm E YX8_cutString (d + 1) M [(0, vr (some (97, 1, 0))), (1, vi l1), (2, vi l2), (3, vi l3)] 14 [] Q := by
  refine sX8_cutString_14 (d := d) M l1 l2 l3 ?_
  refine zite k (fun h1223 k => ?_) (fun h1223 k => ?_)
  · refine sX8_cutString_196 (d := d) M l2 l3 ?_
    refine zpos h1223 ?_
    refine sX8_cutString_231 (d := d) M (6 : Int32) (gi M 97 12) ?_
    exact k
  · refine sX8_isThere_0 (d := d) M (gi M 97 18) ?_
    refine zite k (fun h1225 k => ?_) (fun h1225 k => ?_)
    · show Zm E YX8_cutString (d + 1) M [(0, vr (some (97, 1, 0))), (1, vi l1), (2, vi l2), (3, vi l3)] 26 [vi (0 : Int32)] Q
      refine sX8_cutString_26 (d := d) M l1 l2 l3 (0 : Int32) ?_
      refine zpos (show (0 : Int32) = 0 from by decide) ?_
      refine sX8_cutString_196 (d := d) M l2 l3 ?_
      refine zneg h1223 ?_
      refine sX8_isThere_0 (d := d) M (gi M 97 18) ?_
      refine zpos h1225 ?_
      show Zm E YX8_cutString (d + 1) M [(0, vr (some (97, 1, 0))), (2, vi l2)] 216 [vi (0 : Int32), vi (gi M 97 12), vr (some (103, 100, 4002))] Q
      refine sX8_cutString_216 (d := d) M l2 (0 : Int32) (gi M 97 12) ?_
      refine zpos (show (0 : Int32) = 0 from by decide) ?_
      refine sX8_cutString_231 (d := d) M (6 : Int32) (gi M 97 12) ?_
      exact k
    · show Zm E YX8_cutString (d + 1) M [(0, vr (some (97, 1, 0))), (1, vi l1), (2, vi l2), (3, vi l3)] 26 [vi (1 : Int32)] Q
      refine sX8_cutString_26 (d := d) M l1 l2 l3 (1 : Int32) ?_
      refine zneg (show ¬ ((1 : Int32) = 0) from by decide) ?_
      refine sX8_look_0 (d := d) M (gi M 97 18) ?_
      refine zneg h1225 ?_
      refine zand k (fun h1227 k => ?_)
      show Zm E YX8_cutString (d + 1) M [(0, vr (some (97, 1, 0))), (1, vi l1), (2, vi l2), (3, vi l3)] 37 [vi ((gi M 99 ((gi M 97 18)).toNatClampNeg) &&& (255 : Int32))] Q
      refine sX8_cutString_37 (d := d) M l1 l2 l3 ((gi M 99 ((gi M 97 18)).toNatClampNeg) &&& (255 : Int32)) ?_
      refine zite k (fun h1228 k => ?_) (fun h1228 k => ?_)
      · refine sX8_cutString_196 (d := d) M l2 l3 ?_
        refine zneg h1223 ?_
        refine sX8_isThere_0 (d := d) M (gi M 97 18) ?_
        refine zneg h1225 ?_
        show Zm E YX8_cutString (d + 1) M [(0, vr (some (97, 1, 0))), (2, vi l2)] 216 [vi (1 : Int32), vi (gi M 97 12), vr (some (103, 100, 4002))] Q
        refine sX8_cutString_216 (d := d) M l2 (1 : Int32) (gi M 97 12) ?_
        refine zneg (show ¬ ((1 : Int32) = 0) from by decide) ?_
        refine zite k (fun h1229 k => ?_) (fun h1229 k => ?_)
        · refine sX8_cutString_231 (d := d) M (6 : Int32) (gi M 97 12) ?_
          exact k
        · refine sX8_cutString_231 (d := d) M (4 : Int32) (gi M 97 12) ?_
          exact k
      · refine sX8_look_0 (d := d) M (gi M 97 18) ?_
        refine zneg h1225 ?_
        refine ⟨h1227, ?_⟩
        show Zm E YX8_cutString (d + 1) M [(0, vr (some (97, 1, 0))), (1, vi l1), (2, vi l2)] 49 [vi ((gi M 99 ((gi M 97 18)).toNatClampNeg) &&& (255 : Int32))] Q
        refine sX8_cutString_49 (d := d) M l1 l2 ((gi M 99 ((gi M 97 18)).toNatClampNeg) &&& (255 : Int32)) ?_
        refine zite k (fun h1232 k => ?_) (fun h1232 k => ?_)
        · refine sX8_cutString_59 (d := d) M l1 l2 (1 : Int32) ?_
          refine zneg (show ¬ ((1 : Int32) = 0) from by decide) ?_
          refine sX8_look_0 (d := d) M ((gi M 97 18) + (1 : Int32)) ?_
          refine zite k (fun h1233 k => ?_) (fun h1233 k => ?_)
          · show Zm E YX8_cutString (d + 1) M [(0, vr (some (97, 1, 0))), (1, vi l1), (2, vi l2), (4, vi (1 : Int32))] 76 [vi (0 : Int32)] Q
            refine sX8_cutString_76 (d := d) M l1 l2 (1 : Int32) (0 : Int32) ?_
            exact k
          · refine zand k (fun h1234 k => ?_)
            show Zm E YX8_cutString (d + 1) M [(0, vr (some (97, 1, 0))), (1, vi l1), (2, vi l2), (4, vi (1 : Int32))] 76 [vi ((gi M 99 (((gi M 97 18) + (1 : Int32))).toNatClampNeg) &&& (255 : Int32))] Q
            refine sX8_cutString_76 (d := d) M l1 l2 (1 : Int32) ((gi M 99 (((gi M 97 18) + (1 : Int32))).toNatClampNeg) &&& (255 : Int32)) ?_
            exact k
        · refine sX8_cutString_59 (d := d) M l1 l2 (0 : Int32) ?_
          refine zpos (show (0 : Int32) = 0 from by decide) ?_
          refine sX8_look_0 (d := d) M (gi M 97 18) ?_
          refine zneg h1225 ?_
          refine ⟨h1227, ?_⟩
          show Zm E YX8_cutString (d + 1) M [(0, vr (some (97, 1, 0))), (1, vi l1), (2, vi l2), (4, vi (0 : Int32))] 87 [vi ((gi M 99 ((gi M 97 18)).toNatClampNeg) &&& (255 : Int32))] Q
          refine sX8_cutString_87 (d := d) M l1 l2 (0 : Int32) ((gi M 99 ((gi M 97 18)).toNatClampNeg) &&& (255 : Int32)) ?_
          refine zpos (show (0 : Int32) = 0 from by decide) ?_
          refine zite k (fun h1235 k => ?_) (fun h1235 k => ?_)
          · refine sX8_cutString_171 (d := d) M l1 l2 (0 : Int32) (0 : Int32) ?_
            refine zpos (show (0 : Int32) = 0 from by decide) ?_
            exact k
          · refine zite k (fun h1236 k => ?_) (fun h1236 k => ?_)
            · refine sX8_cutString_171 (d := d) M l1 l2 (0 : Int32) (0 : Int32) ?_
              refine zpos (show (0 : Int32) = 0 from by decide) ?_
              exact k
            · refine sX8_cutString_171 (d := d) M l1 l2 (1 : Int32) (0 : Int32) ?_
              refine zpos (show (0 : Int32) = 0 from by decide) ?_
              exact k
theorem iX8_cutString_87 {E : zE} {d : Nat} {Q : zO → zM → Prop} (M : zM) (l1 : Int32) (l2 : Int32) (l4 : Int32) (s0 : Int32) (k : if l4 = 0 then (if s0 < (32 : Int32) then (Zm E YX8_cutString (d + 1) (si M 97 18 ((gi M 97 18) + (1 : Int32))) [(0, vr (some (97, 1, 0))), (1, vi l1), (2, vi (l2 + (1 : Int32))), (3, vi (0 : Int32))] 14 [] Q) else (if (126 : Int32) < s0 then (Zm E YX8_cutString (d + 1) (si M 97 18 ((gi M 97 18) + (1 : Int32))) [(0, vr (some (97, 1, 0))), (1, vi l1), (2, vi (l2 + (1 : Int32))), (3, vi (0 : Int32))] 14 [] Q) else (Zm E YX8_cutString (d + 1) (si M 97 18 ((gi M 97 18) + (1 : Int32))) [(0, vr (some (97, 1, 0))), (1, vi l1), (2, vi (l2 + (1 : Int32))), (3, vi (1 : Int32))] 14 [] Q))) else (if (gi M 97 4) ≤ ((gi M 97 18) + (1 : Int32)) then (Zm E YX8_cutString (d + 1) (si M 97 18 ((gi M 97 18) + (2 : Int32))) [(0, vr (some (97, 1, 0))), (1, vi l1), (2, vi (l2 + (1 : Int32))), (3, vi (0 : Int32))] 14 [] Q) else (if s0 = (110 : Int32) then (Zm E YX8_cutString (d + 1) (si M 97 18 ((gi M 97 18) + (2 : Int32))) [(0, vr (some (97, 1, 0))), (1, vi l1), (2, vi (l2 + (1 : Int32))), (3, vi (1 : Int32))] 14 [] Q) else (if s0 = (116 : Int32) then (Zm E YX8_cutString (d + 1) (si M 97 18 ((gi M 97 18) + (2 : Int32))) [(0, vr (some (97, 1, 0))), (1, vi l1), (2, vi (l2 + (1 : Int32))), (3, vi (1 : Int32))] 14 [] Q) else (if s0 = (92 : Int32) then (Zm E YX8_cutString (d + 1) (si M 97 18 ((gi M 97 18) + (2 : Int32))) [(0, vr (some (97, 1, 0))), (1, vi l1), (2, vi (l2 + (1 : Int32))), (3, vi (1 : Int32))] 14 [] Q) else (if s0 = (39 : Int32) then (Zm E YX8_cutString (d + 1) (si M 97 18 ((gi M 97 18) + (2 : Int32))) [(0, vr (some (97, 1, 0))), (1, vi l1), (2, vi (l2 + (1 : Int32))), (3, vi (1 : Int32))] 14 [] Q) else (if s0 = (34 : Int32) then (Zm E YX8_cutString (d + 1) (si M 97 18 ((gi M 97 18) + (2 : Int32))) [(0, vr (some (97, 1, 0))), (1, vi l1), (2, vi (l2 + (1 : Int32))), (3, vi (1 : Int32))] 14 [] Q) else (Zm E YX8_cutString (d + 1) (si M 97 18 ((gi M 97 18) + (2 : Int32))) [(0, vr (some (97, 1, 0))), (1, vi l1), (2, vi (l2 + (1 : Int32))), (3, vi (0 : Int32))] 14 [] Q)))))))) : Zm E YX8_cutString (d + 1) M [(0, vr (some (97, 1, 0))), (1, vi l1), (2, vi l2), (4, vi l4)] 87 [vi s0] Q := by
  refine sX8_cutString_87 (d := d) M l1 l2 l4 s0 ?_
  refine zite k (fun h1237 k => ?_) (fun h1237 k => ?_)
  · refine zite k (fun h1238 k => ?_) (fun h1238 k => ?_)
    · refine sX8_cutString_171 (d := d) M l1 l2 (0 : Int32) l4 ?_
      refine zpos h1237 ?_
      exact k
    · refine zite k (fun h1239 k => ?_) (fun h1239 k => ?_)
      · refine sX8_cutString_171 (d := d) M l1 l2 (0 : Int32) l4 ?_
        refine zpos h1237 ?_
        exact k
      · refine sX8_cutString_171 (d := d) M l1 l2 (1 : Int32) l4 ?_
        refine zpos h1237 ?_
        exact k
  · refine sX8_isThere_0 (d := d) M ((gi M 97 18) + (1 : Int32)) ?_
    refine zite k (fun h1240 k => ?_) (fun h1240 k => ?_)
    · show Zm E YX8_cutString (d + 1) M [(0, vr (some (97, 1, 0))), (1, vi l1), (2, vi l2), (4, vi l4), (5, vi s0)] 104 [vi (0 : Int32)] Q
      refine sX8_cutString_104 (d := d) M l1 l2 l4 s0 (0 : Int32) ?_
      refine zpos (show (0 : Int32) = 0 from by decide) ?_
      refine sX8_cutString_171 (d := d) M l1 l2 (0 : Int32) l4 ?_
      refine zneg h1237 ?_
      exact k
    · show Zm E YX8_cutString (d + 1) M [(0, vr (some (97, 1, 0))), (1, vi l1), (2, vi l2), (4, vi l4), (5, vi s0)] 104 [vi (1 : Int32)] Q
      refine sX8_cutString_104 (d := d) M l1 l2 l4 s0 (1 : Int32) ?_
      refine zneg (show ¬ ((1 : Int32) = 0) from by decide) ?_
      refine zite k (fun h1241 k => ?_) (fun h1241 k => ?_)
      · refine sX8_cutString_171 (d := d) M l1 l2 (1 : Int32) l4 ?_
        refine zneg h1237 ?_
        exact k
      · refine zite k (fun h1242 k => ?_) (fun h1242 k => ?_)
        · refine sX8_cutString_171 (d := d) M l1 l2 (1 : Int32) l4 ?_
          refine zneg h1237 ?_
          exact k
        · refine zite k (fun h1243 k => ?_) (fun h1243 k => ?_)
          · refine sX8_cutString_171 (d := d) M l1 l2 (1 : Int32) l4 ?_
            refine zneg h1237 ?_
            exact k
          · refine zite k (fun h1244 k => ?_) (fun h1244 k => ?_)
            · refine sX8_cutString_171 (d := d) M l1 l2 (1 : Int32) l4 ?_
              refine zneg h1237 ?_
              exact k
            · refine zite k (fun h1245 k => ?_) (fun h1245 k => ?_)
              · refine sX8_cutString_171 (d := d) M l1 l2 (1 : Int32) l4 ?_
                refine zneg h1237 ?_
                exact k
              · refine sX8_cutString_171 (d := d) M l1 l2 (0 : Int32) l4 ?_
                refine zneg h1237 ?_
                exact k
theorem iX8_fail_0 {E : zE} {d : Nat} {Q : zO → zM → Prop} (M : zM) (l1 : Int32) (k : if (gi M 97 21) = 0 then (vp_in (gi M 97 20) 4002 ∧ (if (gi M 103 ((gi M 97 20)).toNatClampNeg) = (6 : Int32) then (Q (.inl (some (vi (0 : Int32)))) (si (si M 97 21 (1 : Int32)) 97 22 (gi M 107 ((gi M 97 20)).toNatClampNeg))) else (Q (.inl (some (vi (0 : Int32)))) (si (si M 97 21 l1) 97 22 (gi M 107 ((gi M 97 20)).toNatClampNeg))))) else (Q (.inl (some (vi (0 : Int32)))) M)) : Zm E YX8_fail d M [(0, vr (some (97, 1, 0))), (1, vi l1)] 0 [] Q := by
  refine sX8_fail_0 (d := d) M l1 ?_
  refine zite k (fun h1246 k => ?_) (fun h1246 k => ?_)
  · refine zand k (fun h1247 k => ?_)
    refine zite k (fun h1248 k => ?_) (fun h1248 k => ?_)
    · refine sX8_fail_27 (d := d) M (1 : Int32) ?_
      refine ⟨h1247, ?_⟩
      exact k
    · refine sX8_fail_27 (d := d) M l1 ?_
      refine ⟨h1247, ?_⟩
      exact k
  · exact k
theorem iX8_feed_23 {E : zE} {d : Nat} {Q : zO → zM → Prop} (M : zM) (l1 : Int32) (l2 : Int32) (l3 : Int32) (l4 : Int32) (l5 : Int32) (l6 : Int32) (k : if (20 : Int32) ≤ l6 then (Q (.inl (some (vi ((gi M 97 2) + (20 : Int32))))) (si M 97 2 ((gi M 97 2) + (20 : Int32)))) else (if (4 : Int32) ≤ l6 then (if (8 : Int32) ≤ l6 then (if (12 : Int32) ≤ l6 then (if (16 : Int32) ≤ l6 then (vp_in ((gi M 97 2) + l6) 4000 ∧ (Zm E YX8_feed d (si M 98 (((gi M 97 2) + l6)).toNatClampNeg (vp_nar .byte ((l5 >>> (((24 : Int32) - ((8 : Int32) * (l6 - l6 / (4 : Int32) * (4 : Int32)))) &&& 31))).toInt8.toInt32)) [(0, vr (some (97, 1, 0))), (1, vi l1), (2, vi l2), (3, vi l3), (4, vi l4), (5, vi l5), (6, vi (l6 + (1 : Int32)))] 23 [] Q)) else (vp_in ((gi M 97 2) + l6) 4000 ∧ (Zm E YX8_feed d (si M 98 (((gi M 97 2) + l6)).toNatClampNeg (vp_nar .byte ((l4 >>> (((24 : Int32) - ((8 : Int32) * (l6 - l6 / (4 : Int32) * (4 : Int32)))) &&& 31))).toInt8.toInt32)) [(0, vr (some (97, 1, 0))), (1, vi l1), (2, vi l2), (3, vi l3), (4, vi l4), (5, vi l5), (6, vi (l6 + (1 : Int32)))] 23 [] Q))) else (vp_in ((gi M 97 2) + l6) 4000 ∧ (Zm E YX8_feed d (si M 98 (((gi M 97 2) + l6)).toNatClampNeg (vp_nar .byte ((l3 >>> (((24 : Int32) - ((8 : Int32) * (l6 - l6 / (4 : Int32) * (4 : Int32)))) &&& 31))).toInt8.toInt32)) [(0, vr (some (97, 1, 0))), (1, vi l1), (2, vi l2), (3, vi l3), (4, vi l4), (5, vi l5), (6, vi (l6 + (1 : Int32)))] 23 [] Q))) else (vp_in ((gi M 97 2) + l6) 4000 ∧ (Zm E YX8_feed d (si M 98 (((gi M 97 2) + l6)).toNatClampNeg (vp_nar .byte ((l2 >>> (((24 : Int32) - ((8 : Int32) * (l6 - l6 / (4 : Int32) * (4 : Int32)))) &&& 31))).toInt8.toInt32)) [(0, vr (some (97, 1, 0))), (1, vi l1), (2, vi l2), (3, vi l3), (4, vi l4), (5, vi l5), (6, vi (l6 + (1 : Int32)))] 23 [] Q))) else (vp_in ((gi M 97 2) + l6) 4000 ∧ (Zm E YX8_feed d (si M 98 (((gi M 97 2) + l6)).toNatClampNeg (vp_nar .byte ((l1 >>> (((24 : Int32) - ((8 : Int32) * (l6 - l6 / (4 : Int32) * (4 : Int32)))) &&& 31))).toInt8.toInt32)) [(0, vr (some (97, 1, 0))), (1, vi l1), (2, vi l2), (3, vi l3), (4, vi l4), (5, vi l5), (6, vi (l6 + (1 : Int32)))] 23 [] Q)))) : Zm E YX8_feed d M [(0, vr (some (97, 1, 0))), (1, vi l1), (2, vi l2), (3, vi l3), (4, vi l4), (5, vi l5), (6, vi l6)] 23 [] Q := by
  refine sX8_feed_23 (d := d) M l1 l2 l3 l4 l5 l6 ?_
  refine zite k (fun h1250 k => ?_) (fun h1250 k => ?_)
  · exact k
  · refine zite k (fun h1251 k => ?_) (fun h1251 k => ?_)
    · refine zite k (fun h1252 k => ?_) (fun h1252 k => ?_)
      · refine zite k (fun h1253 k => ?_) (fun h1253 k => ?_)
        · refine zite k (fun h1254 k => ?_) (fun h1254 k => ?_)
          · refine sX8_feed_76 (d := d) M l1 l2 l3 l4 l5 l6 l5 ?_
            exact k
          · refine sX8_feed_76 (d := d) M l1 l2 l3 l4 l5 l6 l4 ?_
            exact k
        · refine sX8_feed_76 (d := d) M l1 l2 l3 l4 l5 l6 l3 ?_
          exact k
      · refine sX8_feed_76 (d := d) M l1 l2 l3 l4 l5 l6 l2 ?_
        exact k
    · refine sX8_feed_76 (d := d) M l1 l2 l3 l4 l5 l6 l1 ?_
      exact k
theorem iX8_findText_31 {E : zE} {d : Nat} {Q : zO → zM → Prop} (M : zM) (l1 : Int32) (l2 : Int32) (l3 : Int32) (k : if (gi M 97 11) ≤ l3 then (if l2 = 0 then (Zm E YX8_findText d M [(0, vr (some (97, 1, 0))), (1, vi (l1 + (1 : Int32)))] 2 [] Q) else (Q (.inl (some (vi l1))) M)) else (if l2 = 0 then (Zm E YX8_findText d M [(0, vr (some (97, 1, 0))), (1, vi (l1 + (1 : Int32)))] 2 [] Q) else (vp_in (((60 : Int32) * l1) + l3) 24000 ∧ (vp_in l3 200 ∧ (if (gi M 100 ((((60 : Int32) * l1) + l3)).toNatClampNeg) = (gi M 102 (l3).toNatClampNeg) then (Zm E YX8_findText d M [(0, vr (some (97, 1, 0))), (1, vi l1), (2, vi (1 : Int32)), (3, vi (l3 + (1 : Int32)))] 31 [] Q) else (Zm E YX8_findText d M [(0, vr (some (97, 1, 0))), (1, vi l1), (2, vi (0 : Int32)), (3, vi (l3 + (1 : Int32)))] 31 [] Q)))))) : Zm E YX8_findText d M [(0, vr (some (97, 1, 0))), (1, vi l1), (2, vi l2), (3, vi l3)] 31 [] Q := by
  refine sX8_findText_31 (d := d) M l1 l2 l3 ?_
  refine zite k (fun h1263 k => ?_) (fun h1263 k => ?_)
  · exact k
  · refine zite k (fun h1265 k => ?_) (fun h1265 k => ?_)
    · refine zpos h1265 ?_
      exact k
    · exact k
theorem jX8_fail {E : zE} {d : Nat} {Q : zO → zM → Prop} (M : zM) (l1 : Int32) (k : if (gi M 97 21) = 0 then (vp_in (gi M 97 20) 4002 ∧ (if (gi M 103 ((gi M 97 20)).toNatClampNeg) = (6 : Int32) then (Q (.inl (some (vi (0 : Int32)))) (si (si M 97 21 (1 : Int32)) 97 22 (gi M 107 ((gi M 97 20)).toNatClampNeg))) else (Q (.inl (some (vi (0 : Int32)))) (si (si M 97 21 l1) 97 22 (gi M 107 ((gi M 97 20)).toNatClampNeg))))) else (Q (.inl (some (vi (0 : Int32)))) M)) : Zm E YX8_fail d M [(0, vr (some (97, 1, 0))), (1, vi l1)] 0 [] Q := by
  refine sX8_fail_0 (d := d) M l1 ?_
  refine zite k (fun h1271 k => ?_) (fun h1271 k => ?_)
  · refine zand k (fun h1272 k => ?_)
    refine zite k (fun h1273 k => ?_) (fun h1273 k => ?_)
    · refine sX8_fail_27 (d := d) M (1 : Int32) ?_
      refine ⟨h1272, ?_⟩
      exact k
    · refine sX8_fail_27 (d := d) M l1 ?_
      refine ⟨h1272, ?_⟩
      exact k
  · exact k
theorem iX8_function_60 {E : zE} {d : Nat} {Q : zO → zM → Prop} (M : zM) (l1 : Int32) (l2 : Int32) (l3 : Int32) (l4 : Int32) (l5 : Int32) (s0 : Int32) (k : if l1 = 0 then (vp_in (gi M 97 20) 4002 ∧ (if (gi M 103 ((gi M 97 20)).toNatClampNeg) = (1 : Int32) then (Zm E YX8_takeName d M (zargs 0 [vr (some (97, 1, 0))]) 0 [] (zma E YX8_function (d + 1) [(0, vr (some (97, 1, 0))), (1, vi l1), (2, vi l2), (3, vi l3), (4, vi l4), (5, vi l5), (6, vi s0)] 80 3 [] Q)) else (if s0 = 0 then (Zm E YX8_readParameters d (si (si (si M 97 43 l2) 97 44 (0 : Int32)) 97 45 (0 : Int32)) (zargs 0 [vr (some (97, 1, 0)), vi l2]) 0 [] (zma E YX8_function (d + 1) [(0, vr (some (97, 1, 0))), (2, vi l2), (3, vi l3), (4, vi l4), (5, vi l5), (6, vi s0)] 158 3 [] Q)) else (vp_in l2 12 ∧ (Zm E YX8_readParameters d (si (si (si (si (si (si (si (si M 97 43 l2) 97 44 (0 : Int32)) 97 45 (0 : Int32)) 114 (l2).toNatClampNeg (-1 : Int32)) 115 (l2).toNatClampNeg (vp_nar .boolean l1)) 118 (l2).toNatClampNeg l3) 121 (l2).toNatClampNeg (0 : Int32)) 117 (l2).toNatClampNeg (0 : Int32)) (zargs 0 [vr (some (97, 1, 0)), vi l2]) 0 [] (zma E YX8_function (d + 1) [(0, vr (some (97, 1, 0))), (2, vi l2), (3, vi l3), (4, vi l4), (5, vi l5), (6, vi s0)] 158 3 [] Q)))))) else (Zm E YX8_takeName d M (zargs 0 [vr (some (97, 1, 0))]) 0 [] (zma E YX8_function (d + 1) [(0, vr (some (97, 1, 0))), (1, vi l1), (2, vi l2), (3, vi l3), (4, vi l4), (5, vi l5), (6, vi s0)] 80 3 [] Q))) : Zm E YX8_function (d + 1) M [(0, vr (some (97, 1, 0))), (1, vi l1), (2, vi l2), (3, vi l3), (4, vi l4), (5, vi l5)] 60 [vi s0] Q := by
  refine sX8_function_60 (d := d) M l1 l2 l3 l4 l5 s0 ?_
  refine zite k (fun h1282 k => ?_) (fun h1282 k => ?_)
  · refine zand k (fun h1283 k => ?_)
    refine zite k (fun h1284 k => ?_) (fun h1284 k => ?_)
    · exact k
    · refine zpos h1282 ?_
      refine sX8_function_100 (d := d) M l1 l2 l3 l4 l5 s0 (-1 : Int32) ?_
      refine zite k (fun h1304 k => ?_) (fun h1304 k => ?_)
      · exact k
      · refine zand k (fun h1325 k => ?_)
        refine ⟨h1325, ?_⟩
        refine ⟨h1325, ?_⟩
        refine ⟨h1325, ?_⟩
        refine ⟨h1325, ?_⟩
        exact k
  · exact k
theorem iX8_function_83 {E : zE} {d : Nat} {Q : zO → zM → Prop} (M : zM) (l1 : Int32) (l2 : Int32) (l3 : Int32) (l4 : Int32) (l5 : Int32) (l6 : Int32) (s0 : Int32) (k : if l1 = 0 then (if l6 = 0 then (Zm E YX8_readParameters d (si (si (si M 97 43 l2) 97 44 (0 : Int32)) 97 45 (0 : Int32)) (zargs 0 [vr (some (97, 1, 0)), vi l2]) 0 [] (zma E YX8_function (d + 1) [(0, vr (some (97, 1, 0))), (2, vi l2), (3, vi l3), (4, vi l4), (5, vi l5), (6, vi l6)] 158 3 [] Q)) else (vp_in l2 12 ∧ (Zm E YX8_readParameters d (si (si (si (si (si (si (si (si M 97 43 l2) 97 44 (0 : Int32)) 97 45 (0 : Int32)) 114 (l2).toNatClampNeg s0) 115 (l2).toNatClampNeg (vp_nar .boolean l1)) 118 (l2).toNatClampNeg l3) 121 (l2).toNatClampNeg (0 : Int32)) 117 (l2).toNatClampNeg (0 : Int32)) (zargs 0 [vr (some (97, 1, 0)), vi l2]) 0 [] (zma E YX8_function (d + 1) [(0, vr (some (97, 1, 0))), (2, vi l2), (3, vi l3), (4, vi l4), (5, vi l5), (6, vi l6)] 158 3 [] Q)))) else (Zm E YX8_hold d M (zargs 0 [vr (some (97, 1, 0)), vi s0, vi (1 : Int32)]) 0 [] (zma E YX8_function (d + 1) [(0, vr (some (97, 1, 0))), (1, vi l1), (2, vi l2), (3, vi l3), (4, vi l4), (5, vi l5), (6, vi l6), (7, vi s0)] 97 3 [] Q))) : Zm E YX8_function (d + 1) M [(0, vr (some (97, 1, 0))), (1, vi l1), (2, vi l2), (3, vi l3), (4, vi l4), (5, vi l5), (6, vi l6)] 83 [vi s0] Q := by
  refine sX8_function_83 (d := d) M l1 l2 l3 l4 l5 l6 s0 ?_
  refine zite k (fun h1326 k => ?_) (fun h1326 k => ?_)
  · refine sX8_function_100 (d := d) M l1 l2 l3 l4 l5 l6 s0 ?_
    refine zite k (fun h1327 k => ?_) (fun h1327 k => ?_)
    · exact k
    · refine zand k (fun h1328 k => ?_)
      refine ⟨h1328, ?_⟩
      refine ⟨h1328, ?_⟩
      refine ⟨h1328, ?_⟩
      refine ⟨h1328, ?_⟩
      exact k
  · exact k
theorem iX8_function_100 {E : zE} {d : Nat} {Q : zO → zM → Prop} (M : zM) (l1 : Int32) (l2 : Int32) (l3 : Int32) (l4 : Int32) (l5 : Int32) (l6 : Int32) (l7 : Int32) (k : if l6 = 0 then (Zm E YX8_readParameters d (si (si (si M 97 43 l2) 97 44 (0 : Int32)) 97 45 (0 : Int32)) (zargs 0 [vr (some (97, 1, 0)), vi l2]) 0 [] (zma E YX8_function (d + 1) [(0, vr (some (97, 1, 0))), (2, vi l2), (3, vi l3), (4, vi l4), (5, vi l5), (6, vi l6)] 158 3 [] Q)) else (vp_in l2 12 ∧ (Zm E YX8_readParameters d (si (si (si (si (si (si (si (si M 97 43 l2) 97 44 (0 : Int32)) 97 45 (0 : Int32)) 114 (l2).toNatClampNeg l7) 115 (l2).toNatClampNeg (vp_nar .boolean l1)) 118 (l2).toNatClampNeg l3) 121 (l2).toNatClampNeg (0 : Int32)) 117 (l2).toNatClampNeg (0 : Int32)) (zargs 0 [vr (some (97, 1, 0)), vi l2]) 0 [] (zma E YX8_function (d + 1) [(0, vr (some (97, 1, 0))), (2, vi l2), (3, vi l3), (4, vi l4), (5, vi l5), (6, vi l6)] 158 3 [] Q)))) : Zm E YX8_function (d + 1) M [(0, vr (some (97, 1, 0))), (1, vi l1), (2, vi l2), (3, vi l3), (4, vi l4), (5, vi l5), (6, vi l6), (7, vi l7)] 100 [] Q := by
  refine sX8_function_100 (d := d) M l1 l2 l3 l4 l5 l6 l7 ?_
  refine zite k (fun h1352 k => ?_) (fun h1352 k => ?_)
  · exact k
  · refine zand k (fun h1353 k => ?_)
    refine ⟨h1353, ?_⟩
    refine ⟨h1353, ?_⟩
    refine ⟨h1353, ?_⟩
    refine ⟨h1353, ?_⟩
    exact k
theorem iX8_function_167 {E : zE} {d : Nat} {Q : zO → zM → Prop} (M : zM) (l2 : Int32) (l3 : Int32) (l4 : Int32) (l5 : Int32) (l6 : Int32) (s0 : Int32) (k : if s0 = 0 then (if l6 = 0 then (Zm E YX8_must d (si (si (si (si M 97 43 l3) 97 44 l4) 97 45 l5) 97 23 ((gi M 97 23) - (1 : Int32))) (zargs 0 [vr (some (97, 1, 0)), vi (25 : Int32)]) 0 [] (zma E YX8_function (d + 1) [(2, vi l2)] 218 3 [] Q)) else (vp_in l2 12 ∧ (Zm E YX8_must d (si (si (si (si (si M 119 (l2).toNatClampNeg (-1 : Int32)) 97 43 l3) 97 44 l4) 97 45 l5) 97 23 ((gi M 97 23) - (1 : Int32))) (zargs 0 [vr (some (97, 1, 0)), vi (25 : Int32)]) 0 [] (zma E YX8_function (d + 1) [(2, vi l2)] 218 3 [] Q)))) else (Zm E YX8_parts d M (zargs 0 [vr (some (97, 1, 0)), vi (1 : Int32)]) 0 [] (zma E YX8_function (d + 1) [(0, vr (some (97, 1, 0))), (2, vi l2), (3, vi l3), (4, vi l4), (5, vi l5), (6, vi l6)] 172 3 [] Q))) : Zm E YX8_function (d + 1) M [(0, vr (some (97, 1, 0))), (2, vi l2), (3, vi l3), (4, vi l4), (5, vi l5), (6, vi l6)] 167 [vi s0] Q := by
  refine sX8_function_167 (d := d) M l2 l3 l4 l5 l6 s0 ?_
  refine zite k (fun h1354 k => ?_) (fun h1354 k => ?_)
  · refine sX8_function_179 (d := d) M l2 l3 l4 l5 l6 (-1 : Int32) ?_
    refine zite k (fun h1355 k => ?_) (fun h1355 k => ?_)
    · refine sX8_function_194 (d := d) M l2 l3 l4 l5 ?_
      refine sX8_close_0 (d := d) (si (si (si M 97 43 l3) 97 44 l4) 97 45 l5)  ?_
      show Zm E YX8_function (d + 1) (si (si (si (si M 97 43 l3) 97 44 l4) 97 45 l5) 97 23 ((gi M 97 23) - (1 : Int32))) [(0, vr (some (97, 1, 0))), (2, vi l2)] 215 [] Q
      refine sX8_function_215 (d := d) (si (si (si (si M 97 43 l3) 97 44 l4) 97 45 l5) 97 23 ((gi M 97 23) - (1 : Int32))) l2 ?_
      exact k
    · refine zand k (fun h1356 k => ?_)
      refine sX8_function_194 (d := d) (si M 119 (l2).toNatClampNeg (-1 : Int32)) l2 l3 l4 l5 ?_
      refine sX8_close_0 (d := d) (si (si (si (si M 119 (l2).toNatClampNeg (-1 : Int32)) 97 43 l3) 97 44 l4) 97 45 l5)  ?_
      show Zm E YX8_function (d + 1) (si (si (si (si (si M 119 (l2).toNatClampNeg (-1 : Int32)) 97 43 l3) 97 44 l4) 97 45 l5) 97 23 ((gi M 97 23) - (1 : Int32))) [(0, vr (some (97, 1, 0))), (2, vi l2)] 215 [] Q
      refine sX8_function_215 (d := d) (si (si (si (si (si M 119 (l2).toNatClampNeg (-1 : Int32)) 97 43 l3) 97 44 l4) 97 45 l5) 97 23 ((gi M 97 23) - (1 : Int32))) l2 ?_
      exact k
  · exact k
theorem iX8_function_175 {E : zE} {d : Nat} {Q : zO → zM → Prop} (M : zM) (l2 : Int32) (l3 : Int32) (l4 : Int32) (l5 : Int32) (l6 : Int32) (s0 : Int32) (k : if l6 = 0 then (Zm E YX8_must d (si (si (si (si M 97 43 l3) 97 44 l4) 97 45 l5) 97 23 ((gi M 97 23) - (1 : Int32))) (zargs 0 [vr (some (97, 1, 0)), vi (25 : Int32)]) 0 [] (zma E YX8_function (d + 1) [(2, vi l2)] 218 3 [] Q)) else (vp_in l2 12 ∧ (Zm E YX8_must d (si (si (si (si (si M 119 (l2).toNatClampNeg s0) 97 43 l3) 97 44 l4) 97 45 l5) 97 23 ((gi M 97 23) - (1 : Int32))) (zargs 0 [vr (some (97, 1, 0)), vi (25 : Int32)]) 0 [] (zma E YX8_function (d + 1) [(2, vi l2)] 218 3 [] Q)))) : Zm E YX8_function (d + 1) M [(0, vr (some (97, 1, 0))), (2, vi l2), (3, vi l3), (4, vi l4), (5, vi l5), (6, vi l6)] 175 [vi s0] Q := by
  refine sX8_function_175 (d := d) M l2 l3 l4 l5 l6 s0 ?_
  refine sX8_function_179 (d := d) M l2 l3 l4 l5 l6 s0 ?_
  refine zite k (fun h1367 k => ?_) (fun h1367 k => ?_)
  · refine sX8_function_194 (d := d) M l2 l3 l4 l5 ?_
    refine sX8_close_0 (d := d) (si (si (si M 97 43 l3) 97 44 l4) 97 45 l5)  ?_
    show Zm E YX8_function (d + 1) (si (si (si (si M 97 43 l3) 97 44 l4) 97 45 l5) 97 23 ((gi M 97 23) - (1 : Int32))) [(0, vr (some (97, 1, 0))), (2, vi l2)] 215 [] Q
    refine sX8_function_215 (d := d) (si (si (si (si M 97 43 l3) 97 44 l4) 97 45 l5) 97 23 ((gi M 97 23) - (1 : Int32))) l2 ?_
    exact k
  · refine zand k (fun h1368 k => ?_)
    refine sX8_function_194 (d := d) (si M 119 (l2).toNatClampNeg s0) l2 l3 l4 l5 ?_
    refine sX8_close_0 (d := d) (si (si (si (si M 119 (l2).toNatClampNeg s0) 97 43 l3) 97 44 l4) 97 45 l5)  ?_
    show Zm E YX8_function (d + 1) (si (si (si (si (si M 119 (l2).toNatClampNeg s0) 97 43 l3) 97 44 l4) 97 45 l5) 97 23 ((gi M 97 23) - (1 : Int32))) [(0, vr (some (97, 1, 0))), (2, vi l2)] 215 [] Q
    refine sX8_function_215 (d := d) (si (si (si (si (si M 119 (l2).toNatClampNeg s0) 97 43 l3) 97 44 l4) 97 45 l5) 97 23 ((gi M 97 23) - (1 : Int32))) l2 ?_
    exact k
theorem iX8_hold_0 {E : zE} {d : Nat} {Q : zO → zM → Prop} (M : zM) (l1 : Int32) (l2 : Int32) (k : if (12 : Int32) ≤ (gi M 97 43) then (Q (.inl none) M) else (if l1 = (-1 : Int32) then (Q (.inl none) M) else (if (gi M 97 43) = 0 then (if l2 = 0 then (Zm E YX8_hold d M [(0, vr (some (97, 1, 0))), (1, vi l1), (3, vi (0 : Int32)), (4, vi (0 : Int32))] 31 [] Q) else (vp_in (gi M 97 43) 12 ∧ (Zm E YX8_hold d M [(0, vr (some (97, 1, 0))), (1, vi l1), (3, vi (gi M 121 ((gi M 97 43)).toNatClampNeg)), (4, vi (0 : Int32))] 104 [] Q))) else (vp_in (gi M 97 43) 12 ∧ (Zm E YX8_hold d M [(0, vr (some (97, 1, 0))), (1, vi l1), (3, vi (gi M 121 ((gi M 97 43)).toNatClampNeg)), (4, vi (0 : Int32))] 104 [] Q))))) : Zm E YX8_hold d M [(0, vr (some (97, 1, 0))), (1, vi l1), (2, vi l2)] 0 [] Q := by
  refine sX8_hold_0 (d := d) M l1 l2 ?_
  refine zite k (fun h1369 k => ?_) (fun h1369 k => ?_)
  · exact k
  · refine zite k (fun h1370 k => ?_) (fun h1370 k => ?_)
    · exact k
    · refine zite k (fun h1371 k => ?_) (fun h1371 k => ?_)
      · refine zite k (fun h1372 k => ?_) (fun h1372 k => ?_)
        · exact k
        · refine sX8_hold_91 (d := d) M l1 ?_
          exact k
      · refine sX8_hold_91 (d := d) M l1 ?_
        exact k
theorem iX8_hold_31 {E : zE} {d : Nat} {Q : zO → zM → Prop} (M : zM) (l1 : Int32) (l3 : Int32) (l4 : Int32) (k : if (gi M 97 42) ≤ l4 then (if l3 = 0 then (vp_in (gi M 97 42) 100 ∧ (vp_in (gi M 97 43) 12 ∧ (Zm E YX8_hold d (si (si M 122 ((gi M 97 42)).toNatClampNeg l1) 97 42 ((gi M 97 42) + (1 : Int32))) [(0, vr (some (97, 1, 0))), (1, vi l1), (3, vi (gi M 121 ((gi M 97 43)).toNatClampNeg)), (4, vi (0 : Int32))] 104 [] Q))) else (vp_in (gi M 97 43) 12 ∧ (Zm E YX8_hold d M [(0, vr (some (97, 1, 0))), (1, vi l1), (3, vi (gi M 121 ((gi M 97 43)).toNatClampNeg)), (4, vi (0 : Int32))] 104 [] Q))) else (if l3 = 0 then (vp_in l4 100 ∧ (if (gi M 122 (l4).toNatClampNeg) = l1 then (Zm E YX8_hold d M [(0, vr (some (97, 1, 0))), (1, vi l1), (3, vi (1 : Int32)), (4, vi (l4 + (1 : Int32)))] 31 [] Q) else (Zm E YX8_hold d M [(0, vr (some (97, 1, 0))), (1, vi l1), (3, vi (0 : Int32)), (4, vi (l4 + (1 : Int32)))] 31 [] Q))) else (Zm E YX8_hold d M [(0, vr (some (97, 1, 0))), (1, vi l1), (3, vi (1 : Int32)), (4, vi (l4 + (1 : Int32)))] 31 [] Q))) : Zm E YX8_hold d M [(0, vr (some (97, 1, 0))), (1, vi l1), (3, vi l3), (4, vi l4)] 31 [] Q := by
  refine sX8_hold_31 (d := d) M l1 l3 l4 ?_
  refine zite k (fun h1375 k => ?_) (fun h1375 k => ?_)
  · refine zite k (fun h1376 k => ?_) (fun h1376 k => ?_)
    · refine zand k (fun h1377 k => ?_)
      refine sX8_hold_91 (d := d) (si (si M 122 ((gi M 97 42)).toNatClampNeg l1) 97 42 ((gi M 97 42) + (1 : Int32))) l1 ?_
      exact k
    · refine sX8_hold_91 (d := d) M l1 ?_
      exact k
  · exact k
theorem iX8_hold_104 {E : zE} {d : Nat} {Q : zO → zM → Prop} (M : zM) (l1 : Int32) (l3 : Int32) (l4 : Int32) (k : if l3 ≤ l4 then (vp_in (((100 : Int32) * (gi M 97 43)) + l3) 1200 ∧ (vp_in (gi M 97 43) 12 ∧ (Q (.inl none) (si (si M 120 ((((100 : Int32) * (gi M 97 43)) + l3)).toNatClampNeg l1) 121 ((gi M 97 43)).toNatClampNeg ((gi M 121 ((gi M 97 43)).toNatClampNeg) + (1 : Int32)))))) else (vp_in (((100 : Int32) * (gi M 97 43)) + l4) 1200 ∧ (if (gi M 120 ((((100 : Int32) * (gi M 97 43)) + l4)).toNatClampNeg) = l1 then (Q (.inl none) M) else (Zm E YX8_hold d M [(0, vr (some (97, 1, 0))), (1, vi l1), (3, vi l3), (4, vi (l4 + (1 : Int32)))] 104 [] Q)))) : Zm E YX8_hold d M [(0, vr (some (97, 1, 0))), (1, vi l1), (3, vi l3), (4, vi l4)] 104 [] Q := by
  refine sX8_hold_104 (d := d) M l1 l3 l4 ?_
  refine zite k (fun h1383 k => ?_) (fun h1383 k => ?_)
  · refine zand k (fun h1384 k => ?_)
    refine zand k (fun h1385 k => ?_)
    refine ⟨h1385, ?_⟩
    exact k
  · exact k
theorem iX8_isKeyword_0 {E : zE} {d : Nat} {Q : zO → zM → Prop} (M : zM) (l1 : Int32) (k : vp_in (gi M 97 20) 4002 ∧ (if (gi M 103 ((gi M 97 20)).toNatClampNeg) = (2 : Int32) then (if (gi M 104 ((gi M 97 20)).toNatClampNeg) = l1 then (Q (.inl (some (vi (1 : Int32)))) M) else (Q (.inl (some (vi (0 : Int32)))) M)) else (Q (.inl (some (vi (0 : Int32)))) M))) : Zm E YX8_isKeyword d M [(0, vr (some (97, 1, 0))), (1, vi l1)] 0 [] Q := by
  refine sX8_isKeyword_0 (d := d) M l1 ?_
  refine zand k (fun h1390 k => ?_)
  refine zite k (fun h1391 k => ?_) (fun h1391 k => ?_)
  · refine ⟨h1390, ?_⟩
    exact k
  · exact k
theorem iX8_isSign_0 {E : zE} {d : Nat} {Q : zO → zM → Prop} (M : zM) (l1 : Int32) (k : vp_in (gi M 97 20) 4002 ∧ (if (gi M 103 ((gi M 97 20)).toNatClampNeg) = (5 : Int32) then (if (gi M 104 ((gi M 97 20)).toNatClampNeg) = l1 then (Q (.inl (some (vi (1 : Int32)))) M) else (Q (.inl (some (vi (0 : Int32)))) M)) else (Q (.inl (some (vi (0 : Int32)))) M))) : Zm E YX8_isSign d M [(0, vr (some (97, 1, 0))), (1, vi l1)] 0 [] Q := by
  refine sX8_isSign_0 (d := d) M l1 ?_
  refine zand k (fun h1399 k => ?_)
  refine zite k (fun h1400 k => ?_) (fun h1400 k => ?_)
  · refine ⟨h1399, ?_⟩
    exact k
  · exact k
theorem iX8_isWordly_0 {E : zE} {d : Nat} {Q : zO → zM → Prop} (M : zM) (l1 : Int32) (k : if (gi M 97 4) ≤ l1 then (Q (.inl (some (vi (0 : Int32)))) M) else (vp_in l1 4000 ∧ (Zm E YX8_isLetter d M (zargs 0 [vi ((gi M 99 (l1).toNatClampNeg) &&& (255 : Int32))]) 0 [] (zma E YX8_isWordly (d + 1) [(0, vr (some (97, 1, 0))), (1, vi l1)] 13 3 [] Q)))) : Zm E YX8_isWordly (d + 1) M [(0, vr (some (97, 1, 0))), (1, vi l1)] 0 [] Q := by
  refine sX8_isWordly_0 (d := d) M l1 ?_
  refine sX8_isThere_0 (d := d) M l1 ?_
  refine zite k (fun h1403 k => ?_) (fun h1403 k => ?_)
  · show Zm E YX8_isWordly (d + 1) M [(0, vr (some (97, 1, 0))), (1, vi l1)] 5 [vi (0 : Int32)] Q
    refine sX8_isWordly_5 (d := d) M l1 (0 : Int32) ?_
    refine zpos (show (0 : Int32) = 0 from by decide) ?_
    exact k
  · show Zm E YX8_isWordly (d + 1) M [(0, vr (some (97, 1, 0))), (1, vi l1)] 5 [vi (1 : Int32)] Q
    refine sX8_isWordly_5 (d := d) M l1 (1 : Int32) ?_
    refine zneg (show ¬ ((1 : Int32) = 0) from by decide) ?_
    refine sX8_look_0 (d := d) M l1 ?_
    refine zneg h1403 ?_
    refine zand k (fun h1404 k => ?_)
    show Zm E YX8_isWordly (d + 1) M [(0, vr (some (97, 1, 0))), (1, vi l1)] 13 [vi ((gi M 99 (l1).toNatClampNeg) &&& (255 : Int32))] Q
    refine sX8_isWordly_13 (d := d) M l1 ((gi M 99 (l1).toNatClampNeg) &&& (255 : Int32)) ?_
    exact k
theorem iX8_isWordly_16 {E : zE} {d : Nat} {Q : zO → zM → Prop} (M : zM) (l1 : Int32) (s0 : Int32) (k : if s0 = 0 then (if (gi M 97 4) ≤ l1 then (Q (.inl (some (vi (0 : Int32)))) M) else (vp_in l1 4000 ∧ (if ((gi M 99 (l1).toNatClampNeg) &&& (255 : Int32)) < (48 : Int32) then (Q (.inl (some (vi (0 : Int32)))) M) else (if (57 : Int32) < ((gi M 99 (l1).toNatClampNeg) &&& (255 : Int32)) then (Q (.inl (some (vi (0 : Int32)))) M) else (Q (.inl (some (vi (1 : Int32)))) M))))) else (Q (.inl (some (vi (1 : Int32)))) M)) : Zm E YX8_isWordly (d + 1) M [(0, vr (some (97, 1, 0))), (1, vi l1)] 16 [vi s0] Q := by
  refine sX8_isWordly_16 (d := d) M l1 s0 ?_
  refine zite k (fun h1405 k => ?_) (fun h1405 k => ?_)
  · refine sX8_look_0 (d := d) M l1 ?_
    refine zite k (fun h1406 k => ?_) (fun h1406 k => ?_)
    · show Zm E YX8_isWordly (d + 1) M [] 24 [vi (0 : Int32)] Q
      refine sX8_isWordly_24 (d := d) M (0 : Int32) ?_
      refine sX8_isDigit_0 (d := d) M (0 : Int32) ?_
      refine zpos (show (0 : Int32) < (48 : Int32) from by decide) ?_
      show Zm E YX8_isWordly (d + 1) M [] 27 [vi (0 : Int32)] Q
      refine sX8_isWordly_27 (d := d) M (0 : Int32) ?_
      refine zpos (show (0 : Int32) = 0 from by decide) ?_
      exact k
    · refine zand k (fun h1407 k => ?_)
      show Zm E YX8_isWordly (d + 1) M [] 24 [vi ((gi M 99 (l1).toNatClampNeg) &&& (255 : Int32))] Q
      refine sX8_isWordly_24 (d := d) M ((gi M 99 (l1).toNatClampNeg) &&& (255 : Int32)) ?_
      refine sX8_isDigit_0 (d := d) M ((gi M 99 (l1).toNatClampNeg) &&& (255 : Int32)) ?_
      refine zite k (fun h1408 k => ?_) (fun h1408 k => ?_)
      · show Zm E YX8_isWordly (d + 1) M [] 27 [vi (0 : Int32)] Q
        refine sX8_isWordly_27 (d := d) M (0 : Int32) ?_
        refine zpos (show (0 : Int32) = 0 from by decide) ?_
        exact k
      · refine zite k (fun h1409 k => ?_) (fun h1409 k => ?_)
        · show Zm E YX8_isWordly (d + 1) M [] 27 [vi (0 : Int32)] Q
          refine sX8_isWordly_27 (d := d) M (0 : Int32) ?_
          refine zpos (show (0 : Int32) = 0 from by decide) ?_
          exact k
        · show Zm E YX8_isWordly (d + 1) M [] 27 [vi (1 : Int32)] Q
          refine sX8_isWordly_27 (d := d) M (1 : Int32) ?_
          refine zneg (show ¬ ((1 : Int32) = 0) from by decide) ?_
          exact k
  · exact k
theorem iX8_must_0 {E : zE} {d : Nat} {Q : zO → zM → Prop} (M : zM) (l1 : Int32) (k : if 0 < (gi M 97 21) then (if (gi M 97 21) = 0 then (vp_in (gi M 97 20) 4002 ∧ (if (gi M 103 ((gi M 97 20)).toNatClampNeg) = (6 : Int32) then ((narrow .boolean (.int (0 : Int32)) = .int (0 : Int32)) ∧ (Q (.inl (some (vi (0 : Int32)))) (si (si M 97 21 (1 : Int32)) 97 22 (gi M 107 ((gi M 97 20)).toNatClampNeg)))) else ((narrow .boolean (.int (0 : Int32)) = .int (0 : Int32)) ∧ (Q (.inl (some (vi (0 : Int32)))) (si (si M 97 21 (2 : Int32)) 97 22 (gi M 107 ((gi M 97 20)).toNatClampNeg)))))) else ((narrow .boolean (.int (0 : Int32)) = .int (0 : Int32)) ∧ (Q (.inl (some (vi (0 : Int32)))) M))) else (vp_in (gi M 97 20) 4002 ∧ (if (gi M 103 ((gi M 97 20)).toNatClampNeg) = (5 : Int32) then (if (gi M 104 ((gi M 97 20)).toNatClampNeg) = l1 then (Q (.inl (some (vi (1 : Int32)))) (si M 97 20 ((gi M 97 20) + (1 : Int32)))) else (if (gi M 97 21) = 0 then (if (gi M 103 ((gi M 97 20)).toNatClampNeg) = (6 : Int32) then ((narrow .boolean (.int (0 : Int32)) = .int (0 : Int32)) ∧ (Q (.inl (some (vi (0 : Int32)))) (si (si M 97 21 (1 : Int32)) 97 22 (gi M 107 ((gi M 97 20)).toNatClampNeg)))) else ((narrow .boolean (.int (0 : Int32)) = .int (0 : Int32)) ∧ (Q (.inl (some (vi (0 : Int32)))) (si (si M 97 21 (2 : Int32)) 97 22 (gi M 107 ((gi M 97 20)).toNatClampNeg))))) else ((narrow .boolean (.int (0 : Int32)) = .int (0 : Int32)) ∧ (Q (.inl (some (vi (0 : Int32)))) M)))) else (if (gi M 97 21) = 0 then (if (gi M 103 ((gi M 97 20)).toNatClampNeg) = (6 : Int32) then ((narrow .boolean (.int (0 : Int32)) = .int (0 : Int32)) ∧ (Q (.inl (some (vi (0 : Int32)))) (si (si M 97 21 (1 : Int32)) 97 22 (gi M 107 ((gi M 97 20)).toNatClampNeg)))) else ((narrow .boolean (.int (0 : Int32)) = .int (0 : Int32)) ∧ (Q (.inl (some (vi (0 : Int32)))) (si (si M 97 21 (2 : Int32)) 97 22 (gi M 107 ((gi M 97 20)).toNatClampNeg))))) else ((narrow .boolean (.int (0 : Int32)) = .int (0 : Int32)) ∧ (Q (.inl (some (vi (0 : Int32)))) M)))))) : Zm E YX8_must (d + 1) M [(0, vr (some (97, 1, 0))), (1, vi l1)] 0 [] Q := by
  refine sX8_must_0 (d := d) M l1 ?_
  refine zite k (fun h1412 k => ?_) (fun h1412 k => ?_)
  · refine jX8_fail (d := d) M (2 : Int32) ?_
    refine zite k (fun h1413 k => ?_) (fun h1413 k => ?_)
    · refine zand k (fun h1414 k => ?_)
      refine zite k (fun h1415 k => ?_) (fun h1415 k => ?_)
      · show Zm E YX8_must (d + 1) (si (si M 97 21 (1 : Int32)) 97 22 (gi M 107 ((gi M 97 20)).toNatClampNeg)) [] 20 [vi (0 : Int32)] Q
        refine sX8_must_20 (d := d) (si (si M 97 21 (1 : Int32)) 97 22 (gi M 107 ((gi M 97 20)).toNatClampNeg)) (0 : Int32) ?_
        exact k
      · show Zm E YX8_must (d + 1) (si (si M 97 21 (2 : Int32)) 97 22 (gi M 107 ((gi M 97 20)).toNatClampNeg)) [] 20 [vi (0 : Int32)] Q
        refine sX8_must_20 (d := d) (si (si M 97 21 (2 : Int32)) 97 22 (gi M 107 ((gi M 97 20)).toNatClampNeg)) (0 : Int32) ?_
        exact k
    · show Zm E YX8_must (d + 1) M [] 20 [vi (0 : Int32)] Q
      refine sX8_must_20 (d := d) M (0 : Int32) ?_
      exact k
  · refine jX8_isSign (d := d) M l1 ?_
    refine zand k (fun h1419 k => ?_)
    refine zite k (fun h1420 k => ?_) (fun h1420 k => ?_)
    · refine zite k (fun h1421 k => ?_) (fun h1421 k => ?_)
      · show Zm E YX8_must (d + 1) M [(0, vr (some (97, 1, 0)))] 12 [vi (1 : Int32)] Q
        refine sX8_must_12 (d := d) M (1 : Int32) ?_
        refine zneg (show ¬ ((1 : Int32) = 0) from by decide) ?_
        exact k
      · show Zm E YX8_must (d + 1) M [(0, vr (some (97, 1, 0)))] 12 [vi (0 : Int32)] Q
        refine sX8_must_12 (d := d) M (0 : Int32) ?_
        refine zpos (show (0 : Int32) = 0 from by decide) ?_
        refine jX8_fail (d := d) M (2 : Int32) ?_
        refine zite k (fun h1422 k => ?_) (fun h1422 k => ?_)
        · refine ⟨h1419, ?_⟩
          refine zite k (fun h1423 k => ?_) (fun h1423 k => ?_)
          · show Zm E YX8_must (d + 1) (si (si M 97 21 (1 : Int32)) 97 22 (gi M 107 ((gi M 97 20)).toNatClampNeg)) [] 20 [vi (0 : Int32)] Q
            refine sX8_must_20 (d := d) (si (si M 97 21 (1 : Int32)) 97 22 (gi M 107 ((gi M 97 20)).toNatClampNeg)) (0 : Int32) ?_
            exact k
          · show Zm E YX8_must (d + 1) (si (si M 97 21 (2 : Int32)) 97 22 (gi M 107 ((gi M 97 20)).toNatClampNeg)) [] 20 [vi (0 : Int32)] Q
            refine sX8_must_20 (d := d) (si (si M 97 21 (2 : Int32)) 97 22 (gi M 107 ((gi M 97 20)).toNatClampNeg)) (0 : Int32) ?_
            exact k
        · show Zm E YX8_must (d + 1) M [] 20 [vi (0 : Int32)] Q
          refine sX8_must_20 (d := d) M (0 : Int32) ?_
          exact k
    · show Zm E YX8_must (d + 1) M [(0, vr (some (97, 1, 0)))] 12 [vi (0 : Int32)] Q
      refine sX8_must_12 (d := d) M (0 : Int32) ?_
      refine zpos (show (0 : Int32) = 0 from by decide) ?_
      refine jX8_fail (d := d) M (2 : Int32) ?_
      refine zite k (fun h1427 k => ?_) (fun h1427 k => ?_)
      · refine ⟨h1419, ?_⟩
        refine zite k (fun h1428 k => ?_) (fun h1428 k => ?_)
        · show Zm E YX8_must (d + 1) (si (si M 97 21 (1 : Int32)) 97 22 (gi M 107 ((gi M 97 20)).toNatClampNeg)) [] 20 [vi (0 : Int32)] Q
          refine sX8_must_20 (d := d) (si (si M 97 21 (1 : Int32)) 97 22 (gi M 107 ((gi M 97 20)).toNatClampNeg)) (0 : Int32) ?_
          exact k
        · show Zm E YX8_must (d + 1) (si (si M 97 21 (2 : Int32)) 97 22 (gi M 107 ((gi M 97 20)).toNatClampNeg)) [] 20 [vi (0 : Int32)] Q
          refine sX8_must_20 (d := d) (si (si M 97 21 (2 : Int32)) 97 22 (gi M 107 ((gi M 97 20)).toNatClampNeg)) (0 : Int32) ?_
          exact k
      · show Zm E YX8_must (d + 1) M [] 20 [vi (0 : Int32)] Q
        refine sX8_must_20 (d := d) M (0 : Int32) ?_
        exact k
theorem iX8_nameAt_0 {E : zE} {d : Nat} {Q : zO → zM → Prop} (M : zM) (l1 : Int32) (k : vp_in l1 4002 ∧ (if (gi M 103 (l1).toNatClampNeg) = (3 : Int32) then (Zm E YX8_putNumber d (si M 97 11 (0 : Int32)) (zargs 0 [vr (some (97, 1, 0)), vi (gi M 104 (l1).toNatClampNeg)]) 0 [] (zma E YX8_nameAt (d + 1) [(0, vr (some (97, 1, 0)))] 22 3 [] Q)) else (if (gi M 103 (l1).toNatClampNeg) = (4 : Int32) then (Zm E YX8_nameAt (d + 1) (si M 97 11 (0 : Int32)) [(0, vr (some (97, 1, 0))), (1, vi l1), (2, vi ((gi M 105 (l1).toNatClampNeg) + (1 : Int32)))] 47 [] Q) else (Zm E YX8_nameAt (d + 1) (si M 97 11 (0 : Int32)) [(0, vr (some (97, 1, 0))), (1, vi l1), (2, vi (gi M 105 (l1).toNatClampNeg))] 154 [] Q)))) : Zm E YX8_nameAt (d + 1) M [(0, vr (some (97, 1, 0))), (1, vi l1)] 0 [] Q := by
  refine sX8_nameAt_0 (d := d) M l1 ?_
  refine zand k (fun h1432 k => ?_)
  refine zite k (fun h1433 k => ?_) (fun h1433 k => ?_)
  · refine ⟨h1432, ?_⟩
    exact k
  · refine ⟨h1432, ?_⟩
    refine zite k (fun h1434 k => ?_) (fun h1434 k => ?_)
    · refine ⟨h1432, ?_⟩
      exact k
    · refine ⟨h1432, ?_⟩
      exact k
theorem iX8_nameAt_154 {E : zE} {d : Nat} {Q : zO → zM → Prop} (M : zM) (l1 : Int32) (l2 : Int32) (k : vp_in l1 4002 ∧ (if (gi M 106 (l1).toNatClampNeg) ≤ l2 then (Zm E YX8_nameOfText d M (zargs 0 [vr (some (97, 1, 0))]) 0 [] (zma E YX8_nameAt (d + 1) [] 180 3 [] Q)) else (if (gi M 97 4) ≤ l2 then (vp_in (gi M 97 11) 200 ∧ (Zm E YX8_nameAt (d + 1) (si (si M 102 ((gi M 97 11)).toNatClampNeg (vp_nar .char (((0 : Int32)).toUInt32 % 65536).toInt32)) 97 11 ((gi M 97 11) + (1 : Int32))) [(0, vr (some (97, 1, 0))), (1, vi l1), (2, vi (l2 + (1 : Int32)))] 154 [] Q)) else (vp_in l2 4000 ∧ (vp_in (gi M 97 11) 200 ∧ (Zm E YX8_nameAt (d + 1) (si (si M 102 ((gi M 97 11)).toNatClampNeg (vp_nar .char ((((gi M 99 (l2).toNatClampNeg) &&& (255 : Int32))).toUInt32 % 65536).toInt32)) 97 11 ((gi M 97 11) + (1 : Int32))) [(0, vr (some (97, 1, 0))), (1, vi l1), (2, vi (l2 + (1 : Int32)))] 154 [] Q)))))) : Zm E YX8_nameAt (d + 1) M [(0, vr (some (97, 1, 0))), (1, vi l1), (2, vi l2)] 154 [] Q := by
  refine sX8_nameAt_154 (d := d) M l1 l2 ?_
  refine zand k (fun h1487 k => ?_)
  refine zite k (fun h1488 k => ?_) (fun h1488 k => ?_)
  · exact k
  · refine sX8_look_0 (d := d) M l2 ?_
    refine zite k (fun h1489 k => ?_) (fun h1489 k => ?_)
    · show Zm E YX8_nameAt (d + 1) M [(0, vr (some (97, 1, 0))), (1, vi l1), (2, vi l2)] 170 [vi (0 : Int32), vr (some (97, 1, 0))] Q
      refine sX8_nameAt_170 (d := d) M l1 l2 (0 : Int32) ?_
      refine sX8_put_0 (d := d) M (0 : Int32) ?_
      refine zand k (fun h1490 k => ?_)
      show Zm E YX8_nameAt (d + 1) (si (si M 102 ((gi M 97 11)).toNatClampNeg (vp_nar .char (((0 : Int32)).toUInt32 % 65536).toInt32)) 97 11 ((gi M 97 11) + (1 : Int32))) [(0, vr (some (97, 1, 0))), (1, vi l1), (2, vi l2)] 173 [] Q
      refine sX8_nameAt_173 (d := d) (si (si M 102 ((gi M 97 11)).toNatClampNeg (vp_nar .char (((0 : Int32)).toUInt32 % 65536).toInt32)) 97 11 ((gi M 97 11) + (1 : Int32))) l1 l2 ?_
      exact k
    · refine zand k (fun h1491 k => ?_)
      show Zm E YX8_nameAt (d + 1) M [(0, vr (some (97, 1, 0))), (1, vi l1), (2, vi l2)] 170 [vi ((gi M 99 (l2).toNatClampNeg) &&& (255 : Int32)), vr (some (97, 1, 0))] Q
      refine sX8_nameAt_170 (d := d) M l1 l2 ((gi M 99 (l2).toNatClampNeg) &&& (255 : Int32)) ?_
      refine sX8_put_0 (d := d) M ((gi M 99 (l2).toNatClampNeg) &&& (255 : Int32)) ?_
      refine zand k (fun h1492 k => ?_)
      show Zm E YX8_nameAt (d + 1) (si (si M 102 ((gi M 97 11)).toNatClampNeg (vp_nar .char ((((gi M 99 (l2).toNatClampNeg) &&& (255 : Int32))).toUInt32 % 65536).toInt32)) 97 11 ((gi M 97 11) + (1 : Int32))) [(0, vr (some (97, 1, 0))), (1, vi l1), (2, vi l2)] 173 [] Q
      refine sX8_nameAt_173 (d := d) (si (si M 102 ((gi M 97 11)).toNatClampNeg (vp_nar .char ((((gi M 99 (l2).toNatClampNeg) &&& (255 : Int32))).toUInt32 % 65536).toInt32)) 97 11 ((gi M 97 11) + (1 : Int32))) l1 l2 ?_
      exact k
theorem iX8_nameAt_64 {E : zE} {d : Nat} {Q : zO → zM → Prop} (M : zM) (l1 : Int32) (l2 : Int32) (s0 : Int32) (k : if s0 = (92 : Int32) then (Zm E YX8_look d M (zargs 0 [vr (some (97, 1, 0)), vi (l2 + (1 : Int32))]) 0 [] (zma E YX8_nameAt (d + 1) [(0, vr (some (97, 1, 0))), (1, vi l1), (2, vi (l2 + (1 : Int32)))] 102 3 [vr (some (97, 1, 0))] Q)) else (Zm E YX8_look d M (zargs 0 [vr (some (97, 1, 0)), vi (l2 + (0 : Int32))]) 0 [] (zma E YX8_nameAt (d + 1) [(0, vr (some (97, 1, 0))), (1, vi l1), (2, vi (l2 + (0 : Int32)))] 94 3 [vr (some (97, 1, 0))] Q))) : Zm E YX8_nameAt (d + 1) M [(0, vr (some (97, 1, 0))), (1, vi l1), (2, vi l2)] 64 [vi s0] Q := by
  refine sX8_nameAt_64 (d := d) M l1 l2 s0 ?_
  refine zite k (fun h1519 k => ?_) (fun h1519 k => ?_)
  · refine zneg (show ¬ ((1 : Int32) = 0) from by decide) ?_
    refine sX8_nameAt_85 (d := d) M l1 (1 : Int32) (1 : Int32) l2 ?_
    refine zneg (show ¬ ((1 : Int32) = 0) from by decide) ?_
    exact k
  · refine zpos (show (0 : Int32) = 0 from by decide) ?_
    refine sX8_nameAt_85 (d := d) M l1 (0 : Int32) (0 : Int32) l2 ?_
    refine zpos (show (0 : Int32) = 0 from by decide) ?_
    exact k
theorem iX8_nameAt_105 {E : zE} {d : Nat} {Q : zO → zM → Prop} (M : zM) (l1 : Int32) (l2 : Int32) (s0 : Int32) (k : if s0 = (110 : Int32) then (vp_in (gi M 97 11) 200 ∧ (Zm E YX8_nameAt (d + 1) (si (si M 102 ((gi M 97 11)).toNatClampNeg (vp_nar .char (((10 : Int32)).toUInt32 % 65536).toInt32)) 97 11 ((gi M 97 11) + (1 : Int32))) [(0, vr (some (97, 1, 0))), (1, vi l1), (2, vi (l2 + (1 : Int32)))] 47 [] Q)) else (if (gi M 97 4) ≤ l2 then (vp_in (gi M 97 11) 200 ∧ (Zm E YX8_nameAt (d + 1) (si (si M 102 ((gi M 97 11)).toNatClampNeg (vp_nar .char (((0 : Int32)).toUInt32 % 65536).toInt32)) 97 11 ((gi M 97 11) + (1 : Int32))) [(0, vr (some (97, 1, 0))), (1, vi l1), (2, vi (l2 + (1 : Int32)))] 47 [] Q)) else (vp_in l2 4000 ∧ (if ((gi M 99 (l2).toNatClampNeg) &&& (255 : Int32)) = (116 : Int32) then (vp_in (gi M 97 11) 200 ∧ (Zm E YX8_nameAt (d + 1) (si (si M 102 ((gi M 97 11)).toNatClampNeg (vp_nar .char (((9 : Int32)).toUInt32 % 65536).toInt32)) 97 11 ((gi M 97 11) + (1 : Int32))) [(0, vr (some (97, 1, 0))), (1, vi l1), (2, vi (l2 + (1 : Int32)))] 47 [] Q)) else (vp_in (gi M 97 11) 200 ∧ (Zm E YX8_nameAt (d + 1) (si (si M 102 ((gi M 97 11)).toNatClampNeg (vp_nar .char ((((gi M 99 (l2).toNatClampNeg) &&& (255 : Int32))).toUInt32 % 65536).toInt32)) 97 11 ((gi M 97 11) + (1 : Int32))) [(0, vr (some (97, 1, 0))), (1, vi l1), (2, vi (l2 + (1 : Int32)))] 47 [] Q)))))) : Zm E YX8_nameAt (d + 1) M [(0, vr (some (97, 1, 0))), (1, vi l1), (2, vi l2)] 105 [vi s0, vr (some (97, 1, 0))] Q := by
  refine sX8_nameAt_105 (d := d) M l1 l2 s0 ?_
  refine zite k (fun h1520 k => ?_) (fun h1520 k => ?_)
  · refine sX8_nameAt_135 (d := d) M l1 l2 (10 : Int32) ?_
    refine sX8_put_0 (d := d) M (10 : Int32) ?_
    refine zand k (fun h1521 k => ?_)
    show Zm E YX8_nameAt (d + 1) (si (si M 102 ((gi M 97 11)).toNatClampNeg (vp_nar .char (((10 : Int32)).toUInt32 % 65536).toInt32)) 97 11 ((gi M 97 11) + (1 : Int32))) [(0, vr (some (97, 1, 0))), (1, vi l1), (2, vi l2)] 138 [] Q
    refine sX8_nameAt_138 (d := d) (si (si M 102 ((gi M 97 11)).toNatClampNeg (vp_nar .char (((10 : Int32)).toUInt32 % 65536).toInt32)) 97 11 ((gi M 97 11) + (1 : Int32))) l1 l2 ?_
    exact k
  · refine sX8_look_0 (d := d) M l2 ?_
    refine zite k (fun h1522 k => ?_) (fun h1522 k => ?_)
    · show Zm E YX8_nameAt (d + 1) M [(0, vr (some (97, 1, 0))), (1, vi l1), (2, vi l2)] 120 [vi (0 : Int32), vr (some (97, 1, 0))] Q
      refine sX8_nameAt_120 (d := d) M l1 l2 (0 : Int32) ?_
      refine zneg (show ¬ ((0 : Int32) = (116 : Int32)) from by decide) ?_
      refine sX8_look_0 (d := d) M l2 ?_
      refine zpos h1522 ?_
      show Zm E YX8_nameAt (d + 1) M [(0, vr (some (97, 1, 0))), (1, vi l1), (2, vi l2)] 135 [vi (0 : Int32), vr (some (97, 1, 0))] Q
      refine sX8_nameAt_135 (d := d) M l1 l2 (0 : Int32) ?_
      refine sX8_put_0 (d := d) M (0 : Int32) ?_
      refine zand k (fun h1523 k => ?_)
      show Zm E YX8_nameAt (d + 1) (si (si M 102 ((gi M 97 11)).toNatClampNeg (vp_nar .char (((0 : Int32)).toUInt32 % 65536).toInt32)) 97 11 ((gi M 97 11) + (1 : Int32))) [(0, vr (some (97, 1, 0))), (1, vi l1), (2, vi l2)] 138 [] Q
      refine sX8_nameAt_138 (d := d) (si (si M 102 ((gi M 97 11)).toNatClampNeg (vp_nar .char (((0 : Int32)).toUInt32 % 65536).toInt32)) 97 11 ((gi M 97 11) + (1 : Int32))) l1 l2 ?_
      exact k
    · refine zand k (fun h1524 k => ?_)
      show Zm E YX8_nameAt (d + 1) M [(0, vr (some (97, 1, 0))), (1, vi l1), (2, vi l2)] 120 [vi ((gi M 99 (l2).toNatClampNeg) &&& (255 : Int32)), vr (some (97, 1, 0))] Q
      refine sX8_nameAt_120 (d := d) M l1 l2 ((gi M 99 (l2).toNatClampNeg) &&& (255 : Int32)) ?_
      refine zite k (fun h1525 k => ?_) (fun h1525 k => ?_)
      · refine sX8_nameAt_135 (d := d) M l1 l2 (9 : Int32) ?_
        refine sX8_put_0 (d := d) M (9 : Int32) ?_
        refine zand k (fun h1526 k => ?_)
        show Zm E YX8_nameAt (d + 1) (si (si M 102 ((gi M 97 11)).toNatClampNeg (vp_nar .char (((9 : Int32)).toUInt32 % 65536).toInt32)) 97 11 ((gi M 97 11) + (1 : Int32))) [(0, vr (some (97, 1, 0))), (1, vi l1), (2, vi l2)] 138 [] Q
        refine sX8_nameAt_138 (d := d) (si (si M 102 ((gi M 97 11)).toNatClampNeg (vp_nar .char (((9 : Int32)).toUInt32 % 65536).toInt32)) 97 11 ((gi M 97 11) + (1 : Int32))) l1 l2 ?_
        exact k
      · refine sX8_look_0 (d := d) M l2 ?_
        refine zneg h1522 ?_
        refine ⟨h1524, ?_⟩
        show Zm E YX8_nameAt (d + 1) M [(0, vr (some (97, 1, 0))), (1, vi l1), (2, vi l2)] 135 [vi ((gi M 99 (l2).toNatClampNeg) &&& (255 : Int32)), vr (some (97, 1, 0))] Q
        refine sX8_nameAt_135 (d := d) M l1 l2 ((gi M 99 (l2).toNatClampNeg) &&& (255 : Int32)) ?_
        refine sX8_put_0 (d := d) M ((gi M 99 (l2).toNatClampNeg) &&& (255 : Int32)) ?_
        refine zand k (fun h1527 k => ?_)
        show Zm E YX8_nameAt (d + 1) (si (si M 102 ((gi M 97 11)).toNatClampNeg (vp_nar .char ((((gi M 99 (l2).toNatClampNeg) &&& (255 : Int32))).toUInt32 % 65536).toInt32)) 97 11 ((gi M 97 11) + (1 : Int32))) [(0, vr (some (97, 1, 0))), (1, vi l1), (2, vi l2)] 138 [] Q
        refine sX8_nameAt_138 (d := d) (si (si M 102 ((gi M 97 11)).toNatClampNeg (vp_nar .char ((((gi M 99 (l2).toNatClampNeg) &&& (255 : Int32))).toUInt32 % 65536).toInt32)) 97 11 ((gi M 97 11) + (1 : Int32))) l1 l2 ?_
        exact k
theorem iX8_nameAt_97 {E : zE} {d : Nat} {Q : zO → zM → Prop} (M : zM) (l1 : Int32) (l2 : Int32) (s0 : Int32) (k : vp_in (gi M 97 11) 200 ∧ (Zm E YX8_nameAt (d + 1) (si (si M 102 ((gi M 97 11)).toNatClampNeg (vp_nar .char ((s0).toUInt32 % 65536).toInt32)) 97 11 ((gi M 97 11) + (1 : Int32))) [(0, vr (some (97, 1, 0))), (1, vi l1), (2, vi (l2 + (1 : Int32)))] 47 [] Q)) : Zm E YX8_nameAt (d + 1) M [(0, vr (some (97, 1, 0))), (1, vi l1), (2, vi l2)] 97 [vi s0, vr (some (97, 1, 0))] Q := by
  refine sX8_nameAt_97 (d := d) M l1 l2 s0 ?_
  refine sX8_nameAt_135 (d := d) M l1 l2 s0 ?_
  refine sX8_put_0 (d := d) M s0 ?_
  refine zand k (fun h1528 k => ?_)
  show Zm E YX8_nameAt (d + 1) (si (si M 102 ((gi M 97 11)).toNatClampNeg (vp_nar .char ((s0).toUInt32 % 65536).toInt32)) 97 11 ((gi M 97 11) + (1 : Int32))) [(0, vr (some (97, 1, 0))), (1, vi l1), (2, vi l2)] 138 [] Q
  refine sX8_nameAt_138 (d := d) (si (si M 102 ((gi M 97 11)).toNatClampNeg (vp_nar .char ((s0).toUInt32 % 65536).toInt32)) 97 11 ((gi M 97 11) + (1 : Int32))) l1 l2 ?_
  exact k
theorem iX8_nameOfText_4 {E : zE} {d : Nat} {Q : zO → zM → Prop} (M : zM) (s0 : Int32) (k : if s0 = (-1 : Int32) then (if (gi M 97 9) = 0 then (if (gi M 97 7) = (90 : Int32) then (zfit .boolean (1 : Int32) ∧ (Q (.inl (some (vi (-1 : Int32)))) (si M 97 9 (1 : Int32)))) else (zfit .boolean (0 : Int32) ∧ (Zm E YX8_addText d (si M 97 9 (0 : Int32)) (zargs 0 [vr (some (97, 1, 0))]) 0 [] (zma E YX8_nameOfText (d + 1) [] 49 3 [] Q)))) else (Q (.inl (some (vi s0))) M)) else (Q (.inl (some (vi s0))) M)) : Zm E YX8_nameOfText (d + 1) M [(0, vr (some (97, 1, 0)))] 4 [vi s0] Q := by
  refine sX8_nameOfText_4 (d := d) M s0 ?_
  refine zite k (fun h1529 k => ?_) (fun h1529 k => ?_)
  · refine zite k (fun h1530 k => ?_) (fun h1530 k => ?_)
    · refine zite k (fun h1531 k => ?_) (fun h1531 k => ?_)
      · refine sX8_nameOfText_34 (d := d) M (1 : Int32) ?_
        refine zand k (fun h1532 k => ?_)
        refine zneg (show ¬ ((1 : Int32) = 0) from by decide) ?_
        refine sX8_nameOfText_52 (d := d) (si M 97 9 (1 : Int32)) (-1 : Int32) ?_
        exact k
      · refine sX8_nameOfText_34 (d := d) M (0 : Int32) ?_
        refine zand k (fun h1533 k => ?_)
        refine zpos (show (0 : Int32) = 0 from by decide) ?_
        exact k
    · exact k
  · exact k
theorem iX8_node_0 {E : zE} {d : Nat} {Q : zO → zM → Prop} (M : zM) (l1 : Int32) (l2 : Int32) (l3 : Int32) (l4 : Int32) (k : vp_in (gi M 97 24) 12000 ∧ (vp_in ((5 : Int32) * (gi M 97 24)) 60000 ∧ (vp_in (((5 : Int32) * (gi M 97 24)) + (1 : Int32)) 60000 ∧ (vp_in (((5 : Int32) * (gi M 97 24)) + (2 : Int32)) 60000 ∧ (vp_in (((5 : Int32) * (gi M 97 24)) + (3 : Int32)) 60000 ∧ (vp_in (((5 : Int32) * (gi M 97 24)) + (4 : Int32)) 60000 ∧ (Q (.inl (some (vi (gi M 97 24)))) (si (si (si (si (si (si (si (si (si M 97 24 ((gi M 97 24) + (1 : Int32))) 108 ((gi M 97 24)).toNatClampNeg l1) 109 (((5 : Int32) * (gi M 97 24))).toNatClampNeg l2) 109 ((((5 : Int32) * (gi M 97 24)) + (1 : Int32))).toNatClampNeg l3) 109 ((((5 : Int32) * (gi M 97 24)) + (2 : Int32))).toNatClampNeg l4) 109 ((((5 : Int32) * (gi M 97 24)) + (3 : Int32))).toNatClampNeg (-1 : Int32)) 109 ((((5 : Int32) * (gi M 97 24)) + (4 : Int32))).toNatClampNeg (-1 : Int32)) 110 ((gi M 97 24)).toNatClampNeg (-1 : Int32)) 111 ((gi M 97 24)).toNatClampNeg (vp_nar .boolean (0 : Int32)))))))))) : Zm E YX8_node d M [(0, vr (some (97, 1, 0))), (1, vi l1), (2, vi l2), (3, vi l3), (4, vi l4)] 0 [] Q := by
  refine sX8_node_0 (d := d) M l1 l2 l3 l4 ?_
  refine zand k (fun h1538 k => ?_)
  refine zand k (fun h1539 k => ?_)
  refine zand k (fun h1540 k => ?_)
  refine zand k (fun h1541 k => ?_)
  refine zand k (fun h1542 k => ?_)
  refine zand k (fun h1543 k => ?_)
  refine ⟨h1538, ?_⟩
  refine ⟨h1538, ?_⟩
  exact k
theorem iX8_open_0 {E : zE} {d : Nat} {Q : zO → zM → Prop} (M : zM) (l1 : Int32) (k : if (gi M 97 21) ≤ 0 then (if l1 = 0 then (if (gi M 97 21) = 0 then (vp_in (gi M 97 20) 4002 ∧ (if (gi M 103 ((gi M 97 20)).toNatClampNeg) = (6 : Int32) then (Q (.inl none) (si (si (si M 97 21 (1 : Int32)) 97 22 (gi M 107 ((gi M 97 20)).toNatClampNeg)) 97 23 ((gi M 97 23) + (1 : Int32)))) else (Q (.inl none) (si (si (si M 97 21 (2 : Int32)) 97 22 (gi M 107 ((gi M 97 20)).toNatClampNeg)) 97 23 ((gi M 97 23) + (1 : Int32)))))) else (Q (.inl none) (si M 97 23 ((gi M 97 23) + (1 : Int32))))) else (if (gi M 97 23) = (20 : Int32) then (if (gi M 97 21) = 0 then (vp_in (gi M 97 20) 4002 ∧ (if (gi M 103 ((gi M 97 20)).toNatClampNeg) = (6 : Int32) then (Q (.inl none) (si (si (si M 97 21 (1 : Int32)) 97 22 (gi M 107 ((gi M 97 20)).toNatClampNeg)) 97 23 ((gi M 97 23) + (1 : Int32)))) else (Q (.inl none) (si (si (si M 97 21 (5 : Int32)) 97 22 (gi M 107 ((gi M 97 20)).toNatClampNeg)) 97 23 ((gi M 97 23) + (1 : Int32)))))) else (Q (.inl none) (si M 97 23 ((gi M 97 23) + (1 : Int32))))) else (Q (.inl none) (si M 97 23 ((gi M 97 23) + (1 : Int32)))))) else (Q (.inl none) M)) : Zm E YX8_open (d + 1) M [(0, vr (some (97, 1, 0))), (1, vi l1)] 0 [] Q := by
  refine sX8_open_0 (d := d) M l1 ?_
  refine zite k (fun h1544 k => ?_) (fun h1544 k => ?_)
  · refine zite k (fun h1545 k => ?_) (fun h1545 k => ?_)
    · refine jX8_fail (d := d) M (2 : Int32) ?_
      refine zite k (fun h1546 k => ?_) (fun h1546 k => ?_)
      · refine zand k (fun h1547 k => ?_)
        refine zite k (fun h1548 k => ?_) (fun h1548 k => ?_)
        · show Zm E YX8_open (d + 1) (si (si M 97 21 (1 : Int32)) 97 22 (gi M 107 ((gi M 97 20)).toNatClampNeg)) [(0, vr (some (97, 1, 0)))] 17 [vi (0 : Int32)] Q
          refine sX8_open_17 (d := d) (si (si M 97 21 (1 : Int32)) 97 22 (gi M 107 ((gi M 97 20)).toNatClampNeg)) (0 : Int32) ?_
          exact k
        · show Zm E YX8_open (d + 1) (si (si M 97 21 (2 : Int32)) 97 22 (gi M 107 ((gi M 97 20)).toNatClampNeg)) [(0, vr (some (97, 1, 0)))] 17 [vi (0 : Int32)] Q
          refine sX8_open_17 (d := d) (si (si M 97 21 (2 : Int32)) 97 22 (gi M 107 ((gi M 97 20)).toNatClampNeg)) (0 : Int32) ?_
          exact k
      · show Zm E YX8_open (d + 1) M [(0, vr (some (97, 1, 0)))] 17 [vi (0 : Int32)] Q
        refine sX8_open_17 (d := d) M (0 : Int32) ?_
        exact k
    · refine zite k (fun h1549 k => ?_) (fun h1549 k => ?_)
      · refine jX8_fail (d := d) M (5 : Int32) ?_
        refine zite k (fun h1550 k => ?_) (fun h1550 k => ?_)
        · refine zand k (fun h1551 k => ?_)
          refine zite k (fun h1552 k => ?_) (fun h1552 k => ?_)
          · show Zm E YX8_open (d + 1) (si (si M 97 21 (1 : Int32)) 97 22 (gi M 107 ((gi M 97 20)).toNatClampNeg)) [(0, vr (some (97, 1, 0)))] 35 [vi (0 : Int32)] Q
            refine sX8_open_35 (d := d) (si (si M 97 21 (1 : Int32)) 97 22 (gi M 107 ((gi M 97 20)).toNatClampNeg)) (0 : Int32) ?_
            exact k
          · show Zm E YX8_open (d + 1) (si (si M 97 21 (5 : Int32)) 97 22 (gi M 107 ((gi M 97 20)).toNatClampNeg)) [(0, vr (some (97, 1, 0)))] 35 [vi (0 : Int32)] Q
            refine sX8_open_35 (d := d) (si (si M 97 21 (5 : Int32)) 97 22 (gi M 107 ((gi M 97 20)).toNatClampNeg)) (0 : Int32) ?_
            exact k
        · show Zm E YX8_open (d + 1) M [(0, vr (some (97, 1, 0)))] 35 [vi (0 : Int32)] Q
          refine sX8_open_35 (d := d) M (0 : Int32) ?_
          exact k
      · exact k
  · exact k
theorem jX8_add {E : zE} {d : Nat} {Q : zO → zM → Prop} (M : zM) (l1 : Int32) (k : vp_in ((gi M 97 31) - (1 : Int32)) 200 ∧ (if (gi M 112 (((gi M 97 31) - (1 : Int32))).toNatClampNeg) = (-1 : Int32) then (Q (.inl none) (si (si M 112 (((gi M 97 31) - (1 : Int32))).toNatClampNeg l1) 113 (((gi M 97 31) - (1 : Int32))).toNatClampNeg l1)) else (vp_in (gi M 113 (((gi M 97 31) - (1 : Int32))).toNatClampNeg) 12000 ∧ (Q (.inl none) (si (si M 110 ((gi M 113 (((gi M 97 31) - (1 : Int32))).toNatClampNeg)).toNatClampNeg l1) 113 (((gi M 97 31) - (1 : Int32))).toNatClampNeg l1))))) : Zm E YX8_add d M [(0, vr (some (97, 1, 0))), (1, vi l1)] 0 [] Q := by
  refine sX8_add_0 (d := d) M l1 ?_
  refine zand k (fun h1607 k => ?_)
  refine zite k (fun h1608 k => ?_) (fun h1608 k => ?_)
  · refine ⟨h1607, ?_⟩
    refine ⟨h1607, ?_⟩
    exact k
  · refine ⟨h1607, ?_⟩
    refine zand k (fun h1609 k => ?_)
    refine ⟨h1607, ?_⟩
    exact k
theorem iX8_parts_0 {E : zE} {d : Nat} {Q : zO → zM → Prop} (M : zM) (l1 : Int32) (k : vp_in (gi M 97 31) 200 ∧ (if (gi M 97 21) = 0 then (if l1 = 0 then (vp_in (gi M 97 20) 4002 ∧ (if (gi M 103 ((gi M 97 20)).toNatClampNeg) = 0 then (vp_in (((gi M 97 31) + (1 : Int32)) - (1 : Int32)) 200 ∧ (Q (.inl (some (vi (gi (si M 112 ((gi M 97 31)).toNatClampNeg (-1 : Int32)) 112 ((((gi M 97 31) + (1 : Int32)) - (1 : Int32))).toNatClampNeg)))) (si (si (si M 112 ((gi M 97 31)).toNatClampNeg (-1 : Int32)) 97 31 ((gi M 97 31) + (1 : Int32))) 97 31 (((gi M 97 31) + (1 : Int32)) - (1 : Int32))))) else (Zm E YX8_isKeyword d (si (si M 112 ((gi M 97 31)).toNatClampNeg (-1 : Int32)) 97 31 ((gi M 97 31) + (1 : Int32))) (zargs 0 [vr (some (97, 1, 0)), vi (11 : Int32)]) 0 [] (zma E YX8_parts (d + 1) [(0, vr (some (97, 1, 0))), (1, vi l1)] 43 3 [vr (some (97, 1, 0))] Q)))) else (Zm E YX8_isSign d (si (si M 112 ((gi M 97 31)).toNatClampNeg (-1 : Int32)) 97 31 ((gi M 97 31) + (1 : Int32))) (zargs 0 [vr (some (97, 1, 0)), vi (25 : Int32)]) 0 [] (zma E YX8_parts (d + 1) [(0, vr (some (97, 1, 0))), (1, vi l1)] 18 3 [] Q))) else (vp_in (((gi M 97 31) + (1 : Int32)) - (1 : Int32)) 200 ∧ (Q (.inl (some (vi (gi (si M 112 ((gi M 97 31)).toNatClampNeg (-1 : Int32)) 112 ((((gi M 97 31) + (1 : Int32)) - (1 : Int32))).toNatClampNeg)))) (si (si (si M 112 ((gi M 97 31)).toNatClampNeg (-1 : Int32)) 97 31 ((gi M 97 31) + (1 : Int32))) 97 31 (((gi M 97 31) + (1 : Int32)) - (1 : Int32))))))) : Zm E YX8_parts (d + 1) M [(0, vr (some (97, 1, 0))), (1, vi l1)] 0 [] Q := by
  refine sX8_parts_0 (d := d) M l1 ?_
  refine sX8_beginList_0 (d := d) M  ?_
  refine zand k (fun h1594 k => ?_)
  show Zm E YX8_parts (d + 1) (si (si M 112 ((gi M 97 31)).toNatClampNeg (-1 : Int32)) 97 31 ((gi M 97 31) + (1 : Int32))) [(0, vr (some (97, 1, 0))), (1, vi l1)] 4 [] Q
  refine sX8_parts_4 (d := d) (si (si M 112 ((gi M 97 31)).toNatClampNeg (-1 : Int32)) 97 31 ((gi M 97 31) + (1 : Int32))) l1 ?_
  refine zite k (fun h1595 k => ?_) (fun h1595 k => ?_)
  · refine zite k (fun h1596 k => ?_) (fun h1596 k => ?_)
    · refine zand k (fun h1597 k => ?_)
      refine zite k (fun h1598 k => ?_) (fun h1598 k => ?_)
      · refine sX8_ended_0 (d := d) (si (si M 112 ((gi M 97 31)).toNatClampNeg (-1 : Int32)) 97 31 ((gi M 97 31) + (1 : Int32)))  ?_
        refine zand k (fun h1599 k => ?_)
        show Zm E YX8_parts (d + 1) (si (si (si M 112 ((gi M 97 31)).toNatClampNeg (-1 : Int32)) 97 31 ((gi M 97 31) + (1 : Int32))) 97 31 (((gi M 97 31) + (1 : Int32)) - (1 : Int32))) [] 79 [vi (gi (si M 112 ((gi M 97 31)).toNatClampNeg (-1 : Int32)) 112 ((((gi M 97 31) + (1 : Int32)) - (1 : Int32))).toNatClampNeg)] Q
        refine sX8_parts_79 (d := d) (si (si (si M 112 ((gi M 97 31)).toNatClampNeg (-1 : Int32)) 97 31 ((gi M 97 31) + (1 : Int32))) 97 31 (((gi M 97 31) + (1 : Int32)) - (1 : Int32))) (gi (si M 112 ((gi M 97 31)).toNatClampNeg (-1 : Int32)) 112 ((((gi M 97 31) + (1 : Int32)) - (1 : Int32))).toNatClampNeg) ?_
        exact k
      · exact k
    · exact k
  · refine sX8_ended_0 (d := d) (si (si M 112 ((gi M 97 31)).toNatClampNeg (-1 : Int32)) 97 31 ((gi M 97 31) + (1 : Int32)))  ?_
    refine zand k (fun h1600 k => ?_)
    show Zm E YX8_parts (d + 1) (si (si (si M 112 ((gi M 97 31)).toNatClampNeg (-1 : Int32)) 97 31 ((gi M 97 31) + (1 : Int32))) 97 31 (((gi M 97 31) + (1 : Int32)) - (1 : Int32))) [] 79 [vi (gi (si M 112 ((gi M 97 31)).toNatClampNeg (-1 : Int32)) 112 ((((gi M 97 31) + (1 : Int32)) - (1 : Int32))).toNatClampNeg)] Q
    refine sX8_parts_79 (d := d) (si (si (si M 112 ((gi M 97 31)).toNatClampNeg (-1 : Int32)) 97 31 ((gi M 97 31) + (1 : Int32))) 97 31 (((gi M 97 31) + (1 : Int32)) - (1 : Int32))) (gi (si M 112 ((gi M 97 31)).toNatClampNeg (-1 : Int32)) 112 ((((gi M 97 31) + (1 : Int32)) - (1 : Int32))).toNatClampNeg) ?_
    exact k
theorem iX8_parts_21 {E : zE} {d : Nat} {Q : zO → zM → Prop} (M : zM) (l1 : Int32) (s0 : Int32) (k : if s0 = 0 then (vp_in (gi M 97 20) 4002 ∧ (if (gi M 103 ((gi M 97 20)).toNatClampNeg) = (2 : Int32) then (if (gi M 104 ((gi M 97 20)).toNatClampNeg) = (11 : Int32) then (Zm E YX8_function d M (zargs 0 [vr (some (97, 1, 0)), vi (1 : Int32)]) 0 [] (zma E YX8_parts (d + 1) [(0, vr (some (97, 1, 0))), (1, vi l1)] 54 3 [vi (36 : Int32), vr (some (97, 1, 0)), vr (some (97, 1, 0))] Q)) else (Zm E YX8_statement d M (zargs 0 [vr (some (97, 1, 0))]) 0 [] (zma E YX8_parts (d + 1) [(0, vr (some (97, 1, 0))), (1, vi l1)] 66 3 [vr (some (97, 1, 0))] Q))) else (Zm E YX8_statement d M (zargs 0 [vr (some (97, 1, 0))]) 0 [] (zma E YX8_parts (d + 1) [(0, vr (some (97, 1, 0))), (1, vi l1)] 66 3 [vr (some (97, 1, 0))] Q)))) else (vp_in ((gi M 97 31) - (1 : Int32)) 200 ∧ (Q (.inl (some (vi (gi M 112 (((gi M 97 31) - (1 : Int32))).toNatClampNeg)))) (si M 97 31 ((gi M 97 31) - (1 : Int32)))))) : Zm E YX8_parts (d + 1) M [(0, vr (some (97, 1, 0))), (1, vi l1)] 21 [vi s0] Q := by
  refine sX8_parts_21 (d := d) M l1 s0 ?_
  refine zite k (fun h1602 k => ?_) (fun h1602 k => ?_)
  · refine jX8_isKeyword (d := d) M (11 : Int32) ?_
    refine zand k (fun h1603 k => ?_)
    refine zite k (fun h1604 k => ?_) (fun h1604 k => ?_)
    · refine zite k (fun h1605 k => ?_) (fun h1605 k => ?_)
      · show Zm E YX8_parts (d + 1) M [(0, vr (some (97, 1, 0))), (1, vi l1)] 46 [vi (1 : Int32), vr (some (97, 1, 0))] Q
        refine sX8_parts_46 (d := d) M l1 (1 : Int32) ?_
        refine zneg (show ¬ ((1 : Int32) = 0) from by decide) ?_
        exact k
      · show Zm E YX8_parts (d + 1) M [(0, vr (some (97, 1, 0))), (1, vi l1)] 46 [vi (0 : Int32), vr (some (97, 1, 0))] Q
        refine sX8_parts_46 (d := d) M l1 (0 : Int32) ?_
        refine zpos (show (0 : Int32) = 0 from by decide) ?_
        exact k
    · show Zm E YX8_parts (d + 1) M [(0, vr (some (97, 1, 0))), (1, vi l1)] 46 [vi (0 : Int32), vr (some (97, 1, 0))] Q
      refine sX8_parts_46 (d := d) M l1 (0 : Int32) ?_
      refine zpos (show (0 : Int32) = 0 from by decide) ?_
      exact k
  · refine sX8_ended_0 (d := d) M  ?_
    refine zand k (fun h1606 k => ?_)
    show Zm E YX8_parts (d + 1) (si M 97 31 ((gi M 97 31) - (1 : Int32))) [] 79 [vi (gi M 112 (((gi M 97 31) - (1 : Int32))).toNatClampNeg)] Q
    refine sX8_parts_79 (d := d) (si M 97 31 ((gi M 97 31) - (1 : Int32))) (gi M 112 (((gi M 97 31) - (1 : Int32))).toNatClampNeg) ?_
    exact k
theorem iX8_parts_69 {E : zE} {d : Nat} {Q : zO → zM → Prop} (M : zM) (l1 : Int32) (s0 : Int32) (k : vp_in ((gi M 97 31) - (1 : Int32)) 200 ∧ (if (gi M 112 (((gi M 97 31) - (1 : Int32))).toNatClampNeg) = (-1 : Int32) then (Zm E YX8_parts (d + 1) (si (si M 112 (((gi M 97 31) - (1 : Int32))).toNatClampNeg s0) 113 (((gi M 97 31) - (1 : Int32))).toNatClampNeg s0) [(0, vr (some (97, 1, 0))), (1, vi l1)] 4 [] Q) else (vp_in (gi M 113 (((gi M 97 31) - (1 : Int32))).toNatClampNeg) 12000 ∧ (Zm E YX8_parts (d + 1) (si (si M 110 ((gi M 113 (((gi M 97 31) - (1 : Int32))).toNatClampNeg)).toNatClampNeg s0) 113 (((gi M 97 31) - (1 : Int32))).toNatClampNeg s0) [(0, vr (some (97, 1, 0))), (1, vi l1)] 4 [] Q)))) : Zm E YX8_parts (d + 1) M [(0, vr (some (97, 1, 0))), (1, vi l1)] 69 [vi s0, vr (some (97, 1, 0))] Q := by
  refine sX8_parts_69 (d := d) M l1 s0 ?_
  refine jX8_add (d := d) M s0 ?_
  refine zand k (fun h1610 k => ?_)
  refine zite k (fun h1611 k => ?_) (fun h1611 k => ?_)
  · show Zm E YX8_parts (d + 1) (si (si M 112 (((gi M 97 31) - (1 : Int32))).toNatClampNeg s0) 113 (((gi M 97 31) - (1 : Int32))).toNatClampNeg s0) [(0, vr (some (97, 1, 0))), (1, vi l1)] 72 [] Q
    refine sX8_parts_72 (d := d) (si (si M 112 (((gi M 97 31) - (1 : Int32))).toNatClampNeg s0) 113 (((gi M 97 31) - (1 : Int32))).toNatClampNeg s0) l1 ?_
    exact k
  · refine zand k (fun h1612 k => ?_)
    show Zm E YX8_parts (d + 1) (si (si M 110 ((gi M 113 (((gi M 97 31) - (1 : Int32))).toNatClampNeg)).toNatClampNeg s0) 113 (((gi M 97 31) - (1 : Int32))).toNatClampNeg s0) [(0, vr (some (97, 1, 0))), (1, vi l1)] 72 [] Q
    refine sX8_parts_72 (d := d) (si (si M 110 ((gi M 113 (((gi M 97 31) - (1 : Int32))).toNatClampNeg)).toNatClampNeg s0) 113 (((gi M 97 31) - (1 : Int32))).toNatClampNeg s0) l1 ?_
    exact k
theorem iX8_parts_4 {E : zE} {d : Nat} {Q : zO → zM → Prop} (M : zM) (l1 : Int32) (k : if (gi M 97 21) = 0 then (if l1 = 0 then (vp_in (gi M 97 20) 4002 ∧ (if (gi M 103 ((gi M 97 20)).toNatClampNeg) = 0 then (vp_in ((gi M 97 31) - (1 : Int32)) 200 ∧ (Q (.inl (some (vi (gi M 112 (((gi M 97 31) - (1 : Int32))).toNatClampNeg)))) (si M 97 31 ((gi M 97 31) - (1 : Int32))))) else (if (gi M 103 ((gi M 97 20)).toNatClampNeg) = (2 : Int32) then (if (gi M 104 ((gi M 97 20)).toNatClampNeg) = (11 : Int32) then (Zm E YX8_function d M (zargs 0 [vr (some (97, 1, 0)), vi (1 : Int32)]) 0 [] (zma E YX8_parts (d + 1) [(0, vr (some (97, 1, 0))), (1, vi l1)] 54 3 [vi (36 : Int32), vr (some (97, 1, 0)), vr (some (97, 1, 0))] Q)) else (Zm E YX8_statement d M (zargs 0 [vr (some (97, 1, 0))]) 0 [] (zma E YX8_parts (d + 1) [(0, vr (some (97, 1, 0))), (1, vi l1)] 66 3 [vr (some (97, 1, 0))] Q))) else (Zm E YX8_statement d M (zargs 0 [vr (some (97, 1, 0))]) 0 [] (zma E YX8_parts (d + 1) [(0, vr (some (97, 1, 0))), (1, vi l1)] 66 3 [vr (some (97, 1, 0))] Q))))) else (vp_in (gi M 97 20) 4002 ∧ (if (gi M 103 ((gi M 97 20)).toNatClampNeg) = (5 : Int32) then (if (gi M 104 ((gi M 97 20)).toNatClampNeg) = (25 : Int32) then (vp_in ((gi M 97 31) - (1 : Int32)) 200 ∧ (Q (.inl (some (vi (gi M 112 (((gi M 97 31) - (1 : Int32))).toNatClampNeg)))) (si M 97 31 ((gi M 97 31) - (1 : Int32))))) else (if (gi M 103 ((gi M 97 20)).toNatClampNeg) = (2 : Int32) then (if (gi M 104 ((gi M 97 20)).toNatClampNeg) = (11 : Int32) then (Zm E YX8_function d M (zargs 0 [vr (some (97, 1, 0)), vi (1 : Int32)]) 0 [] (zma E YX8_parts (d + 1) [(0, vr (some (97, 1, 0))), (1, vi l1)] 54 3 [vi (36 : Int32), vr (some (97, 1, 0)), vr (some (97, 1, 0))] Q)) else (Zm E YX8_statement d M (zargs 0 [vr (some (97, 1, 0))]) 0 [] (zma E YX8_parts (d + 1) [(0, vr (some (97, 1, 0))), (1, vi l1)] 66 3 [vr (some (97, 1, 0))] Q))) else (Zm E YX8_statement d M (zargs 0 [vr (some (97, 1, 0))]) 0 [] (zma E YX8_parts (d + 1) [(0, vr (some (97, 1, 0))), (1, vi l1)] 66 3 [vr (some (97, 1, 0))] Q)))) else (if (gi M 103 ((gi M 97 20)).toNatClampNeg) = (2 : Int32) then (if (gi M 104 ((gi M 97 20)).toNatClampNeg) = (11 : Int32) then (Zm E YX8_function d M (zargs 0 [vr (some (97, 1, 0)), vi (1 : Int32)]) 0 [] (zma E YX8_parts (d + 1) [(0, vr (some (97, 1, 0))), (1, vi l1)] 54 3 [vi (36 : Int32), vr (some (97, 1, 0)), vr (some (97, 1, 0))] Q)) else (Zm E YX8_statement d M (zargs 0 [vr (some (97, 1, 0))]) 0 [] (zma E YX8_parts (d + 1) [(0, vr (some (97, 1, 0))), (1, vi l1)] 66 3 [vr (some (97, 1, 0))] Q))) else (Zm E YX8_statement d M (zargs 0 [vr (some (97, 1, 0))]) 0 [] (zma E YX8_parts (d + 1) [(0, vr (some (97, 1, 0))), (1, vi l1)] 66 3 [vr (some (97, 1, 0))] Q)))))) else (vp_in ((gi M 97 31) - (1 : Int32)) 200 ∧ (Q (.inl (some (vi (gi M 112 (((gi M 97 31) - (1 : Int32))).toNatClampNeg)))) (si M 97 31 ((gi M 97 31) - (1 : Int32)))))) : Zm E YX8_parts (d + 1) M [(0, vr (some (97, 1, 0))), (1, vi l1)] 4 [] Q := by
  refine sX8_parts_4 (d := d) M l1 ?_
  refine zite k (fun h1619 k => ?_) (fun h1619 k => ?_)
  · refine zite k (fun h1620 k => ?_) (fun h1620 k => ?_)
    · refine zand k (fun h1621 k => ?_)
      refine zite k (fun h1622 k => ?_) (fun h1622 k => ?_)
      · refine sX8_ended_0 (d := d) M  ?_
        refine zand k (fun h1623 k => ?_)
        show Zm E YX8_parts (d + 1) (si M 97 31 ((gi M 97 31) - (1 : Int32))) [] 79 [vi (gi M 112 (((gi M 97 31) - (1 : Int32))).toNatClampNeg)] Q
        refine sX8_parts_79 (d := d) (si M 97 31 ((gi M 97 31) - (1 : Int32))) (gi M 112 (((gi M 97 31) - (1 : Int32))).toNatClampNeg) ?_
        exact k
      · refine jX8_isKeyword (d := d) M (11 : Int32) ?_
        refine ⟨h1621, ?_⟩
        refine zite k (fun h1624 k => ?_) (fun h1624 k => ?_)
        · refine zite k (fun h1625 k => ?_) (fun h1625 k => ?_)
          · show Zm E YX8_parts (d + 1) M [(0, vr (some (97, 1, 0))), (1, vi l1)] 46 [vi (1 : Int32), vr (some (97, 1, 0))] Q
            refine sX8_parts_46 (d := d) M l1 (1 : Int32) ?_
            refine zneg (show ¬ ((1 : Int32) = 0) from by decide) ?_
            exact k
          · show Zm E YX8_parts (d + 1) M [(0, vr (some (97, 1, 0))), (1, vi l1)] 46 [vi (0 : Int32), vr (some (97, 1, 0))] Q
            refine sX8_parts_46 (d := d) M l1 (0 : Int32) ?_
            refine zpos (show (0 : Int32) = 0 from by decide) ?_
            exact k
        · show Zm E YX8_parts (d + 1) M [(0, vr (some (97, 1, 0))), (1, vi l1)] 46 [vi (0 : Int32), vr (some (97, 1, 0))] Q
          refine sX8_parts_46 (d := d) M l1 (0 : Int32) ?_
          refine zpos (show (0 : Int32) = 0 from by decide) ?_
          exact k
    · refine jX8_isSign (d := d) M (25 : Int32) ?_
      refine zand k (fun h1626 k => ?_)
      refine zite k (fun h1627 k => ?_) (fun h1627 k => ?_)
      · refine zite k (fun h1628 k => ?_) (fun h1628 k => ?_)
        · show Zm E YX8_parts (d + 1) M [(0, vr (some (97, 1, 0))), (1, vi l1)] 21 [vi (1 : Int32)] Q
          refine sX8_parts_21 (d := d) M l1 (1 : Int32) ?_
          refine zneg (show ¬ ((1 : Int32) = 0) from by decide) ?_
          refine sX8_ended_0 (d := d) M  ?_
          refine zand k (fun h1629 k => ?_)
          show Zm E YX8_parts (d + 1) (si M 97 31 ((gi M 97 31) - (1 : Int32))) [] 79 [vi (gi M 112 (((gi M 97 31) - (1 : Int32))).toNatClampNeg)] Q
          refine sX8_parts_79 (d := d) (si M 97 31 ((gi M 97 31) - (1 : Int32))) (gi M 112 (((gi M 97 31) - (1 : Int32))).toNatClampNeg) ?_
          exact k
        · show Zm E YX8_parts (d + 1) M [(0, vr (some (97, 1, 0))), (1, vi l1)] 21 [vi (0 : Int32)] Q
          refine sX8_parts_21 (d := d) M l1 (0 : Int32) ?_
          refine zpos (show (0 : Int32) = 0 from by decide) ?_
          refine jX8_isKeyword (d := d) M (11 : Int32) ?_
          refine ⟨h1626, ?_⟩
          refine zite k (fun h1630 k => ?_) (fun h1630 k => ?_)
          · refine zite k (fun h1631 k => ?_) (fun h1631 k => ?_)
            · show Zm E YX8_parts (d + 1) M [(0, vr (some (97, 1, 0))), (1, vi l1)] 46 [vi (1 : Int32), vr (some (97, 1, 0))] Q
              refine sX8_parts_46 (d := d) M l1 (1 : Int32) ?_
              refine zneg (show ¬ ((1 : Int32) = 0) from by decide) ?_
              exact k
            · show Zm E YX8_parts (d + 1) M [(0, vr (some (97, 1, 0))), (1, vi l1)] 46 [vi (0 : Int32), vr (some (97, 1, 0))] Q
              refine sX8_parts_46 (d := d) M l1 (0 : Int32) ?_
              refine zpos (show (0 : Int32) = 0 from by decide) ?_
              exact k
          · show Zm E YX8_parts (d + 1) M [(0, vr (some (97, 1, 0))), (1, vi l1)] 46 [vi (0 : Int32), vr (some (97, 1, 0))] Q
            refine sX8_parts_46 (d := d) M l1 (0 : Int32) ?_
            refine zpos (show (0 : Int32) = 0 from by decide) ?_
            exact k
      · show Zm E YX8_parts (d + 1) M [(0, vr (some (97, 1, 0))), (1, vi l1)] 21 [vi (0 : Int32)] Q
        refine sX8_parts_21 (d := d) M l1 (0 : Int32) ?_
        refine zpos (show (0 : Int32) = 0 from by decide) ?_
        refine jX8_isKeyword (d := d) M (11 : Int32) ?_
        refine ⟨h1626, ?_⟩
        refine zite k (fun h1632 k => ?_) (fun h1632 k => ?_)
        · refine zite k (fun h1633 k => ?_) (fun h1633 k => ?_)
          · show Zm E YX8_parts (d + 1) M [(0, vr (some (97, 1, 0))), (1, vi l1)] 46 [vi (1 : Int32), vr (some (97, 1, 0))] Q
            refine sX8_parts_46 (d := d) M l1 (1 : Int32) ?_
            refine zneg (show ¬ ((1 : Int32) = 0) from by decide) ?_
            exact k
          · show Zm E YX8_parts (d + 1) M [(0, vr (some (97, 1, 0))), (1, vi l1)] 46 [vi (0 : Int32), vr (some (97, 1, 0))] Q
            refine sX8_parts_46 (d := d) M l1 (0 : Int32) ?_
            refine zpos (show (0 : Int32) = 0 from by decide) ?_
            exact k
        · show Zm E YX8_parts (d + 1) M [(0, vr (some (97, 1, 0))), (1, vi l1)] 46 [vi (0 : Int32), vr (some (97, 1, 0))] Q
          refine sX8_parts_46 (d := d) M l1 (0 : Int32) ?_
          refine zpos (show (0 : Int32) = 0 from by decide) ?_
          exact k
  · refine sX8_ended_0 (d := d) M  ?_
    refine zand k (fun h1634 k => ?_)
    show Zm E YX8_parts (d + 1) (si M 97 31 ((gi M 97 31) - (1 : Int32))) [] 79 [vi (gi M 112 (((gi M 97 31) - (1 : Int32))).toNatClampNeg)] Q
    refine sX8_parts_79 (d := d) (si M 97 31 ((gi M 97 31) - (1 : Int32))) (gi M 112 (((gi M 97 31) - (1 : Int32))).toNatClampNeg) ?_
    exact k
theorem iX8_parts_62 {E : zE} {d : Nat} {Q : zO → zM → Prop} (M : zM) (l1 : Int32) (s0 : Int32) (k : vp_in ((gi M 97 31) - (1 : Int32)) 200 ∧ (if (gi M 112 (((gi M 97 31) - (1 : Int32))).toNatClampNeg) = (-1 : Int32) then (Zm E YX8_parts (d + 1) (si (si M 112 (((gi M 97 31) - (1 : Int32))).toNatClampNeg s0) 113 (((gi M 97 31) - (1 : Int32))).toNatClampNeg s0) [(0, vr (some (97, 1, 0))), (1, vi l1)] 4 [] Q) else (vp_in (gi M 113 (((gi M 97 31) - (1 : Int32))).toNatClampNeg) 12000 ∧ (Zm E YX8_parts (d + 1) (si (si M 110 ((gi M 113 (((gi M 97 31) - (1 : Int32))).toNatClampNeg)).toNatClampNeg s0) 113 (((gi M 97 31) - (1 : Int32))).toNatClampNeg s0) [(0, vr (some (97, 1, 0))), (1, vi l1)] 4 [] Q)))) : Zm E YX8_parts (d + 1) M [(0, vr (some (97, 1, 0))), (1, vi l1)] 62 [vi s0, vr (some (97, 1, 0))] Q := by
  refine sX8_parts_62 (d := d) M l1 s0 ?_
  refine sX8_parts_69 (d := d) M l1 s0 ?_
  refine jX8_add (d := d) M s0 ?_
  refine zand k (fun h1635 k => ?_)
  refine zite k (fun h1636 k => ?_) (fun h1636 k => ?_)
  · show Zm E YX8_parts (d + 1) (si (si M 112 (((gi M 97 31) - (1 : Int32))).toNatClampNeg s0) 113 (((gi M 97 31) - (1 : Int32))).toNatClampNeg s0) [(0, vr (some (97, 1, 0))), (1, vi l1)] 72 [] Q
    refine sX8_parts_72 (d := d) (si (si M 112 (((gi M 97 31) - (1 : Int32))).toNatClampNeg s0) 113 (((gi M 97 31) - (1 : Int32))).toNatClampNeg s0) l1 ?_
    exact k
  · refine zand k (fun h1637 k => ?_)
    show Zm E YX8_parts (d + 1) (si (si M 110 ((gi M 113 (((gi M 97 31) - (1 : Int32))).toNatClampNeg)).toNatClampNeg s0) 113 (((gi M 97 31) - (1 : Int32))).toNatClampNeg s0) [(0, vr (some (97, 1, 0))), (1, vi l1)] 72 [] Q
    refine sX8_parts_72 (d := d) (si (si M 110 ((gi M 113 (((gi M 97 31) - (1 : Int32))).toNatClampNeg)).toNatClampNeg s0) 113 (((gi M 97 31) - (1 : Int32))).toNatClampNeg s0) l1 ?_
    exact k
theorem iX8_putNumber_0 {E : zE} {d : Nat} {Q : zO → zM → Prop} (M : zM) (l1 : Int32) (k : if 0 ≤ l1 then (Zm E YX8_putNumber (d + 1) M [(0, vr (some (97, 1, 0))), (2, vl (l1).toInt64), (4, vl (1 : Int64))] 26 [] Q) else (vp_in (gi M 97 11) 200 ∧ (Zm E YX8_putNumber (d + 1) (si (si M 102 ((gi M 97 11)).toNatClampNeg (vp_nar .char (((45 : Int32)).toUInt32 % 65536).toInt32)) 97 11 ((gi M 97 11) + (1 : Int32))) [(0, vr (some (97, 1, 0))), (2, vl (-(l1).toInt64)), (4, vl (1 : Int64))] 26 [] Q))) : Zm E YX8_putNumber (d + 1) M [(0, vr (some (97, 1, 0))), (1, vi l1)] 0 [] Q := by
  refine sX8_putNumber_0 (d := d) M l1 ?_
  refine zite k (fun h1639 k => ?_) (fun h1639 k => ?_)
  · refine zpos h1639 ?_
    refine sX8_putNumber_23 (d := d) M ((l1).toInt64) ?_
    exact k
  · refine zneg h1639 ?_
    refine sX8_put_0 (d := d) M (45 : Int32) ?_
    refine zand k (fun h1640 k => ?_)
    show Zm E YX8_putNumber (d + 1) (si (si M 102 ((gi M 97 11)).toNatClampNeg (vp_nar .char (((45 : Int32)).toUInt32 % 65536).toInt32)) 97 11 ((gi M 97 11) + (1 : Int32))) [(0, vr (some (97, 1, 0))), (2, vl (-(l1).toInt64))] 23 [] Q
    refine sX8_putNumber_23 (d := d) (si (si M 102 ((gi M 97 11)).toNatClampNeg (vp_nar .char (((45 : Int32)).toUInt32 % 65536).toInt32)) 97 11 ((gi M 97 11) + (1 : Int32))) (-(l1).toInt64) ?_
    exact k
theorem iX8_putNumber_48 {E : zE} {d : Nat} {Q : zO → zM → Prop} (M : zM) (l2 : Int64) (l4 : Int64) (k : if (lg_cmp l4 (0 : Int64)) ≤ 0 then (Q (.inl none) M) else ((¬ l4 = 0) ∧ (vp_in (gi M 97 11) 200 ∧ (Zm E YX8_putNumber (d + 1) (si (si M 102 ((gi M 97 11)).toNatClampNeg (vp_nar .char ((((48 : Int32) + (((l2 / l4) - (l2 / l4) / (10 : Int64) * (10 : Int64))).toInt32)).toUInt32 % 65536).toInt32)) 97 11 ((gi M 97 11) + (1 : Int32))) [(0, vr (some (97, 1, 0))), (2, vl l2), (4, vl (l4 / (10 : Int64)))] 48 [] Q)))) : Zm E YX8_putNumber (d + 1) M [(0, vr (some (97, 1, 0))), (2, vl l2), (4, vl l4)] 48 [] Q := by
  refine sX8_putNumber_48 (d := d) M l2 l4 ?_
  refine zite k (fun h1643 k => ?_) (fun h1643 k => ?_)
  · exact k
  · refine zand k (fun h1644 k => ?_)
    refine sX8_put_0 (d := d) M ((48 : Int32) + (((l2 / l4) - (l2 / l4) / (10 : Int64) * (10 : Int64))).toInt32) ?_
    refine zand k (fun h1645 k => ?_)
    show Zm E YX8_putNumber (d + 1) (si (si M 102 ((gi M 97 11)).toNatClampNeg (vp_nar .char ((((48 : Int32) + (((l2 / l4) - (l2 / l4) / (10 : Int64) * (10 : Int64))).toInt32)).toUInt32 % 65536).toInt32)) 97 11 ((gi M 97 11) + (1 : Int32))) [(0, vr (some (97, 1, 0))), (2, vl l2), (4, vl l4)] 71 [] Q
    refine sX8_putNumber_71 (d := d) (si (si M 102 ((gi M 97 11)).toNatClampNeg (vp_nar .char ((((48 : Int32) + (((l2 / l4) - (l2 / l4) / (10 : Int64) * (10 : Int64))).toInt32)).toUInt32 % 65536).toInt32)) 97 11 ((gi M 97 11) + (1 : Int32))) l2 l4 ?_
    exact k
theorem iX8_read_20 {E : zE} {d : Nat} {Q : zO → zM → Prop} (M : zM) (l1 : Int32) (k : if (gi M 97 4) ≤ l1 then (Zm E YX8_firstNames d (si (si (si M 97 2 (0 : Int32)) 97 73 (0 : Int32)) 97 119 (0 : Int32)) (zargs 0 [vr (some (97, 1, 0))]) 0 [] (zma E YX8_read (d + 1) [(0, vr (some (97, 1, 0)))] 62 3 [] Q)) else (vp_in l1 4000 ∧ (Zm E YX8_read (d + 1) (si M 99 (l1).toNatClampNeg (vp_nar .byte (gi M 98 (l1).toNatClampNeg))) [(0, vr (some (97, 1, 0))), (1, vi (l1 + (1 : Int32)))] 20 [] Q))) : Zm E YX8_read (d + 1) M [(0, vr (some (97, 1, 0))), (1, vi l1)] 20 [] Q := by
  refine sX8_read_20 (d := d) M l1 ?_
  refine zite k (fun h1646 k => ?_) (fun h1646 k => ?_)
  · exact k
  · refine zand k (fun h1651 k => ?_)
    refine ⟨h1651, ?_⟩
    exact k
theorem iX8_readParameters_15 {E : zE} {d : Nat} {Q : zO → zM → Prop} (M : zM) (l1 : Int32) (l2 : Int32) (l3 : Int32) (s0 : Int32) (k : if s0 = 0 then (Zm E YX8_readParameters (d + 1) M [(0, vr (some (97, 1, 0))), (1, vi l1), (2, vi l2), (3, vi l3), (4, vi (0 : Int32))] 34 [] Q) else (vp_in (gi M 97 20) 4002 ∧ (if (gi M 103 ((gi M 97 20)).toNatClampNeg) = (5 : Int32) then (if (gi M 104 ((gi M 97 20)).toNatClampNeg) = (27 : Int32) then (Zm E YX8_readParameters (d + 1) M [(0, vr (some (97, 1, 0))), (1, vi l1), (2, vi l2), (3, vi l3), (4, vi (0 : Int32))] 34 [] Q) else (Zm E YX8_readParameters (d + 1) M [(0, vr (some (97, 1, 0))), (1, vi l1), (2, vi l2), (3, vi l3), (4, vi (1 : Int32))] 34 [] Q)) else (Zm E YX8_readParameters (d + 1) M [(0, vr (some (97, 1, 0))), (1, vi l1), (2, vi l2), (3, vi l3), (4, vi (1 : Int32))] 34 [] Q)))) : Zm E YX8_readParameters (d + 1) M [(0, vr (some (97, 1, 0))), (1, vi l1), (2, vi l2), (3, vi l3)] 15 [vi s0] Q := by
  refine sX8_readParameters_15 (d := d) M l1 l2 l3 s0 ?_
  refine zite k (fun h1679 k => ?_) (fun h1679 k => ?_)
  · exact k
  · refine jX8_isSign (d := d) M (27 : Int32) ?_
    refine zand k (fun h1680 k => ?_)
    refine zite k (fun h1681 k => ?_) (fun h1681 k => ?_)
    · refine zite k (fun h1682 k => ?_) (fun h1682 k => ?_)
      · show Zm E YX8_readParameters (d + 1) M [(0, vr (some (97, 1, 0))), (1, vi l1), (2, vi l2), (3, vi l3)] 24 [vi (1 : Int32)] Q
        refine sX8_readParameters_24 (d := d) M l1 l2 l3 (1 : Int32) ?_
        refine zneg (show ¬ ((1 : Int32) = 0) from by decide) ?_
        exact k
      · show Zm E YX8_readParameters (d + 1) M [(0, vr (some (97, 1, 0))), (1, vi l1), (2, vi l2), (3, vi l3)] 24 [vi (0 : Int32)] Q
        refine sX8_readParameters_24 (d := d) M l1 l2 l3 (0 : Int32) ?_
        refine zpos (show (0 : Int32) = 0 from by decide) ?_
        exact k
    · show Zm E YX8_readParameters (d + 1) M [(0, vr (some (97, 1, 0))), (1, vi l1), (2, vi l2), (3, vi l3)] 24 [vi (0 : Int32)] Q
      refine sX8_readParameters_24 (d := d) M l1 l2 l3 (0 : Int32) ?_
      refine zpos (show (0 : Int32) = 0 from by decide) ?_
      exact k
theorem iX8_readParameters_100 {E : zE} {d : Nat} {Q : zO → zM → Prop} (M : zM) (l1 : Int32) (l2 : Int32) (l3 : Int32) (s0 : Int32) (k : if (12 : Int32) ≤ l1 then (if (gi M 97 21) = 0 then (Zm E YX8_isSign d M (zargs 0 [vr (some (97, 1, 0)), vi (32 : Int32)]) 0 [] (zma E YX8_readParameters (d + 1) [(0, vr (some (97, 1, 0))), (1, vi l1), (2, vi l2), (3, vi (l3 + (1 : Int32)))] 149 3 [] Q)) else (Zm E YX8_readParameters (d + 1) M [(0, vr (some (97, 1, 0))), (1, vi l1), (2, vi l2), (3, vi (l3 + (1 : Int32))), (4, vi (0 : Int32))] 34 [] Q)) else (if (8 : Int32) ≤ l3 then (if (gi M 97 21) = 0 then (Zm E YX8_isSign d M (zargs 0 [vr (some (97, 1, 0)), vi (32 : Int32)]) 0 [] (zma E YX8_readParameters (d + 1) [(0, vr (some (97, 1, 0))), (1, vi l1), (2, vi l2), (3, vi (l3 + (1 : Int32)))] 149 3 [] Q)) else (Zm E YX8_readParameters (d + 1) M [(0, vr (some (97, 1, 0))), (1, vi l1), (2, vi l2), (3, vi (l3 + (1 : Int32))), (4, vi (0 : Int32))] 34 [] Q)) else (vp_in (((8 : Int32) * l1) + l3) 96 ∧ (vp_in l1 12 ∧ (if (gi M 97 21) = 0 then (Zm E YX8_isSign d (si (si M 116 ((((8 : Int32) * l1) + l3)).toNatClampNeg s0) 117 (l1).toNatClampNeg (l3 + (1 : Int32))) (zargs 0 [vr (some (97, 1, 0)), vi (32 : Int32)]) 0 [] (zma E YX8_readParameters (d + 1) [(0, vr (some (97, 1, 0))), (1, vi l1), (2, vi l2), (3, vi (l3 + (1 : Int32)))] 149 3 [] Q)) else (Zm E YX8_readParameters (d + 1) (si (si M 116 ((((8 : Int32) * l1) + l3)).toNatClampNeg s0) 117 (l1).toNatClampNeg (l3 + (1 : Int32))) [(0, vr (some (97, 1, 0))), (1, vi l1), (2, vi l2), (3, vi (l3 + (1 : Int32))), (4, vi (0 : Int32))] 34 [] Q)))))) : Zm E YX8_readParameters (d + 1) M [(0, vr (some (97, 1, 0))), (1, vi l1), (2, vi l2), (3, vi l3)] 100 [vi s0] Q := by
  refine sX8_readParameters_100 (d := d) M l1 l2 l3 s0 ?_
  refine zite k (fun h1724 k => ?_) (fun h1724 k => ?_)
  · refine sX8_readParameters_136 (d := d) M l1 l2 l3 ?_
    refine zite k (fun h1725 k => ?_) (fun h1725 k => ?_)
    · exact k
    · refine sX8_readParameters_166 (d := d) M l1 l2 (l3 + (1 : Int32)) (0 : Int32) ?_
      refine zpos (show (0 : Int32) = 0 from by decide) ?_
      exact k
  · refine zite k (fun h1726 k => ?_) (fun h1726 k => ?_)
    · refine sX8_readParameters_136 (d := d) M l1 l2 l3 ?_
      refine zite k (fun h1727 k => ?_) (fun h1727 k => ?_)
      · exact k
      · refine sX8_readParameters_166 (d := d) M l1 l2 (l3 + (1 : Int32)) (0 : Int32) ?_
        refine zpos (show (0 : Int32) = 0 from by decide) ?_
        exact k
    · refine zand k (fun h1728 k => ?_)
      refine zand k (fun h1729 k => ?_)
      refine sX8_readParameters_136 (d := d) (si (si M 116 ((((8 : Int32) * l1) + l3)).toNatClampNeg s0) 117 (l1).toNatClampNeg (l3 + (1 : Int32))) l1 l2 l3 ?_
      refine zite k (fun h1730 k => ?_) (fun h1730 k => ?_)
      · exact k
      · refine sX8_readParameters_166 (d := d) (si (si M 116 ((((8 : Int32) * l1) + l3)).toNatClampNeg s0) 117 (l1).toNatClampNeg (l3 + (1 : Int32))) l1 l2 (l3 + (1 : Int32)) (0 : Int32) ?_
        refine zpos (show (0 : Int32) = 0 from by decide) ?_
        exact k
theorem iX8_readParameters_81 {E : zE} {d : Nat} {Q : zO → zM → Prop} (M : zM) (l1 : Int32) (l2 : Int32) (l3 : Int32) (l5 : Int32) (s0 : Int32) (k : if s0 = 0 then (Zm E YX8_readParameters (d + 1) M [(0, vr (some (97, 1, 0))), (1, vi l1), (2, vi l2), (3, vi l3), (5, vi (l5 + (2 : Int32)))] 49 [] Q) else (if (gi M 97 21) = 0 then (vp_in (gi M 97 20) 4002 ∧ (if (gi M 103 ((gi M 97 20)).toNatClampNeg) = (6 : Int32) then (Zm E YX8_readParameters (d + 1) (si (si M 97 21 (1 : Int32)) 97 22 (gi M 107 ((gi M 97 20)).toNatClampNeg)) [(0, vr (some (97, 1, 0))), (1, vi l1), (2, vi l2), (3, vi l3), (5, vi (l5 + (2 : Int32)))] 49 [] Q) else (Zm E YX8_readParameters (d + 1) (si (si M 97 21 (3 : Int32)) 97 22 (gi M 107 ((gi M 97 20)).toNatClampNeg)) [(0, vr (some (97, 1, 0))), (1, vi l1), (2, vi l2), (3, vi l3), (5, vi (l5 + (2 : Int32)))] 49 [] Q))) else (Zm E YX8_readParameters (d + 1) M [(0, vr (some (97, 1, 0))), (1, vi l1), (2, vi l2), (3, vi l3), (5, vi (l5 + (2 : Int32)))] 49 [] Q))) : Zm E YX8_readParameters (d + 1) M [(0, vr (some (97, 1, 0))), (1, vi l1), (2, vi l2), (3, vi l3), (5, vi l5)] 81 [vi s0] Q := by
  refine sX8_readParameters_81 (d := d) M l1 l2 l3 l5 s0 ?_
  refine zite k (fun h1731 k => ?_) (fun h1731 k => ?_)
  · exact k
  · refine jX8_fail (d := d) M (3 : Int32) ?_
    refine zite k (fun h1732 k => ?_) (fun h1732 k => ?_)
    · refine zand k (fun h1733 k => ?_)
      refine zite k (fun h1734 k => ?_) (fun h1734 k => ?_)
      · show Zm E YX8_readParameters (d + 1) (si (si M 97 21 (1 : Int32)) 97 22 (gi M 107 ((gi M 97 20)).toNatClampNeg)) [(0, vr (some (97, 1, 0))), (1, vi l1), (2, vi l2), (3, vi l3), (5, vi l5)] 89 [vi (0 : Int32)] Q
        refine sX8_readParameters_89 (d := d) (si (si M 97 21 (1 : Int32)) 97 22 (gi M 107 ((gi M 97 20)).toNatClampNeg)) l1 l2 l3 l5 (0 : Int32) ?_
        exact k
      · show Zm E YX8_readParameters (d + 1) (si (si M 97 21 (3 : Int32)) 97 22 (gi M 107 ((gi M 97 20)).toNatClampNeg)) [(0, vr (some (97, 1, 0))), (1, vi l1), (2, vi l2), (3, vi l3), (5, vi l5)] 89 [vi (0 : Int32)] Q
        refine sX8_readParameters_89 (d := d) (si (si M 97 21 (3 : Int32)) 97 22 (gi M 107 ((gi M 97 20)).toNatClampNeg)) l1 l2 l3 l5 (0 : Int32) ?_
        exact k
    · show Zm E YX8_readParameters (d + 1) M [(0, vr (some (97, 1, 0))), (1, vi l1), (2, vi l2), (3, vi l3), (5, vi l5)] 89 [vi (0 : Int32)] Q
      refine sX8_readParameters_89 (d := d) M l1 l2 l3 l5 (0 : Int32) ?_
      exact k
theorem iX8_readParameters_152 {E : zE} {d : Nat} {Q : zO → zM → Prop} (M : zM) (l1 : Int32) (l2 : Int32) (l3 : Int32) (s0 : Int32) (k : if s0 = 0 then (Zm E YX8_readParameters (d + 1) M [(0, vr (some (97, 1, 0))), (1, vi l1), (2, vi l2), (3, vi l3), (4, vi (0 : Int32))] 34 [] Q) else (if (8 : Int32) ≤ l3 then (Zm E YX8_readParameters (d + 1) M [(0, vr (some (97, 1, 0))), (1, vi l1), (2, vi l2), (3, vi l3), (4, vi (0 : Int32))] 34 [] Q) else (Zm E YX8_readParameters (d + 1) (si M 97 20 ((gi M 97 20) + (1 : Int32))) [(0, vr (some (97, 1, 0))), (1, vi l1), (2, vi l2), (3, vi l3), (4, vi (1 : Int32))] 34 [] Q))) : Zm E YX8_readParameters (d + 1) M [(0, vr (some (97, 1, 0))), (1, vi l1), (2, vi l2), (3, vi l3)] 152 [vi s0] Q := by
  refine sX8_readParameters_152 (d := d) M l1 l2 l3 s0 ?_
  refine zite k (fun h1735 k => ?_) (fun h1735 k => ?_)
  · refine sX8_readParameters_166 (d := d) M l1 l2 l3 (0 : Int32) ?_
    refine zpos (show (0 : Int32) = 0 from by decide) ?_
    exact k
  · refine zite k (fun h1736 k => ?_) (fun h1736 k => ?_)
    · refine sX8_readParameters_166 (d := d) M l1 l2 l3 (0 : Int32) ?_
      refine zpos (show (0 : Int32) = 0 from by decide) ?_
      exact k
    · refine sX8_readParameters_166 (d := d) M l1 l2 l3 (1 : Int32) ?_
      refine zneg (show ¬ ((1 : Int32) = 0) from by decide) ?_
      exact k
theorem iX8_sameTokens_0 {E : zE} {d : Nat} {Q : zO → zM → Prop} (M : zM) (l1 : Int32) (l2 : Int32) (k : vp_in l1 4002 ∧ (vp_in l2 4002 ∧ (if ((gi M 106 (l1).toNatClampNeg) - (gi M 105 (l1).toNatClampNeg)) = ((gi M 106 (l2).toNatClampNeg) - (gi M 105 (l2).toNatClampNeg)) then (Zm E YX8_sameTokens (d + 1) M [(0, vr (some (97, 1, 0))), (1, vi l1), (2, vi l2), (3, vi (1 : Int32)), (4, vi (0 : Int32))] 38 [] Q) else (Zm E YX8_sameTokens (d + 1) M [(0, vr (some (97, 1, 0))), (1, vi l1), (2, vi l2), (3, vi (0 : Int32)), (4, vi (0 : Int32))] 38 [] Q)))) : Zm E YX8_sameTokens (d + 1) M [(0, vr (some (97, 1, 0))), (1, vi l1), (2, vi l2)] 0 [] Q := by
  refine sX8_sameTokens_0 (d := d) M l1 l2 ?_
  refine zand k (fun h1737 k => ?_)
  refine ⟨h1737, ?_⟩
  refine zand k (fun h1738 k => ?_)
  refine ⟨h1738, ?_⟩
  exact k
theorem iX8_sameTokens_38 {E : zE} {d : Nat} {Q : zO → zM → Prop} (M : zM) (l1 : Int32) (l2 : Int32) (l3 : Int32) (l4 : Int32) (k : vp_in l1 4002 ∧ (if ((gi M 106 (l1).toNatClampNeg) - (gi M 105 (l1).toNatClampNeg)) ≤ l4 then ((narrow .boolean (.int l3) = .int l3) ∧ (Q (.inl (some (vi l3))) M)) else (if l3 = 0 then ((narrow .boolean (.int l3) = .int l3) ∧ (Q (.inl (some (vi l3))) M)) else (if (gi M 97 4) ≤ ((gi M 105 (l1).toNatClampNeg) + l4) then (vp_in l2 4002 ∧ (if (gi M 97 4) ≤ ((gi M 105 (l2).toNatClampNeg) + l4) then (Zm E YX8_sameTokens (d + 1) M [(0, vr (some (97, 1, 0))), (1, vi l1), (2, vi l2), (3, vi (1 : Int32)), (4, vi (l4 + (1 : Int32)))] 38 [] Q) else (vp_in ((gi M 105 (l2).toNatClampNeg) + l4) 4000 ∧ (if (0 : Int32) = ((gi M 99 (((gi M 105 (l2).toNatClampNeg) + l4)).toNatClampNeg) &&& (255 : Int32)) then (Zm E YX8_sameTokens (d + 1) M [(0, vr (some (97, 1, 0))), (1, vi l1), (2, vi l2), (3, vi (1 : Int32)), (4, vi (l4 + (1 : Int32)))] 38 [] Q) else (Zm E YX8_sameTokens (d + 1) M [(0, vr (some (97, 1, 0))), (1, vi l1), (2, vi l2), (3, vi (0 : Int32)), (4, vi (l4 + (1 : Int32)))] 38 [] Q))))) else (vp_in ((gi M 105 (l1).toNatClampNeg) + l4) 4000 ∧ (vp_in l2 4002 ∧ (if (gi M 97 4) ≤ ((gi M 105 (l2).toNatClampNeg) + l4) then (if ((gi M 99 (((gi M 105 (l1).toNatClampNeg) + l4)).toNatClampNeg) &&& (255 : Int32)) = (0 : Int32) then (Zm E YX8_sameTokens (d + 1) M [(0, vr (some (97, 1, 0))), (1, vi l1), (2, vi l2), (3, vi (1 : Int32)), (4, vi (l4 + (1 : Int32)))] 38 [] Q) else (Zm E YX8_sameTokens (d + 1) M [(0, vr (some (97, 1, 0))), (1, vi l1), (2, vi l2), (3, vi (0 : Int32)), (4, vi (l4 + (1 : Int32)))] 38 [] Q)) else (vp_in ((gi M 105 (l2).toNatClampNeg) + l4) 4000 ∧ (if ((gi M 99 (((gi M 105 (l1).toNatClampNeg) + l4)).toNatClampNeg) &&& (255 : Int32)) = ((gi M 99 (((gi M 105 (l2).toNatClampNeg) + l4)).toNatClampNeg) &&& (255 : Int32)) then (Zm E YX8_sameTokens (d + 1) M [(0, vr (some (97, 1, 0))), (1, vi l1), (2, vi l2), (3, vi (1 : Int32)), (4, vi (l4 + (1 : Int32)))] 38 [] Q) else (Zm E YX8_sameTokens (d + 1) M [(0, vr (some (97, 1, 0))), (1, vi l1), (2, vi l2), (3, vi (0 : Int32)), (4, vi (l4 + (1 : Int32)))] 38 [] Q)))))))))) : Zm E YX8_sameTokens (d + 1) M [(0, vr (some (97, 1, 0))), (1, vi l1), (2, vi l2), (3, vi l3), (4, vi l4)] 38 [] Q := by
  refine sX8_sameTokens_38 (d := d) M l1 l2 l3 l4 ?_
  refine zand k (fun h1740 k => ?_)
  refine ⟨h1740, ?_⟩
  refine zite k (fun h1741 k => ?_) (fun h1741 k => ?_)
  · exact k
  · refine zite k (fun h1743 k => ?_) (fun h1743 k => ?_)
    · exact k
    · refine ⟨h1740, ?_⟩
      refine sX8_look_0 (d := d) M ((gi M 105 (l1).toNatClampNeg) + l4) ?_
      refine zite k (fun h1745 k => ?_) (fun h1745 k => ?_)
      · show Zm E YX8_sameTokens (d + 1) M [(0, vr (some (97, 1, 0))), (1, vi l1), (2, vi l2), (4, vi l4)] 73 [vi (0 : Int32)] Q
        refine sX8_sameTokens_73 (d := d) M l1 l2 l4 (0 : Int32) ?_
        refine zand k (fun h1746 k => ?_)
        refine sX8_look_0 (d := d) M ((gi M 105 (l2).toNatClampNeg) + l4) ?_
        refine zite k (fun h1747 k => ?_) (fun h1747 k => ?_)
        · show Zm E YX8_sameTokens (d + 1) M [(0, vr (some (97, 1, 0))), (1, vi l1), (2, vi l2), (4, vi l4)] 86 [vi (0 : Int32), vi (0 : Int32)] Q
          refine sX8_sameTokens_86 (d := d) M l1 l2 l4 (0 : Int32) (0 : Int32) ?_
          refine zpos (show (0 : Int32) = (0 : Int32) from by decide) ?_
          exact k
        · refine zand k (fun h1748 k => ?_)
          show Zm E YX8_sameTokens (d + 1) M [(0, vr (some (97, 1, 0))), (1, vi l1), (2, vi l2), (4, vi l4)] 86 [vi ((gi M 99 (((gi M 105 (l2).toNatClampNeg) + l4)).toNatClampNeg) &&& (255 : Int32)), vi (0 : Int32)] Q
          refine sX8_sameTokens_86 (d := d) M l1 l2 l4 ((gi M 99 (((gi M 105 (l2).toNatClampNeg) + l4)).toNatClampNeg) &&& (255 : Int32)) (0 : Int32) ?_
          exact k
      · refine zand k (fun h1750 k => ?_)
        show Zm E YX8_sameTokens (d + 1) M [(0, vr (some (97, 1, 0))), (1, vi l1), (2, vi l2), (4, vi l4)] 73 [vi ((gi M 99 (((gi M 105 (l1).toNatClampNeg) + l4)).toNatClampNeg) &&& (255 : Int32))] Q
        refine sX8_sameTokens_73 (d := d) M l1 l2 l4 ((gi M 99 (((gi M 105 (l1).toNatClampNeg) + l4)).toNatClampNeg) &&& (255 : Int32)) ?_
        refine zand k (fun h1751 k => ?_)
        refine sX8_look_0 (d := d) M ((gi M 105 (l2).toNatClampNeg) + l4) ?_
        refine zite k (fun h1752 k => ?_) (fun h1752 k => ?_)
        · show Zm E YX8_sameTokens (d + 1) M [(0, vr (some (97, 1, 0))), (1, vi l1), (2, vi l2), (4, vi l4)] 86 [vi (0 : Int32), vi ((gi M 99 (((gi M 105 (l1).toNatClampNeg) + l4)).toNatClampNeg) &&& (255 : Int32))] Q
          refine sX8_sameTokens_86 (d := d) M l1 l2 l4 (0 : Int32) ((gi M 99 (((gi M 105 (l1).toNatClampNeg) + l4)).toNatClampNeg) &&& (255 : Int32)) ?_
          exact k
        · refine zand k (fun h1754 k => ?_)
          show Zm E YX8_sameTokens (d + 1) M [(0, vr (some (97, 1, 0))), (1, vi l1), (2, vi l2), (4, vi l4)] 86 [vi ((gi M 99 (((gi M 105 (l2).toNatClampNeg) + l4)).toNatClampNeg) &&& (255 : Int32)), vi ((gi M 99 (((gi M 105 (l1).toNatClampNeg) + l4)).toNatClampNeg) &&& (255 : Int32))] Q
          refine sX8_sameTokens_86 (d := d) M l1 l2 l4 ((gi M 99 (((gi M 105 (l2).toNatClampNeg) + l4)).toNatClampNeg) &&& (255 : Int32)) ((gi M 99 (((gi M 105 (l1).toNatClampNeg) + l4)).toNatClampNeg) &&& (255 : Int32)) ?_
          exact k
theorem iX8_skip_2 {E : zE} {d : Nat} {Q : zO → zM → Prop} (M : zM) (l1 : Int32) (k : if l1 = 0 then (Q (.inl (some (vi (1 : Int32)))) M) else (if (gi M 97 4) ≤ (gi M 97 18) then (Q (.inl (some (vi (1 : Int32)))) M) else (vp_in (gi M 97 18) 4000 ∧ (if ((gi M 99 ((gi M 97 18)).toNatClampNeg) &&& (255 : Int32)) = (9 : Int32) then (if ((gi M 99 ((gi M 97 18)).toNatClampNeg) &&& (255 : Int32)) = (10 : Int32) then (Zm E YX8_skip (d + 1) (si (si M 97 19 ((gi M 97 19) + (1 : Int32))) 97 18 ((gi M 97 18) + (1 : Int32))) [(0, vr (some (97, 1, 0))), (1, vi l1)] 2 [] Q) else (Zm E YX8_skip (d + 1) (si (si M 97 19 ((gi M 97 19) + (0 : Int32))) 97 18 ((gi M 97 18) + (1 : Int32))) [(0, vr (some (97, 1, 0))), (1, vi l1)] 2 [] Q)) else (if ((gi M 99 ((gi M 97 18)).toNatClampNeg) &&& (255 : Int32)) = (10 : Int32) then (Zm E YX8_skip (d + 1) (si (si M 97 19 ((gi M 97 19) + (1 : Int32))) 97 18 ((gi M 97 18) + (1 : Int32))) [(0, vr (some (97, 1, 0))), (1, vi l1)] 2 [] Q) else (if ((gi M 99 ((gi M 97 18)).toNatClampNeg) &&& (255 : Int32)) = (32 : Int32) then (Zm E YX8_skip (d + 1) (si (si M 97 19 ((gi M 97 19) + (0 : Int32))) 97 18 ((gi M 97 18) + (1 : Int32))) [(0, vr (some (97, 1, 0))), (1, vi l1)] 2 [] Q) else (if ((gi M 99 ((gi M 97 18)).toNatClampNeg) &&& (255 : Int32)) = (47 : Int32) then (if (gi M 97 4) ≤ ((gi M 97 18) + (1 : Int32)) then (Zm E YX8_skip (d + 1) M [(0, vr (some (97, 1, 0))), (1, vi (0 : Int32))] 2 [] Q) else (vp_in ((gi M 97 18) + (1 : Int32)) 4000 ∧ (if ((gi M 99 (((gi M 97 18) + (1 : Int32))).toNatClampNeg) &&& (255 : Int32)) = (47 : Int32) then (Zm E YX8_skip (d + 1) M [(0, vr (some (97, 1, 0))), (1, vi l1)] 98 [] Q) else (if ((gi M 99 (((gi M 97 18) + (1 : Int32))).toNatClampNeg) &&& (255 : Int32)) = (42 : Int32) then (Zm E YX8_skip (d + 1) M [(0, vr (some (97, 1, 0))), (1, vi l1), (3, vi ((gi M 97 18) + (2 : Int32)))] 163 [] Q) else (Zm E YX8_skip (d + 1) M [(0, vr (some (97, 1, 0))), (1, vi (0 : Int32))] 2 [] Q))))) else (Zm E YX8_skip (d + 1) M [(0, vr (some (97, 1, 0))), (1, vi (0 : Int32))] 2 [] Q)))))))) : Zm E YX8_skip (d + 1) M [(0, vr (some (97, 1, 0))), (1, vi l1)] 2 [] Q := by
  refine sX8_skip_2 (d := d) M l1 ?_
  refine zite k (fun h1756 k => ?_) (fun h1756 k => ?_)
  · exact k
  · refine sX8_isThere_0 (d := d) M (gi M 97 18) ?_
    refine zite k (fun h1757 k => ?_) (fun h1757 k => ?_)
    · show Zm E YX8_skip (d + 1) M [(0, vr (some (97, 1, 0))), (1, vi l1)] 14 [vi (0 : Int32)] Q
      refine sX8_skip_14 (d := d) M l1 (0 : Int32) ?_
      refine zpos (show (0 : Int32) = 0 from by decide) ?_
      exact k
    · show Zm E YX8_skip (d + 1) M [(0, vr (some (97, 1, 0))), (1, vi l1)] 14 [vi (1 : Int32)] Q
      refine sX8_skip_14 (d := d) M l1 (1 : Int32) ?_
      refine zneg (show ¬ ((1 : Int32) = 0) from by decide) ?_
      refine sX8_look_0 (d := d) M (gi M 97 18) ?_
      refine zneg h1757 ?_
      refine zand k (fun h1758 k => ?_)
      show Zm E YX8_skip (d + 1) M [(0, vr (some (97, 1, 0))), (1, vi l1)] 25 [vi ((gi M 99 ((gi M 97 18)).toNatClampNeg) &&& (255 : Int32))] Q
      refine sX8_skip_25 (d := d) M l1 ((gi M 99 ((gi M 97 18)).toNatClampNeg) &&& (255 : Int32)) ?_
      refine zite k (fun h1759 k => ?_) (fun h1759 k => ?_)
      · refine sX8_skip_44 (d := d) M l1 ((gi M 99 ((gi M 97 18)).toNatClampNeg) &&& (255 : Int32)) ?_
        refine zite k (fun h1760 k => ?_) (fun h1760 k => ?_)
        · refine sX8_skip_60 (d := d) M l1 (1 : Int32) (gi M 97 19) ?_
          exact k
        · refine sX8_skip_60 (d := d) M l1 (0 : Int32) (gi M 97 19) ?_
          exact k
      · refine zite k (fun h1761 k => ?_) (fun h1761 k => ?_)
        · refine sX8_skip_44 (d := d) M l1 ((gi M 99 ((gi M 97 18)).toNatClampNeg) &&& (255 : Int32)) ?_
          refine zpos h1761 ?_
          refine sX8_skip_60 (d := d) M l1 (1 : Int32) (gi M 97 19) ?_
          exact k
        · refine zite k (fun h1762 k => ?_) (fun h1762 k => ?_)
          · refine sX8_skip_44 (d := d) M l1 ((gi M 99 ((gi M 97 18)).toNatClampNeg) &&& (255 : Int32)) ?_
            refine zneg h1761 ?_
            refine sX8_skip_60 (d := d) M l1 (0 : Int32) (gi M 97 19) ?_
            exact k
          · refine zite k (fun h1763 k => ?_) (fun h1763 k => ?_)
            · refine sX8_look_0 (d := d) M ((gi M 97 18) + (1 : Int32)) ?_
              refine zite k (fun h1764 k => ?_) (fun h1764 k => ?_)
              · show Zm E YX8_skip (d + 1) M [(0, vr (some (97, 1, 0))), (1, vi l1), (2, vi ((gi M 99 ((gi M 97 18)).toNatClampNeg) &&& (255 : Int32)))] 93 [vi (0 : Int32)] Q
                refine sX8_skip_93 (d := d) M l1 ((gi M 99 ((gi M 97 18)).toNatClampNeg) &&& (255 : Int32)) (0 : Int32) ?_
                refine zneg (show ¬ ((0 : Int32) = (47 : Int32)) from by decide) ?_
                refine sX8_skip_135 (d := d) M l1 ((gi M 99 ((gi M 97 18)).toNatClampNeg) &&& (255 : Int32)) ?_
                refine zpos h1763 ?_
                refine sX8_look_0 (d := d) M ((gi M 97 18) + (1 : Int32)) ?_
                refine zpos h1764 ?_
                show Zm E YX8_skip (d + 1) M [(0, vr (some (97, 1, 0))), (1, vi l1)] 151 [vi (0 : Int32)] Q
                refine sX8_skip_151 (d := d) M l1 (0 : Int32) ?_
                refine zneg (show ¬ ((0 : Int32) = (42 : Int32)) from by decide) ?_
                exact k
              · refine zand k (fun h1765 k => ?_)
                show Zm E YX8_skip (d + 1) M [(0, vr (some (97, 1, 0))), (1, vi l1), (2, vi ((gi M 99 ((gi M 97 18)).toNatClampNeg) &&& (255 : Int32)))] 93 [vi ((gi M 99 (((gi M 97 18) + (1 : Int32))).toNatClampNeg) &&& (255 : Int32))] Q
                refine sX8_skip_93 (d := d) M l1 ((gi M 99 ((gi M 97 18)).toNatClampNeg) &&& (255 : Int32)) ((gi M 99 (((gi M 97 18) + (1 : Int32))).toNatClampNeg) &&& (255 : Int32)) ?_
                refine zite k (fun h1766 k => ?_) (fun h1766 k => ?_)
                · exact k
                · refine sX8_skip_135 (d := d) M l1 ((gi M 99 ((gi M 97 18)).toNatClampNeg) &&& (255 : Int32)) ?_
                  refine zpos h1763 ?_
                  refine sX8_look_0 (d := d) M ((gi M 97 18) + (1 : Int32)) ?_
                  refine zneg h1764 ?_
                  refine ⟨h1765, ?_⟩
                  show Zm E YX8_skip (d + 1) M [(0, vr (some (97, 1, 0))), (1, vi l1)] 151 [vi ((gi M 99 (((gi M 97 18) + (1 : Int32))).toNatClampNeg) &&& (255 : Int32))] Q
                  refine sX8_skip_151 (d := d) M l1 ((gi M 99 (((gi M 97 18) + (1 : Int32))).toNatClampNeg) &&& (255 : Int32)) ?_
                  exact k
            · refine sX8_skip_135 (d := d) M l1 ((gi M 99 ((gi M 97 18)).toNatClampNeg) &&& (255 : Int32)) ?_
              refine zneg h1763 ?_
              exact k
theorem iX8_skip_98 {E : zE} {d : Nat} {Q : zO → zM → Prop} (M : zM) (l1 : Int32) (k : if (gi M 97 4) ≤ (gi M 97 18) then (Zm E YX8_skip (d + 1) M [(0, vr (some (97, 1, 0))), (1, vi l1)] 2 [] Q) else (vp_in (gi M 97 18) 4000 ∧ (if ((gi M 99 ((gi M 97 18)).toNatClampNeg) &&& (255 : Int32)) = (10 : Int32) then (Zm E YX8_skip (d + 1) M [(0, vr (some (97, 1, 0))), (1, vi l1)] 2 [] Q) else (Zm E YX8_skip (d + 1) (si M 97 18 ((gi M 97 18) + (1 : Int32))) [(0, vr (some (97, 1, 0))), (1, vi l1)] 98 [] Q)))) : Zm E YX8_skip (d + 1) M [(0, vr (some (97, 1, 0))), (1, vi l1)] 98 [] Q := by
  refine sX8_skip_98 (d := d) M l1 ?_
  refine sX8_isThere_0 (d := d) M (gi M 97 18) ?_
  refine zite k (fun h1768 k => ?_) (fun h1768 k => ?_)
  · show Zm E YX8_skip (d + 1) M [(0, vr (some (97, 1, 0))), (1, vi l1)] 106 [vi (0 : Int32)] Q
    refine sX8_skip_106 (d := d) M l1 (0 : Int32) ?_
    refine zpos (show (0 : Int32) = 0 from by decide) ?_
    exact k
  · show Zm E YX8_skip (d + 1) M [(0, vr (some (97, 1, 0))), (1, vi l1)] 106 [vi (1 : Int32)] Q
    refine sX8_skip_106 (d := d) M l1 (1 : Int32) ?_
    refine zneg (show ¬ ((1 : Int32) = 0) from by decide) ?_
    refine sX8_look_0 (d := d) M (gi M 97 18) ?_
    refine zneg h1768 ?_
    refine zand k (fun h1769 k => ?_)
    show Zm E YX8_skip (d + 1) M [(0, vr (some (97, 1, 0))), (1, vi l1)] 117 [vi ((gi M 99 ((gi M 97 18)).toNatClampNeg) &&& (255 : Int32))] Q
    refine sX8_skip_117 (d := d) M l1 ((gi M 99 ((gi M 97 18)).toNatClampNeg) &&& (255 : Int32)) ?_
    exact k
theorem iX8_skip_163 {E : zE} {d : Nat} {Q : zO → zM → Prop} (M : zM) (l1 : Int32) (l3 : Int32) (k : if (gi M 97 4) ≤ l3 then (Q (.inl (some (vi (0 : Int32)))) M) else (vp_in l3 4000 ∧ (if ((gi M 99 (l3).toNatClampNeg) &&& (255 : Int32)) = (42 : Int32) then (if (gi M 97 4) ≤ (l3 + (1 : Int32)) then (Zm E YX8_skip (d + 1) M [(0, vr (some (97, 1, 0))), (1, vi l1), (3, vi (l3 + (1 : Int32)))] 163 [] Q) else (vp_in (l3 + (1 : Int32)) 4000 ∧ (if ((gi M 99 ((l3 + (1 : Int32))).toNatClampNeg) &&& (255 : Int32)) = (47 : Int32) then (Zm E YX8_skip (d + 1) M [(0, vr (some (97, 1, 0))), (1, vi l1), (3, vi l3)] 209 [] Q) else (Zm E YX8_skip (d + 1) M [(0, vr (some (97, 1, 0))), (1, vi l1), (3, vi (l3 + (1 : Int32)))] 163 [] Q)))) else (Zm E YX8_skip (d + 1) M [(0, vr (some (97, 1, 0))), (1, vi l1), (3, vi (l3 + (1 : Int32)))] 163 [] Q)))) : Zm E YX8_skip (d + 1) M [(0, vr (some (97, 1, 0))), (1, vi l1), (3, vi l3)] 163 [] Q := by
  refine sX8_skip_163 (d := d) M l1 l3 ?_
  refine sX8_isThere_0 (d := d) M l3 ?_
  refine zite k (fun h1771 k => ?_) (fun h1771 k => ?_)
  · show Zm E YX8_skip (d + 1) M [(0, vr (some (97, 1, 0))), (1, vi l1), (3, vi l3)] 168 [vi (0 : Int32)] Q
    refine sX8_skip_168 (d := d) M l1 l3 (0 : Int32) ?_
    refine zpos (show (0 : Int32) = 0 from by decide) ?_
    refine sX8_isThere_0 (d := d) M l3 ?_
    refine zpos h1771 ?_
    show Zm E YX8_skip (d + 1) M [(0, vr (some (97, 1, 0))), (1, vi l1), (3, vi l3)] 204 [vi (0 : Int32)] Q
    refine sX8_skip_204 (d := d) M l1 l3 (0 : Int32) ?_
    refine zpos (show (0 : Int32) = 0 from by decide) ?_
    exact k
  · show Zm E YX8_skip (d + 1) M [(0, vr (some (97, 1, 0))), (1, vi l1), (3, vi l3)] 168 [vi (1 : Int32)] Q
    refine sX8_skip_168 (d := d) M l1 l3 (1 : Int32) ?_
    refine zneg (show ¬ ((1 : Int32) = 0) from by decide) ?_
    refine sX8_look_0 (d := d) M l3 ?_
    refine zneg h1771 ?_
    refine zand k (fun h1772 k => ?_)
    show Zm E YX8_skip (d + 1) M [(0, vr (some (97, 1, 0))), (1, vi l1), (3, vi l3)] 176 [vi ((gi M 99 (l3).toNatClampNeg) &&& (255 : Int32))] Q
    refine sX8_skip_176 (d := d) M l1 l3 ((gi M 99 (l3).toNatClampNeg) &&& (255 : Int32)) ?_
    refine zite k (fun h1773 k => ?_) (fun h1773 k => ?_)
    · refine sX8_look_0 (d := d) M (l3 + (1 : Int32)) ?_
      refine zite k (fun h1774 k => ?_) (fun h1774 k => ?_)
      · show Zm E YX8_skip (d + 1) M [(0, vr (some (97, 1, 0))), (1, vi l1), (3, vi l3)] 188 [vi (0 : Int32)] Q
        refine sX8_skip_188 (d := d) M l1 l3 (0 : Int32) ?_
        refine zneg (show ¬ ((0 : Int32) = (47 : Int32)) from by decide) ?_
        exact k
      · refine zand k (fun h1775 k => ?_)
        show Zm E YX8_skip (d + 1) M [(0, vr (some (97, 1, 0))), (1, vi l1), (3, vi l3)] 188 [vi ((gi M 99 ((l3 + (1 : Int32))).toNatClampNeg) &&& (255 : Int32))] Q
        refine sX8_skip_188 (d := d) M l1 l3 ((gi M 99 ((l3 + (1 : Int32))).toNatClampNeg) &&& (255 : Int32)) ?_
        refine zite k (fun h1776 k => ?_) (fun h1776 k => ?_)
        · refine sX8_isThere_0 (d := d) M l3 ?_
          refine zneg h1771 ?_
          show Zm E YX8_skip (d + 1) M [(0, vr (some (97, 1, 0))), (1, vi l1), (3, vi l3)] 204 [vi (1 : Int32)] Q
          refine sX8_skip_204 (d := d) M l1 l3 (1 : Int32) ?_
          refine zneg (show ¬ ((1 : Int32) = 0) from by decide) ?_
          exact k
        · exact k
    · exact k
theorem iX8_skip_209 {E : zE} {d : Nat} {Q : zO → zM → Prop} (M : zM) (l1 : Int32) (l3 : Int32) (k : if (l3 + (2 : Int32)) ≤ (gi M 97 18) then (Zm E YX8_skip (d + 1) M [(0, vr (some (97, 1, 0))), (1, vi l1)] 2 [] Q) else (if (gi M 97 4) ≤ (gi M 97 18) then (Zm E YX8_skip (d + 1) (si (si M 97 19 ((gi M 97 19) + (0 : Int32))) 97 18 ((gi M 97 18) + (1 : Int32))) [(0, vr (some (97, 1, 0))), (1, vi l1), (3, vi l3)] 209 [] Q) else (vp_in (gi M 97 18) 4000 ∧ (if ((gi M 99 ((gi M 97 18)).toNatClampNeg) &&& (255 : Int32)) = (10 : Int32) then (Zm E YX8_skip (d + 1) (si (si M 97 19 ((gi M 97 19) + (1 : Int32))) 97 18 ((gi M 97 18) + (1 : Int32))) [(0, vr (some (97, 1, 0))), (1, vi l1), (3, vi l3)] 209 [] Q) else (Zm E YX8_skip (d + 1) (si (si M 97 19 ((gi M 97 19) + (0 : Int32))) 97 18 ((gi M 97 18) + (1 : Int32))) [(0, vr (some (97, 1, 0))), (1, vi l1), (3, vi l3)] 209 [] Q))))) : Zm E YX8_skip (d + 1) M [(0, vr (some (97, 1, 0))), (1, vi l1), (3, vi l3)] 209 [] Q := by
  refine sX8_skip_209 (d := d) M l1 l3 ?_
  refine zite k (fun h1777 k => ?_) (fun h1777 k => ?_)
  · exact k
  · refine sX8_look_0 (d := d) M (gi M 97 18) ?_
    refine zite k (fun h1778 k => ?_) (fun h1778 k => ?_)
    · show Zm E YX8_skip (d + 1) M [(0, vr (some (97, 1, 0))), (1, vi l1), (3, vi l3)] 232 [vi (0 : Int32), vi (gi M 97 19), vr (some (97, 1, 0))] Q
      refine sX8_skip_232 (d := d) M l1 l3 (0 : Int32) (gi M 97 19) ?_
      refine zneg (show ¬ ((0 : Int32) = (10 : Int32)) from by decide) ?_
      refine sX8_skip_242 (d := d) M l1 l3 (0 : Int32) (gi M 97 19) ?_
      exact k
    · refine zand k (fun h1779 k => ?_)
      show Zm E YX8_skip (d + 1) M [(0, vr (some (97, 1, 0))), (1, vi l1), (3, vi l3)] 232 [vi ((gi M 99 ((gi M 97 18)).toNatClampNeg) &&& (255 : Int32)), vi (gi M 97 19), vr (some (97, 1, 0))] Q
      refine sX8_skip_232 (d := d) M l1 l3 ((gi M 99 ((gi M 97 18)).toNatClampNeg) &&& (255 : Int32)) (gi M 97 19) ?_
      refine zite k (fun h1780 k => ?_) (fun h1780 k => ?_)
      · refine sX8_skip_242 (d := d) M l1 l3 (1 : Int32) (gi M 97 19) ?_
        exact k
      · refine sX8_skip_242 (d := d) M l1 l3 (0 : Int32) (gi M 97 19) ?_
        exact k
theorem iX8_statement_34 {E : zE} {d : Nat} {Q : zO → zM → Prop} (M : zM) (s0 : Int32) (k : if s0 = 0 then (vp_in (gi M 97 20) 4002 ∧ (if (gi M 103 ((gi M 97 20)).toNatClampNeg) = (2 : Int32) then (if (gi M 104 ((gi M 97 20)).toNatClampNeg) = (18 : Int32) then (if (gi M 97 43) = 0 then (if (gi M 97 21) = 0 then (if (gi M 103 ((gi M 97 20)).toNatClampNeg) = (6 : Int32) then (Zm E YX8_beginsStatement d (si (si M 97 21 (1 : Int32)) 97 22 (gi M 107 ((gi M 97 20)).toNatClampNeg)) (zargs 0 [vr (some (97, 1, 0))]) 0 [] (zma E YX8_statement (d + 1) [(0, vr (some (97, 1, 0)))] 68 3 [vr (some (97, 1, 0))] Q)) else (Zm E YX8_beginsStatement d (si (si M 97 21 (3 : Int32)) 97 22 (gi M 107 ((gi M 97 20)).toNatClampNeg)) (zargs 0 [vr (some (97, 1, 0))]) 0 [] (zma E YX8_statement (d + 1) [(0, vr (some (97, 1, 0)))] 68 3 [vr (some (97, 1, 0))] Q))) else (Zm E YX8_beginsStatement d M (zargs 0 [vr (some (97, 1, 0))]) 0 [] (zma E YX8_statement (d + 1) [(0, vr (some (97, 1, 0)))] 68 3 [vr (some (97, 1, 0))] Q))) else (Zm E YX8_beginsStatement d M (zargs 0 [vr (some (97, 1, 0))]) 0 [] (zma E YX8_statement (d + 1) [(0, vr (some (97, 1, 0)))] 68 3 [vr (some (97, 1, 0))] Q))) else (Zm E YX8_beginsStatement d M (zargs 0 [vr (some (97, 1, 0))]) 0 [] (zma E YX8_statement (d + 1) [(0, vr (some (97, 1, 0)))] 68 3 [vr (some (97, 1, 0))] Q))) else (Zm E YX8_beginsStatement d M (zargs 0 [vr (some (97, 1, 0))]) 0 [] (zma E YX8_statement (d + 1) [(0, vr (some (97, 1, 0)))] 68 3 [vr (some (97, 1, 0))] Q)))) else (if (gi M 97 44) = 0 then (if (gi M 97 21) = 0 then (vp_in (gi M 97 20) 4002 ∧ (if (gi M 103 ((gi M 97 20)).toNatClampNeg) = (6 : Int32) then (Zm E YX8_beginsStatement d (si (si M 97 21 (1 : Int32)) 97 22 (gi M 107 ((gi M 97 20)).toNatClampNeg)) (zargs 0 [vr (some (97, 1, 0))]) 0 [] (zma E YX8_statement (d + 1) [(0, vr (some (97, 1, 0)))] 68 3 [vr (some (97, 1, 0))] Q)) else (Zm E YX8_beginsStatement d (si (si M 97 21 (3 : Int32)) 97 22 (gi M 107 ((gi M 97 20)).toNatClampNeg)) (zargs 0 [vr (some (97, 1, 0))]) 0 [] (zma E YX8_statement (d + 1) [(0, vr (some (97, 1, 0)))] 68 3 [vr (some (97, 1, 0))] Q)))) else (Zm E YX8_beginsStatement d M (zargs 0 [vr (some (97, 1, 0))]) 0 [] (zma E YX8_statement (d + 1) [(0, vr (some (97, 1, 0)))] 68 3 [vr (some (97, 1, 0))] Q))) else (vp_in (gi M 97 20) 4002 ∧ (if (gi M 103 ((gi M 97 20)).toNatClampNeg) = (2 : Int32) then (if (gi M 104 ((gi M 97 20)).toNatClampNeg) = (18 : Int32) then (if (gi M 97 43) = 0 then (if (gi M 97 21) = 0 then (if (gi M 103 ((gi M 97 20)).toNatClampNeg) = (6 : Int32) then (Zm E YX8_beginsStatement d (si (si M 97 21 (1 : Int32)) 97 22 (gi M 107 ((gi M 97 20)).toNatClampNeg)) (zargs 0 [vr (some (97, 1, 0))]) 0 [] (zma E YX8_statement (d + 1) [(0, vr (some (97, 1, 0)))] 68 3 [vr (some (97, 1, 0))] Q)) else (Zm E YX8_beginsStatement d (si (si M 97 21 (3 : Int32)) 97 22 (gi M 107 ((gi M 97 20)).toNatClampNeg)) (zargs 0 [vr (some (97, 1, 0))]) 0 [] (zma E YX8_statement (d + 1) [(0, vr (some (97, 1, 0)))] 68 3 [vr (some (97, 1, 0))] Q))) else (Zm E YX8_beginsStatement d M (zargs 0 [vr (some (97, 1, 0))]) 0 [] (zma E YX8_statement (d + 1) [(0, vr (some (97, 1, 0)))] 68 3 [vr (some (97, 1, 0))] Q))) else (Zm E YX8_beginsStatement d M (zargs 0 [vr (some (97, 1, 0))]) 0 [] (zma E YX8_statement (d + 1) [(0, vr (some (97, 1, 0)))] 68 3 [vr (some (97, 1, 0))] Q))) else (Zm E YX8_beginsStatement d M (zargs 0 [vr (some (97, 1, 0))]) 0 [] (zma E YX8_statement (d + 1) [(0, vr (some (97, 1, 0)))] 68 3 [vr (some (97, 1, 0))] Q))) else (Zm E YX8_beginsStatement d M (zargs 0 [vr (some (97, 1, 0))]) 0 [] (zma E YX8_statement (d + 1) [(0, vr (some (97, 1, 0)))] 68 3 [vr (some (97, 1, 0))] Q)))))) : Zm E YX8_statement (d + 1) M [(0, vr (some (97, 1, 0)))] 34 [vi s0] Q := by
  refine sX8_statement_34 (d := d) M s0 ?_
  refine zite k (fun h1848 k => ?_) (fun h1848 k => ?_)
  · refine jX8_isKeyword (d := d) M (18 : Int32) ?_
    refine zand k (fun h1849 k => ?_)
    refine zite k (fun h1850 k => ?_) (fun h1850 k => ?_)
    · refine zite k (fun h1851 k => ?_) (fun h1851 k => ?_)
      · show Zm E YX8_statement (d + 1) M [(0, vr (some (97, 1, 0)))] 50 [vi (1 : Int32)] Q
        refine sX8_statement_50 (d := d) M (1 : Int32) ?_
        refine zneg (show ¬ ((1 : Int32) = 0) from by decide) ?_
        refine zite k (fun h1852 k => ?_) (fun h1852 k => ?_)
        · refine jX8_fail (d := d) M (3 : Int32) ?_
          refine zite k (fun h1853 k => ?_) (fun h1853 k => ?_)
          · refine ⟨h1849, ?_⟩
            refine zite k (fun h1854 k => ?_) (fun h1854 k => ?_)
            · show Zm E YX8_statement (d + 1) (si (si M 97 21 (1 : Int32)) 97 22 (gi M 107 ((gi M 97 20)).toNatClampNeg)) [(0, vr (some (97, 1, 0)))] 65 [vi (0 : Int32)] Q
              refine sX8_statement_65 (d := d) (si (si M 97 21 (1 : Int32)) 97 22 (gi M 107 ((gi M 97 20)).toNatClampNeg)) (0 : Int32) ?_
              exact k
            · show Zm E YX8_statement (d + 1) (si (si M 97 21 (3 : Int32)) 97 22 (gi M 107 ((gi M 97 20)).toNatClampNeg)) [(0, vr (some (97, 1, 0)))] 65 [vi (0 : Int32)] Q
              refine sX8_statement_65 (d := d) (si (si M 97 21 (3 : Int32)) 97 22 (gi M 107 ((gi M 97 20)).toNatClampNeg)) (0 : Int32) ?_
              exact k
          · show Zm E YX8_statement (d + 1) M [(0, vr (some (97, 1, 0)))] 65 [vi (0 : Int32)] Q
            refine sX8_statement_65 (d := d) M (0 : Int32) ?_
            exact k
        · exact k
      · show Zm E YX8_statement (d + 1) M [(0, vr (some (97, 1, 0)))] 50 [vi (0 : Int32)] Q
        refine sX8_statement_50 (d := d) M (0 : Int32) ?_
        refine zpos (show (0 : Int32) = 0 from by decide) ?_
        exact k
    · show Zm E YX8_statement (d + 1) M [(0, vr (some (97, 1, 0)))] 50 [vi (0 : Int32)] Q
      refine sX8_statement_50 (d := d) M (0 : Int32) ?_
      refine zpos (show (0 : Int32) = 0 from by decide) ?_
      exact k
  · refine zite k (fun h1855 k => ?_) (fun h1855 k => ?_)
    · refine jX8_fail (d := d) M (3 : Int32) ?_
      refine zite k (fun h1856 k => ?_) (fun h1856 k => ?_)
      · refine zand k (fun h1857 k => ?_)
        refine zite k (fun h1858 k => ?_) (fun h1858 k => ?_)
        · show Zm E YX8_statement (d + 1) (si (si M 97 21 (1 : Int32)) 97 22 (gi M 107 ((gi M 97 20)).toNatClampNeg)) [(0, vr (some (97, 1, 0)))] 65 [vi (0 : Int32)] Q
          refine sX8_statement_65 (d := d) (si (si M 97 21 (1 : Int32)) 97 22 (gi M 107 ((gi M 97 20)).toNatClampNeg)) (0 : Int32) ?_
          exact k
        · show Zm E YX8_statement (d + 1) (si (si M 97 21 (3 : Int32)) 97 22 (gi M 107 ((gi M 97 20)).toNatClampNeg)) [(0, vr (some (97, 1, 0)))] 65 [vi (0 : Int32)] Q
          refine sX8_statement_65 (d := d) (si (si M 97 21 (3 : Int32)) 97 22 (gi M 107 ((gi M 97 20)).toNatClampNeg)) (0 : Int32) ?_
          exact k
      · show Zm E YX8_statement (d + 1) M [(0, vr (some (97, 1, 0)))] 65 [vi (0 : Int32)] Q
        refine sX8_statement_65 (d := d) M (0 : Int32) ?_
        exact k
    · refine jX8_isKeyword (d := d) M (18 : Int32) ?_
      refine zand k (fun h1859 k => ?_)
      refine zite k (fun h1860 k => ?_) (fun h1860 k => ?_)
      · refine zite k (fun h1861 k => ?_) (fun h1861 k => ?_)
        · show Zm E YX8_statement (d + 1) M [(0, vr (some (97, 1, 0)))] 50 [vi (1 : Int32)] Q
          refine sX8_statement_50 (d := d) M (1 : Int32) ?_
          refine zneg (show ¬ ((1 : Int32) = 0) from by decide) ?_
          refine zite k (fun h1862 k => ?_) (fun h1862 k => ?_)
          · refine jX8_fail (d := d) M (3 : Int32) ?_
            refine zite k (fun h1863 k => ?_) (fun h1863 k => ?_)
            · refine ⟨h1859, ?_⟩
              refine zite k (fun h1864 k => ?_) (fun h1864 k => ?_)
              · show Zm E YX8_statement (d + 1) (si (si M 97 21 (1 : Int32)) 97 22 (gi M 107 ((gi M 97 20)).toNatClampNeg)) [(0, vr (some (97, 1, 0)))] 65 [vi (0 : Int32)] Q
                refine sX8_statement_65 (d := d) (si (si M 97 21 (1 : Int32)) 97 22 (gi M 107 ((gi M 97 20)).toNatClampNeg)) (0 : Int32) ?_
                exact k
              · show Zm E YX8_statement (d + 1) (si (si M 97 21 (3 : Int32)) 97 22 (gi M 107 ((gi M 97 20)).toNatClampNeg)) [(0, vr (some (97, 1, 0)))] 65 [vi (0 : Int32)] Q
                refine sX8_statement_65 (d := d) (si (si M 97 21 (3 : Int32)) 97 22 (gi M 107 ((gi M 97 20)).toNatClampNeg)) (0 : Int32) ?_
                exact k
            · show Zm E YX8_statement (d + 1) M [(0, vr (some (97, 1, 0)))] 65 [vi (0 : Int32)] Q
              refine sX8_statement_65 (d := d) M (0 : Int32) ?_
              exact k
          · exact k
        · show Zm E YX8_statement (d + 1) M [(0, vr (some (97, 1, 0)))] 50 [vi (0 : Int32)] Q
          refine sX8_statement_50 (d := d) M (0 : Int32) ?_
          refine zpos (show (0 : Int32) = 0 from by decide) ?_
          exact k
      · show Zm E YX8_statement (d + 1) M [(0, vr (some (97, 1, 0)))] 50 [vi (0 : Int32)] Q
        refine sX8_statement_50 (d := d) M (0 : Int32) ?_
        refine zpos (show (0 : Int32) = 0 from by decide) ?_
        exact k
theorem iX8_statement_74 {E : zE} {d : Nat} {Q : zO → zM → Prop} (M : zM)  (k : if (gi M 97 21) ≤ 0 then (Zm E YX8_statementBody d M (zargs 0 [vr (some (97, 1, 0))]) 0 [] (zma E YX8_statement (d + 1) [(0, vr (some (97, 1, 0)))] 86 3 [] Q)) else (Q (.inl (some (vi (-1 : Int32)))) (si M 97 23 ((gi M 97 23) - (1 : Int32))))) : Zm E YX8_statement (d + 1) M [(0, vr (some (97, 1, 0)))] 74 [] Q := by
  refine sX8_statement_74 (d := d) M  ?_
  refine zite k (fun h1865 k => ?_) (fun h1865 k => ?_)
  · exact k
  · refine sX8_statement_89 (d := d) M (-1 : Int32) ?_
    refine sX8_close_0 (d := d) M  ?_
    show Zm E YX8_statement (d + 1) (si M 97 23 ((gi M 97 23) - (1 : Int32))) [(1, vi (-1 : Int32))] 94 [] Q
    refine sX8_statement_94 (d := d) (si M 97 23 ((gi M 97 23) - (1 : Int32))) (-1 : Int32) ?_
    exact k
theorem iX8_statement_89 {E : zE} {d : Nat} {Q : zO → zM → Prop} (M : zM) (s0 : Int32) (k : Q (.inl (some (vi s0))) (si M 97 23 ((gi M 97 23) - (1 : Int32)))) : Zm E YX8_statement (d + 1) M [(0, vr (some (97, 1, 0)))] 89 [vi s0] Q := by
  refine sX8_statement_89 (d := d) M s0 ?_
  refine sX8_close_0 (d := d) M  ?_
  show Zm E YX8_statement (d + 1) (si M 97 23 ((gi M 97 23) - (1 : Int32))) [(1, vi s0)] 94 [] Q
  refine sX8_statement_94 (d := d) (si M 97 23 ((gi M 97 23) - (1 : Int32))) s0 ?_
  exact k
theorem iX8_takeName_0 {E : zE} {d : Nat} {Q : zO → zM → Prop} (M : zM)  (k : if 0 < (gi M 97 21) then (if (gi M 97 21) = 0 then (vp_in (gi M 97 20) 4002 ∧ (if (gi M 103 ((gi M 97 20)).toNatClampNeg) = (6 : Int32) then (Q (.inl (some (vi (-1 : Int32)))) (si (si M 97 21 (1 : Int32)) 97 22 (gi M 107 ((gi M 97 20)).toNatClampNeg))) else (Q (.inl (some (vi (-1 : Int32)))) (si (si M 97 21 (2 : Int32)) 97 22 (gi M 107 ((gi M 97 20)).toNatClampNeg))))) else (Q (.inl (some (vi (-1 : Int32)))) M)) else (vp_in (gi M 97 20) 4002 ∧ (if (gi M 103 ((gi M 97 20)).toNatClampNeg) = (1 : Int32) then (Zm E YX8_nameAt d (si M 97 20 ((gi M 97 20) + (1 : Int32))) (zargs 0 [vr (some (97, 1, 0)), vi (((gi M 97 20) + (1 : Int32)) - (1 : Int32))]) 0 [] (zma E YX8_takeName (d + 1) [] 45 3 [] Q)) else (if (gi M 97 21) = 0 then (if (gi M 103 ((gi M 97 20)).toNatClampNeg) = (6 : Int32) then (Q (.inl (some (vi (-1 : Int32)))) (si (si M 97 21 (1 : Int32)) 97 22 (gi M 107 ((gi M 97 20)).toNatClampNeg))) else (Q (.inl (some (vi (-1 : Int32)))) (si (si M 97 21 (2 : Int32)) 97 22 (gi M 107 ((gi M 97 20)).toNatClampNeg)))) else (Q (.inl (some (vi (-1 : Int32)))) M))))) : Zm E YX8_takeName (d + 1) M [(0, vr (some (97, 1, 0)))] 0 [] Q := by
  refine sX8_takeName_0 (d := d) M  ?_
  refine zite k (fun h1870 k => ?_) (fun h1870 k => ?_)
  · refine jX8_fail (d := d) M (2 : Int32) ?_
    refine zite k (fun h1871 k => ?_) (fun h1871 k => ?_)
    · refine zand k (fun h1872 k => ?_)
      refine zite k (fun h1873 k => ?_) (fun h1873 k => ?_)
      · show Zm E YX8_takeName (d + 1) (si (si M 97 21 (1 : Int32)) 97 22 (gi M 107 ((gi M 97 20)).toNatClampNeg)) [] 25 [vi (0 : Int32)] Q
        refine sX8_takeName_25 (d := d) (si (si M 97 21 (1 : Int32)) 97 22 (gi M 107 ((gi M 97 20)).toNatClampNeg)) (0 : Int32) ?_
        exact k
      · show Zm E YX8_takeName (d + 1) (si (si M 97 21 (2 : Int32)) 97 22 (gi M 107 ((gi M 97 20)).toNatClampNeg)) [] 25 [vi (0 : Int32)] Q
        refine sX8_takeName_25 (d := d) (si (si M 97 21 (2 : Int32)) 97 22 (gi M 107 ((gi M 97 20)).toNatClampNeg)) (0 : Int32) ?_
        exact k
    · show Zm E YX8_takeName (d + 1) M [] 25 [vi (0 : Int32)] Q
      refine sX8_takeName_25 (d := d) M (0 : Int32) ?_
      exact k
  · refine zand k (fun h1874 k => ?_)
    refine zite k (fun h1875 k => ?_) (fun h1875 k => ?_)
    · exact k
    · refine jX8_fail (d := d) M (2 : Int32) ?_
      refine zite k (fun h1876 k => ?_) (fun h1876 k => ?_)
      · refine ⟨h1874, ?_⟩
        refine zite k (fun h1877 k => ?_) (fun h1877 k => ?_)
        · show Zm E YX8_takeName (d + 1) (si (si M 97 21 (1 : Int32)) 97 22 (gi M 107 ((gi M 97 20)).toNatClampNeg)) [] 25 [vi (0 : Int32)] Q
          refine sX8_takeName_25 (d := d) (si (si M 97 21 (1 : Int32)) 97 22 (gi M 107 ((gi M 97 20)).toNatClampNeg)) (0 : Int32) ?_
          exact k
        · show Zm E YX8_takeName (d + 1) (si (si M 97 21 (2 : Int32)) 97 22 (gi M 107 ((gi M 97 20)).toNatClampNeg)) [] 25 [vi (0 : Int32)] Q
          refine sX8_takeName_25 (d := d) (si (si M 97 21 (2 : Int32)) 97 22 (gi M 107 ((gi M 97 20)).toNatClampNeg)) (0 : Int32) ?_
          exact k
      · show Zm E YX8_takeName (d + 1) M [] 25 [vi (0 : Int32)] Q
        refine sX8_takeName_25 (d := d) M (0 : Int32) ?_
        exact k
theorem iX8_add_0 {E : zE} {d : Nat} {Q : zO → zM → Prop} (M : zM) (l1 : Int32) (k : vp_in ((gi M 97 31) - (1 : Int32)) 200 ∧ (if (gi M 112 (((gi M 97 31) - (1 : Int32))).toNatClampNeg) = (-1 : Int32) then (Q (.inl none) (si (si M 112 (((gi M 97 31) - (1 : Int32))).toNatClampNeg l1) 113 (((gi M 97 31) - (1 : Int32))).toNatClampNeg l1)) else (vp_in (gi M 113 (((gi M 97 31) - (1 : Int32))).toNatClampNeg) 12000 ∧ (Q (.inl none) (si (si M 110 ((gi M 113 (((gi M 97 31) - (1 : Int32))).toNatClampNeg)).toNatClampNeg l1) 113 (((gi M 97 31) - (1 : Int32))).toNatClampNeg l1))))) : Zm E YX8_add d M [(0, vr (some (97, 1, 0))), (1, vi l1)] 0 [] Q := by
  refine sX8_add_0 (d := d) M l1 ?_
  refine zand k (fun h1878 k => ?_)
  refine zite k (fun h1879 k => ?_) (fun h1879 k => ?_)
  · refine ⟨h1878, ?_⟩
    refine ⟨h1878, ?_⟩
    exact k
  · refine ⟨h1878, ?_⟩
    refine zand k (fun h1880 k => ?_)
    refine ⟨h1878, ?_⟩
    exact k
theorem jX8_isTarget {E : zE} {d : Nat} {Q : zO → zM → Prop} (M : zM) (l1 : Int32) (k : if l1 = (-1 : Int32) then (Q (.inl (some (vi (0 : Int32)))) M) else (vp_in l1 12000 ∧ (if (gi M 111 (l1).toNatClampNeg) = 0 then (if (gi M 108 (l1).toNatClampNeg) = (2 : Int32) then (Q (.inl (some (vi (1 : Int32)))) M) else (if (gi M 108 (l1).toNatClampNeg) = (7 : Int32) then (Q (.inl (some (vi (1 : Int32)))) M) else (Q (.inl (some (vi (0 : Int32)))) M))) else (Q (.inl (some (vi (0 : Int32)))) M)))) : Zm E YX8_isTarget d M [(0, vr (some (97, 1, 0))), (1, vi l1)] 0 [] Q := by
  refine sX8_isTarget_0 (d := d) M l1 ?_
  refine zite k (fun h1934 k => ?_) (fun h1934 k => ?_)
  · exact k
  · refine zand k (fun h1935 k => ?_)
    refine zite k (fun h1936 k => ?_) (fun h1936 k => ?_)
    · refine ⟨h1935, ?_⟩
      refine zite k (fun h1937 k => ?_) (fun h1937 k => ?_)
      · exact k
      · refine ⟨h1935, ?_⟩
        exact k
    · exact k
theorem iX8_assigned_19 {E : zE} {d : Nat} {Q : zO → zM → Prop} (M : zM) (l1 : Int32) (l2 : Int32) (s0 : Int32) (k : if s0 = (-1 : Int32) then (Q (.inl (some (vi l2))) M) else (if l2 = (-1 : Int32) then (if (gi M 97 21) = 0 then (vp_in (gi M 97 20) 4002 ∧ (if (gi M 103 ((gi M 97 20)).toNatClampNeg) = (6 : Int32) then (Q (.inl (some (vi (-1 : Int32)))) (si (si M 97 21 (1 : Int32)) 97 22 (gi M 107 ((gi M 97 20)).toNatClampNeg))) else (Q (.inl (some (vi (-1 : Int32)))) (si (si M 97 21 (3 : Int32)) 97 22 (gi M 107 ((gi M 97 20)).toNatClampNeg))))) else (Q (.inl (some (vi (-1 : Int32)))) M)) else (vp_in l2 12000 ∧ (if (gi M 111 (l2).toNatClampNeg) = 0 then (if (gi M 108 (l2).toNatClampNeg) = (2 : Int32) then (if s0 = (99 : Int32) then (Zm E YX8_opened d (si M 97 20 ((gi M 97 20) + (1 : Int32))) (zargs 0 [vr (some (97, 1, 0)), vi l1]) 0 [] (zma E YX8_assigned (d + 1) [] 70 3 [vi l2, vi (-1 : Int32), vi (15 : Int32), vr (some (97, 1, 0))] Q)) else (Zm E YX8_opened d (si M 97 20 ((gi M 97 20) + (1 : Int32))) (zargs 0 [vr (some (97, 1, 0)), vi l1]) 0 [] (zma E YX8_assigned (d + 1) [] 70 3 [vi l2, vi s0, vi (15 : Int32), vr (some (97, 1, 0))] Q))) else (if (gi M 108 (l2).toNatClampNeg) = (7 : Int32) then (if s0 = (99 : Int32) then (Zm E YX8_opened d (si M 97 20 ((gi M 97 20) + (1 : Int32))) (zargs 0 [vr (some (97, 1, 0)), vi l1]) 0 [] (zma E YX8_assigned (d + 1) [] 70 3 [vi l2, vi (-1 : Int32), vi (15 : Int32), vr (some (97, 1, 0))] Q)) else (Zm E YX8_opened d (si M 97 20 ((gi M 97 20) + (1 : Int32))) (zargs 0 [vr (some (97, 1, 0)), vi l1]) 0 [] (zma E YX8_assigned (d + 1) [] 70 3 [vi l2, vi s0, vi (15 : Int32), vr (some (97, 1, 0))] Q))) else (if (gi M 97 21) = 0 then (vp_in (gi M 97 20) 4002 ∧ (if (gi M 103 ((gi M 97 20)).toNatClampNeg) = (6 : Int32) then (Q (.inl (some (vi (-1 : Int32)))) (si (si M 97 21 (1 : Int32)) 97 22 (gi M 107 ((gi M 97 20)).toNatClampNeg))) else (Q (.inl (some (vi (-1 : Int32)))) (si (si M 97 21 (3 : Int32)) 97 22 (gi M 107 ((gi M 97 20)).toNatClampNeg))))) else (Q (.inl (some (vi (-1 : Int32)))) M)))) else (if (gi M 97 21) = 0 then (vp_in (gi M 97 20) 4002 ∧ (if (gi M 103 ((gi M 97 20)).toNatClampNeg) = (6 : Int32) then (Q (.inl (some (vi (-1 : Int32)))) (si (si M 97 21 (1 : Int32)) 97 22 (gi M 107 ((gi M 97 20)).toNatClampNeg))) else (Q (.inl (some (vi (-1 : Int32)))) (si (si M 97 21 (3 : Int32)) 97 22 (gi M 107 ((gi M 97 20)).toNatClampNeg))))) else (Q (.inl (some (vi (-1 : Int32)))) M)))))) : Zm E YX8_assigned (d + 1) M [(0, vr (some (97, 1, 0))), (1, vi l1), (2, vi l2)] 19 [vi s0] Q := by
  refine sX8_assigned_19 (d := d) M l1 l2 s0 ?_
  refine zite k (fun h1933 k => ?_) (fun h1933 k => ?_)
  · exact k
  · refine jX8_isTarget (d := d) M l2 ?_
    refine zite k (fun h1939 k => ?_) (fun h1939 k => ?_)
    · show Zm E YX8_assigned (d + 1) M [(0, vr (some (97, 1, 0))), (1, vi l1), (2, vi l2), (3, vi s0)] 32 [vi (0 : Int32)] Q
      refine sX8_assigned_32 (d := d) M l1 l2 s0 (0 : Int32) ?_
      refine zpos (show (0 : Int32) = 0 from by decide) ?_
      refine jX8_fail (d := d) M (3 : Int32) ?_
      refine zite k (fun h1940 k => ?_) (fun h1940 k => ?_)
      · refine zand k (fun h1941 k => ?_)
        refine zite k (fun h1942 k => ?_) (fun h1942 k => ?_)
        · show Zm E YX8_assigned (d + 1) (si (si M 97 21 (1 : Int32)) 97 22 (gi M 107 ((gi M 97 20)).toNatClampNeg)) [] 40 [vi (0 : Int32)] Q
          refine sX8_assigned_40 (d := d) (si (si M 97 21 (1 : Int32)) 97 22 (gi M 107 ((gi M 97 20)).toNatClampNeg)) (0 : Int32) ?_
          exact k
        · show Zm E YX8_assigned (d + 1) (si (si M 97 21 (3 : Int32)) 97 22 (gi M 107 ((gi M 97 20)).toNatClampNeg)) [] 40 [vi (0 : Int32)] Q
          refine sX8_assigned_40 (d := d) (si (si M 97 21 (3 : Int32)) 97 22 (gi M 107 ((gi M 97 20)).toNatClampNeg)) (0 : Int32) ?_
          exact k
      · show Zm E YX8_assigned (d + 1) M [] 40 [vi (0 : Int32)] Q
        refine sX8_assigned_40 (d := d) M (0 : Int32) ?_
        exact k
    · refine zand k (fun h1943 k => ?_)
      refine zite k (fun h1944 k => ?_) (fun h1944 k => ?_)
      · refine zite k (fun h1945 k => ?_) (fun h1945 k => ?_)
        · show Zm E YX8_assigned (d + 1) M [(0, vr (some (97, 1, 0))), (1, vi l1), (2, vi l2), (3, vi s0)] 32 [vi (1 : Int32)] Q
          refine sX8_assigned_32 (d := d) M l1 l2 s0 (1 : Int32) ?_
          refine zneg (show ¬ ((1 : Int32) = 0) from by decide) ?_
          exact k
        · refine zite k (fun h1947 k => ?_) (fun h1947 k => ?_)
          · show Zm E YX8_assigned (d + 1) M [(0, vr (some (97, 1, 0))), (1, vi l1), (2, vi l2), (3, vi s0)] 32 [vi (1 : Int32)] Q
            refine sX8_assigned_32 (d := d) M l1 l2 s0 (1 : Int32) ?_
            refine zneg (show ¬ ((1 : Int32) = 0) from by decide) ?_
            exact k
          · show Zm E YX8_assigned (d + 1) M [(0, vr (some (97, 1, 0))), (1, vi l1), (2, vi l2), (3, vi s0)] 32 [vi (0 : Int32)] Q
            refine sX8_assigned_32 (d := d) M l1 l2 s0 (0 : Int32) ?_
            refine zpos (show (0 : Int32) = 0 from by decide) ?_
            refine jX8_fail (d := d) M (3 : Int32) ?_
            refine zite k (fun h1949 k => ?_) (fun h1949 k => ?_)
            · refine zand k (fun h1950 k => ?_)
              refine zite k (fun h1951 k => ?_) (fun h1951 k => ?_)
              · show Zm E YX8_assigned (d + 1) (si (si M 97 21 (1 : Int32)) 97 22 (gi M 107 ((gi M 97 20)).toNatClampNeg)) [] 40 [vi (0 : Int32)] Q
                refine sX8_assigned_40 (d := d) (si (si M 97 21 (1 : Int32)) 97 22 (gi M 107 ((gi M 97 20)).toNatClampNeg)) (0 : Int32) ?_
                exact k
              · show Zm E YX8_assigned (d + 1) (si (si M 97 21 (3 : Int32)) 97 22 (gi M 107 ((gi M 97 20)).toNatClampNeg)) [] 40 [vi (0 : Int32)] Q
                refine sX8_assigned_40 (d := d) (si (si M 97 21 (3 : Int32)) 97 22 (gi M 107 ((gi M 97 20)).toNatClampNeg)) (0 : Int32) ?_
                exact k
            · show Zm E YX8_assigned (d + 1) M [] 40 [vi (0 : Int32)] Q
              refine sX8_assigned_40 (d := d) M (0 : Int32) ?_
              exact k
      · show Zm E YX8_assigned (d + 1) M [(0, vr (some (97, 1, 0))), (1, vi l1), (2, vi l2), (3, vi s0)] 32 [vi (0 : Int32)] Q
        refine sX8_assigned_32 (d := d) M l1 l2 s0 (0 : Int32) ?_
        refine zpos (show (0 : Int32) = 0 from by decide) ?_
        refine jX8_fail (d := d) M (3 : Int32) ?_
        refine zite k (fun h1952 k => ?_) (fun h1952 k => ?_)
        · refine zand k (fun h1953 k => ?_)
          refine zite k (fun h1954 k => ?_) (fun h1954 k => ?_)
          · show Zm E YX8_assigned (d + 1) (si (si M 97 21 (1 : Int32)) 97 22 (gi M 107 ((gi M 97 20)).toNatClampNeg)) [] 40 [vi (0 : Int32)] Q
            refine sX8_assigned_40 (d := d) (si (si M 97 21 (1 : Int32)) 97 22 (gi M 107 ((gi M 97 20)).toNatClampNeg)) (0 : Int32) ?_
            exact k
          · show Zm E YX8_assigned (d + 1) (si (si M 97 21 (3 : Int32)) 97 22 (gi M 107 ((gi M 97 20)).toNatClampNeg)) [] 40 [vi (0 : Int32)] Q
            refine sX8_assigned_40 (d := d) (si (si M 97 21 (3 : Int32)) 97 22 (gi M 107 ((gi M 97 20)).toNatClampNeg)) (0 : Int32) ?_
            exact k
        · show Zm E YX8_assigned (d + 1) M [] 40 [vi (0 : Int32)] Q
          refine sX8_assigned_40 (d := d) M (0 : Int32) ?_
          exact k
theorem iX8_binary_26 {E : zE} {d : Nat} {Q : zO → zM → Prop} (M : zM) (l1 : Int32) (l2 : Int32) (l3 : Int32) (s0 : Int32) (k : if (2 : Int32) ≤ s0 then (Zm E YX8_binaryOf d M (zargs 0 [vr (some (97, 1, 0))]) 0 [] (zma E YX8_binary (d + 1) [(0, vr (some (97, 1, 0))), (1, vi l1), (2, vi l2), (3, vi l3), (4, vi s0)] 39 3 [] Q)) else (Zm E YX8_binary d (si M 97 20 ((gi M 97 20) + (1 : Int32))) (zargs 0 [vr (some (97, 1, 0)), vi (s0 + (1 : Int32)), vi l2]) 0 [] (zma E YX8_binary (d + 1) [(0, vr (some (97, 1, 0))), (1, vi l1), (2, vi l2), (3, vi l3), (4, vi s0), (5, vi (0 : Int32))] 60 3 [] Q))) : Zm E YX8_binary (d + 1) M [(0, vr (some (97, 1, 0))), (1, vi l1), (2, vi l2), (3, vi l3)] 26 [vi s0] Q := by
  refine sX8_binary_26 (d := d) M l1 l2 l3 s0 ?_
  refine zite k (fun h2003 k => ?_) (fun h2003 k => ?_)
  · exact k
  · refine sX8_binary_42 (d := d) M l1 l2 l3 s0 (0 : Int32) ?_
    exact k
theorem iX8_binary_80 {E : zE} {d : Nat} {Q : zO → zM → Prop} (M : zM) (l1 : Int32) (l2 : Int32) (s0 : Int32) (k : Zm E YX8_binary (d + 1) M [(0, vr (some (97, 1, 0))), (1, vi l1), (2, vi l2), (3, vi s0)] 5 [] Q) : Zm E YX8_binary (d + 1) M [(0, vr (some (97, 1, 0))), (1, vi l1), (2, vi l2)] 80 [vi s0] Q := by
  refine sX8_binary_80 (d := d) M l1 l2 s0 ?_
  refine sX8_binary_113 (d := d) M l1 l2 s0 ?_
  exact k
theorem iX8_binary_99 {E : zE} {d : Nat} {Q : zO → zM → Prop} (M : zM) (l1 : Int32) (l2 : Int32) (s0 : Int32) (k : Zm E YX8_binary (d + 1) M [(0, vr (some (97, 1, 0))), (1, vi l1), (2, vi l2), (3, vi s0)] 5 [] Q) : Zm E YX8_binary (d + 1) M [(0, vr (some (97, 1, 0))), (1, vi l1), (2, vi l2)] 99 [vi s0] Q := by
  refine sX8_binary_99 (d := d) M l1 l2 s0 ?_
  refine sX8_binary_113 (d := d) M l1 l2 s0 ?_
  exact k
theorem iX8_binaryOf_0 {E : zE} {d : Nat} {Q : zO → zM → Prop} (M : zM)  (k : vp_in (gi M 97 20) 4002 ∧ (if (gi M 103 ((gi M 97 20)).toNatClampNeg) = (2 : Int32) then (if (gi M 104 ((gi M 97 20)).toNatClampNeg) = (13 : Int32) then (Q (.inl (some (vi (19 : Int32)))) M) else (Q (.inl (some (vi (20 : Int32)))) M)) else (if (gi M 104 ((gi M 97 20)).toNatClampNeg) = 3 then (Q (.inl (some (vi (7 : Int32)))) M) else (if (gi M 104 ((gi M 97 20)).toNatClampNeg) = 4 then (Q (.inl (some (vi (13 : Int32)))) M) else (if (gi M 104 ((gi M 97 20)).toNatClampNeg) = 5 then (Q (.inl (some (vi (14 : Int32)))) M) else (if (gi M 104 ((gi M 97 20)).toNatClampNeg) = 6 then (Q (.inl (some (vi (17 : Int32)))) M) else (if (gi M 104 ((gi M 97 20)).toNatClampNeg) = 7 then (Q (.inl (some (vi (18 : Int32)))) M) else (if (gi M 104 ((gi M 97 20)).toNatClampNeg) = 8 then (Q (.inl (some (vi (11 : Int32)))) M) else (if (gi M 104 ((gi M 97 20)).toNatClampNeg) = 9 then (Q (.inl (some (vi (12 : Int32)))) M) else (if (gi M 104 ((gi M 97 20)).toNatClampNeg) = 10 then (Q (.inl (some (vi (18 : Int32)))) M) else (if (gi M 104 ((gi M 97 20)).toNatClampNeg) = 11 then (Q (.inl (some (vi (18 : Int32)))) M) else (if (gi M 104 ((gi M 97 20)).toNatClampNeg) = 12 then (Q (.inl (some (vi (5 : Int32)))) M) else (if (gi M 104 ((gi M 97 20)).toNatClampNeg) = 13 then (Q (.inl (some (vi (6 : Int32)))) M) else (if (gi M 104 ((gi M 97 20)).toNatClampNeg) = 14 then (Q (.inl (some (vi (18 : Int32)))) M) else (if (gi M 104 ((gi M 97 20)).toNatClampNeg) = 15 then (Q (.inl (some (vi (18 : Int32)))) M) else (if (gi M 104 ((gi M 97 20)).toNatClampNeg) = 16 then (Q (.inl (some (vi (18 : Int32)))) M) else (if (gi M 104 ((gi M 97 20)).toNatClampNeg) = 17 then (Q (.inl (some (vi (18 : Int32)))) M) else (if (gi M 104 ((gi M 97 20)).toNatClampNeg) = 18 then (Q (.inl (some (vi (18 : Int32)))) M) else (if (gi M 104 ((gi M 97 20)).toNatClampNeg) = 19 then (Q (.inl (some (vi (18 : Int32)))) M) else (if (gi M 104 ((gi M 97 20)).toNatClampNeg) = 20 then (Q (.inl (some (vi (18 : Int32)))) M) else (if (gi M 104 ((gi M 97 20)).toNatClampNeg) = 21 then (Q (.inl (some (vi (18 : Int32)))) M) else (if (gi M 104 ((gi M 97 20)).toNatClampNeg) = 22 then (Q (.inl (some (vi (18 : Int32)))) M) else (if (gi M 104 ((gi M 97 20)).toNatClampNeg) = 23 then (Q (.inl (some (vi (18 : Int32)))) M) else (if (gi M 104 ((gi M 97 20)).toNatClampNeg) = 24 then (Q (.inl (some (vi (18 : Int32)))) M) else (if (gi M 104 ((gi M 97 20)).toNatClampNeg) = 25 then (Q (.inl (some (vi (18 : Int32)))) M) else (if (gi M 104 ((gi M 97 20)).toNatClampNeg) = 26 then (Q (.inl (some (vi (18 : Int32)))) M) else (if (gi M 104 ((gi M 97 20)).toNatClampNeg) = 27 then (Q (.inl (some (vi (18 : Int32)))) M) else (if (gi M 104 ((gi M 97 20)).toNatClampNeg) = 28 then (Q (.inl (some (vi (18 : Int32)))) M) else (if (gi M 104 ((gi M 97 20)).toNatClampNeg) = 29 then (Q (.inl (some (vi (18 : Int32)))) M) else (if (gi M 104 ((gi M 97 20)).toNatClampNeg) = 30 then (Q (.inl (some (vi (18 : Int32)))) M) else (if (gi M 104 ((gi M 97 20)).toNatClampNeg) = 31 then (Q (.inl (some (vi (18 : Int32)))) M) else (if (gi M 104 ((gi M 97 20)).toNatClampNeg) = 32 then (Q (.inl (some (vi (18 : Int32)))) M) else (if (gi M 104 ((gi M 97 20)).toNatClampNeg) = 33 then (Q (.inl (some (vi (15 : Int32)))) M) else (if (gi M 104 ((gi M 97 20)).toNatClampNeg) = 34 then (Q (.inl (some (vi (16 : Int32)))) M) else (if (gi M 104 ((gi M 97 20)).toNatClampNeg) = 35 then (Q (.inl (some (vi (0 : Int32)))) M) else (if (gi M 104 ((gi M 97 20)).toNatClampNeg) = 36 then (Q (.inl (some (vi (1 : Int32)))) M) else (if (gi M 104 ((gi M 97 20)).toNatClampNeg) = 37 then (Q (.inl (some (vi (2 : Int32)))) M) else (if (gi M 104 ((gi M 97 20)).toNatClampNeg) = 38 then (Q (.inl (some (vi (3 : Int32)))) M) else (if (gi M 104 ((gi M 97 20)).toNatClampNeg) = 39 then (Q (.inl (some (vi (4 : Int32)))) M) else (if (gi M 104 ((gi M 97 20)).toNatClampNeg) = 40 then (Q (.inl (some (vi (8 : Int32)))) M) else (if (gi M 104 ((gi M 97 20)).toNatClampNeg) = 41 then (Q (.inl (some (vi (9 : Int32)))) M) else (if (gi M 104 ((gi M 97 20)).toNatClampNeg) = 42 then (Q (.inl (some (vi (10 : Int32)))) M) else (Q (.inl (some (vi (18 : Int32)))) M))))))))))))))))))))))))))))))))))))))))))) : Zm E YX8_binaryOf d M [(0, vr (some (97, 1, 0)))] 0 [] Q := by
  refine sX8_binaryOf_0 (d := d) M  ?_
  refine zand k (fun h2049 k => ?_)
  refine zite k (fun h2050 k => ?_) (fun h2050 k => ?_)
  · refine ⟨h2049, ?_⟩
    exact k
  · refine ⟨h2049, ?_⟩
    exact k
theorem iX8_bindsOf_0 {E : zE} {d : Nat} {Q : zO → zM → Prop} (M : zM) (l1 : Int32) (k : vp_in (gi M 97 20) 4002 ∧ (if (gi M 103 ((gi M 97 20)).toNatClampNeg) = (2 : Int32) then (if (gi M 104 ((gi M 97 20)).toNatClampNeg) = (14 : Int32) then (Q (.inl (some (vi (6 : Int32)))) M) else (if (gi M 104 ((gi M 97 20)).toNatClampNeg) = (13 : Int32) then (if l1 = 0 then (Q (.inl (some (vi (-1 : Int32)))) M) else (Q (.inl (some (vi (6 : Int32)))) M)) else (Q (.inl (some (vi (-1 : Int32)))) M))) else (if (gi M 103 ((gi M 97 20)).toNatClampNeg) = (5 : Int32) then (if (gi M 104 ((gi M 97 20)).toNatClampNeg) = 3 then (Q (.inl (some (vi (7 : Int32)))) M) else (if (gi M 104 ((gi M 97 20)).toNatClampNeg) = 4 then (Q (.inl (some (vi (5 : Int32)))) M) else (if (gi M 104 ((gi M 97 20)).toNatClampNeg) = 5 then (Q (.inl (some (vi (5 : Int32)))) M) else (if (gi M 104 ((gi M 97 20)).toNatClampNeg) = 6 then (Q (.inl (some (vi (6 : Int32)))) M) else (if (gi M 104 ((gi M 97 20)).toNatClampNeg) = 7 then (Q (.inl (some (vi (6 : Int32)))) M) else (if (gi M 104 ((gi M 97 20)).toNatClampNeg) = 8 then (Q (.inl (some (vi (5 : Int32)))) M) else (if (gi M 104 ((gi M 97 20)).toNatClampNeg) = 9 then (Q (.inl (some (vi (5 : Int32)))) M) else (if (gi M 104 ((gi M 97 20)).toNatClampNeg) = 10 then (Q (.inl (some (vi (-1 : Int32)))) M) else (if (gi M 104 ((gi M 97 20)).toNatClampNeg) = 11 then (Q (.inl (some (vi (-1 : Int32)))) M) else (if (gi M 104 ((gi M 97 20)).toNatClampNeg) = 12 then (Q (.inl (some (vi (7 : Int32)))) M) else (if (gi M 104 ((gi M 97 20)).toNatClampNeg) = 13 then (Q (.inl (some (vi (7 : Int32)))) M) else (if (gi M 104 ((gi M 97 20)).toNatClampNeg) = 14 then (Q (.inl (some (vi (1 : Int32)))) M) else (if (gi M 104 ((gi M 97 20)).toNatClampNeg) = 15 then (Q (.inl (some (vi (0 : Int32)))) M) else (if (gi M 104 ((gi M 97 20)).toNatClampNeg) = 16 then (Q (.inl (some (vi (-1 : Int32)))) M) else (if (gi M 104 ((gi M 97 20)).toNatClampNeg) = 17 then (Q (.inl (some (vi (-1 : Int32)))) M) else (if (gi M 104 ((gi M 97 20)).toNatClampNeg) = 18 then (Q (.inl (some (vi (-1 : Int32)))) M) else (if (gi M 104 ((gi M 97 20)).toNatClampNeg) = 19 then (Q (.inl (some (vi (-1 : Int32)))) M) else (if (gi M 104 ((gi M 97 20)).toNatClampNeg) = 20 then (Q (.inl (some (vi (-1 : Int32)))) M) else (if (gi M 104 ((gi M 97 20)).toNatClampNeg) = 21 then (Q (.inl (some (vi (-1 : Int32)))) M) else (if (gi M 104 ((gi M 97 20)).toNatClampNeg) = 22 then (Q (.inl (some (vi (-1 : Int32)))) M) else (if (gi M 104 ((gi M 97 20)).toNatClampNeg) = 23 then (Q (.inl (some (vi (-1 : Int32)))) M) else (if (gi M 104 ((gi M 97 20)).toNatClampNeg) = 24 then (Q (.inl (some (vi (-1 : Int32)))) M) else (if (gi M 104 ((gi M 97 20)).toNatClampNeg) = 25 then (Q (.inl (some (vi (-1 : Int32)))) M) else (if (gi M 104 ((gi M 97 20)).toNatClampNeg) = 26 then (Q (.inl (some (vi (-1 : Int32)))) M) else (if (gi M 104 ((gi M 97 20)).toNatClampNeg) = 27 then (Q (.inl (some (vi (-1 : Int32)))) M) else (if (gi M 104 ((gi M 97 20)).toNatClampNeg) = 28 then (Q (.inl (some (vi (-1 : Int32)))) M) else (if (gi M 104 ((gi M 97 20)).toNatClampNeg) = 29 then (Q (.inl (some (vi (-1 : Int32)))) M) else (if (gi M 104 ((gi M 97 20)).toNatClampNeg) = 30 then (Q (.inl (some (vi (-1 : Int32)))) M) else (if (gi M 104 ((gi M 97 20)).toNatClampNeg) = 31 then (Q (.inl (some (vi (-1 : Int32)))) M) else (if (gi M 104 ((gi M 97 20)).toNatClampNeg) = 32 then (Q (.inl (some (vi (-1 : Int32)))) M) else (if (gi M 104 ((gi M 97 20)).toNatClampNeg) = 33 then (Q (.inl (some (vi (6 : Int32)))) M) else (if (gi M 104 ((gi M 97 20)).toNatClampNeg) = 34 then (Q (.inl (some (vi (6 : Int32)))) M) else (if (gi M 104 ((gi M 97 20)).toNatClampNeg) = 35 then (Q (.inl (some (vi (8 : Int32)))) M) else (if (gi M 104 ((gi M 97 20)).toNatClampNeg) = 36 then (Q (.inl (some (vi (8 : Int32)))) M) else (if (gi M 104 ((gi M 97 20)).toNatClampNeg) = 37 then (Q (.inl (some (vi (9 : Int32)))) M) else (if (gi M 104 ((gi M 97 20)).toNatClampNeg) = 38 then (Q (.inl (some (vi (9 : Int32)))) M) else (if (gi M 104 ((gi M 97 20)).toNatClampNeg) = 39 then (Q (.inl (some (vi (9 : Int32)))) M) else (if (gi M 104 ((gi M 97 20)).toNatClampNeg) = 40 then (Q (.inl (some (vi (4 : Int32)))) M) else (if (gi M 104 ((gi M 97 20)).toNatClampNeg) = 41 then (Q (.inl (some (vi (2 : Int32)))) M) else (if (gi M 104 ((gi M 97 20)).toNatClampNeg) = 42 then (Q (.inl (some (vi (3 : Int32)))) M) else (Q (.inl (some (vi (-1 : Int32)))) M))))))))))))))))))))))))))))))))))))))))) else (Q (.inl (some (vi (-1 : Int32)))) M)))) : Zm E YX8_bindsOf d M [(0, vr (some (97, 1, 0))), (1, vi l1)] 0 [] Q := by
  refine sX8_bindsOf_0 (d := d) M l1 ?_
  refine zand k (fun h2092 k => ?_)
  refine zite k (fun h2093 k => ?_) (fun h2093 k => ?_)
  · refine ⟨h2092, ?_⟩
    refine zite k (fun h2094 k => ?_) (fun h2094 k => ?_)
    · exact k
    · refine ⟨h2092, ?_⟩
      exact k
  · refine ⟨h2092, ?_⟩
    refine zite k (fun h2097 k => ?_) (fun h2097 k => ?_)
    · refine ⟨h2092, ?_⟩
      exact k
    · exact k
theorem iX8_block_0 {E : zE} {d : Nat} {Q : zO → zM → Prop} (M : zM)  (k : vp_in (gi M 97 31) 200 ∧ (Zm E YX8_must d (si (si M 112 ((gi M 97 31)).toNatClampNeg (-1 : Int32)) 97 31 ((gi M 97 31) + (1 : Int32))) (zargs 0 [vr (some (97, 1, 0)), vi (24 : Int32)]) 0 [] (zma E YX8_block (d + 1) [(0, vr (some (97, 1, 0)))] 7 3 [] Q))) : Zm E YX8_block (d + 1) M [(0, vr (some (97, 1, 0)))] 0 [] Q := by
  refine sX8_block_0 (d := d) M  ?_
  refine sX8_beginList_0 (d := d) M  ?_
  refine zand k (fun h2138 k => ?_)
  show Zm E YX8_block (d + 1) (si (si M 112 ((gi M 97 31)).toNatClampNeg (-1 : Int32)) 97 31 ((gi M 97 31) + (1 : Int32))) [(0, vr (some (97, 1, 0)))] 4 [] Q
  refine sX8_block_4 (d := d) (si (si M 112 ((gi M 97 31)).toNatClampNeg (-1 : Int32)) 97 31 ((gi M 97 31) + (1 : Int32)))  ?_
  exact k
theorem iX8_block_11 {E : zE} {d : Nat} {Q : zO → zM → Prop} (M : zM)  (k : if (gi M 97 21) = 0 then (vp_in (gi M 97 20) 4002 ∧ (if (gi M 103 ((gi M 97 20)).toNatClampNeg) = (5 : Int32) then (if (gi M 104 ((gi M 97 20)).toNatClampNeg) = (25 : Int32) then (Zm E YX8_must d M (zargs 0 [vr (some (97, 1, 0)), vi (25 : Int32)]) 0 [] (zma E YX8_block (d + 1) [(0, vr (some (97, 1, 0)))] 41 3 [] Q)) else (Zm E YX8_statement d M (zargs 0 [vr (some (97, 1, 0))]) 0 [] (zma E YX8_block (d + 1) [(0, vr (some (97, 1, 0)))] 29 3 [vr (some (97, 1, 0))] Q))) else (Zm E YX8_statement d M (zargs 0 [vr (some (97, 1, 0))]) 0 [] (zma E YX8_block (d + 1) [(0, vr (some (97, 1, 0)))] 29 3 [vr (some (97, 1, 0))] Q)))) else (Zm E YX8_must d M (zargs 0 [vr (some (97, 1, 0)), vi (25 : Int32)]) 0 [] (zma E YX8_block (d + 1) [(0, vr (some (97, 1, 0)))] 41 3 [] Q))) : Zm E YX8_block (d + 1) M [(0, vr (some (97, 1, 0)))] 11 [] Q := by
  refine sX8_block_11 (d := d) M  ?_
  refine zite k (fun h2139 k => ?_) (fun h2139 k => ?_)
  · refine jX8_isSign (d := d) M (25 : Int32) ?_
    refine zand k (fun h2140 k => ?_)
    refine zite k (fun h2141 k => ?_) (fun h2141 k => ?_)
    · refine zite k (fun h2142 k => ?_) (fun h2142 k => ?_)
      · show Zm E YX8_block (d + 1) M [(0, vr (some (97, 1, 0)))] 24 [vi (1 : Int32)] Q
        refine sX8_block_24 (d := d) M (1 : Int32) ?_
        refine zneg (show ¬ ((1 : Int32) = 0) from by decide) ?_
        exact k
      · show Zm E YX8_block (d + 1) M [(0, vr (some (97, 1, 0)))] 24 [vi (0 : Int32)] Q
        refine sX8_block_24 (d := d) M (0 : Int32) ?_
        refine zpos (show (0 : Int32) = 0 from by decide) ?_
        exact k
    · show Zm E YX8_block (d + 1) M [(0, vr (some (97, 1, 0)))] 24 [vi (0 : Int32)] Q
      refine sX8_block_24 (d := d) M (0 : Int32) ?_
      refine zpos (show (0 : Int32) = 0 from by decide) ?_
      exact k
  · exact k
theorem iX8_block_44 {E : zE} {d : Nat} {Q : zO → zM → Prop} (M : zM) (s0 : Int32) (k : vp_in ((gi M 97 31) - (1 : Int32)) 200 ∧ (Q (.inl (some (vi (gi M 112 (((gi M 97 31) - (1 : Int32))).toNatClampNeg)))) (si M 97 31 ((gi M 97 31) - (1 : Int32))))) : Zm E YX8_block (d + 1) M [(0, vr (some (97, 1, 0)))] 44 [vi s0] Q := by
  refine sX8_block_44 (d := d) M s0 ?_
  refine sX8_ended_0 (d := d) M  ?_
  refine zand k (fun h2143 k => ?_)
  show Zm E YX8_block (d + 1) (si M 97 31 ((gi M 97 31) - (1 : Int32))) [] 49 [vi (gi M 112 (((gi M 97 31) - (1 : Int32))).toNatClampNeg)] Q
  refine sX8_block_49 (d := d) (si M 97 31 ((gi M 97 31) - (1 : Int32))) (gi M 112 (((gi M 97 31) - (1 : Int32))).toNatClampNeg) ?_
  exact k
theorem iX8_block_32 {E : zE} {d : Nat} {Q : zO → zM → Prop} (M : zM) (s0 : Int32) (k : vp_in ((gi M 97 31) - (1 : Int32)) 200 ∧ (if (gi M 112 (((gi M 97 31) - (1 : Int32))).toNatClampNeg) = (-1 : Int32) then (Zm E YX8_block (d + 1) (si (si M 112 (((gi M 97 31) - (1 : Int32))).toNatClampNeg s0) 113 (((gi M 97 31) - (1 : Int32))).toNatClampNeg s0) [(0, vr (some (97, 1, 0)))] 11 [] Q) else (vp_in (gi M 113 (((gi M 97 31) - (1 : Int32))).toNatClampNeg) 12000 ∧ (Zm E YX8_block (d + 1) (si (si M 110 ((gi M 113 (((gi M 97 31) - (1 : Int32))).toNatClampNeg)).toNatClampNeg s0) 113 (((gi M 97 31) - (1 : Int32))).toNatClampNeg s0) [(0, vr (some (97, 1, 0)))] 11 [] Q)))) : Zm E YX8_block (d + 1) M [(0, vr (some (97, 1, 0)))] 32 [vi s0, vr (some (97, 1, 0))] Q := by
  refine sX8_block_32 (d := d) M s0 ?_
  refine jX8_add (d := d) M s0 ?_
  refine zand k (fun h2144 k => ?_)
  refine zite k (fun h2145 k => ?_) (fun h2145 k => ?_)
  · show Zm E YX8_block (d + 1) (si (si M 112 (((gi M 97 31) - (1 : Int32))).toNatClampNeg s0) 113 (((gi M 97 31) - (1 : Int32))).toNatClampNeg s0) [(0, vr (some (97, 1, 0)))] 35 [] Q
    refine sX8_block_35 (d := d) (si (si M 112 (((gi M 97 31) - (1 : Int32))).toNatClampNeg s0) 113 (((gi M 97 31) - (1 : Int32))).toNatClampNeg s0)  ?_
    exact k
  · refine zand k (fun h2146 k => ?_)
    show Zm E YX8_block (d + 1) (si (si M 110 ((gi M 113 (((gi M 97 31) - (1 : Int32))).toNatClampNeg)).toNatClampNeg s0) 113 (((gi M 97 31) - (1 : Int32))).toNatClampNeg s0) [(0, vr (some (97, 1, 0)))] 35 [] Q
    refine sX8_block_35 (d := d) (si (si M 110 ((gi M 113 (((gi M 97 31) - (1 : Int32))).toNatClampNeg)).toNatClampNeg s0) 113 (((gi M 97 31) - (1 : Int32))).toNatClampNeg s0)  ?_
    exact k
theorem iX8_bracketed_5 {E : zE} {d : Nat} {Q : zO → zM → Prop} (M : zM)  (k : if (gi M 97 21) ≤ 0 then (Zm E YX8_expression d (si M 97 20 ((gi M 97 20) + (1 : Int32))) (zargs 0 [vr (some (97, 1, 0)), vi (1 : Int32)]) 0 [] (zma E YX8_bracketed (d + 1) [(0, vr (some (97, 1, 0)))] 28 3 [] Q)) else (Zm E YX8_must d (si (si M 97 20 ((gi M 97 20) + (1 : Int32))) 97 23 ((gi M 97 23) - (1 : Int32))) (zargs 0 [vr (some (97, 1, 0)), vi (27 : Int32)]) 0 [] (zma E YX8_bracketed (d + 1) [(0, vr (some (97, 1, 0))), (1, vi (-1 : Int32))] 39 3 [] Q))) : Zm E YX8_bracketed (d + 1) M [(0, vr (some (97, 1, 0)))] 5 [] Q := by
  refine sX8_bracketed_5 (d := d) M  ?_
  refine zite k (fun h2147 k => ?_) (fun h2147 k => ?_)
  · exact k
  · refine sX8_bracketed_31 (d := d) (si M 97 20 ((gi M 97 20) + (1 : Int32))) (-1 : Int32) ?_
    refine sX8_close_0 (d := d) (si M 97 20 ((gi M 97 20) + (1 : Int32)))  ?_
    show Zm E YX8_bracketed (d + 1) (si (si M 97 20 ((gi M 97 20) + (1 : Int32))) 97 23 ((gi M 97 23) - (1 : Int32))) [(0, vr (some (97, 1, 0))), (1, vi (-1 : Int32))] 36 [] Q
    refine sX8_bracketed_36 (d := d) (si (si M 97 20 ((gi M 97 20) + (1 : Int32))) 97 23 ((gi M 97 23) - (1 : Int32))) (-1 : Int32) ?_
    exact k
theorem iX8_bracketed_31 {E : zE} {d : Nat} {Q : zO → zM → Prop} (M : zM) (s0 : Int32) (k : Zm E YX8_must d (si M 97 23 ((gi M 97 23) - (1 : Int32))) (zargs 0 [vr (some (97, 1, 0)), vi (27 : Int32)]) 0 [] (zma E YX8_bracketed (d + 1) [(0, vr (some (97, 1, 0))), (1, vi s0)] 39 3 [] Q)) : Zm E YX8_bracketed (d + 1) M [(0, vr (some (97, 1, 0)))] 31 [vi s0] Q := by
  refine sX8_bracketed_31 (d := d) M s0 ?_
  refine sX8_close_0 (d := d) M  ?_
  show Zm E YX8_bracketed (d + 1) (si M 97 23 ((gi M 97 23) - (1 : Int32))) [(0, vr (some (97, 1, 0))), (1, vi s0)] 36 [] Q
  refine sX8_bracketed_36 (d := d) (si M 97 23 ((gi M 97 23) - (1 : Int32))) s0 ?_
  exact k
theorem iX8_conditional_6 {E : zE} {d : Nat} {Q : zO → zM → Prop} (M : zM) (l1 : Int32) (s0 : Int32) (k : if 0 < (gi M 97 21) then (Q (.inl (some (vi s0))) M) else (vp_in (gi M 97 20) 4002 ∧ (if (gi M 103 ((gi M 97 20)).toNatClampNeg) = (5 : Int32) then (if (gi M 104 ((gi M 97 20)).toNatClampNeg) = (45 : Int32) then (Zm E YX8_opened d (si M 97 20 ((gi M 97 20) + (1 : Int32))) (zargs 0 [vr (some (97, 1, 0)), vi l1]) 0 [] (zma E YX8_conditional (d + 1) [(0, vr (some (97, 1, 0))), (1, vi l1), (2, vi s0)] 37 3 [] Q)) else (Q (.inl (some (vi s0))) M)) else (Q (.inl (some (vi s0))) M)))) : Zm E YX8_conditional (d + 1) M [(0, vr (some (97, 1, 0))), (1, vi l1)] 6 [vi s0] Q := by
  refine sX8_conditional_6 (d := d) M l1 s0 ?_
  refine zite k (fun h2152 k => ?_) (fun h2152 k => ?_)
  · exact k
  · refine jX8_isSign (d := d) M (45 : Int32) ?_
    refine zand k (fun h2153 k => ?_)
    refine zite k (fun h2154 k => ?_) (fun h2154 k => ?_)
    · refine zite k (fun h2155 k => ?_) (fun h2155 k => ?_)
      · show Zm E YX8_conditional (d + 1) M [(0, vr (some (97, 1, 0))), (1, vi l1), (2, vi s0)] 20 [vi (1 : Int32)] Q
        refine sX8_conditional_20 (d := d) M l1 s0 (1 : Int32) ?_
        refine zneg (show ¬ ((1 : Int32) = 0) from by decide) ?_
        exact k
      · show Zm E YX8_conditional (d + 1) M [(0, vr (some (97, 1, 0))), (1, vi l1), (2, vi s0)] 20 [vi (0 : Int32)] Q
        refine sX8_conditional_20 (d := d) M l1 s0 (0 : Int32) ?_
        refine zpos (show (0 : Int32) = 0 from by decide) ?_
        exact k
    · show Zm E YX8_conditional (d + 1) M [(0, vr (some (97, 1, 0))), (1, vi l1), (2, vi s0)] 20 [vi (0 : Int32)] Q
      refine sX8_conditional_20 (d := d) M l1 s0 (0 : Int32) ?_
      refine zpos (show (0 : Int32) = 0 from by decide) ?_
      exact k
theorem iX8_counted_16 {E : zE} {d : Nat} {Q : zO → zM → Prop} (M : zM) (s0 : Int32) (k : if s0 = 0 then (Q (.inl (some (vi (-1 : Int32)))) M) else (vp_in (gi M 97 20) 4002 ∧ (if (gi M 103 ((gi M 97 20)).toNatClampNeg) = (2 : Int32) then (if (gi M 104 ((gi M 97 20)).toNatClampNeg) = (26 : Int32) then (vp_in ((gi M 97 20) + (1 : Int32)) 4002 ∧ (if (gi M 103 (((gi M 97 20) + (1 : Int32))).toNatClampNeg) = (1 : Int32) then (vp_in ((gi M 97 20) + (2 : Int32)) 4002 ∧ (if (gi M 103 (((gi M 97 20) + (2 : Int32))).toNatClampNeg) = (2 : Int32) then (if (gi M 104 (((gi M 97 20) + (2 : Int32))).toNatClampNeg) = (13 : Int32) then (Zm E YX8_counted (d + 1) M [(0, vr (some (97, 1, 0)))] 81 [vi (1 : Int32)] Q) else (Zm E YX8_counted (d + 1) M [(0, vr (some (97, 1, 0)))] 81 [vi (0 : Int32)] Q)) else (Zm E YX8_counted (d + 1) M [(0, vr (some (97, 1, 0)))] 81 [vi (0 : Int32)] Q))) else (Zm E YX8_counted (d + 1) M [(0, vr (some (97, 1, 0)))] 81 [vi (0 : Int32)] Q))) else (Zm E YX8_counted (d + 1) M [(0, vr (some (97, 1, 0)))] 81 [vi (0 : Int32)] Q)) else (Zm E YX8_counted (d + 1) M [(0, vr (some (97, 1, 0)))] 81 [vi (0 : Int32)] Q)))) : Zm E YX8_counted (d + 1) M [(0, vr (some (97, 1, 0)))] 16 [vi s0] Q := by
  refine sX8_counted_16 (d := d) M s0 ?_
  refine zite k (fun h2157 k => ?_) (fun h2157 k => ?_)
  · exact k
  · refine jX8_isKeyword (d := d) M (26 : Int32) ?_
    refine zand k (fun h2158 k => ?_)
    refine zite k (fun h2159 k => ?_) (fun h2159 k => ?_)
    · refine zite k (fun h2160 k => ?_) (fun h2160 k => ?_)
      · show Zm E YX8_counted (d + 1) M [(0, vr (some (97, 1, 0)))] 27 [vi (1 : Int32)] Q
        refine sX8_counted_27 (d := d) M (1 : Int32) ?_
        refine zneg (show ¬ ((1 : Int32) = 0) from by decide) ?_
        refine zand k (fun h2161 k => ?_)
        refine zite k (fun h2162 k => ?_) (fun h2162 k => ?_)
        · refine zand k (fun h2163 k => ?_)
          refine zite k (fun h2164 k => ?_) (fun h2164 k => ?_)
          · refine ⟨h2163, ?_⟩
            exact k
          · exact k
        · exact k
      · show Zm E YX8_counted (d + 1) M [(0, vr (some (97, 1, 0)))] 27 [vi (0 : Int32)] Q
        refine sX8_counted_27 (d := d) M (0 : Int32) ?_
        refine zpos (show (0 : Int32) = 0 from by decide) ?_
        exact k
    · show Zm E YX8_counted (d + 1) M [(0, vr (some (97, 1, 0)))] 27 [vi (0 : Int32)] Q
      refine sX8_counted_27 (d := d) M (0 : Int32) ?_
      refine zpos (show (0 : Int32) = 0 from by decide) ?_
      exact k
theorem iX8_counted_81 {E : zE} {d : Nat} {Q : zO → zM → Prop} (M : zM) (s0 : Int32) (k : vp_in (gi M 97 20) 4002 ∧ (if (gi M 103 ((gi M 97 20)).toNatClampNeg) = (1 : Int32) then (vp_in ((gi M 97 20) + (1 : Int32)) 4002 ∧ (if (gi M 103 (((gi M 97 20) + (1 : Int32))).toNatClampNeg) = (2 : Int32) then (if (gi M 104 (((gi M 97 20) + (1 : Int32))).toNatClampNeg) = (13 : Int32) then (Zm E YX8_counted (d + 1) M [(0, vr (some (97, 1, 0))), (1, vi s0)] 131 [vi (1 : Int32)] Q) else (Zm E YX8_counted (d + 1) M [(0, vr (some (97, 1, 0))), (1, vi s0)] 131 [vi (0 : Int32)] Q)) else (Zm E YX8_counted (d + 1) M [(0, vr (some (97, 1, 0))), (1, vi s0)] 131 [vi (0 : Int32)] Q))) else (Zm E YX8_counted (d + 1) M [(0, vr (some (97, 1, 0))), (1, vi s0)] 131 [vi (0 : Int32)] Q))) : Zm E YX8_counted (d + 1) M [(0, vr (some (97, 1, 0)))] 81 [vi s0] Q := by
  refine sX8_counted_81 (d := d) M s0 ?_
  refine zand k (fun h2166 k => ?_)
  refine zite k (fun h2167 k => ?_) (fun h2167 k => ?_)
  · refine zand k (fun h2168 k => ?_)
    refine zite k (fun h2169 k => ?_) (fun h2169 k => ?_)
    · refine ⟨h2168, ?_⟩
      exact k
    · exact k
  · exact k
theorem iX8_counted_131 {E : zE} {d : Nat} {Q : zO → zM → Prop} (M : zM) (l1 : Int32) (s0 : Int32) (k : if l1 = 0 then (if s0 = 0 then (vp_in (gi M 97 20) 4002 ∧ (if (gi M 103 ((gi M 97 20)).toNatClampNeg) = (2 : Int32) then (if (gi M 104 ((gi M 97 20)).toNatClampNeg) = (26 : Int32) then (Zm E YX8_declarations d M (zargs 0 [vr (some (97, 1, 0)), vi (0 : Int32)]) 0 [] (zma E YX8_counted (d + 1) [(0, vr (some (97, 1, 0)))] 159 3 [] Q)) else (if (gi M 103 ((gi M 97 20)).toNatClampNeg) = (5 : Int32) then (if (gi M 104 ((gi M 97 20)).toNatClampNeg) = (31 : Int32) then (Zm E YX8_must d M (zargs 0 [vr (some (97, 1, 0)), vi (31 : Int32)]) 0 [] (zma E YX8_counted (d + 1) [(0, vr (some (97, 1, 0))), (3, vi (-1 : Int32))] 192 3 [] Q)) else (Zm E YX8_expression d M (zargs 0 [vr (some (97, 1, 0)), vi (0 : Int32)]) 0 [] (zma E YX8_counted (d + 1) [(0, vr (some (97, 1, 0)))] 180 3 [vi (23 : Int32), vr (some (97, 1, 0))] Q))) else (Zm E YX8_expression d M (zargs 0 [vr (some (97, 1, 0)), vi (0 : Int32)]) 0 [] (zma E YX8_counted (d + 1) [(0, vr (some (97, 1, 0)))] 180 3 [vi (23 : Int32), vr (some (97, 1, 0))] Q)))) else (if (gi M 103 ((gi M 97 20)).toNatClampNeg) = (5 : Int32) then (if (gi M 104 ((gi M 97 20)).toNatClampNeg) = (31 : Int32) then (Zm E YX8_must d M (zargs 0 [vr (some (97, 1, 0)), vi (31 : Int32)]) 0 [] (zma E YX8_counted (d + 1) [(0, vr (some (97, 1, 0))), (3, vi (-1 : Int32))] 192 3 [] Q)) else (Zm E YX8_expression d M (zargs 0 [vr (some (97, 1, 0)), vi (0 : Int32)]) 0 [] (zma E YX8_counted (d + 1) [(0, vr (some (97, 1, 0)))] 180 3 [vi (23 : Int32), vr (some (97, 1, 0))] Q))) else (Zm E YX8_expression d M (zargs 0 [vr (some (97, 1, 0)), vi (0 : Int32)]) 0 [] (zma E YX8_counted (d + 1) [(0, vr (some (97, 1, 0)))] 180 3 [vi (23 : Int32), vr (some (97, 1, 0))] Q))))) else (Zm E YX8_each d M (zargs 0 [vr (some (97, 1, 0)), vi l1]) 0 [] (zma E YX8_counted (d + 1) [] 142 3 [] Q))) else (Zm E YX8_each d M (zargs 0 [vr (some (97, 1, 0)), vi l1]) 0 [] (zma E YX8_counted (d + 1) [] 142 3 [] Q))) : Zm E YX8_counted (d + 1) M [(0, vr (some (97, 1, 0))), (1, vi l1)] 131 [vi s0] Q := by
  refine sX8_counted_131 (d := d) M l1 s0 ?_
  refine zite k (fun h2171 k => ?_) (fun h2171 k => ?_)
  · refine zite k (fun h2172 k => ?_) (fun h2172 k => ?_)
    · refine jX8_isKeyword (d := d) M (26 : Int32) ?_
      refine zand k (fun h2173 k => ?_)
      refine zite k (fun h2174 k => ?_) (fun h2174 k => ?_)
      · refine zite k (fun h2175 k => ?_) (fun h2175 k => ?_)
        · show Zm E YX8_counted (d + 1) M [(0, vr (some (97, 1, 0))), (3, vi (-1 : Int32))] 154 [vi (1 : Int32)] Q
          refine sX8_counted_154 (d := d) M (-1 : Int32) (1 : Int32) ?_
          refine zneg (show ¬ ((1 : Int32) = 0) from by decide) ?_
          exact k
        · show Zm E YX8_counted (d + 1) M [(0, vr (some (97, 1, 0))), (3, vi (-1 : Int32))] 154 [vi (0 : Int32)] Q
          refine sX8_counted_154 (d := d) M (-1 : Int32) (0 : Int32) ?_
          refine zpos (show (0 : Int32) = 0 from by decide) ?_
          refine jX8_isSign (d := d) M (31 : Int32) ?_
          refine ⟨h2173, ?_⟩
          refine zite k (fun h2177 k => ?_) (fun h2177 k => ?_)
          · refine zite k (fun h2178 k => ?_) (fun h2178 k => ?_)
            · show Zm E YX8_counted (d + 1) M [(0, vr (some (97, 1, 0))), (3, vi (-1 : Int32))] 172 [vi (1 : Int32)] Q
              refine sX8_counted_172 (d := d) M (-1 : Int32) (1 : Int32) ?_
              refine zneg (show ¬ ((1 : Int32) = 0) from by decide) ?_
              exact k
            · show Zm E YX8_counted (d + 1) M [(0, vr (some (97, 1, 0))), (3, vi (-1 : Int32))] 172 [vi (0 : Int32)] Q
              refine sX8_counted_172 (d := d) M (-1 : Int32) (0 : Int32) ?_
              refine zpos (show (0 : Int32) = 0 from by decide) ?_
              exact k
          · show Zm E YX8_counted (d + 1) M [(0, vr (some (97, 1, 0))), (3, vi (-1 : Int32))] 172 [vi (0 : Int32)] Q
            refine sX8_counted_172 (d := d) M (-1 : Int32) (0 : Int32) ?_
            refine zpos (show (0 : Int32) = 0 from by decide) ?_
            exact k
      · show Zm E YX8_counted (d + 1) M [(0, vr (some (97, 1, 0))), (3, vi (-1 : Int32))] 154 [vi (0 : Int32)] Q
        refine sX8_counted_154 (d := d) M (-1 : Int32) (0 : Int32) ?_
        refine zpos (show (0 : Int32) = 0 from by decide) ?_
        refine jX8_isSign (d := d) M (31 : Int32) ?_
        refine ⟨h2173, ?_⟩
        refine zite k (fun h2179 k => ?_) (fun h2179 k => ?_)
        · refine zite k (fun h2180 k => ?_) (fun h2180 k => ?_)
          · show Zm E YX8_counted (d + 1) M [(0, vr (some (97, 1, 0))), (3, vi (-1 : Int32))] 172 [vi (1 : Int32)] Q
            refine sX8_counted_172 (d := d) M (-1 : Int32) (1 : Int32) ?_
            refine zneg (show ¬ ((1 : Int32) = 0) from by decide) ?_
            exact k
          · show Zm E YX8_counted (d + 1) M [(0, vr (some (97, 1, 0))), (3, vi (-1 : Int32))] 172 [vi (0 : Int32)] Q
            refine sX8_counted_172 (d := d) M (-1 : Int32) (0 : Int32) ?_
            refine zpos (show (0 : Int32) = 0 from by decide) ?_
            exact k
        · show Zm E YX8_counted (d + 1) M [(0, vr (some (97, 1, 0))), (3, vi (-1 : Int32))] 172 [vi (0 : Int32)] Q
          refine sX8_counted_172 (d := d) M (-1 : Int32) (0 : Int32) ?_
          refine zpos (show (0 : Int32) = 0 from by decide) ?_
          exact k
    · exact k
  · exact k
theorem iX8_counted_195 {E : zE} {d : Nat} {Q : zO → zM → Prop} (M : zM) (l3 : Int32) (s0 : Int32) (k : if s0 = 0 then (Q (.inl (some (vi (-1 : Int32)))) M) else (vp_in (gi M 97 20) 4002 ∧ (if (gi M 103 ((gi M 97 20)).toNatClampNeg) = (5 : Int32) then (if (gi M 104 ((gi M 97 20)).toNatClampNeg) = (31 : Int32) then (Zm E YX8_must d M (zargs 0 [vr (some (97, 1, 0)), vi (31 : Int32)]) 0 [] (zma E YX8_counted (d + 1) [(0, vr (some (97, 1, 0))), (3, vi l3), (4, vi (-1 : Int32))] 223 3 [] Q)) else (Zm E YX8_expression d M (zargs 0 [vr (some (97, 1, 0)), vi (1 : Int32)]) 0 [] (zma E YX8_counted (d + 1) [(0, vr (some (97, 1, 0))), (3, vi l3)] 215 3 [] Q))) else (Zm E YX8_expression d M (zargs 0 [vr (some (97, 1, 0)), vi (1 : Int32)]) 0 [] (zma E YX8_counted (d + 1) [(0, vr (some (97, 1, 0))), (3, vi l3)] 215 3 [] Q))))) : Zm E YX8_counted (d + 1) M [(0, vr (some (97, 1, 0))), (3, vi l3)] 195 [vi s0] Q := by
  refine sX8_counted_195 (d := d) M l3 s0 ?_
  refine zite k (fun h2182 k => ?_) (fun h2182 k => ?_)
  · exact k
  · refine jX8_isSign (d := d) M (31 : Int32) ?_
    refine zand k (fun h2183 k => ?_)
    refine zite k (fun h2184 k => ?_) (fun h2184 k => ?_)
    · refine zite k (fun h2185 k => ?_) (fun h2185 k => ?_)
      · show Zm E YX8_counted (d + 1) M [(0, vr (some (97, 1, 0))), (3, vi l3)] 206 [vi (1 : Int32)] Q
        refine sX8_counted_206 (d := d) M l3 (1 : Int32) ?_
        refine zneg (show ¬ ((1 : Int32) = 0) from by decide) ?_
        refine sX8_counted_218 (d := d) M l3 (-1 : Int32) ?_
        exact k
      · show Zm E YX8_counted (d + 1) M [(0, vr (some (97, 1, 0))), (3, vi l3)] 206 [vi (0 : Int32)] Q
        refine sX8_counted_206 (d := d) M l3 (0 : Int32) ?_
        refine zpos (show (0 : Int32) = 0 from by decide) ?_
        exact k
    · show Zm E YX8_counted (d + 1) M [(0, vr (some (97, 1, 0))), (3, vi l3)] 206 [vi (0 : Int32)] Q
      refine sX8_counted_206 (d := d) M l3 (0 : Int32) ?_
      refine zpos (show (0 : Int32) = 0 from by decide) ?_
      exact k
theorem iX8_counted_226 {E : zE} {d : Nat} {Q : zO → zM → Prop} (M : zM) (l3 : Int32) (l4 : Int32) (s0 : Int32) (k : if s0 = 0 then (Q (.inl (some (vi (-1 : Int32)))) M) else (vp_in (gi M 97 20) 4002 ∧ (if (gi M 103 ((gi M 97 20)).toNatClampNeg) = (5 : Int32) then (if (gi M 104 ((gi M 97 20)).toNatClampNeg) = (27 : Int32) then (Zm E YX8_must d M (zargs 0 [vr (some (97, 1, 0)), vi (27 : Int32)]) 0 [] (zma E YX8_counted (d + 1) [(0, vr (some (97, 1, 0))), (3, vi l3), (4, vi l4), (5, vi (-1 : Int32))] 254 3 [] Q)) else (Zm E YX8_expression d M (zargs 0 [vr (some (97, 1, 0)), vi (1 : Int32)]) 0 [] (zma E YX8_counted (d + 1) [(0, vr (some (97, 1, 0))), (3, vi l3), (4, vi l4)] 246 3 [] Q))) else (Zm E YX8_expression d M (zargs 0 [vr (some (97, 1, 0)), vi (1 : Int32)]) 0 [] (zma E YX8_counted (d + 1) [(0, vr (some (97, 1, 0))), (3, vi l3), (4, vi l4)] 246 3 [] Q))))) : Zm E YX8_counted (d + 1) M [(0, vr (some (97, 1, 0))), (3, vi l3), (4, vi l4)] 226 [vi s0] Q := by
  refine sX8_counted_226 (d := d) M l3 l4 s0 ?_
  refine zite k (fun h2186 k => ?_) (fun h2186 k => ?_)
  · exact k
  · refine jX8_isSign (d := d) M (27 : Int32) ?_
    refine zand k (fun h2187 k => ?_)
    refine zite k (fun h2188 k => ?_) (fun h2188 k => ?_)
    · refine zite k (fun h2189 k => ?_) (fun h2189 k => ?_)
      · show Zm E YX8_counted (d + 1) M [(0, vr (some (97, 1, 0))), (3, vi l3), (4, vi l4)] 237 [vi (1 : Int32)] Q
        refine sX8_counted_237 (d := d) M l3 l4 (1 : Int32) ?_
        refine zneg (show ¬ ((1 : Int32) = 0) from by decide) ?_
        refine sX8_counted_249 (d := d) M l3 l4 (-1 : Int32) ?_
        exact k
      · show Zm E YX8_counted (d + 1) M [(0, vr (some (97, 1, 0))), (3, vi l3), (4, vi l4)] 237 [vi (0 : Int32)] Q
        refine sX8_counted_237 (d := d) M l3 l4 (0 : Int32) ?_
        refine zpos (show (0 : Int32) = 0 from by decide) ?_
        exact k
    · show Zm E YX8_counted (d + 1) M [(0, vr (some (97, 1, 0))), (3, vi l3), (4, vi l4)] 237 [vi (0 : Int32)] Q
      refine sX8_counted_237 (d := d) M l3 l4 (0 : Int32) ?_
      refine zpos (show (0 : Int32) = 0 from by decide) ?_
      exact k
theorem iX8_declarations_0 {E : zE} {d : Nat} {Q : zO → zM → Prop} (M : zM) (l1 : Int32) (k : vp_in (gi M 97 31) 200 ∧ (Zm E YX8_declarations (d + 1) (si (si (si M 97 20 ((gi M 97 20) + (1 : Int32))) 112 ((gi M 97 31)).toNatClampNeg (-1 : Int32)) 97 31 ((gi M 97 31) + (1 : Int32))) [(0, vr (some (97, 1, 0))), (1, vi l1), (2, vi (1 : Int32))] 16 [] Q)) : Zm E YX8_declarations (d + 1) M [(0, vr (some (97, 1, 0))), (1, vi l1)] 0 [] Q := by
  refine sX8_declarations_0 (d := d) M l1 ?_
  refine sX8_beginList_0 (d := d) (si M 97 20 ((gi M 97 20) + (1 : Int32)))  ?_
  refine zand k (fun h2192 k => ?_)
  show Zm E YX8_declarations (d + 1) (si (si (si M 97 20 ((gi M 97 20) + (1 : Int32))) 112 ((gi M 97 31)).toNatClampNeg (-1 : Int32)) 97 31 ((gi M 97 31) + (1 : Int32))) [(0, vr (some (97, 1, 0))), (1, vi l1)] 14 [] Q
  refine sX8_declarations_14 (d := d) (si (si (si M 97 20 ((gi M 97 20) + (1 : Int32))) 112 ((gi M 97 31)).toNatClampNeg (-1 : Int32)) 97 31 ((gi M 97 31) + (1 : Int32))) l1 ?_
  exact k
theorem iX8_declarations_16 {E : zE} {d : Nat} {Q : zO → zM → Prop} (M : zM) (l1 : Int32) (l2 : Int32) (k : if l2 = 0 then (vp_in ((gi M 97 31) - (1 : Int32)) 200 ∧ (Zm E YX8_node d (si M 97 31 ((gi M 97 31) - (1 : Int32))) (zargs 0 [vr (some (97, 1, 0)), vi (21 : Int32), vi (gi M 112 (((gi M 97 31) - (1 : Int32))).toNatClampNeg), vi (0 : Int32), vi (0 : Int32)]) 0 [] (zma E YX8_declarations (d + 1) [] 129 3 [] Q))) else (Zm E YX8_takeName d M (zargs 0 [vr (some (97, 1, 0))]) 0 [] (zma E YX8_declarations (d + 1) [(0, vr (some (97, 1, 0))), (1, vi l1)] 21 3 [] Q))) : Zm E YX8_declarations (d + 1) M [(0, vr (some (97, 1, 0))), (1, vi l1), (2, vi l2)] 16 [] Q := by
  refine sX8_declarations_16 (d := d) M l1 l2 ?_
  refine zite k (fun h2193 k => ?_) (fun h2193 k => ?_)
  · refine sX8_ended_0 (d := d) M  ?_
    refine zand k (fun h2194 k => ?_)
    show Zm E YX8_declarations (d + 1) (si M 97 31 ((gi M 97 31) - (1 : Int32))) [] 127 [vi (gi M 112 (((gi M 97 31) - (1 : Int32))).toNatClampNeg), vi (21 : Int32), vr (some (97, 1, 0))] Q
    refine sX8_declarations_127 (d := d) (si M 97 31 ((gi M 97 31) - (1 : Int32))) (gi M 112 (((gi M 97 31) - (1 : Int32))).toNatClampNeg) (21 : Int32) ?_
    exact k
  · exact k
theorem iX8_declarations_31 {E : zE} {d : Nat} {Q : zO → zM → Prop} (M : zM) (l1 : Int32) (l3 : Int32) (k : if (gi M 97 21) = 0 then (vp_in (gi M 97 20) 4002 ∧ (if (gi M 103 ((gi M 97 20)).toNatClampNeg) = (5 : Int32) then (if (gi M 104 ((gi M 97 20)).toNatClampNeg) = (47 : Int32) then (Zm E YX8_opened d (si M 97 20 ((gi M 97 20) + (1 : Int32))) (zargs 0 [vr (some (97, 1, 0)), vi l1]) 0 [] (zma E YX8_declarations (d + 1) [(0, vr (some (97, 1, 0))), (1, vi l1), (3, vi l3)] 62 3 [] Q)) else (Zm E YX8_node d M (zargs 0 [vr (some (97, 1, 0)), vi (18 : Int32), vi (-1 : Int32), vi l3, vi (0 : Int32)]) 0 [] (zma E YX8_declarations (d + 1) [(0, vr (some (97, 1, 0))), (1, vi l1)] 75 3 [vr (some (97, 1, 0))] Q))) else (Zm E YX8_node d M (zargs 0 [vr (some (97, 1, 0)), vi (18 : Int32), vi (-1 : Int32), vi l3, vi (0 : Int32)]) 0 [] (zma E YX8_declarations (d + 1) [(0, vr (some (97, 1, 0))), (1, vi l1)] 75 3 [vr (some (97, 1, 0))] Q)))) else (Zm E YX8_node d M (zargs 0 [vr (some (97, 1, 0)), vi (18 : Int32), vi (-1 : Int32), vi l3, vi (0 : Int32)]) 0 [] (zma E YX8_declarations (d + 1) [(0, vr (some (97, 1, 0))), (1, vi l1)] 75 3 [vr (some (97, 1, 0))] Q))) : Zm E YX8_declarations (d + 1) M [(0, vr (some (97, 1, 0))), (1, vi l1), (3, vi l3)] 31 [] Q := by
  refine sX8_declarations_31 (d := d) M l1 l3 ?_
  refine zite k (fun h2195 k => ?_) (fun h2195 k => ?_)
  · refine jX8_isSign (d := d) M (47 : Int32) ?_
    refine zand k (fun h2196 k => ?_)
    refine zite k (fun h2197 k => ?_) (fun h2197 k => ?_)
    · refine zite k (fun h2198 k => ?_) (fun h2198 k => ?_)
      · show Zm E YX8_declarations (d + 1) M [(0, vr (some (97, 1, 0))), (1, vi l1), (3, vi l3), (4, vi (-1 : Int32))] 47 [vi (1 : Int32)] Q
        refine sX8_declarations_47 (d := d) M l1 l3 (-1 : Int32) (1 : Int32) ?_
        refine zneg (show ¬ ((1 : Int32) = 0) from by decide) ?_
        exact k
      · show Zm E YX8_declarations (d + 1) M [(0, vr (some (97, 1, 0))), (1, vi l1), (3, vi l3), (4, vi (-1 : Int32))] 47 [vi (0 : Int32)] Q
        refine sX8_declarations_47 (d := d) M l1 l3 (-1 : Int32) (0 : Int32) ?_
        refine zpos (show (0 : Int32) = 0 from by decide) ?_
        exact k
    · show Zm E YX8_declarations (d + 1) M [(0, vr (some (97, 1, 0))), (1, vi l1), (3, vi l3), (4, vi (-1 : Int32))] 47 [vi (0 : Int32)] Q
      refine sX8_declarations_47 (d := d) M l1 l3 (-1 : Int32) (0 : Int32) ?_
      refine zpos (show (0 : Int32) = 0 from by decide) ?_
      exact k
  · exact k
theorem iX8_declarations_78 {E : zE} {d : Nat} {Q : zO → zM → Prop} (M : zM) (l1 : Int32) (s0 : Int32) (k : vp_in ((gi M 97 31) - (1 : Int32)) 200 ∧ (if (gi M 112 (((gi M 97 31) - (1 : Int32))).toNatClampNeg) = (-1 : Int32) then (if (gi M 97 21) = 0 then (Zm E YX8_isSign d (si (si M 112 (((gi M 97 31) - (1 : Int32))).toNatClampNeg s0) 113 (((gi M 97 31) - (1 : Int32))).toNatClampNeg s0) (zargs 0 [vr (some (97, 1, 0)), vi (32 : Int32)]) 0 [] (zma E YX8_declarations (d + 1) [(0, vr (some (97, 1, 0))), (1, vi l1)] 91 3 [] Q)) else (Zm E YX8_declarations (d + 1) (si (si M 112 (((gi M 97 31) - (1 : Int32))).toNatClampNeg s0) 113 (((gi M 97 31) - (1 : Int32))).toNatClampNeg s0) [(0, vr (some (97, 1, 0))), (1, vi l1), (2, vi (0 : Int32))] 16 [] Q)) else (vp_in (gi M 113 (((gi M 97 31) - (1 : Int32))).toNatClampNeg) 12000 ∧ (if (gi M 97 21) = 0 then (Zm E YX8_isSign d (si (si M 110 ((gi M 113 (((gi M 97 31) - (1 : Int32))).toNatClampNeg)).toNatClampNeg s0) 113 (((gi M 97 31) - (1 : Int32))).toNatClampNeg s0) (zargs 0 [vr (some (97, 1, 0)), vi (32 : Int32)]) 0 [] (zma E YX8_declarations (d + 1) [(0, vr (some (97, 1, 0))), (1, vi l1)] 91 3 [] Q)) else (Zm E YX8_declarations (d + 1) (si (si M 110 ((gi M 113 (((gi M 97 31) - (1 : Int32))).toNatClampNeg)).toNatClampNeg s0) 113 (((gi M 97 31) - (1 : Int32))).toNatClampNeg s0) [(0, vr (some (97, 1, 0))), (1, vi l1), (2, vi (0 : Int32))] 16 [] Q))))) : Zm E YX8_declarations (d + 1) M [(0, vr (some (97, 1, 0))), (1, vi l1)] 78 [vi s0, vr (some (97, 1, 0))] Q := by
  refine sX8_declarations_78 (d := d) M l1 s0 ?_
  refine jX8_add (d := d) M s0 ?_
  refine zand k (fun h2210 k => ?_)
  refine zite k (fun h2211 k => ?_) (fun h2211 k => ?_)
  · show Zm E YX8_declarations (d + 1) (si (si M 112 (((gi M 97 31) - (1 : Int32))).toNatClampNeg s0) 113 (((gi M 97 31) - (1 : Int32))).toNatClampNeg s0) [(0, vr (some (97, 1, 0))), (1, vi l1)] 81 [] Q
    refine sX8_declarations_81 (d := d) (si (si M 112 (((gi M 97 31) - (1 : Int32))).toNatClampNeg s0) 113 (((gi M 97 31) - (1 : Int32))).toNatClampNeg s0) l1 ?_
    refine zite k (fun h2212 k => ?_) (fun h2212 k => ?_)
    · exact k
    · refine sX8_declarations_102 (d := d) (si (si M 112 (((gi M 97 31) - (1 : Int32))).toNatClampNeg s0) 113 (((gi M 97 31) - (1 : Int32))).toNatClampNeg s0) l1 (0 : Int32) ?_
      refine zpos (show (0 : Int32) = 0 from by decide) ?_
      exact k
  · refine zand k (fun h2213 k => ?_)
    show Zm E YX8_declarations (d + 1) (si (si M 110 ((gi M 113 (((gi M 97 31) - (1 : Int32))).toNatClampNeg)).toNatClampNeg s0) 113 (((gi M 97 31) - (1 : Int32))).toNatClampNeg s0) [(0, vr (some (97, 1, 0))), (1, vi l1)] 81 [] Q
    refine sX8_declarations_81 (d := d) (si (si M 110 ((gi M 113 (((gi M 97 31) - (1 : Int32))).toNatClampNeg)).toNatClampNeg s0) 113 (((gi M 97 31) - (1 : Int32))).toNatClampNeg s0) l1 ?_
    refine zite k (fun h2214 k => ?_) (fun h2214 k => ?_)
    · exact k
    · refine sX8_declarations_102 (d := d) (si (si M 110 ((gi M 113 (((gi M 97 31) - (1 : Int32))).toNatClampNeg)).toNatClampNeg s0) 113 (((gi M 97 31) - (1 : Int32))).toNatClampNeg s0) l1 (0 : Int32) ?_
      refine zpos (show (0 : Int32) = 0 from by decide) ?_
      exact k
theorem iX8_declarations_94 {E : zE} {d : Nat} {Q : zO → zM → Prop} (M : zM) (l1 : Int32) (s0 : Int32) (k : if s0 = 0 then (Zm E YX8_declarations (d + 1) M [(0, vr (some (97, 1, 0))), (1, vi l1), (2, vi (0 : Int32))] 16 [] Q) else (Zm E YX8_declarations (d + 1) (si M 97 20 ((gi M 97 20) + (1 : Int32))) [(0, vr (some (97, 1, 0))), (1, vi l1), (2, vi (1 : Int32))] 16 [] Q)) : Zm E YX8_declarations (d + 1) M [(0, vr (some (97, 1, 0))), (1, vi l1)] 94 [vi s0] Q := by
  refine sX8_declarations_94 (d := d) M l1 s0 ?_
  refine zite k (fun h2215 k => ?_) (fun h2215 k => ?_)
  · refine sX8_declarations_102 (d := d) M l1 (0 : Int32) ?_
    refine zpos (show (0 : Int32) = 0 from by decide) ?_
    exact k
  · refine sX8_declarations_102 (d := d) M l1 (1 : Int32) ?_
    refine zneg (show ¬ ((1 : Int32) = 0) from by decide) ?_
    exact k
theorem iX8_endOfStatement_0 {E : zE} {d : Nat} {Q : zO → zM → Prop} (M : zM)  (k : if (gi M 97 21) ≤ 0 then (vp_in (gi M 97 20) 4002 ∧ (if (gi M 103 ((gi M 97 20)).toNatClampNeg) = (5 : Int32) then (if (gi M 104 ((gi M 97 20)).toNatClampNeg) = (31 : Int32) then (Q (.inl none) (si M 97 20 ((gi M 97 20) + (1 : Int32)))) else (if (gi M 104 ((gi M 97 20)).toNatClampNeg) = (25 : Int32) then (Q (.inl none) M) else (if (gi M 103 ((gi M 97 20)).toNatClampNeg) = 0 then (Q (.inl none) M) else (vp_in ((gi M 97 20) - (1 : Int32)) 4002 ∧ (if (gi M 107 ((gi M 97 20)).toNatClampNeg) = (gi M 107 (((gi M 97 20) - (1 : Int32))).toNatClampNeg) then (if (gi M 97 21) = 0 then (if (gi M 103 ((gi M 97 20)).toNatClampNeg) = (6 : Int32) then (Q (.inl none) (si (si M 97 21 (1 : Int32)) 97 22 (gi M 107 ((gi M 97 20)).toNatClampNeg))) else (Q (.inl none) (si (si M 97 21 (2 : Int32)) 97 22 (gi M 107 ((gi M 97 20)).toNatClampNeg)))) else (Q (.inl none) M)) else (Q (.inl none) M)))))) else (if (gi M 103 ((gi M 97 20)).toNatClampNeg) = 0 then (Q (.inl none) M) else (vp_in ((gi M 97 20) - (1 : Int32)) 4002 ∧ (if (gi M 107 ((gi M 97 20)).toNatClampNeg) = (gi M 107 (((gi M 97 20) - (1 : Int32))).toNatClampNeg) then (if (gi M 97 21) = 0 then (if (gi M 103 ((gi M 97 20)).toNatClampNeg) = (6 : Int32) then (Q (.inl none) (si (si M 97 21 (1 : Int32)) 97 22 (gi M 107 ((gi M 97 20)).toNatClampNeg))) else (Q (.inl none) (si (si M 97 21 (2 : Int32)) 97 22 (gi M 107 ((gi M 97 20)).toNatClampNeg)))) else (Q (.inl none) M)) else (Q (.inl none) M)))))) else (Q (.inl none) M)) : Zm E YX8_endOfStatement (d + 1) M [(0, vr (some (97, 1, 0)))] 0 [] Q := by
  refine sX8_endOfStatement_0 (d := d) M  ?_
  refine zite k (fun h2216 k => ?_) (fun h2216 k => ?_)
  · refine jX8_isSign (d := d) M (31 : Int32) ?_
    refine zand k (fun h2217 k => ?_)
    refine zite k (fun h2218 k => ?_) (fun h2218 k => ?_)
    · refine zite k (fun h2219 k => ?_) (fun h2219 k => ?_)
      · show Zm E YX8_endOfStatement (d + 1) M [(0, vr (some (97, 1, 0)))] 14 [vi (1 : Int32)] Q
        refine sX8_endOfStatement_14 (d := d) M (1 : Int32) ?_
        refine zneg (show ¬ ((1 : Int32) = 0) from by decide) ?_
        exact k
      · show Zm E YX8_endOfStatement (d + 1) M [(0, vr (some (97, 1, 0)))] 14 [vi (0 : Int32)] Q
        refine sX8_endOfStatement_14 (d := d) M (0 : Int32) ?_
        refine zpos (show (0 : Int32) = 0 from by decide) ?_
        refine jX8_isSign (d := d) M (25 : Int32) ?_
        refine ⟨h2217, ?_⟩
        refine zpos h2218 ?_
        refine zite k (fun h2220 k => ?_) (fun h2220 k => ?_)
        · show Zm E YX8_endOfStatement (d + 1) M [(0, vr (some (97, 1, 0)))] 36 [vi (1 : Int32)] Q
          refine sX8_endOfStatement_36 (d := d) M (1 : Int32) ?_
          refine zneg (show ¬ ((1 : Int32) = 0) from by decide) ?_
          exact k
        · show Zm E YX8_endOfStatement (d + 1) M [(0, vr (some (97, 1, 0)))] 36 [vi (0 : Int32)] Q
          refine sX8_endOfStatement_36 (d := d) M (0 : Int32) ?_
          refine zpos (show (0 : Int32) = 0 from by decide) ?_
          refine ⟨h2217, ?_⟩
          refine zite k (fun h2221 k => ?_) (fun h2221 k => ?_)
          · exact k
          · refine ⟨h2217, ?_⟩
            refine zand k (fun h2222 k => ?_)
            refine zite k (fun h2223 k => ?_) (fun h2223 k => ?_)
            · refine jX8_fail (d := d) M (2 : Int32) ?_
              refine zite k (fun h2224 k => ?_) (fun h2224 k => ?_)
              · refine ⟨h2217, ?_⟩
                refine zite k (fun h2225 k => ?_) (fun h2225 k => ?_)
                · show Zm E YX8_endOfStatement (d + 1) (si (si M 97 21 (1 : Int32)) 97 22 (gi M 107 ((gi M 97 20)).toNatClampNeg)) [] 79 [vi (0 : Int32)] Q
                  refine sX8_endOfStatement_79 (d := d) (si (si M 97 21 (1 : Int32)) 97 22 (gi M 107 ((gi M 97 20)).toNatClampNeg)) (0 : Int32) ?_
                  exact k
                · show Zm E YX8_endOfStatement (d + 1) (si (si M 97 21 (2 : Int32)) 97 22 (gi M 107 ((gi M 97 20)).toNatClampNeg)) [] 79 [vi (0 : Int32)] Q
                  refine sX8_endOfStatement_79 (d := d) (si (si M 97 21 (2 : Int32)) 97 22 (gi M 107 ((gi M 97 20)).toNatClampNeg)) (0 : Int32) ?_
                  exact k
              · show Zm E YX8_endOfStatement (d + 1) M [] 79 [vi (0 : Int32)] Q
                refine sX8_endOfStatement_79 (d := d) M (0 : Int32) ?_
                exact k
            · exact k
    · show Zm E YX8_endOfStatement (d + 1) M [(0, vr (some (97, 1, 0)))] 14 [vi (0 : Int32)] Q
      refine sX8_endOfStatement_14 (d := d) M (0 : Int32) ?_
      refine zpos (show (0 : Int32) = 0 from by decide) ?_
      refine jX8_isSign (d := d) M (25 : Int32) ?_
      refine ⟨h2217, ?_⟩
      refine zneg h2218 ?_
      show Zm E YX8_endOfStatement (d + 1) M [(0, vr (some (97, 1, 0)))] 36 [vi (0 : Int32)] Q
      refine sX8_endOfStatement_36 (d := d) M (0 : Int32) ?_
      refine zpos (show (0 : Int32) = 0 from by decide) ?_
      refine ⟨h2217, ?_⟩
      refine zite k (fun h2226 k => ?_) (fun h2226 k => ?_)
      · exact k
      · refine ⟨h2217, ?_⟩
        refine zand k (fun h2227 k => ?_)
        refine zite k (fun h2228 k => ?_) (fun h2228 k => ?_)
        · refine jX8_fail (d := d) M (2 : Int32) ?_
          refine zite k (fun h2229 k => ?_) (fun h2229 k => ?_)
          · refine ⟨h2217, ?_⟩
            refine zite k (fun h2230 k => ?_) (fun h2230 k => ?_)
            · show Zm E YX8_endOfStatement (d + 1) (si (si M 97 21 (1 : Int32)) 97 22 (gi M 107 ((gi M 97 20)).toNatClampNeg)) [] 79 [vi (0 : Int32)] Q
              refine sX8_endOfStatement_79 (d := d) (si (si M 97 21 (1 : Int32)) 97 22 (gi M 107 ((gi M 97 20)).toNatClampNeg)) (0 : Int32) ?_
              exact k
            · show Zm E YX8_endOfStatement (d + 1) (si (si M 97 21 (2 : Int32)) 97 22 (gi M 107 ((gi M 97 20)).toNatClampNeg)) [] 79 [vi (0 : Int32)] Q
              refine sX8_endOfStatement_79 (d := d) (si (si M 97 21 (2 : Int32)) 97 22 (gi M 107 ((gi M 97 20)).toNatClampNeg)) (0 : Int32) ?_
              exact k
          · show Zm E YX8_endOfStatement (d + 1) M [] 79 [vi (0 : Int32)] Q
            refine sX8_endOfStatement_79 (d := d) M (0 : Int32) ?_
            exact k
        · exact k
  · exact k
theorem iX8_expression_6 {E : zE} {d : Nat} {Q : zO → zM → Prop} (M : zM) (l1 : Int32) (l2 : Int32) (k : if (gi M 97 21) = 0 then (vp_in (gi M 97 20) 4002 ∧ (if (gi M 103 ((gi M 97 20)).toNatClampNeg) = (5 : Int32) then (if (gi M 104 ((gi M 97 20)).toNatClampNeg) = (32 : Int32) then (Zm E YX8_assigned d (si M 97 20 ((gi M 97 20) + (1 : Int32))) (zargs 0 [vr (some (97, 1, 0)), vi l1]) 0 [] (zma E YX8_expression (d + 1) [(0, vr (some (97, 1, 0))), (1, vi l1)] 37 3 [vi l2, vi (3 : Int32), vr (some (97, 1, 0))] Q)) else (Q (.inl (some (vi l2))) M)) else (Q (.inl (some (vi l2))) M))) else (Q (.inl (some (vi l2))) M)) : Zm E YX8_expression (d + 1) M [(0, vr (some (97, 1, 0))), (1, vi l1), (2, vi l2)] 6 [] Q := by
  refine sX8_expression_6 (d := d) M l1 l2 ?_
  refine zite k (fun h2232 k => ?_) (fun h2232 k => ?_)
  · refine jX8_isSign (d := d) M (32 : Int32) ?_
    refine zand k (fun h2233 k => ?_)
    refine zite k (fun h2234 k => ?_) (fun h2234 k => ?_)
    · refine zite k (fun h2235 k => ?_) (fun h2235 k => ?_)
      · show Zm E YX8_expression (d + 1) M [(0, vr (some (97, 1, 0))), (1, vi l1), (2, vi l2)] 19 [vi (1 : Int32)] Q
        refine sX8_expression_19 (d := d) M l1 l2 (1 : Int32) ?_
        refine zneg (show ¬ ((1 : Int32) = 0) from by decide) ?_
        exact k
      · show Zm E YX8_expression (d + 1) M [(0, vr (some (97, 1, 0))), (1, vi l1), (2, vi l2)] 19 [vi (0 : Int32)] Q
        refine sX8_expression_19 (d := d) M l1 l2 (0 : Int32) ?_
        refine zpos (show (0 : Int32) = 0 from by decide) ?_
        exact k
    · show Zm E YX8_expression (d + 1) M [(0, vr (some (97, 1, 0))), (1, vi l1), (2, vi l2)] 19 [vi (0 : Int32)] Q
      refine sX8_expression_19 (d := d) M l1 l2 (0 : Int32) ?_
      refine zpos (show (0 : Int32) = 0 from by decide) ?_
      exact k
  · exact k
theorem iX8_fresh_5 {E : zE} {d : Nat} {Q : zO → zM → Prop} (M : zM)  (k : if (gi M 97 21) ≤ 0 then (vp_in ((gi M 97 20) + (1 : Int32)) 4002 ∧ (if (gi M 103 (((gi M 97 20) + (1 : Int32))).toNatClampNeg) = (2 : Int32) then (if (gi M 104 (((gi M 97 20) + (1 : Int32))).toNatClampNeg) = (16 : Int32) then (Zm E YX8_fresh d (si M 97 20 ((gi M 97 20) + (1 : Int32))) (zargs 0 [vr (some (97, 1, 0))]) 0 [] (zma E YX8_fresh (d + 1) [(0, vr (some (97, 1, 0)))] 36 3 [] Q)) else (Zm E YX8_primary d (si M 97 20 ((gi M 97 20) + (1 : Int32))) (zargs 0 [vr (some (97, 1, 0))]) 0 [] (zma E YX8_fresh (d + 1) [(0, vr (some (97, 1, 0)))] 43 3 [] Q))) else (Zm E YX8_primary d (si M 97 20 ((gi M 97 20) + (1 : Int32))) (zargs 0 [vr (some (97, 1, 0))]) 0 [] (zma E YX8_fresh (d + 1) [(0, vr (some (97, 1, 0)))] 43 3 [] Q)))) else (Zm E YX8_fresh (d + 1) (si M 97 20 ((gi M 97 20) + (1 : Int32))) [(0, vr (some (97, 1, 0))), (1, vi (-1 : Int32))] 47 [] Q)) : Zm E YX8_fresh (d + 1) M [(0, vr (some (97, 1, 0)))] 5 [] Q := by
  refine sX8_fresh_5 (d := d) M  ?_
  refine zite k (fun h2236 k => ?_) (fun h2236 k => ?_)
  · refine jX8_isKeyword (d := d) (si M 97 20 ((gi M 97 20) + (1 : Int32))) (16 : Int32) ?_
    refine zand k (fun h2237 k => ?_)
    refine zite k (fun h2238 k => ?_) (fun h2238 k => ?_)
    · refine zite k (fun h2239 k => ?_) (fun h2239 k => ?_)
      · show Zm E YX8_fresh (d + 1) (si M 97 20 ((gi M 97 20) + (1 : Int32))) [(0, vr (some (97, 1, 0)))] 32 [vi (1 : Int32)] Q
        refine sX8_fresh_32 (d := d) (si M 97 20 ((gi M 97 20) + (1 : Int32))) (1 : Int32) ?_
        refine zneg (show ¬ ((1 : Int32) = 0) from by decide) ?_
        exact k
      · show Zm E YX8_fresh (d + 1) (si M 97 20 ((gi M 97 20) + (1 : Int32))) [(0, vr (some (97, 1, 0)))] 32 [vi (0 : Int32)] Q
        refine sX8_fresh_32 (d := d) (si M 97 20 ((gi M 97 20) + (1 : Int32))) (0 : Int32) ?_
        refine zpos (show (0 : Int32) = 0 from by decide) ?_
        exact k
    · show Zm E YX8_fresh (d + 1) (si M 97 20 ((gi M 97 20) + (1 : Int32))) [(0, vr (some (97, 1, 0)))] 32 [vi (0 : Int32)] Q
      refine sX8_fresh_32 (d := d) (si M 97 20 ((gi M 97 20) + (1 : Int32))) (0 : Int32) ?_
      refine zpos (show (0 : Int32) = 0 from by decide) ?_
      exact k
  · refine sX8_fresh_46 (d := d) (si M 97 20 ((gi M 97 20) + (1 : Int32))) (-1 : Int32) ?_
    exact k
theorem iX8_fresh_39 {E : zE} {d : Nat} {Q : zO → zM → Prop} (M : zM) (s0 : Int32) (k : Zm E YX8_fresh (d + 1) M [(0, vr (some (97, 1, 0))), (1, vi s0)] 47 [] Q) : Zm E YX8_fresh (d + 1) M [(0, vr (some (97, 1, 0)))] 39 [vi s0] Q := by
  refine sX8_fresh_39 (d := d) M s0 ?_
  refine sX8_fresh_46 (d := d) M s0 ?_
  exact k
theorem iX8_fresh_47 {E : zE} {d : Nat} {Q : zO → zM → Prop} (M : zM) (l1 : Int32) (k : if (gi M 97 21) = 0 then (vp_in (gi M 97 20) 4002 ∧ (if (gi M 103 ((gi M 97 20)).toNatClampNeg) = (5 : Int32) then (if (gi M 104 ((gi M 97 20)).toNatClampNeg) = (30 : Int32) then (Zm E YX8_member d M (zargs 0 [vr (some (97, 1, 0)), vi l1]) 0 [] (zma E YX8_fresh (d + 1) [(0, vr (some (97, 1, 0)))] 74 3 [] Q)) else (if (gi M 104 ((gi M 97 20)).toNatClampNeg) = (28 : Int32) then (Zm E YX8_member d M (zargs 0 [vr (some (97, 1, 0)), vi l1]) 0 [] (zma E YX8_fresh (d + 1) [(0, vr (some (97, 1, 0)))] 74 3 [] Q)) else (if (gi M 104 ((gi M 97 20)).toNatClampNeg) = (26 : Int32) then (Zm E YX8_arguments d M (zargs 0 [vr (some (97, 1, 0))]) 0 [] (zma E YX8_fresh (d + 1) [(0, vr (some (97, 1, 0))), (1, vi l1)] 98 3 [] Q)) else (Zm E YX8_node d (si M 97 23 ((gi M 97 23) - (1 : Int32))) (zargs 0 [vr (some (97, 1, 0)), vi (9 : Int32), vi l1, vi (-1 : Int32), vi (0 : Int32)]) 0 [] (zma E YX8_fresh (d + 1) [] 116 3 [] Q))))) else (Zm E YX8_node d (si M 97 23 ((gi M 97 23) - (1 : Int32))) (zargs 0 [vr (some (97, 1, 0)), vi (9 : Int32), vi l1, vi (-1 : Int32), vi (0 : Int32)]) 0 [] (zma E YX8_fresh (d + 1) [] 116 3 [] Q)))) else (Zm E YX8_node d (si M 97 23 ((gi M 97 23) - (1 : Int32))) (zargs 0 [vr (some (97, 1, 0)), vi (9 : Int32), vi l1, vi (-1 : Int32), vi (0 : Int32)]) 0 [] (zma E YX8_fresh (d + 1) [] 116 3 [] Q))) : Zm E YX8_fresh (d + 1) M [(0, vr (some (97, 1, 0))), (1, vi l1)] 47 [] Q := by
  refine sX8_fresh_47 (d := d) M l1 ?_
  refine zite k (fun h2244 k => ?_) (fun h2244 k => ?_)
  · refine jX8_isSign (d := d) M (30 : Int32) ?_
    refine zand k (fun h2245 k => ?_)
    refine zite k (fun h2246 k => ?_) (fun h2246 k => ?_)
    · refine zite k (fun h2247 k => ?_) (fun h2247 k => ?_)
      · show Zm E YX8_fresh (d + 1) M [(0, vr (some (97, 1, 0))), (1, vi l1)] 60 [vi (1 : Int32)] Q
        refine sX8_fresh_60 (d := d) M l1 (1 : Int32) ?_
        refine zneg (show ¬ ((1 : Int32) = 0) from by decide) ?_
        exact k
      · show Zm E YX8_fresh (d + 1) M [(0, vr (some (97, 1, 0))), (1, vi l1)] 60 [vi (0 : Int32)] Q
        refine sX8_fresh_60 (d := d) M l1 (0 : Int32) ?_
        refine zpos (show (0 : Int32) = 0 from by decide) ?_
        refine jX8_isSign (d := d) M (28 : Int32) ?_
        refine ⟨h2245, ?_⟩
        refine zpos h2246 ?_
        refine zite k (fun h2253 k => ?_) (fun h2253 k => ?_)
        · show Zm E YX8_fresh (d + 1) M [(0, vr (some (97, 1, 0))), (1, vi l1)] 69 [vi (1 : Int32)] Q
          refine sX8_fresh_69 (d := d) M l1 (1 : Int32) ?_
          refine zneg (show ¬ ((1 : Int32) = 0) from by decide) ?_
          exact k
        · show Zm E YX8_fresh (d + 1) M [(0, vr (some (97, 1, 0))), (1, vi l1)] 69 [vi (0 : Int32)] Q
          refine sX8_fresh_69 (d := d) M l1 (0 : Int32) ?_
          refine zpos (show (0 : Int32) = 0 from by decide) ?_
          refine sX8_fresh_81 (d := d) M l1 ?_
          refine zpos h2244 ?_
          refine jX8_isSign (d := d) M (26 : Int32) ?_
          refine ⟨h2245, ?_⟩
          refine zpos h2246 ?_
          refine zite k (fun h2254 k => ?_) (fun h2254 k => ?_)
          · show Zm E YX8_fresh (d + 1) M [(0, vr (some (97, 1, 0))), (1, vi l1)] 94 [vi (1 : Int32)] Q
            refine sX8_fresh_94 (d := d) M l1 (1 : Int32) ?_
            refine zneg (show ¬ ((1 : Int32) = 0) from by decide) ?_
            exact k
          · show Zm E YX8_fresh (d + 1) M [(0, vr (some (97, 1, 0))), (1, vi l1)] 94 [vi (0 : Int32)] Q
            refine sX8_fresh_94 (d := d) M l1 (0 : Int32) ?_
            refine zpos (show (0 : Int32) = 0 from by decide) ?_
            refine sX8_close_0 (d := d) M  ?_
            show Zm E YX8_fresh (d + 1) (si M 97 23 ((gi M 97 23) - (1 : Int32))) [(0, vr (some (97, 1, 0))), (1, vi l1), (2, vi (-1 : Int32))] 110 [] Q
            refine sX8_fresh_110 (d := d) (si M 97 23 ((gi M 97 23) - (1 : Int32))) l1 (-1 : Int32) ?_
            exact k
    · show Zm E YX8_fresh (d + 1) M [(0, vr (some (97, 1, 0))), (1, vi l1)] 60 [vi (0 : Int32)] Q
      refine sX8_fresh_60 (d := d) M l1 (0 : Int32) ?_
      refine zpos (show (0 : Int32) = 0 from by decide) ?_
      refine jX8_isSign (d := d) M (28 : Int32) ?_
      refine ⟨h2245, ?_⟩
      refine zneg h2246 ?_
      show Zm E YX8_fresh (d + 1) M [(0, vr (some (97, 1, 0))), (1, vi l1)] 69 [vi (0 : Int32)] Q
      refine sX8_fresh_69 (d := d) M l1 (0 : Int32) ?_
      refine zpos (show (0 : Int32) = 0 from by decide) ?_
      refine sX8_fresh_81 (d := d) M l1 ?_
      refine zpos h2244 ?_
      refine jX8_isSign (d := d) M (26 : Int32) ?_
      refine ⟨h2245, ?_⟩
      refine zneg h2246 ?_
      show Zm E YX8_fresh (d + 1) M [(0, vr (some (97, 1, 0))), (1, vi l1)] 94 [vi (0 : Int32)] Q
      refine sX8_fresh_94 (d := d) M l1 (0 : Int32) ?_
      refine zpos (show (0 : Int32) = 0 from by decide) ?_
      refine sX8_close_0 (d := d) M  ?_
      show Zm E YX8_fresh (d + 1) (si M 97 23 ((gi M 97 23) - (1 : Int32))) [(0, vr (some (97, 1, 0))), (1, vi l1), (2, vi (-1 : Int32))] 110 [] Q
      refine sX8_fresh_110 (d := d) (si M 97 23 ((gi M 97 23) - (1 : Int32))) l1 (-1 : Int32) ?_
      exact k
  · refine sX8_fresh_81 (d := d) M l1 ?_
    refine zneg h2244 ?_
    refine sX8_close_0 (d := d) M  ?_
    show Zm E YX8_fresh (d + 1) (si M 97 23 ((gi M 97 23) - (1 : Int32))) [(0, vr (some (97, 1, 0))), (1, vi l1), (2, vi (-1 : Int32))] 110 [] Q
    refine sX8_fresh_110 (d := d) (si M 97 23 ((gi M 97 23) - (1 : Int32))) l1 (-1 : Int32) ?_
    exact k
theorem iX8_fresh_101 {E : zE} {d : Nat} {Q : zO → zM → Prop} (M : zM) (l1 : Int32) (s0 : Int32) (k : Zm E YX8_node d (si M 97 23 ((gi M 97 23) - (1 : Int32))) (zargs 0 [vr (some (97, 1, 0)), vi (9 : Int32), vi l1, vi s0, vi (0 : Int32)]) 0 [] (zma E YX8_fresh (d + 1) [] 116 3 [] Q)) : Zm E YX8_fresh (d + 1) M [(0, vr (some (97, 1, 0))), (1, vi l1)] 101 [vi s0] Q := by
  refine sX8_fresh_101 (d := d) M l1 s0 ?_
  refine sX8_close_0 (d := d) M  ?_
  show Zm E YX8_fresh (d + 1) (si M 97 23 ((gi M 97 23) - (1 : Int32))) [(0, vr (some (97, 1, 0))), (1, vi l1), (2, vi s0)] 110 [] Q
  refine sX8_fresh_110 (d := d) (si M 97 23 ((gi M 97 23) - (1 : Int32))) l1 s0 ?_
  exact k
theorem iX8_isLiteral_0 {E : zE} {d : Nat} {Q : zO → zM → Prop} (M : zM)  (k : vp_in (gi M 97 20) 4002 ∧ (if (gi M 103 ((gi M 97 20)).toNatClampNeg) = (2 : Int32) then (if (gi M 104 ((gi M 97 20)).toNatClampNeg) = (22 : Int32) then (Q (.inl (some (vi (1 : Int32)))) M) else (if (gi M 104 ((gi M 97 20)).toNatClampNeg) = (8 : Int32) then (Q (.inl (some (vi (1 : Int32)))) M) else (if (gi M 104 ((gi M 97 20)).toNatClampNeg) = (17 : Int32) then (Q (.inl (some (vi (1 : Int32)))) M) else (if (gi M 104 ((gi M 97 20)).toNatClampNeg) = (25 : Int32) then (Q (.inl (some (vi (1 : Int32)))) M) else (if (gi M 104 ((gi M 97 20)).toNatClampNeg) = (15 : Int32) then (Q (.inl (some (vi (1 : Int32)))) M) else (Q (.inl (some (vi (0 : Int32)))) M)))))) else (Q (.inl (some (vi (0 : Int32)))) M))) : Zm E YX8_isLiteral (d + 1) M [(0, vr (some (97, 1, 0)))] 0 [] Q := by
  refine sX8_isLiteral_0 (d := d) M  ?_
  refine jX8_isKeyword (d := d) M (22 : Int32) ?_
  refine zand k (fun h2255 k => ?_)
  refine zite k (fun h2256 k => ?_) (fun h2256 k => ?_)
  · refine zite k (fun h2257 k => ?_) (fun h2257 k => ?_)
    · show Zm E YX8_isLiteral (d + 1) M [(0, vr (some (97, 1, 0)))] 6 [vi (1 : Int32)] Q
      refine sX8_isLiteral_6 (d := d) M (1 : Int32) ?_
      refine zneg (show ¬ ((1 : Int32) = 0) from by decide) ?_
      exact k
    · show Zm E YX8_isLiteral (d + 1) M [(0, vr (some (97, 1, 0)))] 6 [vi (0 : Int32)] Q
      refine sX8_isLiteral_6 (d := d) M (0 : Int32) ?_
      refine zpos (show (0 : Int32) = 0 from by decide) ?_
      refine jX8_isKeyword (d := d) M (8 : Int32) ?_
      refine ⟨h2255, ?_⟩
      refine zpos h2256 ?_
      refine zite k (fun h2258 k => ?_) (fun h2258 k => ?_)
      · show Zm E YX8_isLiteral (d + 1) M [(0, vr (some (97, 1, 0)))] 15 [vi (1 : Int32)] Q
        refine sX8_isLiteral_15 (d := d) M (1 : Int32) ?_
        refine zneg (show ¬ ((1 : Int32) = 0) from by decide) ?_
        exact k
      · show Zm E YX8_isLiteral (d + 1) M [(0, vr (some (97, 1, 0)))] 15 [vi (0 : Int32)] Q
        refine sX8_isLiteral_15 (d := d) M (0 : Int32) ?_
        refine zpos (show (0 : Int32) = 0 from by decide) ?_
        refine jX8_isKeyword (d := d) M (17 : Int32) ?_
        refine ⟨h2255, ?_⟩
        refine zpos h2256 ?_
        refine zite k (fun h2259 k => ?_) (fun h2259 k => ?_)
        · show Zm E YX8_isLiteral (d + 1) M [(0, vr (some (97, 1, 0)))] 24 [vi (1 : Int32)] Q
          refine sX8_isLiteral_24 (d := d) M (1 : Int32) ?_
          refine zneg (show ¬ ((1 : Int32) = 0) from by decide) ?_
          exact k
        · show Zm E YX8_isLiteral (d + 1) M [(0, vr (some (97, 1, 0)))] 24 [vi (0 : Int32)] Q
          refine sX8_isLiteral_24 (d := d) M (0 : Int32) ?_
          refine zpos (show (0 : Int32) = 0 from by decide) ?_
          refine jX8_isKeyword (d := d) M (25 : Int32) ?_
          refine ⟨h2255, ?_⟩
          refine zpos h2256 ?_
          refine zite k (fun h2260 k => ?_) (fun h2260 k => ?_)
          · show Zm E YX8_isLiteral (d + 1) M [(0, vr (some (97, 1, 0)))] 33 [vi (1 : Int32)] Q
            refine sX8_isLiteral_33 (d := d) M (1 : Int32) ?_
            refine zneg (show ¬ ((1 : Int32) = 0) from by decide) ?_
            exact k
          · show Zm E YX8_isLiteral (d + 1) M [(0, vr (some (97, 1, 0)))] 33 [vi (0 : Int32)] Q
            refine sX8_isLiteral_33 (d := d) M (0 : Int32) ?_
            refine zpos (show (0 : Int32) = 0 from by decide) ?_
            refine jX8_isKeyword (d := d) M (15 : Int32) ?_
            refine ⟨h2255, ?_⟩
            refine zpos h2256 ?_
            refine zite k (fun h2261 k => ?_) (fun h2261 k => ?_)
            · show Zm E YX8_isLiteral (d + 1) M [] 42 [vi (1 : Int32)] Q
              refine sX8_isLiteral_42 (d := d) M (1 : Int32) ?_
              refine zneg (show ¬ ((1 : Int32) = 0) from by decide) ?_
              exact k
            · show Zm E YX8_isLiteral (d + 1) M [] 42 [vi (0 : Int32)] Q
              refine sX8_isLiteral_42 (d := d) M (0 : Int32) ?_
              refine zpos (show (0 : Int32) = 0 from by decide) ?_
              exact k
  · show Zm E YX8_isLiteral (d + 1) M [(0, vr (some (97, 1, 0)))] 6 [vi (0 : Int32)] Q
    refine sX8_isLiteral_6 (d := d) M (0 : Int32) ?_
    refine zpos (show (0 : Int32) = 0 from by decide) ?_
    refine jX8_isKeyword (d := d) M (8 : Int32) ?_
    refine ⟨h2255, ?_⟩
    refine zneg h2256 ?_
    show Zm E YX8_isLiteral (d + 1) M [(0, vr (some (97, 1, 0)))] 15 [vi (0 : Int32)] Q
    refine sX8_isLiteral_15 (d := d) M (0 : Int32) ?_
    refine zpos (show (0 : Int32) = 0 from by decide) ?_
    refine jX8_isKeyword (d := d) M (17 : Int32) ?_
    refine ⟨h2255, ?_⟩
    refine zneg h2256 ?_
    show Zm E YX8_isLiteral (d + 1) M [(0, vr (some (97, 1, 0)))] 24 [vi (0 : Int32)] Q
    refine sX8_isLiteral_24 (d := d) M (0 : Int32) ?_
    refine zpos (show (0 : Int32) = 0 from by decide) ?_
    refine jX8_isKeyword (d := d) M (25 : Int32) ?_
    refine ⟨h2255, ?_⟩
    refine zneg h2256 ?_
    show Zm E YX8_isLiteral (d + 1) M [(0, vr (some (97, 1, 0)))] 33 [vi (0 : Int32)] Q
    refine sX8_isLiteral_33 (d := d) M (0 : Int32) ?_
    refine zpos (show (0 : Int32) = 0 from by decide) ?_
    refine jX8_isKeyword (d := d) M (15 : Int32) ?_
    refine ⟨h2255, ?_⟩
    refine zneg h2256 ?_
    show Zm E YX8_isLiteral (d + 1) M [] 42 [vi (0 : Int32)] Q
    refine sX8_isLiteral_42 (d := d) M (0 : Int32) ?_
    refine zpos (show (0 : Int32) = 0 from by decide) ?_
    exact k
theorem iX8_isPrefix_42 {E : zE} {d : Nat} {Q : zO → zM → Prop} (M : zM) (s0 : Int32) (k : if s0 = 0 then (vp_in (gi M 97 20) 4002 ∧ (if (gi M 103 ((gi M 97 20)).toNatClampNeg) = (5 : Int32) then (if (gi M 104 ((gi M 97 20)).toNatClampNeg) = (11 : Int32) then (Q (.inl (some (vi (1 : Int32)))) M) else (if (gi M 103 ((gi M 97 20)).toNatClampNeg) = (2 : Int32) then (if (gi M 104 ((gi M 97 20)).toNatClampNeg) = (5 : Int32) then (Q (.inl (some (vi (1 : Int32)))) M) else (if (gi M 104 ((gi M 97 20)).toNatClampNeg) = (27 : Int32) then (Q (.inl (some (vi (1 : Int32)))) M) else (if (gi M 104 ((gi M 97 20)).toNatClampNeg) = (24 : Int32) then (Q (.inl (some (vi (1 : Int32)))) M) else (Q (.inl (some (vi (0 : Int32)))) M)))) else (Q (.inl (some (vi (0 : Int32)))) M))) else (if (gi M 103 ((gi M 97 20)).toNatClampNeg) = (2 : Int32) then (if (gi M 104 ((gi M 97 20)).toNatClampNeg) = (5 : Int32) then (Q (.inl (some (vi (1 : Int32)))) M) else (if (gi M 104 ((gi M 97 20)).toNatClampNeg) = (27 : Int32) then (Q (.inl (some (vi (1 : Int32)))) M) else (if (gi M 104 ((gi M 97 20)).toNatClampNeg) = (24 : Int32) then (Q (.inl (some (vi (1 : Int32)))) M) else (Q (.inl (some (vi (0 : Int32)))) M)))) else (Q (.inl (some (vi (0 : Int32)))) M)))) else (Q (.inl (some (vi (1 : Int32)))) M)) : Zm E YX8_isPrefix (d + 1) M [(0, vr (some (97, 1, 0)))] 42 [vi s0] Q := by
  refine sX8_isPrefix_42 (d := d) M s0 ?_
  refine zite k (fun h2340 k => ?_) (fun h2340 k => ?_)
  · refine jX8_isSign (d := d) M (11 : Int32) ?_
    refine zand k (fun h2341 k => ?_)
    refine zite k (fun h2342 k => ?_) (fun h2342 k => ?_)
    · refine zite k (fun h2343 k => ?_) (fun h2343 k => ?_)
      · show Zm E YX8_isPrefix (d + 1) M [(0, vr (some (97, 1, 0)))] 51 [vi (1 : Int32)] Q
        refine sX8_isPrefix_51 (d := d) M (1 : Int32) ?_
        refine zneg (show ¬ ((1 : Int32) = 0) from by decide) ?_
        exact k
      · show Zm E YX8_isPrefix (d + 1) M [(0, vr (some (97, 1, 0)))] 51 [vi (0 : Int32)] Q
        refine sX8_isPrefix_51 (d := d) M (0 : Int32) ?_
        refine zpos (show (0 : Int32) = 0 from by decide) ?_
        refine jX8_isKeyword (d := d) M (5 : Int32) ?_
        refine ⟨h2341, ?_⟩
        refine zite k (fun h2344 k => ?_) (fun h2344 k => ?_)
        · refine zite k (fun h2345 k => ?_) (fun h2345 k => ?_)
          · show Zm E YX8_isPrefix (d + 1) M [(0, vr (some (97, 1, 0)))] 59 [vi (1 : Int32)] Q
            refine sX8_isPrefix_59 (d := d) M (1 : Int32) ?_
            refine zneg (show ¬ ((1 : Int32) = 0) from by decide) ?_
            exact k
          · show Zm E YX8_isPrefix (d + 1) M [(0, vr (some (97, 1, 0)))] 59 [vi (0 : Int32)] Q
            refine sX8_isPrefix_59 (d := d) M (0 : Int32) ?_
            refine zpos (show (0 : Int32) = 0 from by decide) ?_
            refine jX8_isKeyword (d := d) M (27 : Int32) ?_
            refine ⟨h2341, ?_⟩
            refine zpos h2344 ?_
            refine zite k (fun h2346 k => ?_) (fun h2346 k => ?_)
            · show Zm E YX8_isPrefix (d + 1) M [(0, vr (some (97, 1, 0)))] 68 [vi (1 : Int32)] Q
              refine sX8_isPrefix_68 (d := d) M (1 : Int32) ?_
              refine zneg (show ¬ ((1 : Int32) = 0) from by decide) ?_
              exact k
            · show Zm E YX8_isPrefix (d + 1) M [(0, vr (some (97, 1, 0)))] 68 [vi (0 : Int32)] Q
              refine sX8_isPrefix_68 (d := d) M (0 : Int32) ?_
              refine zpos (show (0 : Int32) = 0 from by decide) ?_
              refine jX8_isKeyword (d := d) M (24 : Int32) ?_
              refine ⟨h2341, ?_⟩
              refine zpos h2344 ?_
              refine zite k (fun h2347 k => ?_) (fun h2347 k => ?_)
              · show Zm E YX8_isPrefix (d + 1) M [] 77 [vi (1 : Int32)] Q
                refine sX8_isPrefix_77 (d := d) M (1 : Int32) ?_
                refine zneg (show ¬ ((1 : Int32) = 0) from by decide) ?_
                exact k
              · show Zm E YX8_isPrefix (d + 1) M [] 77 [vi (0 : Int32)] Q
                refine sX8_isPrefix_77 (d := d) M (0 : Int32) ?_
                refine zpos (show (0 : Int32) = 0 from by decide) ?_
                exact k
        · show Zm E YX8_isPrefix (d + 1) M [(0, vr (some (97, 1, 0)))] 59 [vi (0 : Int32)] Q
          refine sX8_isPrefix_59 (d := d) M (0 : Int32) ?_
          refine zpos (show (0 : Int32) = 0 from by decide) ?_
          refine jX8_isKeyword (d := d) M (27 : Int32) ?_
          refine ⟨h2341, ?_⟩
          refine zneg h2344 ?_
          show Zm E YX8_isPrefix (d + 1) M [(0, vr (some (97, 1, 0)))] 68 [vi (0 : Int32)] Q
          refine sX8_isPrefix_68 (d := d) M (0 : Int32) ?_
          refine zpos (show (0 : Int32) = 0 from by decide) ?_
          refine jX8_isKeyword (d := d) M (24 : Int32) ?_
          refine ⟨h2341, ?_⟩
          refine zneg h2344 ?_
          show Zm E YX8_isPrefix (d + 1) M [] 77 [vi (0 : Int32)] Q
          refine sX8_isPrefix_77 (d := d) M (0 : Int32) ?_
          refine zpos (show (0 : Int32) = 0 from by decide) ?_
          exact k
    · show Zm E YX8_isPrefix (d + 1) M [(0, vr (some (97, 1, 0)))] 51 [vi (0 : Int32)] Q
      refine sX8_isPrefix_51 (d := d) M (0 : Int32) ?_
      refine zpos (show (0 : Int32) = 0 from by decide) ?_
      refine jX8_isKeyword (d := d) M (5 : Int32) ?_
      refine ⟨h2341, ?_⟩
      refine zite k (fun h2348 k => ?_) (fun h2348 k => ?_)
      · refine zite k (fun h2349 k => ?_) (fun h2349 k => ?_)
        · show Zm E YX8_isPrefix (d + 1) M [(0, vr (some (97, 1, 0)))] 59 [vi (1 : Int32)] Q
          refine sX8_isPrefix_59 (d := d) M (1 : Int32) ?_
          refine zneg (show ¬ ((1 : Int32) = 0) from by decide) ?_
          exact k
        · show Zm E YX8_isPrefix (d + 1) M [(0, vr (some (97, 1, 0)))] 59 [vi (0 : Int32)] Q
          refine sX8_isPrefix_59 (d := d) M (0 : Int32) ?_
          refine zpos (show (0 : Int32) = 0 from by decide) ?_
          refine jX8_isKeyword (d := d) M (27 : Int32) ?_
          refine ⟨h2341, ?_⟩
          refine zpos h2348 ?_
          refine zite k (fun h2350 k => ?_) (fun h2350 k => ?_)
          · show Zm E YX8_isPrefix (d + 1) M [(0, vr (some (97, 1, 0)))] 68 [vi (1 : Int32)] Q
            refine sX8_isPrefix_68 (d := d) M (1 : Int32) ?_
            refine zneg (show ¬ ((1 : Int32) = 0) from by decide) ?_
            exact k
          · show Zm E YX8_isPrefix (d + 1) M [(0, vr (some (97, 1, 0)))] 68 [vi (0 : Int32)] Q
            refine sX8_isPrefix_68 (d := d) M (0 : Int32) ?_
            refine zpos (show (0 : Int32) = 0 from by decide) ?_
            refine jX8_isKeyword (d := d) M (24 : Int32) ?_
            refine ⟨h2341, ?_⟩
            refine zpos h2348 ?_
            refine zite k (fun h2351 k => ?_) (fun h2351 k => ?_)
            · show Zm E YX8_isPrefix (d + 1) M [] 77 [vi (1 : Int32)] Q
              refine sX8_isPrefix_77 (d := d) M (1 : Int32) ?_
              refine zneg (show ¬ ((1 : Int32) = 0) from by decide) ?_
              exact k
            · show Zm E YX8_isPrefix (d + 1) M [] 77 [vi (0 : Int32)] Q
              refine sX8_isPrefix_77 (d := d) M (0 : Int32) ?_
              refine zpos (show (0 : Int32) = 0 from by decide) ?_
              exact k
      · show Zm E YX8_isPrefix (d + 1) M [(0, vr (some (97, 1, 0)))] 59 [vi (0 : Int32)] Q
        refine sX8_isPrefix_59 (d := d) M (0 : Int32) ?_
        refine zpos (show (0 : Int32) = 0 from by decide) ?_
        refine jX8_isKeyword (d := d) M (27 : Int32) ?_
        refine ⟨h2341, ?_⟩
        refine zneg h2348 ?_
        show Zm E YX8_isPrefix (d + 1) M [(0, vr (some (97, 1, 0)))] 68 [vi (0 : Int32)] Q
        refine sX8_isPrefix_68 (d := d) M (0 : Int32) ?_
        refine zpos (show (0 : Int32) = 0 from by decide) ?_
        refine jX8_isKeyword (d := d) M (24 : Int32) ?_
        refine ⟨h2341, ?_⟩
        refine zneg h2348 ?_
        show Zm E YX8_isPrefix (d + 1) M [] 77 [vi (0 : Int32)] Q
        refine sX8_isPrefix_77 (d := d) M (0 : Int32) ?_
        refine zpos (show (0 : Int32) = 0 from by decide) ?_
        exact k
  · exact k
theorem iX8_isTarget_0 {E : zE} {d : Nat} {Q : zO → zM → Prop} (M : zM) (l1 : Int32) (k : if l1 = (-1 : Int32) then (Q (.inl (some (vi (0 : Int32)))) M) else (vp_in l1 12000 ∧ (if (gi M 111 (l1).toNatClampNeg) = 0 then (if (gi M 108 (l1).toNatClampNeg) = (2 : Int32) then (Q (.inl (some (vi (1 : Int32)))) M) else (if (gi M 108 (l1).toNatClampNeg) = (7 : Int32) then (Q (.inl (some (vi (1 : Int32)))) M) else (Q (.inl (some (vi (0 : Int32)))) M))) else (Q (.inl (some (vi (0 : Int32)))) M)))) : Zm E YX8_isTarget d M [(0, vr (some (97, 1, 0))), (1, vi l1)] 0 [] Q := by
  refine sX8_isTarget_0 (d := d) M l1 ?_
  refine zite k (fun h2352 k => ?_) (fun h2352 k => ?_)
  · exact k
  · refine zand k (fun h2353 k => ?_)
    refine zite k (fun h2354 k => ?_) (fun h2354 k => ?_)
    · refine ⟨h2353, ?_⟩
      refine zite k (fun h2355 k => ?_) (fun h2355 k => ?_)
      · exact k
      · refine ⟨h2353, ?_⟩
        exact k
    · exact k
theorem iX8_items_5 {E : zE} {d : Nat} {Q : zO → zM → Prop} (M : zM) (l2 : Int32) (l3 : Int32) (k : vp_in (gi M 97 31) 200 ∧ (if (gi M 97 21) = 0 then (vp_in ((gi M 97 20) + (1 : Int32)) 4002 ∧ (if (gi M 103 (((gi M 97 20) + (1 : Int32))).toNatClampNeg) = (5 : Int32) then (if (gi M 104 (((gi M 97 20) + (1 : Int32))).toNatClampNeg) = l2 then (Zm E YX8_items (d + 1) (si (si (si M 97 20 ((gi M 97 20) + (1 : Int32))) 112 ((gi M 97 31)).toNatClampNeg (-1 : Int32)) 97 31 ((gi M 97 31) + (1 : Int32))) [(0, vr (some (97, 1, 0))), (2, vi l2), (3, vi l3), (4, vi (0 : Int32)), (5, vi (0 : Int32))] 44 [] Q) else (Zm E YX8_items (d + 1) (si (si (si M 97 20 ((gi M 97 20) + (1 : Int32))) 112 ((gi M 97 31)).toNatClampNeg (-1 : Int32)) 97 31 ((gi M 97 31) + (1 : Int32))) [(0, vr (some (97, 1, 0))), (2, vi l2), (3, vi l3), (4, vi (0 : Int32)), (5, vi (1 : Int32))] 44 [] Q)) else (Zm E YX8_items (d + 1) (si (si (si M 97 20 ((gi M 97 20) + (1 : Int32))) 112 ((gi M 97 31)).toNatClampNeg (-1 : Int32)) 97 31 ((gi M 97 31) + (1 : Int32))) [(0, vr (some (97, 1, 0))), (2, vi l2), (3, vi l3), (4, vi (0 : Int32)), (5, vi (1 : Int32))] 44 [] Q))) else (Zm E YX8_items (d + 1) (si (si (si M 97 20 ((gi M 97 20) + (1 : Int32))) 112 ((gi M 97 31)).toNatClampNeg (-1 : Int32)) 97 31 ((gi M 97 31) + (1 : Int32))) [(0, vr (some (97, 1, 0))), (2, vi l2), (3, vi l3), (4, vi (0 : Int32)), (5, vi (0 : Int32))] 44 [] Q))) : Zm E YX8_items (d + 1) M [(0, vr (some (97, 1, 0))), (2, vi l2), (3, vi l3)] 5 [] Q := by
  refine sX8_items_5 (d := d) M l2 l3 ?_
  refine sX8_beginList_0 (d := d) (si M 97 20 ((gi M 97 20) + (1 : Int32)))  ?_
  refine zand k (fun h2357 k => ?_)
  show Zm E YX8_items (d + 1) (si (si (si M 97 20 ((gi M 97 20) + (1 : Int32))) 112 ((gi M 97 31)).toNatClampNeg (-1 : Int32)) 97 31 ((gi M 97 31) + (1 : Int32))) [(0, vr (some (97, 1, 0))), (2, vi l2), (3, vi l3)] 19 [] Q
  refine sX8_items_19 (d := d) (si (si (si M 97 20 ((gi M 97 20) + (1 : Int32))) 112 ((gi M 97 31)).toNatClampNeg (-1 : Int32)) 97 31 ((gi M 97 31) + (1 : Int32))) l2 l3 ?_
  refine zite k (fun h2358 k => ?_) (fun h2358 k => ?_)
  · refine jX8_isSign (d := d) (si (si (si M 97 20 ((gi M 97 20) + (1 : Int32))) 112 ((gi M 97 31)).toNatClampNeg (-1 : Int32)) 97 31 ((gi M 97 31) + (1 : Int32))) l2 ?_
    refine zand k (fun h2359 k => ?_)
    refine zite k (fun h2360 k => ?_) (fun h2360 k => ?_)
    · refine zite k (fun h2361 k => ?_) (fun h2361 k => ?_)
      · show Zm E YX8_items (d + 1) (si (si (si M 97 20 ((gi M 97 20) + (1 : Int32))) 112 ((gi M 97 31)).toNatClampNeg (-1 : Int32)) 97 31 ((gi M 97 31) + (1 : Int32))) [(0, vr (some (97, 1, 0))), (2, vi l2), (3, vi l3), (4, vi (0 : Int32))] 34 [vi (1 : Int32)] Q
        refine sX8_items_34 (d := d) (si (si (si M 97 20 ((gi M 97 20) + (1 : Int32))) 112 ((gi M 97 31)).toNatClampNeg (-1 : Int32)) 97 31 ((gi M 97 31) + (1 : Int32))) l2 l3 (0 : Int32) (1 : Int32) ?_
        refine zneg (show ¬ ((1 : Int32) = 0) from by decide) ?_
        exact k
      · show Zm E YX8_items (d + 1) (si (si (si M 97 20 ((gi M 97 20) + (1 : Int32))) 112 ((gi M 97 31)).toNatClampNeg (-1 : Int32)) 97 31 ((gi M 97 31) + (1 : Int32))) [(0, vr (some (97, 1, 0))), (2, vi l2), (3, vi l3), (4, vi (0 : Int32))] 34 [vi (0 : Int32)] Q
        refine sX8_items_34 (d := d) (si (si (si M 97 20 ((gi M 97 20) + (1 : Int32))) 112 ((gi M 97 31)).toNatClampNeg (-1 : Int32)) 97 31 ((gi M 97 31) + (1 : Int32))) l2 l3 (0 : Int32) (0 : Int32) ?_
        refine zpos (show (0 : Int32) = 0 from by decide) ?_
        exact k
    · show Zm E YX8_items (d + 1) (si (si (si M 97 20 ((gi M 97 20) + (1 : Int32))) 112 ((gi M 97 31)).toNatClampNeg (-1 : Int32)) 97 31 ((gi M 97 31) + (1 : Int32))) [(0, vr (some (97, 1, 0))), (2, vi l2), (3, vi l3), (4, vi (0 : Int32))] 34 [vi (0 : Int32)] Q
      refine sX8_items_34 (d := d) (si (si (si M 97 20 ((gi M 97 20) + (1 : Int32))) 112 ((gi M 97 31)).toNatClampNeg (-1 : Int32)) 97 31 ((gi M 97 31) + (1 : Int32))) l2 l3 (0 : Int32) (0 : Int32) ?_
      refine zpos (show (0 : Int32) = 0 from by decide) ?_
      exact k
  · exact k
theorem iX8_items_44 {E : zE} {d : Nat} {Q : zO → zM → Prop} (M : zM) (l2 : Int32) (l3 : Int32) (l4 : Int32) (l5 : Int32) (k : if l5 = 0 then (Zm E YX8_must d (si M 97 23 ((gi M 97 23) - (1 : Int32))) (zargs 0 [vr (some (97, 1, 0)), vi l2]) 0 [] (zma E YX8_items (d + 1) [(0, vr (some (97, 1, 0)))] 122 3 [] Q)) else (Zm E YX8_assigned d M (zargs 0 [vr (some (97, 1, 0)), vi (1 : Int32)]) 0 [] (zma E YX8_items (d + 1) [(0, vr (some (97, 1, 0))), (2, vi l2), (3, vi l3), (4, vi l4)] 55 3 [vi (18 : Int32), vr (some (97, 1, 0)), vr (some (97, 1, 0))] Q))) : Zm E YX8_items (d + 1) M [(0, vr (some (97, 1, 0))), (2, vi l2), (3, vi l3), (4, vi l4), (5, vi l5)] 44 [] Q := by
  refine sX8_items_44 (d := d) M l2 l3 l4 l5 ?_
  refine zite k (fun h2362 k => ?_) (fun h2362 k => ?_)
  · refine sX8_close_0 (d := d) M  ?_
    show Zm E YX8_items (d + 1) (si M 97 23 ((gi M 97 23) - (1 : Int32))) [(0, vr (some (97, 1, 0))), (2, vi l2)] 120 [] Q
    refine sX8_items_120 (d := d) (si M 97 23 ((gi M 97 23) - (1 : Int32))) l2 ?_
    exact k
  · exact k
theorem iX8_items_125 {E : zE} {d : Nat} {Q : zO → zM → Prop} (M : zM) (s0 : Int32) (k : vp_in ((gi M 97 31) - (1 : Int32)) 200 ∧ (Q (.inl (some (vi (gi M 112 (((gi M 97 31) - (1 : Int32))).toNatClampNeg)))) (si M 97 31 ((gi M 97 31) - (1 : Int32))))) : Zm E YX8_items (d + 1) M [(0, vr (some (97, 1, 0)))] 125 [vi s0] Q := by
  refine sX8_items_125 (d := d) M s0 ?_
  refine sX8_ended_0 (d := d) M  ?_
  refine zand k (fun h2363 k => ?_)
  show Zm E YX8_items (d + 1) (si M 97 31 ((gi M 97 31) - (1 : Int32))) [] 131 [vi (gi M 112 (((gi M 97 31) - (1 : Int32))).toNatClampNeg)] Q
  refine sX8_items_131 (d := d) (si M 97 31 ((gi M 97 31) - (1 : Int32))) (gi M 112 (((gi M 97 31) - (1 : Int32))).toNatClampNeg) ?_
  exact k
theorem iX8_items_63 {E : zE} {d : Nat} {Q : zO → zM → Prop} (M : zM) (l2 : Int32) (l3 : Int32) (l4 : Int32) (s0 : Int32) (k : vp_in ((gi M 97 31) - (1 : Int32)) 200 ∧ (if (gi M 112 (((gi M 97 31) - (1 : Int32))).toNatClampNeg) = (-1 : Int32) then (if (gi M 97 21) = 0 then (Zm E YX8_isSign d (si (si M 112 (((gi M 97 31) - (1 : Int32))).toNatClampNeg s0) 113 (((gi M 97 31) - (1 : Int32))).toNatClampNeg s0) (zargs 0 [vr (some (97, 1, 0)), vi (32 : Int32)]) 0 [] (zma E YX8_items (d + 1) [(0, vr (some (97, 1, 0))), (2, vi l2), (3, vi l3), (4, vi (l4 + (1 : Int32)))] 79 3 [] Q)) else (Zm E YX8_items (d + 1) (si (si M 112 (((gi M 97 31) - (1 : Int32))).toNatClampNeg s0) 113 (((gi M 97 31) - (1 : Int32))).toNatClampNeg s0) [(0, vr (some (97, 1, 0))), (2, vi l2), (3, vi l3), (4, vi (l4 + (1 : Int32))), (5, vi (0 : Int32))] 44 [] Q)) else (vp_in (gi M 113 (((gi M 97 31) - (1 : Int32))).toNatClampNeg) 12000 ∧ (if (gi M 97 21) = 0 then (Zm E YX8_isSign d (si (si M 110 ((gi M 113 (((gi M 97 31) - (1 : Int32))).toNatClampNeg)).toNatClampNeg s0) 113 (((gi M 97 31) - (1 : Int32))).toNatClampNeg s0) (zargs 0 [vr (some (97, 1, 0)), vi (32 : Int32)]) 0 [] (zma E YX8_items (d + 1) [(0, vr (some (97, 1, 0))), (2, vi l2), (3, vi l3), (4, vi (l4 + (1 : Int32)))] 79 3 [] Q)) else (Zm E YX8_items (d + 1) (si (si M 110 ((gi M 113 (((gi M 97 31) - (1 : Int32))).toNatClampNeg)).toNatClampNeg s0) 113 (((gi M 97 31) - (1 : Int32))).toNatClampNeg s0) [(0, vr (some (97, 1, 0))), (2, vi l2), (3, vi l3), (4, vi (l4 + (1 : Int32))), (5, vi (0 : Int32))] 44 [] Q))))) : Zm E YX8_items (d + 1) M [(0, vr (some (97, 1, 0))), (2, vi l2), (3, vi l3), (4, vi l4)] 63 [vi s0, vr (some (97, 1, 0))] Q := by
  refine sX8_items_63 (d := d) M l2 l3 l4 s0 ?_
  refine jX8_add (d := d) M s0 ?_
  refine zand k (fun h2377 k => ?_)
  refine zite k (fun h2378 k => ?_) (fun h2378 k => ?_)
  · show Zm E YX8_items (d + 1) (si (si M 112 (((gi M 97 31) - (1 : Int32))).toNatClampNeg s0) 113 (((gi M 97 31) - (1 : Int32))).toNatClampNeg s0) [(0, vr (some (97, 1, 0))), (2, vi l2), (3, vi l3), (4, vi l4)] 66 [] Q
    refine sX8_items_66 (d := d) (si (si M 112 (((gi M 97 31) - (1 : Int32))).toNatClampNeg s0) 113 (((gi M 97 31) - (1 : Int32))).toNatClampNeg s0) l2 l3 l4 ?_
    refine zite k (fun h2379 k => ?_) (fun h2379 k => ?_)
    · exact k
    · refine sX8_items_96 (d := d) (si (si M 112 (((gi M 97 31) - (1 : Int32))).toNatClampNeg s0) 113 (((gi M 97 31) - (1 : Int32))).toNatClampNeg s0) l2 l3 (l4 + (1 : Int32)) (0 : Int32) ?_
      refine zpos (show (0 : Int32) = 0 from by decide) ?_
      exact k
  · refine zand k (fun h2380 k => ?_)
    show Zm E YX8_items (d + 1) (si (si M 110 ((gi M 113 (((gi M 97 31) - (1 : Int32))).toNatClampNeg)).toNatClampNeg s0) 113 (((gi M 97 31) - (1 : Int32))).toNatClampNeg s0) [(0, vr (some (97, 1, 0))), (2, vi l2), (3, vi l3), (4, vi l4)] 66 [] Q
    refine sX8_items_66 (d := d) (si (si M 110 ((gi M 113 (((gi M 97 31) - (1 : Int32))).toNatClampNeg)).toNatClampNeg s0) 113 (((gi M 97 31) - (1 : Int32))).toNatClampNeg s0) l2 l3 l4 ?_
    refine zite k (fun h2381 k => ?_) (fun h2381 k => ?_)
    · exact k
    · refine sX8_items_96 (d := d) (si (si M 110 ((gi M 113 (((gi M 97 31) - (1 : Int32))).toNatClampNeg)).toNatClampNeg s0) 113 (((gi M 97 31) - (1 : Int32))).toNatClampNeg s0) l2 l3 (l4 + (1 : Int32)) (0 : Int32) ?_
      refine zpos (show (0 : Int32) = 0 from by decide) ?_
      exact k
theorem iX8_items_82 {E : zE} {d : Nat} {Q : zO → zM → Prop} (M : zM) (l2 : Int32) (l3 : Int32) (l4 : Int32) (s0 : Int32) (k : if s0 = 0 then (Zm E YX8_items (d + 1) M [(0, vr (some (97, 1, 0))), (2, vi l2), (3, vi l3), (4, vi l4), (5, vi (0 : Int32))] 44 [] Q) else (if l3 ≤ l4 then (Zm E YX8_items (d + 1) M [(0, vr (some (97, 1, 0))), (2, vi l2), (3, vi l3), (4, vi l4), (5, vi (0 : Int32))] 44 [] Q) else (Zm E YX8_items (d + 1) (si M 97 20 ((gi M 97 20) + (1 : Int32))) [(0, vr (some (97, 1, 0))), (2, vi l2), (3, vi l3), (4, vi l4), (5, vi (1 : Int32))] 44 [] Q))) : Zm E YX8_items (d + 1) M [(0, vr (some (97, 1, 0))), (2, vi l2), (3, vi l3), (4, vi l4)] 82 [vi s0] Q := by
  refine sX8_items_82 (d := d) M l2 l3 l4 s0 ?_
  refine zite k (fun h2382 k => ?_) (fun h2382 k => ?_)
  · refine sX8_items_96 (d := d) M l2 l3 l4 (0 : Int32) ?_
    refine zpos (show (0 : Int32) = 0 from by decide) ?_
    exact k
  · refine zite k (fun h2383 k => ?_) (fun h2383 k => ?_)
    · refine sX8_items_96 (d := d) M l2 l3 l4 (0 : Int32) ?_
      refine zpos (show (0 : Int32) = 0 from by decide) ?_
      exact k
    · refine sX8_items_96 (d := d) M l2 l3 l4 (1 : Int32) ?_
      refine zneg (show ¬ ((1 : Int32) = 0) from by decide) ?_
      exact k
theorem iX8_left_0 {E : zE} {d : Nat} {Q : zO → zM → Prop} (M : zM)  (k : vp_in (gi M 97 20) 4002 ∧ (if (gi M 103 ((gi M 97 20)).toNatClampNeg) = (2 : Int32) then (if (gi M 104 ((gi M 97 20)).toNatClampNeg) = (16 : Int32) then (Zm E YX8_fresh d M (zargs 0 [vr (some (97, 1, 0))]) 0 [] (zma E YX8_left (d + 1) [(0, vr (some (97, 1, 0)))] 10 3 [] Q)) else (Zm E YX8_primary d M (zargs 0 [vr (some (97, 1, 0))]) 0 [] (zma E YX8_left (d + 1) [(0, vr (some (97, 1, 0)))] 17 3 [] Q))) else (Zm E YX8_primary d M (zargs 0 [vr (some (97, 1, 0))]) 0 [] (zma E YX8_left (d + 1) [(0, vr (some (97, 1, 0)))] 17 3 [] Q)))) : Zm E YX8_left (d + 1) M [(0, vr (some (97, 1, 0)))] 0 [] Q := by
  refine sX8_left_0 (d := d) M  ?_
  refine jX8_isKeyword (d := d) M (16 : Int32) ?_
  refine zand k (fun h2384 k => ?_)
  refine zite k (fun h2385 k => ?_) (fun h2385 k => ?_)
  · refine zite k (fun h2386 k => ?_) (fun h2386 k => ?_)
    · show Zm E YX8_left (d + 1) M [(0, vr (some (97, 1, 0)))] 6 [vi (1 : Int32)] Q
      refine sX8_left_6 (d := d) M (1 : Int32) ?_
      refine zneg (show ¬ ((1 : Int32) = 0) from by decide) ?_
      exact k
    · show Zm E YX8_left (d + 1) M [(0, vr (some (97, 1, 0)))] 6 [vi (0 : Int32)] Q
      refine sX8_left_6 (d := d) M (0 : Int32) ?_
      refine zpos (show (0 : Int32) = 0 from by decide) ?_
      exact k
  · show Zm E YX8_left (d + 1) M [(0, vr (some (97, 1, 0)))] 6 [vi (0 : Int32)] Q
    refine sX8_left_6 (d := d) M (0 : Int32) ?_
    refine zpos (show (0 : Int32) = 0 from by decide) ?_
    exact k
theorem iX8_left_13 {E : zE} {d : Nat} {Q : zO → zM → Prop} (M : zM) (s0 : Int32) (k : Zm E YX8_left (d + 1) M [(0, vr (some (97, 1, 0))), (1, vi s0)] 21 [] Q) : Zm E YX8_left (d + 1) M [(0, vr (some (97, 1, 0)))] 13 [vi s0] Q := by
  refine sX8_left_13 (d := d) M s0 ?_
  refine sX8_left_20 (d := d) M s0 ?_
  exact k
theorem iX8_left_21 {E : zE} {d : Nat} {Q : zO → zM → Prop} (M : zM) (l1 : Int32) (k : if (gi M 97 21) = 0 then (vp_in (gi M 97 20) 4002 ∧ (if (gi M 103 ((gi M 97 20)).toNatClampNeg) = (5 : Int32) then (if (gi M 104 ((gi M 97 20)).toNatClampNeg) = (30 : Int32) then (if (gi M 104 ((gi M 97 20)).toNatClampNeg) = (26 : Int32) then (Zm E YX8_arguments d M (zargs 0 [vr (some (97, 1, 0))]) 0 [] (zma E YX8_left (d + 1) [(0, vr (some (97, 1, 0)))] 69 3 [vi l1, vi (8 : Int32), vr (some (97, 1, 0))] Q)) else (Zm E YX8_member d M (zargs 0 [vr (some (97, 1, 0)), vi l1]) 0 [] (zma E YX8_left (d + 1) [(0, vr (some (97, 1, 0)))] 81 3 [] Q))) else (if (gi M 104 ((gi M 97 20)).toNatClampNeg) = (28 : Int32) then (if (gi M 104 ((gi M 97 20)).toNatClampNeg) = (26 : Int32) then (Zm E YX8_arguments d M (zargs 0 [vr (some (97, 1, 0))]) 0 [] (zma E YX8_left (d + 1) [(0, vr (some (97, 1, 0)))] 69 3 [vi l1, vi (8 : Int32), vr (some (97, 1, 0))] Q)) else (Zm E YX8_member d M (zargs 0 [vr (some (97, 1, 0)), vi l1]) 0 [] (zma E YX8_left (d + 1) [(0, vr (some (97, 1, 0)))] 81 3 [] Q))) else (if (gi M 104 ((gi M 97 20)).toNatClampNeg) = (26 : Int32) then (Zm E YX8_arguments d M (zargs 0 [vr (some (97, 1, 0))]) 0 [] (zma E YX8_left (d + 1) [(0, vr (some (97, 1, 0)))] 69 3 [vi l1, vi (8 : Int32), vr (some (97, 1, 0))] Q)) else (Q (.inl (some (vi l1))) M)))) else (Q (.inl (some (vi l1))) M))) else (Q (.inl (some (vi l1))) M)) : Zm E YX8_left (d + 1) M [(0, vr (some (97, 1, 0))), (1, vi l1)] 21 [] Q := by
  refine sX8_left_21 (d := d) M l1 ?_
  refine zite k (fun h2387 k => ?_) (fun h2387 k => ?_)
  · refine jX8_isSign (d := d) M (30 : Int32) ?_
    refine zand k (fun h2388 k => ?_)
    refine zite k (fun h2389 k => ?_) (fun h2389 k => ?_)
    · refine zite k (fun h2390 k => ?_) (fun h2390 k => ?_)
      · show Zm E YX8_left (d + 1) M [(0, vr (some (97, 1, 0))), (1, vi l1)] 34 [vi (1 : Int32)] Q
        refine sX8_left_34 (d := d) M l1 (1 : Int32) ?_
        refine zneg (show ¬ ((1 : Int32) = 0) from by decide) ?_
        refine jX8_isSign (d := d) M (26 : Int32) ?_
        refine ⟨h2388, ?_⟩
        refine zpos h2389 ?_
        refine zite k (fun h2391 k => ?_) (fun h2391 k => ?_)
        · show Zm E YX8_left (d + 1) M [(0, vr (some (97, 1, 0))), (1, vi l1)] 61 [vi (1 : Int32)] Q
          refine sX8_left_61 (d := d) M l1 (1 : Int32) ?_
          refine zneg (show ¬ ((1 : Int32) = 0) from by decide) ?_
          exact k
        · show Zm E YX8_left (d + 1) M [(0, vr (some (97, 1, 0))), (1, vi l1)] 61 [vi (0 : Int32)] Q
          refine sX8_left_61 (d := d) M l1 (0 : Int32) ?_
          refine zpos (show (0 : Int32) = 0 from by decide) ?_
          exact k
      · show Zm E YX8_left (d + 1) M [(0, vr (some (97, 1, 0))), (1, vi l1)] 34 [vi (0 : Int32)] Q
        refine sX8_left_34 (d := d) M l1 (0 : Int32) ?_
        refine zpos (show (0 : Int32) = 0 from by decide) ?_
        refine jX8_isSign (d := d) M (28 : Int32) ?_
        refine ⟨h2388, ?_⟩
        refine zpos h2389 ?_
        refine zite k (fun h2392 k => ?_) (fun h2392 k => ?_)
        · show Zm E YX8_left (d + 1) M [(0, vr (some (97, 1, 0))), (1, vi l1)] 43 [vi (1 : Int32)] Q
          refine sX8_left_43 (d := d) M l1 (1 : Int32) ?_
          refine zneg (show ¬ ((1 : Int32) = 0) from by decide) ?_
          refine jX8_isSign (d := d) M (26 : Int32) ?_
          refine ⟨h2388, ?_⟩
          refine zpos h2389 ?_
          refine zite k (fun h2393 k => ?_) (fun h2393 k => ?_)
          · show Zm E YX8_left (d + 1) M [(0, vr (some (97, 1, 0))), (1, vi l1)] 61 [vi (1 : Int32)] Q
            refine sX8_left_61 (d := d) M l1 (1 : Int32) ?_
            refine zneg (show ¬ ((1 : Int32) = 0) from by decide) ?_
            exact k
          · show Zm E YX8_left (d + 1) M [(0, vr (some (97, 1, 0))), (1, vi l1)] 61 [vi (0 : Int32)] Q
            refine sX8_left_61 (d := d) M l1 (0 : Int32) ?_
            refine zpos (show (0 : Int32) = 0 from by decide) ?_
            exact k
        · show Zm E YX8_left (d + 1) M [(0, vr (some (97, 1, 0))), (1, vi l1)] 43 [vi (0 : Int32)] Q
          refine sX8_left_43 (d := d) M l1 (0 : Int32) ?_
          refine zpos (show (0 : Int32) = 0 from by decide) ?_
          refine jX8_isSign (d := d) M (26 : Int32) ?_
          refine ⟨h2388, ?_⟩
          refine zpos h2389 ?_
          refine zite k (fun h2394 k => ?_) (fun h2394 k => ?_)
          · show Zm E YX8_left (d + 1) M [(0, vr (some (97, 1, 0))), (1, vi l1)] 52 [vi (1 : Int32)] Q
            refine sX8_left_52 (d := d) M l1 (1 : Int32) ?_
            refine zneg (show ¬ ((1 : Int32) = 0) from by decide) ?_
            refine jX8_isSign (d := d) M (26 : Int32) ?_
            refine ⟨h2388, ?_⟩
            refine zpos h2389 ?_
            refine zpos h2394 ?_
            show Zm E YX8_left (d + 1) M [(0, vr (some (97, 1, 0))), (1, vi l1)] 61 [vi (1 : Int32)] Q
            refine sX8_left_61 (d := d) M l1 (1 : Int32) ?_
            refine zneg (show ¬ ((1 : Int32) = 0) from by decide) ?_
            exact k
          · show Zm E YX8_left (d + 1) M [(0, vr (some (97, 1, 0))), (1, vi l1)] 52 [vi (0 : Int32)] Q
            refine sX8_left_52 (d := d) M l1 (0 : Int32) ?_
            refine zpos (show (0 : Int32) = 0 from by decide) ?_
            exact k
    · show Zm E YX8_left (d + 1) M [(0, vr (some (97, 1, 0))), (1, vi l1)] 34 [vi (0 : Int32)] Q
      refine sX8_left_34 (d := d) M l1 (0 : Int32) ?_
      refine zpos (show (0 : Int32) = 0 from by decide) ?_
      refine jX8_isSign (d := d) M (28 : Int32) ?_
      refine ⟨h2388, ?_⟩
      refine zneg h2389 ?_
      show Zm E YX8_left (d + 1) M [(0, vr (some (97, 1, 0))), (1, vi l1)] 43 [vi (0 : Int32)] Q
      refine sX8_left_43 (d := d) M l1 (0 : Int32) ?_
      refine zpos (show (0 : Int32) = 0 from by decide) ?_
      refine jX8_isSign (d := d) M (26 : Int32) ?_
      refine ⟨h2388, ?_⟩
      refine zneg h2389 ?_
      show Zm E YX8_left (d + 1) M [(0, vr (some (97, 1, 0))), (1, vi l1)] 52 [vi (0 : Int32)] Q
      refine sX8_left_52 (d := d) M l1 (0 : Int32) ?_
      refine zpos (show (0 : Int32) = 0 from by decide) ?_
      exact k
  · exact k
theorem iX8_left_76 {E : zE} {d : Nat} {Q : zO → zM → Prop} (M : zM) (s0 : Int32) (k : Zm E YX8_left (d + 1) M [(0, vr (some (97, 1, 0))), (1, vi s0)] 21 [] Q) : Zm E YX8_left (d + 1) M [(0, vr (some (97, 1, 0)))] 76 [vi s0] Q := by
  refine sX8_left_76 (d := d) M s0 ?_
  refine sX8_left_84 (d := d) M s0 ?_
  exact k
theorem iX8_member_0 {E : zE} {d : Nat} {Q : zO → zM → Prop} (M : zM) (l1 : Int32) (k : vp_in (gi M 97 20) 4002 ∧ (if (gi M 103 ((gi M 97 20)).toNatClampNeg) = (5 : Int32) then (if (gi M 104 ((gi M 97 20)).toNatClampNeg) = (30 : Int32) then (vp_in ((gi M 97 20) + (1 : Int32)) 4002 ∧ (if (gi M 103 (((gi M 97 20) + (1 : Int32))).toNatClampNeg) = (1 : Int32) then (Zm E YX8_nameAt d (si (si M 97 20 ((gi M 97 20) + (1 : Int32))) 97 20 (((gi M 97 20) + (1 : Int32)) + (1 : Int32))) (zargs 0 [vr (some (97, 1, 0)), vi ((((gi M 97 20) + (1 : Int32)) + (1 : Int32)) - (1 : Int32))]) 0 [] (zma E YX8_member (d + 1) [] 78 3 [vi (6 : Int32), vi (0 : Int32), vr (some (97, 1, 0)), vi l1, vi (7 : Int32), vr (some (97, 1, 0))] Q)) else (if (gi M 103 (((gi M 97 20) + (1 : Int32))).toNatClampNeg) = (2 : Int32) then (Zm E YX8_nameAt d (si (si M 97 20 ((gi M 97 20) + (1 : Int32))) 97 20 (((gi M 97 20) + (1 : Int32)) + (1 : Int32))) (zargs 0 [vr (some (97, 1, 0)), vi ((((gi M 97 20) + (1 : Int32)) + (1 : Int32)) - (1 : Int32))]) 0 [] (zma E YX8_member (d + 1) [] 78 3 [vi (6 : Int32), vi (0 : Int32), vr (some (97, 1, 0)), vi l1, vi (7 : Int32), vr (some (97, 1, 0))] Q)) else (if (gi M 97 21) = 0 then (if (gi M 103 (((gi M 97 20) + (1 : Int32))).toNatClampNeg) = (6 : Int32) then (Q (.inl (some (vi (-1 : Int32)))) (si (si (si M 97 20 ((gi M 97 20) + (1 : Int32))) 97 21 (1 : Int32)) 97 22 (gi M 107 (((gi M 97 20) + (1 : Int32))).toNatClampNeg))) else (Q (.inl (some (vi (-1 : Int32)))) (si (si (si M 97 20 ((gi M 97 20) + (1 : Int32))) 97 21 (2 : Int32)) 97 22 (gi M 107 (((gi M 97 20) + (1 : Int32))).toNatClampNeg)))) else (Q (.inl (some (vi (-1 : Int32)))) (si M 97 20 ((gi M 97 20) + (1 : Int32)))))))) else (Zm E YX8_open d M (zargs 0 [vr (some (97, 1, 0)), vi (1 : Int32)]) 0 [] (zma E YX8_member (d + 1) [(0, vr (some (97, 1, 0))), (1, vi l1)] 92 3 [] Q))) else (Zm E YX8_open d M (zargs 0 [vr (some (97, 1, 0)), vi (1 : Int32)]) 0 [] (zma E YX8_member (d + 1) [(0, vr (some (97, 1, 0))), (1, vi l1)] 92 3 [] Q)))) : Zm E YX8_member (d + 1) M [(0, vr (some (97, 1, 0))), (1, vi l1)] 0 [] Q := by
  refine sX8_member_0 (d := d) M l1 ?_
  refine jX8_isSign (d := d) M (30 : Int32) ?_
  refine zand k (fun h2395 k => ?_)
  refine zite k (fun h2396 k => ?_) (fun h2396 k => ?_)
  · refine zite k (fun h2397 k => ?_) (fun h2397 k => ?_)
    · show Zm E YX8_member (d + 1) M [(0, vr (some (97, 1, 0))), (1, vi l1)] 6 [vi (1 : Int32)] Q
      refine sX8_member_6 (d := d) M l1 (1 : Int32) ?_
      refine zneg (show ¬ ((1 : Int32) = 0) from by decide) ?_
      refine zand k (fun h2398 k => ?_)
      refine zite k (fun h2399 k => ?_) (fun h2399 k => ?_)
      · refine sX8_member_53 (d := d) (si M 97 20 ((gi M 97 20) + (1 : Int32))) l1 ?_
        exact k
      · refine ⟨h2398, ?_⟩
        refine zite k (fun h2400 k => ?_) (fun h2400 k => ?_)
        · refine sX8_member_53 (d := d) (si M 97 20 ((gi M 97 20) + (1 : Int32))) l1 ?_
          exact k
        · refine jX8_fail (d := d) (si M 97 20 ((gi M 97 20) + (1 : Int32))) (2 : Int32) ?_
          refine zite k (fun h2401 k => ?_) (fun h2401 k => ?_)
          · refine ⟨h2398, ?_⟩
            refine zite k (fun h2402 k => ?_) (fun h2402 k => ?_)
            · show Zm E YX8_member (d + 1) (si (si (si M 97 20 ((gi M 97 20) + (1 : Int32))) 97 21 (1 : Int32)) 97 22 (gi M 107 (((gi M 97 20) + (1 : Int32))).toNatClampNeg)) [] 50 [vi (0 : Int32)] Q
              refine sX8_member_50 (d := d) (si (si (si M 97 20 ((gi M 97 20) + (1 : Int32))) 97 21 (1 : Int32)) 97 22 (gi M 107 (((gi M 97 20) + (1 : Int32))).toNatClampNeg)) (0 : Int32) ?_
              exact k
            · show Zm E YX8_member (d + 1) (si (si (si M 97 20 ((gi M 97 20) + (1 : Int32))) 97 21 (2 : Int32)) 97 22 (gi M 107 (((gi M 97 20) + (1 : Int32))).toNatClampNeg)) [] 50 [vi (0 : Int32)] Q
              refine sX8_member_50 (d := d) (si (si (si M 97 20 ((gi M 97 20) + (1 : Int32))) 97 21 (2 : Int32)) 97 22 (gi M 107 (((gi M 97 20) + (1 : Int32))).toNatClampNeg)) (0 : Int32) ?_
              exact k
          · show Zm E YX8_member (d + 1) (si M 97 20 ((gi M 97 20) + (1 : Int32))) [] 50 [vi (0 : Int32)] Q
            refine sX8_member_50 (d := d) (si M 97 20 ((gi M 97 20) + (1 : Int32))) (0 : Int32) ?_
            exact k
    · show Zm E YX8_member (d + 1) M [(0, vr (some (97, 1, 0))), (1, vi l1)] 6 [vi (0 : Int32)] Q
      refine sX8_member_6 (d := d) M l1 (0 : Int32) ?_
      refine zpos (show (0 : Int32) = 0 from by decide) ?_
      exact k
  · show Zm E YX8_member (d + 1) M [(0, vr (some (97, 1, 0))), (1, vi l1)] 6 [vi (0 : Int32)] Q
    refine sX8_member_6 (d := d) M l1 (0 : Int32) ?_
    refine zpos (show (0 : Int32) = 0 from by decide) ?_
    exact k
theorem iX8_member_95 {E : zE} {d : Nat} {Q : zO → zM → Prop} (M : zM) (l1 : Int32) (k : if (gi M 97 21) ≤ 0 then (Zm E YX8_expression d (si M 97 20 ((gi M 97 20) + (1 : Int32))) (zargs 0 [vr (some (97, 1, 0)), vi (1 : Int32)]) 0 [] (zma E YX8_member (d + 1) [(0, vr (some (97, 1, 0))), (1, vi l1)] 118 3 [] Q)) else (Zm E YX8_must d (si (si M 97 20 ((gi M 97 20) + (1 : Int32))) 97 23 ((gi M 97 23) - (1 : Int32))) (zargs 0 [vr (some (97, 1, 0)), vi (29 : Int32)]) 0 [] (zma E YX8_member (d + 1) [(0, vr (some (97, 1, 0))), (1, vi l1), (2, vi (-1 : Int32))] 129 3 [] Q))) : Zm E YX8_member (d + 1) M [(0, vr (some (97, 1, 0))), (1, vi l1)] 95 [] Q := by
  refine sX8_member_95 (d := d) M l1 ?_
  refine zite k (fun h2403 k => ?_) (fun h2403 k => ?_)
  · exact k
  · refine sX8_member_121 (d := d) (si M 97 20 ((gi M 97 20) + (1 : Int32))) l1 (-1 : Int32) ?_
    refine sX8_close_0 (d := d) (si M 97 20 ((gi M 97 20) + (1 : Int32)))  ?_
    show Zm E YX8_member (d + 1) (si (si M 97 20 ((gi M 97 20) + (1 : Int32))) 97 23 ((gi M 97 23) - (1 : Int32))) [(0, vr (some (97, 1, 0))), (1, vi l1), (2, vi (-1 : Int32))] 126 [] Q
    refine sX8_member_126 (d := d) (si (si M 97 20 ((gi M 97 20) + (1 : Int32))) 97 23 ((gi M 97 23) - (1 : Int32))) l1 (-1 : Int32) ?_
    exact k
theorem iX8_member_121 {E : zE} {d : Nat} {Q : zO → zM → Prop} (M : zM) (l1 : Int32) (s0 : Int32) (k : Zm E YX8_must d (si M 97 23 ((gi M 97 23) - (1 : Int32))) (zargs 0 [vr (some (97, 1, 0)), vi (29 : Int32)]) 0 [] (zma E YX8_member (d + 1) [(0, vr (some (97, 1, 0))), (1, vi l1), (2, vi s0)] 129 3 [] Q)) : Zm E YX8_member (d + 1) M [(0, vr (some (97, 1, 0))), (1, vi l1)] 121 [vi s0] Q := by
  refine sX8_member_121 (d := d) M l1 s0 ?_
  refine sX8_close_0 (d := d) M  ?_
  show Zm E YX8_member (d + 1) (si M 97 23 ((gi M 97 23) - (1 : Int32))) [(0, vr (some (97, 1, 0))), (1, vi l1), (2, vi s0)] 126 [] Q
  refine sX8_member_126 (d := d) (si M 97 23 ((gi M 97 23) - (1 : Int32))) l1 s0 ?_
  exact k
theorem iX8_mustWord_0 {E : zE} {d : Nat} {Q : zO → zM → Prop} (M : zM) (l1 : Int32) (k : if 0 < (gi M 97 21) then (if (gi M 97 21) = 0 then (vp_in (gi M 97 20) 4002 ∧ (if (gi M 103 ((gi M 97 20)).toNatClampNeg) = (6 : Int32) then ((narrow .boolean (.int (0 : Int32)) = .int (0 : Int32)) ∧ (Q (.inl (some (vi (0 : Int32)))) (si (si M 97 21 (1 : Int32)) 97 22 (gi M 107 ((gi M 97 20)).toNatClampNeg)))) else ((narrow .boolean (.int (0 : Int32)) = .int (0 : Int32)) ∧ (Q (.inl (some (vi (0 : Int32)))) (si (si M 97 21 (2 : Int32)) 97 22 (gi M 107 ((gi M 97 20)).toNatClampNeg)))))) else ((narrow .boolean (.int (0 : Int32)) = .int (0 : Int32)) ∧ (Q (.inl (some (vi (0 : Int32)))) M))) else (vp_in (gi M 97 20) 4002 ∧ (if (gi M 103 ((gi M 97 20)).toNatClampNeg) = (2 : Int32) then (if (gi M 104 ((gi M 97 20)).toNatClampNeg) = l1 then (Q (.inl (some (vi (1 : Int32)))) (si M 97 20 ((gi M 97 20) + (1 : Int32)))) else (if (gi M 97 21) = 0 then (if (gi M 103 ((gi M 97 20)).toNatClampNeg) = (6 : Int32) then ((narrow .boolean (.int (0 : Int32)) = .int (0 : Int32)) ∧ (Q (.inl (some (vi (0 : Int32)))) (si (si M 97 21 (1 : Int32)) 97 22 (gi M 107 ((gi M 97 20)).toNatClampNeg)))) else ((narrow .boolean (.int (0 : Int32)) = .int (0 : Int32)) ∧ (Q (.inl (some (vi (0 : Int32)))) (si (si M 97 21 (2 : Int32)) 97 22 (gi M 107 ((gi M 97 20)).toNatClampNeg))))) else ((narrow .boolean (.int (0 : Int32)) = .int (0 : Int32)) ∧ (Q (.inl (some (vi (0 : Int32)))) M)))) else (if (gi M 97 21) = 0 then (if (gi M 103 ((gi M 97 20)).toNatClampNeg) = (6 : Int32) then ((narrow .boolean (.int (0 : Int32)) = .int (0 : Int32)) ∧ (Q (.inl (some (vi (0 : Int32)))) (si (si M 97 21 (1 : Int32)) 97 22 (gi M 107 ((gi M 97 20)).toNatClampNeg)))) else ((narrow .boolean (.int (0 : Int32)) = .int (0 : Int32)) ∧ (Q (.inl (some (vi (0 : Int32)))) (si (si M 97 21 (2 : Int32)) 97 22 (gi M 107 ((gi M 97 20)).toNatClampNeg))))) else ((narrow .boolean (.int (0 : Int32)) = .int (0 : Int32)) ∧ (Q (.inl (some (vi (0 : Int32)))) M)))))) : Zm E YX8_mustWord (d + 1) M [(0, vr (some (97, 1, 0))), (1, vi l1)] 0 [] Q := by
  refine sX8_mustWord_0 (d := d) M l1 ?_
  refine zite k (fun h2405 k => ?_) (fun h2405 k => ?_)
  · refine jX8_fail (d := d) M (2 : Int32) ?_
    refine zite k (fun h2406 k => ?_) (fun h2406 k => ?_)
    · refine zand k (fun h2407 k => ?_)
      refine zite k (fun h2408 k => ?_) (fun h2408 k => ?_)
      · show Zm E YX8_mustWord (d + 1) (si (si M 97 21 (1 : Int32)) 97 22 (gi M 107 ((gi M 97 20)).toNatClampNeg)) [] 20 [vi (0 : Int32)] Q
        refine sX8_mustWord_20 (d := d) (si (si M 97 21 (1 : Int32)) 97 22 (gi M 107 ((gi M 97 20)).toNatClampNeg)) (0 : Int32) ?_
        exact k
      · show Zm E YX8_mustWord (d + 1) (si (si M 97 21 (2 : Int32)) 97 22 (gi M 107 ((gi M 97 20)).toNatClampNeg)) [] 20 [vi (0 : Int32)] Q
        refine sX8_mustWord_20 (d := d) (si (si M 97 21 (2 : Int32)) 97 22 (gi M 107 ((gi M 97 20)).toNatClampNeg)) (0 : Int32) ?_
        exact k
    · show Zm E YX8_mustWord (d + 1) M [] 20 [vi (0 : Int32)] Q
      refine sX8_mustWord_20 (d := d) M (0 : Int32) ?_
      exact k
  · refine jX8_isKeyword (d := d) M l1 ?_
    refine zand k (fun h2412 k => ?_)
    refine zite k (fun h2413 k => ?_) (fun h2413 k => ?_)
    · refine zite k (fun h2414 k => ?_) (fun h2414 k => ?_)
      · show Zm E YX8_mustWord (d + 1) M [(0, vr (some (97, 1, 0)))] 12 [vi (1 : Int32)] Q
        refine sX8_mustWord_12 (d := d) M (1 : Int32) ?_
        refine zneg (show ¬ ((1 : Int32) = 0) from by decide) ?_
        exact k
      · show Zm E YX8_mustWord (d + 1) M [(0, vr (some (97, 1, 0)))] 12 [vi (0 : Int32)] Q
        refine sX8_mustWord_12 (d := d) M (0 : Int32) ?_
        refine zpos (show (0 : Int32) = 0 from by decide) ?_
        refine jX8_fail (d := d) M (2 : Int32) ?_
        refine zite k (fun h2415 k => ?_) (fun h2415 k => ?_)
        · refine ⟨h2412, ?_⟩
          refine zite k (fun h2416 k => ?_) (fun h2416 k => ?_)
          · show Zm E YX8_mustWord (d + 1) (si (si M 97 21 (1 : Int32)) 97 22 (gi M 107 ((gi M 97 20)).toNatClampNeg)) [] 20 [vi (0 : Int32)] Q
            refine sX8_mustWord_20 (d := d) (si (si M 97 21 (1 : Int32)) 97 22 (gi M 107 ((gi M 97 20)).toNatClampNeg)) (0 : Int32) ?_
            exact k
          · show Zm E YX8_mustWord (d + 1) (si (si M 97 21 (2 : Int32)) 97 22 (gi M 107 ((gi M 97 20)).toNatClampNeg)) [] 20 [vi (0 : Int32)] Q
            refine sX8_mustWord_20 (d := d) (si (si M 97 21 (2 : Int32)) 97 22 (gi M 107 ((gi M 97 20)).toNatClampNeg)) (0 : Int32) ?_
            exact k
        · show Zm E YX8_mustWord (d + 1) M [] 20 [vi (0 : Int32)] Q
          refine sX8_mustWord_20 (d := d) M (0 : Int32) ?_
          exact k
    · show Zm E YX8_mustWord (d + 1) M [(0, vr (some (97, 1, 0)))] 12 [vi (0 : Int32)] Q
      refine sX8_mustWord_12 (d := d) M (0 : Int32) ?_
      refine zpos (show (0 : Int32) = 0 from by decide) ?_
      refine jX8_fail (d := d) M (2 : Int32) ?_
      refine zite k (fun h2420 k => ?_) (fun h2420 k => ?_)
      · refine ⟨h2412, ?_⟩
        refine zite k (fun h2421 k => ?_) (fun h2421 k => ?_)
        · show Zm E YX8_mustWord (d + 1) (si (si M 97 21 (1 : Int32)) 97 22 (gi M 107 ((gi M 97 20)).toNatClampNeg)) [] 20 [vi (0 : Int32)] Q
          refine sX8_mustWord_20 (d := d) (si (si M 97 21 (1 : Int32)) 97 22 (gi M 107 ((gi M 97 20)).toNatClampNeg)) (0 : Int32) ?_
          exact k
        · show Zm E YX8_mustWord (d + 1) (si (si M 97 21 (2 : Int32)) 97 22 (gi M 107 ((gi M 97 20)).toNatClampNeg)) [] 20 [vi (0 : Int32)] Q
          refine sX8_mustWord_20 (d := d) (si (si M 97 21 (2 : Int32)) 97 22 (gi M 107 ((gi M 97 20)).toNatClampNeg)) (0 : Int32) ?_
          exact k
      · show Zm E YX8_mustWord (d + 1) M [] 20 [vi (0 : Int32)] Q
        refine sX8_mustWord_20 (d := d) M (0 : Int32) ?_
        exact k
theorem iX8_opened_13 {E : zE} {d : Nat} {Q : zO → zM → Prop} (M : zM) (s0 : Int32) (k : Q (.inl (some (vi s0))) (si M 97 23 ((gi M 97 23) - (1 : Int32)))) : Zm E YX8_opened (d + 1) M [(0, vr (some (97, 1, 0)))] 13 [vi s0] Q := by
  refine sX8_opened_13 (d := d) M s0 ?_
  refine sX8_close_0 (d := d) M  ?_
  show Zm E YX8_opened (d + 1) (si M 97 23 ((gi M 97 23) - (1 : Int32))) [(2, vi s0)] 18 [] Q
  refine sX8_opened_18 (d := d) (si M 97 23 ((gi M 97 23) - (1 : Int32))) s0 ?_
  exact k
theorem iX8_pairs_5 {E : zE} {d : Nat} {Q : zO → zM → Prop} (M : zM)  (k : vp_in (gi M 97 31) 200 ∧ (if (gi M 97 21) = 0 then (vp_in ((gi M 97 20) + (1 : Int32)) 4002 ∧ (if (gi M 103 (((gi M 97 20) + (1 : Int32))).toNatClampNeg) = (5 : Int32) then (if (gi M 104 (((gi M 97 20) + (1 : Int32))).toNatClampNeg) = (25 : Int32) then (Zm E YX8_pairs (d + 1) (si (si (si M 97 20 ((gi M 97 20) + (1 : Int32))) 112 ((gi M 97 31)).toNatClampNeg (-1 : Int32)) 97 31 ((gi M 97 31) + (1 : Int32))) [(0, vr (some (97, 1, 0))), (1, vi (0 : Int32)), (2, vi (0 : Int32))] 43 [] Q) else (Zm E YX8_pairs (d + 1) (si (si (si M 97 20 ((gi M 97 20) + (1 : Int32))) 112 ((gi M 97 31)).toNatClampNeg (-1 : Int32)) 97 31 ((gi M 97 31) + (1 : Int32))) [(0, vr (some (97, 1, 0))), (1, vi (0 : Int32)), (2, vi (1 : Int32))] 43 [] Q)) else (Zm E YX8_pairs (d + 1) (si (si (si M 97 20 ((gi M 97 20) + (1 : Int32))) 112 ((gi M 97 31)).toNatClampNeg (-1 : Int32)) 97 31 ((gi M 97 31) + (1 : Int32))) [(0, vr (some (97, 1, 0))), (1, vi (0 : Int32)), (2, vi (1 : Int32))] 43 [] Q))) else (Zm E YX8_pairs (d + 1) (si (si (si M 97 20 ((gi M 97 20) + (1 : Int32))) 112 ((gi M 97 31)).toNatClampNeg (-1 : Int32)) 97 31 ((gi M 97 31) + (1 : Int32))) [(0, vr (some (97, 1, 0))), (1, vi (0 : Int32)), (2, vi (0 : Int32))] 43 [] Q))) : Zm E YX8_pairs (d + 1) M [(0, vr (some (97, 1, 0)))] 5 [] Q := by
  refine sX8_pairs_5 (d := d) M  ?_
  refine sX8_beginList_0 (d := d) (si M 97 20 ((gi M 97 20) + (1 : Int32)))  ?_
  refine zand k (fun h2425 k => ?_)
  show Zm E YX8_pairs (d + 1) (si (si (si M 97 20 ((gi M 97 20) + (1 : Int32))) 112 ((gi M 97 31)).toNatClampNeg (-1 : Int32)) 97 31 ((gi M 97 31) + (1 : Int32))) [(0, vr (some (97, 1, 0)))] 19 [] Q
  refine sX8_pairs_19 (d := d) (si (si (si M 97 20 ((gi M 97 20) + (1 : Int32))) 112 ((gi M 97 31)).toNatClampNeg (-1 : Int32)) 97 31 ((gi M 97 31) + (1 : Int32)))  ?_
  refine zite k (fun h2426 k => ?_) (fun h2426 k => ?_)
  · refine jX8_isSign (d := d) (si (si (si M 97 20 ((gi M 97 20) + (1 : Int32))) 112 ((gi M 97 31)).toNatClampNeg (-1 : Int32)) 97 31 ((gi M 97 31) + (1 : Int32))) (25 : Int32) ?_
    refine zand k (fun h2427 k => ?_)
    refine zite k (fun h2428 k => ?_) (fun h2428 k => ?_)
    · refine zite k (fun h2429 k => ?_) (fun h2429 k => ?_)
      · show Zm E YX8_pairs (d + 1) (si (si (si M 97 20 ((gi M 97 20) + (1 : Int32))) 112 ((gi M 97 31)).toNatClampNeg (-1 : Int32)) 97 31 ((gi M 97 31) + (1 : Int32))) [(0, vr (some (97, 1, 0))), (1, vi (0 : Int32))] 34 [vi (1 : Int32)] Q
        refine sX8_pairs_34 (d := d) (si (si (si M 97 20 ((gi M 97 20) + (1 : Int32))) 112 ((gi M 97 31)).toNatClampNeg (-1 : Int32)) 97 31 ((gi M 97 31) + (1 : Int32))) (0 : Int32) (1 : Int32) ?_
        refine zneg (show ¬ ((1 : Int32) = 0) from by decide) ?_
        exact k
      · show Zm E YX8_pairs (d + 1) (si (si (si M 97 20 ((gi M 97 20) + (1 : Int32))) 112 ((gi M 97 31)).toNatClampNeg (-1 : Int32)) 97 31 ((gi M 97 31) + (1 : Int32))) [(0, vr (some (97, 1, 0))), (1, vi (0 : Int32))] 34 [vi (0 : Int32)] Q
        refine sX8_pairs_34 (d := d) (si (si (si M 97 20 ((gi M 97 20) + (1 : Int32))) 112 ((gi M 97 31)).toNatClampNeg (-1 : Int32)) 97 31 ((gi M 97 31) + (1 : Int32))) (0 : Int32) (0 : Int32) ?_
        refine zpos (show (0 : Int32) = 0 from by decide) ?_
        exact k
    · show Zm E YX8_pairs (d + 1) (si (si (si M 97 20 ((gi M 97 20) + (1 : Int32))) 112 ((gi M 97 31)).toNatClampNeg (-1 : Int32)) 97 31 ((gi M 97 31) + (1 : Int32))) [(0, vr (some (97, 1, 0))), (1, vi (0 : Int32))] 34 [vi (0 : Int32)] Q
      refine sX8_pairs_34 (d := d) (si (si (si M 97 20 ((gi M 97 20) + (1 : Int32))) 112 ((gi M 97 31)).toNatClampNeg (-1 : Int32)) 97 31 ((gi M 97 31) + (1 : Int32))) (0 : Int32) (0 : Int32) ?_
      refine zpos (show (0 : Int32) = 0 from by decide) ?_
      exact k
  · exact k
theorem iX8_pairs_43 {E : zE} {d : Nat} {Q : zO → zM → Prop} (M : zM) (l1 : Int32) (l2 : Int32) (k : if l2 = 0 then (Zm E YX8_must d (si M 97 23 ((gi M 97 23) - (1 : Int32))) (zargs 0 [vr (some (97, 1, 0)), vi (25 : Int32)]) 0 [] (zma E YX8_pairs (d + 1) [(0, vr (some (97, 1, 0)))] 245 3 [] Q)) else (vp_in (gi M 97 20) 4002 ∧ (if (gi M 103 ((gi M 97 20)).toNatClampNeg) = (1 : Int32) then (if (gi M 97 21) = 0 then (Zm E YX8_nameAt d (si M 97 20 ((gi M 97 20) + (1 : Int32))) (zargs 0 [vr (some (97, 1, 0)), vi (((gi M 97 20) + (1 : Int32)) - (1 : Int32))]) 0 [] (zma E YX8_pairs (d + 1) [(0, vr (some (97, 1, 0))), (1, vi l1)] 146 3 [] Q)) else (Zm E YX8_must d M (zargs 0 [vr (some (97, 1, 0)), vi (46 : Int32)]) 0 [] (zma E YX8_pairs (d + 1) [(0, vr (some (97, 1, 0))), (1, vi l1), (4, vi (-1 : Int32))] 158 3 [] Q))) else (if (gi M 103 ((gi M 97 20)).toNatClampNeg) = (2 : Int32) then (if (gi M 97 21) = 0 then (Zm E YX8_nameAt d (si M 97 20 ((gi M 97 20) + (1 : Int32))) (zargs 0 [vr (some (97, 1, 0)), vi (((gi M 97 20) + (1 : Int32)) - (1 : Int32))]) 0 [] (zma E YX8_pairs (d + 1) [(0, vr (some (97, 1, 0))), (1, vi l1)] 146 3 [] Q)) else (Zm E YX8_must d M (zargs 0 [vr (some (97, 1, 0)), vi (46 : Int32)]) 0 [] (zma E YX8_pairs (d + 1) [(0, vr (some (97, 1, 0))), (1, vi l1), (4, vi (-1 : Int32))] 158 3 [] Q))) else (if (gi M 103 ((gi M 97 20)).toNatClampNeg) = (4 : Int32) then (if (gi M 97 21) = 0 then (Zm E YX8_nameAt d (si M 97 20 ((gi M 97 20) + (1 : Int32))) (zargs 0 [vr (some (97, 1, 0)), vi (((gi M 97 20) + (1 : Int32)) - (1 : Int32))]) 0 [] (zma E YX8_pairs (d + 1) [(0, vr (some (97, 1, 0))), (1, vi l1)] 146 3 [] Q)) else (Zm E YX8_must d M (zargs 0 [vr (some (97, 1, 0)), vi (46 : Int32)]) 0 [] (zma E YX8_pairs (d + 1) [(0, vr (some (97, 1, 0))), (1, vi l1), (4, vi (-1 : Int32))] 158 3 [] Q))) else (if (gi M 103 ((gi M 97 20)).toNatClampNeg) = (3 : Int32) then (if (gi M 97 21) = 0 then (Zm E YX8_nameAt d (si M 97 20 ((gi M 97 20) + (1 : Int32))) (zargs 0 [vr (some (97, 1, 0)), vi (((gi M 97 20) + (1 : Int32)) - (1 : Int32))]) 0 [] (zma E YX8_pairs (d + 1) [(0, vr (some (97, 1, 0))), (1, vi l1)] 146 3 [] Q)) else (Zm E YX8_must d M (zargs 0 [vr (some (97, 1, 0)), vi (46 : Int32)]) 0 [] (zma E YX8_pairs (d + 1) [(0, vr (some (97, 1, 0))), (1, vi l1), (4, vi (-1 : Int32))] 158 3 [] Q))) else (if (gi M 97 21) = 0 then (if (gi M 103 ((gi M 97 20)).toNatClampNeg) = (6 : Int32) then (Zm E YX8_must d (si (si M 97 21 (1 : Int32)) 97 22 (gi M 107 ((gi M 97 20)).toNatClampNeg)) (zargs 0 [vr (some (97, 1, 0)), vi (46 : Int32)]) 0 [] (zma E YX8_pairs (d + 1) [(0, vr (some (97, 1, 0))), (1, vi l1), (4, vi (-1 : Int32))] 158 3 [] Q)) else (Zm E YX8_must d (si (si M 97 21 (2 : Int32)) 97 22 (gi M 107 ((gi M 97 20)).toNatClampNeg)) (zargs 0 [vr (some (97, 1, 0)), vi (46 : Int32)]) 0 [] (zma E YX8_pairs (d + 1) [(0, vr (some (97, 1, 0))), (1, vi l1), (4, vi (-1 : Int32))] 158 3 [] Q))) else (Zm E YX8_must d M (zargs 0 [vr (some (97, 1, 0)), vi (46 : Int32)]) 0 [] (zma E YX8_pairs (d + 1) [(0, vr (some (97, 1, 0))), (1, vi l1), (4, vi (-1 : Int32))] 158 3 [] Q))))))))) : Zm E YX8_pairs (d + 1) M [(0, vr (some (97, 1, 0))), (1, vi l1), (2, vi l2)] 43 [] Q := by
  refine sX8_pairs_43 (d := d) M l1 l2 ?_
  refine zite k (fun h2430 k => ?_) (fun h2430 k => ?_)
  · refine sX8_close_0 (d := d) M  ?_
    show Zm E YX8_pairs (d + 1) (si M 97 23 ((gi M 97 23) - (1 : Int32))) [(0, vr (some (97, 1, 0)))] 242 [] Q
    refine sX8_pairs_242 (d := d) (si M 97 23 ((gi M 97 23) - (1 : Int32)))  ?_
    exact k
  · refine zand k (fun h2431 k => ?_)
    refine zite k (fun h2432 k => ?_) (fun h2432 k => ?_)
    · refine sX8_pairs_99 (d := d) M l1 ?_
      refine zneg (show ¬ ((1 : Int32) = 0) from by decide) ?_
      refine sX8_pairs_115 (d := d) M l1 ?_
      refine zite k (fun h2433 k => ?_) (fun h2433 k => ?_)
      · refine sX8_pairs_132 (d := d) (si M 97 20 ((gi M 97 20) + (1 : Int32))) l1 ?_
        refine zpos h2433 ?_
        exact k
      · refine sX8_pairs_132 (d := d) M l1 ?_
        refine zneg h2433 ?_
        exact k
    · refine ⟨h2431, ?_⟩
      refine zite k (fun h2434 k => ?_) (fun h2434 k => ?_)
      · refine sX8_pairs_99 (d := d) M l1 ?_
        refine zneg (show ¬ ((1 : Int32) = 0) from by decide) ?_
        refine sX8_pairs_115 (d := d) M l1 ?_
        refine zite k (fun h2435 k => ?_) (fun h2435 k => ?_)
        · refine sX8_pairs_132 (d := d) (si M 97 20 ((gi M 97 20) + (1 : Int32))) l1 ?_
          refine zpos h2435 ?_
          exact k
        · refine sX8_pairs_132 (d := d) M l1 ?_
          refine zneg h2435 ?_
          exact k
      · refine ⟨h2431, ?_⟩
        refine zite k (fun h2436 k => ?_) (fun h2436 k => ?_)
        · refine sX8_pairs_99 (d := d) M l1 ?_
          refine zneg (show ¬ ((1 : Int32) = 0) from by decide) ?_
          refine sX8_pairs_115 (d := d) M l1 ?_
          refine zite k (fun h2437 k => ?_) (fun h2437 k => ?_)
          · refine sX8_pairs_132 (d := d) (si M 97 20 ((gi M 97 20) + (1 : Int32))) l1 ?_
            refine zpos h2437 ?_
            exact k
          · refine sX8_pairs_132 (d := d) M l1 ?_
            refine zneg h2437 ?_
            exact k
        · refine ⟨h2431, ?_⟩
          refine zite k (fun h2438 k => ?_) (fun h2438 k => ?_)
          · refine sX8_pairs_99 (d := d) M l1 ?_
            refine zneg (show ¬ ((1 : Int32) = 0) from by decide) ?_
            refine sX8_pairs_115 (d := d) M l1 ?_
            refine zite k (fun h2439 k => ?_) (fun h2439 k => ?_)
            · refine sX8_pairs_132 (d := d) (si M 97 20 ((gi M 97 20) + (1 : Int32))) l1 ?_
              refine zpos h2439 ?_
              exact k
            · refine sX8_pairs_132 (d := d) M l1 ?_
              refine zneg h2439 ?_
              exact k
          · refine zpos (show (0 : Int32) = 0 from by decide) ?_
            refine jX8_fail (d := d) M (2 : Int32) ?_
            refine zite k (fun h2440 k => ?_) (fun h2440 k => ?_)
            · refine ⟨h2431, ?_⟩
              refine zite k (fun h2441 k => ?_) (fun h2441 k => ?_)
              · show Zm E YX8_pairs (d + 1) (si (si M 97 21 (1 : Int32)) 97 22 (gi M 107 ((gi M 97 20)).toNatClampNeg)) [(0, vr (some (97, 1, 0))), (1, vi l1)] 114 [vi (0 : Int32)] Q
                refine sX8_pairs_114 (d := d) (si (si M 97 21 (1 : Int32)) 97 22 (gi M 107 ((gi M 97 20)).toNatClampNeg)) l1 (0 : Int32) ?_
                refine sX8_pairs_115 (d := d) (si (si M 97 21 (1 : Int32)) 97 22 (gi M 107 ((gi M 97 20)).toNatClampNeg)) l1 ?_
                refine zneg (show ¬ ((1 : Int32) = 0) from by decide) ?_
                refine sX8_pairs_132 (d := d) (si (si M 97 21 (1 : Int32)) 97 22 (gi M 107 ((gi M 97 20)).toNatClampNeg)) l1 ?_
                refine zneg (show ¬ ((1 : Int32) = 0) from by decide) ?_
                exact k
              · show Zm E YX8_pairs (d + 1) (si (si M 97 21 (2 : Int32)) 97 22 (gi M 107 ((gi M 97 20)).toNatClampNeg)) [(0, vr (some (97, 1, 0))), (1, vi l1)] 114 [vi (0 : Int32)] Q
                refine sX8_pairs_114 (d := d) (si (si M 97 21 (2 : Int32)) 97 22 (gi M 107 ((gi M 97 20)).toNatClampNeg)) l1 (0 : Int32) ?_
                refine sX8_pairs_115 (d := d) (si (si M 97 21 (2 : Int32)) 97 22 (gi M 107 ((gi M 97 20)).toNatClampNeg)) l1 ?_
                refine zneg (show ¬ ((2 : Int32) = 0) from by decide) ?_
                refine sX8_pairs_132 (d := d) (si (si M 97 21 (2 : Int32)) 97 22 (gi M 107 ((gi M 97 20)).toNatClampNeg)) l1 ?_
                refine zneg (show ¬ ((2 : Int32) = 0) from by decide) ?_
                exact k
            · show Zm E YX8_pairs (d + 1) M [(0, vr (some (97, 1, 0))), (1, vi l1)] 114 [vi (0 : Int32)] Q
              refine sX8_pairs_114 (d := d) M l1 (0 : Int32) ?_
              refine sX8_pairs_115 (d := d) M l1 ?_
              refine zneg h2440 ?_
              refine sX8_pairs_132 (d := d) M l1 ?_
              refine zneg h2440 ?_
              exact k
theorem iX8_pairs_248 {E : zE} {d : Nat} {Q : zO → zM → Prop} (M : zM) (s0 : Int32) (k : vp_in ((gi M 97 31) - (1 : Int32)) 200 ∧ (Q (.inl (some (vi (gi M 112 (((gi M 97 31) - (1 : Int32))).toNatClampNeg)))) (si M 97 31 ((gi M 97 31) - (1 : Int32))))) : Zm E YX8_pairs (d + 1) M [(0, vr (some (97, 1, 0)))] 248 [vi s0] Q := by
  refine sX8_pairs_248 (d := d) M s0 ?_
  refine sX8_ended_0 (d := d) M  ?_
  refine zand k (fun h2442 k => ?_)
  show Zm E YX8_pairs (d + 1) (si M 97 31 ((gi M 97 31) - (1 : Int32))) [] 253 [vi (gi M 112 (((gi M 97 31) - (1 : Int32))).toNatClampNeg)] Q
  refine sX8_pairs_253 (d := d) (si M 97 31 ((gi M 97 31) - (1 : Int32))) (gi M 112 (((gi M 97 31) - (1 : Int32))).toNatClampNeg) ?_
  exact k
theorem iX8_pairs_161 {E : zE} {d : Nat} {Q : zO → zM → Prop} (M : zM) (l1 : Int32) (l4 : Int32) (s0 : Int32) (k : if s0 = 0 then (Zm E YX8_node d M (zargs 0 [vr (some (97, 1, 0)), vi (18 : Int32), vi (-1 : Int32), vi l4, vi (0 : Int32)]) 0 [] (zma E YX8_pairs (d + 1) [(0, vr (some (97, 1, 0))), (1, vi l1)] 184 3 [vr (some (97, 1, 0))] Q)) else (Zm E YX8_assigned d M (zargs 0 [vr (some (97, 1, 0)), vi (1 : Int32)]) 0 [] (zma E YX8_pairs (d + 1) [(0, vr (some (97, 1, 0))), (1, vi l1), (4, vi l4)] 166 3 [] Q))) : Zm E YX8_pairs (d + 1) M [(0, vr (some (97, 1, 0))), (1, vi l1), (4, vi l4)] 161 [vi s0] Q := by
  refine sX8_pairs_161 (d := d) M l1 l4 s0 ?_
  refine zite k (fun h2443 k => ?_) (fun h2443 k => ?_)
  · refine sX8_pairs_173 (d := d) M l1 l4 (-1 : Int32) ?_
    exact k
  · exact k
theorem iX8_pairs_187 {E : zE} {d : Nat} {Q : zO → zM → Prop} (M : zM) (l1 : Int32) (s0 : Int32) (k : vp_in ((gi M 97 31) - (1 : Int32)) 200 ∧ (if (gi M 112 (((gi M 97 31) - (1 : Int32))).toNatClampNeg) = (-1 : Int32) then (if (gi M 97 21) = 0 then (Zm E YX8_isSign d (si (si M 112 (((gi M 97 31) - (1 : Int32))).toNatClampNeg s0) 113 (((gi M 97 31) - (1 : Int32))).toNatClampNeg s0) (zargs 0 [vr (some (97, 1, 0)), vi (32 : Int32)]) 0 [] (zma E YX8_pairs (d + 1) [(0, vr (some (97, 1, 0))), (1, vi (l1 + (1 : Int32)))] 203 3 [] Q)) else (Zm E YX8_pairs (d + 1) (si (si M 112 (((gi M 97 31) - (1 : Int32))).toNatClampNeg s0) 113 (((gi M 97 31) - (1 : Int32))).toNatClampNeg s0) [(0, vr (some (97, 1, 0))), (1, vi (l1 + (1 : Int32))), (2, vi (0 : Int32))] 43 [] Q)) else (vp_in (gi M 113 (((gi M 97 31) - (1 : Int32))).toNatClampNeg) 12000 ∧ (if (gi M 97 21) = 0 then (Zm E YX8_isSign d (si (si M 110 ((gi M 113 (((gi M 97 31) - (1 : Int32))).toNatClampNeg)).toNatClampNeg s0) 113 (((gi M 97 31) - (1 : Int32))).toNatClampNeg s0) (zargs 0 [vr (some (97, 1, 0)), vi (32 : Int32)]) 0 [] (zma E YX8_pairs (d + 1) [(0, vr (some (97, 1, 0))), (1, vi (l1 + (1 : Int32)))] 203 3 [] Q)) else (Zm E YX8_pairs (d + 1) (si (si M 110 ((gi M 113 (((gi M 97 31) - (1 : Int32))).toNatClampNeg)).toNatClampNeg s0) 113 (((gi M 97 31) - (1 : Int32))).toNatClampNeg s0) [(0, vr (some (97, 1, 0))), (1, vi (l1 + (1 : Int32))), (2, vi (0 : Int32))] 43 [] Q))))) : Zm E YX8_pairs (d + 1) M [(0, vr (some (97, 1, 0))), (1, vi l1)] 187 [vi s0, vr (some (97, 1, 0))] Q := by
  refine sX8_pairs_187 (d := d) M l1 s0 ?_
  refine jX8_add (d := d) M s0 ?_
  refine zand k (fun h2457 k => ?_)
  refine zite k (fun h2458 k => ?_) (fun h2458 k => ?_)
  · show Zm E YX8_pairs (d + 1) (si (si M 112 (((gi M 97 31) - (1 : Int32))).toNatClampNeg s0) 113 (((gi M 97 31) - (1 : Int32))).toNatClampNeg s0) [(0, vr (some (97, 1, 0))), (1, vi l1)] 190 [] Q
    refine sX8_pairs_190 (d := d) (si (si M 112 (((gi M 97 31) - (1 : Int32))).toNatClampNeg s0) 113 (((gi M 97 31) - (1 : Int32))).toNatClampNeg s0) l1 ?_
    refine zite k (fun h2459 k => ?_) (fun h2459 k => ?_)
    · exact k
    · refine sX8_pairs_220 (d := d) (si (si M 112 (((gi M 97 31) - (1 : Int32))).toNatClampNeg s0) 113 (((gi M 97 31) - (1 : Int32))).toNatClampNeg s0) (l1 + (1 : Int32)) (0 : Int32) ?_
      refine zpos (show (0 : Int32) = 0 from by decide) ?_
      exact k
  · refine zand k (fun h2460 k => ?_)
    show Zm E YX8_pairs (d + 1) (si (si M 110 ((gi M 113 (((gi M 97 31) - (1 : Int32))).toNatClampNeg)).toNatClampNeg s0) 113 (((gi M 97 31) - (1 : Int32))).toNatClampNeg s0) [(0, vr (some (97, 1, 0))), (1, vi l1)] 190 [] Q
    refine sX8_pairs_190 (d := d) (si (si M 110 ((gi M 113 (((gi M 97 31) - (1 : Int32))).toNatClampNeg)).toNatClampNeg s0) 113 (((gi M 97 31) - (1 : Int32))).toNatClampNeg s0) l1 ?_
    refine zite k (fun h2461 k => ?_) (fun h2461 k => ?_)
    · exact k
    · refine sX8_pairs_220 (d := d) (si (si M 110 ((gi M 113 (((gi M 97 31) - (1 : Int32))).toNatClampNeg)).toNatClampNeg s0) 113 (((gi M 97 31) - (1 : Int32))).toNatClampNeg s0) (l1 + (1 : Int32)) (0 : Int32) ?_
      refine zpos (show (0 : Int32) = 0 from by decide) ?_
      exact k
theorem iX8_pairs_169 {E : zE} {d : Nat} {Q : zO → zM → Prop} (M : zM) (l1 : Int32) (l4 : Int32) (s0 : Int32) (k : Zm E YX8_node d M (zargs 0 [vr (some (97, 1, 0)), vi (18 : Int32), vi s0, vi l4, vi (0 : Int32)]) 0 [] (zma E YX8_pairs (d + 1) [(0, vr (some (97, 1, 0))), (1, vi l1)] 184 3 [vr (some (97, 1, 0))] Q)) : Zm E YX8_pairs (d + 1) M [(0, vr (some (97, 1, 0))), (1, vi l1), (4, vi l4)] 169 [vi s0] Q := by
  refine sX8_pairs_169 (d := d) M l1 l4 s0 ?_
  refine sX8_pairs_173 (d := d) M l1 l4 s0 ?_
  exact k
theorem iX8_pairs_206 {E : zE} {d : Nat} {Q : zO → zM → Prop} (M : zM) (l1 : Int32) (s0 : Int32) (k : if s0 = 0 then (Zm E YX8_pairs (d + 1) M [(0, vr (some (97, 1, 0))), (1, vi l1), (2, vi (0 : Int32))] 43 [] Q) else (if (16 : Int32) ≤ l1 then (Zm E YX8_pairs (d + 1) M [(0, vr (some (97, 1, 0))), (1, vi l1), (2, vi (0 : Int32))] 43 [] Q) else (Zm E YX8_pairs (d + 1) (si M 97 20 ((gi M 97 20) + (1 : Int32))) [(0, vr (some (97, 1, 0))), (1, vi l1), (2, vi (1 : Int32))] 43 [] Q))) : Zm E YX8_pairs (d + 1) M [(0, vr (some (97, 1, 0))), (1, vi l1)] 206 [vi s0] Q := by
  refine sX8_pairs_206 (d := d) M l1 s0 ?_
  refine zite k (fun h2462 k => ?_) (fun h2462 k => ?_)
  · refine sX8_pairs_220 (d := d) M l1 (0 : Int32) ?_
    refine zpos (show (0 : Int32) = 0 from by decide) ?_
    exact k
  · refine zite k (fun h2463 k => ?_) (fun h2463 k => ?_)
    · refine sX8_pairs_220 (d := d) M l1 (0 : Int32) ?_
      refine zpos (show (0 : Int32) = 0 from by decide) ?_
      exact k
    · refine sX8_pairs_220 (d := d) M l1 (1 : Int32) ?_
      refine zneg (show ¬ ((1 : Int32) = 0) from by decide) ?_
      exact k
theorem iX8_postfix_18 {E : zE} {d : Nat} {Q : zO → zM → Prop} (M : zM) (l1 : Int32) (s0 : Int32) (k : if s0 = 0 then (Zm E YX8_isSign d M (zargs 0 [vr (some (97, 1, 0)), vi (11 : Int32)]) 0 [] (zma E YX8_postfix (d + 1) [(0, vr (some (97, 1, 0))), (1, vi l1)] 24 3 [] Q)) else (vp_in (gi M 97 20) 4002 ∧ (vp_in ((gi M 97 20) - (1 : Int32)) 4002 ∧ (if (gi M 107 ((gi M 97 20)).toNatClampNeg) = (gi M 107 (((gi M 97 20) - (1 : Int32))).toNatClampNeg) then (Zm E YX8_isTarget d M (zargs 0 [vr (some (97, 1, 0)), vi l1]) 0 [] (zma E YX8_postfix (d + 1) [(0, vr (some (97, 1, 0))), (1, vi l1)] 57 3 [] Q)) else (Q (.inl (some (vi l1))) M))))) : Zm E YX8_postfix (d + 1) M [(0, vr (some (97, 1, 0))), (1, vi l1)] 18 [vi s0] Q := by
  refine sX8_postfix_18 (d := d) M l1 s0 ?_
  refine zite k (fun h2561 k => ?_) (fun h2561 k => ?_)
  · exact k
  · refine sX8_postfix_30 (d := d) M l1 ?_
    exact k
theorem iX8_postfix_27 {E : zE} {d : Nat} {Q : zO → zM → Prop} (M : zM) (l1 : Int32) (s0 : Int32) (k : if s0 = 0 then (Q (.inl (some (vi l1))) M) else (vp_in (gi M 97 20) 4002 ∧ (vp_in ((gi M 97 20) - (1 : Int32)) 4002 ∧ (if (gi M 107 ((gi M 97 20)).toNatClampNeg) = (gi M 107 (((gi M 97 20) - (1 : Int32))).toNatClampNeg) then (if l1 = (-1 : Int32) then (if (gi M 97 21) = 0 then (if (gi M 103 ((gi M 97 20)).toNatClampNeg) = (6 : Int32) then (Q (.inl (some (vi (-1 : Int32)))) (si (si M 97 21 (1 : Int32)) 97 22 (gi M 107 ((gi M 97 20)).toNatClampNeg))) else (Q (.inl (some (vi (-1 : Int32)))) (si (si M 97 21 (3 : Int32)) 97 22 (gi M 107 ((gi M 97 20)).toNatClampNeg)))) else (Q (.inl (some (vi (-1 : Int32)))) M)) else (vp_in l1 12000 ∧ (if (gi M 111 (l1).toNatClampNeg) = 0 then (if (gi M 108 (l1).toNatClampNeg) = (2 : Int32) then (vp_in (((gi M 97 20) + (1 : Int32)) - (1 : Int32)) 4002 ∧ (if (gi M 104 ((((gi M 97 20) + (1 : Int32)) - (1 : Int32))).toNatClampNeg) = (10 : Int32) then (Zm E YX8_node d (si M 97 20 ((gi M 97 20) + (1 : Int32))) (zargs 0 [vr (some (97, 1, 0)), vi (17 : Int32), vi (0 : Int32), vi l1, vi (0 : Int32)]) 0 [] (zma E YX8_postfix (d + 1) [] 107 3 [] Q)) else (Zm E YX8_node d (si M 97 20 ((gi M 97 20) + (1 : Int32))) (zargs 0 [vr (some (97, 1, 0)), vi (17 : Int32), vi (1 : Int32), vi l1, vi (0 : Int32)]) 0 [] (zma E YX8_postfix (d + 1) [] 107 3 [] Q)))) else (if (gi M 108 (l1).toNatClampNeg) = (7 : Int32) then (vp_in (((gi M 97 20) + (1 : Int32)) - (1 : Int32)) 4002 ∧ (if (gi M 104 ((((gi M 97 20) + (1 : Int32)) - (1 : Int32))).toNatClampNeg) = (10 : Int32) then (Zm E YX8_node d (si M 97 20 ((gi M 97 20) + (1 : Int32))) (zargs 0 [vr (some (97, 1, 0)), vi (17 : Int32), vi (0 : Int32), vi l1, vi (0 : Int32)]) 0 [] (zma E YX8_postfix (d + 1) [] 107 3 [] Q)) else (Zm E YX8_node d (si M 97 20 ((gi M 97 20) + (1 : Int32))) (zargs 0 [vr (some (97, 1, 0)), vi (17 : Int32), vi (1 : Int32), vi l1, vi (0 : Int32)]) 0 [] (zma E YX8_postfix (d + 1) [] 107 3 [] Q)))) else (if (gi M 97 21) = 0 then (if (gi M 103 ((gi M 97 20)).toNatClampNeg) = (6 : Int32) then (Q (.inl (some (vi (-1 : Int32)))) (si (si M 97 21 (1 : Int32)) 97 22 (gi M 107 ((gi M 97 20)).toNatClampNeg))) else (Q (.inl (some (vi (-1 : Int32)))) (si (si M 97 21 (3 : Int32)) 97 22 (gi M 107 ((gi M 97 20)).toNatClampNeg)))) else (Q (.inl (some (vi (-1 : Int32)))) M)))) else (if (gi M 97 21) = 0 then (if (gi M 103 ((gi M 97 20)).toNatClampNeg) = (6 : Int32) then (Q (.inl (some (vi (-1 : Int32)))) (si (si M 97 21 (1 : Int32)) 97 22 (gi M 107 ((gi M 97 20)).toNatClampNeg))) else (Q (.inl (some (vi (-1 : Int32)))) (si (si M 97 21 (3 : Int32)) 97 22 (gi M 107 ((gi M 97 20)).toNatClampNeg)))) else (Q (.inl (some (vi (-1 : Int32)))) M))))) else (Q (.inl (some (vi l1))) M))))) : Zm E YX8_postfix (d + 1) M [(0, vr (some (97, 1, 0))), (1, vi l1)] 27 [vi s0] Q := by
  refine sX8_postfix_27 (d := d) M l1 s0 ?_
  refine zite k (fun h2565 k => ?_) (fun h2565 k => ?_)
  · exact k
  · refine sX8_postfix_30 (d := d) M l1 ?_
    refine zand k (fun h2566 k => ?_)
    refine zand k (fun h2567 k => ?_)
    refine zite k (fun h2568 k => ?_) (fun h2568 k => ?_)
    · refine jX8_isTarget (d := d) M l1 ?_
      refine zite k (fun h2569 k => ?_) (fun h2569 k => ?_)
      · show Zm E YX8_postfix (d + 1) M [(0, vr (some (97, 1, 0))), (1, vi l1)] 60 [vi (0 : Int32)] Q
        refine sX8_postfix_60 (d := d) M l1 (0 : Int32) ?_
        refine zpos (show (0 : Int32) = 0 from by decide) ?_
        refine jX8_fail (d := d) M (3 : Int32) ?_
        refine zite k (fun h2570 k => ?_) (fun h2570 k => ?_)
        · refine ⟨h2566, ?_⟩
          refine zite k (fun h2571 k => ?_) (fun h2571 k => ?_)
          · show Zm E YX8_postfix (d + 1) (si (si M 97 21 (1 : Int32)) 97 22 (gi M 107 ((gi M 97 20)).toNatClampNeg)) [] 68 [vi (0 : Int32)] Q
            refine sX8_postfix_68 (d := d) (si (si M 97 21 (1 : Int32)) 97 22 (gi M 107 ((gi M 97 20)).toNatClampNeg)) (0 : Int32) ?_
            exact k
          · show Zm E YX8_postfix (d + 1) (si (si M 97 21 (3 : Int32)) 97 22 (gi M 107 ((gi M 97 20)).toNatClampNeg)) [] 68 [vi (0 : Int32)] Q
            refine sX8_postfix_68 (d := d) (si (si M 97 21 (3 : Int32)) 97 22 (gi M 107 ((gi M 97 20)).toNatClampNeg)) (0 : Int32) ?_
            exact k
        · show Zm E YX8_postfix (d + 1) M [] 68 [vi (0 : Int32)] Q
          refine sX8_postfix_68 (d := d) M (0 : Int32) ?_
          exact k
      · refine zand k (fun h2572 k => ?_)
        refine zite k (fun h2573 k => ?_) (fun h2573 k => ?_)
        · refine zite k (fun h2574 k => ?_) (fun h2574 k => ?_)
          · show Zm E YX8_postfix (d + 1) M [(0, vr (some (97, 1, 0))), (1, vi l1)] 60 [vi (1 : Int32)] Q
            refine sX8_postfix_60 (d := d) M l1 (1 : Int32) ?_
            refine zneg (show ¬ ((1 : Int32) = 0) from by decide) ?_
            exact k
          · refine zite k (fun h2577 k => ?_) (fun h2577 k => ?_)
            · show Zm E YX8_postfix (d + 1) M [(0, vr (some (97, 1, 0))), (1, vi l1)] 60 [vi (1 : Int32)] Q
              refine sX8_postfix_60 (d := d) M l1 (1 : Int32) ?_
              refine zneg (show ¬ ((1 : Int32) = 0) from by decide) ?_
              exact k
            · show Zm E YX8_postfix (d + 1) M [(0, vr (some (97, 1, 0))), (1, vi l1)] 60 [vi (0 : Int32)] Q
              refine sX8_postfix_60 (d := d) M l1 (0 : Int32) ?_
              refine zpos (show (0 : Int32) = 0 from by decide) ?_
              refine jX8_fail (d := d) M (3 : Int32) ?_
              refine zite k (fun h2580 k => ?_) (fun h2580 k => ?_)
              · refine ⟨h2566, ?_⟩
                refine zite k (fun h2581 k => ?_) (fun h2581 k => ?_)
                · show Zm E YX8_postfix (d + 1) (si (si M 97 21 (1 : Int32)) 97 22 (gi M 107 ((gi M 97 20)).toNatClampNeg)) [] 68 [vi (0 : Int32)] Q
                  refine sX8_postfix_68 (d := d) (si (si M 97 21 (1 : Int32)) 97 22 (gi M 107 ((gi M 97 20)).toNatClampNeg)) (0 : Int32) ?_
                  exact k
                · show Zm E YX8_postfix (d + 1) (si (si M 97 21 (3 : Int32)) 97 22 (gi M 107 ((gi M 97 20)).toNatClampNeg)) [] 68 [vi (0 : Int32)] Q
                  refine sX8_postfix_68 (d := d) (si (si M 97 21 (3 : Int32)) 97 22 (gi M 107 ((gi M 97 20)).toNatClampNeg)) (0 : Int32) ?_
                  exact k
              · show Zm E YX8_postfix (d + 1) M [] 68 [vi (0 : Int32)] Q
                refine sX8_postfix_68 (d := d) M (0 : Int32) ?_
                exact k
        · show Zm E YX8_postfix (d + 1) M [(0, vr (some (97, 1, 0))), (1, vi l1)] 60 [vi (0 : Int32)] Q
          refine sX8_postfix_60 (d := d) M l1 (0 : Int32) ?_
          refine zpos (show (0 : Int32) = 0 from by decide) ?_
          refine jX8_fail (d := d) M (3 : Int32) ?_
          refine zite k (fun h2582 k => ?_) (fun h2582 k => ?_)
          · refine ⟨h2566, ?_⟩
            refine zite k (fun h2583 k => ?_) (fun h2583 k => ?_)
            · show Zm E YX8_postfix (d + 1) (si (si M 97 21 (1 : Int32)) 97 22 (gi M 107 ((gi M 97 20)).toNatClampNeg)) [] 68 [vi (0 : Int32)] Q
              refine sX8_postfix_68 (d := d) (si (si M 97 21 (1 : Int32)) 97 22 (gi M 107 ((gi M 97 20)).toNatClampNeg)) (0 : Int32) ?_
              exact k
            · show Zm E YX8_postfix (d + 1) (si (si M 97 21 (3 : Int32)) 97 22 (gi M 107 ((gi M 97 20)).toNatClampNeg)) [] 68 [vi (0 : Int32)] Q
              refine sX8_postfix_68 (d := d) (si (si M 97 21 (3 : Int32)) 97 22 (gi M 107 ((gi M 97 20)).toNatClampNeg)) (0 : Int32) ?_
              exact k
          · show Zm E YX8_postfix (d + 1) M [] 68 [vi (0 : Int32)] Q
            refine sX8_postfix_68 (d := d) M (0 : Int32) ?_
            exact k
    · exact k
theorem iX8_postfix_60 {E : zE} {d : Nat} {Q : zO → zM → Prop} (M : zM) (l1 : Int32) (s0 : Int32) (k : if s0 = 0 then (if (gi M 97 21) = 0 then (vp_in (gi M 97 20) 4002 ∧ (if (gi M 103 ((gi M 97 20)).toNatClampNeg) = (6 : Int32) then (Q (.inl (some (vi (-1 : Int32)))) (si (si M 97 21 (1 : Int32)) 97 22 (gi M 107 ((gi M 97 20)).toNatClampNeg))) else (Q (.inl (some (vi (-1 : Int32)))) (si (si M 97 21 (3 : Int32)) 97 22 (gi M 107 ((gi M 97 20)).toNatClampNeg))))) else (Q (.inl (some (vi (-1 : Int32)))) M)) else (vp_in (((gi M 97 20) + (1 : Int32)) - (1 : Int32)) 4002 ∧ (if (gi M 104 ((((gi M 97 20) + (1 : Int32)) - (1 : Int32))).toNatClampNeg) = (10 : Int32) then (Zm E YX8_node d (si M 97 20 ((gi M 97 20) + (1 : Int32))) (zargs 0 [vr (some (97, 1, 0)), vi (17 : Int32), vi (0 : Int32), vi l1, vi (0 : Int32)]) 0 [] (zma E YX8_postfix (d + 1) [] 107 3 [] Q)) else (Zm E YX8_node d (si M 97 20 ((gi M 97 20) + (1 : Int32))) (zargs 0 [vr (some (97, 1, 0)), vi (17 : Int32), vi (1 : Int32), vi l1, vi (0 : Int32)]) 0 [] (zma E YX8_postfix (d + 1) [] 107 3 [] Q))))) : Zm E YX8_postfix (d + 1) M [(0, vr (some (97, 1, 0))), (1, vi l1)] 60 [vi s0] Q := by
  refine sX8_postfix_60 (d := d) M l1 s0 ?_
  refine zite k (fun h2584 k => ?_) (fun h2584 k => ?_)
  · refine jX8_fail (d := d) M (3 : Int32) ?_
    refine zite k (fun h2585 k => ?_) (fun h2585 k => ?_)
    · refine zand k (fun h2586 k => ?_)
      refine zite k (fun h2587 k => ?_) (fun h2587 k => ?_)
      · show Zm E YX8_postfix (d + 1) (si (si M 97 21 (1 : Int32)) 97 22 (gi M 107 ((gi M 97 20)).toNatClampNeg)) [] 68 [vi (0 : Int32)] Q
        refine sX8_postfix_68 (d := d) (si (si M 97 21 (1 : Int32)) 97 22 (gi M 107 ((gi M 97 20)).toNatClampNeg)) (0 : Int32) ?_
        exact k
      · show Zm E YX8_postfix (d + 1) (si (si M 97 21 (3 : Int32)) 97 22 (gi M 107 ((gi M 97 20)).toNatClampNeg)) [] 68 [vi (0 : Int32)] Q
        refine sX8_postfix_68 (d := d) (si (si M 97 21 (3 : Int32)) 97 22 (gi M 107 ((gi M 97 20)).toNatClampNeg)) (0 : Int32) ?_
        exact k
    · show Zm E YX8_postfix (d + 1) M [] 68 [vi (0 : Int32)] Q
      refine sX8_postfix_68 (d := d) M (0 : Int32) ?_
      exact k
  · exact k
theorem iX8_primary_20 {E : zE} {d : Nat} {Q : zO → zM → Prop} (M : zM) (l1 : Int32) (s0 : Int32) (k : if s0 = 0 then (vp_in (gi M 97 20) 4002 ∧ (if (gi M 103 ((gi M 97 20)).toNatClampNeg) = (5 : Int32) then (if (gi M 104 ((gi M 97 20)).toNatClampNeg) = (28 : Int32) then (Zm E YX8_items d M (zargs 0 [vr (some (97, 1, 0)), vi (28 : Int32), vi (29 : Int32), vi (16 : Int32)]) 0 [] (zma E YX8_primary (d + 1) [] 46 3 [vi (4 : Int32), vr (some (97, 1, 0))] Q)) else (if (gi M 104 ((gi M 97 20)).toNatClampNeg) = (24 : Int32) then (Zm E YX8_pairs d M (zargs 0 [vr (some (97, 1, 0))]) 0 [] (zma E YX8_primary (d + 1) [] 67 3 [vi (5 : Int32), vr (some (97, 1, 0))] Q)) else (if (gi M 103 ((gi M 97 20)).toNatClampNeg) = (2 : Int32) then (if (gi M 104 ((gi M 97 20)).toNatClampNeg) = (11 : Int32) then (Zm E YX8_function d M (zargs 0 [vr (some (97, 1, 0)), vi (0 : Int32)]) 0 [] (zma E YX8_primary (d + 1) [] 90 3 [vi (6 : Int32), vr (some (97, 1, 0))] Q)) else (if (gi M 103 ((gi M 97 20)).toNatClampNeg) = (1 : Int32) then (Zm E YX8_primary (d + 1) M [(0, vr (some (97, 1, 0))), (1, vi l1)] 159 [vi (1 : Int32)] Q) else (if (gi M 103 ((gi M 97 20)).toNatClampNeg) = (3 : Int32) then (Zm E YX8_primary (d + 1) M [(0, vr (some (97, 1, 0))), (1, vi l1)] 159 [vi (1 : Int32)] Q) else (if (gi M 103 ((gi M 97 20)).toNatClampNeg) = (4 : Int32) then (Zm E YX8_primary (d + 1) M [(0, vr (some (97, 1, 0))), (1, vi l1)] 159 [vi (1 : Int32)] Q) else (Zm E YX8_isLiteral d M (zargs 0 [vr (some (97, 1, 0))]) 0 [] (zma E YX8_primary (d + 1) [(0, vr (some (97, 1, 0))), (1, vi l1)] 139 3 [] Q)))))) else (if (gi M 103 ((gi M 97 20)).toNatClampNeg) = (1 : Int32) then (Zm E YX8_primary (d + 1) M [(0, vr (some (97, 1, 0))), (1, vi l1)] 159 [vi (1 : Int32)] Q) else (if (gi M 103 ((gi M 97 20)).toNatClampNeg) = (3 : Int32) then (Zm E YX8_primary (d + 1) M [(0, vr (some (97, 1, 0))), (1, vi l1)] 159 [vi (1 : Int32)] Q) else (if (gi M 103 ((gi M 97 20)).toNatClampNeg) = (4 : Int32) then (Zm E YX8_primary (d + 1) M [(0, vr (some (97, 1, 0))), (1, vi l1)] 159 [vi (1 : Int32)] Q) else (Zm E YX8_isLiteral d M (zargs 0 [vr (some (97, 1, 0))]) 0 [] (zma E YX8_primary (d + 1) [(0, vr (some (97, 1, 0))), (1, vi l1)] 139 3 [] Q)))))))) else (if (gi M 103 ((gi M 97 20)).toNatClampNeg) = (2 : Int32) then (if (gi M 104 ((gi M 97 20)).toNatClampNeg) = (11 : Int32) then (Zm E YX8_function d M (zargs 0 [vr (some (97, 1, 0)), vi (0 : Int32)]) 0 [] (zma E YX8_primary (d + 1) [] 90 3 [vi (6 : Int32), vr (some (97, 1, 0))] Q)) else (if (gi M 103 ((gi M 97 20)).toNatClampNeg) = (1 : Int32) then (Zm E YX8_primary (d + 1) M [(0, vr (some (97, 1, 0))), (1, vi l1)] 159 [vi (1 : Int32)] Q) else (if (gi M 103 ((gi M 97 20)).toNatClampNeg) = (3 : Int32) then (Zm E YX8_primary (d + 1) M [(0, vr (some (97, 1, 0))), (1, vi l1)] 159 [vi (1 : Int32)] Q) else (if (gi M 103 ((gi M 97 20)).toNatClampNeg) = (4 : Int32) then (Zm E YX8_primary (d + 1) M [(0, vr (some (97, 1, 0))), (1, vi l1)] 159 [vi (1 : Int32)] Q) else (Zm E YX8_isLiteral d M (zargs 0 [vr (some (97, 1, 0))]) 0 [] (zma E YX8_primary (d + 1) [(0, vr (some (97, 1, 0))), (1, vi l1)] 139 3 [] Q)))))) else (if (gi M 103 ((gi M 97 20)).toNatClampNeg) = (1 : Int32) then (Zm E YX8_primary (d + 1) M [(0, vr (some (97, 1, 0))), (1, vi l1)] 159 [vi (1 : Int32)] Q) else (if (gi M 103 ((gi M 97 20)).toNatClampNeg) = (3 : Int32) then (Zm E YX8_primary (d + 1) M [(0, vr (some (97, 1, 0))), (1, vi l1)] 159 [vi (1 : Int32)] Q) else (if (gi M 103 ((gi M 97 20)).toNatClampNeg) = (4 : Int32) then (Zm E YX8_primary (d + 1) M [(0, vr (some (97, 1, 0))), (1, vi l1)] 159 [vi (1 : Int32)] Q) else (Zm E YX8_isLiteral d M (zargs 0 [vr (some (97, 1, 0))]) 0 [] (zma E YX8_primary (d + 1) [(0, vr (some (97, 1, 0))), (1, vi l1)] 139 3 [] Q)))))))) else (Zm E YX8_bracketed d M (zargs 0 [vr (some (97, 1, 0))]) 0 [] (zma E YX8_primary (d + 1) [] 24 3 [] Q))) : Zm E YX8_primary (d + 1) M [(0, vr (some (97, 1, 0))), (1, vi l1)] 20 [vi s0] Q := by
  refine sX8_primary_20 (d := d) M l1 s0 ?_
  refine zite k (fun h2613 k => ?_) (fun h2613 k => ?_)
  · refine jX8_isSign (d := d) M (28 : Int32) ?_
    refine zand k (fun h2614 k => ?_)
    refine zite k (fun h2615 k => ?_) (fun h2615 k => ?_)
    · refine zite k (fun h2616 k => ?_) (fun h2616 k => ?_)
      · show Zm E YX8_primary (d + 1) M [(0, vr (some (97, 1, 0))), (1, vi l1)] 34 [vi (1 : Int32)] Q
        refine sX8_primary_34 (d := d) M l1 (1 : Int32) ?_
        refine zneg (show ¬ ((1 : Int32) = 0) from by decide) ?_
        exact k
      · show Zm E YX8_primary (d + 1) M [(0, vr (some (97, 1, 0))), (1, vi l1)] 34 [vi (0 : Int32)] Q
        refine sX8_primary_34 (d := d) M l1 (0 : Int32) ?_
        refine zpos (show (0 : Int32) = 0 from by decide) ?_
        refine jX8_isSign (d := d) M (24 : Int32) ?_
        refine ⟨h2614, ?_⟩
        refine zpos h2615 ?_
        refine zite k (fun h2617 k => ?_) (fun h2617 k => ?_)
        · show Zm E YX8_primary (d + 1) M [(0, vr (some (97, 1, 0))), (1, vi l1)] 61 [vi (1 : Int32)] Q
          refine sX8_primary_61 (d := d) M l1 (1 : Int32) ?_
          refine zneg (show ¬ ((1 : Int32) = 0) from by decide) ?_
          exact k
        · show Zm E YX8_primary (d + 1) M [(0, vr (some (97, 1, 0))), (1, vi l1)] 61 [vi (0 : Int32)] Q
          refine sX8_primary_61 (d := d) M l1 (0 : Int32) ?_
          refine zpos (show (0 : Int32) = 0 from by decide) ?_
          refine jX8_isKeyword (d := d) M (11 : Int32) ?_
          refine ⟨h2614, ?_⟩
          refine zite k (fun h2618 k => ?_) (fun h2618 k => ?_)
          · refine zite k (fun h2619 k => ?_) (fun h2619 k => ?_)
            · show Zm E YX8_primary (d + 1) M [(0, vr (some (97, 1, 0))), (1, vi l1)] 82 [vi (1 : Int32)] Q
              refine sX8_primary_82 (d := d) M l1 (1 : Int32) ?_
              refine zneg (show ¬ ((1 : Int32) = 0) from by decide) ?_
              exact k
            · show Zm E YX8_primary (d + 1) M [(0, vr (some (97, 1, 0))), (1, vi l1)] 82 [vi (0 : Int32)] Q
              refine sX8_primary_82 (d := d) M l1 (0 : Int32) ?_
              refine zpos (show (0 : Int32) = 0 from by decide) ?_
              refine ⟨h2614, ?_⟩
              refine zite k (fun h2620 k => ?_) (fun h2620 k => ?_)
              · exact k
              · refine ⟨h2614, ?_⟩
                refine zite k (fun h2621 k => ?_) (fun h2621 k => ?_)
                · exact k
                · refine ⟨h2614, ?_⟩
                  exact k
          · show Zm E YX8_primary (d + 1) M [(0, vr (some (97, 1, 0))), (1, vi l1)] 82 [vi (0 : Int32)] Q
            refine sX8_primary_82 (d := d) M l1 (0 : Int32) ?_
            refine zpos (show (0 : Int32) = 0 from by decide) ?_
            refine ⟨h2614, ?_⟩
            refine zite k (fun h2623 k => ?_) (fun h2623 k => ?_)
            · exact k
            · refine ⟨h2614, ?_⟩
              refine zite k (fun h2624 k => ?_) (fun h2624 k => ?_)
              · exact k
              · refine ⟨h2614, ?_⟩
                exact k
    · show Zm E YX8_primary (d + 1) M [(0, vr (some (97, 1, 0))), (1, vi l1)] 34 [vi (0 : Int32)] Q
      refine sX8_primary_34 (d := d) M l1 (0 : Int32) ?_
      refine zpos (show (0 : Int32) = 0 from by decide) ?_
      refine jX8_isSign (d := d) M (24 : Int32) ?_
      refine ⟨h2614, ?_⟩
      refine zneg h2615 ?_
      show Zm E YX8_primary (d + 1) M [(0, vr (some (97, 1, 0))), (1, vi l1)] 61 [vi (0 : Int32)] Q
      refine sX8_primary_61 (d := d) M l1 (0 : Int32) ?_
      refine zpos (show (0 : Int32) = 0 from by decide) ?_
      refine jX8_isKeyword (d := d) M (11 : Int32) ?_
      refine ⟨h2614, ?_⟩
      refine zite k (fun h2626 k => ?_) (fun h2626 k => ?_)
      · refine zite k (fun h2627 k => ?_) (fun h2627 k => ?_)
        · show Zm E YX8_primary (d + 1) M [(0, vr (some (97, 1, 0))), (1, vi l1)] 82 [vi (1 : Int32)] Q
          refine sX8_primary_82 (d := d) M l1 (1 : Int32) ?_
          refine zneg (show ¬ ((1 : Int32) = 0) from by decide) ?_
          exact k
        · show Zm E YX8_primary (d + 1) M [(0, vr (some (97, 1, 0))), (1, vi l1)] 82 [vi (0 : Int32)] Q
          refine sX8_primary_82 (d := d) M l1 (0 : Int32) ?_
          refine zpos (show (0 : Int32) = 0 from by decide) ?_
          refine ⟨h2614, ?_⟩
          refine zite k (fun h2628 k => ?_) (fun h2628 k => ?_)
          · exact k
          · refine ⟨h2614, ?_⟩
            refine zite k (fun h2629 k => ?_) (fun h2629 k => ?_)
            · exact k
            · refine ⟨h2614, ?_⟩
              exact k
      · show Zm E YX8_primary (d + 1) M [(0, vr (some (97, 1, 0))), (1, vi l1)] 82 [vi (0 : Int32)] Q
        refine sX8_primary_82 (d := d) M l1 (0 : Int32) ?_
        refine zpos (show (0 : Int32) = 0 from by decide) ?_
        refine ⟨h2614, ?_⟩
        refine zite k (fun h2631 k => ?_) (fun h2631 k => ?_)
        · exact k
        · refine ⟨h2614, ?_⟩
          refine zite k (fun h2632 k => ?_) (fun h2632 k => ?_)
          · exact k
          · refine ⟨h2614, ?_⟩
            exact k
  · exact k
theorem iX8_primary_159 {E : zE} {d : Nat} {Q : zO → zM → Prop} (M : zM) (l1 : Int32) (s0 : Int32) (k : if s0 = 0 then (if (gi M 97 21) = 0 then (vp_in (gi M 97 20) 4002 ∧ (if (gi M 103 ((gi M 97 20)).toNatClampNeg) = (6 : Int32) then (Q (.inl (some (vi (-1 : Int32)))) (si (si M 97 21 (1 : Int32)) 97 22 (gi M 107 ((gi M 97 20)).toNatClampNeg))) else (Q (.inl (some (vi (-1 : Int32)))) (si (si M 97 21 (2 : Int32)) 97 22 (gi M 107 ((gi M 97 20)).toNatClampNeg))))) else (Q (.inl (some (vi (-1 : Int32)))) M)) else (vp_in l1 4002 ∧ (if (gi M 103 (l1).toNatClampNeg) = (1 : Int32) then (Zm E YX8_nameAt d (si M 97 20 ((gi M 97 20) + (1 : Int32))) (zargs 0 [vr (some (97, 1, 0)), vi l1]) 0 [] (zma E YX8_primary (d + 1) [] 196 3 [vi (2 : Int32), vr (some (97, 1, 0))] Q)) else (if (gi M 103 (l1).toNatClampNeg) = (3 : Int32) then (Zm E YX8_node d (si M 97 20 ((gi M 97 20) + (1 : Int32))) (zargs 0 [vr (some (97, 1, 0)), vi (0 : Int32), vi (5 : Int32), vi (gi M 104 (l1).toNatClampNeg), vi (0 : Int32)]) 0 [] (zma E YX8_primary (d + 1) [] 225 3 [] Q)) else (if (gi M 103 (l1).toNatClampNeg) = (4 : Int32) then (Zm E YX8_nameAt d (si M 97 20 ((gi M 97 20) + (1 : Int32))) (zargs 0 [vr (some (97, 1, 0)), vi l1]) 0 [] (zma E YX8_primary (d + 1) [] 245 3 [vi (6 : Int32), vi (0 : Int32), vr (some (97, 1, 0))] Q)) else (if (gi M 104 (l1).toNatClampNeg) = (20 : Int32) then (Zm E YX8_node d (si M 97 20 ((gi M 97 20) + (1 : Int32))) (zargs 0 [vr (some (97, 1, 0)), vi (1 : Int32), vi (0 : Int32), vi (0 : Int32), vi (0 : Int32)]) 0 [] (zma E YX8_primary (d + 1) [] 271 3 [] Q)) else (if (gi M 104 (l1).toNatClampNeg) = (25 : Int32) then (Zm E YX8_node d (si M 97 20 ((gi M 97 20) + (1 : Int32))) (zargs 0 [vr (some (97, 1, 0)), vi (0 : Int32), vi (0 : Int32), vi (0 : Int32), vi (0 : Int32)]) 0 [] (zma E YX8_primary (d + 1) [] 322 3 [] Q)) else (if (gi M 104 (l1).toNatClampNeg) = (17 : Int32) then (Zm E YX8_node d (si M 97 20 ((gi M 97 20) + (1 : Int32))) (zargs 0 [vr (some (97, 1, 0)), vi (0 : Int32), vi (1 : Int32), vi (0 : Int32), vi (0 : Int32)]) 0 [] (zma E YX8_primary (d + 1) [] 322 3 [] Q)) else (if (gi M 104 (l1).toNatClampNeg) = (22 : Int32) then (Zm E YX8_node d (si M 97 20 ((gi M 97 20) + (1 : Int32))) (zargs 0 [vr (some (97, 1, 0)), vi (0 : Int32), vi (2 : Int32), vi (0 : Int32), vi (0 : Int32)]) 0 [] (zma E YX8_primary (d + 1) [] 322 3 [] Q)) else (if (gi M 104 (l1).toNatClampNeg) = (8 : Int32) then (Zm E YX8_node d (si M 97 20 ((gi M 97 20) + (1 : Int32))) (zargs 0 [vr (some (97, 1, 0)), vi (0 : Int32), vi (3 : Int32), vi (0 : Int32), vi (0 : Int32)]) 0 [] (zma E YX8_primary (d + 1) [] 322 3 [] Q)) else (Zm E YX8_node d (si M 97 20 ((gi M 97 20) + (1 : Int32))) (zargs 0 [vr (some (97, 1, 0)), vi (0 : Int32), vi (4 : Int32), vi (0 : Int32), vi (0 : Int32)]) 0 [] (zma E YX8_primary (d + 1) [] 322 3 [] Q)))))))))))) : Zm E YX8_primary (d + 1) M [(0, vr (some (97, 1, 0))), (1, vi l1)] 159 [vi s0] Q := by
  refine sX8_primary_159 (d := d) M l1 s0 ?_
  refine zite k (fun h2634 k => ?_) (fun h2634 k => ?_)
  · refine jX8_fail (d := d) M (2 : Int32) ?_
    refine zite k (fun h2635 k => ?_) (fun h2635 k => ?_)
    · refine zand k (fun h2636 k => ?_)
      refine zite k (fun h2637 k => ?_) (fun h2637 k => ?_)
      · show Zm E YX8_primary (d + 1) (si (si M 97 21 (1 : Int32)) 97 22 (gi M 107 ((gi M 97 20)).toNatClampNeg)) [] 169 [vi (0 : Int32)] Q
        refine sX8_primary_169 (d := d) (si (si M 97 21 (1 : Int32)) 97 22 (gi M 107 ((gi M 97 20)).toNatClampNeg)) (0 : Int32) ?_
        exact k
      · show Zm E YX8_primary (d + 1) (si (si M 97 21 (2 : Int32)) 97 22 (gi M 107 ((gi M 97 20)).toNatClampNeg)) [] 169 [vi (0 : Int32)] Q
        refine sX8_primary_169 (d := d) (si (si M 97 21 (2 : Int32)) 97 22 (gi M 107 ((gi M 97 20)).toNatClampNeg)) (0 : Int32) ?_
        exact k
    · show Zm E YX8_primary (d + 1) M [] 169 [vi (0 : Int32)] Q
      refine sX8_primary_169 (d := d) M (0 : Int32) ?_
      exact k
  · refine zand k (fun h2638 k => ?_)
    refine zite k (fun h2639 k => ?_) (fun h2639 k => ?_)
    · exact k
    · refine ⟨h2638, ?_⟩
      refine zite k (fun h2640 k => ?_) (fun h2640 k => ?_)
      · refine ⟨h2638, ?_⟩
        exact k
      · refine ⟨h2638, ?_⟩
        refine zite k (fun h2641 k => ?_) (fun h2641 k => ?_)
        · exact k
        · refine ⟨h2638, ?_⟩
          exact k
theorem iX8_primary_142 {E : zE} {d : Nat} {Q : zO → zM → Prop} (M : zM) (l1 : Int32) (s0 : Int32) (k : if s0 = 0 then (vp_in (gi M 97 20) 4002 ∧ (if (gi M 103 ((gi M 97 20)).toNatClampNeg) = (2 : Int32) then (if (gi M 104 ((gi M 97 20)).toNatClampNeg) = (20 : Int32) then (Zm E YX8_primary (d + 1) M [(0, vr (some (97, 1, 0))), (1, vi l1)] 159 [vi (1 : Int32)] Q) else (Zm E YX8_primary (d + 1) M [(0, vr (some (97, 1, 0))), (1, vi l1)] 159 [vi (0 : Int32)] Q)) else (Zm E YX8_primary (d + 1) M [(0, vr (some (97, 1, 0))), (1, vi l1)] 159 [vi (0 : Int32)] Q))) else (Zm E YX8_primary (d + 1) M [(0, vr (some (97, 1, 0))), (1, vi l1)] 159 [vi (1 : Int32)] Q)) : Zm E YX8_primary (d + 1) M [(0, vr (some (97, 1, 0))), (1, vi l1)] 142 [vi s0] Q := by
  refine sX8_primary_142 (d := d) M l1 s0 ?_
  refine zite k (fun h2647 k => ?_) (fun h2647 k => ?_)
  · refine jX8_isKeyword (d := d) M (20 : Int32) ?_
    refine zand k (fun h2648 k => ?_)
    refine zite k (fun h2649 k => ?_) (fun h2649 k => ?_)
    · refine zite k (fun h2650 k => ?_) (fun h2650 k => ?_)
      · show Zm E YX8_primary (d + 1) M [(0, vr (some (97, 1, 0))), (1, vi l1)] 151 [vi (1 : Int32)] Q
        refine sX8_primary_151 (d := d) M l1 (1 : Int32) ?_
        refine zneg (show ¬ ((1 : Int32) = 0) from by decide) ?_
        exact k
      · show Zm E YX8_primary (d + 1) M [(0, vr (some (97, 1, 0))), (1, vi l1)] 151 [vi (0 : Int32)] Q
        refine sX8_primary_151 (d := d) M l1 (0 : Int32) ?_
        refine zpos (show (0 : Int32) = 0 from by decide) ?_
        exact k
    · show Zm E YX8_primary (d + 1) M [(0, vr (some (97, 1, 0))), (1, vi l1)] 151 [vi (0 : Int32)] Q
      refine sX8_primary_151 (d := d) M l1 (0 : Int32) ?_
      refine zpos (show (0 : Int32) = 0 from by decide) ?_
      exact k
  · exact k
theorem iX8_primary_274 {E : zE} {d : Nat} {Q : zO → zM → Prop} (M : zM) (s0 : Int32) (k : Q (.inl (some (vi s0))) M) : Zm E YX8_primary (d + 1) M [] 274 [vi s0] Q := by
  refine sX8_primary_274 (d := d) M s0 ?_
  refine sX8_primary_325 (d := d) M s0 ?_
  exact k
theorem iX8_settingOf_0 {E : zE} {d : Nat} {Q : zO → zM → Prop} (M : zM)  (k : vp_in (gi M 97 20) 4002 ∧ (if (gi M 103 ((gi M 97 20)).toNatClampNeg) = (5 : Int32) then (if (gi M 104 ((gi M 97 20)).toNatClampNeg) = 0 then (Q (.inl (some (vi (7 : Int32)))) M) else (if (gi M 104 ((gi M 97 20)).toNatClampNeg) = 1 then (Q (.inl (some (vi (5 : Int32)))) M) else (if (gi M 104 ((gi M 97 20)).toNatClampNeg) = 2 then (Q (.inl (some (vi (6 : Int32)))) M) else (if (gi M 104 ((gi M 97 20)).toNatClampNeg) = 3 then (Q (.inl (some (vi (-1 : Int32)))) M) else (if (gi M 104 ((gi M 97 20)).toNatClampNeg) = 4 then (Q (.inl (some (vi (-1 : Int32)))) M) else (if (gi M 104 ((gi M 97 20)).toNatClampNeg) = 5 then (Q (.inl (some (vi (-1 : Int32)))) M) else (if (gi M 104 ((gi M 97 20)).toNatClampNeg) = 6 then (Q (.inl (some (vi (-1 : Int32)))) M) else (if (gi M 104 ((gi M 97 20)).toNatClampNeg) = 7 then (Q (.inl (some (vi (-1 : Int32)))) M) else (if (gi M 104 ((gi M 97 20)).toNatClampNeg) = 8 then (Q (.inl (some (vi (-1 : Int32)))) M) else (if (gi M 104 ((gi M 97 20)).toNatClampNeg) = 9 then (Q (.inl (some (vi (-1 : Int32)))) M) else (if (gi M 104 ((gi M 97 20)).toNatClampNeg) = 10 then (Q (.inl (some (vi (-1 : Int32)))) M) else (if (gi M 104 ((gi M 97 20)).toNatClampNeg) = 11 then (Q (.inl (some (vi (-1 : Int32)))) M) else (if (gi M 104 ((gi M 97 20)).toNatClampNeg) = 12 then (Q (.inl (some (vi (-1 : Int32)))) M) else (if (gi M 104 ((gi M 97 20)).toNatClampNeg) = 13 then (Q (.inl (some (vi (-1 : Int32)))) M) else (if (gi M 104 ((gi M 97 20)).toNatClampNeg) = 14 then (Q (.inl (some (vi (-1 : Int32)))) M) else (if (gi M 104 ((gi M 97 20)).toNatClampNeg) = 15 then (Q (.inl (some (vi (-1 : Int32)))) M) else (if (gi M 104 ((gi M 97 20)).toNatClampNeg) = 16 then (Q (.inl (some (vi (0 : Int32)))) M) else (if (gi M 104 ((gi M 97 20)).toNatClampNeg) = 17 then (Q (.inl (some (vi (1 : Int32)))) M) else (if (gi M 104 ((gi M 97 20)).toNatClampNeg) = 18 then (Q (.inl (some (vi (2 : Int32)))) M) else (if (gi M 104 ((gi M 97 20)).toNatClampNeg) = 19 then (Q (.inl (some (vi (3 : Int32)))) M) else (if (gi M 104 ((gi M 97 20)).toNatClampNeg) = 20 then (Q (.inl (some (vi (4 : Int32)))) M) else (if (gi M 104 ((gi M 97 20)).toNatClampNeg) = 21 then (Q (.inl (some (vi (8 : Int32)))) M) else (if (gi M 104 ((gi M 97 20)).toNatClampNeg) = 22 then (Q (.inl (some (vi (9 : Int32)))) M) else (if (gi M 104 ((gi M 97 20)).toNatClampNeg) = 23 then (Q (.inl (some (vi (10 : Int32)))) M) else (if (gi M 104 ((gi M 97 20)).toNatClampNeg) = 24 then (Q (.inl (some (vi (-1 : Int32)))) M) else (if (gi M 104 ((gi M 97 20)).toNatClampNeg) = 25 then (Q (.inl (some (vi (-1 : Int32)))) M) else (if (gi M 104 ((gi M 97 20)).toNatClampNeg) = 26 then (Q (.inl (some (vi (-1 : Int32)))) M) else (if (gi M 104 ((gi M 97 20)).toNatClampNeg) = 27 then (Q (.inl (some (vi (-1 : Int32)))) M) else (if (gi M 104 ((gi M 97 20)).toNatClampNeg) = 28 then (Q (.inl (some (vi (-1 : Int32)))) M) else (if (gi M 104 ((gi M 97 20)).toNatClampNeg) = 29 then (Q (.inl (some (vi (-1 : Int32)))) M) else (if (gi M 104 ((gi M 97 20)).toNatClampNeg) = 30 then (Q (.inl (some (vi (-1 : Int32)))) M) else (if (gi M 104 ((gi M 97 20)).toNatClampNeg) = 31 then (Q (.inl (some (vi (-1 : Int32)))) M) else (if (gi M 104 ((gi M 97 20)).toNatClampNeg) = 32 then (Q (.inl (some (vi (-1 : Int32)))) M) else (if (gi M 104 ((gi M 97 20)).toNatClampNeg) = 33 then (Q (.inl (some (vi (-1 : Int32)))) M) else (if (gi M 104 ((gi M 97 20)).toNatClampNeg) = 34 then (Q (.inl (some (vi (-1 : Int32)))) M) else (if (gi M 104 ((gi M 97 20)).toNatClampNeg) = 35 then (Q (.inl (some (vi (-1 : Int32)))) M) else (if (gi M 104 ((gi M 97 20)).toNatClampNeg) = 36 then (Q (.inl (some (vi (-1 : Int32)))) M) else (if (gi M 104 ((gi M 97 20)).toNatClampNeg) = 37 then (Q (.inl (some (vi (-1 : Int32)))) M) else (if (gi M 104 ((gi M 97 20)).toNatClampNeg) = 38 then (Q (.inl (some (vi (-1 : Int32)))) M) else (if (gi M 104 ((gi M 97 20)).toNatClampNeg) = 39 then (Q (.inl (some (vi (-1 : Int32)))) M) else (if (gi M 104 ((gi M 97 20)).toNatClampNeg) = 40 then (Q (.inl (some (vi (-1 : Int32)))) M) else (if (gi M 104 ((gi M 97 20)).toNatClampNeg) = 41 then (Q (.inl (some (vi (-1 : Int32)))) M) else (if (gi M 104 ((gi M 97 20)).toNatClampNeg) = 42 then (Q (.inl (some (vi (-1 : Int32)))) M) else (if (gi M 104 ((gi M 97 20)).toNatClampNeg) = 43 then (Q (.inl (some (vi (-1 : Int32)))) M) else (if (gi M 104 ((gi M 97 20)).toNatClampNeg) = 44 then (Q (.inl (some (vi (-1 : Int32)))) M) else (if (gi M 104 ((gi M 97 20)).toNatClampNeg) = 45 then (Q (.inl (some (vi (-1 : Int32)))) M) else (if (gi M 104 ((gi M 97 20)).toNatClampNeg) = 46 then (Q (.inl (some (vi (-1 : Int32)))) M) else (if (gi M 104 ((gi M 97 20)).toNatClampNeg) = 47 then (Q (.inl (some (vi (99 : Int32)))) M) else (Q (.inl (some (vi (-1 : Int32)))) M))))))))))))))))))))))))))))))))))))))))))))))))) else (Q (.inl (some (vi (-1 : Int32)))) M))) : Zm E YX8_settingOf d M [(0, vr (some (97, 1, 0)))] 0 [] Q := by
  refine sX8_settingOf_0 (d := d) M  ?_
  refine zand k (fun h2651 k => ?_)
  refine zite k (fun h2652 k => ?_) (fun h2652 k => ?_)
  · refine ⟨h2651, ?_⟩
    exact k
  · exact k
theorem iX8_statementBody_0 {E : zE} {d : Nat} {Q : zO → zM → Prop} (M : zM)  (k : Zm E YX8_isSign d M (zargs 0 [vr (some (97, 1, 0)), vi (24 : Int32)]) 0 [] (zma E YX8_statementBody (d + 1) [(0, vr (some (97, 1, 0)))] 3 3 [] Q)) : Zm E YX8_statementBody (d + 1) M [(0, vr (some (97, 1, 0)))] 0 [] Q := by
  refine sX8_statementBody_0 (d := d) M  ?_
  exact k
theorem iX8_statementBody_6 {E : zE} {d : Nat} {Q : zO → zM → Prop} (M : zM) (s0 : Int32) (k : if s0 = 0 then (Zm E YX8_isSign d M (zargs 0 [vr (some (97, 1, 0)), vi (31 : Int32)]) 0 [] (zma E YX8_statementBody (d + 1) [(0, vr (some (97, 1, 0)))] 25 3 [] Q)) else (Zm E YX8_block d M (zargs 0 [vr (some (97, 1, 0))]) 0 [] (zma E YX8_statementBody (d + 1) [] 13 3 [vi (20 : Int32), vr (some (97, 1, 0))] Q))) : Zm E YX8_statementBody (d + 1) M [(0, vr (some (97, 1, 0)))] 6 [vi s0] Q := by
  refine sX8_statementBody_6 (d := d) M s0 ?_
  exact k
theorem iX8_statementBody_28 {E : zE} {d : Nat} {Q : zO → zM → Prop} (M : zM) (s0 : Int32) (k : if s0 = 0 then (vp_in (gi M 97 20) 4002 ∧ (if (gi M 103 ((gi M 97 20)).toNatClampNeg) = (2 : Int32) then (if (gi M 104 ((gi M 97 20)).toNatClampNeg) = 0 then (Zm E YX8_node d M (zargs 0 [vr (some (97, 1, 0)), vi (30 : Int32), vi (0 : Int32), vi (0 : Int32), vi (0 : Int32)]) 0 [] (zma E YX8_statementBody (d + 1) [(0, vr (some (97, 1, 0)))] 286 3 [] Q)) else (if (gi M 104 ((gi M 97 20)).toNatClampNeg) = 1 then (Zm E YX8_plain d M (zargs 0 [vr (some (97, 1, 0))]) 0 [] (zma E YX8_statementBody (d + 1) [] 327 3 [] Q)) else (if (gi M 104 ((gi M 97 20)).toNatClampNeg) = 2 then (Zm E YX8_plain d M (zargs 0 [vr (some (97, 1, 0))]) 0 [] (zma E YX8_statementBody (d + 1) [] 327 3 [] Q)) else (if (gi M 104 ((gi M 97 20)).toNatClampNeg) = 3 then (Zm E YX8_node d M (zargs 0 [vr (some (97, 1, 0)), vi (29 : Int32), vi (0 : Int32), vi (0 : Int32), vi (0 : Int32)]) 0 [] (zma E YX8_statementBody (d + 1) [(0, vr (some (97, 1, 0)))] 286 3 [] Q)) else (if (gi M 104 ((gi M 97 20)).toNatClampNeg) = 4 then (Zm E YX8_plain d M (zargs 0 [vr (some (97, 1, 0))]) 0 [] (zma E YX8_statementBody (d + 1) [] 327 3 [] Q)) else (if (gi M 104 ((gi M 97 20)).toNatClampNeg) = 5 then (Zm E YX8_plain d M (zargs 0 [vr (some (97, 1, 0))]) 0 [] (zma E YX8_statementBody (d + 1) [] 327 3 [] Q)) else (if (gi M 104 ((gi M 97 20)).toNatClampNeg) = 6 then (Zm E YX8_until d M (zargs 0 [vr (some (97, 1, 0))]) 0 [] (zma E YX8_statementBody (d + 1) [] 254 3 [] Q)) else (if (gi M 104 ((gi M 97 20)).toNatClampNeg) = 7 then (Zm E YX8_plain d M (zargs 0 [vr (some (97, 1, 0))]) 0 [] (zma E YX8_statementBody (d + 1) [] 327 3 [] Q)) else (if (gi M 104 ((gi M 97 20)).toNatClampNeg) = 8 then (Zm E YX8_plain d M (zargs 0 [vr (some (97, 1, 0))]) 0 [] (zma E YX8_statementBody (d + 1) [] 327 3 [] Q)) else (if (gi M 104 ((gi M 97 20)).toNatClampNeg) = 9 then (Zm E YX8_plain d M (zargs 0 [vr (some (97, 1, 0))]) 0 [] (zma E YX8_statementBody (d + 1) [] 327 3 [] Q)) else (if (gi M 104 ((gi M 97 20)).toNatClampNeg) = 10 then (Zm E YX8_counted d M (zargs 0 [vr (some (97, 1, 0))]) 0 [] (zma E YX8_statementBody (d + 1) [] 259 3 [] Q)) else (if (gi M 104 ((gi M 97 20)).toNatClampNeg) = 11 then (Zm E YX8_plain d M (zargs 0 [vr (some (97, 1, 0))]) 0 [] (zma E YX8_statementBody (d + 1) [] 327 3 [] Q)) else (if (gi M 104 ((gi M 97 20)).toNatClampNeg) = 12 then (Zm E YX8_whether d M (zargs 0 [vr (some (97, 1, 0))]) 0 [] (zma E YX8_statementBody (d + 1) [] 221 3 [] Q)) else (if (gi M 104 ((gi M 97 20)).toNatClampNeg) = 13 then (Zm E YX8_plain d M (zargs 0 [vr (some (97, 1, 0))]) 0 [] (zma E YX8_statementBody (d + 1) [] 327 3 [] Q)) else (if (gi M 104 ((gi M 97 20)).toNatClampNeg) = 14 then (Zm E YX8_plain d M (zargs 0 [vr (some (97, 1, 0))]) 0 [] (zma E YX8_statementBody (d + 1) [] 327 3 [] Q)) else (if (gi M 104 ((gi M 97 20)).toNatClampNeg) = 15 then (Zm E YX8_plain d M (zargs 0 [vr (some (97, 1, 0))]) 0 [] (zma E YX8_statementBody (d + 1) [] 327 3 [] Q)) else (if (gi M 104 ((gi M 97 20)).toNatClampNeg) = 16 then (Zm E YX8_plain d M (zargs 0 [vr (some (97, 1, 0))]) 0 [] (zma E YX8_statementBody (d + 1) [] 327 3 [] Q)) else (if (gi M 104 ((gi M 97 20)).toNatClampNeg) = 17 then (Zm E YX8_plain d M (zargs 0 [vr (some (97, 1, 0))]) 0 [] (zma E YX8_statementBody (d + 1) [] 327 3 [] Q)) else (if (gi M 104 ((gi M 97 20)).toNatClampNeg) = 18 then (Zm E YX8_back_2 d M (zargs 0 [vr (some (97, 1, 0))]) 0 [] (zma E YX8_statementBody (d + 1) [] 307 3 [] Q)) else (if (gi M 104 ((gi M 97 20)).toNatClampNeg) = 19 then (Zm E YX8_cases d M (zargs 0 [vr (some (97, 1, 0))]) 0 [] (zma E YX8_statementBody (d + 1) [] 322 3 [] Q)) else (if (gi M 104 ((gi M 97 20)).toNatClampNeg) = 20 then (Zm E YX8_plain d M (zargs 0 [vr (some (97, 1, 0))]) 0 [] (zma E YX8_statementBody (d + 1) [] 327 3 [] Q)) else (if (gi M 104 ((gi M 97 20)).toNatClampNeg) = 21 then (Zm E YX8_toss d M (zargs 0 [vr (some (97, 1, 0))]) 0 [] (zma E YX8_statementBody (d + 1) [] 312 3 [] Q)) else (if (gi M 104 ((gi M 97 20)).toNatClampNeg) = 22 then (Zm E YX8_plain d M (zargs 0 [vr (some (97, 1, 0))]) 0 [] (zma E YX8_statementBody (d + 1) [] 327 3 [] Q)) else (if (gi M 104 ((gi M 97 20)).toNatClampNeg) = 23 then (Zm E YX8_attempt d M (zargs 0 [vr (some (97, 1, 0))]) 0 [] (zma E YX8_statementBody (d + 1) [] 317 3 [] Q)) else (if (gi M 104 ((gi M 97 20)).toNatClampNeg) = 24 then (Zm E YX8_plain d M (zargs 0 [vr (some (97, 1, 0))]) 0 [] (zma E YX8_statementBody (d + 1) [] 327 3 [] Q)) else (if (gi M 104 ((gi M 97 20)).toNatClampNeg) = 25 then (Zm E YX8_plain d M (zargs 0 [vr (some (97, 1, 0))]) 0 [] (zma E YX8_statementBody (d + 1) [] 327 3 [] Q)) else (if (gi M 104 ((gi M 97 20)).toNatClampNeg) = 26 then (Zm E YX8_declarations d M (zargs 0 [vr (some (97, 1, 0)), vi (1 : Int32)]) 0 [] (zma E YX8_statementBody (d + 1) [(0, vr (some (97, 1, 0)))] 210 3 [] Q)) else (if (gi M 104 ((gi M 97 20)).toNatClampNeg) = 27 then (Zm E YX8_plain d M (zargs 0 [vr (some (97, 1, 0))]) 0 [] (zma E YX8_statementBody (d + 1) [] 327 3 [] Q)) else (if (gi M 104 ((gi M 97 20)).toNatClampNeg) = 28 then (Zm E YX8_condition d (si M 97 20 ((gi M 97 20) + (1 : Int32))) (zargs 0 [vr (some (97, 1, 0))]) 0 [] (zma E YX8_statementBody (d + 1) [(0, vr (some (97, 1, 0)))] 236 3 [] Q)) else (Zm E YX8_plain d M (zargs 0 [vr (some (97, 1, 0))]) 0 [] (zma E YX8_statementBody (d + 1) [] 327 3 [] Q))))))))))))))))))))))))))))))) else (Zm E YX8_plain d M (zargs 0 [vr (some (97, 1, 0))]) 0 [] (zma E YX8_statementBody (d + 1) [] 65 3 [] Q)))) else (Zm E YX8_node d (si M 97 20 ((gi M 97 20) + (1 : Int32))) (zargs 0 [vr (some (97, 1, 0)), vi (22 : Int32), vi (0 : Int32), vi (0 : Int32), vi (0 : Int32)]) 0 [] (zma E YX8_statementBody (d + 1) [] 47 3 [] Q))) : Zm E YX8_statementBody (d + 1) M [(0, vr (some (97, 1, 0)))] 28 [vi s0] Q := by
  refine sX8_statementBody_28 (d := d) M s0 ?_
  refine zite k (fun h2838 k => ?_) (fun h2838 k => ?_)
  · refine zand k (fun h2839 k => ?_)
    refine zite k (fun h2840 k => ?_) (fun h2840 k => ?_)
    · refine ⟨h2839, ?_⟩
      refine zite k (fun h2841 k => ?_) (fun h2841 k => ?_)
      · refine ⟨h2839, ?_⟩
        refine zpos h2841 ?_
        exact k
      · refine zite k (fun h2842 k => ?_) (fun h2842 k => ?_)
        · exact k
        · refine zite k (fun h2843 k => ?_) (fun h2843 k => ?_)
          · exact k
          · refine zite k (fun h2844 k => ?_) (fun h2844 k => ?_)
            · refine ⟨h2839, ?_⟩
              refine zneg h2841 ?_
              exact k
            · exact k
    · exact k
  · exact k
theorem iX8_unit_45 {E : zE} {d : Nat} {Q : zO → zM → Prop} (M : zM) (l1 : Int32) (s0 : Int32) (k : if (gi M 97 21) ≤ 0 then (vp_in l1 4002 ∧ (if (gi M 103 (l1).toNatClampNeg) = (5 : Int32) then (if (gi M 104 (l1).toNatClampNeg) = (10 : Int32) then (Zm E YX8_unit (d + 1) (si M 97 23 ((gi M 97 23) - (1 : Int32))) [(0, vr (some (97, 1, 0))), (1, vi l1), (2, vi s0)] 96 [vi (1 : Int32)] Q) else (if (gi M 104 (l1).toNatClampNeg) = (11 : Int32) then (Zm E YX8_unit (d + 1) (si M 97 23 ((gi M 97 23) - (1 : Int32))) [(0, vr (some (97, 1, 0))), (1, vi l1), (2, vi s0)] 96 [vi (1 : Int32)] Q) else (Zm E YX8_unit (d + 1) (si M 97 23 ((gi M 97 23) - (1 : Int32))) [(0, vr (some (97, 1, 0))), (1, vi l1), (2, vi s0)] 96 [vi (0 : Int32)] Q))) else (Zm E YX8_unit (d + 1) (si M 97 23 ((gi M 97 23) - (1 : Int32))) [(0, vr (some (97, 1, 0))), (1, vi l1), (2, vi s0)] 96 [vi (0 : Int32)] Q))) else (Q (.inl (some (vi (-1 : Int32)))) (si M 97 23 ((gi M 97 23) - (1 : Int32))))) : Zm E YX8_unit (d + 1) M [(0, vr (some (97, 1, 0))), (1, vi l1)] 45 [vi s0] Q := by
  refine sX8_unit_45 (d := d) M l1 s0 ?_
  refine sX8_close_0 (d := d) M  ?_
  show Zm E YX8_unit (d + 1) (si M 97 23 ((gi M 97 23) - (1 : Int32))) [(0, vr (some (97, 1, 0))), (1, vi l1), (2, vi s0)] 50 [] Q
  refine sX8_unit_50 (d := d) (si M 97 23 ((gi M 97 23) - (1 : Int32))) l1 s0 ?_
  refine zite k (fun h2872 k => ?_) (fun h2872 k => ?_)
  · refine zand k (fun h2873 k => ?_)
    refine zite k (fun h2874 k => ?_) (fun h2874 k => ?_)
    · refine ⟨h2873, ?_⟩
      refine zite k (fun h2875 k => ?_) (fun h2875 k => ?_)
      · exact k
      · refine ⟨h2873, ?_⟩
        exact k
    · exact k
  · exact k
theorem iX8_unit_96 {E : zE} {d : Nat} {Q : zO → zM → Prop} (M : zM) (l1 : Int32) (l2 : Int32) (s0 : Int32) (k : vp_in l1 4002 ∧ (if (gi M 103 (l1).toNatClampNeg) = (2 : Int32) then (if (gi M 104 (l1).toNatClampNeg) = (5 : Int32) then (Zm E YX8_unit (d + 1) M [(0, vr (some (97, 1, 0))), (1, vi l1), (2, vi l2), (3, vi s0)] 122 [vi (1 : Int32)] Q) else (Zm E YX8_unit (d + 1) M [(0, vr (some (97, 1, 0))), (1, vi l1), (2, vi l2), (3, vi s0)] 122 [vi (0 : Int32)] Q)) else (Zm E YX8_unit (d + 1) M [(0, vr (some (97, 1, 0))), (1, vi l1), (2, vi l2), (3, vi s0)] 122 [vi (0 : Int32)] Q))) : Zm E YX8_unit (d + 1) M [(0, vr (some (97, 1, 0))), (1, vi l1), (2, vi l2)] 96 [vi s0] Q := by
  refine sX8_unit_96 (d := d) M l1 l2 s0 ?_
  refine zand k (fun h2877 k => ?_)
  refine zite k (fun h2878 k => ?_) (fun h2878 k => ?_)
  · refine ⟨h2877, ?_⟩
    exact k
  · exact k
theorem iX8_unit_168 {E : zE} {d : Nat} {Q : zO → zM → Prop} (M : zM) (l1 : Int32) (l2 : Int32) (l3 : Int32) (k : if l3 = 0 then (vp_in l1 4002 ∧ (if (gi M 103 (l1).toNatClampNeg) = (5 : Int32) then (if (gi M 104 (l1).toNatClampNeg) = (35 : Int32) then (Zm E YX8_node d M (zargs 0 [vr (some (97, 1, 0)), vi (10 : Int32), vi (0 : Int32), vi l2, vi (0 : Int32)]) 0 [] (zma E YX8_unit (d + 1) [] 297 3 [] Q)) else (if (gi M 104 (l1).toNatClampNeg) = (36 : Int32) then (Zm E YX8_node d M (zargs 0 [vr (some (97, 1, 0)), vi (10 : Int32), vi (1 : Int32), vi l2, vi (0 : Int32)]) 0 [] (zma E YX8_unit (d + 1) [] 297 3 [] Q)) else (if (gi M 104 (l1).toNatClampNeg) = (44 : Int32) then (Zm E YX8_node d M (zargs 0 [vr (some (97, 1, 0)), vi (10 : Int32), vi (2 : Int32), vi l2, vi (0 : Int32)]) 0 [] (zma E YX8_unit (d + 1) [] 297 3 [] Q)) else (Zm E YX8_node d M (zargs 0 [vr (some (97, 1, 0)), vi (10 : Int32), vi (3 : Int32), vi l2, vi (0 : Int32)]) 0 [] (zma E YX8_unit (d + 1) [] 297 3 [] Q))))) else (if (gi M 104 (l1).toNatClampNeg) = (24 : Int32) then (Zm E YX8_node d M (zargs 0 [vr (some (97, 1, 0)), vi (10 : Int32), vi (4 : Int32), vi l2, vi (0 : Int32)]) 0 [] (zma E YX8_unit (d + 1) [] 297 3 [] Q)) else (if (gi M 104 (l1).toNatClampNeg) = (27 : Int32) then (Zm E YX8_node d M (zargs 0 [vr (some (97, 1, 0)), vi (10 : Int32), vi (5 : Int32), vi l2, vi (0 : Int32)]) 0 [] (zma E YX8_unit (d + 1) [] 297 3 [] Q)) else (Zm E YX8_node d M (zargs 0 [vr (some (97, 1, 0)), vi (10 : Int32), vi (6 : Int32), vi l2, vi (0 : Int32)]) 0 [] (zma E YX8_unit (d + 1) [] 297 3 [] Q)))))) else (vp_in l1 4002 ∧ (if (gi M 104 (l1).toNatClampNeg) = (10 : Int32) then (Zm E YX8_node d M (zargs 0 [vr (some (97, 1, 0)), vi (16 : Int32), vi (0 : Int32), vi l2, vi (0 : Int32)]) 0 [] (zma E YX8_unit (d + 1) [] 193 3 [] Q)) else (Zm E YX8_node d M (zargs 0 [vr (some (97, 1, 0)), vi (16 : Int32), vi (1 : Int32), vi l2, vi (0 : Int32)]) 0 [] (zma E YX8_unit (d + 1) [] 193 3 [] Q))))) : Zm E YX8_unit (d + 1) M [(0, vr (some (97, 1, 0))), (1, vi l1), (2, vi l2), (3, vi l3)] 168 [] Q := by
  refine sX8_unit_168 (d := d) M l1 l2 l3 ?_
  refine zite k (fun h2922 k => ?_) (fun h2922 k => ?_)
  · refine zand k (fun h2923 k => ?_)
    refine zite k (fun h2924 k => ?_) (fun h2924 k => ?_)
    · refine ⟨h2923, ?_⟩
      refine zite k (fun h2925 k => ?_) (fun h2925 k => ?_)
      · exact k
      · refine ⟨h2923, ?_⟩
        refine zite k (fun h2926 k => ?_) (fun h2926 k => ?_)
        · exact k
        · refine ⟨h2923, ?_⟩
          exact k
    · refine ⟨h2923, ?_⟩
      refine zite k (fun h2928 k => ?_) (fun h2928 k => ?_)
      · exact k
      · refine ⟨h2923, ?_⟩
        exact k
  · exact k
theorem iX8_unit_146 {E : zE} {d : Nat} {Q : zO → zM → Prop} (M : zM) (l1 : Int32) (l2 : Int32) (l3 : Int32) (s0 : Int32) (k : if s0 = 0 then (if (gi M 97 21) = 0 then (vp_in (gi M 97 20) 4002 ∧ (if (gi M 103 ((gi M 97 20)).toNatClampNeg) = (6 : Int32) then (Q (.inl (some (vi (-1 : Int32)))) (si (si M 97 21 (1 : Int32)) 97 22 (gi M 107 ((gi M 97 20)).toNatClampNeg))) else (Q (.inl (some (vi (-1 : Int32)))) (si (si M 97 21 (3 : Int32)) 97 22 (gi M 107 ((gi M 97 20)).toNatClampNeg))))) else (Q (.inl (some (vi (-1 : Int32)))) M)) else (vp_in l2 12000 ∧ (if (gi M 108 (l2).toNatClampNeg) = (7 : Int32) then (Zm E YX8_unit (d + 1) M [(0, vr (some (97, 1, 0))), (1, vi l1), (2, vi l2), (3, vi l3)] 168 [] Q) else (if (gi M 97 21) = 0 then (vp_in (gi M 97 20) 4002 ∧ (if (gi M 103 ((gi M 97 20)).toNatClampNeg) = (6 : Int32) then (Q (.inl (some (vi (-1 : Int32)))) (si (si M 97 21 (1 : Int32)) 97 22 (gi M 107 ((gi M 97 20)).toNatClampNeg))) else (Q (.inl (some (vi (-1 : Int32)))) (si (si M 97 21 (3 : Int32)) 97 22 (gi M 107 ((gi M 97 20)).toNatClampNeg))))) else (Q (.inl (some (vi (-1 : Int32)))) M))))) : Zm E YX8_unit (d + 1) M [(0, vr (some (97, 1, 0))), (1, vi l1), (2, vi l2), (3, vi l3)] 146 [vi s0] Q := by
  refine sX8_unit_146 (d := d) M l1 l2 l3 s0 ?_
  refine zite k (fun h2932 k => ?_) (fun h2932 k => ?_)
  · refine jX8_fail (d := d) M (3 : Int32) ?_
    refine zite k (fun h2933 k => ?_) (fun h2933 k => ?_)
    · refine zand k (fun h2934 k => ?_)
      refine zite k (fun h2935 k => ?_) (fun h2935 k => ?_)
      · show Zm E YX8_unit (d + 1) (si (si M 97 21 (1 : Int32)) 97 22 (gi M 107 ((gi M 97 20)).toNatClampNeg)) [] 165 [vi (0 : Int32)] Q
        refine sX8_unit_165 (d := d) (si (si M 97 21 (1 : Int32)) 97 22 (gi M 107 ((gi M 97 20)).toNatClampNeg)) (0 : Int32) ?_
        exact k
      · show Zm E YX8_unit (d + 1) (si (si M 97 21 (3 : Int32)) 97 22 (gi M 107 ((gi M 97 20)).toNatClampNeg)) [] 165 [vi (0 : Int32)] Q
        refine sX8_unit_165 (d := d) (si (si M 97 21 (3 : Int32)) 97 22 (gi M 107 ((gi M 97 20)).toNatClampNeg)) (0 : Int32) ?_
        exact k
    · show Zm E YX8_unit (d + 1) M [] 165 [vi (0 : Int32)] Q
      refine sX8_unit_165 (d := d) M (0 : Int32) ?_
      exact k
  · refine zand k (fun h2936 k => ?_)
    refine zite k (fun h2937 k => ?_) (fun h2937 k => ?_)
    · exact k
    · refine jX8_fail (d := d) M (3 : Int32) ?_
      refine zite k (fun h2938 k => ?_) (fun h2938 k => ?_)
      · refine zand k (fun h2939 k => ?_)
        refine zite k (fun h2940 k => ?_) (fun h2940 k => ?_)
        · show Zm E YX8_unit (d + 1) (si (si M 97 21 (1 : Int32)) 97 22 (gi M 107 ((gi M 97 20)).toNatClampNeg)) [] 165 [vi (0 : Int32)] Q
          refine sX8_unit_165 (d := d) (si (si M 97 21 (1 : Int32)) 97 22 (gi M 107 ((gi M 97 20)).toNatClampNeg)) (0 : Int32) ?_
          exact k
        · show Zm E YX8_unit (d + 1) (si (si M 97 21 (3 : Int32)) 97 22 (gi M 107 ((gi M 97 20)).toNatClampNeg)) [] 165 [vi (0 : Int32)] Q
          refine sX8_unit_165 (d := d) (si (si M 97 21 (3 : Int32)) 97 22 (gi M 107 ((gi M 97 20)).toNatClampNeg)) (0 : Int32) ?_
          exact k
      · show Zm E YX8_unit (d + 1) M [] 165 [vi (0 : Int32)] Q
        refine sX8_unit_165 (d := d) M (0 : Int32) ?_
        exact k
theorem iX8_until_21 {E : zE} {d : Nat} {Q : zO → zM → Prop} (M : zM) (l1 : Int32) (s0 : Int32) (k : if (gi M 97 21) ≤ 0 then (Zm E YX8_condition d M (zargs 0 [vr (some (97, 1, 0))]) 0 [] (zma E YX8_until (d + 1) [(0, vr (some (97, 1, 0))), (1, vi l1)] 34 3 [] Q)) else (if (gi M 97 21) = 0 then (vp_in (gi M 97 20) 4002 ∧ (if (gi M 103 ((gi M 97 20)).toNatClampNeg) = (5 : Int32) then (if (gi M 104 ((gi M 97 20)).toNatClampNeg) = (31 : Int32) then (Zm E YX8_node d (si M 97 20 ((gi M 97 20) + (1 : Int32))) (zargs 0 [vr (some (97, 1, 0)), vi (26 : Int32), vi (-1 : Int32), vi l1, vi (0 : Int32)]) 0 [] (zma E YX8_until (d + 1) [] 70 3 [] Q)) else (Zm E YX8_node d M (zargs 0 [vr (some (97, 1, 0)), vi (26 : Int32), vi (-1 : Int32), vi l1, vi (0 : Int32)]) 0 [] (zma E YX8_until (d + 1) [] 70 3 [] Q))) else (Zm E YX8_node d M (zargs 0 [vr (some (97, 1, 0)), vi (26 : Int32), vi (-1 : Int32), vi l1, vi (0 : Int32)]) 0 [] (zma E YX8_until (d + 1) [] 70 3 [] Q)))) else (Zm E YX8_node d M (zargs 0 [vr (some (97, 1, 0)), vi (26 : Int32), vi (-1 : Int32), vi l1, vi (0 : Int32)]) 0 [] (zma E YX8_until (d + 1) [] 70 3 [] Q)))) : Zm E YX8_until (d + 1) M [(0, vr (some (97, 1, 0))), (1, vi l1)] 21 [vi s0] Q := by
  refine sX8_until_21 (d := d) M l1 s0 ?_
  refine zite k (fun h2986 k => ?_) (fun h2986 k => ?_)
  · exact k
  · refine sX8_until_37 (d := d) M l1 (-1 : Int32) ?_
    refine zite k (fun h2987 k => ?_) (fun h2987 k => ?_)
    · refine jX8_isSign (d := d) M (31 : Int32) ?_
      refine zand k (fun h2988 k => ?_)
      refine zite k (fun h2989 k => ?_) (fun h2989 k => ?_)
      · refine zite k (fun h2990 k => ?_) (fun h2990 k => ?_)
        · show Zm E YX8_until (d + 1) M [(0, vr (some (97, 1, 0))), (1, vi l1), (3, vi (-1 : Int32))] 51 [vi (1 : Int32)] Q
          refine sX8_until_51 (d := d) M l1 (-1 : Int32) (1 : Int32) ?_
          refine zneg (show ¬ ((1 : Int32) = 0) from by decide) ?_
          exact k
        · show Zm E YX8_until (d + 1) M [(0, vr (some (97, 1, 0))), (1, vi l1), (3, vi (-1 : Int32))] 51 [vi (0 : Int32)] Q
          refine sX8_until_51 (d := d) M l1 (-1 : Int32) (0 : Int32) ?_
          refine zpos (show (0 : Int32) = 0 from by decide) ?_
          exact k
      · show Zm E YX8_until (d + 1) M [(0, vr (some (97, 1, 0))), (1, vi l1), (3, vi (-1 : Int32))] 51 [vi (0 : Int32)] Q
        refine sX8_until_51 (d := d) M l1 (-1 : Int32) (0 : Int32) ?_
        refine zpos (show (0 : Int32) = 0 from by decide) ?_
        exact k
    · exact k
theorem iX8_until_37 {E : zE} {d : Nat} {Q : zO → zM → Prop} (M : zM) (l1 : Int32) (s0 : Int32) (k : if (gi M 97 21) = 0 then (vp_in (gi M 97 20) 4002 ∧ (if (gi M 103 ((gi M 97 20)).toNatClampNeg) = (5 : Int32) then (if (gi M 104 ((gi M 97 20)).toNatClampNeg) = (31 : Int32) then (Zm E YX8_node d (si M 97 20 ((gi M 97 20) + (1 : Int32))) (zargs 0 [vr (some (97, 1, 0)), vi (26 : Int32), vi s0, vi l1, vi (0 : Int32)]) 0 [] (zma E YX8_until (d + 1) [] 70 3 [] Q)) else (Zm E YX8_node d M (zargs 0 [vr (some (97, 1, 0)), vi (26 : Int32), vi s0, vi l1, vi (0 : Int32)]) 0 [] (zma E YX8_until (d + 1) [] 70 3 [] Q))) else (Zm E YX8_node d M (zargs 0 [vr (some (97, 1, 0)), vi (26 : Int32), vi s0, vi l1, vi (0 : Int32)]) 0 [] (zma E YX8_until (d + 1) [] 70 3 [] Q)))) else (Zm E YX8_node d M (zargs 0 [vr (some (97, 1, 0)), vi (26 : Int32), vi s0, vi l1, vi (0 : Int32)]) 0 [] (zma E YX8_until (d + 1) [] 70 3 [] Q))) : Zm E YX8_until (d + 1) M [(0, vr (some (97, 1, 0))), (1, vi l1)] 37 [vi s0] Q := by
  refine sX8_until_37 (d := d) M l1 s0 ?_
  refine zite k (fun h2991 k => ?_) (fun h2991 k => ?_)
  · refine jX8_isSign (d := d) M (31 : Int32) ?_
    refine zand k (fun h2992 k => ?_)
    refine zite k (fun h2993 k => ?_) (fun h2993 k => ?_)
    · refine zite k (fun h2994 k => ?_) (fun h2994 k => ?_)
      · show Zm E YX8_until (d + 1) M [(0, vr (some (97, 1, 0))), (1, vi l1), (3, vi s0)] 51 [vi (1 : Int32)] Q
        refine sX8_until_51 (d := d) M l1 s0 (1 : Int32) ?_
        refine zneg (show ¬ ((1 : Int32) = 0) from by decide) ?_
        exact k
      · show Zm E YX8_until (d + 1) M [(0, vr (some (97, 1, 0))), (1, vi l1), (3, vi s0)] 51 [vi (0 : Int32)] Q
        refine sX8_until_51 (d := d) M l1 s0 (0 : Int32) ?_
        refine zpos (show (0 : Int32) = 0 from by decide) ?_
        exact k
    · show Zm E YX8_until (d + 1) M [(0, vr (some (97, 1, 0))), (1, vi l1), (3, vi s0)] 51 [vi (0 : Int32)] Q
      refine sX8_until_51 (d := d) M l1 s0 (0 : Int32) ?_
      refine zpos (show (0 : Int32) = 0 from by decide) ?_
      exact k
  · exact k
theorem iX8_whether_27 {E : zE} {d : Nat} {Q : zO → zM → Prop} (M : zM) (s0 : Int32) (k : if (gi M 97 21) = 0 then (vp_in (gi M 97 20) 4002 ∧ (if (gi M 103 ((gi M 97 20)).toNatClampNeg) = (2 : Int32) then (if (gi M 104 ((gi M 97 20)).toNatClampNeg) = (7 : Int32) then (Zm E YX8_statement d (si M 97 20 ((gi M 97 20) + (1 : Int32))) (zargs 0 [vr (some (97, 1, 0))]) 0 [] (zma E YX8_whether (d + 1) [(0, vr (some (97, 1, 0))), (2, vi s0)] 55 3 [] Q)) else (Q (.inl (some (vi s0))) M)) else (Q (.inl (some (vi s0))) M))) else (Q (.inl (some (vi s0))) M)) : Zm E YX8_whether (d + 1) M [(0, vr (some (97, 1, 0)))] 27 [vi s0] Q := by
  refine sX8_whether_27 (d := d) M s0 ?_
  refine zite k (fun h2995 k => ?_) (fun h2995 k => ?_)
  · refine jX8_isKeyword (d := d) M (7 : Int32) ?_
    refine zand k (fun h2996 k => ?_)
    refine zite k (fun h2997 k => ?_) (fun h2997 k => ?_)
    · refine zite k (fun h2998 k => ?_) (fun h2998 k => ?_)
      · show Zm E YX8_whether (d + 1) M [(0, vr (some (97, 1, 0))), (2, vi s0)] 41 [vi (1 : Int32)] Q
        refine sX8_whether_41 (d := d) M s0 (1 : Int32) ?_
        refine zneg (show ¬ ((1 : Int32) = 0) from by decide) ?_
        exact k
      · show Zm E YX8_whether (d + 1) M [(0, vr (some (97, 1, 0))), (2, vi s0)] 41 [vi (0 : Int32)] Q
        refine sX8_whether_41 (d := d) M s0 (0 : Int32) ?_
        refine zpos (show (0 : Int32) = 0 from by decide) ?_
        exact k
    · show Zm E YX8_whether (d + 1) M [(0, vr (some (97, 1, 0))), (2, vi s0)] 41 [vi (0 : Int32)] Q
      refine sX8_whether_41 (d := d) M s0 (0 : Int32) ?_
      refine zpos (show (0 : Int32) = 0 from by decide) ?_
      exact k
  · exact k
theorem iX8_addVariable_6 {E : zE} {d : Nat} {Q : zO → zM → Prop} (M : zM) (l1 : Int32) (l2 : Int32) (s0 : Int32) (k : if s0 = 0 then (vp_in l1 12 ∧ (vp_in (((100 : Int32) * l1) + (gi M 130 (l1).toNatClampNeg)) 1200 ∧ (Q (.inl none) (si (si M 129 ((((100 : Int32) * l1) + (gi M 130 (l1).toNatClampNeg))).toNatClampNeg l2) 130 (l1).toNatClampNeg ((gi M 130 (l1).toNatClampNeg) + (1 : Int32)))))) else (Q (.inl none) M)) : Zm E YX8_addVariable (d + 1) M [(0, vr (some (97, 1, 0))), (1, vi l1), (2, vi l2)] 6 [vi s0] Q := by
  refine sX8_addVariable_6 (d := d) M l1 l2 s0 ?_
  refine zite k (fun h3005 k => ?_) (fun h3005 k => ?_)
  · refine zand k (fun h3006 k => ?_)
    refine zand k (fun h3007 k => ?_)
    refine ⟨h3006, ?_⟩
    refine ⟨h3006, ?_⟩
    exact k
  · exact k
theorem iX8_attempt_24 {E : zE} {d : Nat} {Q : zO → zM → Prop} (M : zM) (l1 : Int32) (s0 : Int32) (k : vp_in ((5 : Int32) * l1) 60000 ∧ (if (gi M 97 21) = 0 then (vp_in (gi M 97 20) 4002 ∧ (if (gi M 103 ((gi M 97 20)).toNatClampNeg) = (2 : Int32) then (if (gi M 104 ((gi M 97 20)).toNatClampNeg) = (2 : Int32) then (Zm E YX8_must d (si (si M 109 (((5 : Int32) * l1)).toNatClampNeg s0) 97 20 ((gi M 97 20) + (1 : Int32))) (zargs 0 [vr (some (97, 1, 0)), vi (26 : Int32)]) 0 [] (zma E YX8_attempt (d + 1) [(0, vr (some (97, 1, 0))), (1, vi l1), (3, vi (1 : Int32))] 66 3 [] Q)) else (Zm E YX8_attempt (d + 1) (si M 109 (((5 : Int32) * l1)).toNatClampNeg s0) [(0, vr (some (97, 1, 0))), (1, vi l1), (3, vi (0 : Int32))] 120 [] Q)) else (Zm E YX8_attempt (d + 1) (si M 109 (((5 : Int32) * l1)).toNatClampNeg s0) [(0, vr (some (97, 1, 0))), (1, vi l1), (3, vi (0 : Int32))] 120 [] Q))) else (Zm E YX8_attempt (d + 1) (si M 109 (((5 : Int32) * l1)).toNatClampNeg s0) [(0, vr (some (97, 1, 0))), (1, vi l1), (3, vi (0 : Int32))] 120 [] Q))) : Zm E YX8_attempt (d + 1) M [(0, vr (some (97, 1, 0))), (1, vi l1)] 24 [vi s0] Q := by
  refine sX8_attempt_24 (d := d) M l1 s0 ?_
  refine zand k (fun h3008 k => ?_)
  refine zite k (fun h3009 k => ?_) (fun h3009 k => ?_)
  · refine jX8_isKeyword (d := d) (si M 109 (((5 : Int32) * l1)).toNatClampNeg s0) (2 : Int32) ?_
    refine zand k (fun h3010 k => ?_)
    refine zite k (fun h3011 k => ?_) (fun h3011 k => ?_)
    · refine zite k (fun h3012 k => ?_) (fun h3012 k => ?_)
      · show Zm E YX8_attempt (d + 1) (si M 109 (((5 : Int32) * l1)).toNatClampNeg s0) [(0, vr (some (97, 1, 0))), (1, vi l1), (3, vi (0 : Int32))] 48 [vi (1 : Int32)] Q
        refine sX8_attempt_48 (d := d) (si M 109 (((5 : Int32) * l1)).toNatClampNeg s0) l1 (0 : Int32) (1 : Int32) ?_
        refine zneg (show ¬ ((1 : Int32) = 0) from by decide) ?_
        exact k
      · show Zm E YX8_attempt (d + 1) (si M 109 (((5 : Int32) * l1)).toNatClampNeg s0) [(0, vr (some (97, 1, 0))), (1, vi l1), (3, vi (0 : Int32))] 48 [vi (0 : Int32)] Q
        refine sX8_attempt_48 (d := d) (si M 109 (((5 : Int32) * l1)).toNatClampNeg s0) l1 (0 : Int32) (0 : Int32) ?_
        refine zpos (show (0 : Int32) = 0 from by decide) ?_
        exact k
    · show Zm E YX8_attempt (d + 1) (si M 109 (((5 : Int32) * l1)).toNatClampNeg s0) [(0, vr (some (97, 1, 0))), (1, vi l1), (3, vi (0 : Int32))] 48 [vi (0 : Int32)] Q
      refine sX8_attempt_48 (d := d) (si M 109 (((5 : Int32) * l1)).toNatClampNeg s0) l1 (0 : Int32) (0 : Int32) ?_
      refine zpos (show (0 : Int32) = 0 from by decide) ?_
      exact k
  · exact k
theorem iX8_attempt_120 {E : zE} {d : Nat} {Q : zO → zM → Prop} (M : zM) (l1 : Int32) (l3 : Int32) (k : if (gi M 97 21) = 0 then (vp_in (gi M 97 20) 4002 ∧ (if (gi M 103 ((gi M 97 20)).toNatClampNeg) = (2 : Int32) then (if (gi M 104 ((gi M 97 20)).toNatClampNeg) = (9 : Int32) then (Zm E YX8_block d (si M 97 20 ((gi M 97 20) + (1 : Int32))) (zargs 0 [vr (some (97, 1, 0))]) 0 [] (zma E YX8_attempt (d + 1) [(0, vr (some (97, 1, 0))), (1, vi l1), (3, vi (l3 + (2 : Int32)))] 150 3 [] Q)) else (if l3 = 0 then (if (gi M 103 ((gi M 97 20)).toNatClampNeg) = (6 : Int32) then (vp_in (((5 : Int32) * l1) + (4 : Int32)) 60000 ∧ (Q (.inl (some (vi l1))) (si (si (si M 97 21 (1 : Int32)) 97 22 (gi M 107 ((gi M 97 20)).toNatClampNeg)) 109 ((((5 : Int32) * l1) + (4 : Int32))).toNatClampNeg l3))) else (vp_in (((5 : Int32) * l1) + (4 : Int32)) 60000 ∧ (Q (.inl (some (vi l1))) (si (si (si M 97 21 (2 : Int32)) 97 22 (gi M 107 ((gi M 97 20)).toNatClampNeg)) 109 ((((5 : Int32) * l1) + (4 : Int32))).toNatClampNeg l3)))) else (vp_in (((5 : Int32) * l1) + (4 : Int32)) 60000 ∧ (Q (.inl (some (vi l1))) (si M 109 ((((5 : Int32) * l1) + (4 : Int32))).toNatClampNeg l3))))) else (if l3 = 0 then (if (gi M 103 ((gi M 97 20)).toNatClampNeg) = (6 : Int32) then (vp_in (((5 : Int32) * l1) + (4 : Int32)) 60000 ∧ (Q (.inl (some (vi l1))) (si (si (si M 97 21 (1 : Int32)) 97 22 (gi M 107 ((gi M 97 20)).toNatClampNeg)) 109 ((((5 : Int32) * l1) + (4 : Int32))).toNatClampNeg l3))) else (vp_in (((5 : Int32) * l1) + (4 : Int32)) 60000 ∧ (Q (.inl (some (vi l1))) (si (si (si M 97 21 (2 : Int32)) 97 22 (gi M 107 ((gi M 97 20)).toNatClampNeg)) 109 ((((5 : Int32) * l1) + (4 : Int32))).toNatClampNeg l3)))) else (vp_in (((5 : Int32) * l1) + (4 : Int32)) 60000 ∧ (Q (.inl (some (vi l1))) (si M 109 ((((5 : Int32) * l1) + (4 : Int32))).toNatClampNeg l3)))))) else (if l3 = 0 then (vp_in (((5 : Int32) * l1) + (4 : Int32)) 60000 ∧ (Q (.inl (some (vi l1))) (si M 109 ((((5 : Int32) * l1) + (4 : Int32))).toNatClampNeg l3))) else (vp_in (((5 : Int32) * l1) + (4 : Int32)) 60000 ∧ (Q (.inl (some (vi l1))) (si M 109 ((((5 : Int32) * l1) + (4 : Int32))).toNatClampNeg l3))))) : Zm E YX8_attempt (d + 1) M [(0, vr (some (97, 1, 0))), (1, vi l1), (3, vi l3)] 120 [] Q := by
  refine sX8_attempt_120 (d := d) M l1 l3 ?_
  refine zite k (fun h3013 k => ?_) (fun h3013 k => ?_)
  · refine jX8_isKeyword (d := d) M (9 : Int32) ?_
    refine zand k (fun h3014 k => ?_)
    refine zite k (fun h3015 k => ?_) (fun h3015 k => ?_)
    · refine zite k (fun h3016 k => ?_) (fun h3016 k => ?_)
      · show Zm E YX8_attempt (d + 1) M [(0, vr (some (97, 1, 0))), (1, vi l1), (3, vi l3)] 133 [vi (1 : Int32)] Q
        refine sX8_attempt_133 (d := d) M l1 l3 (1 : Int32) ?_
        refine zneg (show ¬ ((1 : Int32) = 0) from by decide) ?_
        exact k
      · show Zm E YX8_attempt (d + 1) M [(0, vr (some (97, 1, 0))), (1, vi l1), (3, vi l3)] 133 [vi (0 : Int32)] Q
        refine sX8_attempt_133 (d := d) M l1 l3 (0 : Int32) ?_
        refine zpos (show (0 : Int32) = 0 from by decide) ?_
        refine zite k (fun h3017 k => ?_) (fun h3017 k => ?_)
        · refine jX8_fail (d := d) M (2 : Int32) ?_
          refine zpos h3013 ?_
          refine ⟨h3014, ?_⟩
          refine zite k (fun h3018 k => ?_) (fun h3018 k => ?_)
          · show Zm E YX8_attempt (d + 1) (si (si M 97 21 (1 : Int32)) 97 22 (gi M 107 ((gi M 97 20)).toNatClampNeg)) [(0, vr (some (97, 1, 0))), (1, vi l1), (3, vi l3)] 174 [vi (0 : Int32)] Q
            refine sX8_attempt_174 (d := d) (si (si M 97 21 (1 : Int32)) 97 22 (gi M 107 ((gi M 97 20)).toNatClampNeg)) l1 l3 (0 : Int32) ?_
            refine sX8_attempt_175 (d := d) (si (si M 97 21 (1 : Int32)) 97 22 (gi M 107 ((gi M 97 20)).toNatClampNeg)) l1 l3 ?_
            exact k
          · show Zm E YX8_attempt (d + 1) (si (si M 97 21 (2 : Int32)) 97 22 (gi M 107 ((gi M 97 20)).toNatClampNeg)) [(0, vr (some (97, 1, 0))), (1, vi l1), (3, vi l3)] 174 [vi (0 : Int32)] Q
            refine sX8_attempt_174 (d := d) (si (si M 97 21 (2 : Int32)) 97 22 (gi M 107 ((gi M 97 20)).toNatClampNeg)) l1 l3 (0 : Int32) ?_
            refine sX8_attempt_175 (d := d) (si (si M 97 21 (2 : Int32)) 97 22 (gi M 107 ((gi M 97 20)).toNatClampNeg)) l1 l3 ?_
            exact k
        · refine sX8_attempt_175 (d := d) M l1 l3 ?_
          exact k
    · show Zm E YX8_attempt (d + 1) M [(0, vr (some (97, 1, 0))), (1, vi l1), (3, vi l3)] 133 [vi (0 : Int32)] Q
      refine sX8_attempt_133 (d := d) M l1 l3 (0 : Int32) ?_
      refine zpos (show (0 : Int32) = 0 from by decide) ?_
      refine zite k (fun h3022 k => ?_) (fun h3022 k => ?_)
      · refine jX8_fail (d := d) M (2 : Int32) ?_
        refine zpos h3013 ?_
        refine ⟨h3014, ?_⟩
        refine zite k (fun h3023 k => ?_) (fun h3023 k => ?_)
        · show Zm E YX8_attempt (d + 1) (si (si M 97 21 (1 : Int32)) 97 22 (gi M 107 ((gi M 97 20)).toNatClampNeg)) [(0, vr (some (97, 1, 0))), (1, vi l1), (3, vi l3)] 174 [vi (0 : Int32)] Q
          refine sX8_attempt_174 (d := d) (si (si M 97 21 (1 : Int32)) 97 22 (gi M 107 ((gi M 97 20)).toNatClampNeg)) l1 l3 (0 : Int32) ?_
          refine sX8_attempt_175 (d := d) (si (si M 97 21 (1 : Int32)) 97 22 (gi M 107 ((gi M 97 20)).toNatClampNeg)) l1 l3 ?_
          exact k
        · show Zm E YX8_attempt (d + 1) (si (si M 97 21 (2 : Int32)) 97 22 (gi M 107 ((gi M 97 20)).toNatClampNeg)) [(0, vr (some (97, 1, 0))), (1, vi l1), (3, vi l3)] 174 [vi (0 : Int32)] Q
          refine sX8_attempt_174 (d := d) (si (si M 97 21 (2 : Int32)) 97 22 (gi M 107 ((gi M 97 20)).toNatClampNeg)) l1 l3 (0 : Int32) ?_
          refine sX8_attempt_175 (d := d) (si (si M 97 21 (2 : Int32)) 97 22 (gi M 107 ((gi M 97 20)).toNatClampNeg)) l1 l3 ?_
          exact k
      · refine sX8_attempt_175 (d := d) M l1 l3 ?_
        exact k
  · refine zite k (fun h3027 k => ?_) (fun h3027 k => ?_)
    · refine jX8_fail (d := d) M (2 : Int32) ?_
      refine zneg h3013 ?_
      show Zm E YX8_attempt (d + 1) M [(0, vr (some (97, 1, 0))), (1, vi l1), (3, vi l3)] 174 [vi (0 : Int32)] Q
      refine sX8_attempt_174 (d := d) M l1 l3 (0 : Int32) ?_
      refine sX8_attempt_175 (d := d) M l1 l3 ?_
      exact k
    · refine sX8_attempt_175 (d := d) M l1 l3 ?_
      exact k
theorem iX8_attempt_153 {E : zE} {d : Nat} {Q : zO → zM → Prop} (M : zM) (l1 : Int32) (l3 : Int32) (s0 : Int32) (k : vp_in (((5 : Int32) * l1) + (3 : Int32)) 60000 ∧ (if l3 = 0 then (if (gi M 97 21) = 0 then (vp_in (gi M 97 20) 4002 ∧ (if (gi M 103 ((gi M 97 20)).toNatClampNeg) = (6 : Int32) then (vp_in (((5 : Int32) * l1) + (4 : Int32)) 60000 ∧ (Q (.inl (some (vi l1))) (si (si (si (si M 109 ((((5 : Int32) * l1) + (3 : Int32))).toNatClampNeg s0) 97 21 (1 : Int32)) 97 22 (gi M 107 ((gi M 97 20)).toNatClampNeg)) 109 ((((5 : Int32) * l1) + (4 : Int32))).toNatClampNeg l3))) else (vp_in (((5 : Int32) * l1) + (4 : Int32)) 60000 ∧ (Q (.inl (some (vi l1))) (si (si (si (si M 109 ((((5 : Int32) * l1) + (3 : Int32))).toNatClampNeg s0) 97 21 (2 : Int32)) 97 22 (gi M 107 ((gi M 97 20)).toNatClampNeg)) 109 ((((5 : Int32) * l1) + (4 : Int32))).toNatClampNeg l3))))) else (vp_in (((5 : Int32) * l1) + (4 : Int32)) 60000 ∧ (Q (.inl (some (vi l1))) (si (si M 109 ((((5 : Int32) * l1) + (3 : Int32))).toNatClampNeg s0) 109 ((((5 : Int32) * l1) + (4 : Int32))).toNatClampNeg l3)))) else (vp_in (((5 : Int32) * l1) + (4 : Int32)) 60000 ∧ (Q (.inl (some (vi l1))) (si (si M 109 ((((5 : Int32) * l1) + (3 : Int32))).toNatClampNeg s0) 109 ((((5 : Int32) * l1) + (4 : Int32))).toNatClampNeg l3))))) : Zm E YX8_attempt (d + 1) M [(0, vr (some (97, 1, 0))), (1, vi l1), (3, vi l3)] 153 [vi s0] Q := by
  refine sX8_attempt_153 (d := d) M l1 l3 s0 ?_
  refine zand k (fun h3030 k => ?_)
  refine zite k (fun h3031 k => ?_) (fun h3031 k => ?_)
  · refine jX8_fail (d := d) (si M 109 ((((5 : Int32) * l1) + (3 : Int32))).toNatClampNeg s0) (2 : Int32) ?_
    refine zite k (fun h3032 k => ?_) (fun h3032 k => ?_)
    · refine zand k (fun h3033 k => ?_)
      refine zite k (fun h3034 k => ?_) (fun h3034 k => ?_)
      · show Zm E YX8_attempt (d + 1) (si (si (si M 109 ((((5 : Int32) * l1) + (3 : Int32))).toNatClampNeg s0) 97 21 (1 : Int32)) 97 22 (gi M 107 ((gi M 97 20)).toNatClampNeg)) [(0, vr (some (97, 1, 0))), (1, vi l1), (3, vi l3)] 174 [vi (0 : Int32)] Q
        refine sX8_attempt_174 (d := d) (si (si (si M 109 ((((5 : Int32) * l1) + (3 : Int32))).toNatClampNeg s0) 97 21 (1 : Int32)) 97 22 (gi M 107 ((gi M 97 20)).toNatClampNeg)) l1 l3 (0 : Int32) ?_
        refine sX8_attempt_175 (d := d) (si (si (si M 109 ((((5 : Int32) * l1) + (3 : Int32))).toNatClampNeg s0) 97 21 (1 : Int32)) 97 22 (gi M 107 ((gi M 97 20)).toNatClampNeg)) l1 l3 ?_
        exact k
      · show Zm E YX8_attempt (d + 1) (si (si (si M 109 ((((5 : Int32) * l1) + (3 : Int32))).toNatClampNeg s0) 97 21 (2 : Int32)) 97 22 (gi M 107 ((gi M 97 20)).toNatClampNeg)) [(0, vr (some (97, 1, 0))), (1, vi l1), (3, vi l3)] 174 [vi (0 : Int32)] Q
        refine sX8_attempt_174 (d := d) (si (si (si M 109 ((((5 : Int32) * l1) + (3 : Int32))).toNatClampNeg s0) 97 21 (2 : Int32)) 97 22 (gi M 107 ((gi M 97 20)).toNatClampNeg)) l1 l3 (0 : Int32) ?_
        refine sX8_attempt_175 (d := d) (si (si (si M 109 ((((5 : Int32) * l1) + (3 : Int32))).toNatClampNeg s0) 97 21 (2 : Int32)) 97 22 (gi M 107 ((gi M 97 20)).toNatClampNeg)) l1 l3 ?_
        exact k
    · show Zm E YX8_attempt (d + 1) (si M 109 ((((5 : Int32) * l1) + (3 : Int32))).toNatClampNeg s0) [(0, vr (some (97, 1, 0))), (1, vi l1), (3, vi l3)] 174 [vi (0 : Int32)] Q
      refine sX8_attempt_174 (d := d) (si M 109 ((((5 : Int32) * l1) + (3 : Int32))).toNatClampNeg s0) l1 l3 (0 : Int32) ?_
      refine sX8_attempt_175 (d := d) (si M 109 ((((5 : Int32) * l1) + (3 : Int32))).toNatClampNeg s0) l1 l3 ?_
      exact k
  · refine sX8_attempt_175 (d := d) (si M 109 ((((5 : Int32) * l1) + (3 : Int32))).toNatClampNeg s0) l1 l3 ?_
    exact k
theorem iX8_back_2_0 {E : zE} {d : Nat} {Q : zO → zM → Prop} (M : zM)  (k : vp_in ((gi M 97 20) + (1 : Int32)) 4002 ∧ (vp_in (((gi M 97 20) + (1 : Int32)) - (1 : Int32)) 4002 ∧ (if (gi M 107 (((gi M 97 20) + (1 : Int32))).toNatClampNeg) = (gi M 107 ((((gi M 97 20) + (1 : Int32)) - (1 : Int32))).toNatClampNeg) then (if (gi M 103 (((gi M 97 20) + (1 : Int32))).toNatClampNeg) = (5 : Int32) then (if (gi M 104 (((gi M 97 20) + (1 : Int32))).toNatClampNeg) = (31 : Int32) then (Zm E YX8_node d (si M 97 20 ((gi M 97 20) + (1 : Int32))) (zargs 0 [vr (some (97, 1, 0)), vi (31 : Int32), vi (-1 : Int32), vi (0 : Int32), vi (0 : Int32)]) 0 [] (zma E YX8_back_2 (d + 1) [(0, vr (some (97, 1, 0)))] 75 3 [] Q)) else (if (gi M 104 (((gi M 97 20) + (1 : Int32))).toNatClampNeg) = (25 : Int32) then (Zm E YX8_node d (si M 97 20 ((gi M 97 20) + (1 : Int32))) (zargs 0 [vr (some (97, 1, 0)), vi (31 : Int32), vi (-1 : Int32), vi (0 : Int32), vi (0 : Int32)]) 0 [] (zma E YX8_back_2 (d + 1) [(0, vr (some (97, 1, 0)))] 75 3 [] Q)) else (Zm E YX8_expression d (si M 97 20 ((gi M 97 20) + (1 : Int32))) (zargs 0 [vr (some (97, 1, 0)), vi (1 : Int32)]) 0 [] (zma E YX8_back_2 (d + 1) [(0, vr (some (97, 1, 0)))] 66 3 [vi (31 : Int32), vr (some (97, 1, 0))] Q)))) else (Zm E YX8_expression d (si M 97 20 ((gi M 97 20) + (1 : Int32))) (zargs 0 [vr (some (97, 1, 0)), vi (1 : Int32)]) 0 [] (zma E YX8_back_2 (d + 1) [(0, vr (some (97, 1, 0)))] 66 3 [vi (31 : Int32), vr (some (97, 1, 0))] Q))) else (Zm E YX8_node d (si M 97 20 ((gi M 97 20) + (1 : Int32))) (zargs 0 [vr (some (97, 1, 0)), vi (31 : Int32), vi (-1 : Int32), vi (0 : Int32), vi (0 : Int32)]) 0 [] (zma E YX8_back_2 (d + 1) [(0, vr (some (97, 1, 0)))] 75 3 [] Q))))) : Zm E YX8_back_2 (d + 1) M [(0, vr (some (97, 1, 0)))] 0 [] Q := by
  refine sX8_back_2_0 (d := d) M  ?_
  refine zand k (fun h3041 k => ?_)
  refine zand k (fun h3042 k => ?_)
  refine zite k (fun h3043 k => ?_) (fun h3043 k => ?_)
  · refine jX8_isSign (d := d) (si M 97 20 ((gi M 97 20) + (1 : Int32))) (31 : Int32) ?_
    refine ⟨h3041, ?_⟩
    refine zite k (fun h3044 k => ?_) (fun h3044 k => ?_)
    · refine zite k (fun h3045 k => ?_) (fun h3045 k => ?_)
      · show Zm E YX8_back_2 (d + 1) (si M 97 20 ((gi M 97 20) + (1 : Int32))) [(0, vr (some (97, 1, 0)))] 39 [vi (1 : Int32)] Q
        refine sX8_back_2_39 (d := d) (si M 97 20 ((gi M 97 20) + (1 : Int32))) (1 : Int32) ?_
        refine zneg (show ¬ ((1 : Int32) = 0) from by decide) ?_
        refine sX8_back_2_56 (d := d) (si M 97 20 ((gi M 97 20) + (1 : Int32))) (0 : Int32) ?_
        refine zpos (show (0 : Int32) = 0 from by decide) ?_
        exact k
      · show Zm E YX8_back_2 (d + 1) (si M 97 20 ((gi M 97 20) + (1 : Int32))) [(0, vr (some (97, 1, 0)))] 39 [vi (0 : Int32)] Q
        refine sX8_back_2_39 (d := d) (si M 97 20 ((gi M 97 20) + (1 : Int32))) (0 : Int32) ?_
        refine zpos (show (0 : Int32) = 0 from by decide) ?_
        refine jX8_isSign (d := d) (si M 97 20 ((gi M 97 20) + (1 : Int32))) (25 : Int32) ?_
        refine ⟨h3041, ?_⟩
        refine zpos h3044 ?_
        refine zite k (fun h3046 k => ?_) (fun h3046 k => ?_)
        · show Zm E YX8_back_2 (d + 1) (si M 97 20 ((gi M 97 20) + (1 : Int32))) [(0, vr (some (97, 1, 0)))] 48 [vi (1 : Int32)] Q
          refine sX8_back_2_48 (d := d) (si M 97 20 ((gi M 97 20) + (1 : Int32))) (1 : Int32) ?_
          refine zneg (show ¬ ((1 : Int32) = 0) from by decide) ?_
          refine sX8_back_2_56 (d := d) (si M 97 20 ((gi M 97 20) + (1 : Int32))) (0 : Int32) ?_
          refine zpos (show (0 : Int32) = 0 from by decide) ?_
          exact k
        · show Zm E YX8_back_2 (d + 1) (si M 97 20 ((gi M 97 20) + (1 : Int32))) [(0, vr (some (97, 1, 0)))] 48 [vi (0 : Int32)] Q
          refine sX8_back_2_48 (d := d) (si M 97 20 ((gi M 97 20) + (1 : Int32))) (0 : Int32) ?_
          refine zpos (show (0 : Int32) = 0 from by decide) ?_
          refine sX8_back_2_56 (d := d) (si M 97 20 ((gi M 97 20) + (1 : Int32))) (1 : Int32) ?_
          refine zneg (show ¬ ((1 : Int32) = 0) from by decide) ?_
          exact k
    · show Zm E YX8_back_2 (d + 1) (si M 97 20 ((gi M 97 20) + (1 : Int32))) [(0, vr (some (97, 1, 0)))] 39 [vi (0 : Int32)] Q
      refine sX8_back_2_39 (d := d) (si M 97 20 ((gi M 97 20) + (1 : Int32))) (0 : Int32) ?_
      refine zpos (show (0 : Int32) = 0 from by decide) ?_
      refine jX8_isSign (d := d) (si M 97 20 ((gi M 97 20) + (1 : Int32))) (25 : Int32) ?_
      refine ⟨h3041, ?_⟩
      refine zneg h3044 ?_
      show Zm E YX8_back_2 (d + 1) (si M 97 20 ((gi M 97 20) + (1 : Int32))) [(0, vr (some (97, 1, 0)))] 48 [vi (0 : Int32)] Q
      refine sX8_back_2_48 (d := d) (si M 97 20 ((gi M 97 20) + (1 : Int32))) (0 : Int32) ?_
      refine zpos (show (0 : Int32) = 0 from by decide) ?_
      refine sX8_back_2_56 (d := d) (si M 97 20 ((gi M 97 20) + (1 : Int32))) (1 : Int32) ?_
      refine zneg (show ¬ ((1 : Int32) = 0) from by decide) ?_
      exact k
  · refine sX8_back_2_56 (d := d) (si M 97 20 ((gi M 97 20) + (1 : Int32))) (0 : Int32) ?_
    refine zpos (show (0 : Int32) = 0 from by decide) ?_
    exact k
theorem iX8_cases_31 {E : zE} {d : Nat} {Q : zO → zM → Prop} (M : zM) (l2 : Int32) (s0 : Int32) (k : vp_in (gi M 97 31) 200 ∧ (Zm E YX8_cases (d + 1) (si (si (si M 112 ((gi M 97 31)).toNatClampNeg (-1 : Int32)) 97 31 ((gi M 97 31) + (1 : Int32))) 97 45 ((gi M 97 45) + (1 : Int32))) [(0, vr (some (97, 1, 0))), (2, vi l2), (4, vi (0 : Int32))] 49 [] Q)) : Zm E YX8_cases (d + 1) M [(0, vr (some (97, 1, 0))), (2, vi l2)] 31 [vi s0] Q := by
  refine sX8_cases_31 (d := d) M l2 s0 ?_
  refine sX8_beginList_0 (d := d) M  ?_
  refine zand k (fun h3047 k => ?_)
  show Zm E YX8_cases (d + 1) (si (si M 112 ((gi M 97 31)).toNatClampNeg (-1 : Int32)) 97 31 ((gi M 97 31) + (1 : Int32))) [(0, vr (some (97, 1, 0))), (2, vi l2), (4, vi (0 : Int32))] 39 [] Q
  refine sX8_cases_39 (d := d) (si (si M 112 ((gi M 97 31)).toNatClampNeg (-1 : Int32)) 97 31 ((gi M 97 31) + (1 : Int32))) l2 (0 : Int32) ?_
  exact k
theorem iX8_cases_49 {E : zE} {d : Nat} {Q : zO → zM → Prop} (M : zM) (l2 : Int32) (l4 : Int32) (k : if (gi M 97 21) = 0 then (Zm E YX8_isSign d M (zargs 0 [vr (some (97, 1, 0)), vi (25 : Int32)]) 0 [] (zma E YX8_cases (d + 1) [(0, vr (some (97, 1, 0))), (2, vi l2), (4, vi l4)] 59 3 [] Q)) else (vp_in ((gi M 97 31) - (1 : Int32)) 200 ∧ (vp_in (((5 : Int32) * l2) + (1 : Int32)) 60000 ∧ (Zm E YX8_must d (si (si (si M 97 45 ((gi M 97 45) - (1 : Int32))) 97 31 ((gi M 97 31) - (1 : Int32))) 109 ((((5 : Int32) * l2) + (1 : Int32))).toNatClampNeg (gi M 112 (((gi M 97 31) - (1 : Int32))).toNatClampNeg)) (zargs 0 [vr (some (97, 1, 0)), vi (25 : Int32)]) 0 [] (zma E YX8_cases (d + 1) [(2, vi l2)] 267 3 [] Q))))) : Zm E YX8_cases (d + 1) M [(0, vr (some (97, 1, 0))), (2, vi l2), (4, vi l4)] 49 [] Q := by
  refine sX8_cases_49 (d := d) M l2 l4 ?_
  refine zite k (fun h3064 k => ?_) (fun h3064 k => ?_)
  · exact k
  · refine sX8_cases_236 (d := d) M l2 ?_
    refine sX8_ended_0 (d := d) (si M 97 45 ((gi M 97 45) - (1 : Int32)))  ?_
    refine zand k (fun h3065 k => ?_)
    show Zm E YX8_cases (d + 1) (si (si M 97 45 ((gi M 97 45) - (1 : Int32))) 97 31 ((gi M 97 31) - (1 : Int32))) [(0, vr (some (97, 1, 0))), (2, vi l2)] 250 [vi (gi M 112 (((gi M 97 31) - (1 : Int32))).toNatClampNeg)] Q
    refine sX8_cases_250 (d := d) (si (si M 97 45 ((gi M 97 45) - (1 : Int32))) 97 31 ((gi M 97 31) - (1 : Int32))) l2 (gi M 112 (((gi M 97 31) - (1 : Int32))).toNatClampNeg) ?_
    exact k
theorem iX8_cases_62 {E : zE} {d : Nat} {Q : zO → zM → Prop} (M : zM) (l2 : Int32) (l4 : Int32) (s0 : Int32) (k : if s0 = 0 then (vp_in (gi M 97 20) 4002 ∧ (if (gi M 103 ((gi M 97 20)).toNatClampNeg) = (2 : Int32) then (if (gi M 104 ((gi M 97 20)).toNatClampNeg) = (4 : Int32) then (if l4 = 0 then (Zm E YX8_cases (d + 1) M [(0, vr (some (97, 1, 0))), (2, vi l2), (4, vi l4), (5, vi (-1 : Int32)), (6, vi (1 : Int32))] 91 [] Q) else (if (gi M 97 21) = 0 then (if (gi M 103 ((gi M 97 20)).toNatClampNeg) = (6 : Int32) then (Zm E YX8_cases (d + 1) (si (si M 97 21 (1 : Int32)) 97 22 (gi M 107 ((gi M 97 20)).toNatClampNeg)) [(0, vr (some (97, 1, 0))), (2, vi l2), (4, vi l4), (5, vi (-1 : Int32)), (6, vi (1 : Int32))] 91 [] Q) else (Zm E YX8_cases (d + 1) (si (si M 97 21 (3 : Int32)) 97 22 (gi M 107 ((gi M 97 20)).toNatClampNeg)) [(0, vr (some (97, 1, 0))), (2, vi l2), (4, vi l4), (5, vi (-1 : Int32)), (6, vi (1 : Int32))] 91 [] Q)) else (Zm E YX8_cases (d + 1) M [(0, vr (some (97, 1, 0))), (2, vi l2), (4, vi l4), (5, vi (-1 : Int32)), (6, vi (1 : Int32))] 91 [] Q))) else (Zm E YX8_cases (d + 1) M [(0, vr (some (97, 1, 0))), (2, vi l2), (4, vi l4), (5, vi (-1 : Int32)), (6, vi (0 : Int32))] 91 [] Q)) else (Zm E YX8_cases (d + 1) M [(0, vr (some (97, 1, 0))), (2, vi l2), (4, vi l4), (5, vi (-1 : Int32)), (6, vi (0 : Int32))] 91 [] Q))) else (vp_in ((gi M 97 31) - (1 : Int32)) 200 ∧ (vp_in (((5 : Int32) * l2) + (1 : Int32)) 60000 ∧ (Zm E YX8_must d (si (si (si M 97 45 ((gi M 97 45) - (1 : Int32))) 97 31 ((gi M 97 31) - (1 : Int32))) 109 ((((5 : Int32) * l2) + (1 : Int32))).toNatClampNeg (gi M 112 (((gi M 97 31) - (1 : Int32))).toNatClampNeg)) (zargs 0 [vr (some (97, 1, 0)), vi (25 : Int32)]) 0 [] (zma E YX8_cases (d + 1) [(2, vi l2)] 267 3 [] Q))))) : Zm E YX8_cases (d + 1) M [(0, vr (some (97, 1, 0))), (2, vi l2), (4, vi l4)] 62 [vi s0] Q := by
  refine sX8_cases_62 (d := d) M l2 l4 s0 ?_
  refine zite k (fun h3067 k => ?_) (fun h3067 k => ?_)
  · refine jX8_isKeyword (d := d) M (4 : Int32) ?_
    refine zand k (fun h3068 k => ?_)
    refine zite k (fun h3069 k => ?_) (fun h3069 k => ?_)
    · refine zite k (fun h3070 k => ?_) (fun h3070 k => ?_)
      · show Zm E YX8_cases (d + 1) M [(0, vr (some (97, 1, 0))), (2, vi l2), (4, vi l4), (5, vi (-1 : Int32))] 73 [vi (1 : Int32)] Q
        refine sX8_cases_73 (d := d) M l2 l4 (-1 : Int32) (1 : Int32) ?_
        refine zneg (show ¬ ((1 : Int32) = 0) from by decide) ?_
        refine zite k (fun h3071 k => ?_) (fun h3071 k => ?_)
        · exact k
        · refine jX8_fail (d := d) M (3 : Int32) ?_
          refine zite k (fun h3072 k => ?_) (fun h3072 k => ?_)
          · refine ⟨h3068, ?_⟩
            refine zite k (fun h3073 k => ?_) (fun h3073 k => ?_)
            · show Zm E YX8_cases (d + 1) (si (si M 97 21 (1 : Int32)) 97 22 (gi M 107 ((gi M 97 20)).toNatClampNeg)) [(0, vr (some (97, 1, 0))), (2, vi l2), (4, vi l4), (5, vi (-1 : Int32)), (6, vi (1 : Int32))] 90 [vi (0 : Int32)] Q
              refine sX8_cases_90 (d := d) (si (si M 97 21 (1 : Int32)) 97 22 (gi M 107 ((gi M 97 20)).toNatClampNeg)) l2 l4 (-1 : Int32) (1 : Int32) (0 : Int32) ?_
              exact k
            · show Zm E YX8_cases (d + 1) (si (si M 97 21 (3 : Int32)) 97 22 (gi M 107 ((gi M 97 20)).toNatClampNeg)) [(0, vr (some (97, 1, 0))), (2, vi l2), (4, vi l4), (5, vi (-1 : Int32)), (6, vi (1 : Int32))] 90 [vi (0 : Int32)] Q
              refine sX8_cases_90 (d := d) (si (si M 97 21 (3 : Int32)) 97 22 (gi M 107 ((gi M 97 20)).toNatClampNeg)) l2 l4 (-1 : Int32) (1 : Int32) (0 : Int32) ?_
              exact k
          · show Zm E YX8_cases (d + 1) M [(0, vr (some (97, 1, 0))), (2, vi l2), (4, vi l4), (5, vi (-1 : Int32)), (6, vi (1 : Int32))] 90 [vi (0 : Int32)] Q
            refine sX8_cases_90 (d := d) M l2 l4 (-1 : Int32) (1 : Int32) (0 : Int32) ?_
            exact k
      · show Zm E YX8_cases (d + 1) M [(0, vr (some (97, 1, 0))), (2, vi l2), (4, vi l4), (5, vi (-1 : Int32))] 73 [vi (0 : Int32)] Q
        refine sX8_cases_73 (d := d) M l2 l4 (-1 : Int32) (0 : Int32) ?_
        refine zpos (show (0 : Int32) = 0 from by decide) ?_
        exact k
    · show Zm E YX8_cases (d + 1) M [(0, vr (some (97, 1, 0))), (2, vi l2), (4, vi l4), (5, vi (-1 : Int32))] 73 [vi (0 : Int32)] Q
      refine sX8_cases_73 (d := d) M l2 l4 (-1 : Int32) (0 : Int32) ?_
      refine zpos (show (0 : Int32) = 0 from by decide) ?_
      exact k
  · refine sX8_cases_236 (d := d) M l2 ?_
    refine sX8_ended_0 (d := d) (si M 97 45 ((gi M 97 45) - (1 : Int32)))  ?_
    refine zand k (fun h3074 k => ?_)
    show Zm E YX8_cases (d + 1) (si (si M 97 45 ((gi M 97 45) - (1 : Int32))) 97 31 ((gi M 97 31) - (1 : Int32))) [(0, vr (some (97, 1, 0))), (2, vi l2)] 250 [vi (gi M 112 (((gi M 97 31) - (1 : Int32))).toNatClampNeg)] Q
    refine sX8_cases_250 (d := d) (si (si M 97 45 ((gi M 97 45) - (1 : Int32))) 97 31 ((gi M 97 31) - (1 : Int32))) l2 (gi M 112 (((gi M 97 31) - (1 : Int32))).toNatClampNeg) ?_
    exact k
theorem iX8_cases_91 {E : zE} {d : Nat} {Q : zO → zM → Prop} (M : zM) (l2 : Int32) (l4 : Int32) (l5 : Int32) (l6 : Int32) (k : if l4 = 0 then (if l6 = 0 then (Zm E YX8_mustWord d M (zargs 0 [vr (some (97, 1, 0)), vi (1 : Int32)]) 0 [] (zma E YX8_cases (d + 1) [(0, vr (some (97, 1, 0))), (2, vi l2), (4, vi (0 : Int32)), (5, vi l5)] 128 3 [] Q)) else (Zm E YX8_must d (si M 97 20 ((gi M 97 20) + (1 : Int32))) (zargs 0 [vr (some (97, 1, 0)), vi (46 : Int32)]) 0 [] (zma E YX8_cases (d + 1) [(0, vr (some (97, 1, 0))), (2, vi l2), (4, vi (1 : Int32)), (5, vi l5)] 144 3 [] Q))) else (if l6 = 0 then (Zm E YX8_mustWord d M (zargs 0 [vr (some (97, 1, 0)), vi (1 : Int32)]) 0 [] (zma E YX8_cases (d + 1) [(0, vr (some (97, 1, 0))), (2, vi l2), (4, vi (1 : Int32)), (5, vi l5)] 128 3 [] Q)) else (Zm E YX8_must d (si M 97 20 ((gi M 97 20) + (1 : Int32))) (zargs 0 [vr (some (97, 1, 0)), vi (46 : Int32)]) 0 [] (zma E YX8_cases (d + 1) [(0, vr (some (97, 1, 0))), (2, vi l2), (4, vi (1 : Int32)), (5, vi l5)] 144 3 [] Q)))) : Zm E YX8_cases (d + 1) M [(0, vr (some (97, 1, 0))), (2, vi l2), (4, vi l4), (5, vi l5), (6, vi l6)] 91 [] Q := by
  refine sX8_cases_91 (d := d) M l2 l4 l5 l6 ?_
  refine zite k (fun h3076 k => ?_) (fun h3076 k => ?_)
  · refine zite k (fun h3077 k => ?_) (fun h3077 k => ?_)
    · refine sX8_cases_106 (d := d) M l2 l5 l6 (0 : Int32) ?_
      refine zpos h3077 ?_
      exact k
    · refine sX8_cases_106 (d := d) M l2 l5 l6 (1 : Int32) ?_
      refine zneg h3077 ?_
      exact k
  · refine sX8_cases_106 (d := d) M l2 l5 l6 (1 : Int32) ?_
    exact k
theorem iX8_cases_159 {E : zE} {d : Nat} {Q : zO → zM → Prop} (M : zM) (l2 : Int32) (l4 : Int32) (s0 : Int32) (k : vp_in (gi M 97 31) 200 ∧ (if (gi M 97 21) = 0 then (Zm E YX8_isSign d (si (si M 112 ((gi M 97 31)).toNatClampNeg (-1 : Int32)) 97 31 ((gi M 97 31) + (1 : Int32))) (zargs 0 [vr (some (97, 1, 0)), vi (25 : Int32)]) 0 [] (zma E YX8_cases (d + 1) [(0, vr (some (97, 1, 0))), (2, vi l2), (4, vi l4), (8, vi s0)] 175 3 [] Q)) else (vp_in (((gi M 97 31) + (1 : Int32)) - (1 : Int32)) 200 ∧ (vp_in (((5 : Int32) * s0) + (1 : Int32)) 60000 ∧ (vp_in ((((gi M 97 31) + (1 : Int32)) - (1 : Int32)) - (1 : Int32)) 200 ∧ (if (gi (si M 112 ((gi M 97 31)).toNatClampNeg (-1 : Int32)) 112 (((((gi M 97 31) + (1 : Int32)) - (1 : Int32)) - (1 : Int32))).toNatClampNeg) = (-1 : Int32) then (Zm E YX8_cases (d + 1) (si (si (si (si (si (si M 112 ((gi M 97 31)).toNatClampNeg (-1 : Int32)) 97 31 ((gi M 97 31) + (1 : Int32))) 97 31 (((gi M 97 31) + (1 : Int32)) - (1 : Int32))) 109 ((((5 : Int32) * s0) + (1 : Int32))).toNatClampNeg (gi (si M 112 ((gi M 97 31)).toNatClampNeg (-1 : Int32)) 112 ((((gi M 97 31) + (1 : Int32)) - (1 : Int32))).toNatClampNeg)) 112 (((((gi M 97 31) + (1 : Int32)) - (1 : Int32)) - (1 : Int32))).toNatClampNeg s0) 113 (((((gi M 97 31) + (1 : Int32)) - (1 : Int32)) - (1 : Int32))).toNatClampNeg s0) [(0, vr (some (97, 1, 0))), (2, vi l2), (4, vi l4)] 49 [] Q) else (vp_in (gi M 113 (((((gi M 97 31) + (1 : Int32)) - (1 : Int32)) - (1 : Int32))).toNatClampNeg) 12000 ∧ (Zm E YX8_cases (d + 1) (si (si (si (si (si (si M 112 ((gi M 97 31)).toNatClampNeg (-1 : Int32)) 97 31 ((gi M 97 31) + (1 : Int32))) 97 31 (((gi M 97 31) + (1 : Int32)) - (1 : Int32))) 109 ((((5 : Int32) * s0) + (1 : Int32))).toNatClampNeg (gi (si M 112 ((gi M 97 31)).toNatClampNeg (-1 : Int32)) 112 ((((gi M 97 31) + (1 : Int32)) - (1 : Int32))).toNatClampNeg)) 110 ((gi M 113 (((((gi M 97 31) + (1 : Int32)) - (1 : Int32)) - (1 : Int32))).toNatClampNeg)).toNatClampNeg s0) 113 (((((gi M 97 31) + (1 : Int32)) - (1 : Int32)) - (1 : Int32))).toNatClampNeg s0) [(0, vr (some (97, 1, 0))), (2, vi l2), (4, vi l4)] 49 [] Q)))))))) : Zm E YX8_cases (d + 1) M [(0, vr (some (97, 1, 0))), (2, vi l2), (4, vi l4)] 159 [vi s0] Q := by
  refine sX8_cases_159 (d := d) M l2 l4 s0 ?_
  refine sX8_beginList_0 (d := d) M  ?_
  refine zand k (fun h3121 k => ?_)
  show Zm E YX8_cases (d + 1) (si (si M 112 ((gi M 97 31)).toNatClampNeg (-1 : Int32)) 97 31 ((gi M 97 31) + (1 : Int32))) [(0, vr (some (97, 1, 0))), (2, vi l2), (4, vi l4), (8, vi s0)] 165 [] Q
  refine sX8_cases_165 (d := d) (si (si M 112 ((gi M 97 31)).toNatClampNeg (-1 : Int32)) 97 31 ((gi M 97 31) + (1 : Int32))) l2 l4 s0 ?_
  refine zite k (fun h3122 k => ?_) (fun h3122 k => ?_)
  · exact k
  · refine sX8_ended_0 (d := d) (si (si M 112 ((gi M 97 31)).toNatClampNeg (-1 : Int32)) 97 31 ((gi M 97 31) + (1 : Int32)))  ?_
    refine zand k (fun h3123 k => ?_)
    show Zm E YX8_cases (d + 1) (si (si (si M 112 ((gi M 97 31)).toNatClampNeg (-1 : Int32)) 97 31 ((gi M 97 31) + (1 : Int32))) 97 31 (((gi M 97 31) + (1 : Int32)) - (1 : Int32))) [(0, vr (some (97, 1, 0))), (2, vi l2), (4, vi l4), (8, vi s0)] 212 [vi (gi (si M 112 ((gi M 97 31)).toNatClampNeg (-1 : Int32)) 112 ((((gi M 97 31) + (1 : Int32)) - (1 : Int32))).toNatClampNeg)] Q
    refine sX8_cases_212 (d := d) (si (si (si M 112 ((gi M 97 31)).toNatClampNeg (-1 : Int32)) 97 31 ((gi M 97 31) + (1 : Int32))) 97 31 (((gi M 97 31) + (1 : Int32)) - (1 : Int32))) l2 l4 s0 (gi (si M 112 ((gi M 97 31)).toNatClampNeg (-1 : Int32)) 112 ((((gi M 97 31) + (1 : Int32)) - (1 : Int32))).toNatClampNeg) ?_
    refine zand k (fun h3124 k => ?_)
    refine jX8_add (d := d) (si (si (si (si M 112 ((gi M 97 31)).toNatClampNeg (-1 : Int32)) 97 31 ((gi M 97 31) + (1 : Int32))) 97 31 (((gi M 97 31) + (1 : Int32)) - (1 : Int32))) 109 ((((5 : Int32) * s0) + (1 : Int32))).toNatClampNeg (gi (si M 112 ((gi M 97 31)).toNatClampNeg (-1 : Int32)) 112 ((((gi M 97 31) + (1 : Int32)) - (1 : Int32))).toNatClampNeg)) s0 ?_
    refine zand k (fun h3125 k => ?_)
    refine zite k (fun h3126 k => ?_) (fun h3126 k => ?_)
    · show Zm E YX8_cases (d + 1) (si (si (si (si (si (si M 112 ((gi M 97 31)).toNatClampNeg (-1 : Int32)) 97 31 ((gi M 97 31) + (1 : Int32))) 97 31 (((gi M 97 31) + (1 : Int32)) - (1 : Int32))) 109 ((((5 : Int32) * s0) + (1 : Int32))).toNatClampNeg (gi (si M 112 ((gi M 97 31)).toNatClampNeg (-1 : Int32)) 112 ((((gi M 97 31) + (1 : Int32)) - (1 : Int32))).toNatClampNeg)) 112 (((((gi M 97 31) + (1 : Int32)) - (1 : Int32)) - (1 : Int32))).toNatClampNeg s0) 113 (((((gi M 97 31) + (1 : Int32)) - (1 : Int32)) - (1 : Int32))).toNatClampNeg s0) [(0, vr (some (97, 1, 0))), (2, vi l2), (4, vi l4)] 233 [] Q
      refine sX8_cases_233 (d := d) (si (si (si (si (si (si M 112 ((gi M 97 31)).toNatClampNeg (-1 : Int32)) 97 31 ((gi M 97 31) + (1 : Int32))) 97 31 (((gi M 97 31) + (1 : Int32)) - (1 : Int32))) 109 ((((5 : Int32) * s0) + (1 : Int32))).toNatClampNeg (gi (si M 112 ((gi M 97 31)).toNatClampNeg (-1 : Int32)) 112 ((((gi M 97 31) + (1 : Int32)) - (1 : Int32))).toNatClampNeg)) 112 (((((gi M 97 31) + (1 : Int32)) - (1 : Int32)) - (1 : Int32))).toNatClampNeg s0) 113 (((((gi M 97 31) + (1 : Int32)) - (1 : Int32)) - (1 : Int32))).toNatClampNeg s0) l2 l4 ?_
      exact k
    · refine zand k (fun h3127 k => ?_)
      show Zm E YX8_cases (d + 1) (si (si (si (si (si (si M 112 ((gi M 97 31)).toNatClampNeg (-1 : Int32)) 97 31 ((gi M 97 31) + (1 : Int32))) 97 31 (((gi M 97 31) + (1 : Int32)) - (1 : Int32))) 109 ((((5 : Int32) * s0) + (1 : Int32))).toNatClampNeg (gi (si M 112 ((gi M 97 31)).toNatClampNeg (-1 : Int32)) 112 ((((gi M 97 31) + (1 : Int32)) - (1 : Int32))).toNatClampNeg)) 110 ((gi M 113 (((((gi M 97 31) + (1 : Int32)) - (1 : Int32)) - (1 : Int32))).toNatClampNeg)).toNatClampNeg s0) 113 (((((gi M 97 31) + (1 : Int32)) - (1 : Int32)) - (1 : Int32))).toNatClampNeg s0) [(0, vr (some (97, 1, 0))), (2, vi l2), (4, vi l4)] 233 [] Q
      refine sX8_cases_233 (d := d) (si (si (si (si (si (si M 112 ((gi M 97 31)).toNatClampNeg (-1 : Int32)) 97 31 ((gi M 97 31) + (1 : Int32))) 97 31 (((gi M 97 31) + (1 : Int32)) - (1 : Int32))) 109 ((((5 : Int32) * s0) + (1 : Int32))).toNatClampNeg (gi (si M 112 ((gi M 97 31)).toNatClampNeg (-1 : Int32)) 112 ((((gi M 97 31) + (1 : Int32)) - (1 : Int32))).toNatClampNeg)) 110 ((gi M 113 (((((gi M 97 31) + (1 : Int32)) - (1 : Int32)) - (1 : Int32))).toNatClampNeg)).toNatClampNeg s0) 113 (((((gi M 97 31) + (1 : Int32)) - (1 : Int32)) - (1 : Int32))).toNatClampNeg s0) l2 l4 ?_
      exact k
theorem iX8_cases_178 {E : zE} {d : Nat} {Q : zO → zM → Prop} (M : zM) (l2 : Int32) (l4 : Int32) (l8 : Int32) (s0 : Int32) (k : if s0 = 0 then (Zm E YX8_isKeyword d M (zargs 0 [vr (some (97, 1, 0)), vi (1 : Int32)]) 0 [] (zma E YX8_cases (d + 1) [(0, vr (some (97, 1, 0))), (2, vi l2), (4, vi l4), (8, vi l8)] 183 3 [] Q)) else (vp_in ((gi M 97 31) - (1 : Int32)) 200 ∧ (vp_in (((5 : Int32) * l8) + (1 : Int32)) 60000 ∧ (vp_in (((gi M 97 31) - (1 : Int32)) - (1 : Int32)) 200 ∧ (if (gi M 112 ((((gi M 97 31) - (1 : Int32)) - (1 : Int32))).toNatClampNeg) = (-1 : Int32) then (Zm E YX8_cases (d + 1) (si (si (si (si M 97 31 ((gi M 97 31) - (1 : Int32))) 109 ((((5 : Int32) * l8) + (1 : Int32))).toNatClampNeg (gi M 112 (((gi M 97 31) - (1 : Int32))).toNatClampNeg)) 112 ((((gi M 97 31) - (1 : Int32)) - (1 : Int32))).toNatClampNeg l8) 113 ((((gi M 97 31) - (1 : Int32)) - (1 : Int32))).toNatClampNeg l8) [(0, vr (some (97, 1, 0))), (2, vi l2), (4, vi l4)] 49 [] Q) else (vp_in (gi M 113 ((((gi M 97 31) - (1 : Int32)) - (1 : Int32))).toNatClampNeg) 12000 ∧ (Zm E YX8_cases (d + 1) (si (si (si (si M 97 31 ((gi M 97 31) - (1 : Int32))) 109 ((((5 : Int32) * l8) + (1 : Int32))).toNatClampNeg (gi M 112 (((gi M 97 31) - (1 : Int32))).toNatClampNeg)) 110 ((gi M 113 ((((gi M 97 31) - (1 : Int32)) - (1 : Int32))).toNatClampNeg)).toNatClampNeg l8) 113 ((((gi M 97 31) - (1 : Int32)) - (1 : Int32))).toNatClampNeg l8) [(0, vr (some (97, 1, 0))), (2, vi l2), (4, vi l4)] 49 [] Q))))))) : Zm E YX8_cases (d + 1) M [(0, vr (some (97, 1, 0))), (2, vi l2), (4, vi l4), (8, vi l8)] 178 [vi s0] Q := by
  refine sX8_cases_178 (d := d) M l2 l4 l8 s0 ?_
  refine zite k (fun h3148 k => ?_) (fun h3148 k => ?_)
  · exact k
  · refine sX8_ended_0 (d := d) M  ?_
    refine zand k (fun h3149 k => ?_)
    show Zm E YX8_cases (d + 1) (si M 97 31 ((gi M 97 31) - (1 : Int32))) [(0, vr (some (97, 1, 0))), (2, vi l2), (4, vi l4), (8, vi l8)] 212 [vi (gi M 112 (((gi M 97 31) - (1 : Int32))).toNatClampNeg)] Q
    refine sX8_cases_212 (d := d) (si M 97 31 ((gi M 97 31) - (1 : Int32))) l2 l4 l8 (gi M 112 (((gi M 97 31) - (1 : Int32))).toNatClampNeg) ?_
    refine zand k (fun h3150 k => ?_)
    refine jX8_add (d := d) (si (si M 97 31 ((gi M 97 31) - (1 : Int32))) 109 ((((5 : Int32) * l8) + (1 : Int32))).toNatClampNeg (gi M 112 (((gi M 97 31) - (1 : Int32))).toNatClampNeg)) l8 ?_
    refine zand k (fun h3151 k => ?_)
    refine zite k (fun h3152 k => ?_) (fun h3152 k => ?_)
    · show Zm E YX8_cases (d + 1) (si (si (si (si M 97 31 ((gi M 97 31) - (1 : Int32))) 109 ((((5 : Int32) * l8) + (1 : Int32))).toNatClampNeg (gi M 112 (((gi M 97 31) - (1 : Int32))).toNatClampNeg)) 112 ((((gi M 97 31) - (1 : Int32)) - (1 : Int32))).toNatClampNeg l8) 113 ((((gi M 97 31) - (1 : Int32)) - (1 : Int32))).toNatClampNeg l8) [(0, vr (some (97, 1, 0))), (2, vi l2), (4, vi l4)] 233 [] Q
      refine sX8_cases_233 (d := d) (si (si (si (si M 97 31 ((gi M 97 31) - (1 : Int32))) 109 ((((5 : Int32) * l8) + (1 : Int32))).toNatClampNeg (gi M 112 (((gi M 97 31) - (1 : Int32))).toNatClampNeg)) 112 ((((gi M 97 31) - (1 : Int32)) - (1 : Int32))).toNatClampNeg l8) 113 ((((gi M 97 31) - (1 : Int32)) - (1 : Int32))).toNatClampNeg l8) l2 l4 ?_
      exact k
    · refine zand k (fun h3153 k => ?_)
      show Zm E YX8_cases (d + 1) (si (si (si (si M 97 31 ((gi M 97 31) - (1 : Int32))) 109 ((((5 : Int32) * l8) + (1 : Int32))).toNatClampNeg (gi M 112 (((gi M 97 31) - (1 : Int32))).toNatClampNeg)) 110 ((gi M 113 ((((gi M 97 31) - (1 : Int32)) - (1 : Int32))).toNatClampNeg)).toNatClampNeg l8) 113 ((((gi M 97 31) - (1 : Int32)) - (1 : Int32))).toNatClampNeg l8) [(0, vr (some (97, 1, 0))), (2, vi l2), (4, vi l4)] 233 [] Q
      refine sX8_cases_233 (d := d) (si (si (si (si M 97 31 ((gi M 97 31) - (1 : Int32))) 109 ((((5 : Int32) * l8) + (1 : Int32))).toNatClampNeg (gi M 112 (((gi M 97 31) - (1 : Int32))).toNatClampNeg)) 110 ((gi M 113 ((((gi M 97 31) - (1 : Int32)) - (1 : Int32))).toNatClampNeg)).toNatClampNeg l8) 113 ((((gi M 97 31) - (1 : Int32)) - (1 : Int32))).toNatClampNeg l8) l2 l4 ?_
      exact k
theorem iX8_cases_186 {E : zE} {d : Nat} {Q : zO → zM → Prop} (M : zM) (l2 : Int32) (l4 : Int32) (l8 : Int32) (s0 : Int32) (k : if s0 = 0 then (vp_in (gi M 97 20) 4002 ∧ (if (gi M 103 ((gi M 97 20)).toNatClampNeg) = (2 : Int32) then (if (gi M 104 ((gi M 97 20)).toNatClampNeg) = (4 : Int32) then (vp_in ((gi M 97 31) - (1 : Int32)) 200 ∧ (vp_in (((5 : Int32) * l8) + (1 : Int32)) 60000 ∧ (vp_in (((gi M 97 31) - (1 : Int32)) - (1 : Int32)) 200 ∧ (if (gi M 112 ((((gi M 97 31) - (1 : Int32)) - (1 : Int32))).toNatClampNeg) = (-1 : Int32) then (Zm E YX8_cases (d + 1) (si (si (si (si M 97 31 ((gi M 97 31) - (1 : Int32))) 109 ((((5 : Int32) * l8) + (1 : Int32))).toNatClampNeg (gi M 112 (((gi M 97 31) - (1 : Int32))).toNatClampNeg)) 112 ((((gi M 97 31) - (1 : Int32)) - (1 : Int32))).toNatClampNeg l8) 113 ((((gi M 97 31) - (1 : Int32)) - (1 : Int32))).toNatClampNeg l8) [(0, vr (some (97, 1, 0))), (2, vi l2), (4, vi l4)] 49 [] Q) else (vp_in (gi M 113 ((((gi M 97 31) - (1 : Int32)) - (1 : Int32))).toNatClampNeg) 12000 ∧ (Zm E YX8_cases (d + 1) (si (si (si (si M 97 31 ((gi M 97 31) - (1 : Int32))) 109 ((((5 : Int32) * l8) + (1 : Int32))).toNatClampNeg (gi M 112 (((gi M 97 31) - (1 : Int32))).toNatClampNeg)) 110 ((gi M 113 ((((gi M 97 31) - (1 : Int32)) - (1 : Int32))).toNatClampNeg)).toNatClampNeg l8) 113 ((((gi M 97 31) - (1 : Int32)) - (1 : Int32))).toNatClampNeg l8) [(0, vr (some (97, 1, 0))), (2, vi l2), (4, vi l4)] 49 [] Q)))))) else (Zm E YX8_statement d M (zargs 0 [vr (some (97, 1, 0))]) 0 [] (zma E YX8_cases (d + 1) [(0, vr (some (97, 1, 0))), (2, vi l2), (4, vi l4), (8, vi l8)] 199 3 [vr (some (97, 1, 0))] Q))) else (Zm E YX8_statement d M (zargs 0 [vr (some (97, 1, 0))]) 0 [] (zma E YX8_cases (d + 1) [(0, vr (some (97, 1, 0))), (2, vi l2), (4, vi l4), (8, vi l8)] 199 3 [vr (some (97, 1, 0))] Q)))) else (vp_in ((gi M 97 31) - (1 : Int32)) 200 ∧ (vp_in (((5 : Int32) * l8) + (1 : Int32)) 60000 ∧ (vp_in (((gi M 97 31) - (1 : Int32)) - (1 : Int32)) 200 ∧ (if (gi M 112 ((((gi M 97 31) - (1 : Int32)) - (1 : Int32))).toNatClampNeg) = (-1 : Int32) then (Zm E YX8_cases (d + 1) (si (si (si (si M 97 31 ((gi M 97 31) - (1 : Int32))) 109 ((((5 : Int32) * l8) + (1 : Int32))).toNatClampNeg (gi M 112 (((gi M 97 31) - (1 : Int32))).toNatClampNeg)) 112 ((((gi M 97 31) - (1 : Int32)) - (1 : Int32))).toNatClampNeg l8) 113 ((((gi M 97 31) - (1 : Int32)) - (1 : Int32))).toNatClampNeg l8) [(0, vr (some (97, 1, 0))), (2, vi l2), (4, vi l4)] 49 [] Q) else (vp_in (gi M 113 ((((gi M 97 31) - (1 : Int32)) - (1 : Int32))).toNatClampNeg) 12000 ∧ (Zm E YX8_cases (d + 1) (si (si (si (si M 97 31 ((gi M 97 31) - (1 : Int32))) 109 ((((5 : Int32) * l8) + (1 : Int32))).toNatClampNeg (gi M 112 (((gi M 97 31) - (1 : Int32))).toNatClampNeg)) 110 ((gi M 113 ((((gi M 97 31) - (1 : Int32)) - (1 : Int32))).toNatClampNeg)).toNatClampNeg l8) 113 ((((gi M 97 31) - (1 : Int32)) - (1 : Int32))).toNatClampNeg l8) [(0, vr (some (97, 1, 0))), (2, vi l2), (4, vi l4)] 49 [] Q))))))) : Zm E YX8_cases (d + 1) M [(0, vr (some (97, 1, 0))), (2, vi l2), (4, vi l4), (8, vi l8)] 186 [vi s0] Q := by
  refine sX8_cases_186 (d := d) M l2 l4 l8 s0 ?_
  refine zite k (fun h3154 k => ?_) (fun h3154 k => ?_)
  · refine jX8_isKeyword (d := d) M (4 : Int32) ?_
    refine zand k (fun h3155 k => ?_)
    refine zite k (fun h3156 k => ?_) (fun h3156 k => ?_)
    · refine zite k (fun h3157 k => ?_) (fun h3157 k => ?_)
      · show Zm E YX8_cases (d + 1) M [(0, vr (some (97, 1, 0))), (2, vi l2), (4, vi l4), (8, vi l8)] 194 [vi (1 : Int32)] Q
        refine sX8_cases_194 (d := d) M l2 l4 l8 (1 : Int32) ?_
        refine zneg (show ¬ ((1 : Int32) = 0) from by decide) ?_
        refine sX8_ended_0 (d := d) M  ?_
        refine zand k (fun h3158 k => ?_)
        show Zm E YX8_cases (d + 1) (si M 97 31 ((gi M 97 31) - (1 : Int32))) [(0, vr (some (97, 1, 0))), (2, vi l2), (4, vi l4), (8, vi l8)] 212 [vi (gi M 112 (((gi M 97 31) - (1 : Int32))).toNatClampNeg)] Q
        refine sX8_cases_212 (d := d) (si M 97 31 ((gi M 97 31) - (1 : Int32))) l2 l4 l8 (gi M 112 (((gi M 97 31) - (1 : Int32))).toNatClampNeg) ?_
        refine zand k (fun h3159 k => ?_)
        refine jX8_add (d := d) (si (si M 97 31 ((gi M 97 31) - (1 : Int32))) 109 ((((5 : Int32) * l8) + (1 : Int32))).toNatClampNeg (gi M 112 (((gi M 97 31) - (1 : Int32))).toNatClampNeg)) l8 ?_
        refine zand k (fun h3160 k => ?_)
        refine zite k (fun h3161 k => ?_) (fun h3161 k => ?_)
        · show Zm E YX8_cases (d + 1) (si (si (si (si M 97 31 ((gi M 97 31) - (1 : Int32))) 109 ((((5 : Int32) * l8) + (1 : Int32))).toNatClampNeg (gi M 112 (((gi M 97 31) - (1 : Int32))).toNatClampNeg)) 112 ((((gi M 97 31) - (1 : Int32)) - (1 : Int32))).toNatClampNeg l8) 113 ((((gi M 97 31) - (1 : Int32)) - (1 : Int32))).toNatClampNeg l8) [(0, vr (some (97, 1, 0))), (2, vi l2), (4, vi l4)] 233 [] Q
          refine sX8_cases_233 (d := d) (si (si (si (si M 97 31 ((gi M 97 31) - (1 : Int32))) 109 ((((5 : Int32) * l8) + (1 : Int32))).toNatClampNeg (gi M 112 (((gi M 97 31) - (1 : Int32))).toNatClampNeg)) 112 ((((gi M 97 31) - (1 : Int32)) - (1 : Int32))).toNatClampNeg l8) 113 ((((gi M 97 31) - (1 : Int32)) - (1 : Int32))).toNatClampNeg l8) l2 l4 ?_
          exact k
        · refine zand k (fun h3162 k => ?_)
          show Zm E YX8_cases (d + 1) (si (si (si (si M 97 31 ((gi M 97 31) - (1 : Int32))) 109 ((((5 : Int32) * l8) + (1 : Int32))).toNatClampNeg (gi M 112 (((gi M 97 31) - (1 : Int32))).toNatClampNeg)) 110 ((gi M 113 ((((gi M 97 31) - (1 : Int32)) - (1 : Int32))).toNatClampNeg)).toNatClampNeg l8) 113 ((((gi M 97 31) - (1 : Int32)) - (1 : Int32))).toNatClampNeg l8) [(0, vr (some (97, 1, 0))), (2, vi l2), (4, vi l4)] 233 [] Q
          refine sX8_cases_233 (d := d) (si (si (si (si M 97 31 ((gi M 97 31) - (1 : Int32))) 109 ((((5 : Int32) * l8) + (1 : Int32))).toNatClampNeg (gi M 112 (((gi M 97 31) - (1 : Int32))).toNatClampNeg)) 110 ((gi M 113 ((((gi M 97 31) - (1 : Int32)) - (1 : Int32))).toNatClampNeg)).toNatClampNeg l8) 113 ((((gi M 97 31) - (1 : Int32)) - (1 : Int32))).toNatClampNeg l8) l2 l4 ?_
          exact k
      · show Zm E YX8_cases (d + 1) M [(0, vr (some (97, 1, 0))), (2, vi l2), (4, vi l4), (8, vi l8)] 194 [vi (0 : Int32)] Q
        refine sX8_cases_194 (d := d) M l2 l4 l8 (0 : Int32) ?_
        refine zpos (show (0 : Int32) = 0 from by decide) ?_
        exact k
    · show Zm E YX8_cases (d + 1) M [(0, vr (some (97, 1, 0))), (2, vi l2), (4, vi l4), (8, vi l8)] 194 [vi (0 : Int32)] Q
      refine sX8_cases_194 (d := d) M l2 l4 l8 (0 : Int32) ?_
      refine zpos (show (0 : Int32) = 0 from by decide) ?_
      exact k
  · refine sX8_ended_0 (d := d) M  ?_
    refine zand k (fun h3163 k => ?_)
    show Zm E YX8_cases (d + 1) (si M 97 31 ((gi M 97 31) - (1 : Int32))) [(0, vr (some (97, 1, 0))), (2, vi l2), (4, vi l4), (8, vi l8)] 212 [vi (gi M 112 (((gi M 97 31) - (1 : Int32))).toNatClampNeg)] Q
    refine sX8_cases_212 (d := d) (si M 97 31 ((gi M 97 31) - (1 : Int32))) l2 l4 l8 (gi M 112 (((gi M 97 31) - (1 : Int32))).toNatClampNeg) ?_
    refine zand k (fun h3164 k => ?_)
    refine jX8_add (d := d) (si (si M 97 31 ((gi M 97 31) - (1 : Int32))) 109 ((((5 : Int32) * l8) + (1 : Int32))).toNatClampNeg (gi M 112 (((gi M 97 31) - (1 : Int32))).toNatClampNeg)) l8 ?_
    refine zand k (fun h3165 k => ?_)
    refine zite k (fun h3166 k => ?_) (fun h3166 k => ?_)
    · show Zm E YX8_cases (d + 1) (si (si (si (si M 97 31 ((gi M 97 31) - (1 : Int32))) 109 ((((5 : Int32) * l8) + (1 : Int32))).toNatClampNeg (gi M 112 (((gi M 97 31) - (1 : Int32))).toNatClampNeg)) 112 ((((gi M 97 31) - (1 : Int32)) - (1 : Int32))).toNatClampNeg l8) 113 ((((gi M 97 31) - (1 : Int32)) - (1 : Int32))).toNatClampNeg l8) [(0, vr (some (97, 1, 0))), (2, vi l2), (4, vi l4)] 233 [] Q
      refine sX8_cases_233 (d := d) (si (si (si (si M 97 31 ((gi M 97 31) - (1 : Int32))) 109 ((((5 : Int32) * l8) + (1 : Int32))).toNatClampNeg (gi M 112 (((gi M 97 31) - (1 : Int32))).toNatClampNeg)) 112 ((((gi M 97 31) - (1 : Int32)) - (1 : Int32))).toNatClampNeg l8) 113 ((((gi M 97 31) - (1 : Int32)) - (1 : Int32))).toNatClampNeg l8) l2 l4 ?_
      exact k
    · refine zand k (fun h3167 k => ?_)
      show Zm E YX8_cases (d + 1) (si (si (si (si M 97 31 ((gi M 97 31) - (1 : Int32))) 109 ((((5 : Int32) * l8) + (1 : Int32))).toNatClampNeg (gi M 112 (((gi M 97 31) - (1 : Int32))).toNatClampNeg)) 110 ((gi M 113 ((((gi M 97 31) - (1 : Int32)) - (1 : Int32))).toNatClampNeg)).toNatClampNeg l8) 113 ((((gi M 97 31) - (1 : Int32)) - (1 : Int32))).toNatClampNeg l8) [(0, vr (some (97, 1, 0))), (2, vi l2), (4, vi l4)] 233 [] Q
      refine sX8_cases_233 (d := d) (si (si (si (si M 97 31 ((gi M 97 31) - (1 : Int32))) 109 ((((5 : Int32) * l8) + (1 : Int32))).toNatClampNeg (gi M 112 (((gi M 97 31) - (1 : Int32))).toNatClampNeg)) 110 ((gi M 113 ((((gi M 97 31) - (1 : Int32)) - (1 : Int32))).toNatClampNeg)).toNatClampNeg l8) 113 ((((gi M 97 31) - (1 : Int32)) - (1 : Int32))).toNatClampNeg l8) l2 l4 ?_
      exact k
theorem iX8_cases_202 {E : zE} {d : Nat} {Q : zO → zM → Prop} (M : zM) (l2 : Int32) (l4 : Int32) (l8 : Int32) (s0 : Int32) (k : vp_in ((gi M 97 31) - (1 : Int32)) 200 ∧ (if (gi M 112 (((gi M 97 31) - (1 : Int32))).toNatClampNeg) = (-1 : Int32) then (Zm E YX8_cases (d + 1) (si (si M 112 (((gi M 97 31) - (1 : Int32))).toNatClampNeg s0) 113 (((gi M 97 31) - (1 : Int32))).toNatClampNeg s0) [(0, vr (some (97, 1, 0))), (2, vi l2), (4, vi l4), (8, vi l8)] 165 [] Q) else (vp_in (gi M 113 (((gi M 97 31) - (1 : Int32))).toNatClampNeg) 12000 ∧ (Zm E YX8_cases (d + 1) (si (si M 110 ((gi M 113 (((gi M 97 31) - (1 : Int32))).toNatClampNeg)).toNatClampNeg s0) 113 (((gi M 97 31) - (1 : Int32))).toNatClampNeg s0) [(0, vr (some (97, 1, 0))), (2, vi l2), (4, vi l4), (8, vi l8)] 165 [] Q)))) : Zm E YX8_cases (d + 1) M [(0, vr (some (97, 1, 0))), (2, vi l2), (4, vi l4), (8, vi l8)] 202 [vi s0, vr (some (97, 1, 0))] Q := by
  refine sX8_cases_202 (d := d) M l2 l4 l8 s0 ?_
  refine jX8_add (d := d) M s0 ?_
  refine zand k (fun h3168 k => ?_)
  refine zite k (fun h3169 k => ?_) (fun h3169 k => ?_)
  · show Zm E YX8_cases (d + 1) (si (si M 112 (((gi M 97 31) - (1 : Int32))).toNatClampNeg s0) 113 (((gi M 97 31) - (1 : Int32))).toNatClampNeg s0) [(0, vr (some (97, 1, 0))), (2, vi l2), (4, vi l4), (8, vi l8)] 205 [] Q
    refine sX8_cases_205 (d := d) (si (si M 112 (((gi M 97 31) - (1 : Int32))).toNatClampNeg s0) 113 (((gi M 97 31) - (1 : Int32))).toNatClampNeg s0) l2 l4 l8 ?_
    exact k
  · refine zand k (fun h3170 k => ?_)
    show Zm E YX8_cases (d + 1) (si (si M 110 ((gi M 113 (((gi M 97 31) - (1 : Int32))).toNatClampNeg)).toNatClampNeg s0) 113 (((gi M 97 31) - (1 : Int32))).toNatClampNeg s0) [(0, vr (some (97, 1, 0))), (2, vi l2), (4, vi l4), (8, vi l8)] 205 [] Q
    refine sX8_cases_205 (d := d) (si (si M 110 ((gi M 113 (((gi M 97 31) - (1 : Int32))).toNatClampNeg)).toNatClampNeg s0) 113 (((gi M 97 31) - (1 : Int32))).toNatClampNeg s0) l2 l4 l8 ?_
    exact k
theorem iX8_cases_165 {E : zE} {d : Nat} {Q : zO → zM → Prop} (M : zM) (l2 : Int32) (l4 : Int32) (l8 : Int32) (k : if (gi M 97 21) = 0 then (Zm E YX8_isSign d M (zargs 0 [vr (some (97, 1, 0)), vi (25 : Int32)]) 0 [] (zma E YX8_cases (d + 1) [(0, vr (some (97, 1, 0))), (2, vi l2), (4, vi l4), (8, vi l8)] 175 3 [] Q)) else (vp_in ((gi M 97 31) - (1 : Int32)) 200 ∧ (vp_in (((5 : Int32) * l8) + (1 : Int32)) 60000 ∧ (vp_in (((gi M 97 31) - (1 : Int32)) - (1 : Int32)) 200 ∧ (if (gi M 112 ((((gi M 97 31) - (1 : Int32)) - (1 : Int32))).toNatClampNeg) = (-1 : Int32) then (Zm E YX8_cases (d + 1) (si (si (si (si M 97 31 ((gi M 97 31) - (1 : Int32))) 109 ((((5 : Int32) * l8) + (1 : Int32))).toNatClampNeg (gi M 112 (((gi M 97 31) - (1 : Int32))).toNatClampNeg)) 112 ((((gi M 97 31) - (1 : Int32)) - (1 : Int32))).toNatClampNeg l8) 113 ((((gi M 97 31) - (1 : Int32)) - (1 : Int32))).toNatClampNeg l8) [(0, vr (some (97, 1, 0))), (2, vi l2), (4, vi l4)] 49 [] Q) else (vp_in (gi M 113 ((((gi M 97 31) - (1 : Int32)) - (1 : Int32))).toNatClampNeg) 12000 ∧ (Zm E YX8_cases (d + 1) (si (si (si (si M 97 31 ((gi M 97 31) - (1 : Int32))) 109 ((((5 : Int32) * l8) + (1 : Int32))).toNatClampNeg (gi M 112 (((gi M 97 31) - (1 : Int32))).toNatClampNeg)) 110 ((gi M 113 ((((gi M 97 31) - (1 : Int32)) - (1 : Int32))).toNatClampNeg)).toNatClampNeg l8) 113 ((((gi M 97 31) - (1 : Int32)) - (1 : Int32))).toNatClampNeg l8) [(0, vr (some (97, 1, 0))), (2, vi l2), (4, vi l4)] 49 [] Q))))))) : Zm E YX8_cases (d + 1) M [(0, vr (some (97, 1, 0))), (2, vi l2), (4, vi l4), (8, vi l8)] 165 [] Q := by
  refine sX8_cases_165 (d := d) M l2 l4 l8 ?_
  refine zite k (fun h3211 k => ?_) (fun h3211 k => ?_)
  · exact k
  · refine sX8_ended_0 (d := d) M  ?_
    refine zand k (fun h3212 k => ?_)
    show Zm E YX8_cases (d + 1) (si M 97 31 ((gi M 97 31) - (1 : Int32))) [(0, vr (some (97, 1, 0))), (2, vi l2), (4, vi l4), (8, vi l8)] 212 [vi (gi M 112 (((gi M 97 31) - (1 : Int32))).toNatClampNeg)] Q
    refine sX8_cases_212 (d := d) (si M 97 31 ((gi M 97 31) - (1 : Int32))) l2 l4 l8 (gi M 112 (((gi M 97 31) - (1 : Int32))).toNatClampNeg) ?_
    refine zand k (fun h3213 k => ?_)
    refine jX8_add (d := d) (si (si M 97 31 ((gi M 97 31) - (1 : Int32))) 109 ((((5 : Int32) * l8) + (1 : Int32))).toNatClampNeg (gi M 112 (((gi M 97 31) - (1 : Int32))).toNatClampNeg)) l8 ?_
    refine zand k (fun h3214 k => ?_)
    refine zite k (fun h3215 k => ?_) (fun h3215 k => ?_)
    · show Zm E YX8_cases (d + 1) (si (si (si (si M 97 31 ((gi M 97 31) - (1 : Int32))) 109 ((((5 : Int32) * l8) + (1 : Int32))).toNatClampNeg (gi M 112 (((gi M 97 31) - (1 : Int32))).toNatClampNeg)) 112 ((((gi M 97 31) - (1 : Int32)) - (1 : Int32))).toNatClampNeg l8) 113 ((((gi M 97 31) - (1 : Int32)) - (1 : Int32))).toNatClampNeg l8) [(0, vr (some (97, 1, 0))), (2, vi l2), (4, vi l4)] 233 [] Q
      refine sX8_cases_233 (d := d) (si (si (si (si M 97 31 ((gi M 97 31) - (1 : Int32))) 109 ((((5 : Int32) * l8) + (1 : Int32))).toNatClampNeg (gi M 112 (((gi M 97 31) - (1 : Int32))).toNatClampNeg)) 112 ((((gi M 97 31) - (1 : Int32)) - (1 : Int32))).toNatClampNeg l8) 113 ((((gi M 97 31) - (1 : Int32)) - (1 : Int32))).toNatClampNeg l8) l2 l4 ?_
      exact k
    · refine zand k (fun h3216 k => ?_)
      show Zm E YX8_cases (d + 1) (si (si (si (si M 97 31 ((gi M 97 31) - (1 : Int32))) 109 ((((5 : Int32) * l8) + (1 : Int32))).toNatClampNeg (gi M 112 (((gi M 97 31) - (1 : Int32))).toNatClampNeg)) 110 ((gi M 113 ((((gi M 97 31) - (1 : Int32)) - (1 : Int32))).toNatClampNeg)).toNatClampNeg l8) 113 ((((gi M 97 31) - (1 : Int32)) - (1 : Int32))).toNatClampNeg l8) [(0, vr (some (97, 1, 0))), (2, vi l2), (4, vi l4)] 233 [] Q
      refine sX8_cases_233 (d := d) (si (si (si (si M 97 31 ((gi M 97 31) - (1 : Int32))) 109 ((((5 : Int32) * l8) + (1 : Int32))).toNatClampNeg (gi M 112 (((gi M 97 31) - (1 : Int32))).toNatClampNeg)) 110 ((gi M 113 ((((gi M 97 31) - (1 : Int32)) - (1 : Int32))).toNatClampNeg)).toNatClampNeg l8) 113 ((((gi M 97 31) - (1 : Int32)) - (1 : Int32))).toNatClampNeg l8) l2 l4 ?_
      exact k
theorem jX8_isMemberCall {E : zE} {d : Nat} {Q : zO → zM → Prop} (M : zM) (l1 : Int32) (k : vp_in (((5 : Int32) * l1) + (0 : Int32)) 60000 ∧ (vp_in (gi M 109 ((((5 : Int32) * l1) + (0 : Int32))).toNatClampNeg) 12000 ∧ (if (gi M 108 ((gi M 109 ((((5 : Int32) * l1) + (0 : Int32))).toNatClampNeg)).toNatClampNeg) = (7 : Int32) then (if (gi M 111 ((gi M 109 ((((5 : Int32) * l1) + (0 : Int32))).toNatClampNeg)).toNatClampNeg) = 0 then (Q (.inl (some (vi (1 : Int32)))) M) else (Q (.inl (some (vi (0 : Int32)))) M)) else (Q (.inl (some (vi (0 : Int32)))) M)))) : Zm E YX8_isMemberCall (d + 1) M [(0, vr (some (97, 1, 0))), (1, vi l1)] 0 [] Q := by
  refine sX8_isMemberCall_0 (d := d) M l1 ?_
  refine sX8_part_0 (d := d) M l1 (0 : Int32) ?_
  refine zand k (fun h3237 k => ?_)
  show Zm E YX8_isMemberCall (d + 1) M [(0, vr (some (97, 1, 0)))] 6 [vi (gi M 109 ((((5 : Int32) * l1) + (0 : Int32))).toNatClampNeg)] Q
  refine sX8_isMemberCall_6 (d := d) M (gi M 109 ((((5 : Int32) * l1) + (0 : Int32))).toNatClampNeg) ?_
  refine zand k (fun h3238 k => ?_)
  refine zite k (fun h3239 k => ?_) (fun h3239 k => ?_)
  · refine ⟨h3238, ?_⟩
    exact k
  · exact k
theorem jX8_emit {E : zE} {d : Nat} {Q : zO → zM → Prop} (M : zM) (l1 : Int32) (l2 : Int32) (l3 : Int32) (k : if (gi M 97 46) = (600 : Int32) then (Q (.inl none) (si M 97 47 (1 : Int32))) else (vp_in (gi M 97 46) 600 ∧ (Q (.inl none) (si (si (si (si (si M 123 ((gi M 97 46)).toNatClampNeg l1) 124 ((gi M 97 46)).toNatClampNeg l2) 125 ((gi M 97 46)).toNatClampNeg l3) 126 ((gi M 97 46)).toNatClampNeg (gi M 97 56)) 97 46 ((gi M 97 46) + (1 : Int32)))))) : Zm E YX8_emit d M [(0, vr (some (97, 1, 0))), (1, vi l1), (2, vi l2), (3, vi l3)] 0 [] Q := by
  refine sX8_emit_0 (d := d) M l1 l2 l3 ?_
  refine zite k (fun h3286 k => ?_) (fun h3286 k => ?_)
  · exact k
  · refine zand k (fun h3287 k => ?_)
    refine ⟨h3287, ?_⟩
    refine ⟨h3287, ?_⟩
    refine ⟨h3287, ?_⟩
    exact k
theorem jX8_emit_2 {E : zE} {d : Nat} {Q : zO → zM → Prop} (M : zM) (l1 : Int32) (k : if (gi M 97 46) = (600 : Int32) then (Q (.inl none) (si M 97 47 (1 : Int32))) else (vp_in (gi M 97 46) 600 ∧ (Q (.inl none) (si (si (si (si (si M 123 ((gi M 97 46)).toNatClampNeg l1) 124 ((gi M 97 46)).toNatClampNeg (0 : Int32)) 125 ((gi M 97 46)).toNatClampNeg (0 : Int32)) 126 ((gi M 97 46)).toNatClampNeg (gi M 97 56)) 97 46 ((gi M 97 46) + (1 : Int32)))))) : Zm E YX8_emit_2 (d + 1) M [(0, vr (some (97, 1, 0))), (1, vi l1)] 0 [] Q := by
  refine sX8_emit_2_0 (d := d) M l1 ?_
  refine jX8_emit (d := d) M l1 (0 : Int32) (0 : Int32) ?_
  refine zite k (fun h3492 k => ?_) (fun h3492 k => ?_)
  · show Zm E YX8_emit_2 (d + 1) (si M 97 47 (1 : Int32)) [] 7 [] Q
    refine sX8_emit_2_7 (d := d) (si M 97 47 (1 : Int32))  ?_
    exact k
  · refine zand k (fun h3493 k => ?_)
    show Zm E YX8_emit_2 (d + 1) (si (si (si (si (si M 123 ((gi M 97 46)).toNatClampNeg l1) 124 ((gi M 97 46)).toNatClampNeg (0 : Int32)) 125 ((gi M 97 46)).toNatClampNeg (0 : Int32)) 126 ((gi M 97 46)).toNatClampNeg (gi M 97 56)) 97 46 ((gi M 97 46) + (1 : Int32))) [] 7 [] Q
    refine sX8_emit_2_7 (d := d) (si (si (si (si (si M 123 ((gi M 97 46)).toNatClampNeg l1) 124 ((gi M 97 46)).toNatClampNeg (0 : Int32)) 125 ((gi M 97 46)).toNatClampNeg (0 : Int32)) 126 ((gi M 97 46)).toNatClampNeg (gi M 97 56)) 97 46 ((gi M 97 46) + (1 : Int32)))  ?_
    exact k
theorem iX8_code_125 {E : zE} {d : Nat} {Q : zO → zM → Prop} (M : zM)  (k : if (gi M 97 46) = (600 : Int32) then (Q (.inl none) (si M 97 47 (1 : Int32))) else (vp_in (gi M 97 46) 600 ∧ (Q (.inl none) (si (si (si (si (si M 123 ((gi M 97 46)).toNatClampNeg (17 : Int32)) 124 ((gi M 97 46)).toNatClampNeg (0 : Int32)) 125 ((gi M 97 46)).toNatClampNeg (0 : Int32)) 126 ((gi M 97 46)).toNatClampNeg (gi M 97 56)) 97 46 ((gi M 97 46) + (1 : Int32)))))) : Zm E YX8_code (d + 2) M [(0, vr (some (97, 1, 0)))] 125 [] Q := by
  refine sX8_code_125 (d := (d + 1)) M  ?_
  refine jX8_emit_2 (d := d) M (17 : Int32) ?_
  refine zite k (fun h3494 k => ?_) (fun h3494 k => ?_)
  · show Zm E YX8_code ((d + 1) + 1) (si M 97 47 (1 : Int32)) [] 131 [] Q
    refine sX8_code_131 (d := (d + 1)) (si M 97 47 (1 : Int32))  ?_
    exact k
  · refine zand k (fun h3495 k => ?_)
    show Zm E YX8_code ((d + 1) + 1) (si (si (si (si (si M 123 ((gi M 97 46)).toNatClampNeg (17 : Int32)) 124 ((gi M 97 46)).toNatClampNeg (0 : Int32)) 125 ((gi M 97 46)).toNatClampNeg (0 : Int32)) 126 ((gi M 97 46)).toNatClampNeg (gi M 97 56)) 97 46 ((gi M 97 46) + (1 : Int32))) [] 131 [] Q
    refine sX8_code_131 (d := (d + 1)) (si (si (si (si (si M 123 ((gi M 97 46)).toNatClampNeg (17 : Int32)) 124 ((gi M 97 46)).toNatClampNeg (0 : Int32)) 125 ((gi M 97 46)).toNatClampNeg (0 : Int32)) 126 ((gi M 97 46)).toNatClampNeg (gi M 97 56)) 97 46 ((gi M 97 46) + (1 : Int32)))  ?_
    exact k
theorem iX8_code_138 {E : zE} {d : Nat} {Q : zO → zM → Prop} (M : zM) (l1 : Int32) (l2 : Int32) (l3 : Int32) (s0 : Int32) (k : vp_in (((5 : Int32) * l1) + (2 : Int32)) 60000 ∧ (Zm E YX8_value d (si M 97 53 ((gi M 97 53) + (1 : Int32))) (zargs 0 [vr (some (97, 1, 0)), vi l2]) 0 [] (zma E YX8_code (d + 1) [(0, vr (some (97, 1, 0))), (3, vi l3), (4, vi s0), (5, vi (((gi M 97 53) + (1 : Int32)) - (1 : Int32))), (6, vi (gi M 109 ((((5 : Int32) * l1) + (2 : Int32))).toNatClampNeg))] 156 3 [] Q))) : Zm E YX8_code (d + 1) M [(0, vr (some (97, 1, 0))), (1, vi l1), (2, vi l2), (3, vi l3)] 138 [vi s0] Q := by
  refine sX8_code_138 (d := d) M l1 l2 l3 s0 ?_
  refine sX8_mark_0 (d := d) M  ?_
  show Zm E YX8_code (d + 1) (si M 97 53 ((gi M 97 53) + (1 : Int32))) [(0, vr (some (97, 1, 0))), (1, vi l1), (2, vi l2), (3, vi l3), (4, vi s0)] 144 [vi (((gi M 97 53) + (1 : Int32)) - (1 : Int32))] Q
  refine sX8_code_144 (d := d) (si M 97 53 ((gi M 97 53) + (1 : Int32))) l1 l2 l3 s0 (((gi M 97 53) + (1 : Int32)) - (1 : Int32)) ?_
  refine sX8_part_0 (d := d) (si M 97 53 ((gi M 97 53) + (1 : Int32))) l1 (2 : Int32) ?_
  refine zand k (fun h3496 k => ?_)
  show Zm E YX8_code (d + 1) (si M 97 53 ((gi M 97 53) + (1 : Int32))) [(0, vr (some (97, 1, 0))), (2, vi l2), (3, vi l3), (4, vi s0), (5, vi (((gi M 97 53) + (1 : Int32)) - (1 : Int32)))] 152 [vi (gi M 109 ((((5 : Int32) * l1) + (2 : Int32))).toNatClampNeg)] Q
  refine sX8_code_152 (d := d) (si M 97 53 ((gi M 97 53) + (1 : Int32))) l2 l3 s0 (((gi M 97 53) + (1 : Int32)) - (1 : Int32)) (gi M 109 ((((5 : Int32) * l1) + (2 : Int32))).toNatClampNeg) ?_
  exact k
theorem iX8_code_219 {E : zE} {d : Nat} {Q : zO → zM → Prop} (M : zM) (l2 : Int32) (l3 : Int32) (s0 : Int32) (k : vp_in s0 8000 ∧ (Zm E YX8_value d (si (si M 97 53 ((gi M 97 53) + (1 : Int32))) 128 (s0).toNatClampNeg (gi M 97 46)) (zargs 0 [vr (some (97, 1, 0)), vi l2]) 0 [] (zma E YX8_code (d + 1) [(0, vr (some (97, 1, 0))), (3, vi l3), (4, vi s0), (5, vi (((gi M 97 53) + (1 : Int32)) - (1 : Int32)))] 235 3 [] Q))) : Zm E YX8_code (d + 1) M [(0, vr (some (97, 1, 0))), (2, vi l2), (3, vi l3)] 219 [vi s0] Q := by
  refine sX8_code_219 (d := d) M l2 l3 s0 ?_
  refine sX8_mark_0 (d := d) M  ?_
  show Zm E YX8_code (d + 1) (si M 97 53 ((gi M 97 53) + (1 : Int32))) [(0, vr (some (97, 1, 0))), (2, vi l2), (3, vi l3), (4, vi s0)] 225 [vi (((gi M 97 53) + (1 : Int32)) - (1 : Int32))] Q
  refine sX8_code_225 (d := d) (si M 97 53 ((gi M 97 53) + (1 : Int32))) l2 l3 s0 (((gi M 97 53) + (1 : Int32)) - (1 : Int32)) ?_
  refine sX8_here_0 (d := d) (si M 97 53 ((gi M 97 53) + (1 : Int32))) s0 ?_
  refine zand k (fun h3497 k => ?_)
  show Zm E YX8_code (d + 1) (si (si M 97 53 ((gi M 97 53) + (1 : Int32))) 128 (s0).toNatClampNeg (gi M 97 46)) [(0, vr (some (97, 1, 0))), (2, vi l2), (3, vi l3), (4, vi s0), (5, vi (((gi M 97 53) + (1 : Int32)) - (1 : Int32)))] 233 [] Q
  refine sX8_code_233 (d := d) (si (si M 97 53 ((gi M 97 53) + (1 : Int32))) 128 (s0).toNatClampNeg (gi M 97 46)) l2 l3 s0 (((gi M 97 53) + (1 : Int32)) - (1 : Int32)) ?_
  exact k
theorem iX8_code_279 {E : zE} {d : Nat} {Q : zO → zM → Prop} (M : zM) (l2 : Int32) (l3 : Int32) (s0 : Int32) (k : vp_in s0 8000 ∧ (Zm E YX8_codeInside d (si (si (si M 97 53 ((gi M 97 53) + (1 : Int32))) 97 53 (((gi M 97 53) + (1 : Int32)) + (1 : Int32))) 128 (s0).toNatClampNeg (gi M 97 46)) (zargs 0 [vr (some (97, 1, 0)), vi (3 : Int32), vi l3, vi ((((gi M 97 53) + (1 : Int32)) + (1 : Int32)) - (1 : Int32)), vi (((gi M 97 53) + (1 : Int32)) - (1 : Int32))]) 0 [] (zma E YX8_code (d + 1) [(0, vr (some (97, 1, 0))), (2, vi l2), (4, vi s0), (5, vi (((gi M 97 53) + (1 : Int32)) - (1 : Int32))), (6, vi ((((gi M 97 53) + (1 : Int32)) + (1 : Int32)) - (1 : Int32)))] 306 3 [] Q))) : Zm E YX8_code (d + 1) M [(0, vr (some (97, 1, 0))), (2, vi l2), (3, vi l3)] 279 [vi s0] Q := by
  refine sX8_code_279 (d := d) M l2 l3 s0 ?_
  refine sX8_mark_0 (d := d) M  ?_
  show Zm E YX8_code (d + 1) (si M 97 53 ((gi M 97 53) + (1 : Int32))) [(0, vr (some (97, 1, 0))), (2, vi l2), (3, vi l3), (4, vi s0)] 285 [vi (((gi M 97 53) + (1 : Int32)) - (1 : Int32))] Q
  refine sX8_code_285 (d := d) (si M 97 53 ((gi M 97 53) + (1 : Int32))) l2 l3 s0 (((gi M 97 53) + (1 : Int32)) - (1 : Int32)) ?_
  refine sX8_mark_0 (d := d) (si M 97 53 ((gi M 97 53) + (1 : Int32)))  ?_
  show Zm E YX8_code (d + 1) (si (si M 97 53 ((gi M 97 53) + (1 : Int32))) 97 53 (((gi M 97 53) + (1 : Int32)) + (1 : Int32))) [(0, vr (some (97, 1, 0))), (2, vi l2), (3, vi l3), (4, vi s0), (5, vi (((gi M 97 53) + (1 : Int32)) - (1 : Int32)))] 291 [vi ((((gi M 97 53) + (1 : Int32)) + (1 : Int32)) - (1 : Int32))] Q
  refine sX8_code_291 (d := d) (si (si M 97 53 ((gi M 97 53) + (1 : Int32))) 97 53 (((gi M 97 53) + (1 : Int32)) + (1 : Int32))) l2 l3 s0 (((gi M 97 53) + (1 : Int32)) - (1 : Int32)) ((((gi M 97 53) + (1 : Int32)) + (1 : Int32)) - (1 : Int32)) ?_
  refine sX8_here_0 (d := d) (si (si M 97 53 ((gi M 97 53) + (1 : Int32))) 97 53 (((gi M 97 53) + (1 : Int32)) + (1 : Int32))) s0 ?_
  refine zand k (fun h3498 k => ?_)
  show Zm E YX8_code (d + 1) (si (si (si M 97 53 ((gi M 97 53) + (1 : Int32))) 97 53 (((gi M 97 53) + (1 : Int32)) + (1 : Int32))) 128 (s0).toNatClampNeg (gi M 97 46)) [(0, vr (some (97, 1, 0))), (2, vi l2), (3, vi l3), (4, vi s0), (5, vi (((gi M 97 53) + (1 : Int32)) - (1 : Int32))), (6, vi ((((gi M 97 53) + (1 : Int32)) + (1 : Int32)) - (1 : Int32)))] 299 [] Q
  refine sX8_code_299 (d := d) (si (si (si M 97 53 ((gi M 97 53) + (1 : Int32))) 97 53 (((gi M 97 53) + (1 : Int32)) + (1 : Int32))) 128 (s0).toNatClampNeg (gi M 97 46)) l2 l3 s0 (((gi M 97 53) + (1 : Int32)) - (1 : Int32)) ((((gi M 97 53) + (1 : Int32)) + (1 : Int32)) - (1 : Int32)) ?_
  exact k
theorem iX8_code_351 {E : zE} {d : Nat} {Q : zO → zM → Prop} (M : zM) (l1 : Int32) (l2 : Int32) (l3 : Int32) (s0 : Int32) (k : if l2 = (-1 : Int32) then (vp_in s0 8000 ∧ (if l3 = (-1 : Int32) then (Zm E YX8_wrapIn d (si (si (si M 97 53 ((gi M 97 53) + (1 : Int32))) 97 53 (((gi M 97 53) + (1 : Int32)) + (1 : Int32))) 128 (s0).toNatClampNeg (gi M 97 46)) (zargs 0 [vr (some (97, 1, 0)), vi (3 : Int32), vi (-1 : Int32), vi ((((gi M 97 53) + (1 : Int32)) + (1 : Int32)) - (1 : Int32)), vi (((gi M 97 53) + (1 : Int32)) - (1 : Int32))]) 0 [] (zma E YX8_code (d + 1) [(0, vr (some (97, 1, 0))), (1, vi l1), (4, vi s0), (5, vi (((gi M 97 53) + (1 : Int32)) - (1 : Int32))), (6, vi ((((gi M 97 53) + (1 : Int32)) + (1 : Int32)) - (1 : Int32))), (7, vi (gi M 97 60)), (8, vi (gi M 97 59))] 419 3 [] Q)) else (Zm E YX8_value d (si (si (si M 97 53 ((gi M 97 53) + (1 : Int32))) 97 53 (((gi M 97 53) + (1 : Int32)) + (1 : Int32))) 128 (s0).toNatClampNeg (gi M 97 46)) (zargs 0 [vr (some (97, 1, 0)), vi l3]) 0 [] (zma E YX8_code (d + 1) [(0, vr (some (97, 1, 0))), (1, vi l1), (4, vi s0), (5, vi (((gi M 97 53) + (1 : Int32)) - (1 : Int32))), (6, vi ((((gi M 97 53) + (1 : Int32)) + (1 : Int32)) - (1 : Int32)))] 388 3 [] Q)))) else (Zm E YX8_code d (si (si M 97 53 ((gi M 97 53) + (1 : Int32))) 97 53 (((gi M 97 53) + (1 : Int32)) + (1 : Int32))) (zargs 0 [vr (some (97, 1, 0)), vi l2]) 0 [] (zma E YX8_code (d + 1) [(0, vr (some (97, 1, 0))), (1, vi l1), (3, vi l3), (4, vi s0), (5, vi (((gi M 97 53) + (1 : Int32)) - (1 : Int32))), (6, vi ((((gi M 97 53) + (1 : Int32)) + (1 : Int32)) - (1 : Int32)))] 372 3 [] Q))) : Zm E YX8_code (d + 1) M [(0, vr (some (97, 1, 0))), (1, vi l1), (2, vi l2), (3, vi l3)] 351 [vi s0] Q := by
  refine sX8_code_351 (d := d) M l1 l2 l3 s0 ?_
  refine sX8_mark_0 (d := d) M  ?_
  show Zm E YX8_code (d + 1) (si M 97 53 ((gi M 97 53) + (1 : Int32))) [(0, vr (some (97, 1, 0))), (1, vi l1), (2, vi l2), (3, vi l3), (4, vi s0)] 357 [vi (((gi M 97 53) + (1 : Int32)) - (1 : Int32))] Q
  refine sX8_code_357 (d := d) (si M 97 53 ((gi M 97 53) + (1 : Int32))) l1 l2 l3 s0 (((gi M 97 53) + (1 : Int32)) - (1 : Int32)) ?_
  refine sX8_mark_0 (d := d) (si M 97 53 ((gi M 97 53) + (1 : Int32)))  ?_
  show Zm E YX8_code (d + 1) (si (si M 97 53 ((gi M 97 53) + (1 : Int32))) 97 53 (((gi M 97 53) + (1 : Int32)) + (1 : Int32))) [(0, vr (some (97, 1, 0))), (1, vi l1), (2, vi l2), (3, vi l3), (4, vi s0), (5, vi (((gi M 97 53) + (1 : Int32)) - (1 : Int32)))] 363 [vi ((((gi M 97 53) + (1 : Int32)) + (1 : Int32)) - (1 : Int32))] Q
  refine sX8_code_363 (d := d) (si (si M 97 53 ((gi M 97 53) + (1 : Int32))) 97 53 (((gi M 97 53) + (1 : Int32)) + (1 : Int32))) l1 l2 l3 s0 (((gi M 97 53) + (1 : Int32)) - (1 : Int32)) ((((gi M 97 53) + (1 : Int32)) + (1 : Int32)) - (1 : Int32)) ?_
  refine zite k (fun h3499 k => ?_) (fun h3499 k => ?_)
  · refine sX8_code_375 (d := d) (si (si M 97 53 ((gi M 97 53) + (1 : Int32))) 97 53 (((gi M 97 53) + (1 : Int32)) + (1 : Int32))) l1 l3 s0 (((gi M 97 53) + (1 : Int32)) - (1 : Int32)) ((((gi M 97 53) + (1 : Int32)) + (1 : Int32)) - (1 : Int32)) ?_
    refine sX8_here_0 (d := d) (si (si M 97 53 ((gi M 97 53) + (1 : Int32))) 97 53 (((gi M 97 53) + (1 : Int32)) + (1 : Int32))) s0 ?_
    refine zand k (fun h3500 k => ?_)
    show Zm E YX8_code (d + 1) (si (si (si M 97 53 ((gi M 97 53) + (1 : Int32))) 97 53 (((gi M 97 53) + (1 : Int32)) + (1 : Int32))) 128 (s0).toNatClampNeg (gi M 97 46)) [(0, vr (some (97, 1, 0))), (1, vi l1), (3, vi l3), (4, vi s0), (5, vi (((gi M 97 53) + (1 : Int32)) - (1 : Int32))), (6, vi ((((gi M 97 53) + (1 : Int32)) + (1 : Int32)) - (1 : Int32)))] 381 [] Q
    refine sX8_code_381 (d := d) (si (si (si M 97 53 ((gi M 97 53) + (1 : Int32))) 97 53 (((gi M 97 53) + (1 : Int32)) + (1 : Int32))) 128 (s0).toNatClampNeg (gi M 97 46)) l1 l3 s0 (((gi M 97 53) + (1 : Int32)) - (1 : Int32)) ((((gi M 97 53) + (1 : Int32)) + (1 : Int32)) - (1 : Int32)) ?_
    refine zite k (fun h3501 k => ?_) (fun h3501 k => ?_)
    · refine sX8_code_400 (d := d) (si (si (si M 97 53 ((gi M 97 53) + (1 : Int32))) 97 53 (((gi M 97 53) + (1 : Int32)) + (1 : Int32))) 128 (s0).toNatClampNeg (gi M 97 46)) l1 s0 (((gi M 97 53) + (1 : Int32)) - (1 : Int32)) ((((gi M 97 53) + (1 : Int32)) + (1 : Int32)) - (1 : Int32)) ?_
      exact k
    · exact k
  · exact k
theorem iX8_code_494 {E : zE} {d : Nat} {Q : zO → zM → Prop} (M : zM) (l1 : Int32) (l2 : Int32) (l3 : Int32) (s0 : Int32) (k : Zm E YX8_value d (si M 97 53 ((gi M 97 53) + (1 : Int32))) (zargs 0 [vr (some (97, 1, 0)), vi l3]) 0 [] (zma E YX8_code (d + 1) [(0, vr (some (97, 1, 0))), (1, vi l1), (2, vi l2), (4, vi s0), (5, vi (((gi M 97 53) + (1 : Int32)) - (1 : Int32)))] 504 3 [] Q)) : Zm E YX8_code (d + 1) M [(0, vr (some (97, 1, 0))), (1, vi l1), (2, vi l2), (3, vi l3)] 494 [vi s0] Q := by
  refine sX8_code_494 (d := d) M l1 l2 l3 s0 ?_
  refine sX8_mark_0 (d := d) M  ?_
  show Zm E YX8_code (d + 1) (si M 97 53 ((gi M 97 53) + (1 : Int32))) [(0, vr (some (97, 1, 0))), (1, vi l1), (2, vi l2), (3, vi l3), (4, vi s0)] 500 [vi (((gi M 97 53) + (1 : Int32)) - (1 : Int32))] Q
  refine sX8_code_500 (d := d) (si M 97 53 ((gi M 97 53) + (1 : Int32))) l1 l2 l3 s0 (((gi M 97 53) + (1 : Int32)) - (1 : Int32)) ?_
  exact k
theorem iX8_code_608 {E : zE} {d : Nat} {Q : zO → zM → Prop} (M : zM)  (k : if (gi M 97 46) = (600 : Int32) then (Q (.inl none) (si M 97 47 (1 : Int32))) else (vp_in (gi M 97 46) 600 ∧ (Q (.inl none) (si (si (si (si (si M 123 ((gi M 97 46)).toNatClampNeg (26 : Int32)) 124 ((gi M 97 46)).toNatClampNeg (0 : Int32)) 125 ((gi M 97 46)).toNatClampNeg (0 : Int32)) 126 ((gi M 97 46)).toNatClampNeg (gi M 97 56)) 97 46 ((gi M 97 46) + (1 : Int32)))))) : Zm E YX8_code (d + 2) M [(0, vr (some (97, 1, 0)))] 608 [] Q := by
  refine sX8_code_608 (d := (d + 1)) M  ?_
  refine jX8_emit_2 (d := d) M (26 : Int32) ?_
  refine zite k (fun h3502 k => ?_) (fun h3502 k => ?_)
  · show Zm E YX8_code ((d + 1) + 1) (si M 97 47 (1 : Int32)) [] 614 [] Q
    refine sX8_code_614 (d := (d + 1)) (si M 97 47 (1 : Int32))  ?_
    exact k
  · refine zand k (fun h3503 k => ?_)
    show Zm E YX8_code ((d + 1) + 1) (si (si (si (si (si M 123 ((gi M 97 46)).toNatClampNeg (26 : Int32)) 124 ((gi M 97 46)).toNatClampNeg (0 : Int32)) 125 ((gi M 97 46)).toNatClampNeg (0 : Int32)) 126 ((gi M 97 46)).toNatClampNeg (gi M 97 56)) 97 46 ((gi M 97 46) + (1 : Int32))) [] 614 [] Q
    refine sX8_code_614 (d := (d + 1)) (si (si (si (si (si M 123 ((gi M 97 46)).toNatClampNeg (26 : Int32)) 124 ((gi M 97 46)).toNatClampNeg (0 : Int32)) 125 ((gi M 97 46)).toNatClampNeg (0 : Int32)) 126 ((gi M 97 46)).toNatClampNeg (gi M 97 56)) 97 46 ((gi M 97 46) + (1 : Int32)))  ?_
    exact k
theorem iX8_code_159 {E : zE} {d : Nat} {Q : zO → zM → Prop} (M : zM) (l3 : Int32) (l4 : Int32) (l5 : Int32) (l6 : Int32) (k : if (gi M 97 46) = (600 : Int32) then (Zm E YX8_code d (si M 97 47 (1 : Int32)) (zargs 0 [vr (some (97, 1, 0)), vi l3]) 0 [] (zma E YX8_code (d + 1) [(0, vr (some (97, 1, 0))), (4, vi l4), (5, vi l5), (6, vi l6)] 170 3 [] Q)) else (vp_in (gi M 97 46) 600 ∧ (Zm E YX8_code d (si (si (si (si (si M 123 ((gi M 97 46)).toNatClampNeg (22 : Int32)) 124 ((gi M 97 46)).toNatClampNeg l4) 125 ((gi M 97 46)).toNatClampNeg (0 : Int32)) 126 ((gi M 97 46)).toNatClampNeg (gi M 97 56)) 97 46 ((gi M 97 46) + (1 : Int32))) (zargs 0 [vr (some (97, 1, 0)), vi l3]) 0 [] (zma E YX8_code (d + 1) [(0, vr (some (97, 1, 0))), (4, vi l4), (5, vi l5), (6, vi l6)] 170 3 [] Q)))) : Zm E YX8_code (d + 1) M [(0, vr (some (97, 1, 0))), (3, vi l3), (4, vi l4), (5, vi l5), (6, vi l6)] 159 [] Q := by
  refine sX8_code_159 (d := d) M l3 l4 l5 l6 ?_
  refine jX8_emit (d := d) M (22 : Int32) l4 (0 : Int32) ?_
  refine zite k (fun h3504 k => ?_) (fun h3504 k => ?_)
  · show Zm E YX8_code (d + 1) (si M 97 47 (1 : Int32)) [(0, vr (some (97, 1, 0))), (3, vi l3), (4, vi l4), (5, vi l5), (6, vi l6)] 168 [] Q
    refine sX8_code_168 (d := d) (si M 97 47 (1 : Int32)) l3 l4 l5 l6 ?_
    exact k
  · refine zand k (fun h3505 k => ?_)
    show Zm E YX8_code (d + 1) (si (si (si (si (si M 123 ((gi M 97 46)).toNatClampNeg (22 : Int32)) 124 ((gi M 97 46)).toNatClampNeg l4) 125 ((gi M 97 46)).toNatClampNeg (0 : Int32)) 126 ((gi M 97 46)).toNatClampNeg (gi M 97 56)) 97 46 ((gi M 97 46) + (1 : Int32))) [(0, vr (some (97, 1, 0))), (3, vi l3), (4, vi l4), (5, vi l5), (6, vi l6)] 168 [] Q
    refine sX8_code_168 (d := d) (si (si (si (si (si M 123 ((gi M 97 46)).toNatClampNeg (22 : Int32)) 124 ((gi M 97 46)).toNatClampNeg l4) 125 ((gi M 97 46)).toNatClampNeg (0 : Int32)) 126 ((gi M 97 46)).toNatClampNeg (gi M 97 56)) 97 46 ((gi M 97 46) + (1 : Int32))) l3 l4 l5 l6 ?_
    exact k
theorem iX8_code_238 {E : zE} {d : Nat} {Q : zO → zM → Prop} (M : zM) (l3 : Int32) (l4 : Int32) (l5 : Int32) (k : if (gi M 97 46) = (600 : Int32) then (Zm E YX8_codeInside d (si M 97 47 (1 : Int32)) (zargs 0 [vr (some (97, 1, 0)), vi (3 : Int32), vi l3, vi l5, vi l4]) 0 [] (zma E YX8_code (d + 1) [(0, vr (some (97, 1, 0))), (4, vi l4), (5, vi l5)] 254 3 [] Q)) else (vp_in (gi M 97 46) 600 ∧ (Zm E YX8_codeInside d (si (si (si (si (si M 123 ((gi M 97 46)).toNatClampNeg (22 : Int32)) 124 ((gi M 97 46)).toNatClampNeg l5) 125 ((gi M 97 46)).toNatClampNeg (0 : Int32)) 126 ((gi M 97 46)).toNatClampNeg (gi M 97 56)) 97 46 ((gi M 97 46) + (1 : Int32))) (zargs 0 [vr (some (97, 1, 0)), vi (3 : Int32), vi l3, vi l5, vi l4]) 0 [] (zma E YX8_code (d + 1) [(0, vr (some (97, 1, 0))), (4, vi l4), (5, vi l5)] 254 3 [] Q)))) : Zm E YX8_code (d + 1) M [(0, vr (some (97, 1, 0))), (3, vi l3), (4, vi l4), (5, vi l5)] 238 [] Q := by
  refine sX8_code_238 (d := d) M l3 l4 l5 ?_
  refine jX8_emit (d := d) M (22 : Int32) l5 (0 : Int32) ?_
  refine zite k (fun h3506 k => ?_) (fun h3506 k => ?_)
  · show Zm E YX8_code (d + 1) (si M 97 47 (1 : Int32)) [(0, vr (some (97, 1, 0))), (3, vi l3), (4, vi l4), (5, vi l5)] 247 [] Q
    refine sX8_code_247 (d := d) (si M 97 47 (1 : Int32)) l3 l4 l5 ?_
    exact k
  · refine zand k (fun h3507 k => ?_)
    show Zm E YX8_code (d + 1) (si (si (si (si (si M 123 ((gi M 97 46)).toNatClampNeg (22 : Int32)) 124 ((gi M 97 46)).toNatClampNeg l5) 125 ((gi M 97 46)).toNatClampNeg (0 : Int32)) 126 ((gi M 97 46)).toNatClampNeg (gi M 97 56)) 97 46 ((gi M 97 46) + (1 : Int32))) [(0, vr (some (97, 1, 0))), (3, vi l3), (4, vi l4), (5, vi l5)] 247 [] Q
    refine sX8_code_247 (d := d) (si (si (si (si (si M 123 ((gi M 97 46)).toNatClampNeg (22 : Int32)) 124 ((gi M 97 46)).toNatClampNeg l5) 125 ((gi M 97 46)).toNatClampNeg (0 : Int32)) 126 ((gi M 97 46)).toNatClampNeg (gi M 97 56)) 97 46 ((gi M 97 46) + (1 : Int32))) l3 l4 l5 ?_
    exact k
theorem iX8_code_309 {E : zE} {d : Nat} {Q : zO → zM → Prop} (M : zM) (l2 : Int32) (l4 : Int32) (l5 : Int32) (l6 : Int32) (k : vp_in l5 8000 ∧ (Zm E YX8_value d (si M 128 (l5).toNatClampNeg (gi M 97 46)) (zargs 0 [vr (some (97, 1, 0)), vi l2]) 0 [] (zma E YX8_code (d + 1) [(0, vr (some (97, 1, 0))), (4, vi l4), (6, vi l6)] 317 3 [] Q))) : Zm E YX8_code (d + 1) M [(0, vr (some (97, 1, 0))), (2, vi l2), (4, vi l4), (5, vi l5), (6, vi l6)] 309 [] Q := by
  refine sX8_code_309 (d := d) M l2 l4 l5 l6 ?_
  refine sX8_here_0 (d := d) M l5 ?_
  refine zand k (fun h3508 k => ?_)
  show Zm E YX8_code (d + 1) (si M 128 (l5).toNatClampNeg (gi M 97 46)) [(0, vr (some (97, 1, 0))), (2, vi l2), (4, vi l4), (6, vi l6)] 315 [] Q
  refine sX8_code_315 (d := d) (si M 128 (l5).toNatClampNeg (gi M 97 46)) l2 l4 l6 ?_
  exact k
theorem iX8_code_422 {E : zE} {d : Nat} {Q : zO → zM → Prop} (M : zM) (l1 : Int32) (l4 : Int32) (l5 : Int32) (l6 : Int32) (l7 : Int32) (l8 : Int32) (k : vp_in (((5 : Int32) * l1) + (3 : Int32)) 60000 ∧ (Zm E YX8_code d M (zargs 0 [vr (some (97, 1, 0)), vi (gi M 109 ((((5 : Int32) * l1) + (3 : Int32))).toNatClampNeg)]) 0 [] (zma E YX8_code (d + 1) [(0, vr (some (97, 1, 0))), (1, vi l1), (4, vi l4), (5, vi l5), (6, vi l6), (7, vi l7), (8, vi l8)] 429 3 [] Q))) : Zm E YX8_code (d + 1) M [(0, vr (some (97, 1, 0))), (1, vi l1), (4, vi l4), (5, vi l5), (6, vi l6), (7, vi l7), (8, vi l8)] 422 [] Q := by
  refine sX8_code_422 (d := d) M l1 l4 l5 l6 l7 l8 ?_
  refine sX8_part_0 (d := d) M l1 (3 : Int32) ?_
  refine zand k (fun h3509 k => ?_)
  show Zm E YX8_code (d + 1) M [(0, vr (some (97, 1, 0))), (1, vi l1), (4, vi l4), (5, vi l5), (6, vi l6), (7, vi l7), (8, vi l8)] 429 [vi (gi M 109 ((((5 : Int32) * l1) + (3 : Int32))).toNatClampNeg), vr (some (97, 1, 0))] Q
  refine sX8_code_429 (d := d) M l1 l4 l5 l6 l7 l8 (gi M 109 ((((5 : Int32) * l1) + (3 : Int32))).toNatClampNeg) ?_
  exact k
theorem iX8_code_391 {E : zE} {d : Nat} {Q : zO → zM → Prop} (M : zM) (l1 : Int32) (l4 : Int32) (l5 : Int32) (l6 : Int32) (k : if (gi M 97 46) = (600 : Int32) then (Zm E YX8_wrapIn d (si M 97 47 (1 : Int32)) (zargs 0 [vr (some (97, 1, 0)), vi (3 : Int32), vi (-1 : Int32), vi l6, vi l5]) 0 [] (zma E YX8_code (d + 1) [(0, vr (some (97, 1, 0))), (1, vi l1), (4, vi l4), (5, vi l5), (6, vi l6), (7, vi (gi M 97 60)), (8, vi (gi M 97 59))] 419 3 [] Q)) else (vp_in (gi M 97 46) 600 ∧ (Zm E YX8_wrapIn d (si (si (si (si (si M 123 ((gi M 97 46)).toNatClampNeg (22 : Int32)) 124 ((gi M 97 46)).toNatClampNeg l6) 125 ((gi M 97 46)).toNatClampNeg (0 : Int32)) 126 ((gi M 97 46)).toNatClampNeg (gi M 97 56)) 97 46 ((gi M 97 46) + (1 : Int32))) (zargs 0 [vr (some (97, 1, 0)), vi (3 : Int32), vi (-1 : Int32), vi l6, vi l5]) 0 [] (zma E YX8_code (d + 1) [(0, vr (some (97, 1, 0))), (1, vi l1), (4, vi l4), (5, vi l5), (6, vi l6), (7, vi (gi M 97 60)), (8, vi (gi M 97 59))] 419 3 [] Q)))) : Zm E YX8_code (d + 1) M [(0, vr (some (97, 1, 0))), (1, vi l1), (4, vi l4), (5, vi l5), (6, vi l6)] 391 [] Q := by
  refine sX8_code_391 (d := d) M l1 l4 l5 l6 ?_
  refine jX8_emit (d := d) M (22 : Int32) l6 (0 : Int32) ?_
  refine zite k (fun h3510 k => ?_) (fun h3510 k => ?_)
  · show Zm E YX8_code (d + 1) (si M 97 47 (1 : Int32)) [(0, vr (some (97, 1, 0))), (1, vi l1), (4, vi l4), (5, vi l5), (6, vi l6)] 400 [] Q
    refine sX8_code_400 (d := d) (si M 97 47 (1 : Int32)) l1 l4 l5 l6 ?_
    exact k
  · refine zand k (fun h3511 k => ?_)
    show Zm E YX8_code (d + 1) (si (si (si (si (si M 123 ((gi M 97 46)).toNatClampNeg (22 : Int32)) 124 ((gi M 97 46)).toNatClampNeg l6) 125 ((gi M 97 46)).toNatClampNeg (0 : Int32)) 126 ((gi M 97 46)).toNatClampNeg (gi M 97 56)) 97 46 ((gi M 97 46) + (1 : Int32))) [(0, vr (some (97, 1, 0))), (1, vi l1), (4, vi l4), (5, vi l5), (6, vi l6)] 400 [] Q
    refine sX8_code_400 (d := d) (si (si (si (si (si M 123 ((gi M 97 46)).toNatClampNeg (22 : Int32)) 124 ((gi M 97 46)).toNatClampNeg l6) 125 ((gi M 97 46)).toNatClampNeg (0 : Int32)) 126 ((gi M 97 46)).toNatClampNeg (gi M 97 56)) 97 46 ((gi M 97 46) + (1 : Int32))) l1 l4 l5 l6 ?_
    exact k
theorem iX8_code_375 {E : zE} {d : Nat} {Q : zO → zM → Prop} (M : zM) (l1 : Int32) (l3 : Int32) (l4 : Int32) (l5 : Int32) (l6 : Int32) (k : vp_in l4 8000 ∧ (if l3 = (-1 : Int32) then (Zm E YX8_wrapIn d (si M 128 (l4).toNatClampNeg (gi M 97 46)) (zargs 0 [vr (some (97, 1, 0)), vi (3 : Int32), vi (-1 : Int32), vi l6, vi l5]) 0 [] (zma E YX8_code (d + 1) [(0, vr (some (97, 1, 0))), (1, vi l1), (4, vi l4), (5, vi l5), (6, vi l6), (7, vi (gi M 97 60)), (8, vi (gi M 97 59))] 419 3 [] Q)) else (Zm E YX8_value d (si M 128 (l4).toNatClampNeg (gi M 97 46)) (zargs 0 [vr (some (97, 1, 0)), vi l3]) 0 [] (zma E YX8_code (d + 1) [(0, vr (some (97, 1, 0))), (1, vi l1), (4, vi l4), (5, vi l5), (6, vi l6)] 388 3 [] Q)))) : Zm E YX8_code (d + 1) M [(0, vr (some (97, 1, 0))), (1, vi l1), (3, vi l3), (4, vi l4), (5, vi l5), (6, vi l6)] 375 [] Q := by
  refine sX8_code_375 (d := d) M l1 l3 l4 l5 l6 ?_
  refine sX8_here_0 (d := d) M l4 ?_
  refine zand k (fun h3512 k => ?_)
  show Zm E YX8_code (d + 1) (si M 128 (l4).toNatClampNeg (gi M 97 46)) [(0, vr (some (97, 1, 0))), (1, vi l1), (3, vi l3), (4, vi l4), (5, vi l5), (6, vi l6)] 381 [] Q
  refine sX8_code_381 (d := d) (si M 128 (l4).toNatClampNeg (gi M 97 46)) l1 l3 l4 l5 l6 ?_
  refine zite k (fun h3513 k => ?_) (fun h3513 k => ?_)
  · refine sX8_code_400 (d := d) (si M 128 (l4).toNatClampNeg (gi M 97 46)) l1 l4 l5 l6 ?_
    exact k
  · exact k
theorem iX8_code_507 {E : zE} {d : Nat} {Q : zO → zM → Prop} (M : zM) (l1 : Int32) (l2 : Int32) (l4 : Int32) (l5 : Int32) (k : if (gi M 97 46) = (600 : Int32) then (vp_in l4 8000 ∧ (Zm E YX8_set (d + 1) (si (si (si M 97 47 (1 : Int32)) 128 (l4).toNatClampNeg (gi M 97 46)) 97 47 (1 : Int32)) (zargs 0 [vr (some (97, 1, 0)), vi l2]) 0 [] (zma E YX8_code ((d + 1) + 1) [(0, vr (some (97, 1, 0))), (1, vi l1), (4, vi l4), (5, vi l5)] 530 3 [] Q))) else (vp_in (gi M 97 46) 600 ∧ (vp_in l4 8000 ∧ (if ((gi M 97 46) + (1 : Int32)) = (600 : Int32) then (Zm E YX8_set (d + 1) (si (si (si (si (si (si (si M 123 ((gi M 97 46)).toNatClampNeg (29 : Int32)) 124 ((gi M 97 46)).toNatClampNeg (0 : Int32)) 125 ((gi M 97 46)).toNatClampNeg (0 : Int32)) 126 ((gi M 97 46)).toNatClampNeg (gi M 97 56)) 97 46 ((gi M 97 46) + (1 : Int32))) 128 (l4).toNatClampNeg ((gi M 97 46) + (1 : Int32))) 97 47 (1 : Int32)) (zargs 0 [vr (some (97, 1, 0)), vi l2]) 0 [] (zma E YX8_code ((d + 1) + 1) [(0, vr (some (97, 1, 0))), (1, vi l1), (4, vi l4), (5, vi l5)] 530 3 [] Q)) else (vp_in ((gi M 97 46) + (1 : Int32)) 600 ∧ (Zm E YX8_set (d + 1) (si (si (si (si (si (si (si (si (si (si (si M 123 ((gi M 97 46)).toNatClampNeg (29 : Int32)) 124 ((gi M 97 46)).toNatClampNeg (0 : Int32)) 125 ((gi M 97 46)).toNatClampNeg (0 : Int32)) 126 ((gi M 97 46)).toNatClampNeg (gi M 97 56)) 97 46 ((gi M 97 46) + (1 : Int32))) 128 (l4).toNatClampNeg ((gi M 97 46) + (1 : Int32))) 123 (((gi M 97 46) + (1 : Int32))).toNatClampNeg (30 : Int32)) 124 (((gi M 97 46) + (1 : Int32))).toNatClampNeg l5) 125 (((gi M 97 46) + (1 : Int32))).toNatClampNeg (0 : Int32)) 126 (((gi M 97 46) + (1 : Int32))).toNatClampNeg (gi M 97 56)) 97 46 (((gi M 97 46) + (1 : Int32)) + (1 : Int32))) (zargs 0 [vr (some (97, 1, 0)), vi l2]) 0 [] (zma E YX8_code ((d + 1) + 1) [(0, vr (some (97, 1, 0))), (1, vi l1), (4, vi l4), (5, vi l5)] 530 3 [] Q))))))) : Zm E YX8_code (d + 2) M [(0, vr (some (97, 1, 0))), (1, vi l1), (2, vi l2), (4, vi l4), (5, vi l5)] 507 [] Q := by
  refine sX8_code_507 (d := (d + 1)) M l1 l2 l4 l5 ?_
  refine jX8_emit_2 (d := d) M (29 : Int32) ?_
  refine zite k (fun h3514 k => ?_) (fun h3514 k => ?_)
  · show Zm E YX8_code ((d + 1) + 1) (si M 97 47 (1 : Int32)) [(0, vr (some (97, 1, 0))), (1, vi l1), (2, vi l2), (4, vi l4), (5, vi l5)] 513 [] Q
    refine sX8_code_513 (d := (d + 1)) (si M 97 47 (1 : Int32)) l1 l2 l4 l5 ?_
    refine sX8_here_0 (d := (d + 1)) (si M 97 47 (1 : Int32)) l4 ?_
    refine zand k (fun h3515 k => ?_)
    show Zm E YX8_code ((d + 1) + 1) (si (si M 97 47 (1 : Int32)) 128 (l4).toNatClampNeg (gi M 97 46)) [(0, vr (some (97, 1, 0))), (1, vi l1), (2, vi l2), (4, vi l4), (5, vi l5)] 519 [] Q
    refine sX8_code_519 (d := (d + 1)) (si (si M 97 47 (1 : Int32)) 128 (l4).toNatClampNeg (gi M 97 46)) l1 l2 l4 l5 ?_
    refine jX8_emit (d := (d + 1)) (si (si M 97 47 (1 : Int32)) 128 (l4).toNatClampNeg (gi M 97 46)) (30 : Int32) l5 (0 : Int32) ?_
    refine zpos h3514 ?_
    show Zm E YX8_code ((d + 1) + 1) (si (si (si M 97 47 (1 : Int32)) 128 (l4).toNatClampNeg (gi M 97 46)) 97 47 (1 : Int32)) [(0, vr (some (97, 1, 0))), (1, vi l1), (2, vi l2), (4, vi l4), (5, vi l5)] 528 [] Q
    refine sX8_code_528 (d := (d + 1)) (si (si (si M 97 47 (1 : Int32)) 128 (l4).toNatClampNeg (gi M 97 46)) 97 47 (1 : Int32)) l1 l2 l4 l5 ?_
    exact k
  · refine zand k (fun h3519 k => ?_)
    show Zm E YX8_code ((d + 1) + 1) (si (si (si (si (si M 123 ((gi M 97 46)).toNatClampNeg (29 : Int32)) 124 ((gi M 97 46)).toNatClampNeg (0 : Int32)) 125 ((gi M 97 46)).toNatClampNeg (0 : Int32)) 126 ((gi M 97 46)).toNatClampNeg (gi M 97 56)) 97 46 ((gi M 97 46) + (1 : Int32))) [(0, vr (some (97, 1, 0))), (1, vi l1), (2, vi l2), (4, vi l4), (5, vi l5)] 513 [] Q
    refine sX8_code_513 (d := (d + 1)) (si (si (si (si (si M 123 ((gi M 97 46)).toNatClampNeg (29 : Int32)) 124 ((gi M 97 46)).toNatClampNeg (0 : Int32)) 125 ((gi M 97 46)).toNatClampNeg (0 : Int32)) 126 ((gi M 97 46)).toNatClampNeg (gi M 97 56)) 97 46 ((gi M 97 46) + (1 : Int32))) l1 l2 l4 l5 ?_
    refine sX8_here_0 (d := (d + 1)) (si (si (si (si (si M 123 ((gi M 97 46)).toNatClampNeg (29 : Int32)) 124 ((gi M 97 46)).toNatClampNeg (0 : Int32)) 125 ((gi M 97 46)).toNatClampNeg (0 : Int32)) 126 ((gi M 97 46)).toNatClampNeg (gi M 97 56)) 97 46 ((gi M 97 46) + (1 : Int32))) l4 ?_
    refine zand k (fun h3520 k => ?_)
    show Zm E YX8_code ((d + 1) + 1) (si (si (si (si (si (si M 123 ((gi M 97 46)).toNatClampNeg (29 : Int32)) 124 ((gi M 97 46)).toNatClampNeg (0 : Int32)) 125 ((gi M 97 46)).toNatClampNeg (0 : Int32)) 126 ((gi M 97 46)).toNatClampNeg (gi M 97 56)) 97 46 ((gi M 97 46) + (1 : Int32))) 128 (l4).toNatClampNeg ((gi M 97 46) + (1 : Int32))) [(0, vr (some (97, 1, 0))), (1, vi l1), (2, vi l2), (4, vi l4), (5, vi l5)] 519 [] Q
    refine sX8_code_519 (d := (d + 1)) (si (si (si (si (si (si M 123 ((gi M 97 46)).toNatClampNeg (29 : Int32)) 124 ((gi M 97 46)).toNatClampNeg (0 : Int32)) 125 ((gi M 97 46)).toNatClampNeg (0 : Int32)) 126 ((gi M 97 46)).toNatClampNeg (gi M 97 56)) 97 46 ((gi M 97 46) + (1 : Int32))) 128 (l4).toNatClampNeg ((gi M 97 46) + (1 : Int32))) l1 l2 l4 l5 ?_
    refine jX8_emit (d := (d + 1)) (si (si (si (si (si (si M 123 ((gi M 97 46)).toNatClampNeg (29 : Int32)) 124 ((gi M 97 46)).toNatClampNeg (0 : Int32)) 125 ((gi M 97 46)).toNatClampNeg (0 : Int32)) 126 ((gi M 97 46)).toNatClampNeg (gi M 97 56)) 97 46 ((gi M 97 46) + (1 : Int32))) 128 (l4).toNatClampNeg ((gi M 97 46) + (1 : Int32))) (30 : Int32) l5 (0 : Int32) ?_
    refine zite k (fun h3521 k => ?_) (fun h3521 k => ?_)
    · show Zm E YX8_code ((d + 1) + 1) (si (si (si (si (si (si (si M 123 ((gi M 97 46)).toNatClampNeg (29 : Int32)) 124 ((gi M 97 46)).toNatClampNeg (0 : Int32)) 125 ((gi M 97 46)).toNatClampNeg (0 : Int32)) 126 ((gi M 97 46)).toNatClampNeg (gi M 97 56)) 97 46 ((gi M 97 46) + (1 : Int32))) 128 (l4).toNatClampNeg ((gi M 97 46) + (1 : Int32))) 97 47 (1 : Int32)) [(0, vr (some (97, 1, 0))), (1, vi l1), (2, vi l2), (4, vi l4), (5, vi l5)] 528 [] Q
      refine sX8_code_528 (d := (d + 1)) (si (si (si (si (si (si (si M 123 ((gi M 97 46)).toNatClampNeg (29 : Int32)) 124 ((gi M 97 46)).toNatClampNeg (0 : Int32)) 125 ((gi M 97 46)).toNatClampNeg (0 : Int32)) 126 ((gi M 97 46)).toNatClampNeg (gi M 97 56)) 97 46 ((gi M 97 46) + (1 : Int32))) 128 (l4).toNatClampNeg ((gi M 97 46) + (1 : Int32))) 97 47 (1 : Int32)) l1 l2 l4 l5 ?_
      exact k
    · refine zand k (fun h3522 k => ?_)
      show Zm E YX8_code ((d + 1) + 1) (si (si (si (si (si (si (si (si (si (si (si M 123 ((gi M 97 46)).toNatClampNeg (29 : Int32)) 124 ((gi M 97 46)).toNatClampNeg (0 : Int32)) 125 ((gi M 97 46)).toNatClampNeg (0 : Int32)) 126 ((gi M 97 46)).toNatClampNeg (gi M 97 56)) 97 46 ((gi M 97 46) + (1 : Int32))) 128 (l4).toNatClampNeg ((gi M 97 46) + (1 : Int32))) 123 (((gi M 97 46) + (1 : Int32))).toNatClampNeg (30 : Int32)) 124 (((gi M 97 46) + (1 : Int32))).toNatClampNeg l5) 125 (((gi M 97 46) + (1 : Int32))).toNatClampNeg (0 : Int32)) 126 (((gi M 97 46) + (1 : Int32))).toNatClampNeg (gi M 97 56)) 97 46 (((gi M 97 46) + (1 : Int32)) + (1 : Int32))) [(0, vr (some (97, 1, 0))), (1, vi l1), (2, vi l2), (4, vi l4), (5, vi l5)] 528 [] Q
      refine sX8_code_528 (d := (d + 1)) (si (si (si (si (si (si (si (si (si (si (si M 123 ((gi M 97 46)).toNatClampNeg (29 : Int32)) 124 ((gi M 97 46)).toNatClampNeg (0 : Int32)) 125 ((gi M 97 46)).toNatClampNeg (0 : Int32)) 126 ((gi M 97 46)).toNatClampNeg (gi M 97 56)) 97 46 ((gi M 97 46) + (1 : Int32))) 128 (l4).toNatClampNeg ((gi M 97 46) + (1 : Int32))) 123 (((gi M 97 46) + (1 : Int32))).toNatClampNeg (30 : Int32)) 124 (((gi M 97 46) + (1 : Int32))).toNatClampNeg l5) 125 (((gi M 97 46) + (1 : Int32))).toNatClampNeg (0 : Int32)) 126 (((gi M 97 46) + (1 : Int32))).toNatClampNeg (gi M 97 56)) 97 46 (((gi M 97 46) + (1 : Int32)) + (1 : Int32))) l1 l2 l4 l5 ?_
      exact k
theorem iX8_code_173 {E : zE} {d : Nat} {Q : zO → zM → Prop} (M : zM) (l4 : Int32) (l5 : Int32) (l6 : Int32) (k : if l6 = (-1 : Int32) then (vp_in l4 8000 ∧ (vp_in l5 8000 ∧ (Q (.inl none) (si (si M 128 (l4).toNatClampNeg (gi M 97 46)) 128 (l5).toNatClampNeg (gi M 97 46))))) else (if (gi M 97 46) = (600 : Int32) then (vp_in l4 8000 ∧ (Zm E YX8_code d (si (si M 97 47 (1 : Int32)) 128 (l4).toNatClampNeg (gi M 97 46)) (zargs 0 [vr (some (97, 1, 0)), vi l6]) 0 [] (zma E YX8_code (d + 1) [(0, vr (some (97, 1, 0))), (5, vi l5)] 203 3 [] Q))) else (vp_in (gi M 97 46) 600 ∧ (vp_in l4 8000 ∧ (Zm E YX8_code d (si (si (si (si (si (si M 123 ((gi M 97 46)).toNatClampNeg (21 : Int32)) 124 ((gi M 97 46)).toNatClampNeg l5) 125 ((gi M 97 46)).toNatClampNeg (0 : Int32)) 126 ((gi M 97 46)).toNatClampNeg (gi M 97 56)) 97 46 ((gi M 97 46) + (1 : Int32))) 128 (l4).toNatClampNeg ((gi M 97 46) + (1 : Int32))) (zargs 0 [vr (some (97, 1, 0)), vi l6]) 0 [] (zma E YX8_code (d + 1) [(0, vr (some (97, 1, 0))), (5, vi l5)] 203 3 [] Q)))))) : Zm E YX8_code (d + 1) M [(0, vr (some (97, 1, 0))), (4, vi l4), (5, vi l5), (6, vi l6)] 173 [] Q := by
  refine sX8_code_173 (d := d) M l4 l5 l6 ?_
  refine zite k (fun h3523 k => ?_) (fun h3523 k => ?_)
  · refine sX8_code_188 (d := d) M l4 l5 l6 ?_
    refine sX8_here_0 (d := d) M l4 ?_
    refine zand k (fun h3524 k => ?_)
    show Zm E YX8_code (d + 1) (si M 128 (l4).toNatClampNeg (gi M 97 46)) [(0, vr (some (97, 1, 0))), (5, vi l5), (6, vi l6)] 194 [] Q
    refine sX8_code_194 (d := d) (si M 128 (l4).toNatClampNeg (gi M 97 46)) l5 l6 ?_
    refine zpos h3523 ?_
    refine sX8_code_206 (d := d) (si M 128 (l4).toNatClampNeg (gi M 97 46)) l5 ?_
    refine sX8_here_0 (d := d) (si M 128 (l4).toNatClampNeg (gi M 97 46)) l5 ?_
    refine zand k (fun h3525 k => ?_)
    show Zm E YX8_code (d + 1) (si (si M 128 (l4).toNatClampNeg (gi M 97 46)) 128 (l5).toNatClampNeg (gi M 97 46)) [] 212 [] Q
    refine sX8_code_212 (d := d) (si (si M 128 (l4).toNatClampNeg (gi M 97 46)) 128 (l5).toNatClampNeg (gi M 97 46))  ?_
    exact k
  · refine jX8_emit (d := d) M (21 : Int32) l5 (0 : Int32) ?_
    refine zite k (fun h3526 k => ?_) (fun h3526 k => ?_)
    · show Zm E YX8_code (d + 1) (si M 97 47 (1 : Int32)) [(0, vr (some (97, 1, 0))), (4, vi l4), (5, vi l5), (6, vi l6)] 188 [] Q
      refine sX8_code_188 (d := d) (si M 97 47 (1 : Int32)) l4 l5 l6 ?_
      refine sX8_here_0 (d := d) (si M 97 47 (1 : Int32)) l4 ?_
      refine zand k (fun h3527 k => ?_)
      show Zm E YX8_code (d + 1) (si (si M 97 47 (1 : Int32)) 128 (l4).toNatClampNeg (gi M 97 46)) [(0, vr (some (97, 1, 0))), (5, vi l5), (6, vi l6)] 194 [] Q
      refine sX8_code_194 (d := d) (si (si M 97 47 (1 : Int32)) 128 (l4).toNatClampNeg (gi M 97 46)) l5 l6 ?_
      refine zneg h3523 ?_
      exact k
    · refine zand k (fun h3528 k => ?_)
      show Zm E YX8_code (d + 1) (si (si (si (si (si M 123 ((gi M 97 46)).toNatClampNeg (21 : Int32)) 124 ((gi M 97 46)).toNatClampNeg l5) 125 ((gi M 97 46)).toNatClampNeg (0 : Int32)) 126 ((gi M 97 46)).toNatClampNeg (gi M 97 56)) 97 46 ((gi M 97 46) + (1 : Int32))) [(0, vr (some (97, 1, 0))), (4, vi l4), (5, vi l5), (6, vi l6)] 188 [] Q
      refine sX8_code_188 (d := d) (si (si (si (si (si M 123 ((gi M 97 46)).toNatClampNeg (21 : Int32)) 124 ((gi M 97 46)).toNatClampNeg l5) 125 ((gi M 97 46)).toNatClampNeg (0 : Int32)) 126 ((gi M 97 46)).toNatClampNeg (gi M 97 56)) 97 46 ((gi M 97 46) + (1 : Int32))) l4 l5 l6 ?_
      refine sX8_here_0 (d := d) (si (si (si (si (si M 123 ((gi M 97 46)).toNatClampNeg (21 : Int32)) 124 ((gi M 97 46)).toNatClampNeg l5) 125 ((gi M 97 46)).toNatClampNeg (0 : Int32)) 126 ((gi M 97 46)).toNatClampNeg (gi M 97 56)) 97 46 ((gi M 97 46) + (1 : Int32))) l4 ?_
      refine zand k (fun h3529 k => ?_)
      show Zm E YX8_code (d + 1) (si (si (si (si (si (si M 123 ((gi M 97 46)).toNatClampNeg (21 : Int32)) 124 ((gi M 97 46)).toNatClampNeg l5) 125 ((gi M 97 46)).toNatClampNeg (0 : Int32)) 126 ((gi M 97 46)).toNatClampNeg (gi M 97 56)) 97 46 ((gi M 97 46) + (1 : Int32))) 128 (l4).toNatClampNeg ((gi M 97 46) + (1 : Int32))) [(0, vr (some (97, 1, 0))), (5, vi l5), (6, vi l6)] 194 [] Q
      refine sX8_code_194 (d := d) (si (si (si (si (si (si M 123 ((gi M 97 46)).toNatClampNeg (21 : Int32)) 124 ((gi M 97 46)).toNatClampNeg l5) 125 ((gi M 97 46)).toNatClampNeg (0 : Int32)) 126 ((gi M 97 46)).toNatClampNeg (gi M 97 56)) 97 46 ((gi M 97 46) + (1 : Int32))) 128 (l4).toNatClampNeg ((gi M 97 46) + (1 : Int32))) l5 l6 ?_
      refine zneg h3523 ?_
      exact k
theorem iX8_code_257 {E : zE} {d : Nat} {Q : zO → zM → Prop} (M : zM) (l4 : Int32) (l5 : Int32) (k : if (gi M 97 46) = (600 : Int32) then (vp_in l5 8000 ∧ (Q (.inl none) (si (si M 97 47 (1 : Int32)) 128 (l5).toNatClampNeg (gi M 97 46)))) else (vp_in (gi M 97 46) 600 ∧ (vp_in l5 8000 ∧ (Q (.inl none) (si (si (si (si (si (si M 123 ((gi M 97 46)).toNatClampNeg (21 : Int32)) 124 ((gi M 97 46)).toNatClampNeg l4) 125 ((gi M 97 46)).toNatClampNeg (0 : Int32)) 126 ((gi M 97 46)).toNatClampNeg (gi M 97 56)) 97 46 ((gi M 97 46) + (1 : Int32))) 128 (l5).toNatClampNeg ((gi M 97 46) + (1 : Int32))))))) : Zm E YX8_code (d + 1) M [(0, vr (some (97, 1, 0))), (4, vi l4), (5, vi l5)] 257 [] Q := by
  refine sX8_code_257 (d := d) M l4 l5 ?_
  refine jX8_emit (d := d) M (21 : Int32) l4 (0 : Int32) ?_
  refine zite k (fun h3530 k => ?_) (fun h3530 k => ?_)
  · show Zm E YX8_code (d + 1) (si M 97 47 (1 : Int32)) [(0, vr (some (97, 1, 0))), (5, vi l5)] 266 [] Q
    refine sX8_code_266 (d := d) (si M 97 47 (1 : Int32)) l5 ?_
    refine sX8_here_0 (d := d) (si M 97 47 (1 : Int32)) l5 ?_
    refine zand k (fun h3531 k => ?_)
    show Zm E YX8_code (d + 1) (si (si M 97 47 (1 : Int32)) 128 (l5).toNatClampNeg (gi M 97 46)) [] 272 [] Q
    refine sX8_code_272 (d := d) (si (si M 97 47 (1 : Int32)) 128 (l5).toNatClampNeg (gi M 97 46))  ?_
    exact k
  · refine zand k (fun h3532 k => ?_)
    show Zm E YX8_code (d + 1) (si (si (si (si (si M 123 ((gi M 97 46)).toNatClampNeg (21 : Int32)) 124 ((gi M 97 46)).toNatClampNeg l4) 125 ((gi M 97 46)).toNatClampNeg (0 : Int32)) 126 ((gi M 97 46)).toNatClampNeg (gi M 97 56)) 97 46 ((gi M 97 46) + (1 : Int32))) [(0, vr (some (97, 1, 0))), (5, vi l5)] 266 [] Q
    refine sX8_code_266 (d := d) (si (si (si (si (si M 123 ((gi M 97 46)).toNatClampNeg (21 : Int32)) 124 ((gi M 97 46)).toNatClampNeg l4) 125 ((gi M 97 46)).toNatClampNeg (0 : Int32)) 126 ((gi M 97 46)).toNatClampNeg (gi M 97 56)) 97 46 ((gi M 97 46) + (1 : Int32))) l5 ?_
    refine sX8_here_0 (d := d) (si (si (si (si (si M 123 ((gi M 97 46)).toNatClampNeg (21 : Int32)) 124 ((gi M 97 46)).toNatClampNeg l4) 125 ((gi M 97 46)).toNatClampNeg (0 : Int32)) 126 ((gi M 97 46)).toNatClampNeg (gi M 97 56)) 97 46 ((gi M 97 46) + (1 : Int32))) l5 ?_
    refine zand k (fun h3533 k => ?_)
    show Zm E YX8_code (d + 1) (si (si (si (si (si (si M 123 ((gi M 97 46)).toNatClampNeg (21 : Int32)) 124 ((gi M 97 46)).toNatClampNeg l4) 125 ((gi M 97 46)).toNatClampNeg (0 : Int32)) 126 ((gi M 97 46)).toNatClampNeg (gi M 97 56)) 97 46 ((gi M 97 46) + (1 : Int32))) 128 (l5).toNatClampNeg ((gi M 97 46) + (1 : Int32))) [] 272 [] Q
    refine sX8_code_272 (d := d) (si (si (si (si (si (si M 123 ((gi M 97 46)).toNatClampNeg (21 : Int32)) 124 ((gi M 97 46)).toNatClampNeg l4) 125 ((gi M 97 46)).toNatClampNeg (0 : Int32)) 126 ((gi M 97 46)).toNatClampNeg (gi M 97 56)) 97 46 ((gi M 97 46) + (1 : Int32))) 128 (l5).toNatClampNeg ((gi M 97 46) + (1 : Int32)))  ?_
    exact k
theorem iX8_code_320 {E : zE} {d : Nat} {Q : zO → zM → Prop} (M : zM) (l4 : Int32) (l6 : Int32) (k : if (gi M 97 46) = (600 : Int32) then (vp_in l6 8000 ∧ (Q (.inl none) (si (si (si M 97 47 (1 : Int32)) 97 47 (1 : Int32)) 128 (l6).toNatClampNeg (gi M 97 46)))) else (vp_in (gi M 97 46) 600 ∧ (if ((gi M 97 46) + (1 : Int32)) = (600 : Int32) then (vp_in l6 8000 ∧ (Q (.inl none) (si (si (si (si (si (si (si M 123 ((gi M 97 46)).toNatClampNeg (22 : Int32)) 124 ((gi M 97 46)).toNatClampNeg l6) 125 ((gi M 97 46)).toNatClampNeg (0 : Int32)) 126 ((gi M 97 46)).toNatClampNeg (gi M 97 56)) 97 46 ((gi M 97 46) + (1 : Int32))) 97 47 (1 : Int32)) 128 (l6).toNatClampNeg ((gi M 97 46) + (1 : Int32))))) else (vp_in ((gi M 97 46) + (1 : Int32)) 600 ∧ (vp_in l6 8000 ∧ (Q (.inl none) (si (si (si (si (si (si (si (si (si (si (si M 123 ((gi M 97 46)).toNatClampNeg (22 : Int32)) 124 ((gi M 97 46)).toNatClampNeg l6) 125 ((gi M 97 46)).toNatClampNeg (0 : Int32)) 126 ((gi M 97 46)).toNatClampNeg (gi M 97 56)) 97 46 ((gi M 97 46) + (1 : Int32))) 123 (((gi M 97 46) + (1 : Int32))).toNatClampNeg (21 : Int32)) 124 (((gi M 97 46) + (1 : Int32))).toNatClampNeg l4) 125 (((gi M 97 46) + (1 : Int32))).toNatClampNeg (0 : Int32)) 126 (((gi M 97 46) + (1 : Int32))).toNatClampNeg (gi M 97 56)) 97 46 (((gi M 97 46) + (1 : Int32)) + (1 : Int32))) 128 (l6).toNatClampNeg (((gi M 97 46) + (1 : Int32)) + (1 : Int32))))))))) : Zm E YX8_code (d + 1) M [(0, vr (some (97, 1, 0))), (4, vi l4), (6, vi l6)] 320 [] Q := by
  refine sX8_code_320 (d := d) M l4 l6 ?_
  refine jX8_emit (d := d) M (22 : Int32) l6 (0 : Int32) ?_
  refine zite k (fun h3534 k => ?_) (fun h3534 k => ?_)
  · show Zm E YX8_code (d + 1) (si M 97 47 (1 : Int32)) [(0, vr (some (97, 1, 0))), (4, vi l4), (6, vi l6)] 329 [] Q
    refine sX8_code_329 (d := d) (si M 97 47 (1 : Int32)) l4 l6 ?_
    refine jX8_emit (d := d) (si M 97 47 (1 : Int32)) (21 : Int32) l4 (0 : Int32) ?_
    refine zpos h3534 ?_
    show Zm E YX8_code (d + 1) (si (si M 97 47 (1 : Int32)) 97 47 (1 : Int32)) [(0, vr (some (97, 1, 0))), (6, vi l6)] 338 [] Q
    refine sX8_code_338 (d := d) (si (si M 97 47 (1 : Int32)) 97 47 (1 : Int32)) l6 ?_
    refine sX8_here_0 (d := d) (si (si M 97 47 (1 : Int32)) 97 47 (1 : Int32)) l6 ?_
    refine zand k (fun h3535 k => ?_)
    show Zm E YX8_code (d + 1) (si (si (si M 97 47 (1 : Int32)) 97 47 (1 : Int32)) 128 (l6).toNatClampNeg (gi M 97 46)) [] 344 [] Q
    refine sX8_code_344 (d := d) (si (si (si M 97 47 (1 : Int32)) 97 47 (1 : Int32)) 128 (l6).toNatClampNeg (gi M 97 46))  ?_
    exact k
  · refine zand k (fun h3536 k => ?_)
    show Zm E YX8_code (d + 1) (si (si (si (si (si M 123 ((gi M 97 46)).toNatClampNeg (22 : Int32)) 124 ((gi M 97 46)).toNatClampNeg l6) 125 ((gi M 97 46)).toNatClampNeg (0 : Int32)) 126 ((gi M 97 46)).toNatClampNeg (gi M 97 56)) 97 46 ((gi M 97 46) + (1 : Int32))) [(0, vr (some (97, 1, 0))), (4, vi l4), (6, vi l6)] 329 [] Q
    refine sX8_code_329 (d := d) (si (si (si (si (si M 123 ((gi M 97 46)).toNatClampNeg (22 : Int32)) 124 ((gi M 97 46)).toNatClampNeg l6) 125 ((gi M 97 46)).toNatClampNeg (0 : Int32)) 126 ((gi M 97 46)).toNatClampNeg (gi M 97 56)) 97 46 ((gi M 97 46) + (1 : Int32))) l4 l6 ?_
    refine jX8_emit (d := d) (si (si (si (si (si M 123 ((gi M 97 46)).toNatClampNeg (22 : Int32)) 124 ((gi M 97 46)).toNatClampNeg l6) 125 ((gi M 97 46)).toNatClampNeg (0 : Int32)) 126 ((gi M 97 46)).toNatClampNeg (gi M 97 56)) 97 46 ((gi M 97 46) + (1 : Int32))) (21 : Int32) l4 (0 : Int32) ?_
    refine zite k (fun h3537 k => ?_) (fun h3537 k => ?_)
    · show Zm E YX8_code (d + 1) (si (si (si (si (si (si M 123 ((gi M 97 46)).toNatClampNeg (22 : Int32)) 124 ((gi M 97 46)).toNatClampNeg l6) 125 ((gi M 97 46)).toNatClampNeg (0 : Int32)) 126 ((gi M 97 46)).toNatClampNeg (gi M 97 56)) 97 46 ((gi M 97 46) + (1 : Int32))) 97 47 (1 : Int32)) [(0, vr (some (97, 1, 0))), (6, vi l6)] 338 [] Q
      refine sX8_code_338 (d := d) (si (si (si (si (si (si M 123 ((gi M 97 46)).toNatClampNeg (22 : Int32)) 124 ((gi M 97 46)).toNatClampNeg l6) 125 ((gi M 97 46)).toNatClampNeg (0 : Int32)) 126 ((gi M 97 46)).toNatClampNeg (gi M 97 56)) 97 46 ((gi M 97 46) + (1 : Int32))) 97 47 (1 : Int32)) l6 ?_
      refine sX8_here_0 (d := d) (si (si (si (si (si (si M 123 ((gi M 97 46)).toNatClampNeg (22 : Int32)) 124 ((gi M 97 46)).toNatClampNeg l6) 125 ((gi M 97 46)).toNatClampNeg (0 : Int32)) 126 ((gi M 97 46)).toNatClampNeg (gi M 97 56)) 97 46 ((gi M 97 46) + (1 : Int32))) 97 47 (1 : Int32)) l6 ?_
      refine zand k (fun h3538 k => ?_)
      show Zm E YX8_code (d + 1) (si (si (si (si (si (si (si M 123 ((gi M 97 46)).toNatClampNeg (22 : Int32)) 124 ((gi M 97 46)).toNatClampNeg l6) 125 ((gi M 97 46)).toNatClampNeg (0 : Int32)) 126 ((gi M 97 46)).toNatClampNeg (gi M 97 56)) 97 46 ((gi M 97 46) + (1 : Int32))) 97 47 (1 : Int32)) 128 (l6).toNatClampNeg ((gi M 97 46) + (1 : Int32))) [] 344 [] Q
      refine sX8_code_344 (d := d) (si (si (si (si (si (si (si M 123 ((gi M 97 46)).toNatClampNeg (22 : Int32)) 124 ((gi M 97 46)).toNatClampNeg l6) 125 ((gi M 97 46)).toNatClampNeg (0 : Int32)) 126 ((gi M 97 46)).toNatClampNeg (gi M 97 56)) 97 46 ((gi M 97 46) + (1 : Int32))) 97 47 (1 : Int32)) 128 (l6).toNatClampNeg ((gi M 97 46) + (1 : Int32)))  ?_
      exact k
    · refine zand k (fun h3539 k => ?_)
      show Zm E YX8_code (d + 1) (si (si (si (si (si (si (si (si (si (si M 123 ((gi M 97 46)).toNatClampNeg (22 : Int32)) 124 ((gi M 97 46)).toNatClampNeg l6) 125 ((gi M 97 46)).toNatClampNeg (0 : Int32)) 126 ((gi M 97 46)).toNatClampNeg (gi M 97 56)) 97 46 ((gi M 97 46) + (1 : Int32))) 123 (((gi M 97 46) + (1 : Int32))).toNatClampNeg (21 : Int32)) 124 (((gi M 97 46) + (1 : Int32))).toNatClampNeg l4) 125 (((gi M 97 46) + (1 : Int32))).toNatClampNeg (0 : Int32)) 126 (((gi M 97 46) + (1 : Int32))).toNatClampNeg (gi M 97 56)) 97 46 (((gi M 97 46) + (1 : Int32)) + (1 : Int32))) [(0, vr (some (97, 1, 0))), (6, vi l6)] 338 [] Q
      refine sX8_code_338 (d := d) (si (si (si (si (si (si (si (si (si (si M 123 ((gi M 97 46)).toNatClampNeg (22 : Int32)) 124 ((gi M 97 46)).toNatClampNeg l6) 125 ((gi M 97 46)).toNatClampNeg (0 : Int32)) 126 ((gi M 97 46)).toNatClampNeg (gi M 97 56)) 97 46 ((gi M 97 46) + (1 : Int32))) 123 (((gi M 97 46) + (1 : Int32))).toNatClampNeg (21 : Int32)) 124 (((gi M 97 46) + (1 : Int32))).toNatClampNeg l4) 125 (((gi M 97 46) + (1 : Int32))).toNatClampNeg (0 : Int32)) 126 (((gi M 97 46) + (1 : Int32))).toNatClampNeg (gi M 97 56)) 97 46 (((gi M 97 46) + (1 : Int32)) + (1 : Int32))) l6 ?_
      refine sX8_here_0 (d := d) (si (si (si (si (si (si (si (si (si (si M 123 ((gi M 97 46)).toNatClampNeg (22 : Int32)) 124 ((gi M 97 46)).toNatClampNeg l6) 125 ((gi M 97 46)).toNatClampNeg (0 : Int32)) 126 ((gi M 97 46)).toNatClampNeg (gi M 97 56)) 97 46 ((gi M 97 46) + (1 : Int32))) 123 (((gi M 97 46) + (1 : Int32))).toNatClampNeg (21 : Int32)) 124 (((gi M 97 46) + (1 : Int32))).toNatClampNeg l4) 125 (((gi M 97 46) + (1 : Int32))).toNatClampNeg (0 : Int32)) 126 (((gi M 97 46) + (1 : Int32))).toNatClampNeg (gi M 97 56)) 97 46 (((gi M 97 46) + (1 : Int32)) + (1 : Int32))) l6 ?_
      refine zand k (fun h3540 k => ?_)
      show Zm E YX8_code (d + 1) (si (si (si (si (si (si (si (si (si (si (si M 123 ((gi M 97 46)).toNatClampNeg (22 : Int32)) 124 ((gi M 97 46)).toNatClampNeg l6) 125 ((gi M 97 46)).toNatClampNeg (0 : Int32)) 126 ((gi M 97 46)).toNatClampNeg (gi M 97 56)) 97 46 ((gi M 97 46) + (1 : Int32))) 123 (((gi M 97 46) + (1 : Int32))).toNatClampNeg (21 : Int32)) 124 (((gi M 97 46) + (1 : Int32))).toNatClampNeg l4) 125 (((gi M 97 46) + (1 : Int32))).toNatClampNeg (0 : Int32)) 126 (((gi M 97 46) + (1 : Int32))).toNatClampNeg (gi M 97 56)) 97 46 (((gi M 97 46) + (1 : Int32)) + (1 : Int32))) 128 (l6).toNatClampNeg (((gi M 97 46) + (1 : Int32)) + (1 : Int32))) [] 344 [] Q
      refine sX8_code_344 (d := d) (si (si (si (si (si (si (si (si (si (si (si M 123 ((gi M 97 46)).toNatClampNeg (22 : Int32)) 124 ((gi M 97 46)).toNatClampNeg l6) 125 ((gi M 97 46)).toNatClampNeg (0 : Int32)) 126 ((gi M 97 46)).toNatClampNeg (gi M 97 56)) 97 46 ((gi M 97 46) + (1 : Int32))) 123 (((gi M 97 46) + (1 : Int32))).toNatClampNeg (21 : Int32)) 124 (((gi M 97 46) + (1 : Int32))).toNatClampNeg l4) 125 (((gi M 97 46) + (1 : Int32))).toNatClampNeg (0 : Int32)) 126 (((gi M 97 46) + (1 : Int32))).toNatClampNeg (gi M 97 56)) 97 46 (((gi M 97 46) + (1 : Int32)) + (1 : Int32))) 128 (l6).toNatClampNeg (((gi M 97 46) + (1 : Int32)) + (1 : Int32)))  ?_
      exact k
theorem iX8_code_432 {E : zE} {d : Nat} {Q : zO → zM → Prop} (M : zM) (l1 : Int32) (l4 : Int32) (l5 : Int32) (l6 : Int32) (l7 : Int32) (l8 : Int32) (k : vp_in l5 8000 ∧ (vp_in (((5 : Int32) * l1) + (2 : Int32)) 60000 ∧ (if (gi M 109 ((((5 : Int32) * l1) + (2 : Int32))).toNatClampNeg) = (-1 : Int32) then (if (gi M 97 46) = (600 : Int32) then (vp_in l6 8000 ∧ (Q (.inl none) (si (si (si (si (si M 97 60 l7) 97 59 l8) 128 (l5).toNatClampNeg (gi M 97 46)) 97 47 (1 : Int32)) 128 (l6).toNatClampNeg (gi M 97 46)))) else (vp_in (gi M 97 46) 600 ∧ (vp_in l6 8000 ∧ (Q (.inl none) (si (si (si (si (si (si (si (si (si M 97 60 l7) 97 59 l8) 128 (l5).toNatClampNeg (gi M 97 46)) 123 ((gi M 97 46)).toNatClampNeg (21 : Int32)) 124 ((gi M 97 46)).toNatClampNeg l4) 125 ((gi M 97 46)).toNatClampNeg (0 : Int32)) 126 ((gi M 97 46)).toNatClampNeg (gi M 97 56)) 97 46 ((gi M 97 46) + (1 : Int32))) 128 (l6).toNatClampNeg ((gi M 97 46) + (1 : Int32))))))) else (Zm E YX8_value d (si (si (si M 97 60 l7) 97 59 l8) 128 (l5).toNatClampNeg (gi M 97 46)) (zargs 0 [vr (some (97, 1, 0)), vi (gi M 109 ((((5 : Int32) * l1) + (2 : Int32))).toNatClampNeg)]) 0 [] (zma E YX8_code (d + 1) [(0, vr (some (97, 1, 0))), (4, vi l4), (6, vi l6)] 463 3 [] Q))))) : Zm E YX8_code (d + 1) M [(0, vr (some (97, 1, 0))), (1, vi l1), (4, vi l4), (5, vi l5), (6, vi l6), (7, vi l7), (8, vi l8)] 432 [] Q := by
  refine sX8_code_432 (d := d) M l1 l4 l5 l6 l7 l8 ?_
  refine sX8_unwrap_0 (d := d) M l7 l8 ?_
  show Zm E YX8_code (d + 1) (si (si M 97 60 l7) 97 59 l8) [(0, vr (some (97, 1, 0))), (1, vi l1), (4, vi l4), (5, vi l5), (6, vi l6)] 440 [] Q
  refine sX8_code_440 (d := d) (si (si M 97 60 l7) 97 59 l8) l1 l4 l5 l6 ?_
  refine sX8_here_0 (d := d) (si (si M 97 60 l7) 97 59 l8) l5 ?_
  refine zand k (fun h3541 k => ?_)
  show Zm E YX8_code (d + 1) (si (si (si M 97 60 l7) 97 59 l8) 128 (l5).toNatClampNeg (gi M 97 46)) [(0, vr (some (97, 1, 0))), (1, vi l1), (4, vi l4), (6, vi l6)] 446 [] Q
  refine sX8_code_446 (d := d) (si (si (si M 97 60 l7) 97 59 l8) 128 (l5).toNatClampNeg (gi M 97 46)) l1 l4 l6 ?_
  refine sX8_part_0 (d := d) (si (si (si M 97 60 l7) 97 59 l8) 128 (l5).toNatClampNeg (gi M 97 46)) l1 (2 : Int32) ?_
  refine zand k (fun h3542 k => ?_)
  show Zm E YX8_code (d + 1) (si (si (si M 97 60 l7) 97 59 l8) 128 (l5).toNatClampNeg (gi M 97 46)) [(0, vr (some (97, 1, 0))), (1, vi l1), (4, vi l4), (6, vi l6)] 452 [vi (gi M 109 ((((5 : Int32) * l1) + (2 : Int32))).toNatClampNeg)] Q
  refine sX8_code_452 (d := d) (si (si (si M 97 60 l7) 97 59 l8) 128 (l5).toNatClampNeg (gi M 97 46)) l1 l4 l6 (gi M 109 ((((5 : Int32) * l1) + (2 : Int32))).toNatClampNeg) ?_
  refine zite k (fun h3543 k => ?_) (fun h3543 k => ?_)
  · refine sX8_code_472 (d := d) (si (si (si M 97 60 l7) 97 59 l8) 128 (l5).toNatClampNeg (gi M 97 46)) l4 l6 ?_
    refine jX8_emit (d := d) (si (si (si M 97 60 l7) 97 59 l8) 128 (l5).toNatClampNeg (gi M 97 46)) (21 : Int32) l4 (0 : Int32) ?_
    refine zite k (fun h3544 k => ?_) (fun h3544 k => ?_)
    · show Zm E YX8_code (d + 1) (si (si (si (si M 97 60 l7) 97 59 l8) 128 (l5).toNatClampNeg (gi M 97 46)) 97 47 (1 : Int32)) [(0, vr (some (97, 1, 0))), (6, vi l6)] 481 [] Q
      refine sX8_code_481 (d := d) (si (si (si (si M 97 60 l7) 97 59 l8) 128 (l5).toNatClampNeg (gi M 97 46)) 97 47 (1 : Int32)) l6 ?_
      refine sX8_here_0 (d := d) (si (si (si (si M 97 60 l7) 97 59 l8) 128 (l5).toNatClampNeg (gi M 97 46)) 97 47 (1 : Int32)) l6 ?_
      refine zand k (fun h3545 k => ?_)
      show Zm E YX8_code (d + 1) (si (si (si (si (si M 97 60 l7) 97 59 l8) 128 (l5).toNatClampNeg (gi M 97 46)) 97 47 (1 : Int32)) 128 (l6).toNatClampNeg (gi M 97 46)) [] 487 [] Q
      refine sX8_code_487 (d := d) (si (si (si (si (si M 97 60 l7) 97 59 l8) 128 (l5).toNatClampNeg (gi M 97 46)) 97 47 (1 : Int32)) 128 (l6).toNatClampNeg (gi M 97 46))  ?_
      exact k
    · refine zand k (fun h3546 k => ?_)
      show Zm E YX8_code (d + 1) (si (si (si (si (si (si (si (si M 97 60 l7) 97 59 l8) 128 (l5).toNatClampNeg (gi M 97 46)) 123 ((gi M 97 46)).toNatClampNeg (21 : Int32)) 124 ((gi M 97 46)).toNatClampNeg l4) 125 ((gi M 97 46)).toNatClampNeg (0 : Int32)) 126 ((gi M 97 46)).toNatClampNeg (gi M 97 56)) 97 46 ((gi M 97 46) + (1 : Int32))) [(0, vr (some (97, 1, 0))), (6, vi l6)] 481 [] Q
      refine sX8_code_481 (d := d) (si (si (si (si (si (si (si (si M 97 60 l7) 97 59 l8) 128 (l5).toNatClampNeg (gi M 97 46)) 123 ((gi M 97 46)).toNatClampNeg (21 : Int32)) 124 ((gi M 97 46)).toNatClampNeg l4) 125 ((gi M 97 46)).toNatClampNeg (0 : Int32)) 126 ((gi M 97 46)).toNatClampNeg (gi M 97 56)) 97 46 ((gi M 97 46) + (1 : Int32))) l6 ?_
      refine sX8_here_0 (d := d) (si (si (si (si (si (si (si (si M 97 60 l7) 97 59 l8) 128 (l5).toNatClampNeg (gi M 97 46)) 123 ((gi M 97 46)).toNatClampNeg (21 : Int32)) 124 ((gi M 97 46)).toNatClampNeg l4) 125 ((gi M 97 46)).toNatClampNeg (0 : Int32)) 126 ((gi M 97 46)).toNatClampNeg (gi M 97 56)) 97 46 ((gi M 97 46) + (1 : Int32))) l6 ?_
      refine zand k (fun h3547 k => ?_)
      show Zm E YX8_code (d + 1) (si (si (si (si (si (si (si (si (si M 97 60 l7) 97 59 l8) 128 (l5).toNatClampNeg (gi M 97 46)) 123 ((gi M 97 46)).toNatClampNeg (21 : Int32)) 124 ((gi M 97 46)).toNatClampNeg l4) 125 ((gi M 97 46)).toNatClampNeg (0 : Int32)) 126 ((gi M 97 46)).toNatClampNeg (gi M 97 56)) 97 46 ((gi M 97 46) + (1 : Int32))) 128 (l6).toNatClampNeg ((gi M 97 46) + (1 : Int32))) [] 487 [] Q
      refine sX8_code_487 (d := d) (si (si (si (si (si (si (si (si (si M 97 60 l7) 97 59 l8) 128 (l5).toNatClampNeg (gi M 97 46)) 123 ((gi M 97 46)).toNatClampNeg (21 : Int32)) 124 ((gi M 97 46)).toNatClampNeg l4) 125 ((gi M 97 46)).toNatClampNeg (0 : Int32)) 126 ((gi M 97 46)).toNatClampNeg (gi M 97 56)) 97 46 ((gi M 97 46) + (1 : Int32))) 128 (l6).toNatClampNeg ((gi M 97 46) + (1 : Int32)))  ?_
      exact k
  · refine sX8_part_0 (d := d) (si (si (si M 97 60 l7) 97 59 l8) 128 (l5).toNatClampNeg (gi M 97 46)) l1 (2 : Int32) ?_
    refine ⟨h3542, ?_⟩
    show Zm E YX8_code (d + 1) (si (si (si M 97 60 l7) 97 59 l8) 128 (l5).toNatClampNeg (gi M 97 46)) [(0, vr (some (97, 1, 0))), (4, vi l4), (6, vi l6)] 463 [vi (gi M 109 ((((5 : Int32) * l1) + (2 : Int32))).toNatClampNeg), vr (some (97, 1, 0))] Q
    refine sX8_code_463 (d := d) (si (si (si M 97 60 l7) 97 59 l8) 128 (l5).toNatClampNeg (gi M 97 46)) l4 l6 (gi M 109 ((((5 : Int32) * l1) + (2 : Int32))).toNatClampNeg) ?_
    exact k
theorem iX8_code_533 {E : zE} {d : Nat} {Q : zO → zM → Prop} (M : zM) (l1 : Int32) (l4 : Int32) (l5 : Int32) (k : if (gi M 97 46) = (600 : Int32) then (vp_in (((5 : Int32) * l1) + (2 : Int32)) 60000 ∧ (Zm E YX8_codeInside (d + 1) (si M 97 47 (1 : Int32)) (zargs 0 [vr (some (97, 1, 0)), vi (4 : Int32), vi (gi M 109 ((((5 : Int32) * l1) + (2 : Int32))).toNatClampNeg), vi l5, vi l4]) 0 [] (zma E YX8_code ((d + 1) + 1) [(0, vr (some (97, 1, 0))), (4, vi l4), (5, vi l5)] 551 3 [] Q))) else (vp_in (gi M 97 46) 600 ∧ (vp_in (((5 : Int32) * l1) + (2 : Int32)) 60000 ∧ (Zm E YX8_codeInside (d + 1) (si (si (si (si (si M 123 ((gi M 97 46)).toNatClampNeg (17 : Int32)) 124 ((gi M 97 46)).toNatClampNeg (0 : Int32)) 125 ((gi M 97 46)).toNatClampNeg (0 : Int32)) 126 ((gi M 97 46)).toNatClampNeg (gi M 97 56)) 97 46 ((gi M 97 46) + (1 : Int32))) (zargs 0 [vr (some (97, 1, 0)), vi (4 : Int32), vi (gi M 109 ((((5 : Int32) * l1) + (2 : Int32))).toNatClampNeg), vi l5, vi l4]) 0 [] (zma E YX8_code ((d + 1) + 1) [(0, vr (some (97, 1, 0))), (4, vi l4), (5, vi l5)] 551 3 [] Q))))) : Zm E YX8_code (d + 2) M [(0, vr (some (97, 1, 0))), (1, vi l1), (4, vi l4), (5, vi l5)] 533 [] Q := by
  refine sX8_code_533 (d := (d + 1)) M l1 l4 l5 ?_
  refine jX8_emit_2 (d := d) M (17 : Int32) ?_
  refine zite k (fun h3548 k => ?_) (fun h3548 k => ?_)
  · show Zm E YX8_code ((d + 1) + 1) (si M 97 47 (1 : Int32)) [(0, vr (some (97, 1, 0))), (1, vi l1), (4, vi l4), (5, vi l5)] 539 [] Q
    refine sX8_code_539 (d := (d + 1)) (si M 97 47 (1 : Int32)) l1 l4 l5 ?_
    refine sX8_part_0 (d := (d + 1)) (si M 97 47 (1 : Int32)) l1 (2 : Int32) ?_
    refine zand k (fun h3549 k => ?_)
    show Zm E YX8_code ((d + 1) + 1) (si M 97 47 (1 : Int32)) [(0, vr (some (97, 1, 0))), (4, vi l4), (5, vi l5)] 547 [vi (gi M 109 ((((5 : Int32) * l1) + (2 : Int32))).toNatClampNeg), vi (4 : Int32), vr (some (97, 1, 0))] Q
    refine sX8_code_547 (d := (d + 1)) (si M 97 47 (1 : Int32)) l4 l5 (gi M 109 ((((5 : Int32) * l1) + (2 : Int32))).toNatClampNeg) (4 : Int32) ?_
    exact k
  · refine zand k (fun h3550 k => ?_)
    show Zm E YX8_code ((d + 1) + 1) (si (si (si (si (si M 123 ((gi M 97 46)).toNatClampNeg (17 : Int32)) 124 ((gi M 97 46)).toNatClampNeg (0 : Int32)) 125 ((gi M 97 46)).toNatClampNeg (0 : Int32)) 126 ((gi M 97 46)).toNatClampNeg (gi M 97 56)) 97 46 ((gi M 97 46) + (1 : Int32))) [(0, vr (some (97, 1, 0))), (1, vi l1), (4, vi l4), (5, vi l5)] 539 [] Q
    refine sX8_code_539 (d := (d + 1)) (si (si (si (si (si M 123 ((gi M 97 46)).toNatClampNeg (17 : Int32)) 124 ((gi M 97 46)).toNatClampNeg (0 : Int32)) 125 ((gi M 97 46)).toNatClampNeg (0 : Int32)) 126 ((gi M 97 46)).toNatClampNeg (gi M 97 56)) 97 46 ((gi M 97 46) + (1 : Int32))) l1 l4 l5 ?_
    refine sX8_part_0 (d := (d + 1)) (si (si (si (si (si M 123 ((gi M 97 46)).toNatClampNeg (17 : Int32)) 124 ((gi M 97 46)).toNatClampNeg (0 : Int32)) 125 ((gi M 97 46)).toNatClampNeg (0 : Int32)) 126 ((gi M 97 46)).toNatClampNeg (gi M 97 56)) 97 46 ((gi M 97 46) + (1 : Int32))) l1 (2 : Int32) ?_
    refine zand k (fun h3551 k => ?_)
    show Zm E YX8_code ((d + 1) + 1) (si (si (si (si (si M 123 ((gi M 97 46)).toNatClampNeg (17 : Int32)) 124 ((gi M 97 46)).toNatClampNeg (0 : Int32)) 125 ((gi M 97 46)).toNatClampNeg (0 : Int32)) 126 ((gi M 97 46)).toNatClampNeg (gi M 97 56)) 97 46 ((gi M 97 46) + (1 : Int32))) [(0, vr (some (97, 1, 0))), (4, vi l4), (5, vi l5)] 547 [vi (gi M 109 ((((5 : Int32) * l1) + (2 : Int32))).toNatClampNeg), vi (4 : Int32), vr (some (97, 1, 0))] Q
    refine sX8_code_547 (d := (d + 1)) (si (si (si (si (si M 123 ((gi M 97 46)).toNatClampNeg (17 : Int32)) 124 ((gi M 97 46)).toNatClampNeg (0 : Int32)) 125 ((gi M 97 46)).toNatClampNeg (0 : Int32)) 126 ((gi M 97 46)).toNatClampNeg (gi M 97 56)) 97 46 ((gi M 97 46) + (1 : Int32))) l4 l5 (gi M 109 ((((5 : Int32) * l1) + (2 : Int32))).toNatClampNeg) (4 : Int32) ?_
    exact k
theorem iX8_code_206 {E : zE} {d : Nat} {Q : zO → zM → Prop} (M : zM) (l5 : Int32) (k : vp_in l5 8000 ∧ (Q (.inl none) (si M 128 (l5).toNatClampNeg (gi M 97 46)))) : Zm E YX8_code (d + 1) M [(0, vr (some (97, 1, 0))), (5, vi l5)] 206 [] Q := by
  refine sX8_code_206 (d := d) M l5 ?_
  refine sX8_here_0 (d := d) M l5 ?_
  refine zand k (fun h3552 k => ?_)
  show Zm E YX8_code (d + 1) (si M 128 (l5).toNatClampNeg (gi M 97 46)) [] 212 [] Q
  refine sX8_code_212 (d := d) (si M 128 (l5).toNatClampNeg (gi M 97 46))  ?_
  exact k
theorem iX8_code_466 {E : zE} {d : Nat} {Q : zO → zM → Prop} (M : zM) (l4 : Int32) (l6 : Int32) (k : if (gi M 97 46) = (600 : Int32) then (vp_in l6 8000 ∧ (Q (.inl none) (si (si (si M 97 47 (1 : Int32)) 97 47 (1 : Int32)) 128 (l6).toNatClampNeg (gi M 97 46)))) else (vp_in (gi M 97 46) 600 ∧ (if ((gi M 97 46) + (1 : Int32)) = (600 : Int32) then (vp_in l6 8000 ∧ (Q (.inl none) (si (si (si (si (si (si (si M 123 ((gi M 97 46)).toNatClampNeg (17 : Int32)) 124 ((gi M 97 46)).toNatClampNeg (0 : Int32)) 125 ((gi M 97 46)).toNatClampNeg (0 : Int32)) 126 ((gi M 97 46)).toNatClampNeg (gi M 97 56)) 97 46 ((gi M 97 46) + (1 : Int32))) 97 47 (1 : Int32)) 128 (l6).toNatClampNeg ((gi M 97 46) + (1 : Int32))))) else (vp_in ((gi M 97 46) + (1 : Int32)) 600 ∧ (vp_in l6 8000 ∧ (Q (.inl none) (si (si (si (si (si (si (si (si (si (si (si M 123 ((gi M 97 46)).toNatClampNeg (17 : Int32)) 124 ((gi M 97 46)).toNatClampNeg (0 : Int32)) 125 ((gi M 97 46)).toNatClampNeg (0 : Int32)) 126 ((gi M 97 46)).toNatClampNeg (gi M 97 56)) 97 46 ((gi M 97 46) + (1 : Int32))) 123 (((gi M 97 46) + (1 : Int32))).toNatClampNeg (21 : Int32)) 124 (((gi M 97 46) + (1 : Int32))).toNatClampNeg l4) 125 (((gi M 97 46) + (1 : Int32))).toNatClampNeg (0 : Int32)) 126 (((gi M 97 46) + (1 : Int32))).toNatClampNeg (gi M 97 56)) 97 46 (((gi M 97 46) + (1 : Int32)) + (1 : Int32))) 128 (l6).toNatClampNeg (((gi M 97 46) + (1 : Int32)) + (1 : Int32))))))))) : Zm E YX8_code (d + 2) M [(0, vr (some (97, 1, 0))), (4, vi l4), (6, vi l6)] 466 [] Q := by
  refine sX8_code_466 (d := (d + 1)) M l4 l6 ?_
  refine jX8_emit_2 (d := d) M (17 : Int32) ?_
  refine zite k (fun h3553 k => ?_) (fun h3553 k => ?_)
  · show Zm E YX8_code ((d + 1) + 1) (si M 97 47 (1 : Int32)) [(0, vr (some (97, 1, 0))), (4, vi l4), (6, vi l6)] 472 [] Q
    refine sX8_code_472 (d := (d + 1)) (si M 97 47 (1 : Int32)) l4 l6 ?_
    refine jX8_emit (d := (d + 1)) (si M 97 47 (1 : Int32)) (21 : Int32) l4 (0 : Int32) ?_
    refine zpos h3553 ?_
    show Zm E YX8_code ((d + 1) + 1) (si (si M 97 47 (1 : Int32)) 97 47 (1 : Int32)) [(0, vr (some (97, 1, 0))), (6, vi l6)] 481 [] Q
    refine sX8_code_481 (d := (d + 1)) (si (si M 97 47 (1 : Int32)) 97 47 (1 : Int32)) l6 ?_
    refine sX8_here_0 (d := (d + 1)) (si (si M 97 47 (1 : Int32)) 97 47 (1 : Int32)) l6 ?_
    refine zand k (fun h3554 k => ?_)
    show Zm E YX8_code ((d + 1) + 1) (si (si (si M 97 47 (1 : Int32)) 97 47 (1 : Int32)) 128 (l6).toNatClampNeg (gi M 97 46)) [] 487 [] Q
    refine sX8_code_487 (d := (d + 1)) (si (si (si M 97 47 (1 : Int32)) 97 47 (1 : Int32)) 128 (l6).toNatClampNeg (gi M 97 46))  ?_
    exact k
  · refine zand k (fun h3555 k => ?_)
    show Zm E YX8_code ((d + 1) + 1) (si (si (si (si (si M 123 ((gi M 97 46)).toNatClampNeg (17 : Int32)) 124 ((gi M 97 46)).toNatClampNeg (0 : Int32)) 125 ((gi M 97 46)).toNatClampNeg (0 : Int32)) 126 ((gi M 97 46)).toNatClampNeg (gi M 97 56)) 97 46 ((gi M 97 46) + (1 : Int32))) [(0, vr (some (97, 1, 0))), (4, vi l4), (6, vi l6)] 472 [] Q
    refine sX8_code_472 (d := (d + 1)) (si (si (si (si (si M 123 ((gi M 97 46)).toNatClampNeg (17 : Int32)) 124 ((gi M 97 46)).toNatClampNeg (0 : Int32)) 125 ((gi M 97 46)).toNatClampNeg (0 : Int32)) 126 ((gi M 97 46)).toNatClampNeg (gi M 97 56)) 97 46 ((gi M 97 46) + (1 : Int32))) l4 l6 ?_
    refine jX8_emit (d := (d + 1)) (si (si (si (si (si M 123 ((gi M 97 46)).toNatClampNeg (17 : Int32)) 124 ((gi M 97 46)).toNatClampNeg (0 : Int32)) 125 ((gi M 97 46)).toNatClampNeg (0 : Int32)) 126 ((gi M 97 46)).toNatClampNeg (gi M 97 56)) 97 46 ((gi M 97 46) + (1 : Int32))) (21 : Int32) l4 (0 : Int32) ?_
    refine zite k (fun h3556 k => ?_) (fun h3556 k => ?_)
    · show Zm E YX8_code ((d + 1) + 1) (si (si (si (si (si (si M 123 ((gi M 97 46)).toNatClampNeg (17 : Int32)) 124 ((gi M 97 46)).toNatClampNeg (0 : Int32)) 125 ((gi M 97 46)).toNatClampNeg (0 : Int32)) 126 ((gi M 97 46)).toNatClampNeg (gi M 97 56)) 97 46 ((gi M 97 46) + (1 : Int32))) 97 47 (1 : Int32)) [(0, vr (some (97, 1, 0))), (6, vi l6)] 481 [] Q
      refine sX8_code_481 (d := (d + 1)) (si (si (si (si (si (si M 123 ((gi M 97 46)).toNatClampNeg (17 : Int32)) 124 ((gi M 97 46)).toNatClampNeg (0 : Int32)) 125 ((gi M 97 46)).toNatClampNeg (0 : Int32)) 126 ((gi M 97 46)).toNatClampNeg (gi M 97 56)) 97 46 ((gi M 97 46) + (1 : Int32))) 97 47 (1 : Int32)) l6 ?_
      refine sX8_here_0 (d := (d + 1)) (si (si (si (si (si (si M 123 ((gi M 97 46)).toNatClampNeg (17 : Int32)) 124 ((gi M 97 46)).toNatClampNeg (0 : Int32)) 125 ((gi M 97 46)).toNatClampNeg (0 : Int32)) 126 ((gi M 97 46)).toNatClampNeg (gi M 97 56)) 97 46 ((gi M 97 46) + (1 : Int32))) 97 47 (1 : Int32)) l6 ?_
      refine zand k (fun h3557 k => ?_)
      show Zm E YX8_code ((d + 1) + 1) (si (si (si (si (si (si (si M 123 ((gi M 97 46)).toNatClampNeg (17 : Int32)) 124 ((gi M 97 46)).toNatClampNeg (0 : Int32)) 125 ((gi M 97 46)).toNatClampNeg (0 : Int32)) 126 ((gi M 97 46)).toNatClampNeg (gi M 97 56)) 97 46 ((gi M 97 46) + (1 : Int32))) 97 47 (1 : Int32)) 128 (l6).toNatClampNeg ((gi M 97 46) + (1 : Int32))) [] 487 [] Q
      refine sX8_code_487 (d := (d + 1)) (si (si (si (si (si (si (si M 123 ((gi M 97 46)).toNatClampNeg (17 : Int32)) 124 ((gi M 97 46)).toNatClampNeg (0 : Int32)) 125 ((gi M 97 46)).toNatClampNeg (0 : Int32)) 126 ((gi M 97 46)).toNatClampNeg (gi M 97 56)) 97 46 ((gi M 97 46) + (1 : Int32))) 97 47 (1 : Int32)) 128 (l6).toNatClampNeg ((gi M 97 46) + (1 : Int32)))  ?_
      exact k
    · refine zand k (fun h3558 k => ?_)
      show Zm E YX8_code ((d + 1) + 1) (si (si (si (si (si (si (si (si (si (si M 123 ((gi M 97 46)).toNatClampNeg (17 : Int32)) 124 ((gi M 97 46)).toNatClampNeg (0 : Int32)) 125 ((gi M 97 46)).toNatClampNeg (0 : Int32)) 126 ((gi M 97 46)).toNatClampNeg (gi M 97 56)) 97 46 ((gi M 97 46) + (1 : Int32))) 123 (((gi M 97 46) + (1 : Int32))).toNatClampNeg (21 : Int32)) 124 (((gi M 97 46) + (1 : Int32))).toNatClampNeg l4) 125 (((gi M 97 46) + (1 : Int32))).toNatClampNeg (0 : Int32)) 126 (((gi M 97 46) + (1 : Int32))).toNatClampNeg (gi M 97 56)) 97 46 (((gi M 97 46) + (1 : Int32)) + (1 : Int32))) [(0, vr (some (97, 1, 0))), (6, vi l6)] 481 [] Q
      refine sX8_code_481 (d := (d + 1)) (si (si (si (si (si (si (si (si (si (si M 123 ((gi M 97 46)).toNatClampNeg (17 : Int32)) 124 ((gi M 97 46)).toNatClampNeg (0 : Int32)) 125 ((gi M 97 46)).toNatClampNeg (0 : Int32)) 126 ((gi M 97 46)).toNatClampNeg (gi M 97 56)) 97 46 ((gi M 97 46) + (1 : Int32))) 123 (((gi M 97 46) + (1 : Int32))).toNatClampNeg (21 : Int32)) 124 (((gi M 97 46) + (1 : Int32))).toNatClampNeg l4) 125 (((gi M 97 46) + (1 : Int32))).toNatClampNeg (0 : Int32)) 126 (((gi M 97 46) + (1 : Int32))).toNatClampNeg (gi M 97 56)) 97 46 (((gi M 97 46) + (1 : Int32)) + (1 : Int32))) l6 ?_
      refine sX8_here_0 (d := (d + 1)) (si (si (si (si (si (si (si (si (si (si M 123 ((gi M 97 46)).toNatClampNeg (17 : Int32)) 124 ((gi M 97 46)).toNatClampNeg (0 : Int32)) 125 ((gi M 97 46)).toNatClampNeg (0 : Int32)) 126 ((gi M 97 46)).toNatClampNeg (gi M 97 56)) 97 46 ((gi M 97 46) + (1 : Int32))) 123 (((gi M 97 46) + (1 : Int32))).toNatClampNeg (21 : Int32)) 124 (((gi M 97 46) + (1 : Int32))).toNatClampNeg l4) 125 (((gi M 97 46) + (1 : Int32))).toNatClampNeg (0 : Int32)) 126 (((gi M 97 46) + (1 : Int32))).toNatClampNeg (gi M 97 56)) 97 46 (((gi M 97 46) + (1 : Int32)) + (1 : Int32))) l6 ?_
      refine zand k (fun h3559 k => ?_)
      show Zm E YX8_code ((d + 1) + 1) (si (si (si (si (si (si (si (si (si (si (si M 123 ((gi M 97 46)).toNatClampNeg (17 : Int32)) 124 ((gi M 97 46)).toNatClampNeg (0 : Int32)) 125 ((gi M 97 46)).toNatClampNeg (0 : Int32)) 126 ((gi M 97 46)).toNatClampNeg (gi M 97 56)) 97 46 ((gi M 97 46) + (1 : Int32))) 123 (((gi M 97 46) + (1 : Int32))).toNatClampNeg (21 : Int32)) 124 (((gi M 97 46) + (1 : Int32))).toNatClampNeg l4) 125 (((gi M 97 46) + (1 : Int32))).toNatClampNeg (0 : Int32)) 126 (((gi M 97 46) + (1 : Int32))).toNatClampNeg (gi M 97 56)) 97 46 (((gi M 97 46) + (1 : Int32)) + (1 : Int32))) 128 (l6).toNatClampNeg (((gi M 97 46) + (1 : Int32)) + (1 : Int32))) [] 487 [] Q
      refine sX8_code_487 (d := (d + 1)) (si (si (si (si (si (si (si (si (si (si (si M 123 ((gi M 97 46)).toNatClampNeg (17 : Int32)) 124 ((gi M 97 46)).toNatClampNeg (0 : Int32)) 125 ((gi M 97 46)).toNatClampNeg (0 : Int32)) 126 ((gi M 97 46)).toNatClampNeg (gi M 97 56)) 97 46 ((gi M 97 46) + (1 : Int32))) 123 (((gi M 97 46) + (1 : Int32))).toNatClampNeg (21 : Int32)) 124 (((gi M 97 46) + (1 : Int32))).toNatClampNeg l4) 125 (((gi M 97 46) + (1 : Int32))).toNatClampNeg (0 : Int32)) 126 (((gi M 97 46) + (1 : Int32))).toNatClampNeg (gi M 97 56)) 97 46 (((gi M 97 46) + (1 : Int32)) + (1 : Int32))) 128 (l6).toNatClampNeg (((gi M 97 46) + (1 : Int32)) + (1 : Int32)))  ?_
      exact k
theorem iX8_code_554 {E : zE} {d : Nat} {Q : zO → zM → Prop} (M : zM) (l4 : Int32) (l5 : Int32) (k : if (gi M 97 46) = (600 : Int32) then (vp_in l5 8000 ∧ (Q (.inl none) (si (si M 97 47 (1 : Int32)) 128 (l5).toNatClampNeg (gi M 97 46)))) else (vp_in (gi M 97 46) 600 ∧ (vp_in l5 8000 ∧ (Q (.inl none) (si (si (si (si (si (si M 123 ((gi M 97 46)).toNatClampNeg (21 : Int32)) 124 ((gi M 97 46)).toNatClampNeg l4) 125 ((gi M 97 46)).toNatClampNeg (0 : Int32)) 126 ((gi M 97 46)).toNatClampNeg (gi M 97 56)) 97 46 ((gi M 97 46) + (1 : Int32))) 128 (l5).toNatClampNeg ((gi M 97 46) + (1 : Int32))))))) : Zm E YX8_code (d + 1) M [(0, vr (some (97, 1, 0))), (4, vi l4), (5, vi l5)] 554 [] Q := by
  refine sX8_code_554 (d := d) M l4 l5 ?_
  refine jX8_emit (d := d) M (21 : Int32) l4 (0 : Int32) ?_
  refine zite k (fun h3560 k => ?_) (fun h3560 k => ?_)
  · show Zm E YX8_code (d + 1) (si M 97 47 (1 : Int32)) [(0, vr (some (97, 1, 0))), (5, vi l5)] 563 [] Q
    refine sX8_code_563 (d := d) (si M 97 47 (1 : Int32)) l5 ?_
    refine sX8_here_0 (d := d) (si M 97 47 (1 : Int32)) l5 ?_
    refine zand k (fun h3561 k => ?_)
    show Zm E YX8_code (d + 1) (si (si M 97 47 (1 : Int32)) 128 (l5).toNatClampNeg (gi M 97 46)) [] 569 [] Q
    refine sX8_code_569 (d := d) (si (si M 97 47 (1 : Int32)) 128 (l5).toNatClampNeg (gi M 97 46))  ?_
    exact k
  · refine zand k (fun h3562 k => ?_)
    show Zm E YX8_code (d + 1) (si (si (si (si (si M 123 ((gi M 97 46)).toNatClampNeg (21 : Int32)) 124 ((gi M 97 46)).toNatClampNeg l4) 125 ((gi M 97 46)).toNatClampNeg (0 : Int32)) 126 ((gi M 97 46)).toNatClampNeg (gi M 97 56)) 97 46 ((gi M 97 46) + (1 : Int32))) [(0, vr (some (97, 1, 0))), (5, vi l5)] 563 [] Q
    refine sX8_code_563 (d := d) (si (si (si (si (si M 123 ((gi M 97 46)).toNatClampNeg (21 : Int32)) 124 ((gi M 97 46)).toNatClampNeg l4) 125 ((gi M 97 46)).toNatClampNeg (0 : Int32)) 126 ((gi M 97 46)).toNatClampNeg (gi M 97 56)) 97 46 ((gi M 97 46) + (1 : Int32))) l5 ?_
    refine sX8_here_0 (d := d) (si (si (si (si (si M 123 ((gi M 97 46)).toNatClampNeg (21 : Int32)) 124 ((gi M 97 46)).toNatClampNeg l4) 125 ((gi M 97 46)).toNatClampNeg (0 : Int32)) 126 ((gi M 97 46)).toNatClampNeg (gi M 97 56)) 97 46 ((gi M 97 46) + (1 : Int32))) l5 ?_
    refine zand k (fun h3563 k => ?_)
    show Zm E YX8_code (d + 1) (si (si (si (si (si (si M 123 ((gi M 97 46)).toNatClampNeg (21 : Int32)) 124 ((gi M 97 46)).toNatClampNeg l4) 125 ((gi M 97 46)).toNatClampNeg (0 : Int32)) 126 ((gi M 97 46)).toNatClampNeg (gi M 97 56)) 97 46 ((gi M 97 46) + (1 : Int32))) 128 (l5).toNatClampNeg ((gi M 97 46) + (1 : Int32))) [] 569 [] Q
    refine sX8_code_569 (d := d) (si (si (si (si (si (si M 123 ((gi M 97 46)).toNatClampNeg (21 : Int32)) 124 ((gi M 97 46)).toNatClampNeg l4) 125 ((gi M 97 46)).toNatClampNeg (0 : Int32)) 126 ((gi M 97 46)).toNatClampNeg (gi M 97 56)) 97 46 ((gi M 97 46) + (1 : Int32))) 128 (l5).toNatClampNeg ((gi M 97 46) + (1 : Int32)))  ?_
    exact k
theorem jX8_constant {E : zE} {d : Nat} {Q : zO → zM → Prop} (M : zM) (l1 : Int32) (l2 : Int32) (k : if (gi M 97 46) = (600 : Int32) then (Q (.inl none) (si M 97 47 (1 : Int32))) else (vp_in (gi M 97 46) 600 ∧ (Q (.inl none) (si (si (si (si (si M 123 ((gi M 97 46)).toNatClampNeg (0 : Int32)) 124 ((gi M 97 46)).toNatClampNeg l1) 125 ((gi M 97 46)).toNatClampNeg l2) 126 ((gi M 97 46)).toNatClampNeg (gi M 97 56)) 97 46 ((gi M 97 46) + (1 : Int32)))))) : Zm E YX8_constant (d + 1) M [(0, vr (some (97, 1, 0))), (1, vi l1), (2, vi l2)] 0 [] Q := by
  refine sX8_constant_0 (d := d) M l1 l2 ?_
  refine jX8_emit (d := d) M (0 : Int32) l1 l2 ?_
  refine zite k (fun h3568 k => ?_) (fun h3568 k => ?_)
  · show Zm E YX8_constant (d + 1) (si M 97 47 (1 : Int32)) [] 7 [] Q
    refine sX8_constant_7 (d := d) (si M 97 47 (1 : Int32))  ?_
    exact k
  · refine zand k (fun h3569 k => ?_)
    show Zm E YX8_constant (d + 1) (si (si (si (si (si M 123 ((gi M 97 46)).toNatClampNeg (0 : Int32)) 124 ((gi M 97 46)).toNatClampNeg l1) 125 ((gi M 97 46)).toNatClampNeg l2) 126 ((gi M 97 46)).toNatClampNeg (gi M 97 56)) 97 46 ((gi M 97 46) + (1 : Int32))) [] 7 [] Q
    refine sX8_constant_7 (d := d) (si (si (si (si (si M 123 ((gi M 97 46)).toNatClampNeg (0 : Int32)) 124 ((gi M 97 46)).toNatClampNeg l1) 125 ((gi M 97 46)).toNatClampNeg l2) 126 ((gi M 97 46)).toNatClampNeg (gi M 97 56)) 97 46 ((gi M 97 46) + (1 : Int32)))  ?_
    exact k
theorem iX8_codeFunction_22 {E : zE} {d : Nat} {Q : zO → zM → Prop} (M : zM) (l1 : Int32) (l2 : Int32) (k : if l1 = 0 then (if (gi M 97 42) ≤ l2 then (vp_in l1 12 ∧ (Zm E YX8_codeFunction ((d + 1) + 1) M [(0, vr (some (97, 1, 0))), (1, vi l1), (2, vi (gi M 119 (l1).toNatClampNeg))] 69 [] Q)) else (if (gi M 97 46) = (600 : Int32) then (vp_in l2 100 ∧ (Zm E YX8_set (d + 1) (si M 97 47 (1 : Int32)) (zargs 0 [vr (some (97, 1, 0)), vi (gi M 122 (l2).toNatClampNeg)]) 0 [] (zma E YX8_codeFunction ((d + 1) + 1) [(0, vr (some (97, 1, 0))), (1, vi l1), (2, vi l2)] 47 3 [] Q))) else (vp_in (gi M 97 46) 600 ∧ (vp_in l2 100 ∧ (Zm E YX8_set (d + 1) (si (si (si (si (si M 123 ((gi M 97 46)).toNatClampNeg (0 : Int32)) 124 ((gi M 97 46)).toNatClampNeg (0 : Int32)) 125 ((gi M 97 46)).toNatClampNeg (0 : Int32)) 126 ((gi M 97 46)).toNatClampNeg (gi M 97 56)) 97 46 ((gi M 97 46) + (1 : Int32))) (zargs 0 [vr (some (97, 1, 0)), vi (gi M 122 (l2).toNatClampNeg)]) 0 [] (zma E YX8_codeFunction ((d + 1) + 1) [(0, vr (some (97, 1, 0))), (1, vi l1), (2, vi l2)] 47 3 [] Q)))))) else (vp_in l1 12 ∧ (Zm E YX8_codeFunction ((d + 1) + 1) M [(0, vr (some (97, 1, 0))), (1, vi l1), (2, vi (gi M 119 (l1).toNatClampNeg))] 69 [] Q))) : Zm E YX8_codeFunction (d + 2) M [(0, vr (some (97, 1, 0))), (1, vi l1), (2, vi l2)] 22 [] Q := by
  refine sX8_codeFunction_22 (d := (d + 1)) M l1 l2 ?_
  refine zite k (fun h3570 k => ?_) (fun h3570 k => ?_)
  · refine zite k (fun h3571 k => ?_) (fun h3571 k => ?_)
    · exact k
    · refine jX8_constant (d := d) M (0 : Int32) (0 : Int32) ?_
      refine zite k (fun h3573 k => ?_) (fun h3573 k => ?_)
      · show Zm E YX8_codeFunction ((d + 1) + 1) (si M 97 47 (1 : Int32)) [(0, vr (some (97, 1, 0))), (1, vi l1), (2, vi l2)] 40 [] Q
        refine sX8_codeFunction_40 (d := (d + 1)) (si M 97 47 (1 : Int32)) l1 l2 ?_
        exact k
      · refine zand k (fun h3575 k => ?_)
        show Zm E YX8_codeFunction ((d + 1) + 1) (si (si (si (si (si M 123 ((gi M 97 46)).toNatClampNeg (0 : Int32)) 124 ((gi M 97 46)).toNatClampNeg (0 : Int32)) 125 ((gi M 97 46)).toNatClampNeg (0 : Int32)) 126 ((gi M 97 46)).toNatClampNeg (gi M 97 56)) 97 46 ((gi M 97 46) + (1 : Int32))) [(0, vr (some (97, 1, 0))), (1, vi l1), (2, vi l2)] 40 [] Q
        refine sX8_codeFunction_40 (d := (d + 1)) (si (si (si (si (si M 123 ((gi M 97 46)).toNatClampNeg (0 : Int32)) 124 ((gi M 97 46)).toNatClampNeg (0 : Int32)) 125 ((gi M 97 46)).toNatClampNeg (0 : Int32)) 126 ((gi M 97 46)).toNatClampNeg (gi M 97 56)) 97 46 ((gi M 97 46) + (1 : Int32))) l1 l2 ?_
        exact k
  · exact k
theorem iX8_codeFunction_69 {E : zE} {d : Nat} {Q : zO → zM → Prop} (M : zM) (l1 : Int32) (l2 : Int32) (k : if l2 = (-1 : Int32) then (vp_in l1 12 ∧ (Zm E YX8_codes d M (zargs 0 [vr (some (97, 1, 0)), vi (gi M 119 (l1).toNatClampNeg)]) 0 [] (zma E YX8_codeFunction (d + 1) [(0, vr (some (97, 1, 0)))] 139 3 [] Q))) else (vp_in l2 12000 ∧ (if (gi M 108 (l2).toNatClampNeg) = (36 : Int32) then (vp_in (((5 : Int32) * l2) + (0 : Int32)) 60000 ∧ (if (gi M 97 46) = (600 : Int32) then (vp_in (gi M 109 ((((5 : Int32) * l2) + (0 : Int32))).toNatClampNeg) 12 ∧ (Zm E YX8_set d (si M 97 47 (1 : Int32)) (zargs 0 [vr (some (97, 1, 0)), vi (gi M 114 ((gi M 109 ((((5 : Int32) * l2) + (0 : Int32))).toNatClampNeg)).toNatClampNeg)]) 0 [] (zma E YX8_codeFunction (d + 1) [(0, vr (some (97, 1, 0))), (1, vi l1), (2, vi l2)] 113 3 [] Q))) else (vp_in (gi M 97 46) 600 ∧ (vp_in (gi M 109 ((((5 : Int32) * l2) + (0 : Int32))).toNatClampNeg) 12 ∧ (Zm E YX8_set d (si (si (si (si (si M 123 ((gi M 97 46)).toNatClampNeg (9 : Int32)) 124 ((gi M 97 46)).toNatClampNeg (gi M 109 ((((5 : Int32) * l2) + (0 : Int32))).toNatClampNeg)) 125 ((gi M 97 46)).toNatClampNeg (0 : Int32)) 126 ((gi M 97 46)).toNatClampNeg (gi M 97 56)) 97 46 ((gi M 97 46) + (1 : Int32))) (zargs 0 [vr (some (97, 1, 0)), vi (gi M 114 ((gi M 109 ((((5 : Int32) * l2) + (0 : Int32))).toNatClampNeg)).toNatClampNeg)]) 0 [] (zma E YX8_codeFunction (d + 1) [(0, vr (some (97, 1, 0))), (1, vi l1), (2, vi l2)] 113 3 [] Q)))))) else (Zm E YX8_codeFunction (d + 1) M [(0, vr (some (97, 1, 0))), (1, vi l1), (2, vi (gi M 110 (l2).toNatClampNeg))] 69 [] Q)))) : Zm E YX8_codeFunction (d + 1) M [(0, vr (some (97, 1, 0))), (1, vi l1), (2, vi l2)] 69 [] Q := by
  refine sX8_codeFunction_69 (d := d) M l1 l2 ?_
  refine zite k (fun h3578 k => ?_) (fun h3578 k => ?_)
  · exact k
  · refine zand k (fun h3580 k => ?_)
    refine zite k (fun h3581 k => ?_) (fun h3581 k => ?_)
    · refine sX8_part_0 (d := d) M l2 (0 : Int32) ?_
      refine zand k (fun h3582 k => ?_)
      show Zm E YX8_codeFunction (d + 1) M [(0, vr (some (97, 1, 0))), (1, vi l1), (2, vi l2)] 97 [vi (gi M 109 ((((5 : Int32) * l2) + (0 : Int32))).toNatClampNeg), vi (9 : Int32), vr (some (97, 1, 0))] Q
      refine sX8_codeFunction_97 (d := d) M l1 l2 (gi M 109 ((((5 : Int32) * l2) + (0 : Int32))).toNatClampNeg) (9 : Int32) ?_
      refine jX8_emit (d := d) M (9 : Int32) (gi M 109 ((((5 : Int32) * l2) + (0 : Int32))).toNatClampNeg) (0 : Int32) ?_
      refine zite k (fun h3583 k => ?_) (fun h3583 k => ?_)
      · show Zm E YX8_codeFunction (d + 1) (si M 97 47 (1 : Int32)) [(0, vr (some (97, 1, 0))), (1, vi l1), (2, vi l2)] 101 [] Q
        refine sX8_codeFunction_101 (d := d) (si M 97 47 (1 : Int32)) l1 l2 ?_
        refine sX8_part_0 (d := d) (si M 97 47 (1 : Int32)) l2 (0 : Int32) ?_
        refine ⟨h3582, ?_⟩
        show Zm E YX8_codeFunction (d + 1) (si M 97 47 (1 : Int32)) [(0, vr (some (97, 1, 0))), (1, vi l1), (2, vi l2)] 112 [vi (gi M 109 ((((5 : Int32) * l2) + (0 : Int32))).toNatClampNeg), vr (some (114, 100, 12)), vr (some (97, 1, 0))] Q
        refine sX8_codeFunction_112 (d := d) (si M 97 47 (1 : Int32)) l1 l2 (gi M 109 ((((5 : Int32) * l2) + (0 : Int32))).toNatClampNeg) ?_
        exact k
      · refine zand k (fun h3585 k => ?_)
        show Zm E YX8_codeFunction (d + 1) (si (si (si (si (si M 123 ((gi M 97 46)).toNatClampNeg (9 : Int32)) 124 ((gi M 97 46)).toNatClampNeg (gi M 109 ((((5 : Int32) * l2) + (0 : Int32))).toNatClampNeg)) 125 ((gi M 97 46)).toNatClampNeg (0 : Int32)) 126 ((gi M 97 46)).toNatClampNeg (gi M 97 56)) 97 46 ((gi M 97 46) + (1 : Int32))) [(0, vr (some (97, 1, 0))), (1, vi l1), (2, vi l2)] 101 [] Q
        refine sX8_codeFunction_101 (d := d) (si (si (si (si (si M 123 ((gi M 97 46)).toNatClampNeg (9 : Int32)) 124 ((gi M 97 46)).toNatClampNeg (gi M 109 ((((5 : Int32) * l2) + (0 : Int32))).toNatClampNeg)) 125 ((gi M 97 46)).toNatClampNeg (0 : Int32)) 126 ((gi M 97 46)).toNatClampNeg (gi M 97 56)) 97 46 ((gi M 97 46) + (1 : Int32))) l1 l2 ?_
        refine sX8_part_0 (d := d) (si (si (si (si (si M 123 ((gi M 97 46)).toNatClampNeg (9 : Int32)) 124 ((gi M 97 46)).toNatClampNeg (gi M 109 ((((5 : Int32) * l2) + (0 : Int32))).toNatClampNeg)) 125 ((gi M 97 46)).toNatClampNeg (0 : Int32)) 126 ((gi M 97 46)).toNatClampNeg (gi M 97 56)) 97 46 ((gi M 97 46) + (1 : Int32))) l2 (0 : Int32) ?_
        refine ⟨h3582, ?_⟩
        show Zm E YX8_codeFunction (d + 1) (si (si (si (si (si M 123 ((gi M 97 46)).toNatClampNeg (9 : Int32)) 124 ((gi M 97 46)).toNatClampNeg (gi M 109 ((((5 : Int32) * l2) + (0 : Int32))).toNatClampNeg)) 125 ((gi M 97 46)).toNatClampNeg (0 : Int32)) 126 ((gi M 97 46)).toNatClampNeg (gi M 97 56)) 97 46 ((gi M 97 46) + (1 : Int32))) [(0, vr (some (97, 1, 0))), (1, vi l1), (2, vi l2)] 112 [vi (gi M 109 ((((5 : Int32) * l2) + (0 : Int32))).toNatClampNeg), vr (some (114, 100, 12)), vr (some (97, 1, 0))] Q
        refine sX8_codeFunction_112 (d := d) (si (si (si (si (si M 123 ((gi M 97 46)).toNatClampNeg (9 : Int32)) 124 ((gi M 97 46)).toNatClampNeg (gi M 109 ((((5 : Int32) * l2) + (0 : Int32))).toNatClampNeg)) 125 ((gi M 97 46)).toNatClampNeg (0 : Int32)) 126 ((gi M 97 46)).toNatClampNeg (gi M 97 56)) 97 46 ((gi M 97 46) + (1 : Int32))) l1 l2 (gi M 109 ((((5 : Int32) * l2) + (0 : Int32))).toNatClampNeg) ?_
        exact k
    · refine sX8_codeFunction_122 (d := d) M l1 l2 ?_
      refine ⟨h3580, ?_⟩
      exact k
theorem iX8_codeFunction_50 {E : zE} {d : Nat} {Q : zO → zM → Prop} (M : zM) (l1 : Int32) (l2 : Int32) (k : if (gi M 97 46) = (600 : Int32) then (Zm E YX8_codeFunction ((d + 1) + 1) (si M 97 47 (1 : Int32)) [(0, vr (some (97, 1, 0))), (1, vi l1), (2, vi (l2 + (1 : Int32)))] 22 [] Q) else (vp_in (gi M 97 46) 600 ∧ (Zm E YX8_codeFunction ((d + 1) + 1) (si (si (si (si (si M 123 ((gi M 97 46)).toNatClampNeg (17 : Int32)) 124 ((gi M 97 46)).toNatClampNeg (0 : Int32)) 125 ((gi M 97 46)).toNatClampNeg (0 : Int32)) 126 ((gi M 97 46)).toNatClampNeg (gi M 97 56)) 97 46 ((gi M 97 46) + (1 : Int32))) [(0, vr (some (97, 1, 0))), (1, vi l1), (2, vi (l2 + (1 : Int32)))] 22 [] Q))) : Zm E YX8_codeFunction (d + 2) M [(0, vr (some (97, 1, 0))), (1, vi l1), (2, vi l2)] 50 [] Q := by
  refine sX8_codeFunction_50 (d := (d + 1)) M l1 l2 ?_
  refine jX8_emit_2 (d := d) M (17 : Int32) ?_
  refine zite k (fun h3587 k => ?_) (fun h3587 k => ?_)
  · show Zm E YX8_codeFunction ((d + 1) + 1) (si M 97 47 (1 : Int32)) [(0, vr (some (97, 1, 0))), (1, vi l1), (2, vi l2)] 56 [] Q
    refine sX8_codeFunction_56 (d := (d + 1)) (si M 97 47 (1 : Int32)) l1 l2 ?_
    exact k
  · refine zand k (fun h3588 k => ?_)
    show Zm E YX8_codeFunction ((d + 1) + 1) (si (si (si (si (si M 123 ((gi M 97 46)).toNatClampNeg (17 : Int32)) 124 ((gi M 97 46)).toNatClampNeg (0 : Int32)) 125 ((gi M 97 46)).toNatClampNeg (0 : Int32)) 126 ((gi M 97 46)).toNatClampNeg (gi M 97 56)) 97 46 ((gi M 97 46) + (1 : Int32))) [(0, vr (some (97, 1, 0))), (1, vi l1), (2, vi l2)] 56 [] Q
    refine sX8_codeFunction_56 (d := (d + 1)) (si (si (si (si (si M 123 ((gi M 97 46)).toNatClampNeg (17 : Int32)) 124 ((gi M 97 46)).toNatClampNeg (0 : Int32)) 125 ((gi M 97 46)).toNatClampNeg (0 : Int32)) 126 ((gi M 97 46)).toNatClampNeg (gi M 97 56)) 97 46 ((gi M 97 46) + (1 : Int32))) l1 l2 ?_
    exact k
theorem iX8_codeFunction_142 {E : zE} {d : Nat} {Q : zO → zM → Prop} (M : zM)  (k : if (gi M 97 46) = (600 : Int32) then (Q (.inl none) (si (si M 97 47 (1 : Int32)) 97 47 (1 : Int32))) else (vp_in (gi M 97 46) 600 ∧ (if ((gi M 97 46) + (1 : Int32)) = (600 : Int32) then (Q (.inl none) (si (si (si (si (si (si M 123 ((gi M 97 46)).toNatClampNeg (0 : Int32)) 124 ((gi M 97 46)).toNatClampNeg (0 : Int32)) 125 ((gi M 97 46)).toNatClampNeg (0 : Int32)) 126 ((gi M 97 46)).toNatClampNeg (gi M 97 56)) 97 46 ((gi M 97 46) + (1 : Int32))) 97 47 (1 : Int32))) else (vp_in ((gi M 97 46) + (1 : Int32)) 600 ∧ (Q (.inl none) (si (si (si (si (si (si (si (si (si (si M 123 ((gi M 97 46)).toNatClampNeg (0 : Int32)) 124 ((gi M 97 46)).toNatClampNeg (0 : Int32)) 125 ((gi M 97 46)).toNatClampNeg (0 : Int32)) 126 ((gi M 97 46)).toNatClampNeg (gi M 97 56)) 97 46 ((gi M 97 46) + (1 : Int32))) 123 (((gi M 97 46) + (1 : Int32))).toNatClampNeg (25 : Int32)) 124 (((gi M 97 46) + (1 : Int32))).toNatClampNeg (0 : Int32)) 125 (((gi M 97 46) + (1 : Int32))).toNatClampNeg (0 : Int32)) 126 (((gi M 97 46) + (1 : Int32))).toNatClampNeg (gi M 97 56)) 97 46 (((gi M 97 46) + (1 : Int32)) + (1 : Int32)))))))) : Zm E YX8_codeFunction (d + 2) M [(0, vr (some (97, 1, 0)))] 142 [] Q := by
  refine sX8_codeFunction_142 (d := (d + 1)) M  ?_
  refine jX8_constant (d := d) M (0 : Int32) (0 : Int32) ?_
  refine zite k (fun h3589 k => ?_) (fun h3589 k => ?_)
  · show Zm E YX8_codeFunction ((d + 1) + 1) (si M 97 47 (1 : Int32)) [(0, vr (some (97, 1, 0)))] 148 [] Q
    refine sX8_codeFunction_148 (d := (d + 1)) (si M 97 47 (1 : Int32))  ?_
    refine jX8_emit_2 (d := d) (si M 97 47 (1 : Int32)) (25 : Int32) ?_
    refine zpos h3589 ?_
    show Zm E YX8_codeFunction ((d + 1) + 1) (si (si M 97 47 (1 : Int32)) 97 47 (1 : Int32)) [] 154 [] Q
    refine sX8_codeFunction_154 (d := (d + 1)) (si (si M 97 47 (1 : Int32)) 97 47 (1 : Int32))  ?_
    exact k
  · refine zand k (fun h3590 k => ?_)
    show Zm E YX8_codeFunction ((d + 1) + 1) (si (si (si (si (si M 123 ((gi M 97 46)).toNatClampNeg (0 : Int32)) 124 ((gi M 97 46)).toNatClampNeg (0 : Int32)) 125 ((gi M 97 46)).toNatClampNeg (0 : Int32)) 126 ((gi M 97 46)).toNatClampNeg (gi M 97 56)) 97 46 ((gi M 97 46) + (1 : Int32))) [(0, vr (some (97, 1, 0)))] 148 [] Q
    refine sX8_codeFunction_148 (d := (d + 1)) (si (si (si (si (si M 123 ((gi M 97 46)).toNatClampNeg (0 : Int32)) 124 ((gi M 97 46)).toNatClampNeg (0 : Int32)) 125 ((gi M 97 46)).toNatClampNeg (0 : Int32)) 126 ((gi M 97 46)).toNatClampNeg (gi M 97 56)) 97 46 ((gi M 97 46) + (1 : Int32)))  ?_
    refine jX8_emit_2 (d := d) (si (si (si (si (si M 123 ((gi M 97 46)).toNatClampNeg (0 : Int32)) 124 ((gi M 97 46)).toNatClampNeg (0 : Int32)) 125 ((gi M 97 46)).toNatClampNeg (0 : Int32)) 126 ((gi M 97 46)).toNatClampNeg (gi M 97 56)) 97 46 ((gi M 97 46) + (1 : Int32))) (25 : Int32) ?_
    refine zite k (fun h3591 k => ?_) (fun h3591 k => ?_)
    · show Zm E YX8_codeFunction ((d + 1) + 1) (si (si (si (si (si (si M 123 ((gi M 97 46)).toNatClampNeg (0 : Int32)) 124 ((gi M 97 46)).toNatClampNeg (0 : Int32)) 125 ((gi M 97 46)).toNatClampNeg (0 : Int32)) 126 ((gi M 97 46)).toNatClampNeg (gi M 97 56)) 97 46 ((gi M 97 46) + (1 : Int32))) 97 47 (1 : Int32)) [] 154 [] Q
      refine sX8_codeFunction_154 (d := (d + 1)) (si (si (si (si (si (si M 123 ((gi M 97 46)).toNatClampNeg (0 : Int32)) 124 ((gi M 97 46)).toNatClampNeg (0 : Int32)) 125 ((gi M 97 46)).toNatClampNeg (0 : Int32)) 126 ((gi M 97 46)).toNatClampNeg (gi M 97 56)) 97 46 ((gi M 97 46) + (1 : Int32))) 97 47 (1 : Int32))  ?_
      exact k
    · refine zand k (fun h3592 k => ?_)
      show Zm E YX8_codeFunction ((d + 1) + 1) (si (si (si (si (si (si (si (si (si (si M 123 ((gi M 97 46)).toNatClampNeg (0 : Int32)) 124 ((gi M 97 46)).toNatClampNeg (0 : Int32)) 125 ((gi M 97 46)).toNatClampNeg (0 : Int32)) 126 ((gi M 97 46)).toNatClampNeg (gi M 97 56)) 97 46 ((gi M 97 46) + (1 : Int32))) 123 (((gi M 97 46) + (1 : Int32))).toNatClampNeg (25 : Int32)) 124 (((gi M 97 46) + (1 : Int32))).toNatClampNeg (0 : Int32)) 125 (((gi M 97 46) + (1 : Int32))).toNatClampNeg (0 : Int32)) 126 (((gi M 97 46) + (1 : Int32))).toNatClampNeg (gi M 97 56)) 97 46 (((gi M 97 46) + (1 : Int32)) + (1 : Int32))) [] 154 [] Q
      refine sX8_codeFunction_154 (d := (d + 1)) (si (si (si (si (si (si (si (si (si (si M 123 ((gi M 97 46)).toNatClampNeg (0 : Int32)) 124 ((gi M 97 46)).toNatClampNeg (0 : Int32)) 125 ((gi M 97 46)).toNatClampNeg (0 : Int32)) 126 ((gi M 97 46)).toNatClampNeg (gi M 97 56)) 97 46 ((gi M 97 46) + (1 : Int32))) 123 (((gi M 97 46) + (1 : Int32))).toNatClampNeg (25 : Int32)) 124 (((gi M 97 46) + (1 : Int32))).toNatClampNeg (0 : Int32)) 125 (((gi M 97 46) + (1 : Int32))).toNatClampNeg (0 : Int32)) 126 (((gi M 97 46) + (1 : Int32))).toNatClampNeg (gi M 97 56)) 97 46 (((gi M 97 46) + (1 : Int32)) + (1 : Int32)))  ?_
      exact k
theorem iX8_codeFunction_116 {E : zE} {d : Nat} {Q : zO → zM → Prop} (M : zM) (l1 : Int32) (l2 : Int32) (k : if (gi M 97 46) = (600 : Int32) then (vp_in l2 12000 ∧ (Zm E YX8_codeFunction ((d + 1) + 1) (si M 97 47 (1 : Int32)) [(0, vr (some (97, 1, 0))), (1, vi l1), (2, vi (gi M 110 (l2).toNatClampNeg))] 69 [] Q)) else (vp_in (gi M 97 46) 600 ∧ (vp_in l2 12000 ∧ (Zm E YX8_codeFunction ((d + 1) + 1) (si (si (si (si (si M 123 ((gi M 97 46)).toNatClampNeg (17 : Int32)) 124 ((gi M 97 46)).toNatClampNeg (0 : Int32)) 125 ((gi M 97 46)).toNatClampNeg (0 : Int32)) 126 ((gi M 97 46)).toNatClampNeg (gi M 97 56)) 97 46 ((gi M 97 46) + (1 : Int32))) [(0, vr (some (97, 1, 0))), (1, vi l1), (2, vi (gi M 110 (l2).toNatClampNeg))] 69 [] Q)))) : Zm E YX8_codeFunction (d + 2) M [(0, vr (some (97, 1, 0))), (1, vi l1), (2, vi l2)] 116 [] Q := by
  refine sX8_codeFunction_116 (d := (d + 1)) M l1 l2 ?_
  refine jX8_emit_2 (d := d) M (17 : Int32) ?_
  refine zite k (fun h3593 k => ?_) (fun h3593 k => ?_)
  · show Zm E YX8_codeFunction ((d + 1) + 1) (si M 97 47 (1 : Int32)) [(0, vr (some (97, 1, 0))), (1, vi l1), (2, vi l2)] 122 [] Q
    refine sX8_codeFunction_122 (d := (d + 1)) (si M 97 47 (1 : Int32)) l1 l2 ?_
    exact k
  · refine zand k (fun h3595 k => ?_)
    show Zm E YX8_codeFunction ((d + 1) + 1) (si (si (si (si (si M 123 ((gi M 97 46)).toNatClampNeg (17 : Int32)) 124 ((gi M 97 46)).toNatClampNeg (0 : Int32)) 125 ((gi M 97 46)).toNatClampNeg (0 : Int32)) 126 ((gi M 97 46)).toNatClampNeg (gi M 97 56)) 97 46 ((gi M 97 46) + (1 : Int32))) [(0, vr (some (97, 1, 0))), (1, vi l1), (2, vi l2)] 122 [] Q
    refine sX8_codeFunction_122 (d := (d + 1)) (si (si (si (si (si M 123 ((gi M 97 46)).toNatClampNeg (17 : Int32)) 124 ((gi M 97 46)).toNatClampNeg (0 : Int32)) 125 ((gi M 97 46)).toNatClampNeg (0 : Int32)) 126 ((gi M 97 46)).toNatClampNeg (gi M 97 56)) 97 46 ((gi M 97 46) + (1 : Int32))) l1 l2 ?_
    exact k
theorem iX8_codes_27 {E : zE} {d : Nat} {Q : zO → zM → Prop} (M : zM) (l2 : Int32) (l3 : Int32) (k : if l3 = (-1 : Int32) then (vp_in ((gi M 97 68) - (1 : Int32)) 12000 ∧ (Zm E YX8_codes (d + 1) (si M 97 68 ((gi M 97 68) - (1 : Int32))) [(0, vr (some (97, 1, 0))), (2, vi l2), (3, vi (gi M 137 (((gi M 97 68) - (1 : Int32))).toNatClampNeg))] 7 [] Q)) else (vp_in l3 12000 ∧ (if (gi M 108 (l3).toNatClampNeg) = (20 : Int32) then (vp_in (gi M 97 68) 12000 ∧ (vp_in (((5 : Int32) * l3) + (0 : Int32)) 60000 ∧ (Zm E YX8_codes (d + 1) (si (si M 137 ((gi M 97 68)).toNatClampNeg (gi M 110 (l3).toNatClampNeg)) 97 68 ((gi M 97 68) + (1 : Int32))) [(0, vr (some (97, 1, 0))), (2, vi l2), (3, vi (gi M 109 ((((5 : Int32) * l3) + (0 : Int32))).toNatClampNeg))] 7 [] Q))) else (Zm E YX8_code d M (zargs 0 [vr (some (97, 1, 0)), vi l3]) 0 [] (zma E YX8_codes (d + 1) [(0, vr (some (97, 1, 0))), (2, vi l2), (3, vi l3)] 103 3 [] Q))))) : Zm E YX8_codes (d + 1) M [(0, vr (some (97, 1, 0))), (2, vi l2), (3, vi l3)] 27 [] Q := by
  refine sX8_codes_27 (d := d) M l2 l3 ?_
  refine zite k (fun h3600 k => ?_) (fun h3600 k => ?_)
  · exact k
  · refine zand k (fun h3602 k => ?_)
    refine zite k (fun h3603 k => ?_) (fun h3603 k => ?_)
    · refine ⟨h3602, ?_⟩
      refine zand k (fun h3604 k => ?_)
      refine sX8_part_0 (d := d) (si (si M 137 ((gi M 97 68)).toNatClampNeg (gi M 110 (l3).toNatClampNeg)) 97 68 ((gi M 97 68) + (1 : Int32))) l3 (0 : Int32) ?_
      refine zand k (fun h3605 k => ?_)
      show Zm E YX8_codes (d + 1) (si (si M 137 ((gi M 97 68)).toNatClampNeg (gi M 110 (l3).toNatClampNeg)) 97 68 ((gi M 97 68) + (1 : Int32))) [(0, vr (some (97, 1, 0))), (2, vi l2)] 97 [vi (gi M 109 ((((5 : Int32) * l3) + (0 : Int32))).toNatClampNeg)] Q
      refine sX8_codes_97 (d := d) (si (si M 137 ((gi M 97 68)).toNatClampNeg (gi M 110 (l3).toNatClampNeg)) 97 68 ((gi M 97 68) + (1 : Int32))) l2 (gi M 109 ((((5 : Int32) * l3) + (0 : Int32))).toNatClampNeg) ?_
      exact k
    · exact k
theorem iX8_compile_175 {E : zE} {d : Nat} {Q : zO → zM → Prop} (M : zM) (l2 : Int32) (s0 : Int32) (k : if s0 = 0 then (Zm E YX8_compile (d + 1) M [(0, vr (some (97, 1, 0))), (2, vi (l2 + (1 : Int32)))] 158 [] Q) else (vp_in l2 600 ∧ (vp_in (gi M 124 (l2).toNatClampNeg) 8000 ∧ (Zm E YX8_compile (d + 1) (si M 124 (l2).toNatClampNeg (gi M 128 ((gi M 124 (l2).toNatClampNeg)).toNatClampNeg)) [(0, vr (some (97, 1, 0))), (2, vi (l2 + (1 : Int32)))] 158 [] Q)))) : Zm E YX8_compile (d + 1) M [(0, vr (some (97, 1, 0))), (2, vi l2)] 175 [vi s0] Q := by
  refine sX8_compile_175 (d := d) M l2 s0 ?_
  refine zite k (fun h3633 k => ?_) (fun h3633 k => ?_)
  · exact k
  · refine zand k (fun h3634 k => ?_)
    refine zand k (fun h3635 k => ?_)
    refine ⟨h3634, ?_⟩
    exact k
theorem iX8_constant_0 {E : zE} {d : Nat} {Q : zO → zM → Prop} (M : zM) (l1 : Int32) (l2 : Int32) (k : if (gi M 97 46) = (600 : Int32) then (Q (.inl none) (si M 97 47 (1 : Int32))) else (vp_in (gi M 97 46) 600 ∧ (Q (.inl none) (si (si (si (si (si M 123 ((gi M 97 46)).toNatClampNeg (0 : Int32)) 124 ((gi M 97 46)).toNatClampNeg l1) 125 ((gi M 97 46)).toNatClampNeg l2) 126 ((gi M 97 46)).toNatClampNeg (gi M 97 56)) 97 46 ((gi M 97 46) + (1 : Int32)))))) : Zm E YX8_constant (d + 1) M [(0, vr (some (97, 1, 0))), (1, vi l1), (2, vi l2)] 0 [] Q := by
  refine sX8_constant_0 (d := d) M l1 l2 ?_
  refine jX8_emit (d := d) M (0 : Int32) l1 l2 ?_
  refine zite k (fun h3636 k => ?_) (fun h3636 k => ?_)
  · show Zm E YX8_constant (d + 1) (si M 97 47 (1 : Int32)) [] 7 [] Q
    refine sX8_constant_7 (d := d) (si M 97 47 (1 : Int32))  ?_
    exact k
  · refine zand k (fun h3637 k => ?_)
    show Zm E YX8_constant (d + 1) (si (si (si (si (si M 123 ((gi M 97 46)).toNatClampNeg (0 : Int32)) 124 ((gi M 97 46)).toNatClampNeg l1) 125 ((gi M 97 46)).toNatClampNeg l2) 126 ((gi M 97 46)).toNatClampNeg (gi M 97 56)) 97 46 ((gi M 97 46) + (1 : Int32))) [] 7 [] Q
    refine sX8_constant_7 (d := d) (si (si (si (si (si M 123 ((gi M 97 46)).toNatClampNeg (0 : Int32)) 124 ((gi M 97 46)).toNatClampNeg l1) 125 ((gi M 97 46)).toNatClampNeg l2) 126 ((gi M 97 46)).toNatClampNeg (gi M 97 56)) 97 46 ((gi M 97 46) + (1 : Int32)))  ?_
    exact k
theorem iX8_declare_2 {E : zE} {d : Nat} {Q : zO → zM → Prop} (M : zM) (l2 : Int32) (k : if l2 = (-1 : Int32) then (Q (.inl none) M) else (vp_in (((5 : Int32) * l2) + (0 : Int32)) 60000 ∧ (if (gi M 109 ((((5 : Int32) * l2) + (0 : Int32))).toNatClampNeg) = (-1 : Int32) then (vp_in l2 12000 ∧ (Zm E YX8_declare (d + 1) M [(0, vr (some (97, 1, 0))), (2, vi (gi M 110 (l2).toNatClampNeg))] 2 [] Q)) else (Zm E YX8_value d M (zargs 0 [vr (some (97, 1, 0)), vi (gi M 109 ((((5 : Int32) * l2) + (0 : Int32))).toNatClampNeg)]) 0 [] (zma E YX8_declare (d + 1) [(0, vr (some (97, 1, 0))), (2, vi l2)] 27 3 [] Q))))) : Zm E YX8_declare (d + 1) M [(0, vr (some (97, 1, 0))), (2, vi l2)] 2 [] Q := by
  refine sX8_declare_2 (d := d) M l2 ?_
  refine zite k (fun h3638 k => ?_) (fun h3638 k => ?_)
  · exact k
  · refine sX8_part_0 (d := d) M l2 (0 : Int32) ?_
    refine zand k (fun h3639 k => ?_)
    show Zm E YX8_declare (d + 1) M [(0, vr (some (97, 1, 0))), (2, vi l2)] 13 [vi (gi M 109 ((((5 : Int32) * l2) + (0 : Int32))).toNatClampNeg)] Q
    refine sX8_declare_13 (d := d) M l2 (gi M 109 ((((5 : Int32) * l2) + (0 : Int32))).toNatClampNeg) ?_
    refine zite k (fun h3640 k => ?_) (fun h3640 k => ?_)
    · refine sX8_declare_46 (d := d) M l2 ?_
      exact k
    · refine sX8_part_0 (d := d) M l2 (0 : Int32) ?_
      refine ⟨h3639, ?_⟩
      show Zm E YX8_declare (d + 1) M [(0, vr (some (97, 1, 0))), (2, vi l2)] 27 [vi (gi M 109 ((((5 : Int32) * l2) + (0 : Int32))).toNatClampNeg), vr (some (97, 1, 0))] Q
      refine sX8_declare_27 (d := d) M l2 (gi M 109 ((((5 : Int32) * l2) + (0 : Int32))).toNatClampNeg) ?_
      exact k
theorem iX8_declare_30 {E : zE} {d : Nat} {Q : zO → zM → Prop} (M : zM) (l2 : Int32) (k : vp_in (((5 : Int32) * l2) + (1 : Int32)) 60000 ∧ (Zm E YX8_set d M (zargs 0 [vr (some (97, 1, 0)), vi (gi M 109 ((((5 : Int32) * l2) + (1 : Int32))).toNatClampNeg)]) 0 [] (zma E YX8_declare (d + 1) [(0, vr (some (97, 1, 0))), (2, vi l2)] 37 3 [] Q))) : Zm E YX8_declare (d + 1) M [(0, vr (some (97, 1, 0))), (2, vi l2)] 30 [] Q := by
  refine sX8_declare_30 (d := d) M l2 ?_
  refine sX8_part_0 (d := d) M l2 (1 : Int32) ?_
  refine zand k (fun h3642 k => ?_)
  show Zm E YX8_declare (d + 1) M [(0, vr (some (97, 1, 0))), (2, vi l2)] 37 [vi (gi M 109 ((((5 : Int32) * l2) + (1 : Int32))).toNatClampNeg), vr (some (97, 1, 0))] Q
  refine sX8_declare_37 (d := d) M l2 (gi M 109 ((((5 : Int32) * l2) + (1 : Int32))).toNatClampNeg) ?_
  exact k
theorem iX8_declare_40 {E : zE} {d : Nat} {Q : zO → zM → Prop} (M : zM) (l2 : Int32) (k : if (gi M 97 46) = (600 : Int32) then (vp_in l2 12000 ∧ (Zm E YX8_declare ((d + 1) + 1) (si M 97 47 (1 : Int32)) [(0, vr (some (97, 1, 0))), (2, vi (gi M 110 (l2).toNatClampNeg))] 2 [] Q)) else (vp_in (gi M 97 46) 600 ∧ (vp_in l2 12000 ∧ (Zm E YX8_declare ((d + 1) + 1) (si (si (si (si (si M 123 ((gi M 97 46)).toNatClampNeg (17 : Int32)) 124 ((gi M 97 46)).toNatClampNeg (0 : Int32)) 125 ((gi M 97 46)).toNatClampNeg (0 : Int32)) 126 ((gi M 97 46)).toNatClampNeg (gi M 97 56)) 97 46 ((gi M 97 46) + (1 : Int32))) [(0, vr (some (97, 1, 0))), (2, vi (gi M 110 (l2).toNatClampNeg))] 2 [] Q)))) : Zm E YX8_declare (d + 2) M [(0, vr (some (97, 1, 0))), (2, vi l2)] 40 [] Q := by
  refine sX8_declare_40 (d := (d + 1)) M l2 ?_
  refine jX8_emit_2 (d := d) M (17 : Int32) ?_
  refine zite k (fun h3643 k => ?_) (fun h3643 k => ?_)
  · show Zm E YX8_declare ((d + 1) + 1) (si M 97 47 (1 : Int32)) [(0, vr (some (97, 1, 0))), (2, vi l2)] 46 [] Q
    refine sX8_declare_46 (d := (d + 1)) (si M 97 47 (1 : Int32)) l2 ?_
    exact k
  · refine zand k (fun h3645 k => ?_)
    show Zm E YX8_declare ((d + 1) + 1) (si (si (si (si (si M 123 ((gi M 97 46)).toNatClampNeg (17 : Int32)) 124 ((gi M 97 46)).toNatClampNeg (0 : Int32)) 125 ((gi M 97 46)).toNatClampNeg (0 : Int32)) 126 ((gi M 97 46)).toNatClampNeg (gi M 97 56)) 97 46 ((gi M 97 46) + (1 : Int32))) [(0, vr (some (97, 1, 0))), (2, vi l2)] 46 [] Q
    refine sX8_declare_46 (d := (d + 1)) (si (si (si (si (si M 123 ((gi M 97 46)).toNatClampNeg (17 : Int32)) 124 ((gi M 97 46)).toNatClampNeg (0 : Int32)) 125 ((gi M 97 46)).toNatClampNeg (0 : Int32)) 126 ((gi M 97 46)).toNatClampNeg (gi M 97 56)) 97 46 ((gi M 97 46) + (1 : Int32))) l2 ?_
    exact k
theorem iX8_each_18 {E : zE} {d : Nat} {Q : zO → zM → Prop} (M : zM) (l1 : Int32) (s0 : Int32) (k : if l1 = 0 then (Zm E YX8_expression d (si M 97 20 ((gi M 97 20) + (1 : Int32))) (zargs 0 [vr (some (97, 1, 0)), vi (1 : Int32)]) 0 [] (zma E YX8_each (d + 1) [(0, vr (some (97, 1, 0))), (2, vi s0)] 41 3 [] Q)) else (Zm E YX8_hold d M (zargs 0 [vr (some (97, 1, 0)), vi s0, vi (0 : Int32)]) 0 [] (zma E YX8_each (d + 1) [(0, vr (some (97, 1, 0))), (2, vi s0)] 26 3 [] Q))) : Zm E YX8_each (d + 1) M [(0, vr (some (97, 1, 0))), (1, vi l1)] 18 [vi s0] Q := by
  refine sX8_each_18 (d := d) M l1 s0 ?_
  refine zite k (fun h3648 k => ?_) (fun h3648 k => ?_)
  · refine sX8_each_29 (d := d) M s0 ?_
    exact k
  · exact k
theorem iX8_emit_0 {E : zE} {d : Nat} {Q : zO → zM → Prop} (M : zM) (l1 : Int32) (l2 : Int32) (l3 : Int32) (k : if (gi M 97 46) = (600 : Int32) then (Q (.inl none) (si M 97 47 (1 : Int32))) else (vp_in (gi M 97 46) 600 ∧ (Q (.inl none) (si (si (si (si (si M 123 ((gi M 97 46)).toNatClampNeg l1) 124 ((gi M 97 46)).toNatClampNeg l2) 125 ((gi M 97 46)).toNatClampNeg l3) 126 ((gi M 97 46)).toNatClampNeg (gi M 97 56)) 97 46 ((gi M 97 46) + (1 : Int32)))))) : Zm E YX8_emit d M [(0, vr (some (97, 1, 0))), (1, vi l1), (2, vi l2), (3, vi l3)] 0 [] Q := by
  refine sX8_emit_0 (d := d) M l1 l2 l3 ?_
  refine zite k (fun h3650 k => ?_) (fun h3650 k => ?_)
  · exact k
  · refine zand k (fun h3651 k => ?_)
    refine ⟨h3651, ?_⟩
    refine ⟨h3651, ?_⟩
    refine ⟨h3651, ?_⟩
    exact k
theorem iX8_emit_2_0 {E : zE} {d : Nat} {Q : zO → zM → Prop} (M : zM) (l1 : Int32) (k : if (gi M 97 46) = (600 : Int32) then (Q (.inl none) (si M 97 47 (1 : Int32))) else (vp_in (gi M 97 46) 600 ∧ (Q (.inl none) (si (si (si (si (si M 123 ((gi M 97 46)).toNatClampNeg l1) 124 ((gi M 97 46)).toNatClampNeg (0 : Int32)) 125 ((gi M 97 46)).toNatClampNeg (0 : Int32)) 126 ((gi M 97 46)).toNatClampNeg (gi M 97 56)) 97 46 ((gi M 97 46) + (1 : Int32)))))) : Zm E YX8_emit_2 (d + 1) M [(0, vr (some (97, 1, 0))), (1, vi l1)] 0 [] Q := by
  refine sX8_emit_2_0 (d := d) M l1 ?_
  refine jX8_emit (d := d) M l1 (0 : Int32) (0 : Int32) ?_
  refine zite k (fun h3652 k => ?_) (fun h3652 k => ?_)
  · show Zm E YX8_emit_2 (d + 1) (si M 97 47 (1 : Int32)) [] 7 [] Q
    refine sX8_emit_2_7 (d := d) (si M 97 47 (1 : Int32))  ?_
    exact k
  · refine zand k (fun h3653 k => ?_)
    show Zm E YX8_emit_2 (d + 1) (si (si (si (si (si M 123 ((gi M 97 46)).toNatClampNeg l1) 124 ((gi M 97 46)).toNatClampNeg (0 : Int32)) 125 ((gi M 97 46)).toNatClampNeg (0 : Int32)) 126 ((gi M 97 46)).toNatClampNeg (gi M 97 56)) 97 46 ((gi M 97 46) + (1 : Int32))) [] 7 [] Q
    refine sX8_emit_2_7 (d := d) (si (si (si (si (si M 123 ((gi M 97 46)).toNatClampNeg l1) 124 ((gi M 97 46)).toNatClampNeg (0 : Int32)) 125 ((gi M 97 46)).toNatClampNeg (0 : Int32)) 126 ((gi M 97 46)).toNatClampNeg (gi M 97 56)) 97 46 ((gi M 97 46) + (1 : Int32)))  ?_
    exact k
theorem iX8_findVariables_9 {E : zE} {d : Nat} {Q : zO → zM → Prop} (M : zM) (l1 : Int32) (l2 : Int32) (k : vp_in l1 12 ∧ (if (gi M 117 (l1).toNatClampNeg) ≤ l2 then (if (gi M 115 (l1).toNatClampNeg) = 0 then (if (gi M 114 (l1).toNatClampNeg) = (-1 : Int32) then (Zm E YX8_findVariables (d + 1) M [(0, vr (some (97, 1, 0))), (1, vi l1), (2, vi (0 : Int32))] 73 [] Q) else (Zm E YX8_addVariable d M (zargs 0 [vr (some (97, 1, 0)), vi l1, vi (gi M 114 (l1).toNatClampNeg)]) 0 [] (zma E YX8_findVariables (d + 1) [(0, vr (some (97, 1, 0))), (1, vi l1)] 68 3 [] Q))) else (Zm E YX8_findVariables (d + 1) M [(0, vr (some (97, 1, 0))), (1, vi l1), (2, vi (0 : Int32))] 73 [] Q)) else (vp_in (((8 : Int32) * l1) + l2) 96 ∧ (Zm E YX8_addVariable d M (zargs 0 [vr (some (97, 1, 0)), vi l1, vi (gi M 116 ((((8 : Int32) * l1) + l2)).toNatClampNeg)]) 0 [] (zma E YX8_findVariables (d + 1) [(0, vr (some (97, 1, 0))), (1, vi l1), (2, vi l2)] 32 3 [] Q))))) : Zm E YX8_findVariables (d + 1) M [(0, vr (some (97, 1, 0))), (1, vi l1), (2, vi l2)] 9 [] Q := by
  refine sX8_findVariables_9 (d := d) M l1 l2 ?_
  refine zand k (fun h3655 k => ?_)
  refine zite k (fun h3656 k => ?_) (fun h3656 k => ?_)
  · refine ⟨h3655, ?_⟩
    refine zite k (fun h3657 k => ?_) (fun h3657 k => ?_)
    · refine ⟨h3655, ?_⟩
      refine zite k (fun h3658 k => ?_) (fun h3658 k => ?_)
      · refine sX8_findVariables_71 (d := d) M l1 ?_
        exact k
      · refine ⟨h3655, ?_⟩
        exact k
    · refine sX8_findVariables_71 (d := d) M l1 ?_
      exact k
  · exact k
theorem iX8_give_0 {E : zE} {d : Nat} {Q : zO → zM → Prop} (M : zM) (l1 : Int32) (l2 : Int32) (l3 : Int32) (k : vp_in l2 12000 ∧ (if (gi M 108 (l2).toNatClampNeg) = (2 : Int32) then (Zm E YX8_give (d + 1) M [(0, vr (some (97, 1, 0))), (1, vi l1), (2, vi l2), (3, vi l3), (4, vi (1 : Int32))] 42 [] Q) else (vp_in (((5 : Int32) * l2) + (0 : Int32)) 60000 ∧ (Zm E YX8_value d M (zargs 0 [vr (some (97, 1, 0)), vi (gi M 109 ((((5 : Int32) * l2) + (0 : Int32))).toNatClampNeg)]) 0 [] (zma E YX8_give (d + 1) [(0, vr (some (97, 1, 0))), (1, vi l1), (2, vi l2), (3, vi l3), (4, vi (0 : Int32))] 29 3 [] Q))))) : Zm E YX8_give (d + 1) M [(0, vr (some (97, 1, 0))), (1, vi l1), (2, vi l2), (3, vi l3)] 0 [] Q := by
  refine sX8_give_0 (d := d) M l1 l2 l3 ?_
  refine zand k (fun h3663 k => ?_)
  refine zite k (fun h3664 k => ?_) (fun h3664 k => ?_)
  · refine sX8_give_15 (d := d) M l1 l2 l3 (1 : Int32) ?_
    refine zneg (show ¬ ((1 : Int32) = 0) from by decide) ?_
    exact k
  · refine sX8_give_15 (d := d) M l1 l2 l3 (0 : Int32) ?_
    refine zpos (show (0 : Int32) = 0 from by decide) ?_
    refine sX8_part_0 (d := d) M l2 (0 : Int32) ?_
    refine zand k (fun h3665 k => ?_)
    show Zm E YX8_give (d + 1) M [(0, vr (some (97, 1, 0))), (1, vi l1), (2, vi l2), (3, vi l3), (4, vi (0 : Int32))] 29 [vi (gi M 109 ((((5 : Int32) * l2) + (0 : Int32))).toNatClampNeg), vr (some (97, 1, 0))] Q
    refine sX8_give_29 (d := d) M l1 l2 l3 (0 : Int32) (gi M 109 ((((5 : Int32) * l2) + (0 : Int32))).toNatClampNeg) ?_
    exact k
theorem iX8_give_42 {E : zE} {d : Nat} {Q : zO → zM → Prop} (M : zM) (l1 : Int32) (l2 : Int32) (l3 : Int32) (l4 : Int32) (k : if l1 = (-1 : Int32) then (Zm E YX8_value (d + 1) M (zargs 0 [vr (some (97, 1, 0)), vi l3]) 0 [] (zma E YX8_give ((d + 1) + 1) [(0, vr (some (97, 1, 0))), (1, vi l1), (2, vi l2), (4, vi l4)] 79 3 [] Q)) else (if l4 = 0 then (if (gi M 97 46) = (600 : Int32) then (Zm E YX8_value (d + 1) (si (si M 97 47 (1 : Int32)) 97 47 (1 : Int32)) (zargs 0 [vr (some (97, 1, 0)), vi l3]) 0 [] (zma E YX8_give ((d + 1) + 1) [(0, vr (some (97, 1, 0))), (1, vi l1), (2, vi l2), (4, vi l4)] 79 3 [] Q)) else (vp_in (gi M 97 46) 600 ∧ (if ((gi M 97 46) + (1 : Int32)) = (600 : Int32) then (Zm E YX8_value (d + 1) (si (si (si (si (si (si M 123 ((gi M 97 46)).toNatClampNeg (19 : Int32)) 124 ((gi M 97 46)).toNatClampNeg (0 : Int32)) 125 ((gi M 97 46)).toNatClampNeg (0 : Int32)) 126 ((gi M 97 46)).toNatClampNeg (gi M 97 56)) 97 46 ((gi M 97 46) + (1 : Int32))) 97 47 (1 : Int32)) (zargs 0 [vr (some (97, 1, 0)), vi l3]) 0 [] (zma E YX8_give ((d + 1) + 1) [(0, vr (some (97, 1, 0))), (1, vi l1), (2, vi l2), (4, vi l4)] 79 3 [] Q)) else (vp_in ((gi M 97 46) + (1 : Int32)) 600 ∧ (Zm E YX8_value (d + 1) (si (si (si (si (si (si (si (si (si (si M 123 ((gi M 97 46)).toNatClampNeg (19 : Int32)) 124 ((gi M 97 46)).toNatClampNeg (0 : Int32)) 125 ((gi M 97 46)).toNatClampNeg (0 : Int32)) 126 ((gi M 97 46)).toNatClampNeg (gi M 97 56)) 97 46 ((gi M 97 46) + (1 : Int32))) 123 (((gi M 97 46) + (1 : Int32))).toNatClampNeg (10 : Int32)) 124 (((gi M 97 46) + (1 : Int32))).toNatClampNeg (0 : Int32)) 125 (((gi M 97 46) + (1 : Int32))).toNatClampNeg (0 : Int32)) 126 (((gi M 97 46) + (1 : Int32))).toNatClampNeg (gi M 97 56)) 97 46 (((gi M 97 46) + (1 : Int32)) + (1 : Int32))) (zargs 0 [vr (some (97, 1, 0)), vi l3]) 0 [] (zma E YX8_give ((d + 1) + 1) [(0, vr (some (97, 1, 0))), (1, vi l1), (2, vi l2), (4, vi l4)] 79 3 [] Q)))))) else (vp_in (((5 : Int32) * l2) + (0 : Int32)) 60000 ∧ (Zm E YX8_get (d + 1) M (zargs 0 [vr (some (97, 1, 0)), vi (gi M 109 ((((5 : Int32) * l2) + (0 : Int32))).toNatClampNeg)]) 0 [] (zma E YX8_give ((d + 1) + 1) [(0, vr (some (97, 1, 0))), (1, vi l1), (2, vi l2), (3, vi l3), (4, vi l4)] 59 3 [] Q))))) : Zm E YX8_give (d + 2) M [(0, vr (some (97, 1, 0))), (1, vi l1), (2, vi l2), (3, vi l3), (4, vi l4)] 42 [] Q := by
  refine sX8_give_42 (d := (d + 1)) M l1 l2 l3 l4 ?_
  refine zite k (fun h3668 k => ?_) (fun h3668 k => ?_)
  · refine sX8_give_77 (d := (d + 1)) M l1 l2 l3 l4 ?_
    exact k
  · refine zite k (fun h3669 k => ?_) (fun h3669 k => ?_)
    · refine jX8_emit_2 (d := d) M (19 : Int32) ?_
      refine zite k (fun h3670 k => ?_) (fun h3670 k => ?_)
      · show Zm E YX8_give ((d + 1) + 1) (si M 97 47 (1 : Int32)) [(0, vr (some (97, 1, 0))), (1, vi l1), (2, vi l2), (3, vi l3), (4, vi l4)] 71 [] Q
        refine sX8_give_71 (d := (d + 1)) (si M 97 47 (1 : Int32)) l1 l2 l3 l4 ?_
        refine jX8_emit_2 (d := d) (si M 97 47 (1 : Int32)) (10 : Int32) ?_
        refine zpos h3670 ?_
        show Zm E YX8_give ((d + 1) + 1) (si (si M 97 47 (1 : Int32)) 97 47 (1 : Int32)) [(0, vr (some (97, 1, 0))), (1, vi l1), (2, vi l2), (3, vi l3), (4, vi l4)] 77 [] Q
        refine sX8_give_77 (d := (d + 1)) (si (si M 97 47 (1 : Int32)) 97 47 (1 : Int32)) l1 l2 l3 l4 ?_
        exact k
      · refine zand k (fun h3671 k => ?_)
        show Zm E YX8_give ((d + 1) + 1) (si (si (si (si (si M 123 ((gi M 97 46)).toNatClampNeg (19 : Int32)) 124 ((gi M 97 46)).toNatClampNeg (0 : Int32)) 125 ((gi M 97 46)).toNatClampNeg (0 : Int32)) 126 ((gi M 97 46)).toNatClampNeg (gi M 97 56)) 97 46 ((gi M 97 46) + (1 : Int32))) [(0, vr (some (97, 1, 0))), (1, vi l1), (2, vi l2), (3, vi l3), (4, vi l4)] 71 [] Q
        refine sX8_give_71 (d := (d + 1)) (si (si (si (si (si M 123 ((gi M 97 46)).toNatClampNeg (19 : Int32)) 124 ((gi M 97 46)).toNatClampNeg (0 : Int32)) 125 ((gi M 97 46)).toNatClampNeg (0 : Int32)) 126 ((gi M 97 46)).toNatClampNeg (gi M 97 56)) 97 46 ((gi M 97 46) + (1 : Int32))) l1 l2 l3 l4 ?_
        refine jX8_emit_2 (d := d) (si (si (si (si (si M 123 ((gi M 97 46)).toNatClampNeg (19 : Int32)) 124 ((gi M 97 46)).toNatClampNeg (0 : Int32)) 125 ((gi M 97 46)).toNatClampNeg (0 : Int32)) 126 ((gi M 97 46)).toNatClampNeg (gi M 97 56)) 97 46 ((gi M 97 46) + (1 : Int32))) (10 : Int32) ?_
        refine zite k (fun h3672 k => ?_) (fun h3672 k => ?_)
        · show Zm E YX8_give ((d + 1) + 1) (si (si (si (si (si (si M 123 ((gi M 97 46)).toNatClampNeg (19 : Int32)) 124 ((gi M 97 46)).toNatClampNeg (0 : Int32)) 125 ((gi M 97 46)).toNatClampNeg (0 : Int32)) 126 ((gi M 97 46)).toNatClampNeg (gi M 97 56)) 97 46 ((gi M 97 46) + (1 : Int32))) 97 47 (1 : Int32)) [(0, vr (some (97, 1, 0))), (1, vi l1), (2, vi l2), (3, vi l3), (4, vi l4)] 77 [] Q
          refine sX8_give_77 (d := (d + 1)) (si (si (si (si (si (si M 123 ((gi M 97 46)).toNatClampNeg (19 : Int32)) 124 ((gi M 97 46)).toNatClampNeg (0 : Int32)) 125 ((gi M 97 46)).toNatClampNeg (0 : Int32)) 126 ((gi M 97 46)).toNatClampNeg (gi M 97 56)) 97 46 ((gi M 97 46) + (1 : Int32))) 97 47 (1 : Int32)) l1 l2 l3 l4 ?_
          exact k
        · refine zand k (fun h3673 k => ?_)
          show Zm E YX8_give ((d + 1) + 1) (si (si (si (si (si (si (si (si (si (si M 123 ((gi M 97 46)).toNatClampNeg (19 : Int32)) 124 ((gi M 97 46)).toNatClampNeg (0 : Int32)) 125 ((gi M 97 46)).toNatClampNeg (0 : Int32)) 126 ((gi M 97 46)).toNatClampNeg (gi M 97 56)) 97 46 ((gi M 97 46) + (1 : Int32))) 123 (((gi M 97 46) + (1 : Int32))).toNatClampNeg (10 : Int32)) 124 (((gi M 97 46) + (1 : Int32))).toNatClampNeg (0 : Int32)) 125 (((gi M 97 46) + (1 : Int32))).toNatClampNeg (0 : Int32)) 126 (((gi M 97 46) + (1 : Int32))).toNatClampNeg (gi M 97 56)) 97 46 (((gi M 97 46) + (1 : Int32)) + (1 : Int32))) [(0, vr (some (97, 1, 0))), (1, vi l1), (2, vi l2), (3, vi l3), (4, vi l4)] 77 [] Q
          refine sX8_give_77 (d := (d + 1)) (si (si (si (si (si (si (si (si (si (si M 123 ((gi M 97 46)).toNatClampNeg (19 : Int32)) 124 ((gi M 97 46)).toNatClampNeg (0 : Int32)) 125 ((gi M 97 46)).toNatClampNeg (0 : Int32)) 126 ((gi M 97 46)).toNatClampNeg (gi M 97 56)) 97 46 ((gi M 97 46) + (1 : Int32))) 123 (((gi M 97 46) + (1 : Int32))).toNatClampNeg (10 : Int32)) 124 (((gi M 97 46) + (1 : Int32))).toNatClampNeg (0 : Int32)) 125 (((gi M 97 46) + (1 : Int32))).toNatClampNeg (0 : Int32)) 126 (((gi M 97 46) + (1 : Int32))).toNatClampNeg (gi M 97 56)) 97 46 (((gi M 97 46) + (1 : Int32)) + (1 : Int32))) l1 l2 l3 l4 ?_
          exact k
    · refine sX8_part_0 (d := (d + 1)) M l2 (0 : Int32) ?_
      refine zand k (fun h3674 k => ?_)
      show Zm E YX8_give ((d + 1) + 1) M [(0, vr (some (97, 1, 0))), (1, vi l1), (2, vi l2), (3, vi l3), (4, vi l4)] 59 [vi (gi M 109 ((((5 : Int32) * l2) + (0 : Int32))).toNatClampNeg), vr (some (97, 1, 0))] Q
      refine sX8_give_59 (d := (d + 1)) M l1 l2 l3 l4 (gi M 109 ((((5 : Int32) * l2) + (0 : Int32))).toNatClampNeg) ?_
      exact k
theorem iX8_give_32 {E : zE} {d : Nat} {Q : zO → zM → Prop} (M : zM) (l1 : Int32) (l2 : Int32) (l3 : Int32) (l4 : Int32) (k : vp_in (((5 : Int32) * l2) + (1 : Int32)) 60000 ∧ (Zm E YX8_value d M (zargs 0 [vr (some (97, 1, 0)), vi (gi M 109 ((((5 : Int32) * l2) + (1 : Int32))).toNatClampNeg)]) 0 [] (zma E YX8_give (d + 1) [(0, vr (some (97, 1, 0))), (1, vi l1), (2, vi l2), (3, vi l3), (4, vi l4)] 39 3 [] Q))) : Zm E YX8_give (d + 1) M [(0, vr (some (97, 1, 0))), (1, vi l1), (2, vi l2), (3, vi l3), (4, vi l4)] 32 [] Q := by
  refine sX8_give_32 (d := d) M l1 l2 l3 l4 ?_
  refine sX8_part_0 (d := d) M l2 (1 : Int32) ?_
  refine zand k (fun h3675 k => ?_)
  show Zm E YX8_give (d + 1) M [(0, vr (some (97, 1, 0))), (1, vi l1), (2, vi l2), (3, vi l3), (4, vi l4)] 39 [vi (gi M 109 ((((5 : Int32) * l2) + (1 : Int32))).toNatClampNeg), vr (some (97, 1, 0))] Q
  refine sX8_give_39 (d := d) M l1 l2 l3 l4 (gi M 109 ((((5 : Int32) * l2) + (1 : Int32))).toNatClampNeg) ?_
  exact k
theorem iX8_give_82 {E : zE} {d : Nat} {Q : zO → zM → Prop} (M : zM) (l1 : Int32) (l2 : Int32) (l4 : Int32) (k : if l1 = (-1 : Int32) then (if l4 = 0 then (Zm E YX8_emit_2 d M (zargs 0 [vr (some (97, 1, 0)), vi (11 : Int32)]) 0 [] (zma E YX8_give (d + 1) [] 116 3 [] Q)) else (vp_in (((5 : Int32) * l2) + (0 : Int32)) 60000 ∧ (Zm E YX8_set d M (zargs 0 [vr (some (97, 1, 0)), vi (gi M 109 ((((5 : Int32) * l2) + (0 : Int32))).toNatClampNeg)]) 0 [] (zma E YX8_give (d + 1) [] 107 3 [] Q)))) else (Zm E YX8_emit d M (zargs 0 [vr (some (97, 1, 0)), vi (14 : Int32), vi l1, vi (0 : Int32)]) 0 [] (zma E YX8_give (d + 1) [(0, vr (some (97, 1, 0))), (2, vi l2), (4, vi l4)] 92 3 [] Q))) : Zm E YX8_give (d + 1) M [(0, vr (some (97, 1, 0))), (1, vi l1), (2, vi l2), (4, vi l4)] 82 [] Q := by
  refine sX8_give_82 (d := d) M l1 l2 l4 ?_
  refine zite k (fun h3706 k => ?_) (fun h3706 k => ?_)
  · refine sX8_give_95 (d := d) M l2 l4 ?_
    refine zite k (fun h3707 k => ?_) (fun h3707 k => ?_)
    · exact k
    · refine sX8_part_0 (d := d) M l2 (0 : Int32) ?_
      refine zand k (fun h3708 k => ?_)
      show Zm E YX8_give (d + 1) M [] 107 [vi (gi M 109 ((((5 : Int32) * l2) + (0 : Int32))).toNatClampNeg), vr (some (97, 1, 0))] Q
      refine sX8_give_107 (d := d) M (gi M 109 ((((5 : Int32) * l2) + (0 : Int32))).toNatClampNeg) ?_
      exact k
  · exact k
theorem iX8_give_62 {E : zE} {d : Nat} {Q : zO → zM → Prop} (M : zM) (l1 : Int32) (l2 : Int32) (l3 : Int32) (l4 : Int32) (k : Zm E YX8_value d M (zargs 0 [vr (some (97, 1, 0)), vi l3]) 0 [] (zma E YX8_give (d + 1) [(0, vr (some (97, 1, 0))), (1, vi l1), (2, vi l2), (4, vi l4)] 79 3 [] Q)) : Zm E YX8_give (d + 1) M [(0, vr (some (97, 1, 0))), (1, vi l1), (2, vi l2), (3, vi l3), (4, vi l4)] 62 [] Q := by
  refine sX8_give_62 (d := d) M l1 l2 l3 l4 ?_
  refine sX8_give_77 (d := d) M l1 l2 l3 l4 ?_
  exact k
theorem iX8_give_110 {E : zE} {d : Nat} {Q : zO → zM → Prop} (M : zM)  (k : Q (.inl none) M) : Zm E YX8_give (d + 1) M [] 110 [] Q := by
  refine sX8_give_110 (d := d) M  ?_
  refine sX8_give_119 (d := d) M  ?_
  exact k
theorem iX8_give_95 {E : zE} {d : Nat} {Q : zO → zM → Prop} (M : zM) (l2 : Int32) (l4 : Int32) (k : if l4 = 0 then (if (gi M 97 46) = (600 : Int32) then (Q (.inl none) (si M 97 47 (1 : Int32))) else (vp_in (gi M 97 46) 600 ∧ (Q (.inl none) (si (si (si (si (si M 123 ((gi M 97 46)).toNatClampNeg (11 : Int32)) 124 ((gi M 97 46)).toNatClampNeg (0 : Int32)) 125 ((gi M 97 46)).toNatClampNeg (0 : Int32)) 126 ((gi M 97 46)).toNatClampNeg (gi M 97 56)) 97 46 ((gi M 97 46) + (1 : Int32)))))) else (vp_in (((5 : Int32) * l2) + (0 : Int32)) 60000 ∧ (Zm E YX8_set (d + 1) M (zargs 0 [vr (some (97, 1, 0)), vi (gi M 109 ((((5 : Int32) * l2) + (0 : Int32))).toNatClampNeg)]) 0 [] (zma E YX8_give ((d + 1) + 1) [] 107 3 [] Q)))) : Zm E YX8_give (d + 2) M [(0, vr (some (97, 1, 0))), (2, vi l2), (4, vi l4)] 95 [] Q := by
  refine sX8_give_95 (d := (d + 1)) M l2 l4 ?_
  refine zite k (fun h3710 k => ?_) (fun h3710 k => ?_)
  · refine jX8_emit_2 (d := d) M (11 : Int32) ?_
    refine zite k (fun h3711 k => ?_) (fun h3711 k => ?_)
    · show Zm E YX8_give ((d + 1) + 1) (si M 97 47 (1 : Int32)) [] 119 [] Q
      refine sX8_give_119 (d := (d + 1)) (si M 97 47 (1 : Int32))  ?_
      exact k
    · refine zand k (fun h3712 k => ?_)
      show Zm E YX8_give ((d + 1) + 1) (si (si (si (si (si M 123 ((gi M 97 46)).toNatClampNeg (11 : Int32)) 124 ((gi M 97 46)).toNatClampNeg (0 : Int32)) 125 ((gi M 97 46)).toNatClampNeg (0 : Int32)) 126 ((gi M 97 46)).toNatClampNeg (gi M 97 56)) 97 46 ((gi M 97 46) + (1 : Int32))) [] 119 [] Q
      refine sX8_give_119 (d := (d + 1)) (si (si (si (si (si M 123 ((gi M 97 46)).toNatClampNeg (11 : Int32)) 124 ((gi M 97 46)).toNatClampNeg (0 : Int32)) 125 ((gi M 97 46)).toNatClampNeg (0 : Int32)) 126 ((gi M 97 46)).toNatClampNeg (gi M 97 56)) 97 46 ((gi M 97 46) + (1 : Int32)))  ?_
      exact k
  · refine sX8_part_0 (d := (d + 1)) M l2 (0 : Int32) ?_
    refine zand k (fun h3713 k => ?_)
    show Zm E YX8_give ((d + 1) + 1) M [] 107 [vi (gi M 109 ((((5 : Int32) * l2) + (0 : Int32))).toNatClampNeg), vr (some (97, 1, 0))] Q
    refine sX8_give_107 (d := (d + 1)) M (gi M 109 ((((5 : Int32) * l2) + (0 : Int32))).toNatClampNeg) ?_
    exact k
theorem iX8_isMemberCall_0 {E : zE} {d : Nat} {Q : zO → zM → Prop} (M : zM) (l1 : Int32) (k : vp_in (((5 : Int32) * l1) + (0 : Int32)) 60000 ∧ (vp_in (gi M 109 ((((5 : Int32) * l1) + (0 : Int32))).toNatClampNeg) 12000 ∧ (if (gi M 108 ((gi M 109 ((((5 : Int32) * l1) + (0 : Int32))).toNatClampNeg)).toNatClampNeg) = (7 : Int32) then (if (gi M 111 ((gi M 109 ((((5 : Int32) * l1) + (0 : Int32))).toNatClampNeg)).toNatClampNeg) = 0 then (Q (.inl (some (vi (1 : Int32)))) M) else (Q (.inl (some (vi (0 : Int32)))) M)) else (Q (.inl (some (vi (0 : Int32)))) M)))) : Zm E YX8_isMemberCall (d + 1) M [(0, vr (some (97, 1, 0))), (1, vi l1)] 0 [] Q := by
  refine sX8_isMemberCall_0 (d := d) M l1 ?_
  refine sX8_part_0 (d := d) M l1 (0 : Int32) ?_
  refine zand k (fun h3715 k => ?_)
  show Zm E YX8_isMemberCall (d + 1) M [(0, vr (some (97, 1, 0)))] 6 [vi (gi M 109 ((((5 : Int32) * l1) + (0 : Int32))).toNatClampNeg)] Q
  refine sX8_isMemberCall_6 (d := d) M (gi M 109 ((((5 : Int32) * l1) + (0 : Int32))).toNatClampNeg) ?_
  refine zand k (fun h3716 k => ?_)
  refine zite k (fun h3717 k => ?_) (fun h3717 k => ?_)
  · refine ⟨h3716, ?_⟩
    exact k
  · exact k
theorem iX8_leftPart_0 {E : zE} {d : Nat} {Q : zO → zM → Prop} (M : zM) (l1 : Int32) (k : vp_in l1 12000 ∧ (if (gi M 108 (l1).toNatClampNeg) = 3 then (vp_in (((5 : Int32) * l1) + (0 : Int32)) 60000 ∧ (Q (.inl (some (vi (gi M 109 ((((5 : Int32) * l1) + (0 : Int32))).toNatClampNeg)))) M)) else (if (gi M 108 (l1).toNatClampNeg) = 4 then (Q (.inl (some (vi (-1 : Int32)))) M) else (if (gi M 108 (l1).toNatClampNeg) = 5 then (Q (.inl (some (vi (-1 : Int32)))) M) else (if (gi M 108 (l1).toNatClampNeg) = 6 then (Q (.inl (some (vi (-1 : Int32)))) M) else (if (gi M 108 (l1).toNatClampNeg) = 7 then (vp_in (((5 : Int32) * l1) + (0 : Int32)) 60000 ∧ (Q (.inl (some (vi (gi M 109 ((((5 : Int32) * l1) + (0 : Int32))).toNatClampNeg)))) M)) else (if (gi M 108 (l1).toNatClampNeg) = 8 then (vp_in (((5 : Int32) * l1) + (0 : Int32)) 60000 ∧ (vp_in (gi M 109 ((((5 : Int32) * l1) + (0 : Int32))).toNatClampNeg) 12000 ∧ (if (gi M 108 ((gi M 109 ((((5 : Int32) * l1) + (0 : Int32))).toNatClampNeg)).toNatClampNeg) = (7 : Int32) then (if (gi M 111 ((gi M 109 ((((5 : Int32) * l1) + (0 : Int32))).toNatClampNeg)).toNatClampNeg) = 0 then (vp_in (((5 : Int32) * (gi M 109 ((((5 : Int32) * l1) + (0 : Int32))).toNatClampNeg)) + (0 : Int32)) 60000 ∧ (Q (.inl (some (vi (gi M 109 ((((5 : Int32) * (gi M 109 ((((5 : Int32) * l1) + (0 : Int32))).toNatClampNeg)) + (0 : Int32))).toNatClampNeg)))) M)) else (Q (.inl (some (vi (gi M 109 ((((5 : Int32) * l1) + (0 : Int32))).toNatClampNeg)))) M)) else (Q (.inl (some (vi (gi M 109 ((((5 : Int32) * l1) + (0 : Int32))).toNatClampNeg)))) M)))) else (if (gi M 108 (l1).toNatClampNeg) = 9 then (Q (.inl (some (vi (-1 : Int32)))) M) else (if (gi M 108 (l1).toNatClampNeg) = 10 then (Q (.inl (some (vi (-1 : Int32)))) M) else (if (gi M 108 (l1).toNatClampNeg) = 11 then (vp_in (((5 : Int32) * l1) + (1 : Int32)) 60000 ∧ (Q (.inl (some (vi (gi M 109 ((((5 : Int32) * l1) + (1 : Int32))).toNatClampNeg)))) M)) else (if (gi M 108 (l1).toNatClampNeg) = 12 then (vp_in (((5 : Int32) * l1) + (0 : Int32)) 60000 ∧ (Q (.inl (some (vi (gi M 109 ((((5 : Int32) * l1) + (0 : Int32))).toNatClampNeg)))) M)) else (if (gi M 108 (l1).toNatClampNeg) = 13 then (vp_in (((5 : Int32) * l1) + (0 : Int32)) 60000 ∧ (Q (.inl (some (vi (gi M 109 ((((5 : Int32) * l1) + (0 : Int32))).toNatClampNeg)))) M)) else (Q (.inl (some (vi (-1 : Int32)))) M))))))))))))) : Zm E YX8_leftPart (d + 2) M [(0, vr (some (97, 1, 0))), (1, vi l1)] 0 [] Q := by
  refine sX8_leftPart_0 (d := (d + 1)) M l1 ?_
  refine zand k (fun h3734 k => ?_)
  refine zite k (fun h3735 k => ?_) (fun h3735 k => ?_)
  · refine sX8_part_0 (d := (d + 1)) M l1 (0 : Int32) ?_
    refine zand k (fun h3736 k => ?_)
    show Zm E YX8_leftPart ((d + 1) + 1) M [] 70 [vi (gi M 109 ((((5 : Int32) * l1) + (0 : Int32))).toNatClampNeg)] Q
    refine sX8_leftPart_70 (d := (d + 1)) M (gi M 109 ((((5 : Int32) * l1) + (0 : Int32))).toNatClampNeg) ?_
    exact k
  · refine zite k (fun h3737 k => ?_) (fun h3737 k => ?_)
    · exact k
    · refine zite k (fun h3738 k => ?_) (fun h3738 k => ?_)
      · exact k
      · refine zite k (fun h3739 k => ?_) (fun h3739 k => ?_)
        · exact k
        · refine zite k (fun h3740 k => ?_) (fun h3740 k => ?_)
          · refine sX8_part_0 (d := (d + 1)) M l1 (0 : Int32) ?_
            refine zand k (fun h3741 k => ?_)
            show Zm E YX8_leftPart ((d + 1) + 1) M [] 70 [vi (gi M 109 ((((5 : Int32) * l1) + (0 : Int32))).toNatClampNeg)] Q
            refine sX8_leftPart_70 (d := (d + 1)) M (gi M 109 ((((5 : Int32) * l1) + (0 : Int32))).toNatClampNeg) ?_
            exact k
          · refine zite k (fun h3742 k => ?_) (fun h3742 k => ?_)
            · refine jX8_isMemberCall (d := d) M l1 ?_
              refine zand k (fun h3743 k => ?_)
              refine zand k (fun h3744 k => ?_)
              refine zite k (fun h3745 k => ?_) (fun h3745 k => ?_)
              · refine zite k (fun h3746 k => ?_) (fun h3746 k => ?_)
                · show Zm E YX8_leftPart ((d + 1) + 1) M [(0, vr (some (97, 1, 0))), (1, vi l1)] 83 [vi (1 : Int32)] Q
                  refine sX8_leftPart_83 (d := (d + 1)) M l1 (1 : Int32) ?_
                  refine zneg (show ¬ ((1 : Int32) = 0) from by decide) ?_
                  refine sX8_part_0 (d := (d + 1)) M l1 (0 : Int32) ?_
                  refine ⟨h3743, ?_⟩
                  show Zm E YX8_leftPart ((d + 1) + 1) M [] 93 [vi (gi M 109 ((((5 : Int32) * l1) + (0 : Int32))).toNatClampNeg), vr (some (97, 1, 0))] Q
                  refine sX8_leftPart_93 (d := (d + 1)) M (gi M 109 ((((5 : Int32) * l1) + (0 : Int32))).toNatClampNeg) ?_
                  refine sX8_part_0 (d := (d + 1)) M (gi M 109 ((((5 : Int32) * l1) + (0 : Int32))).toNatClampNeg) (0 : Int32) ?_
                  refine zand k (fun h3747 k => ?_)
                  show Zm E YX8_leftPart ((d + 1) + 1) M [] 97 [vi (gi M 109 ((((5 : Int32) * (gi M 109 ((((5 : Int32) * l1) + (0 : Int32))).toNatClampNeg)) + (0 : Int32))).toNatClampNeg)] Q
                  refine sX8_leftPart_97 (d := (d + 1)) M (gi M 109 ((((5 : Int32) * (gi M 109 ((((5 : Int32) * l1) + (0 : Int32))).toNatClampNeg)) + (0 : Int32))).toNatClampNeg) ?_
                  refine sX8_leftPart_106 (d := (d + 1)) M (gi M 109 ((((5 : Int32) * (gi M 109 ((((5 : Int32) * l1) + (0 : Int32))).toNatClampNeg)) + (0 : Int32))).toNatClampNeg) ?_
                  exact k
                · show Zm E YX8_leftPart ((d + 1) + 1) M [(0, vr (some (97, 1, 0))), (1, vi l1)] 83 [vi (0 : Int32)] Q
                  refine sX8_leftPart_83 (d := (d + 1)) M l1 (0 : Int32) ?_
                  refine zpos (show (0 : Int32) = 0 from by decide) ?_
                  refine sX8_part_0 (d := (d + 1)) M l1 (0 : Int32) ?_
                  refine ⟨h3743, ?_⟩
                  show Zm E YX8_leftPart ((d + 1) + 1) M [] 106 [vi (gi M 109 ((((5 : Int32) * l1) + (0 : Int32))).toNatClampNeg)] Q
                  refine sX8_leftPart_106 (d := (d + 1)) M (gi M 109 ((((5 : Int32) * l1) + (0 : Int32))).toNatClampNeg) ?_
                  exact k
              · show Zm E YX8_leftPart ((d + 1) + 1) M [(0, vr (some (97, 1, 0))), (1, vi l1)] 83 [vi (0 : Int32)] Q
                refine sX8_leftPart_83 (d := (d + 1)) M l1 (0 : Int32) ?_
                refine zpos (show (0 : Int32) = 0 from by decide) ?_
                refine sX8_part_0 (d := (d + 1)) M l1 (0 : Int32) ?_
                refine ⟨h3743, ?_⟩
                show Zm E YX8_leftPart ((d + 1) + 1) M [] 106 [vi (gi M 109 ((((5 : Int32) * l1) + (0 : Int32))).toNatClampNeg)] Q
                refine sX8_leftPart_106 (d := (d + 1)) M (gi M 109 ((((5 : Int32) * l1) + (0 : Int32))).toNatClampNeg) ?_
                exact k
            · refine zite k (fun h3748 k => ?_) (fun h3748 k => ?_)
              · exact k
              · refine zite k (fun h3749 k => ?_) (fun h3749 k => ?_)
                · exact k
                · refine zite k (fun h3750 k => ?_) (fun h3750 k => ?_)
                  · refine sX8_part_0 (d := (d + 1)) M l1 (1 : Int32) ?_
                    refine zand k (fun h3751 k => ?_)
                    show Zm E YX8_leftPart ((d + 1) + 1) M [] 77 [vi (gi M 109 ((((5 : Int32) * l1) + (1 : Int32))).toNatClampNeg)] Q
                    refine sX8_leftPart_77 (d := (d + 1)) M (gi M 109 ((((5 : Int32) * l1) + (1 : Int32))).toNatClampNeg) ?_
                    exact k
                  · refine zite k (fun h3752 k => ?_) (fun h3752 k => ?_)
                    · refine sX8_part_0 (d := (d + 1)) M l1 (0 : Int32) ?_
                      refine zand k (fun h3753 k => ?_)
                      show Zm E YX8_leftPart ((d + 1) + 1) M [] 70 [vi (gi M 109 ((((5 : Int32) * l1) + (0 : Int32))).toNatClampNeg)] Q
                      refine sX8_leftPart_70 (d := (d + 1)) M (gi M 109 ((((5 : Int32) * l1) + (0 : Int32))).toNatClampNeg) ?_
                      exact k
                    · refine zite k (fun h3754 k => ?_) (fun h3754 k => ?_)
                      · refine sX8_part_0 (d := (d + 1)) M l1 (0 : Int32) ?_
                        refine zand k (fun h3755 k => ?_)
                        show Zm E YX8_leftPart ((d + 1) + 1) M [] 70 [vi (gi M 109 ((((5 : Int32) * l1) + (0 : Int32))).toNatClampNeg)] Q
                        refine sX8_leftPart_70 (d := (d + 1)) M (gi M 109 ((((5 : Int32) * l1) + (0 : Int32))).toNatClampNeg) ?_
                        exact k
                      · exact k
