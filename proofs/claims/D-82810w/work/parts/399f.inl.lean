theorem iX43_copy_160 {E : zE} {d : Nat} {Q : zO → zM → Prop} (M : zM) (a0 : Nat) (a1 : Nat) (k : ∃ b18899 : Nat, (gr M a0 0) = some (b18899, 0, 0) ∧ (∃ b18900 m18900 : Nat, (gr M a0 9) = some (b18900, 104, m18900) ∧ (∃ b18901 m18901 : Nat, (gr M a1 9) = some (b18901, 104, m18901) ∧ (16 ≤ b18900 ∧ ((1 ≤ d) ∧ (((¬ (0 : Int32) < 0 ∧ ¬ (0 : Int32) < 0 ∧ ¬ (gi M b18899 11) < 0) ∧ ((0 : Int32)).toNatClampNeg + ((gi M b18899 11)).toNatClampNeg ≤ m18901 ∧ ((0 : Int32)).toNatClampNeg + ((gi M b18899 11)).toNatClampNeg ≤ m18900) ∧ ((∀ i, i < ((gi M b18899 11)).toNatClampNeg → zfit .boolean (gi M b18901 (((0 : Int32)).toNatClampNeg + i))) ∧ (∃ b18906 m18906 : Nat, (gr (cpi M b18901 ((0 : Int32)).toNatClampNeg b18900 ((0 : Int32)).toNatClampNeg ((gi M b18899 11)).toNatClampNeg) a0 10) = some (b18906, 105, m18906) ∧ (∃ b18907 m18907 : Nat, (gr (cpi M b18901 ((0 : Int32)).toNatClampNeg b18900 ((0 : Int32)).toNatClampNeg ((gi M b18899 11)).toNatClampNeg) a1 10) = some (b18907, 105, m18907) ∧ (16 ≤ b18906 ∧ (((¬ (0 : Int32) < 0 ∧ ¬ (0 : Int32) < 0 ∧ ¬ (gi (cpi M b18901 ((0 : Int32)).toNatClampNeg b18900 ((0 : Int32)).toNatClampNeg ((gi M b18899 11)).toNatClampNeg) a1 13) < 0) ∧ ((0 : Int32)).toNatClampNeg + ((gi (cpi M b18901 ((0 : Int32)).toNatClampNeg b18900 ((0 : Int32)).toNatClampNeg ((gi M b18899 11)).toNatClampNeg) a1 13)).toNatClampNeg ≤ m18907 ∧ ((0 : Int32)).toNatClampNeg + ((gi (cpi M b18901 ((0 : Int32)).toNatClampNeg b18900 ((0 : Int32)).toNatClampNeg ((gi M b18899 11)).toNatClampNeg) a1 13)).toNatClampNeg ≤ m18906) ∧ (∃ b18910 m18910 : Nat, (gr (cpl (cpi M b18901 ((0 : Int32)).toNatClampNeg b18900 ((0 : Int32)).toNatClampNeg ((gi M b18899 11)).toNatClampNeg) b18907 ((0 : Int32)).toNatClampNeg b18906 ((0 : Int32)).toNatClampNeg ((gi (cpi M b18901 ((0 : Int32)).toNatClampNeg b18900 ((0 : Int32)).toNatClampNeg ((gi M b18899 11)).toNatClampNeg) a1 13)).toNatClampNeg) a0 11) = some (b18910, 105, m18910) ∧ (∃ b18911 m18911 : Nat, (gr (cpl (cpi M b18901 ((0 : Int32)).toNatClampNeg b18900 ((0 : Int32)).toNatClampNeg ((gi M b18899 11)).toNatClampNeg) b18907 ((0 : Int32)).toNatClampNeg b18906 ((0 : Int32)).toNatClampNeg ((gi (cpi M b18901 ((0 : Int32)).toNatClampNeg b18900 ((0 : Int32)).toNatClampNeg ((gi M b18899 11)).toNatClampNeg) a1 13)).toNatClampNeg) a1 11) = some (b18911, 105, m18911) ∧ (16 ≤ b18910 ∧ (((¬ (0 : Int32) < 0 ∧ ¬ (0 : Int32) < 0 ∧ ¬ (gi (cpl (cpi M b18901 ((0 : Int32)).toNatClampNeg b18900 ((0 : Int32)).toNatClampNeg ((gi M b18899 11)).toNatClampNeg) b18907 ((0 : Int32)).toNatClampNeg b18906 ((0 : Int32)).toNatClampNeg ((gi (cpi M b18901 ((0 : Int32)).toNatClampNeg b18900 ((0 : Int32)).toNatClampNeg ((gi M b18899 11)).toNatClampNeg) a1 13)).toNatClampNeg) a1 13) < 0) ∧ ((0 : Int32)).toNatClampNeg + ((gi (cpl (cpi M b18901 ((0 : Int32)).toNatClampNeg b18900 ((0 : Int32)).toNatClampNeg ((gi M b18899 11)).toNatClampNeg) b18907 ((0 : Int32)).toNatClampNeg b18906 ((0 : Int32)).toNatClampNeg ((gi (cpi M b18901 ((0 : Int32)).toNatClampNeg b18900 ((0 : Int32)).toNatClampNeg ((gi M b18899 11)).toNatClampNeg) a1 13)).toNatClampNeg) a1 13)).toNatClampNeg ≤ m18911 ∧ ((0 : Int32)).toNatClampNeg + ((gi (cpl (cpi M b18901 ((0 : Int32)).toNatClampNeg b18900 ((0 : Int32)).toNatClampNeg ((gi M b18899 11)).toNatClampNeg) b18907 ((0 : Int32)).toNatClampNeg b18906 ((0 : Int32)).toNatClampNeg ((gi (cpi M b18901 ((0 : Int32)).toNatClampNeg b18900 ((0 : Int32)).toNatClampNeg ((gi M b18899 11)).toNatClampNeg) a1 13)).toNatClampNeg) a1 13)).toNatClampNeg ≤ m18910) ∧ (Z E YX43_copy d (cpl (cpl (cpi M b18901 ((0 : Int32)).toNatClampNeg b18900 ((0 : Int32)).toNatClampNeg ((gi M b18899 11)).toNatClampNeg) b18907 ((0 : Int32)).toNatClampNeg b18906 ((0 : Int32)).toNatClampNeg ((gi (cpi M b18901 ((0 : Int32)).toNatClampNeg b18900 ((0 : Int32)).toNatClampNeg ((gi M b18899 11)).toNatClampNeg) a1 13)).toNatClampNeg) b18911 ((0 : Int32)).toNatClampNeg b18910 ((0 : Int32)).toNatClampNeg ((gi (cpl (cpi M b18901 ((0 : Int32)).toNatClampNeg b18900 ((0 : Int32)).toNatClampNeg ((gi M b18899 11)).toNatClampNeg) b18907 ((0 : Int32)).toNatClampNeg b18906 ((0 : Int32)).toNatClampNeg ((gi (cpi M b18901 ((0 : Int32)).toNatClampNeg b18900 ((0 : Int32)).toNatClampNeg ((gi M b18899 11)).toNatClampNeg) a1 13)).toNatClampNeg) a1 13)).toNatClampNeg) [(0, vr (some (a0, 7, 0))), (1, vr (some (a1, 7, 0)))] 214 [] Q)))))))))))))))) : Z E YX43_copy d M [(0, vr (some (a0, 7, 0))), (1, vr (some (a1, 7, 0)))] 160 [] Q := by
  refine sX43_copy_160 (d := d) M a0 a1 ?_
  obtain ⟨b18899, h18899, k⟩ := k
  refine ⟨b18899, h18899, ?_⟩
  obtain ⟨b18900, m18900, h18900, k⟩ := k
  refine ⟨b18900, m18900, h18900, ?_⟩
  obtain ⟨b18901, m18901, h18901, k⟩ := k
  refine ⟨b18901, m18901, h18901, ?_⟩
  refine zand k (fun h18902 k => ?_)
  refine zand k (fun h18903 k => ?_)
  refine zand k (fun h18904 k => ?_)
  refine zand k (fun h18905 k => ?_)
  refine sX43_copy_180 (d := d) (cpi M b18901 ((0 : Int32)).toNatClampNeg b18900 ((0 : Int32)).toNatClampNeg ((gi M b18899 11)).toNatClampNeg) _ _ ?_
  obtain ⟨b18906, m18906, h18906, k⟩ := k
  refine ⟨b18906, m18906, h18906, ?_⟩
  obtain ⟨b18907, m18907, h18907, k⟩ := k
  refine ⟨b18907, m18907, h18907, ?_⟩
  refine zand k (fun h18908 k => ?_)
  refine ⟨h18903, ?_⟩
  refine zand k (fun h18909 k => ?_)
  refine sX43_copy_197 (d := d) (cpl (cpi M b18901 ((0 : Int32)).toNatClampNeg b18900 ((0 : Int32)).toNatClampNeg ((gi M b18899 11)).toNatClampNeg) b18907 ((0 : Int32)).toNatClampNeg b18906 ((0 : Int32)).toNatClampNeg ((gi (cpi M b18901 ((0 : Int32)).toNatClampNeg b18900 ((0 : Int32)).toNatClampNeg ((gi M b18899 11)).toNatClampNeg) a1 13)).toNatClampNeg) _ _ ?_
  obtain ⟨b18910, m18910, h18910, k⟩ := k
  refine ⟨b18910, m18910, h18910, ?_⟩
  obtain ⟨b18911, m18911, h18911, k⟩ := k
  refine ⟨b18911, m18911, h18911, ?_⟩
  refine zand k (fun h18912 k => ?_)
  refine ⟨h18903, ?_⟩
  exact k
theorem iX43_copy_214 {E : zE} {d : Nat} {Q : zO → zM → Prop} (M : zM) (a0 : Nat) (a1 : Nat) (k : ∃ b18914 m18914 : Nat, (gr M a0 12) = some (b18914, 105, m18914) ∧ (∃ b18915 m18915 : Nat, (gr M a1 12) = some (b18915, 105, m18915) ∧ (16 ≤ b18914 ∧ ((1 ≤ d) ∧ (((¬ (0 : Int32) < 0 ∧ ¬ (0 : Int32) < 0 ∧ ¬ (gi M a1 13) < 0) ∧ ((0 : Int32)).toNatClampNeg + ((gi M a1 13)).toNatClampNeg ≤ m18915 ∧ ((0 : Int32)).toNatClampNeg + ((gi M a1 13)).toNatClampNeg ≤ m18914) ∧ (16 ≤ a0 ∧ (Q (.inl none) (sl (sl (sl (sl (sl (si (cpl M b18915 ((0 : Int32)).toNatClampNeg b18914 ((0 : Int32)).toNatClampNeg ((gi M a1 13)).toNatClampNeg) a0 13 (gi (cpl M b18915 ((0 : Int32)).toNatClampNeg b18914 ((0 : Int32)).toNatClampNeg ((gi M a1 13)).toNatClampNeg) a1 13)) a0 14 (gl (cpl M b18915 ((0 : Int32)).toNatClampNeg b18914 ((0 : Int32)).toNatClampNeg ((gi M a1 13)).toNatClampNeg) a1 14)) a0 15 (gl (sl (si (cpl M b18915 ((0 : Int32)).toNatClampNeg b18914 ((0 : Int32)).toNatClampNeg ((gi M a1 13)).toNatClampNeg) a0 13 (gi (cpl M b18915 ((0 : Int32)).toNatClampNeg b18914 ((0 : Int32)).toNatClampNeg ((gi M a1 13)).toNatClampNeg) a1 13)) a0 14 (gl (cpl M b18915 ((0 : Int32)).toNatClampNeg b18914 ((0 : Int32)).toNatClampNeg ((gi M a1 13)).toNatClampNeg) a1 14)) a1 15)) a0 16 (gl (sl (sl (si (cpl M b18915 ((0 : Int32)).toNatClampNeg b18914 ((0 : Int32)).toNatClampNeg ((gi M a1 13)).toNatClampNeg) a0 13 (gi (cpl M b18915 ((0 : Int32)).toNatClampNeg b18914 ((0 : Int32)).toNatClampNeg ((gi M a1 13)).toNatClampNeg) a1 13)) a0 14 (gl (cpl M b18915 ((0 : Int32)).toNatClampNeg b18914 ((0 : Int32)).toNatClampNeg ((gi M a1 13)).toNatClampNeg) a1 14)) a0 15 (gl (sl (si (cpl M b18915 ((0 : Int32)).toNatClampNeg b18914 ((0 : Int32)).toNatClampNeg ((gi M a1 13)).toNatClampNeg) a0 13 (gi (cpl M b18915 ((0 : Int32)).toNatClampNeg b18914 ((0 : Int32)).toNatClampNeg ((gi M a1 13)).toNatClampNeg) a1 13)) a0 14 (gl (cpl M b18915 ((0 : Int32)).toNatClampNeg b18914 ((0 : Int32)).toNatClampNeg ((gi M a1 13)).toNatClampNeg) a1 14)) a1 15)) a1 16)) a0 17 (gl (sl (sl (sl (si (cpl M b18915 ((0 : Int32)).toNatClampNeg b18914 ((0 : Int32)).toNatClampNeg ((gi M a1 13)).toNatClampNeg) a0 13 (gi (cpl M b18915 ((0 : Int32)).toNatClampNeg b18914 ((0 : Int32)).toNatClampNeg ((gi M a1 13)).toNatClampNeg) a1 13)) a0 14 (gl (cpl M b18915 ((0 : Int32)).toNatClampNeg b18914 ((0 : Int32)).toNatClampNeg ((gi M a1 13)).toNatClampNeg) a1 14)) a0 15 (gl (sl (si (cpl M b18915 ((0 : Int32)).toNatClampNeg b18914 ((0 : Int32)).toNatClampNeg ((gi M a1 13)).toNatClampNeg) a0 13 (gi (cpl M b18915 ((0 : Int32)).toNatClampNeg b18914 ((0 : Int32)).toNatClampNeg ((gi M a1 13)).toNatClampNeg) a1 13)) a0 14 (gl (cpl M b18915 ((0 : Int32)).toNatClampNeg b18914 ((0 : Int32)).toNatClampNeg ((gi M a1 13)).toNatClampNeg) a1 14)) a1 15)) a0 16 (gl (sl (sl (si (cpl M b18915 ((0 : Int32)).toNatClampNeg b18914 ((0 : Int32)).toNatClampNeg ((gi M a1 13)).toNatClampNeg) a0 13 (gi (cpl M b18915 ((0 : Int32)).toNatClampNeg b18914 ((0 : Int32)).toNatClampNeg ((gi M a1 13)).toNatClampNeg) a1 13)) a0 14 (gl (cpl M b18915 ((0 : Int32)).toNatClampNeg b18914 ((0 : Int32)).toNatClampNeg ((gi M a1 13)).toNatClampNeg) a1 14)) a0 15 (gl (sl (si (cpl M b18915 ((0 : Int32)).toNatClampNeg b18914 ((0 : Int32)).toNatClampNeg ((gi M a1 13)).toNatClampNeg) a0 13 (gi (cpl M b18915 ((0 : Int32)).toNatClampNeg b18914 ((0 : Int32)).toNatClampNeg ((gi M a1 13)).toNatClampNeg) a1 13)) a0 14 (gl (cpl M b18915 ((0 : Int32)).toNatClampNeg b18914 ((0 : Int32)).toNatClampNeg ((gi M a1 13)).toNatClampNeg) a1 14)) a1 15)) a1 16)) a1 17)) a0 18 (gl (sl (sl (sl (sl (si (cpl M b18915 ((0 : Int32)).toNatClampNeg b18914 ((0 : Int32)).toNatClampNeg ((gi M a1 13)).toNatClampNeg) a0 13 (gi (cpl M b18915 ((0 : Int32)).toNatClampNeg b18914 ((0 : Int32)).toNatClampNeg ((gi M a1 13)).toNatClampNeg) a1 13)) a0 14 (gl (cpl M b18915 ((0 : Int32)).toNatClampNeg b18914 ((0 : Int32)).toNatClampNeg ((gi M a1 13)).toNatClampNeg) a1 14)) a0 15 (gl (sl (si (cpl M b18915 ((0 : Int32)).toNatClampNeg b18914 ((0 : Int32)).toNatClampNeg ((gi M a1 13)).toNatClampNeg) a0 13 (gi (cpl M b18915 ((0 : Int32)).toNatClampNeg b18914 ((0 : Int32)).toNatClampNeg ((gi M a1 13)).toNatClampNeg) a1 13)) a0 14 (gl (cpl M b18915 ((0 : Int32)).toNatClampNeg b18914 ((0 : Int32)).toNatClampNeg ((gi M a1 13)).toNatClampNeg) a1 14)) a1 15)) a0 16 (gl (sl (sl (si (cpl M b18915 ((0 : Int32)).toNatClampNeg b18914 ((0 : Int32)).toNatClampNeg ((gi M a1 13)).toNatClampNeg) a0 13 (gi (cpl M b18915 ((0 : Int32)).toNatClampNeg b18914 ((0 : Int32)).toNatClampNeg ((gi M a1 13)).toNatClampNeg) a1 13)) a0 14 (gl (cpl M b18915 ((0 : Int32)).toNatClampNeg b18914 ((0 : Int32)).toNatClampNeg ((gi M a1 13)).toNatClampNeg) a1 14)) a0 15 (gl (sl (si (cpl M b18915 ((0 : Int32)).toNatClampNeg b18914 ((0 : Int32)).toNatClampNeg ((gi M a1 13)).toNatClampNeg) a0 13 (gi (cpl M b18915 ((0 : Int32)).toNatClampNeg b18914 ((0 : Int32)).toNatClampNeg ((gi M a1 13)).toNatClampNeg) a1 13)) a0 14 (gl (cpl M b18915 ((0 : Int32)).toNatClampNeg b18914 ((0 : Int32)).toNatClampNeg ((gi M a1 13)).toNatClampNeg) a1 14)) a1 15)) a1 16)) a0 17 (gl (sl (sl (sl (si (cpl M b18915 ((0 : Int32)).toNatClampNeg b18914 ((0 : Int32)).toNatClampNeg ((gi M a1 13)).toNatClampNeg) a0 13 (gi (cpl M b18915 ((0 : Int32)).toNatClampNeg b18914 ((0 : Int32)).toNatClampNeg ((gi M a1 13)).toNatClampNeg) a1 13)) a0 14 (gl (cpl M b18915 ((0 : Int32)).toNatClampNeg b18914 ((0 : Int32)).toNatClampNeg ((gi M a1 13)).toNatClampNeg) a1 14)) a0 15 (gl (sl (si (cpl M b18915 ((0 : Int32)).toNatClampNeg b18914 ((0 : Int32)).toNatClampNeg ((gi M a1 13)).toNatClampNeg) a0 13 (gi (cpl M b18915 ((0 : Int32)).toNatClampNeg b18914 ((0 : Int32)).toNatClampNeg ((gi M a1 13)).toNatClampNeg) a1 13)) a0 14 (gl (cpl M b18915 ((0 : Int32)).toNatClampNeg b18914 ((0 : Int32)).toNatClampNeg ((gi M a1 13)).toNatClampNeg) a1 14)) a1 15)) a0 16 (gl (sl (sl (si (cpl M b18915 ((0 : Int32)).toNatClampNeg b18914 ((0 : Int32)).toNatClampNeg ((gi M a1 13)).toNatClampNeg) a0 13 (gi (cpl M b18915 ((0 : Int32)).toNatClampNeg b18914 ((0 : Int32)).toNatClampNeg ((gi M a1 13)).toNatClampNeg) a1 13)) a0 14 (gl (cpl M b18915 ((0 : Int32)).toNatClampNeg b18914 ((0 : Int32)).toNatClampNeg ((gi M a1 13)).toNatClampNeg) a1 14)) a0 15 (gl (sl (si (cpl M b18915 ((0 : Int32)).toNatClampNeg b18914 ((0 : Int32)).toNatClampNeg ((gi M a1 13)).toNatClampNeg) a0 13 (gi (cpl M b18915 ((0 : Int32)).toNatClampNeg b18914 ((0 : Int32)).toNatClampNeg ((gi M a1 13)).toNatClampNeg) a1 13)) a0 14 (gl (cpl M b18915 ((0 : Int32)).toNatClampNeg b18914 ((0 : Int32)).toNatClampNeg ((gi M a1 13)).toNatClampNeg) a1 14)) a1 15)) a1 16)) a1 17)) a1 18))))))))) : Z E YX43_copy d M [(0, vr (some (a0, 7, 0))), (1, vr (some (a1, 7, 0)))] 214 [] Q := by
  refine sX43_copy_214 (d := d) M a0 a1 ?_
  obtain ⟨b18914, m18914, h18914, k⟩ := k
  refine ⟨b18914, m18914, h18914, ?_⟩
  obtain ⟨b18915, m18915, h18915, k⟩ := k
  refine ⟨b18915, m18915, h18915, ?_⟩
  refine zand k (fun h18916 k => ?_)
  refine zand k (fun h18917 k => ?_)
  refine zand k (fun h18918 k => ?_)
  refine sX43_copy_231 (d := d) (cpl M b18915 ((0 : Int32)).toNatClampNeg b18914 ((0 : Int32)).toNatClampNeg ((gi M a1 13)).toNatClampNeg) _ _ ?_
  refine zand k (fun h18919 k => ?_)
  refine ⟨h18919, ?_⟩
  refine ⟨h18919, ?_⟩
  refine ⟨h18919, ?_⟩
  refine ⟨h18919, ?_⟩
  refine ⟨h18919, ?_⟩
  exact k
theorem iX43_renames_50 {E : zE} {d : Nat} {Q : zO → zM → Prop} (M : zM) (a0 : Nat) (a1 : Nat) (na1 : Nat) (a2 : Nat) (na2 : Nat) (l4 : Int32) (l5 : Int32) (l6 : Int32) (l7 : Int64) (s0 : Int64) (s1 : Int32) (p2 : Nat) (np2 : Nat) (k : 16 ≤ p2 ∧ (vp_in s1 np2 ∧ (if (64 : Int32) ≤ l5 then (16 ≤ a1 ∧ (vp_in l6 na1 ∧ (Z E YX43_renames (d + 1) (sl (sl M p2 (s1).toNatClampNeg s0) a1 (l6).toNatClampNeg l7) [(0, vr (some (a0, 7, 0))), (1, vr (some (a1, 105, na1))), (2, vr (some (a2, 105, na2))), (4, vi l4), (5, vi l5), (6, vi (l6 + (1 : Int32)))] 3 [] Q))) else (if (lg_cmp ((zlr l7 l5) &&& (1 : Int64)) (0 : Int64)) = 0 then (16 ≤ a1 ∧ (vp_in l6 na1 ∧ (Z E YX43_renames (d + 1) (sl (sl M p2 (s1).toNatClampNeg s0) a1 (l6).toNatClampNeg l7) [(0, vr (some (a0, 7, 0))), (1, vr (some (a1, 105, na1))), (2, vr (some (a2, 105, na2))), (4, vi l4), (5, vi l5), (6, vi (l6 + (1 : Int32)))] 3 [] Q))) else (if l5 = (63 : Int32) then (16 ≤ a1 ∧ (vp_in l6 na1 ∧ (Z E YX43_renames (d + 1) (sl (sl M p2 (s1).toNatClampNeg s0) a1 (l6).toNatClampNeg ((l7 &&& ((zls (1 : Int64) l5) ^^^ (-1 : Int64))) ||| (0 : Int64))) [(0, vr (some (a0, 7, 0))), (1, vr (some (a1, 105, na1))), (2, vr (some (a2, 105, na2))), (4, vi l4), (5, vi l5), (6, vi (l6 + (1 : Int32)))] 3 [] Q))) else (16 ≤ a1 ∧ (vp_in l6 na1 ∧ (Z E YX43_renames (d + 1) (sl (sl M p2 (s1).toNatClampNeg s0) a1 (l6).toNatClampNeg ((l7 &&& ((zls (1 : Int64) l5) ^^^ (-1 : Int64))) ||| (zls (1 : Int64) (l5 + (1 : Int32))))) [(0, vr (some (a0, 7, 0))), (1, vr (some (a1, 105, na1))), (2, vr (some (a2, 105, na2))), (4, vi l4), (5, vi l5), (6, vi (l6 + (1 : Int32)))] 3 [] Q)))))))) : Z E YX43_renames (d + 1) M [(0, vr (some (a0, 7, 0))), (1, vr (some (a1, 105, na1))), (2, vr (some (a2, 105, na2))), (4, vi l4), (5, vi l5), (6, vi l6), (7, vl l7)] 50 [vl s0, vi s1, vr (some (p2, 105, np2))] Q := by
  refine sX43_renames_50 (d := d) M a0 a1 na1 a2 na2 l4 l5 l6 l7 s0 s1 p2 np2 ?_
  refine zand k (fun h19049 k => ?_)
  refine zand k (fun h19050 k => ?_)
  refine sX43_renamedLow_0 (d := d) (sl M p2 (s1).toNatClampNeg s0) _ l7 l5 ?_
  refine zite k (fun h19051 k => ?_) (fun h19051 k => ?_)
  · show Z E YX43_renames (d + 1) (sl M p2 (s1).toNatClampNeg s0) [(0, vr (some (a0, 7, 0))), (1, vr (some (a1, 105, na1))), (2, vr (some (a2, 105, na2))), (4, vi l4), (5, vi l5), (6, vi l6)] 62 [vl l7, vi l6, vr (some (a1, 105, na1))] Q
    refine sX43_renames_62 (d := d) (sl M p2 (s1).toNatClampNeg s0) _ _ _ _ _ l4 l5 l6 l7 l6 a1 na1 ?_
    exact k
  · refine zite k (fun h19054 k => ?_) (fun h19054 k => ?_)
    · show Z E YX43_renames (d + 1) (sl M p2 (s1).toNatClampNeg s0) [(0, vr (some (a0, 7, 0))), (1, vr (some (a1, 105, na1))), (2, vr (some (a2, 105, na2))), (4, vi l4), (5, vi l5), (6, vi l6)] 62 [vl l7, vi l6, vr (some (a1, 105, na1))] Q
      refine sX43_renames_62 (d := d) (sl M p2 (s1).toNatClampNeg s0) _ _ _ _ _ l4 l5 l6 l7 l6 a1 na1 ?_
      exact k
    · refine zite k (fun h19057 k => ?_) (fun h19057 k => ?_)
      · show Z E YX43_renames (d + 1) (sl M p2 (s1).toNatClampNeg s0) [(0, vr (some (a0, 7, 0))), (1, vr (some (a1, 105, na1))), (2, vr (some (a2, 105, na2))), (4, vi l4), (5, vi l5), (6, vi l6)] 62 [vl ((l7 &&& ((zls (1 : Int64) l5) ^^^ (-1 : Int64))) ||| (0 : Int64)), vi l6, vr (some (a1, 105, na1))] Q
        refine sX43_renames_62 (d := d) (sl M p2 (s1).toNatClampNeg s0) _ _ _ _ _ l4 l5 l6 ((l7 &&& ((zls (1 : Int64) l5) ^^^ (-1 : Int64))) ||| (0 : Int64)) l6 a1 na1 ?_
        exact k
      · show Z E YX43_renames (d + 1) (sl M p2 (s1).toNatClampNeg s0) [(0, vr (some (a0, 7, 0))), (1, vr (some (a1, 105, na1))), (2, vr (some (a2, 105, na2))), (4, vi l4), (5, vi l5), (6, vi l6)] 62 [vl ((l7 &&& ((zls (1 : Int64) l5) ^^^ (-1 : Int64))) ||| (zls (1 : Int64) (l5 + (1 : Int32)))), vi l6, vr (some (a1, 105, na1))] Q
        refine sX43_renames_62 (d := d) (sl M p2 (s1).toNatClampNeg s0) _ _ _ _ _ l4 l5 l6 ((l7 &&& ((zls (1 : Int64) l5) ^^^ (-1 : Int64))) ||| (zls (1 : Int64) (l5 + (1 : Int32)))) l6 a1 na1 ?_
        exact k
theorem iX1_added_0 {E : zE} {d : Nat} {Q : zO → zM → Prop} (M : zM) (r1 : Option zP) (l2 : Int32) (l3 : Int32) (hw : cw M) (k : ∃ b19062 : Nat, r1 = some (b19062, 7, 0) ∧ (∃ b19063 m19063 : Nat, (gr M b19062 8) = some (b19063, 104, m19063) ∧ (16 ≤ b19063 ∧ (vp_in l2 m19063 ∧ (∃ b19066 m19066 : Nat, (gr M b19062 4) = some (b19066, 105, m19066) ∧ (vp_in l2 m19066 ∧ (16 ≤ b19066 ∧ (Z E YX1_added (d + 1) (sl (si M b19063 (l2).toNatClampNeg (vp_nar .boolean (1 : Int32))) b19066 (l2).toNatClampNeg ((gl M b19066 (l2).toNatClampNeg) ||| (zls (1 : Int64) l3))) [(0, vr (some (16, 0, 0))), (1, vr (some (b19062, 7, 0))), (2, vi l2), (4, vi (0 : Int32))] 22 [] Q)))))))) : Z E YX1_added (d + 1) M [(0, vr (some (16, 0, 0))), (1, vr r1), (2, vi l2), (3, vi l3)] 0 [] Q := by
  refine sX1_added_0 (d := d) M r1 l2 l3 hw ?_
  obtain ⟨b19062, h19062, k⟩ := k
  refine ⟨b19062, h19062, ?_⟩
  obtain ⟨b19063, m19063, h19063, k⟩ := k
  refine ⟨b19063, m19063, h19063, ?_⟩
  refine zand k (fun h19064 k => ?_)
  refine zand k (fun h19065 k => ?_)
  obtain ⟨b19066, m19066, h19066, k⟩ := k
  refine ⟨b19066, m19066, h19066, ?_⟩
  refine zand k (fun h19067 k => ?_)
  refine zand k (fun h19068 k => ?_)
  refine ⟨h19067, ?_⟩
  exact k
theorem iX1_added_22 {E : zE} {d : Nat} {Q : zO → zM → Prop} (M : zM) (a1 : Nat) (l2 : Int32) (l4 : Int32) (hw : cw M) (k : if (gi M 16 1) < l4 then (Q (.inl none) M) else (∃ b19070 : Nat, (gr M a1 0) = some (b19070, 0, 0) ∧ (∃ b19071 m19071 : Nat, (gr M a1 3) = some (b19071, 105, m19071) ∧ (vp_in ((l2 * ((gi M b19070 1) + (1 : Int32))) + l4) m19071 ∧ (16 ≤ b19071 ∧ (Z E YX1_added (d + 1) (sl M b19071 (((l2 * ((gi M b19070 1) + (1 : Int32))) + l4)).toNatClampNeg ((gl M b19071 (((l2 * ((gi M b19070 1) + (1 : Int32))) + l4)).toNatClampNeg) ||| (512 : Int64))) [(0, vr (some (16, 0, 0))), (1, vr (some (a1, 7, 0))), (2, vi l2), (4, vi (l4 + (1 : Int32)))] 22 [] Q)))))) : Z E YX1_added (d + 1) M [(0, vr (some (16, 0, 0))), (1, vr (some (a1, 7, 0))), (2, vi l2), (4, vi l4)] 22 [] Q := by
  refine sX1_added_22 (d := d) M a1 l2 l4 hw ?_
  refine zite k (fun h19069 k => ?_) (fun h19069 k => ?_)
  · exact k
  · refine sX43_cell_0 (d := d) M a1 l2 l4 ?_
    obtain ⟨b19070, h19070, k⟩ := k
    refine ⟨b19070, h19070, ?_⟩
    show Z E YX1_added (d + 1) M [(0, vr (some (16, 0, 0))), (1, vr (some (a1, 7, 0))), (2, vi l2), (4, vi l4)] 42 [vi ((l2 * ((gi M b19070 1) + (1 : Int32))) + l4), vr (gr M a1 3)] Q
    refine sX1_added_42 (d := d) M _ l2 l4 ((l2 * ((gi M b19070 1) + (1 : Int32))) + l4) (gr M a1 3) hw ?_
    obtain ⟨b19071, m19071, h19071, k⟩ := k
    refine ⟨b19071, m19071, h19071, ?_⟩
    refine zand k (fun h19072 k => ?_)
    refine zand k (fun h19073 k => ?_)
    refine ⟨h19072, ?_⟩
    exact k
theorem iX1_deletes_23 {E : zE} {d : Nat} {Q : zO → zM → Prop} (M : zM) (u0 : Option zP) (hw : cw M) (k : if (lg_cmp ((gl M 71 2) &&& ((3 : Int32)).toInt64) (0 : Int64)) = 0 then (if (lg_cmp (gl M 71 0) (0 : Int64)) = 0 then (if (lg_cmp (gl M 71 1) (0 : Int64)) = 0 then (if (lg_cmp ((gl M 71 2) &&& (508 : Int64)) (0 : Int64)) = 0 then (Q (.inl none) M) else (Z E YX1_keys d M (zargs 0 [vr (some (16, 0, 0)), vr (some (72, 4, 0))]) 0 [] (zafter E YX1_deletes (d + 1) [(0, vr (some (16, 0, 0)))] 76 3 [] Q))) else (Z E YX1_keys d M (zargs 0 [vr (some (16, 0, 0)), vr (some (72, 4, 0))]) 0 [] (zafter E YX1_deletes (d + 1) [(0, vr (some (16, 0, 0)))] 76 3 [] Q))) else (Z E YX1_keys d M (zargs 0 [vr (some (16, 0, 0)), vr (some (72, 4, 0))]) 0 [] (zafter E YX1_deletes (d + 1) [(0, vr (some (16, 0, 0)))] 76 3 [] Q))) else (Z E YX1_errs d M (zargs 0 [vr (some (16, 0, 0)), vr (gr M 16 60), vi (0 : Int32)]) 0 [] (zafter E YX1_deletes (d + 1) [(0, vr (some (16, 0, 0)))] 41 3 [] Q))) : Z E YX1_deletes (d + 1) M [(0, vr (some (16, 0, 0)))] 23 [vr u0] Q := by
  refine sX1_deletes_23 (d := d) M u0 hw ?_
  refine sX6_has_0 (d := d) M 71 (3 : Int32) ?_
  refine zite k (fun h19076 k => ?_) (fun h19076 k => ?_)
  · show Z E YX1_deletes (d + 1) M [(0, vr (some (16, 0, 0)))] 32 [vi (0 : Int32)] Q
    refine sX1_deletes_32 (d := d) M (0 : Int32) hw ?_
    refine zpos (show (0 : Int32) = 0 from by decide) ?_
    refine sX1_deletes_44 (d := d) M hw ?_
    refine sX6_hasLabels_0 (d := d) M 71 ?_
    refine zite k (fun h19077 k => ?_) (fun h19077 k => ?_)
    · refine zite k (fun h19078 k => ?_) (fun h19078 k => ?_)
      · show Z E YX1_deletes (d + 1) M [(0, vr (some (16, 0, 0)))] 51 [vi (0 : Int32)] Q
        refine sX1_deletes_51 (d := d) M (0 : Int32) hw ?_
        refine zpos (show (0 : Int32) = 0 from by decide) ?_
        exact k
      · show Z E YX1_deletes (d + 1) M [(0, vr (some (16, 0, 0)))] 51 [vi (1 : Int32)] Q
        refine sX1_deletes_51 (d := d) M (1 : Int32) hw ?_
        refine zneg (show ¬ ((1 : Int32) = 0) from by decide) ?_
        exact k
    · show Z E YX1_deletes (d + 1) M [(0, vr (some (16, 0, 0)))] 51 [vi (1 : Int32)] Q
      refine sX1_deletes_51 (d := d) M (1 : Int32) hw ?_
      refine zneg (show ¬ ((1 : Int32) = 0) from by decide) ?_
      exact k
  · show Z E YX1_deletes (d + 1) M [(0, vr (some (16, 0, 0)))] 32 [vi (1 : Int32)] Q
    refine sX1_deletes_32 (d := d) M (1 : Int32) hw ?_
    refine zneg (show ¬ ((1 : Int32) = 0) from by decide) ?_
    exact k
theorem iX1_deletes_44 {E : zE} {d : Nat} {Q : zO → zM → Prop} (M : zM) (hw : cw M) (k : if (lg_cmp (gl M 71 0) (0 : Int64)) = 0 then (if (lg_cmp (gl M 71 1) (0 : Int64)) = 0 then (if (lg_cmp ((gl M 71 2) &&& (508 : Int64)) (0 : Int64)) = 0 then (Q (.inl none) M) else (Z E YX1_keys d M (zargs 0 [vr (some (16, 0, 0)), vr (some (72, 4, 0))]) 0 [] (zafter E YX1_deletes (d + 1) [(0, vr (some (16, 0, 0)))] 76 3 [] Q))) else (Z E YX1_keys d M (zargs 0 [vr (some (16, 0, 0)), vr (some (72, 4, 0))]) 0 [] (zafter E YX1_deletes (d + 1) [(0, vr (some (16, 0, 0)))] 76 3 [] Q))) else (Z E YX1_keys d M (zargs 0 [vr (some (16, 0, 0)), vr (some (72, 4, 0))]) 0 [] (zafter E YX1_deletes (d + 1) [(0, vr (some (16, 0, 0)))] 76 3 [] Q))) : Z E YX1_deletes (d + 1) M [(0, vr (some (16, 0, 0)))] 44 [] Q := by
  refine sX1_deletes_44 (d := d) M hw ?_
  refine sX6_hasLabels_0 (d := d) M 71 ?_
  refine zite k (fun h19133 k => ?_) (fun h19133 k => ?_)
  · refine zite k (fun h19134 k => ?_) (fun h19134 k => ?_)
    · show Z E YX1_deletes (d + 1) M [(0, vr (some (16, 0, 0)))] 51 [vi (0 : Int32)] Q
      refine sX1_deletes_51 (d := d) M (0 : Int32) hw ?_
      refine zpos (show (0 : Int32) = 0 from by decide) ?_
      exact k
    · show Z E YX1_deletes (d + 1) M [(0, vr (some (16, 0, 0)))] 51 [vi (1 : Int32)] Q
      refine sX1_deletes_51 (d := d) M (1 : Int32) hw ?_
      refine zneg (show ¬ ((1 : Int32) = 0) from by decide) ?_
      exact k
  · show Z E YX1_deletes (d + 1) M [(0, vr (some (16, 0, 0)))] 51 [vi (1 : Int32)] Q
    refine sX1_deletes_51 (d := d) M (1 : Int32) hw ?_
    refine zneg (show ¬ ((1 : Int32) = 0) from by decide) ?_
    exact k
theorem iX1_deletes_106 {E : zE} {d : Nat} {Q : zO → zM → Prop} (M : zM) (l1 : Int32) (s0 : Int32) (hw : cw M) (k : if (lg_cmp ((gl M 71 0) &&& (gl M 16 71)) (0 : Int64)) = 0 then (if (lg_cmp ((gl M 71 1) &&& (gl M 16 72)) (0 : Int64)) = 0 then (if l1 = 0 then (Z E YX1_onlyKey d M (zargs 0 [vr (some (16, 0, 0))]) 0 [] (zafter E YX1_deletes (d + 1) [(0, vr (some (16, 0, 0))), (1, vi l1), (2, vi s0), (3, vi (0 : Int32)), (4, vi (-1 : Int32))] 151 3 [] Q)) else (Z E YX1_onlySingle d M (zargs 0 [vl (gl M 71 0), vl (gl M 71 1)]) 0 [] (zafter E YX1_deletes (d + 1) [(0, vr (some (16, 0, 0))), (1, vi l1), (2, vi s0), (3, vi (0 : Int32))] 141 3 [] Q))) else (if l1 = 0 then (Z E YX1_onlyKey d M (zargs 0 [vr (some (16, 0, 0))]) 0 [] (zafter E YX1_deletes (d + 1) [(0, vr (some (16, 0, 0))), (1, vi l1), (2, vi s0), (3, vi (1 : Int32)), (4, vi (-1 : Int32))] 151 3 [] Q)) else (Z E YX1_onlySingle d M (zargs 0 [vl (gl M 71 0), vl (gl M 71 1)]) 0 [] (zafter E YX1_deletes (d + 1) [(0, vr (some (16, 0, 0))), (1, vi l1), (2, vi s0), (3, vi (1 : Int32))] 141 3 [] Q)))) else (if l1 = 0 then (Z E YX1_onlyKey d M (zargs 0 [vr (some (16, 0, 0))]) 0 [] (zafter E YX1_deletes (d + 1) [(0, vr (some (16, 0, 0))), (1, vi l1), (2, vi s0), (3, vi (1 : Int32)), (4, vi (-1 : Int32))] 151 3 [] Q)) else (Z E YX1_onlySingle d M (zargs 0 [vl (gl M 71 0), vl (gl M 71 1)]) 0 [] (zafter E YX1_deletes (d + 1) [(0, vr (some (16, 0, 0))), (1, vi l1), (2, vi s0), (3, vi (1 : Int32))] 141 3 [] Q)))) : Z E YX1_deletes (d + 1) M [(0, vr (some (16, 0, 0))), (1, vi l1)] 106 [vi s0] Q := by
  refine sX1_deletes_106 (d := d) M l1 s0 hw ?_
  refine sX6_meets_0 (d := d) M 71 (gl M 16 71) (gl M 16 72) ?_
  refine zite k (fun h19136 k => ?_) (fun h19136 k => ?_)
  · refine zite k (fun h19137 k => ?_) (fun h19137 k => ?_)
    · show Z E YX1_deletes (d + 1) M [(0, vr (some (16, 0, 0))), (1, vi l1), (2, vi s0)] 122 [vi (0 : Int32)] Q
      refine sX1_deletes_122 (d := d) M l1 s0 (0 : Int32) hw ?_
      exact k
    · show Z E YX1_deletes (d + 1) M [(0, vr (some (16, 0, 0))), (1, vi l1), (2, vi s0)] 122 [vi (1 : Int32)] Q
      refine sX1_deletes_122 (d := d) M l1 s0 (1 : Int32) hw ?_
      exact k
  · show Z E YX1_deletes (d + 1) M [(0, vr (some (16, 0, 0))), (1, vi l1), (2, vi s0)] 122 [vi (1 : Int32)] Q
    refine sX1_deletes_122 (d := d) M l1 s0 (1 : Int32) hw ?_
    exact k
theorem iX1_deletes_159 {E : zE} {d : Nat} {Q : zO → zM → Prop} (M : zM) (l1 : Int32) (l2 : Int32) (l3 : Int32) (l4 : Int32) (l5 : Int32) (l6 : Int32) (hw : cw M) (k : if (gi M 16 11) ≤ l6 then (if l1 = 0 then (Z E YX1_deletes (d + 1) M [(2, vi l2), (3, vi l3)] 376 [vl (4 : Int64), vr (some (74, 4, 0)), vr (some (16, 0, 0))] Q) else (if (lg_cmp ((gl M 71 2) &&& (511 : Int64)) (0 : Int64)) = 0 then (if (lg_cmp ((gl M 71 0) &&& ((gl M 16 71) ^^^ (-1 : Int64))) (0 : Int64)) = 0 then (if (lg_cmp ((gl M 71 1) &&& ((gl M 16 72) ^^^ (-1 : Int64))) (0 : Int64)) = 0 then (if l5 = 0 then (Z E YX1_deletes (d + 1) M [(2, vi l2), (3, vi l3)] 376 [vl (0 : Int64), vr (some (74, 4, 0)), vr (some (16, 0, 0))] Q) else (Z E YX1_deletes (d + 1) M [(2, vi l2), (3, vi l3)] 376 [vl (4 : Int64), vr (some (74, 4, 0)), vr (some (16, 0, 0))] Q)) else (Z E YX1_deletes (d + 1) M [(2, vi l2), (3, vi l3)] 376 [vl (4 : Int64), vr (some (74, 4, 0)), vr (some (16, 0, 0))] Q)) else (Z E YX1_deletes (d + 1) M [(2, vi l2), (3, vi l3)] 376 [vl (4 : Int64), vr (some (74, 4, 0)), vr (some (16, 0, 0))] Q)) else (Z E YX1_deletes (d + 1) M [(2, vi l2), (3, vi l3)] 376 [vl (4 : Int64), vr (some (74, 4, 0)), vr (some (16, 0, 0))] Q))) else (if (64 : Int32) ≤ l6 then (∀ x1_v16398v19148 : Int64, x1_v16398v19148 = (zls (zlr (gl M 71 1) (l6 - (64 : Int32))) (63 : Int32)) → (if (lg_cmp x1_v16398v19148 (0 : Int64)) = 0 then (Z E YX1_deletes (d + 1) M [(0, vr (some (16, 0, 0))), (1, vi l1), (2, vi l2), (3, vi l3), (4, vi l4), (5, vi l5), (6, vi (l6 + (1 : Int32)))] 159 [] Q) else (∃ b19150 : Nat, (gr M 16 60) = some (b19150, 7, 0) ∧ (∃ b19151 m19151 : Nat, (gr M b19150 8) = some (b19151, 104, m19151) ∧ (vp_in l6 m19151 ∧ (if (gi M b19151 (l6).toNatClampNeg) = 0 then (Z E YX1_deletes (d + 1) M [(0, vr (some (16, 0, 0))), (1, vi l1), (2, vi l2), (3, vi l3), (4, vi l4), (5, vi l5), (6, vi (l6 + (1 : Int32)))] 159 [] Q) else (Z E YX1_deletes (d + 1) M [(0, vr (some (16, 0, 0))), (1, vi l1), (2, vi l2), (3, vi l3), (4, vi l4), (5, vi l5), (6, vi l6), (7, vi (0 : Int32))] 209 [] Q))))))) else (∀ x1_v16400v19154 : Int64, x1_v16400v19154 = (zls (zlr (gl M 71 0) l6) (63 : Int32)) → (if (lg_cmp x1_v16400v19154 (0 : Int64)) = 0 then (Z E YX1_deletes (d + 1) M [(0, vr (some (16, 0, 0))), (1, vi l1), (2, vi l2), (3, vi l3), (4, vi l4), (5, vi l5), (6, vi (l6 + (1 : Int32)))] 159 [] Q) else (∃ b19156 : Nat, (gr M 16 60) = some (b19156, 7, 0) ∧ (∃ b19157 m19157 : Nat, (gr M b19156 8) = some (b19157, 104, m19157) ∧ (vp_in l6 m19157 ∧ (if (gi M b19157 (l6).toNatClampNeg) = 0 then (Z E YX1_deletes (d + 1) M [(0, vr (some (16, 0, 0))), (1, vi l1), (2, vi l2), (3, vi l3), (4, vi l4), (5, vi l5), (6, vi (l6 + (1 : Int32)))] 159 [] Q) else (Z E YX1_deletes (d + 1) M [(0, vr (some (16, 0, 0))), (1, vi l1), (2, vi l2), (3, vi l3), (4, vi l4), (5, vi l5), (6, vi l6), (7, vi (0 : Int32))] 209 [] Q))))))))) : Z E YX1_deletes (d + 1) M [(0, vr (some (16, 0, 0))), (1, vi l1), (2, vi l2), (3, vi l3), (4, vi l4), (5, vi l5), (6, vi l6)] 159 [] Q := by
  refine sX1_deletes_159 (d := d) M l1 l2 l3 l4 l5 l6 hw ?_
  refine zite k (fun h19141 k => ?_) (fun h19141 k => ?_)
  · refine zite k (fun h19142 k => ?_) (fun h19142 k => ?_)
    · refine sX1_deletes_357 (d := d) M l2 l3 (0 : Int32) hw ?_
      refine zpos (show (0 : Int32) = 0 from by decide) ?_
      exact k
    · refine sX6_hasOnly_0 (d := d) M 71 (gl M 16 71) (gl M 16 72) ?_
      refine zite k (fun h19143 k => ?_) (fun h19143 k => ?_)
      · refine zite k (fun h19144 k => ?_) (fun h19144 k => ?_)
        · refine zite k (fun h19145 k => ?_) (fun h19145 k => ?_)
          · show Z E YX1_deletes (d + 1) M [(0, vr (some (16, 0, 0))), (2, vi l2), (3, vi l3), (5, vi l5)] 344 [vi (1 : Int32)] Q
            refine sX1_deletes_344 (d := d) M l2 l3 l5 (1 : Int32) hw ?_
            refine zneg (show ¬ ((1 : Int32) = 0) from by decide) ?_
            refine zite k (fun h19146 k => ?_) (fun h19146 k => ?_)
            · refine sX1_deletes_357 (d := d) M l2 l3 (1 : Int32) hw ?_
              refine zneg (show ¬ ((1 : Int32) = 0) from by decide) ?_
              exact k
            · refine sX1_deletes_357 (d := d) M l2 l3 (0 : Int32) hw ?_
              refine zpos (show (0 : Int32) = 0 from by decide) ?_
              exact k
          · show Z E YX1_deletes (d + 1) M [(0, vr (some (16, 0, 0))), (2, vi l2), (3, vi l3), (5, vi l5)] 344 [vi (0 : Int32)] Q
            refine sX1_deletes_344 (d := d) M l2 l3 l5 (0 : Int32) hw ?_
            refine zpos (show (0 : Int32) = 0 from by decide) ?_
            refine sX1_deletes_357 (d := d) M l2 l3 (0 : Int32) hw ?_
            refine zpos (show (0 : Int32) = 0 from by decide) ?_
            exact k
        · show Z E YX1_deletes (d + 1) M [(0, vr (some (16, 0, 0))), (2, vi l2), (3, vi l3), (5, vi l5)] 344 [vi (0 : Int32)] Q
          refine sX1_deletes_344 (d := d) M l2 l3 l5 (0 : Int32) hw ?_
          refine zpos (show (0 : Int32) = 0 from by decide) ?_
          refine sX1_deletes_357 (d := d) M l2 l3 (0 : Int32) hw ?_
          refine zpos (show (0 : Int32) = 0 from by decide) ?_
          exact k
      · show Z E YX1_deletes (d + 1) M [(0, vr (some (16, 0, 0))), (2, vi l2), (3, vi l3), (5, vi l5)] 344 [vi (0 : Int32)] Q
        refine sX1_deletes_344 (d := d) M l2 l3 l5 (0 : Int32) hw ?_
        refine zpos (show (0 : Int32) = 0 from by decide) ?_
        refine sX1_deletes_357 (d := d) M l2 l3 (0 : Int32) hw ?_
        refine zpos (show (0 : Int32) = 0 from by decide) ?_
        exact k
  · refine jX1_in (d := d) M l6 (gl M 71 0) (gl M 71 1) hw ?_
    refine zite k (fun h19147 k => ?_) (fun h19147 k => ?_)
    · intro x1_v16398v19148 h19148
      have k := k x1_v16398v19148 h19148
      refine zite k (fun h19149 k => ?_) (fun h19149 k => ?_)
      · show Z E YX1_deletes (d + 1) M [(0, vr (some (16, 0, 0))), (1, vi l1), (2, vi l2), (3, vi l3), (4, vi l4), (5, vi l5), (6, vi l6)] 187 [vi (0 : Int32)] Q
        refine sX1_deletes_187 (d := d) M l1 l2 l3 l4 l5 l6 (0 : Int32) hw ?_
        refine zpos (show (0 : Int32) = 0 from by decide) ?_
        exact k
      · show Z E YX1_deletes (d + 1) M [(0, vr (some (16, 0, 0))), (1, vi l1), (2, vi l2), (3, vi l3), (4, vi l4), (5, vi l5), (6, vi l6)] 187 [vi (1 : Int32)] Q
        refine sX1_deletes_187 (d := d) M l1 l2 l3 l4 l5 l6 (1 : Int32) hw ?_
        refine zneg (show ¬ ((1 : Int32) = 0) from by decide) ?_
        exact k
    · intro x1_v16400v19154 h19154
      have k := k x1_v16400v19154 h19154
      refine zite k (fun h19155 k => ?_) (fun h19155 k => ?_)
      · show Z E YX1_deletes (d + 1) M [(0, vr (some (16, 0, 0))), (1, vi l1), (2, vi l2), (3, vi l3), (4, vi l4), (5, vi l5), (6, vi l6)] 187 [vi (0 : Int32)] Q
        refine sX1_deletes_187 (d := d) M l1 l2 l3 l4 l5 l6 (0 : Int32) hw ?_
        refine zpos (show (0 : Int32) = 0 from by decide) ?_
        exact k
      · show Z E YX1_deletes (d + 1) M [(0, vr (some (16, 0, 0))), (1, vi l1), (2, vi l2), (3, vi l3), (4, vi l4), (5, vi l5), (6, vi l6)] 187 [vi (1 : Int32)] Q
        refine sX1_deletes_187 (d := d) M l1 l2 l3 l4 l5 l6 (1 : Int32) hw ?_
        refine zneg (show ¬ ((1 : Int32) = 0) from by decide) ?_
        exact k
theorem iX1_deletes_376 {E : zE} {d : Nat} {Q : zO → zM → Prop} (M : zM) (l2 : Int32) (l3 : Int32) (s0 : Int64) (hw : cw M) (k : if l3 = 0 then (16 ≤ 74 ∧ (Z E YX1_nextWith d (sl (sl (sl M 74 0 (0 : Int64)) 74 1 (0 : Int64)) 74 2 (s0 ||| ((0 : Int32)).toInt64)) (zargs 0 [vr (some (16, 0, 0)), vr (some (74, 4, 0))]) 0 [] (zafter E YX1_deletes (d + 1) [] 395 3 [] Q))) else (if l2 = 0 then (16 ≤ 74 ∧ (Z E YX1_nextWith d (sl (sl (sl M 74 0 (0 : Int64)) 74 1 (0 : Int64)) 74 2 (s0 ||| ((0 : Int32)).toInt64)) (zargs 0 [vr (some (16, 0, 0)), vr (some (74, 4, 0))]) 0 [] (zafter E YX1_deletes (d + 1) [] 395 3 [] Q))) else (16 ≤ 74 ∧ (Z E YX1_nextWith d (sl (sl (sl M 74 0 (0 : Int64)) 74 1 (0 : Int64)) 74 2 (s0 ||| ((8 : Int32)).toInt64)) (zargs 0 [vr (some (16, 0, 0)), vr (some (74, 4, 0))]) 0 [] (zafter E YX1_deletes (d + 1) [] 395 3 [] Q))))) : Z E YX1_deletes (d + 1) M [(2, vi l2), (3, vi l3)] 376 [vl s0, vr (some (74, 4, 0)), vr (some (16, 0, 0))] Q := by
  refine sX1_deletes_376 (d := d) M l2 l3 s0 hw ?_
  refine zite k (fun h19160 k => ?_) (fun h19160 k => ?_)
  · refine jX6_of (d := d) M 74 (s0 ||| ((0 : Int32)).toInt64) ?_
    refine zand k (fun h19161 k => ?_)
    show Z E YX1_deletes (d + 1) (sl (sl (sl M 74 0 (0 : Int64)) 74 1 (0 : Int64)) 74 2 (s0 ||| ((0 : Int32)).toInt64)) [] 395 [vr (some (74, 4, 0)), vr (some (16, 0, 0))] Q
    refine sX1_deletes_395 (d := d) (sl (sl (sl M 74 0 (0 : Int64)) 74 1 (0 : Int64)) 74 2 (s0 ||| ((0 : Int32)).toInt64)) (some (74, 4, 0)) hw ?_
    exact k
  · refine zite k (fun h19162 k => ?_) (fun h19162 k => ?_)
    · refine jX6_of (d := d) M 74 (s0 ||| ((0 : Int32)).toInt64) ?_
      refine zand k (fun h19163 k => ?_)
      show Z E YX1_deletes (d + 1) (sl (sl (sl M 74 0 (0 : Int64)) 74 1 (0 : Int64)) 74 2 (s0 ||| ((0 : Int32)).toInt64)) [] 395 [vr (some (74, 4, 0)), vr (some (16, 0, 0))] Q
      refine sX1_deletes_395 (d := d) (sl (sl (sl M 74 0 (0 : Int64)) 74 1 (0 : Int64)) 74 2 (s0 ||| ((0 : Int32)).toInt64)) (some (74, 4, 0)) hw ?_
      exact k
    · refine jX6_of (d := d) M 74 (s0 ||| ((8 : Int32)).toInt64) ?_
      refine zand k (fun h19164 k => ?_)
      show Z E YX1_deletes (d + 1) (sl (sl (sl M 74 0 (0 : Int64)) 74 1 (0 : Int64)) 74 2 (s0 ||| ((8 : Int32)).toInt64)) [] 395 [vr (some (74, 4, 0)), vr (some (16, 0, 0))] Q
      refine sX1_deletes_395 (d := d) (sl (sl (sl M 74 0 (0 : Int64)) 74 1 (0 : Int64)) 74 2 (s0 ||| ((8 : Int32)).toInt64)) (some (74, 4, 0)) hw ?_
      exact k
theorem iX1_deletes_224 {E : zE} {d : Nat} {Q : zO → zM → Prop} (M : zM) (l1 : Int32) (l2 : Int32) (l3 : Int32) (l4 : Int32) (l5 : Int32) (l6 : Int32) (l7 : Int32) (s0 : Int32) (hw : cw M) (k : if s0 = 0 then (Z E YX1_deletes ((d + 1) + 1) M [(0, vr (some (16, 0, 0))), (1, vi l1), (2, vi l2), (3, vi l3), (4, vi l4), (5, vi l5), (6, vi l6), (7, vi (l7 + (1 : Int32)))] 209 [] Q) else (if l7 = 0 then (Z E YX1_in (d + 1) M (zargs 0 [vi l6, vl (gl M 16 71), vl (gl M 16 72)]) 0 [] (zafter E YX1_deletes ((d + 1) + 1) [(0, vr (some (16, 0, 0))), (1, vi l1), (2, vi l2), (3, vi l3), (4, vi l4), (5, vi l5), (6, vi l6), (7, vi l7)] 242 3 [] Q)) else (∃ b19450 : Nat, (gr M 16 60) = some (b19450, 7, 0) ∧ (∃ b19451 : Nat, (gr M b19450 0) = some (b19451, 0, 0) ∧ (if l6 = l4 then (if l7 = l5 then (∃ b19454 m19454 : Nat, (gr M b19450 1) = some (b19454, 105, m19454) ∧ (16 ≤ b19454 ∧ (vp_in ((l6 * ((gi M b19451 1) + (1 : Int32))) + l7) m19454 ∧ (∃ b19457 m19457 : Nat, (gr M b19450 2) = some (b19457, 105, m19457) ∧ (16 ≤ b19457 ∧ (vp_in ((l6 * ((gi M b19451 1) + (1 : Int32))) + l7) m19457 ∧ (∃ b19460 m19460 : Nat, (gr M b19450 3) = some (b19460, 105, m19460) ∧ (16 ≤ b19460 ∧ (vp_in ((l6 * ((gi M b19451 1) + (1 : Int32))) + l7) m19460 ∧ (Z E YX1_deletes ((d + 1) + 1) (sl (sl (sl M b19454 (((l6 * ((gi M b19451 1) + (1 : Int32))) + l7)).toNatClampNeg (0 : Int64)) b19457 (((l6 * ((gi M b19451 1) + (1 : Int32))) + l7)).toNatClampNeg (0 : Int64)) b19460 (((l6 * ((gi M b19451 1) + (1 : Int32))) + l7)).toNatClampNeg (512 : Int64)) [(0, vr (some (16, 0, 0))), (1, vi l1), (2, vi l2), (3, vi l3), (4, vi l4), (5, vi l5), (6, vi l6), (7, vi (l7 + (1 : Int32)))] 209 [] Q)))))))))) else (∃ b19463 m19463 : Nat, (gr M b19450 3) = some (b19463, 105, m19463) ∧ (vp_in ((l6 * ((gi M b19451 1) + (1 : Int32))) + l7) m19463 ∧ (16 ≤ b19463 ∧ (Z E YX1_deletes ((d + 1) + 1) (sl M b19463 (((l6 * ((gi M b19451 1) + (1 : Int32))) + l7)).toNatClampNeg ((gl M b19463 (((l6 * ((gi M b19451 1) + (1 : Int32))) + l7)).toNatClampNeg) ||| (512 : Int64))) [(0, vr (some (16, 0, 0))), (1, vi l1), (2, vi l2), (3, vi l3), (4, vi l4), (5, vi l5), (6, vi l6), (7, vi (l7 + (1 : Int32)))] 209 [] Q))))) else (∃ b19466 m19466 : Nat, (gr M b19450 3) = some (b19466, 105, m19466) ∧ (vp_in ((l6 * ((gi M b19451 1) + (1 : Int32))) + l7) m19466 ∧ (16 ≤ b19466 ∧ (Z E YX1_deletes ((d + 1) + 1) (sl M b19466 (((l6 * ((gi M b19451 1) + (1 : Int32))) + l7)).toNatClampNeg ((gl M b19466 (((l6 * ((gi M b19451 1) + (1 : Int32))) + l7)).toNatClampNeg) ||| (512 : Int64))) [(0, vr (some (16, 0, 0))), (1, vi l1), (2, vi l2), (3, vi l3), (4, vi l4), (5, vi l5), (6, vi l6), (7, vi (l7 + (1 : Int32)))] 209 [] Q))))))))) : Z E YX1_deletes (d + 2) M [(0, vr (some (16, 0, 0))), (1, vi l1), (2, vi l2), (3, vi l3), (4, vi l4), (5, vi l5), (6, vi l6), (7, vi l7)] 224 [vi s0] Q := by
  refine sX1_deletes_224 (d := (d + 1)) M l1 l2 l3 l4 l5 l6 l7 s0 hw ?_
  refine zite k (fun h19448 k => ?_) (fun h19448 k => ?_)
  · exact k
  · refine zite k (fun h19449 k => ?_) (fun h19449 k => ?_)
    · exact k
    · obtain ⟨b19450, h19450, k⟩ := k
      refine ⟨b19450, h19450, ?_⟩
      refine sX43_cell_0 (d := (d + 1)) M b19450 l6 l7 ?_
      obtain ⟨b19451, h19451, k⟩ := k
      refine ⟨b19451, h19451, ?_⟩
      show Z E YX1_deletes ((d + 1) + 1) M [(0, vr (some (16, 0, 0))), (1, vi l1), (2, vi l2), (3, vi l3), (4, vi l4), (5, vi l5), (6, vi l6), (7, vi l7)] 262 [vi ((l6 * ((gi M b19451 1) + (1 : Int32))) + l7)] Q
      refine sX1_deletes_262 (d := (d + 1)) M l1 l2 l3 l4 l5 l6 l7 ((l6 * ((gi M b19451 1) + (1 : Int32))) + l7) hw ?_
      refine zite k (fun h19452 k => ?_) (fun h19452 k => ?_)
      · refine zite k (fun h19453 k => ?_) (fun h19453 k => ?_)
        · refine ⟨b19450, h19450, ?_⟩
          refine jX43_put (d := d) M b19450 l6 l7 (0 : Int64) (0 : Int64) (512 : Int64) ?_
          refine ⟨b19451, h19451, ?_⟩
          obtain ⟨b19454, m19454, h19454, k⟩ := k
          refine ⟨b19454, m19454, h19454, ?_⟩
          refine zand k (fun h19455 k => ?_)
          refine zand k (fun h19456 k => ?_)
          obtain ⟨b19457, m19457, h19457, k⟩ := k
          refine ⟨b19457, m19457, h19457, ?_⟩
          refine zand k (fun h19458 k => ?_)
          refine zand k (fun h19459 k => ?_)
          obtain ⟨b19460, m19460, h19460, k⟩ := k
          refine ⟨b19460, m19460, h19460, ?_⟩
          refine zand k (fun h19461 k => ?_)
          refine zand k (fun h19462 k => ?_)
          show Z E YX1_deletes ((d + 1) + 1) (sl (sl (sl M b19454 (((l6 * ((gi M b19451 1) + (1 : Int32))) + l7)).toNatClampNeg (0 : Int64)) b19457 (((l6 * ((gi M b19451 1) + (1 : Int32))) + l7)).toNatClampNeg (0 : Int64)) b19460 (((l6 * ((gi M b19451 1) + (1 : Int32))) + l7)).toNatClampNeg (512 : Int64)) [(0, vr (some (16, 0, 0))), (1, vi l1), (2, vi l2), (3, vi l3), (4, vi l4), (5, vi l5), (6, vi l6), (7, vi l7)] 294 [] Q
          refine sX1_deletes_294 (d := (d + 1)) (sl (sl (sl M b19454 (((l6 * ((gi M b19451 1) + (1 : Int32))) + l7)).toNatClampNeg (0 : Int64)) b19457 (((l6 * ((gi M b19451 1) + (1 : Int32))) + l7)).toNatClampNeg (0 : Int64)) b19460 (((l6 * ((gi M b19451 1) + (1 : Int32))) + l7)).toNatClampNeg (512 : Int64)) l1 l2 l3 l4 l5 l6 l7 hw ?_
          exact k
        · refine sX1_deletes_297 (d := (d + 1)) M l1 l2 l3 l4 l5 l6 l7 ((l6 * ((gi M b19451 1) + (1 : Int32))) + l7) hw ?_
          refine ⟨b19450, h19450, ?_⟩
          obtain ⟨b19463, m19463, h19463, k⟩ := k
          refine ⟨b19463, m19463, h19463, ?_⟩
          refine zand k (fun h19464 k => ?_)
          refine zand k (fun h19465 k => ?_)
          refine ⟨h19464, ?_⟩
          exact k
      · refine sX1_deletes_297 (d := (d + 1)) M l1 l2 l3 l4 l5 l6 l7 ((l6 * ((gi M b19451 1) + (1 : Int32))) + l7) hw ?_
        refine ⟨b19450, h19450, ?_⟩
        obtain ⟨b19466, m19466, h19466, k⟩ := k
        refine ⟨b19466, m19466, h19466, ?_⟩
        refine zand k (fun h19467 k => ?_)
        refine zand k (fun h19468 k => ?_)
        refine ⟨h19467, ?_⟩
        exact k
theorem iX1_deletes_245 {E : zE} {d : Nat} {Q : zO → zM → Prop} (M : zM) (l1 : Int32) (l2 : Int32) (l3 : Int32) (l4 : Int32) (l5 : Int32) (l6 : Int32) (l7 : Int32) (s0 : Int32) (hw : cw M) (k : if s0 = 0 then (∃ b19475 : Nat, (gr M 16 60) = some (b19475, 7, 0) ∧ (∃ b19476 : Nat, (gr M b19475 0) = some (b19476, 0, 0) ∧ (if l6 = l4 then (if l7 = l5 then (∃ b19479 m19479 : Nat, (gr M b19475 1) = some (b19479, 105, m19479) ∧ (16 ≤ b19479 ∧ (vp_in ((l6 * ((gi M b19476 1) + (1 : Int32))) + l7) m19479 ∧ (∃ b19482 m19482 : Nat, (gr M b19475 2) = some (b19482, 105, m19482) ∧ (16 ≤ b19482 ∧ (vp_in ((l6 * ((gi M b19476 1) + (1 : Int32))) + l7) m19482 ∧ (∃ b19485 m19485 : Nat, (gr M b19475 3) = some (b19485, 105, m19485) ∧ (16 ≤ b19485 ∧ (vp_in ((l6 * ((gi M b19476 1) + (1 : Int32))) + l7) m19485 ∧ (Z E YX1_deletes ((d + 1) + 1) (sl (sl (sl M b19479 (((l6 * ((gi M b19476 1) + (1 : Int32))) + l7)).toNatClampNeg (0 : Int64)) b19482 (((l6 * ((gi M b19476 1) + (1 : Int32))) + l7)).toNatClampNeg (0 : Int64)) b19485 (((l6 * ((gi M b19476 1) + (1 : Int32))) + l7)).toNatClampNeg (512 : Int64)) [(0, vr (some (16, 0, 0))), (1, vi l1), (2, vi l2), (3, vi l3), (4, vi l4), (5, vi l5), (6, vi l6), (7, vi (l7 + (1 : Int32)))] 209 [] Q)))))))))) else (∃ b19488 m19488 : Nat, (gr M b19475 3) = some (b19488, 105, m19488) ∧ (vp_in ((l6 * ((gi M b19476 1) + (1 : Int32))) + l7) m19488 ∧ (16 ≤ b19488 ∧ (Z E YX1_deletes ((d + 1) + 1) (sl M b19488 (((l6 * ((gi M b19476 1) + (1 : Int32))) + l7)).toNatClampNeg ((gl M b19488 (((l6 * ((gi M b19476 1) + (1 : Int32))) + l7)).toNatClampNeg) ||| (512 : Int64))) [(0, vr (some (16, 0, 0))), (1, vi l1), (2, vi l2), (3, vi l3), (4, vi l4), (5, vi l5), (6, vi l6), (7, vi (l7 + (1 : Int32)))] 209 [] Q))))) else (∃ b19491 m19491 : Nat, (gr M b19475 3) = some (b19491, 105, m19491) ∧ (vp_in ((l6 * ((gi M b19476 1) + (1 : Int32))) + l7) m19491 ∧ (16 ≤ b19491 ∧ (Z E YX1_deletes ((d + 1) + 1) (sl M b19491 (((l6 * ((gi M b19476 1) + (1 : Int32))) + l7)).toNatClampNeg ((gl M b19491 (((l6 * ((gi M b19476 1) + (1 : Int32))) + l7)).toNatClampNeg) ||| (512 : Int64))) [(0, vr (some (16, 0, 0))), (1, vi l1), (2, vi l2), (3, vi l3), (4, vi l4), (5, vi l5), (6, vi l6), (7, vi (l7 + (1 : Int32)))] 209 [] Q))))))) else (Z E YX1_deletes ((d + 1) + 1) M [(0, vr (some (16, 0, 0))), (1, vi l1), (2, vi l2), (3, vi l3), (4, vi l4), (5, vi l5), (6, vi l6), (7, vi (l7 + (1 : Int32)))] 209 [] Q)) : Z E YX1_deletes (d + 2) M [(0, vr (some (16, 0, 0))), (1, vi l1), (2, vi l2), (3, vi l3), (4, vi l4), (5, vi l5), (6, vi l6), (7, vi l7)] 245 [vi s0] Q := by
  refine sX1_deletes_245 (d := (d + 1)) M l1 l2 l3 l4 l5 l6 l7 s0 hw ?_
  refine zite k (fun h19474 k => ?_) (fun h19474 k => ?_)
  · obtain ⟨b19475, h19475, k⟩ := k
    refine ⟨b19475, h19475, ?_⟩
    refine sX43_cell_0 (d := (d + 1)) M b19475 l6 l7 ?_
    obtain ⟨b19476, h19476, k⟩ := k
    refine ⟨b19476, h19476, ?_⟩
    show Z E YX1_deletes ((d + 1) + 1) M [(0, vr (some (16, 0, 0))), (1, vi l1), (2, vi l2), (3, vi l3), (4, vi l4), (5, vi l5), (6, vi l6), (7, vi l7)] 262 [vi ((l6 * ((gi M b19476 1) + (1 : Int32))) + l7)] Q
    refine sX1_deletes_262 (d := (d + 1)) M l1 l2 l3 l4 l5 l6 l7 ((l6 * ((gi M b19476 1) + (1 : Int32))) + l7) hw ?_
    refine zite k (fun h19477 k => ?_) (fun h19477 k => ?_)
    · refine zite k (fun h19478 k => ?_) (fun h19478 k => ?_)
      · refine ⟨b19475, h19475, ?_⟩
        refine jX43_put (d := d) M b19475 l6 l7 (0 : Int64) (0 : Int64) (512 : Int64) ?_
        refine ⟨b19476, h19476, ?_⟩
        obtain ⟨b19479, m19479, h19479, k⟩ := k
        refine ⟨b19479, m19479, h19479, ?_⟩
        refine zand k (fun h19480 k => ?_)
        refine zand k (fun h19481 k => ?_)
        obtain ⟨b19482, m19482, h19482, k⟩ := k
        refine ⟨b19482, m19482, h19482, ?_⟩
        refine zand k (fun h19483 k => ?_)
        refine zand k (fun h19484 k => ?_)
        obtain ⟨b19485, m19485, h19485, k⟩ := k
        refine ⟨b19485, m19485, h19485, ?_⟩
        refine zand k (fun h19486 k => ?_)
        refine zand k (fun h19487 k => ?_)
        show Z E YX1_deletes ((d + 1) + 1) (sl (sl (sl M b19479 (((l6 * ((gi M b19476 1) + (1 : Int32))) + l7)).toNatClampNeg (0 : Int64)) b19482 (((l6 * ((gi M b19476 1) + (1 : Int32))) + l7)).toNatClampNeg (0 : Int64)) b19485 (((l6 * ((gi M b19476 1) + (1 : Int32))) + l7)).toNatClampNeg (512 : Int64)) [(0, vr (some (16, 0, 0))), (1, vi l1), (2, vi l2), (3, vi l3), (4, vi l4), (5, vi l5), (6, vi l6), (7, vi l7)] 294 [] Q
        refine sX1_deletes_294 (d := (d + 1)) (sl (sl (sl M b19479 (((l6 * ((gi M b19476 1) + (1 : Int32))) + l7)).toNatClampNeg (0 : Int64)) b19482 (((l6 * ((gi M b19476 1) + (1 : Int32))) + l7)).toNatClampNeg (0 : Int64)) b19485 (((l6 * ((gi M b19476 1) + (1 : Int32))) + l7)).toNatClampNeg (512 : Int64)) l1 l2 l3 l4 l5 l6 l7 hw ?_
        exact k
      · refine sX1_deletes_297 (d := (d + 1)) M l1 l2 l3 l4 l5 l6 l7 ((l6 * ((gi M b19476 1) + (1 : Int32))) + l7) hw ?_
        refine ⟨b19475, h19475, ?_⟩
        obtain ⟨b19488, m19488, h19488, k⟩ := k
        refine ⟨b19488, m19488, h19488, ?_⟩
        refine zand k (fun h19489 k => ?_)
        refine zand k (fun h19490 k => ?_)
        refine ⟨h19489, ?_⟩
        exact k
    · refine sX1_deletes_297 (d := (d + 1)) M l1 l2 l3 l4 l5 l6 l7 ((l6 * ((gi M b19476 1) + (1 : Int32))) + l7) hw ?_
      refine ⟨b19475, h19475, ?_⟩
      obtain ⟨b19491, m19491, h19491, k⟩ := k
      refine ⟨b19491, m19491, h19491, ?_⟩
      refine zand k (fun h19492 k => ?_)
      refine zand k (fun h19493 k => ?_)
      refine ⟨h19492, ?_⟩
      exact k
  · exact k
theorem iX1_errs_0 {E : zE} {d : Nat} {Q : zO → zM → Prop} (M : zM) (r1 : Option zP) (l2 : Int32) (hw : cw M) (k : if (2 : Int32) ≤ l2 then (Z E YX7_save d M (zargs 0 [vr (some (80, 5, 0)), vr r1, vi ((26 : Int32) + l2)]) 0 [] (zafter E YX1_errs (d + 1) [(0, vr (some (16, 0, 0))), (1, vr r1), (2, vi l2), (3, vi ((26 : Int32) + l2))] 32 3 [] Q)) else (vp_in (gi M 16 76) 600 ∧ (Z E YX7_save d (si M 70 ((gi M 16 76)).toNatClampNeg (vp_nar .byte (((gi M 70 ((gi M 16 76)).toNatClampNeg) ||| ((1 : Int32) <<< (l2 &&& 31)))).toInt8.toInt32)) (zargs 0 [vr (some (80, 5, 0)), vr r1, vi ((26 : Int32) + l2)]) 0 [] (zafter E YX1_errs (d + 1) [(0, vr (some (16, 0, 0))), (1, vr r1), (2, vi l2), (3, vi ((26 : Int32) + l2))] 32 3 [] Q)))) : Z E YX1_errs (d + 1) M [(0, vr (some (16, 0, 0))), (1, vr r1), (2, vi l2)] 0 [] Q := by
  refine sX1_errs_0 (d := d) M r1 l2 hw ?_
  refine zite k (fun h19494 k => ?_) (fun h19494 k => ?_)
  · refine sX1_errs_21 (d := d) M r1 l2 hw ?_
    exact k
  · refine zand k (fun h19495 k => ?_)
    refine ⟨h19495, ?_⟩
    refine sX1_errs_21 (d := d) (si M 70 ((gi M 16 76)).toNatClampNeg (vp_nar .byte (((gi M 70 ((gi M 16 76)).toNatClampNeg) ||| ((1 : Int32) <<< (l2 &&& 31)))).toInt8.toInt32)) r1 l2 hw ?_
    exact k
theorem iX1_errs_45 {E : zE} {d : Nat} {Q : zO → zM → Prop} (M : zM) (r1 : Option zP) (l3 : Int32) (hw : cw M) (k : 16 ≤ 79 ∧ (if (64 : Int32) ≤ l3 then (Z E YX1_throwsTo d (sl (sl (sl (sl M 79 0 (0 : Int64)) 79 1 (0 : Int64)) 79 2 (0 : Int64)) 79 1 ((0 : Int64) ||| (zls (1 : Int64) (l3 - (64 : Int32))))) (zargs 0 [vr (some (16, 0, 0)), vr r1, vr (some (79, 4, 0))]) 0 [] (zafter E YX1_errs (d + 1) [(0, vr (some (16, 0, 0))), (1, vr r1), (3, vi l3)] 63 3 [] Q)) else (Z E YX1_throwsTo d (sl (sl (sl (sl M 79 0 (0 : Int64)) 79 1 (0 : Int64)) 79 2 (0 : Int64)) 79 0 ((0 : Int64) ||| (zls (1 : Int64) l3))) (zargs 0 [vr (some (16, 0, 0)), vr r1, vr (some (79, 4, 0))]) 0 [] (zafter E YX1_errs (d + 1) [(0, vr (some (16, 0, 0))), (1, vr r1), (3, vi l3)] 63 3 [] Q)))) : Z E YX1_errs (d + 1) M [(0, vr (some (16, 0, 0))), (1, vr r1), (3, vi l3)] 45 [] Q := by
  refine sX1_errs_45 (d := d) M r1 l3 hw ?_
  refine jX6_empty (d := d) M 79 ?_
  refine zand k (fun h19508 k => ?_)
  show Z E YX1_errs (d + 1) (sl (sl (sl M 79 0 (0 : Int64)) 79 1 (0 : Int64)) 79 2 (0 : Int64)) [(0, vr (some (16, 0, 0))), (1, vr r1), (3, vi l3)] 52 [vr (some (79, 4, 0))] Q
  refine sX1_errs_52 (d := d) (sl (sl (sl M 79 0 (0 : Int64)) 79 1 (0 : Int64)) 79 2 (0 : Int64)) r1 l3 (some (79, 4, 0)) hw ?_
  refine ⟨79, rfl, ?_⟩
  refine sX6_add_0 (d := d) (sl (sl (sl M 79 0 (0 : Int64)) 79 1 (0 : Int64)) 79 2 (0 : Int64)) 79 l3 ?_
  refine zite k (fun h19509 k => ?_) (fun h19509 k => ?_)
  · refine ⟨h19508, ?_⟩
    show Z E YX1_errs (d + 1) (sl (sl (sl (sl M 79 0 (0 : Int64)) 79 1 (0 : Int64)) 79 2 (0 : Int64)) 79 1 ((0 : Int64) ||| (zls (1 : Int64) (l3 - (64 : Int32))))) [(0, vr (some (16, 0, 0))), (1, vr r1), (3, vi l3)] 56 [vr (some (79, 4, 0))] Q
    refine sX1_errs_56 (d := d) (sl (sl (sl (sl M 79 0 (0 : Int64)) 79 1 (0 : Int64)) 79 2 (0 : Int64)) 79 1 ((0 : Int64) ||| (zls (1 : Int64) (l3 - (64 : Int32))))) r1 l3 (some (79, 4, 0)) hw ?_
    exact k
  · refine ⟨h19508, ?_⟩
    show Z E YX1_errs (d + 1) (sl (sl (sl (sl M 79 0 (0 : Int64)) 79 1 (0 : Int64)) 79 2 (0 : Int64)) 79 0 ((0 : Int64) ||| (zls (1 : Int64) l3))) [(0, vr (some (16, 0, 0))), (1, vr r1), (3, vi l3)] 56 [vr (some (79, 4, 0))] Q
    refine sX1_errs_56 (d := d) (sl (sl (sl (sl M 79 0 (0 : Int64)) 79 1 (0 : Int64)) 79 2 (0 : Int64)) 79 0 ((0 : Int64) ||| (zls (1 : Int64) l3))) r1 l3 (some (79, 4, 0)) hw ?_
    exact k
theorem iX1_function_0 {E : zE} {d : Nat} {Q : zO → zM → Prop} (M : zM) (l1 : Int32) (hw : cw M) (k : ∃ b19557 : Nat, (gr M 16 60) = some (b19557, 7, 0) ∧ (Z E YX43_make d M (zargs 0 [vr (some (b19557, 7, 0)), vi (((29 : Int32) + ((6 : Int32) * (l1 - (1 : Int32)))) + (2 : Int32)), vi (2 : Int32)]) 0 [] (zafter E YX1_function (d + 1) [(0, vr (some (16, 0, 0))), (2, vi (((29 : Int32) + ((6 : Int32) * (l1 - (1 : Int32)))) + (2 : Int32))), (3, vi ((((29 : Int32) + ((6 : Int32) * (l1 - (1 : Int32)))) + (2 : Int32)) + (2 : Int32)))] 18 3 [] Q))) : Z E YX1_function (d + 1) M [(0, vr (some (16, 0, 0))), (1, vi l1)] 0 [] Q := by
  refine sX1_function_0 (d := d) M l1 hw ?_
  refine sX1_scopePair_0 (d := d) M l1 hw ?_
  show Z E YX1_function (d + 1) M [(0, vr (some (16, 0, 0)))] 5 [vi ((29 : Int32) + ((6 : Int32) * (l1 - (1 : Int32))))] Q
  refine sX1_function_5 (d := d) M ((29 : Int32) + ((6 : Int32) * (l1 - (1 : Int32)))) hw ?_
  exact k
theorem iX1_function_30 {E : zE} {d : Nat} {Q : zO → zM → Prop} (M : zM) (l2 : Int32) (l3 : Int32) (hw : cw M) (k : ∃ b19566 : Nat, (gr M 16 60) = some (b19566, 7, 0) ∧ (∃ b19567 m19567 : Nat, (gr M b19566 6) = some (b19567, 105, m19567) ∧ (16 ≤ b19567 ∧ (vp_in l2 m19567 ∧ (∃ b19570 m19570 : Nat, (gr M b19566 7) = some (b19570, 105, m19570) ∧ (16 ≤ b19570 ∧ (vp_in l2 m19570 ∧ (if (64 : Int32) ≤ l3 then (∃ b19574 : Nat, (gr M b19566 0) = some (b19574, 0, 0) ∧ (∃ b19575 m19575 : Nat, (gr M b19566 1) = some (b19575, 105, m19575) ∧ (16 ≤ b19575 ∧ (vp_in ((l2 * ((gi M b19574 1) + (1 : Int32))) + (1 : Int32)) m19575 ∧ (∃ b19578 m19578 : Nat, (gr M b19566 2) = some (b19578, 105, m19578) ∧ (16 ≤ b19578 ∧ (vp_in ((l2 * ((gi M b19574 1) + (1 : Int32))) + (1 : Int32)) m19578 ∧ (∃ b19581 m19581 : Nat, (gr M b19566 3) = some (b19581, 105, m19581) ∧ (16 ≤ b19581 ∧ (vp_in ((l2 * ((gi M b19574 1) + (1 : Int32))) + (1 : Int32)) m19581 ∧ (Z E YX1_thing (d + 2) (sl (sl (sl (sl (sl M b19567 (l2).toNatClampNeg (gl M b19566 17)) b19570 (l2).toNatClampNeg (gl (sl M b19567 (l2).toNatClampNeg (gl M b19566 17)) b19566 18)) b19575 (((l2 * ((gi M b19574 1) + (1 : Int32))) + (1 : Int32))).toNatClampNeg (0 : Int64)) b19578 (((l2 * ((gi M b19574 1) + (1 : Int32))) + (1 : Int32))).toNatClampNeg (zls (1 : Int64) (l3 - (64 : Int32)))) b19581 (((l2 * ((gi M b19574 1) + (1 : Int32))) + (1 : Int32))).toNatClampNeg (0 : Int64)) (zargs 0 [vr (some (16, 0, 0)), vi l3, vi (2 : Int32), vi l2]) 0 [] (zafter E YX1_function ((d + 2) + 1) [(0, vr (some (16, 0, 0))), (2, vi l2)] 73 3 [] Q)))))))))))) else (∃ b19588 : Nat, (gr M b19566 0) = some (b19588, 0, 0) ∧ (∃ b19589 m19589 : Nat, (gr M b19566 1) = some (b19589, 105, m19589) ∧ (16 ≤ b19589 ∧ (vp_in ((l2 * ((gi M b19588 1) + (1 : Int32))) + (1 : Int32)) m19589 ∧ (∃ b19592 m19592 : Nat, (gr M b19566 2) = some (b19592, 105, m19592) ∧ (16 ≤ b19592 ∧ (vp_in ((l2 * ((gi M b19588 1) + (1 : Int32))) + (1 : Int32)) m19592 ∧ (∃ b19595 m19595 : Nat, (gr M b19566 3) = some (b19595, 105, m19595) ∧ (16 ≤ b19595 ∧ (vp_in ((l2 * ((gi M b19588 1) + (1 : Int32))) + (1 : Int32)) m19595 ∧ (Z E YX1_thing (d + 2) (sl (sl (sl (sl (sl M b19567 (l2).toNatClampNeg (gl M b19566 17)) b19570 (l2).toNatClampNeg (gl (sl M b19567 (l2).toNatClampNeg (gl M b19566 17)) b19566 18)) b19589 (((l2 * ((gi M b19588 1) + (1 : Int32))) + (1 : Int32))).toNatClampNeg (zls (1 : Int64) l3)) b19592 (((l2 * ((gi M b19588 1) + (1 : Int32))) + (1 : Int32))).toNatClampNeg (0 : Int64)) b19595 (((l2 * ((gi M b19588 1) + (1 : Int32))) + (1 : Int32))).toNatClampNeg (0 : Int64)) (zargs 0 [vr (some (16, 0, 0)), vi l3, vi (2 : Int32), vi l2]) 0 [] (zafter E YX1_function ((d + 2) + 1) [(0, vr (some (16, 0, 0))), (2, vi l2)] 73 3 [] Q)))))))))))))))))))) : Z E YX1_function (d + 3) M [(0, vr (some (16, 0, 0))), (2, vi l2), (3, vi l3)] 30 [] Q := by
  refine sX1_function_30 (d := (d + 2)) M l2 l3 hw ?_
  obtain ⟨b19566, h19566, k⟩ := k
  refine ⟨b19566, h19566, ?_⟩
  refine ⟨b19566, h19566, ?_⟩
  obtain ⟨b19567, m19567, h19567, k⟩ := k
  refine ⟨b19567, m19567, h19567, ?_⟩
  refine zand k (fun h19568 k => ?_)
  refine zand k (fun h19569 k => ?_)
  refine ⟨b19566, h19566, ?_⟩
  refine ⟨b19566, h19566, ?_⟩
  obtain ⟨b19570, m19570, h19570, k⟩ := k
  refine ⟨b19570, m19570, h19570, ?_⟩
  refine zand k (fun h19571 k => ?_)
  refine zand k (fun h19572 k => ?_)
  refine jX1_thing (d := d) (sl (sl M b19567 (l2).toNatClampNeg (gl M b19566 17)) b19570 (l2).toNatClampNeg (gl (sl M b19567 (l2).toNatClampNeg (gl M b19566 17)) b19566 18)) l2 (1 : Int32) l3 hw ?_
  refine zite k (fun h19573 k => ?_) (fun h19573 k => ?_)
  · refine ⟨b19566, h19566, ?_⟩
    obtain ⟨b19574, h19574, k⟩ := k
    refine ⟨b19574, h19574, ?_⟩
    obtain ⟨b19575, m19575, h19575, k⟩ := k
    refine ⟨b19575, m19575, h19575, ?_⟩
    refine zand k (fun h19576 k => ?_)
    refine zand k (fun h19577 k => ?_)
    obtain ⟨b19578, m19578, h19578, k⟩ := k
    refine ⟨b19578, m19578, h19578, ?_⟩
    refine zand k (fun h19579 k => ?_)
    refine zand k (fun h19580 k => ?_)
    obtain ⟨b19581, m19581, h19581, k⟩ := k
    refine ⟨b19581, m19581, h19581, ?_⟩
    refine zand k (fun h19582 k => ?_)
    refine zand k (fun h19583 k => ?_)
    show Z E YX1_function ((d + 2) + 1) (sl (sl (sl (sl (sl M b19567 (l2).toNatClampNeg (gl M b19566 17)) b19570 (l2).toNatClampNeg (gl (sl M b19567 (l2).toNatClampNeg (gl M b19566 17)) b19566 18)) b19575 (((l2 * ((gi M b19574 1) + (1 : Int32))) + (1 : Int32))).toNatClampNeg (0 : Int64)) b19578 (((l2 * ((gi M b19574 1) + (1 : Int32))) + (1 : Int32))).toNatClampNeg (zls (1 : Int64) (l3 - (64 : Int32)))) b19581 (((l2 * ((gi M b19574 1) + (1 : Int32))) + (1 : Int32))).toNatClampNeg (0 : Int64)) [(0, vr (some (16, 0, 0))), (2, vi l2), (3, vi l3)] 69 [] Q
    refine sX1_function_69 (d := (d + 2)) (sl (sl (sl (sl (sl M b19567 (l2).toNatClampNeg (gl M b19566 17)) b19570 (l2).toNatClampNeg (gl (sl M b19567 (l2).toNatClampNeg (gl M b19566 17)) b19566 18)) b19575 (((l2 * ((gi M b19574 1) + (1 : Int32))) + (1 : Int32))).toNatClampNeg (0 : Int64)) b19578 (((l2 * ((gi M b19574 1) + (1 : Int32))) + (1 : Int32))).toNatClampNeg (zls (1 : Int64) (l3 - (64 : Int32)))) b19581 (((l2 * ((gi M b19574 1) + (1 : Int32))) + (1 : Int32))).toNatClampNeg (0 : Int64)) l2 l3 hw ?_
    exact k
  · refine ⟨b19566, h19566, ?_⟩
    obtain ⟨b19588, h19588, k⟩ := k
    refine ⟨b19588, h19588, ?_⟩
    obtain ⟨b19589, m19589, h19589, k⟩ := k
    refine ⟨b19589, m19589, h19589, ?_⟩
    refine zand k (fun h19590 k => ?_)
    refine zand k (fun h19591 k => ?_)
    obtain ⟨b19592, m19592, h19592, k⟩ := k
    refine ⟨b19592, m19592, h19592, ?_⟩
    refine zand k (fun h19593 k => ?_)
    refine zand k (fun h19594 k => ?_)
    obtain ⟨b19595, m19595, h19595, k⟩ := k
    refine ⟨b19595, m19595, h19595, ?_⟩
    refine zand k (fun h19596 k => ?_)
    refine zand k (fun h19597 k => ?_)
    show Z E YX1_function ((d + 2) + 1) (sl (sl (sl (sl (sl M b19567 (l2).toNatClampNeg (gl M b19566 17)) b19570 (l2).toNatClampNeg (gl (sl M b19567 (l2).toNatClampNeg (gl M b19566 17)) b19566 18)) b19589 (((l2 * ((gi M b19588 1) + (1 : Int32))) + (1 : Int32))).toNatClampNeg (zls (1 : Int64) l3)) b19592 (((l2 * ((gi M b19588 1) + (1 : Int32))) + (1 : Int32))).toNatClampNeg (0 : Int64)) b19595 (((l2 * ((gi M b19588 1) + (1 : Int32))) + (1 : Int32))).toNatClampNeg (0 : Int64)) [(0, vr (some (16, 0, 0))), (2, vi l2), (3, vi l3)] 69 [] Q
    refine sX1_function_69 (d := (d + 2)) (sl (sl (sl (sl (sl M b19567 (l2).toNatClampNeg (gl M b19566 17)) b19570 (l2).toNatClampNeg (gl (sl M b19567 (l2).toNatClampNeg (gl M b19566 17)) b19566 18)) b19589 (((l2 * ((gi M b19588 1) + (1 : Int32))) + (1 : Int32))).toNatClampNeg (zls (1 : Int64) l3)) b19592 (((l2 * ((gi M b19588 1) + (1 : Int32))) + (1 : Int32))).toNatClampNeg (0 : Int64)) b19595 (((l2 * ((gi M b19588 1) + (1 : Int32))) + (1 : Int32))).toNatClampNeg (0 : Int64)) l2 l3 hw ?_
    exact k
theorem iX1_function_76 {E : zE} {d : Nat} {Q : zO → zM → Prop} (M : zM) (l2 : Int32) (hw : cw M) (k : 16 ≤ 71 ∧ (if (64 : Int32) ≤ l2 then (Z E YX1_nextWith d (sl (sl (sl (sl M 71 0 (0 : Int64)) 71 1 (0 : Int64)) 71 2 (0 : Int64)) 71 1 ((0 : Int64) ||| (zls (1 : Int64) (l2 - (64 : Int32))))) (zargs 0 [vr (some (16, 0, 0)), vr (some (71, 4, 0))]) 0 [] (zafter E YX1_function (d + 1) [] 88 3 [] Q)) else (Z E YX1_nextWith d (sl (sl (sl (sl M 71 0 (0 : Int64)) 71 1 (0 : Int64)) 71 2 (0 : Int64)) 71 0 ((0 : Int64) ||| (zls (1 : Int64) l2))) (zargs 0 [vr (some (16, 0, 0)), vr (some (71, 4, 0))]) 0 [] (zafter E YX1_function (d + 1) [] 88 3 [] Q)))) : Z E YX1_function (d + 1) M [(0, vr (some (16, 0, 0))), (2, vi l2)] 76 [] Q := by
  refine sX1_function_76 (d := d) M l2 hw ?_
  refine jX6_empty (d := d) M 71 ?_
  refine zand k (fun h19602 k => ?_)
  show Z E YX1_function (d + 1) (sl (sl (sl M 71 0 (0 : Int64)) 71 1 (0 : Int64)) 71 2 (0 : Int64)) [(2, vi l2)] 84 [vr (some (71, 4, 0)), vr (some (16, 0, 0))] Q
  refine sX1_function_84 (d := d) (sl (sl (sl M 71 0 (0 : Int64)) 71 1 (0 : Int64)) 71 2 (0 : Int64)) l2 (some (71, 4, 0)) hw ?_
  refine ⟨71, rfl, ?_⟩
  refine sX6_add_0 (d := d) (sl (sl (sl M 71 0 (0 : Int64)) 71 1 (0 : Int64)) 71 2 (0 : Int64)) 71 l2 ?_
  refine zite k (fun h19603 k => ?_) (fun h19603 k => ?_)
  · refine ⟨h19602, ?_⟩
    show Z E YX1_function (d + 1) (sl (sl (sl (sl M 71 0 (0 : Int64)) 71 1 (0 : Int64)) 71 2 (0 : Int64)) 71 1 ((0 : Int64) ||| (zls (1 : Int64) (l2 - (64 : Int32))))) [] 88 [vr (some (71, 4, 0)), vr (some (16, 0, 0))] Q
    refine sX1_function_88 (d := d) (sl (sl (sl (sl M 71 0 (0 : Int64)) 71 1 (0 : Int64)) 71 2 (0 : Int64)) 71 1 ((0 : Int64) ||| (zls (1 : Int64) (l2 - (64 : Int32))))) (some (71, 4, 0)) hw ?_
    exact k
  · refine ⟨h19602, ?_⟩
    show Z E YX1_function (d + 1) (sl (sl (sl (sl M 71 0 (0 : Int64)) 71 1 (0 : Int64)) 71 2 (0 : Int64)) 71 0 ((0 : Int64) ||| (zls (1 : Int64) l2))) [] 88 [vr (some (71, 4, 0)), vr (some (16, 0, 0))] Q
    refine sX1_function_88 (d := d) (sl (sl (sl (sl M 71 0 (0 : Int64)) 71 1 (0 : Int64)) 71 2 (0 : Int64)) 71 0 ((0 : Int64) ||| (zls (1 : Int64) l2))) (some (71, 4, 0)) hw ?_
    exact k
theorem iX1_gets_23 {E : zE} {d : Nat} {Q : zO → zM → Prop} (M : zM) (u0 : Option zP) (hw : cw M) (k : if (lg_cmp ((gl M 71 2) &&& ((3 : Int32)).toInt64) (0 : Int64)) = 0 then (16 ≤ 74 ∧ (if (lg_cmp ((gl M 71 2) &&& ((124 : Int32)).toInt64) (0 : Int64)) = 0 then (Z E YX1_keys d (sl (sl (sl M 74 0 (0 : Int64)) 74 1 (0 : Int64)) 74 2 (0 : Int64)) (zargs 0 [vr (some (16, 0, 0)), vr (some (72, 4, 0))]) 0 [] (zafter E YX1_gets (d + 1) [(0, vr (some (16, 0, 0)))] 80 3 [] Q)) else (Z E YX6_join3 d (sl (sl (sl M 74 0 (0 : Int64)) 74 1 (0 : Int64)) 74 2 (0 : Int64)) (zargs 0 [vr (some (74, 4, 0)), vl (0 : Int64), vl (0 : Int64), vl (1 : Int64)]) 0 [] (zafter E YX1_gets (d + 1) [(0, vr (some (16, 0, 0)))] 71 3 [] Q)))) else (Z E YX1_errs d M (zargs 0 [vr (some (16, 0, 0)), vr (gr M 16 60), vi (0 : Int32)]) 0 [] (zafter E YX1_gets (d + 1) [(0, vr (some (16, 0, 0)))] 41 3 [] Q))) : Z E YX1_gets (d + 1) M [(0, vr (some (16, 0, 0)))] 23 [vr u0] Q := by
  refine sX1_gets_23 (d := d) M u0 hw ?_
  refine sX6_has_0 (d := d) M 71 (3 : Int32) ?_
  refine zite k (fun h19606 k => ?_) (fun h19606 k => ?_)
  · show Z E YX1_gets (d + 1) M [(0, vr (some (16, 0, 0)))] 32 [vi (0 : Int32)] Q
    refine sX1_gets_32 (d := d) M (0 : Int32) hw ?_
    refine zpos (show (0 : Int32) = 0 from by decide) ?_
    refine sX1_gets_44 (d := d) M hw ?_
    refine jX6_empty (d := d) M 74 ?_
    refine zand k (fun h19607 k => ?_)
    show Z E YX1_gets (d + 1) (sl (sl (sl M 74 0 (0 : Int64)) 74 1 (0 : Int64)) 74 2 (0 : Int64)) [(0, vr (some (16, 0, 0)))] 51 [vr (some (74, 4, 0))] Q
    refine sX1_gets_51 (d := d) (sl (sl (sl M 74 0 (0 : Int64)) 74 1 (0 : Int64)) 74 2 (0 : Int64)) (some (74, 4, 0)) hw ?_
    refine sX6_has_0 (d := d) (sl (sl (sl M 74 0 (0 : Int64)) 74 1 (0 : Int64)) 74 2 (0 : Int64)) 71 (124 : Int32) ?_
    refine zite k (fun h19608 k => ?_) (fun h19608 k => ?_)
    · show Z E YX1_gets (d + 1) (sl (sl (sl M 74 0 (0 : Int64)) 74 1 (0 : Int64)) 74 2 (0 : Int64)) [(0, vr (some (16, 0, 0)))] 61 [vi (0 : Int32)] Q
      refine sX1_gets_61 (d := d) (sl (sl (sl M 74 0 (0 : Int64)) 74 1 (0 : Int64)) 74 2 (0 : Int64)) (0 : Int32) hw ?_
      refine zpos (show (0 : Int32) = 0 from by decide) ?_
      exact k
    · show Z E YX1_gets (d + 1) (sl (sl (sl M 74 0 (0 : Int64)) 74 1 (0 : Int64)) 74 2 (0 : Int64)) [(0, vr (some (16, 0, 0)))] 61 [vi (1 : Int32)] Q
      refine sX1_gets_61 (d := d) (sl (sl (sl M 74 0 (0 : Int64)) 74 1 (0 : Int64)) 74 2 (0 : Int64)) (1 : Int32) hw ?_
      refine zneg (show ¬ ((1 : Int32) = 0) from by decide) ?_
      exact k
  · show Z E YX1_gets (d + 1) M [(0, vr (some (16, 0, 0)))] 32 [vi (1 : Int32)] Q
    refine sX1_gets_32 (d := d) M (1 : Int32) hw ?_
    refine zneg (show ¬ ((1 : Int32) = 0) from by decide) ?_
    exact k
theorem iX1_gets_83 {E : zE} {d : Nat} {Q : zO → zM → Prop} (M : zM) (hw : cw M) (k : if (lg_cmp ((gl M 71 2) &&& ((384 : Int32)).toInt64) (0 : Int64)) = 0 then (if (lg_cmp (gl M 71 0) (0 : Int64)) = 0 then (if (lg_cmp (gl M 71 1) (0 : Int64)) = 0 then (Z E YX1_nextWith (d + 1) M (zargs 0 [vr (some (16, 0, 0)), vr (some (74, 4, 0))]) 0 [] (zafter E YX1_gets ((d + 1) + 1) [] 297 3 [] Q)) else (Z E YX1_readAll (d + 1) M (zargs 0 [vr (some (16, 0, 0)), vl (gl M 71 0), vl (gl M 71 1), vr (some (74, 4, 0))]) 0 [] (zafter E YX1_gets ((d + 1) + 1) [(0, vr (some (16, 0, 0)))] 234 3 [] Q))) else (Z E YX1_readAll (d + 1) M (zargs 0 [vr (some (16, 0, 0)), vl (gl M 71 0), vl (gl M 71 1), vr (some (74, 4, 0))]) 0 [] (zafter E YX1_gets ((d + 1) + 1) [(0, vr (some (16, 0, 0)))] 234 3 [] Q))) else (if (0 : Int32) = (gi M 16 1) then ((narrow .boolean (.int (gi M 16 90)) = .int (gi M 16 90)) ∧ (if (gi M 16 90) = 0 then (Z E YX1_readAll (d + 1) (sl M 16 88 ((gl M 16 88) &&& (-2 : Int64))) (zargs 0 [vr (some (16, 0, 0)), vl (16 : Int64), vl (0 : Int64), vr (some (74, 4, 0))]) 0 [] (zafter E YX1_gets ((d + 1) + 1) [(0, vr (some (16, 0, 0))), (1, vi (gi M 16 90))] 170 3 [] Q)) else (Z E YX6_isAlone (d + 1) M (zargs 0 [vr (some (71, 4, 0))]) 0 [] (zafter E YX1_gets ((d + 1) + 1) [(0, vr (some (16, 0, 0))), (1, vi (gi M 16 90))] 116 3 [vl (0 : Int64), vl (0 : Int64), vr (some (74, 4, 0))] Q)))) else (∀ x1_v16400v18665v19618 : Int64, x1_v16400v18665v19618 = (zls (zlr (gl M 16 88) (0 : Int32)) (63 : Int32)) → (if (lg_cmp x1_v16400v18665v19618 (0 : Int64)) = 0 then ((narrow .boolean (.int (0 : Int32)) = .int (0 : Int32)) ∧ (Z E YX1_readAll (d + 1) (sl M 16 88 ((gl M 16 88) &&& (-2 : Int64))) (zargs 0 [vr (some (16, 0, 0)), vl (16 : Int64), vl (0 : Int64), vr (some (74, 4, 0))]) 0 [] (zafter E YX1_gets ((d + 1) + 1) [(0, vr (some (16, 0, 0))), (1, vi (0 : Int32))] 170 3 [] Q))) else ((narrow .boolean (.int (1 : Int32)) = .int (1 : Int32)) ∧ (Z E YX6_isAlone (d + 1) M (zargs 0 [vr (some (71, 4, 0))]) 0 [] (zafter E YX1_gets ((d + 1) + 1) [(0, vr (some (16, 0, 0))), (1, vi (1 : Int32))] 116 3 [vl (0 : Int64), vl (0 : Int64), vr (some (74, 4, 0))] Q))))))) : Z E YX1_gets (d + 2) M [(0, vr (some (16, 0, 0)))] 83 [] Q := by
  refine sX1_gets_83 (d := (d + 1)) M hw ?_
  refine sX6_has_0 (d := (d + 1)) M 71 (384 : Int32) ?_
  refine zite k (fun h19612 k => ?_) (fun h19612 k => ?_)
  · show Z E YX1_gets ((d + 1) + 1) M [(0, vr (some (16, 0, 0)))] 93 [vi (0 : Int32)] Q
    refine sX1_gets_93 (d := (d + 1)) M (0 : Int32) hw ?_
    refine zpos (show (0 : Int32) = 0 from by decide) ?_
    refine sX6_hasLabels_0 (d := (d + 1)) M 71 ?_
    refine zite k (fun h19613 k => ?_) (fun h19613 k => ?_)
    · refine zite k (fun h19614 k => ?_) (fun h19614 k => ?_)
      · show Z E YX1_gets ((d + 1) + 1) M [(0, vr (some (16, 0, 0)))] 212 [vi (0 : Int32)] Q
        refine sX1_gets_212 (d := (d + 1)) M (0 : Int32) hw ?_
        refine zpos (show (0 : Int32) = 0 from by decide) ?_
        exact k
      · show Z E YX1_gets ((d + 1) + 1) M [(0, vr (some (16, 0, 0)))] 212 [vi (1 : Int32)] Q
        refine sX1_gets_212 (d := (d + 1)) M (1 : Int32) hw ?_
        refine zneg (show ¬ ((1 : Int32) = 0) from by decide) ?_
        exact k
    · show Z E YX1_gets ((d + 1) + 1) M [(0, vr (some (16, 0, 0)))] 212 [vi (1 : Int32)] Q
      refine sX1_gets_212 (d := (d + 1)) M (1 : Int32) hw ?_
      refine zneg (show ¬ ((1 : Int32) = 0) from by decide) ?_
      exact k
  · show Z E YX1_gets ((d + 1) + 1) M [(0, vr (some (16, 0, 0)))] 93 [vi (1 : Int32)] Q
    refine sX1_gets_93 (d := (d + 1)) M (1 : Int32) hw ?_
    refine zneg (show ¬ ((1 : Int32) = 0) from by decide) ?_
    refine jX1_isKey (d := d) M (0 : Int32) hw ?_
    refine zite k (fun h19615 k => ?_) (fun h19615 k => ?_)
    · refine zand k (fun h19616 k => ?_)
      show Z E YX1_gets ((d + 1) + 1) M [(0, vr (some (16, 0, 0)))] 101 [vi (gi M 16 90)] Q
      refine sX1_gets_101 (d := (d + 1)) M (gi M 16 90) hw ?_
      refine zite k (fun h19617 k => ?_) (fun h19617 k => ?_)
      · refine sX1_gets_149 (d := (d + 1)) M (gi M 16 90) hw ?_
        exact k
      · exact k
    · refine zneg (show ¬ ((64 : Int32) ≤ (0 : Int32)) from by decide) ?_
      intro x1_v16400v18665v19618 h19618
      have k := k x1_v16400v18665v19618 h19618
      refine zite k (fun h19619 k => ?_) (fun h19619 k => ?_)
      · refine zand k (fun h19620 k => ?_)
        show Z E YX1_gets ((d + 1) + 1) M [(0, vr (some (16, 0, 0)))] 101 [vi (0 : Int32)] Q
        refine sX1_gets_101 (d := (d + 1)) M (0 : Int32) hw ?_
        refine zpos (show (0 : Int32) = 0 from by decide) ?_
        refine sX1_gets_149 (d := (d + 1)) M (0 : Int32) hw ?_
        exact k
      · refine zand k (fun h19621 k => ?_)
        show Z E YX1_gets ((d + 1) + 1) M [(0, vr (some (16, 0, 0)))] 101 [vi (1 : Int32)] Q
        refine sX1_gets_101 (d := (d + 1)) M (1 : Int32) hw ?_
        refine zneg (show ¬ ((1 : Int32) = 0) from by decide) ?_
        exact k
theorem iX1_gets_44 {E : zE} {d : Nat} {Q : zO → zM → Prop} (M : zM) (hw : cw M) (k : 16 ≤ 74 ∧ (if (lg_cmp ((gl M 71 2) &&& ((124 : Int32)).toInt64) (0 : Int64)) = 0 then (Z E YX1_keys d (sl (sl (sl M 74 0 (0 : Int64)) 74 1 (0 : Int64)) 74 2 (0 : Int64)) (zargs 0 [vr (some (16, 0, 0)), vr (some (72, 4, 0))]) 0 [] (zafter E YX1_gets (d + 1) [(0, vr (some (16, 0, 0)))] 80 3 [] Q)) else (Z E YX6_join3 d (sl (sl (sl M 74 0 (0 : Int64)) 74 1 (0 : Int64)) 74 2 (0 : Int64)) (zargs 0 [vr (some (74, 4, 0)), vl (0 : Int64), vl (0 : Int64), vl (1 : Int64)]) 0 [] (zafter E YX1_gets (d + 1) [(0, vr (some (16, 0, 0)))] 71 3 [] Q)))) : Z E YX1_gets (d + 1) M [(0, vr (some (16, 0, 0)))] 44 [] Q := by
  refine sX1_gets_44 (d := d) M hw ?_
  refine jX6_empty (d := d) M 74 ?_
  refine zand k (fun h19622 k => ?_)
  show Z E YX1_gets (d + 1) (sl (sl (sl M 74 0 (0 : Int64)) 74 1 (0 : Int64)) 74 2 (0 : Int64)) [(0, vr (some (16, 0, 0)))] 51 [vr (some (74, 4, 0))] Q
  refine sX1_gets_51 (d := d) (sl (sl (sl M 74 0 (0 : Int64)) 74 1 (0 : Int64)) 74 2 (0 : Int64)) (some (74, 4, 0)) hw ?_
  refine sX6_has_0 (d := d) (sl (sl (sl M 74 0 (0 : Int64)) 74 1 (0 : Int64)) 74 2 (0 : Int64)) 71 (124 : Int32) ?_
  refine zite k (fun h19623 k => ?_) (fun h19623 k => ?_)
  · show Z E YX1_gets (d + 1) (sl (sl (sl M 74 0 (0 : Int64)) 74 1 (0 : Int64)) 74 2 (0 : Int64)) [(0, vr (some (16, 0, 0)))] 61 [vi (0 : Int32)] Q
    refine sX1_gets_61 (d := d) (sl (sl (sl M 74 0 (0 : Int64)) 74 1 (0 : Int64)) 74 2 (0 : Int64)) (0 : Int32) hw ?_
    refine zpos (show (0 : Int32) = 0 from by decide) ?_
    exact k
  · show Z E YX1_gets (d + 1) (sl (sl (sl M 74 0 (0 : Int64)) 74 1 (0 : Int64)) 74 2 (0 : Int64)) [(0, vr (some (16, 0, 0)))] 61 [vi (1 : Int32)] Q
    refine sX1_gets_61 (d := d) (sl (sl (sl M 74 0 (0 : Int64)) 74 1 (0 : Int64)) 74 2 (0 : Int64)) (1 : Int32) hw ?_
    refine zneg (show ¬ ((1 : Int32) = 0) from by decide) ?_
    exact k
theorem iX1_gets_237 {E : zE} {d : Nat} {Q : zO → zM → Prop} (M : zM) (hw : cw M) (k : if (gi M 16 91) = 0 then (if (lg_cmp (gl M 74 2) (1 : Int64)) = 0 then (if (lg_cmp (gl M 74 0) (0 : Int64)) = 0 then (if (lg_cmp (gl M 74 1) (0 : Int64)) = 0 then (vp_in (gi M 16 76) 600 ∧ (Z E YX1_nextWith d (si M 70 ((gi M 16 76)).toNatClampNeg (vp_nar .byte (((gi M 70 ((gi M 16 76)).toNatClampNeg) ||| (8 : Int32))).toInt8.toInt32)) (zargs 0 [vr (some (16, 0, 0)), vr (some (74, 4, 0))]) 0 [] (zafter E YX1_gets (d + 1) [] 297 3 [] Q))) else (Z E YX1_nextWith d M (zargs 0 [vr (some (16, 0, 0)), vr (some (74, 4, 0))]) 0 [] (zafter E YX1_gets (d + 1) [] 297 3 [] Q))) else (Z E YX1_nextWith d M (zargs 0 [vr (some (16, 0, 0)), vr (some (74, 4, 0))]) 0 [] (zafter E YX1_gets (d + 1) [] 297 3 [] Q))) else (Z E YX1_nextWith d M (zargs 0 [vr (some (16, 0, 0)), vr (some (74, 4, 0))]) 0 [] (zafter E YX1_gets (d + 1) [] 297 3 [] Q))) else (Z E YX6_join3 d M (zargs 0 [vr (some (74, 4, 0)), vl (0 : Int64), vl (0 : Int64), vl (1 : Int64)]) 0 [] (zafter E YX1_gets (d + 1) [(0, vr (some (16, 0, 0)))] 251 3 [] Q))) : Z E YX1_gets (d + 1) M [(0, vr (some (16, 0, 0)))] 237 [] Q := by
  refine sX1_gets_237 (d := d) M hw ?_
  refine zite k (fun h19624 k => ?_) (fun h19624 k => ?_)
  · refine sX1_gets_255 (d := d) M hw ?_
    refine zite k (fun h19625 k => ?_) (fun h19625 k => ?_)
    · refine sX6_hasLabels_0 (d := d) M 74 ?_
      refine zite k (fun h19626 k => ?_) (fun h19626 k => ?_)
      · refine zite k (fun h19627 k => ?_) (fun h19627 k => ?_)
        · show Z E YX1_gets (d + 1) M [(0, vr (some (16, 0, 0)))] 274 [vi (0 : Int32)] Q
          refine sX1_gets_274 (d := d) M (0 : Int32) hw ?_
          refine zpos (show (0 : Int32) = 0 from by decide) ?_
          refine zand k (fun h19628 k => ?_)
          refine ⟨h19628, ?_⟩
          exact k
        · show Z E YX1_gets (d + 1) M [(0, vr (some (16, 0, 0)))] 274 [vi (1 : Int32)] Q
          refine sX1_gets_274 (d := d) M (1 : Int32) hw ?_
          refine zneg (show ¬ ((1 : Int32) = 0) from by decide) ?_
          exact k
      · show Z E YX1_gets (d + 1) M [(0, vr (some (16, 0, 0)))] 274 [vi (1 : Int32)] Q
        refine sX1_gets_274 (d := d) M (1 : Int32) hw ?_
        refine zneg (show ¬ ((1 : Int32) = 0) from by decide) ?_
        exact k
    · exact k
  · exact k
theorem iX1_gets_173 {E : zE} {d : Nat} {Q : zO → zM → Prop} (M : zM) (l1 : Int32) (hw : cw M) (k : if (gi M 16 91) = 0 then (if l1 = 0 then (if (lg_cmp (gl M 71 0) (0 : Int64)) = 0 then (if (lg_cmp (gl M 71 1) (0 : Int64)) = 0 then (Z E YX1_nextWith d M (zargs 0 [vr (some (16, 0, 0)), vr (some (74, 4, 0))]) 0 [] (zafter E YX1_gets (d + 1) [] 297 3 [] Q)) else (Z E YX1_readAll d M (zargs 0 [vr (some (16, 0, 0)), vl (gl M 71 0), vl (gl M 71 1), vr (some (74, 4, 0))]) 0 [] (zafter E YX1_gets (d + 1) [(0, vr (some (16, 0, 0)))] 234 3 [] Q))) else (Z E YX1_readAll d M (zargs 0 [vr (some (16, 0, 0)), vl (gl M 71 0), vl (gl M 71 1), vr (some (74, 4, 0))]) 0 [] (zafter E YX1_gets (d + 1) [(0, vr (some (16, 0, 0)))] 234 3 [] Q))) else (if (lg_cmp (gl M 71 0) (0 : Int64)) = 0 then (if (lg_cmp (gl M 71 1) (0 : Int64)) = 0 then (Z E YX1_nextWith d (sl M 16 88 ((gl M 16 88) ||| (1 : Int64))) (zargs 0 [vr (some (16, 0, 0)), vr (some (74, 4, 0))]) 0 [] (zafter E YX1_gets (d + 1) [] 297 3 [] Q)) else (Z E YX1_readAll d (sl M 16 88 ((gl M 16 88) ||| (1 : Int64))) (zargs 0 [vr (some (16, 0, 0)), vl (gl M 71 0), vl (gl M 71 1), vr (some (74, 4, 0))]) 0 [] (zafter E YX1_gets (d + 1) [(0, vr (some (16, 0, 0)))] 234 3 [] Q))) else (Z E YX1_readAll d (sl M 16 88 ((gl M 16 88) ||| (1 : Int64))) (zargs 0 [vr (some (16, 0, 0)), vl (gl M 71 0), vl (gl M 71 1), vr (some (74, 4, 0))]) 0 [] (zafter E YX1_gets (d + 1) [(0, vr (some (16, 0, 0)))] 234 3 [] Q)))) else (Z E YX6_join3 d M (zargs 0 [vr (some (74, 4, 0)), vl (0 : Int64), vl (0 : Int64), vl (1 : Int64)]) 0 [] (zafter E YX1_gets (d + 1) [(0, vr (some (16, 0, 0))), (1, vi l1)] 187 3 [] Q))) : Z E YX1_gets (d + 1) M [(0, vr (some (16, 0, 0))), (1, vi l1)] 173 [] Q := by
  refine sX1_gets_173 (d := d) M l1 hw ?_
  refine zite k (fun h19629 k => ?_) (fun h19629 k => ?_)
  · refine sX1_gets_191 (d := d) M l1 hw ?_
    refine zite k (fun h19630 k => ?_) (fun h19630 k => ?_)
    · refine sX6_hasLabels_0 (d := d) M 71 ?_
      refine zite k (fun h19631 k => ?_) (fun h19631 k => ?_)
      · refine zite k (fun h19632 k => ?_) (fun h19632 k => ?_)
        · show Z E YX1_gets (d + 1) M [(0, vr (some (16, 0, 0)))] 212 [vi (0 : Int32)] Q
          refine sX1_gets_212 (d := d) M (0 : Int32) hw ?_
          refine zpos (show (0 : Int32) = 0 from by decide) ?_
          exact k
        · show Z E YX1_gets (d + 1) M [(0, vr (some (16, 0, 0)))] 212 [vi (1 : Int32)] Q
          refine sX1_gets_212 (d := d) M (1 : Int32) hw ?_
          refine zneg (show ¬ ((1 : Int32) = 0) from by decide) ?_
          exact k
      · show Z E YX1_gets (d + 1) M [(0, vr (some (16, 0, 0)))] 212 [vi (1 : Int32)] Q
        refine sX1_gets_212 (d := d) M (1 : Int32) hw ?_
        refine zneg (show ¬ ((1 : Int32) = 0) from by decide) ?_
        exact k
    · refine sX6_hasLabels_0 (d := d) (sl M 16 88 ((gl M 16 88) ||| (1 : Int64))) 71 ?_
      refine zite k (fun h19633 k => ?_) (fun h19633 k => ?_)
      · refine zite k (fun h19634 k => ?_) (fun h19634 k => ?_)
        · show Z E YX1_gets (d + 1) (sl M 16 88 ((gl M 16 88) ||| (1 : Int64))) [(0, vr (some (16, 0, 0)))] 212 [vi (0 : Int32)] Q
          refine sX1_gets_212 (d := d) (sl M 16 88 ((gl M 16 88) ||| (1 : Int64))) (0 : Int32) hw ?_
          refine zpos (show (0 : Int32) = 0 from by decide) ?_
          exact k
        · show Z E YX1_gets (d + 1) (sl M 16 88 ((gl M 16 88) ||| (1 : Int64))) [(0, vr (some (16, 0, 0)))] 212 [vi (1 : Int32)] Q
          refine sX1_gets_212 (d := d) (sl M 16 88 ((gl M 16 88) ||| (1 : Int64))) (1 : Int32) hw ?_
          refine zneg (show ¬ ((1 : Int32) = 0) from by decide) ?_
          exact k
      · show Z E YX1_gets (d + 1) (sl M 16 88 ((gl M 16 88) ||| (1 : Int64))) [(0, vr (some (16, 0, 0)))] 212 [vi (1 : Int32)] Q
        refine sX1_gets_212 (d := d) (sl M 16 88 ((gl M 16 88) ||| (1 : Int64))) (1 : Int32) hw ?_
        refine zneg (show ¬ ((1 : Int32) = 0) from by decide) ?_
        exact k
  · exact k
theorem iX1_gets_119 {E : zE} {d : Nat} {Q : zO → zM → Prop} (M : zM) (l1 : Int32) (s0 : Int32) (s1 : Int64) (s2 : Int64) (hw : cw M) (k : if s0 = 0 then (Z E YX6_join3 d M (zargs 0 [vr (some (74, 4, 0)), vl s2, vl s1, vl (64 : Int64)]) 0 [] (zafter E YX1_gets (d + 1) [(0, vr (some (16, 0, 0))), (1, vi l1)] 145 3 [] Q)) else (∃ b19636 m19636 : Nat, (gr M 17 1) = some (b19636, 100, m19636) ∧ (vp_in ((((zlr (gl M 71 2) (16 : Int32)) &&& (65535 : Int64))).toInt32 + (1 : Int32)) m19636 ∧ (vp_in (((zlr (gl M 71 2) (16 : Int32)) &&& (65535 : Int64))).toInt32 m19636 ∧ (∀ x1_v18196v19639 : Int64, x1_v18196v19639 = (zls (((gi M b19636 (((((zlr (gl M 71 2) (16 : Int32)) &&& (65535 : Int64))).toInt32 + (1 : Int32))).toNatClampNeg) - (gi M b19636 ((((zlr (gl M 71 2) (16 : Int32)) &&& (65535 : Int64))).toInt32).toNatClampNeg))).toInt64 (32 : Int32)) → (Z E YX6_join3 d M (zargs 0 [vr (some (74, 4, 0)), vl s2, vl s1, vl ((32 : Int64) ||| x1_v18196v19639)]) 0 [] (zafter E YX1_gets (d + 1) [(0, vr (some (16, 0, 0))), (1, vi l1)] 145 3 [] Q))))))) : Z E YX1_gets (d + 1) M [(0, vr (some (16, 0, 0))), (1, vi l1)] 119 [vi s0, vl s1, vl s2, vr (some (74, 4, 0))] Q := by
  refine sX1_gets_119 (d := d) M l1 s0 s1 s2 hw ?_
  refine zite k (fun h19635 k => ?_) (fun h19635 k => ?_)
  · exact k
  · refine sX6_name_0 (d := d) M 71 ?_
    show Z E YX1_gets (d + 1) M [(0, vr (some (16, 0, 0))), (1, vi l1)] 133 [vi (((zlr (gl M 71 2) (16 : Int32)) &&& (65535 : Int64))).toInt32, vr (some (17, 2, 0)), vl s1, vl s2, vr (some (74, 4, 0))] Q
    refine sX1_gets_133 (d := d) M l1 ((((zlr (gl M 71 2) (16 : Int32)) &&& (65535 : Int64))).toInt32) s1 s2 hw ?_
    refine jX2_length (d := d) M 17 ((((zlr (gl M 71 2) (16 : Int32)) &&& (65535 : Int64))).toInt32) ?_
    obtain ⟨b19636, m19636, h19636, k⟩ := k
    refine ⟨b19636, m19636, h19636, ?_⟩
    refine zand k (fun h19637 k => ?_)
    refine zand k (fun h19638 k => ?_)
    show Z E YX1_gets (d + 1) M [(0, vr (some (16, 0, 0))), (1, vi l1)] 136 [vi ((gi M b19636 (((((zlr (gl M 71 2) (16 : Int32)) &&& (65535 : Int64))).toInt32 + (1 : Int32))).toNatClampNeg) - (gi M b19636 ((((zlr (gl M 71 2) (16 : Int32)) &&& (65535 : Int64))).toInt32).toNatClampNeg)), vl s1, vl s2, vr (some (74, 4, 0))] Q
    refine sX1_gets_136 (d := d) M l1 ((gi M b19636 (((((zlr (gl M 71 2) (16 : Int32)) &&& (65535 : Int64))).toInt32 + (1 : Int32))).toNatClampNeg) - (gi M b19636 ((((zlr (gl M 71 2) (16 : Int32)) &&& (65535 : Int64))).toInt32).toNatClampNeg)) s1 s2 hw ?_
    refine sX1_numberSet_0 (d := d) M ((gi M b19636 (((((zlr (gl M 71 2) (16 : Int32)) &&& (65535 : Int64))).toInt32 + (1 : Int32))).toNatClampNeg) - (gi M b19636 ((((zlr (gl M 71 2) (16 : Int32)) &&& (65535 : Int64))).toInt32).toNatClampNeg)) hw ?_
    intro x1_v18196v19639 h19639
    have k := k x1_v18196v19639 h19639
    show Z E YX1_gets (d + 1) M [(0, vr (some (16, 0, 0))), (1, vi l1)] 139 [vl ((32 : Int64) ||| x1_v18196v19639), vl s1, vl s2, vr (some (74, 4, 0))] Q
    refine sX1_gets_139 (d := d) M l1 ((32 : Int64) ||| x1_v18196v19639) s1 s2 hw ?_
    exact k
theorem iX1_gets_254 {E : zE} {d : Nat} {Q : zO → zM → Prop} (M : zM) (u0 : Option zP) (hw : cw M) (k : if (lg_cmp (gl M 74 2) (1 : Int64)) = 0 then (if (lg_cmp (gl M 74 0) (0 : Int64)) = 0 then (if (lg_cmp (gl M 74 1) (0 : Int64)) = 0 then (vp_in (gi M 16 76) 600 ∧ (Z E YX1_nextWith d (si M 70 ((gi M 16 76)).toNatClampNeg (vp_nar .byte (((gi M 70 ((gi M 16 76)).toNatClampNeg) ||| (8 : Int32))).toInt8.toInt32)) (zargs 0 [vr (some (16, 0, 0)), vr (some (74, 4, 0))]) 0 [] (zafter E YX1_gets (d + 1) [] 297 3 [] Q))) else (Z E YX1_nextWith d M (zargs 0 [vr (some (16, 0, 0)), vr (some (74, 4, 0))]) 0 [] (zafter E YX1_gets (d + 1) [] 297 3 [] Q))) else (Z E YX1_nextWith d M (zargs 0 [vr (some (16, 0, 0)), vr (some (74, 4, 0))]) 0 [] (zafter E YX1_gets (d + 1) [] 297 3 [] Q))) else (Z E YX1_nextWith d M (zargs 0 [vr (some (16, 0, 0)), vr (some (74, 4, 0))]) 0 [] (zafter E YX1_gets (d + 1) [] 297 3 [] Q))) : Z E YX1_gets (d + 1) M [(0, vr (some (16, 0, 0)))] 254 [vr u0] Q := by
  refine sX1_gets_254 (d := d) M u0 hw ?_
  refine sX1_gets_255 (d := d) M hw ?_
  refine zite k (fun h19640 k => ?_) (fun h19640 k => ?_)
  · refine sX6_hasLabels_0 (d := d) M 74 ?_
    refine zite k (fun h19641 k => ?_) (fun h19641 k => ?_)
    · refine zite k (fun h19642 k => ?_) (fun h19642 k => ?_)
      · show Z E YX1_gets (d + 1) M [(0, vr (some (16, 0, 0)))] 274 [vi (0 : Int32)] Q
        refine sX1_gets_274 (d := d) M (0 : Int32) hw ?_
        refine zpos (show (0 : Int32) = 0 from by decide) ?_
        refine zand k (fun h19643 k => ?_)
        refine ⟨h19643, ?_⟩
        exact k
      · show Z E YX1_gets (d + 1) M [(0, vr (some (16, 0, 0)))] 274 [vi (1 : Int32)] Q
        refine sX1_gets_274 (d := d) M (1 : Int32) hw ?_
        refine zneg (show ¬ ((1 : Int32) = 0) from by decide) ?_
        exact k
    · show Z E YX1_gets (d + 1) M [(0, vr (some (16, 0, 0)))] 274 [vi (1 : Int32)] Q
      refine sX1_gets_274 (d := d) M (1 : Int32) hw ?_
      refine zneg (show ¬ ((1 : Int32) = 0) from by decide) ?_
      exact k
  · exact k
theorem iX1_gets_190 {E : zE} {d : Nat} {Q : zO → zM → Prop} (M : zM) (l1 : Int32) (u0 : Option zP) (hw : cw M) (k : if l1 = 0 then (if (lg_cmp (gl M 71 0) (0 : Int64)) = 0 then (if (lg_cmp (gl M 71 1) (0 : Int64)) = 0 then (Z E YX1_nextWith d M (zargs 0 [vr (some (16, 0, 0)), vr (some (74, 4, 0))]) 0 [] (zafter E YX1_gets (d + 1) [] 297 3 [] Q)) else (Z E YX1_readAll d M (zargs 0 [vr (some (16, 0, 0)), vl (gl M 71 0), vl (gl M 71 1), vr (some (74, 4, 0))]) 0 [] (zafter E YX1_gets (d + 1) [(0, vr (some (16, 0, 0)))] 234 3 [] Q))) else (Z E YX1_readAll d M (zargs 0 [vr (some (16, 0, 0)), vl (gl M 71 0), vl (gl M 71 1), vr (some (74, 4, 0))]) 0 [] (zafter E YX1_gets (d + 1) [(0, vr (some (16, 0, 0)))] 234 3 [] Q))) else (if (lg_cmp (gl M 71 0) (0 : Int64)) = 0 then (if (lg_cmp (gl M 71 1) (0 : Int64)) = 0 then (Z E YX1_nextWith d (sl M 16 88 ((gl M 16 88) ||| (1 : Int64))) (zargs 0 [vr (some (16, 0, 0)), vr (some (74, 4, 0))]) 0 [] (zafter E YX1_gets (d + 1) [] 297 3 [] Q)) else (Z E YX1_readAll d (sl M 16 88 ((gl M 16 88) ||| (1 : Int64))) (zargs 0 [vr (some (16, 0, 0)), vl (gl M 71 0), vl (gl M 71 1), vr (some (74, 4, 0))]) 0 [] (zafter E YX1_gets (d + 1) [(0, vr (some (16, 0, 0)))] 234 3 [] Q))) else (Z E YX1_readAll d (sl M 16 88 ((gl M 16 88) ||| (1 : Int64))) (zargs 0 [vr (some (16, 0, 0)), vl (gl M 71 0), vl (gl M 71 1), vr (some (74, 4, 0))]) 0 [] (zafter E YX1_gets (d + 1) [(0, vr (some (16, 0, 0)))] 234 3 [] Q)))) : Z E YX1_gets (d + 1) M [(0, vr (some (16, 0, 0))), (1, vi l1)] 190 [vr u0] Q := by
  refine sX1_gets_190 (d := d) M l1 u0 hw ?_
  refine sX1_gets_191 (d := d) M l1 hw ?_
  refine zite k (fun h19644 k => ?_) (fun h19644 k => ?_)
  · refine sX6_hasLabels_0 (d := d) M 71 ?_
    refine zite k (fun h19645 k => ?_) (fun h19645 k => ?_)
    · refine zite k (fun h19646 k => ?_) (fun h19646 k => ?_)
      · show Z E YX1_gets (d + 1) M [(0, vr (some (16, 0, 0)))] 212 [vi (0 : Int32)] Q
        refine sX1_gets_212 (d := d) M (0 : Int32) hw ?_
        refine zpos (show (0 : Int32) = 0 from by decide) ?_
        exact k
      · show Z E YX1_gets (d + 1) M [(0, vr (some (16, 0, 0)))] 212 [vi (1 : Int32)] Q
        refine sX1_gets_212 (d := d) M (1 : Int32) hw ?_
        refine zneg (show ¬ ((1 : Int32) = 0) from by decide) ?_
        exact k
    · show Z E YX1_gets (d + 1) M [(0, vr (some (16, 0, 0)))] 212 [vi (1 : Int32)] Q
      refine sX1_gets_212 (d := d) M (1 : Int32) hw ?_
      refine zneg (show ¬ ((1 : Int32) = 0) from by decide) ?_
      exact k
  · refine sX6_hasLabels_0 (d := d) (sl M 16 88 ((gl M 16 88) ||| (1 : Int64))) 71 ?_
    refine zite k (fun h19647 k => ?_) (fun h19647 k => ?_)
    · refine zite k (fun h19648 k => ?_) (fun h19648 k => ?_)
      · show Z E YX1_gets (d + 1) (sl M 16 88 ((gl M 16 88) ||| (1 : Int64))) [(0, vr (some (16, 0, 0)))] 212 [vi (0 : Int32)] Q
        refine sX1_gets_212 (d := d) (sl M 16 88 ((gl M 16 88) ||| (1 : Int64))) (0 : Int32) hw ?_
        refine zpos (show (0 : Int32) = 0 from by decide) ?_
        exact k
      · show Z E YX1_gets (d + 1) (sl M 16 88 ((gl M 16 88) ||| (1 : Int64))) [(0, vr (some (16, 0, 0)))] 212 [vi (1 : Int32)] Q
        refine sX1_gets_212 (d := d) (sl M 16 88 ((gl M 16 88) ||| (1 : Int64))) (1 : Int32) hw ?_
        refine zneg (show ¬ ((1 : Int32) = 0) from by decide) ?_
        exact k
    · show Z E YX1_gets (d + 1) (sl M 16 88 ((gl M 16 88) ||| (1 : Int64))) [(0, vr (some (16, 0, 0)))] 212 [vi (1 : Int32)] Q
      refine sX1_gets_212 (d := d) (sl M 16 88 ((gl M 16 88) ||| (1 : Int64))) (1 : Int32) hw ?_
      refine zneg (show ¬ ((1 : Int32) = 0) from by decide) ?_
      exact k
theorem iX1_gets_148 {E : zE} {d : Nat} {Q : zO → zM → Prop} (M : zM) (l1 : Int32) (u0 : Option zP) (hw : cw M) (k : Z E YX1_readAll d (sl M 16 88 ((gl M 16 88) &&& (-2 : Int64))) (zargs 0 [vr (some (16, 0, 0)), vl (16 : Int64), vl (0 : Int64), vr (some (74, 4, 0))]) 0 [] (zafter E YX1_gets (d + 1) [(0, vr (some (16, 0, 0))), (1, vi l1)] 170 3 [] Q)) : Z E YX1_gets (d + 1) M [(0, vr (some (16, 0, 0))), (1, vi l1)] 148 [vr u0] Q := by
  refine sX1_gets_148 (d := d) M l1 u0 hw ?_
  refine sX1_gets_149 (d := d) M l1 hw ?_
  exact k
theorem iX1_global_0 {E : zE} {d : Nat} {Q : zO → zM → Prop} (M : zM) (l1 : Int32) (l2 : Int32) (hw : cw M) (k : ∃ b19649 : Nat, (gr M 16 60) = some (b19649, 7, 0) ∧ (∃ b19650 : Nat, (gr M b19649 0) = some (b19650, 0, 0) ∧ (∃ b19651 m19651 : Nat, (gr M b19649 3) = some (b19651, 105, m19651) ∧ (vp_in (((0 : Int32) * ((gi M b19650 1) + (1 : Int32))) + l1) m19651 ∧ (if (lg_cmp ((gl M b19651 ((((0 : Int32) * ((gi M b19650 1) + (1 : Int32))) + l1)).toNatClampNeg) &&& (512 : Int64)) (0 : Int64)) = 0 then (16 ≤ 71 ∧ (∃ b19655 m19655 : Nat, (gr M b19649 1) = some (b19655, 105, m19655) ∧ (vp_in (((0 : Int32) * ((gi M b19650 1) + (1 : Int32))) + l1) m19655 ∧ (∃ b19657 m19657 : Nat, (gr M b19649 2) = some (b19657, 105, m19657) ∧ (vp_in (((0 : Int32) * ((gi M b19650 1) + (1 : Int32))) + l1) m19657 ∧ (Z E YX6_join3 d (sl (sl (sl M 71 0 (0 : Int64)) 71 1 (0 : Int64)) 71 2 ((gl M b19651 ((((0 : Int32) * ((gi M b19650 1) + (1 : Int32))) + l1)).toNatClampNeg) &&& (-513 : Int64))) (zargs 0 [vr (some (71, 4, 0)), vl (gl (sl (sl (sl M 71 0 (0 : Int64)) 71 1 (0 : Int64)) 71 2 ((gl M b19651 ((((0 : Int32) * ((gi M b19650 1) + (1 : Int32))) + l1)).toNatClampNeg) &&& (-513 : Int64))) b19655 ((((0 : Int32) * ((gi M b19650 1) + (1 : Int32))) + l1)).toNatClampNeg), vl (gl (sl (sl (sl M 71 0 (0 : Int64)) 71 1 (0 : Int64)) 71 2 ((gl M b19651 ((((0 : Int32) * ((gi M b19650 1) + (1 : Int32))) + l1)).toNatClampNeg) &&& (-513 : Int64))) b19657 ((((0 : Int32) * ((gi M b19650 1) + (1 : Int32))) + l1)).toNatClampNeg), vl (0 : Int64)]) 0 [] (zafter E YX1_global (d + 1) [(0, vr (some (16, 0, 0))), (2, vi l2), (4, vi (0 : Int32))] 74 3 [] Q))))))) else (16 ≤ 71 ∧ (∃ b19660 m19660 : Nat, (gr M b19649 1) = some (b19660, 105, m19660) ∧ (vp_in (((0 : Int32) * ((gi M b19650 1) + (1 : Int32))) + l1) m19660 ∧ (∃ b19662 m19662 : Nat, (gr M b19649 2) = some (b19662, 105, m19662) ∧ (vp_in (((0 : Int32) * ((gi M b19650 1) + (1 : Int32))) + l1) m19662 ∧ (Z E YX6_join3 d (sl (sl (sl M 71 0 (0 : Int64)) 71 1 (0 : Int64)) 71 2 ((gl M b19651 ((((0 : Int32) * ((gi M b19650 1) + (1 : Int32))) + l1)).toNatClampNeg) &&& (-513 : Int64))) (zargs 0 [vr (some (71, 4, 0)), vl (gl (sl (sl (sl M 71 0 (0 : Int64)) 71 1 (0 : Int64)) 71 2 ((gl M b19651 ((((0 : Int32) * ((gi M b19650 1) + (1 : Int32))) + l1)).toNatClampNeg) &&& (-513 : Int64))) b19660 ((((0 : Int32) * ((gi M b19650 1) + (1 : Int32))) + l1)).toNatClampNeg), vl (gl (sl (sl (sl M 71 0 (0 : Int64)) 71 1 (0 : Int64)) 71 2 ((gl M b19651 ((((0 : Int32) * ((gi M b19650 1) + (1 : Int32))) + l1)).toNatClampNeg) &&& (-513 : Int64))) b19662 ((((0 : Int32) * ((gi M b19650 1) + (1 : Int32))) + l1)).toNatClampNeg), vl (0 : Int64)]) 0 [] (zafter E YX1_global (d + 1) [(0, vr (some (16, 0, 0))), (2, vi l2), (4, vi (1 : Int32))] 74 3 [] Q)))))))))))) : Z E YX1_global (d + 1) M [(0, vr (some (16, 0, 0))), (1, vi l1), (2, vi l2)] 0 [] Q := by
  refine sX1_global_0 (d := d) M l1 l2 hw ?_
  obtain ⟨b19649, h19649, k⟩ := k
  refine ⟨b19649, h19649, ?_⟩
  refine sX43_cell_0 (d := d) M b19649 (0 : Int32) l1 ?_
  obtain ⟨b19650, h19650, k⟩ := k
  refine ⟨b19650, h19650, ?_⟩
  show Z E YX1_global (d + 1) M [(0, vr (some (16, 0, 0))), (2, vi l2)] 9 [vi (((0 : Int32) * ((gi M b19650 1) + (1 : Int32))) + l1)] Q
  refine sX1_global_9 (d := d) M l2 (((0 : Int32) * ((gi M b19650 1) + (1 : Int32))) + l1) hw ?_
  refine ⟨b19649, h19649, ?_⟩
  obtain ⟨b19651, m19651, h19651, k⟩ := k
  refine ⟨b19651, m19651, h19651, ?_⟩
  refine zand k (fun h19652 k => ?_)
  refine zite k (fun h19653 k => ?_) (fun h19653 k => ?_)
  · refine sX1_global_33 (d := d) M l2 (((0 : Int32) * ((gi M b19650 1) + (1 : Int32))) + l1) (0 : Int32) hw ?_
    refine ⟨b19649, h19649, ?_⟩
    refine ⟨b19651, m19651, h19651, ?_⟩
    refine ⟨h19652, ?_⟩
    refine jX6_of (d := d) M 71 ((gl M b19651 ((((0 : Int32) * ((gi M b19650 1) + (1 : Int32))) + l1)).toNatClampNeg) &&& (-513 : Int64)) ?_
    refine zand k (fun h19654 k => ?_)
    show Z E YX1_global (d + 1) (sl (sl (sl M 71 0 (0 : Int64)) 71 1 (0 : Int64)) 71 2 ((gl M b19651 ((((0 : Int32) * ((gi M b19650 1) + (1 : Int32))) + l1)).toNatClampNeg) &&& (-513 : Int64))) [(0, vr (some (16, 0, 0))), (2, vi l2), (3, vi (((0 : Int32) * ((gi M b19650 1) + (1 : Int32))) + l1)), (4, vi (0 : Int32))] 55 [vr (some (71, 4, 0))] Q
    refine sX1_global_55 (d := d) (sl (sl (sl M 71 0 (0 : Int64)) 71 1 (0 : Int64)) 71 2 ((gl M b19651 ((((0 : Int32) * ((gi M b19650 1) + (1 : Int32))) + l1)).toNatClampNeg) &&& (-513 : Int64))) l2 (((0 : Int32) * ((gi M b19650 1) + (1 : Int32))) + l1) (0 : Int32) (some (71, 4, 0)) hw ?_
    refine ⟨b19649, h19649, ?_⟩
    obtain ⟨b19655, m19655, h19655, k⟩ := k
    refine ⟨b19655, m19655, h19655, ?_⟩
    refine zand k (fun h19656 k => ?_)
    refine ⟨b19649, h19649, ?_⟩
    obtain ⟨b19657, m19657, h19657, k⟩ := k
    refine ⟨b19657, m19657, h19657, ?_⟩
    refine zand k (fun h19658 k => ?_)
    refine ⟨71, rfl, ?_⟩
    exact k
  · refine sX1_global_33 (d := d) M l2 (((0 : Int32) * ((gi M b19650 1) + (1 : Int32))) + l1) (1 : Int32) hw ?_
    refine ⟨b19649, h19649, ?_⟩
    refine ⟨b19651, m19651, h19651, ?_⟩
    refine ⟨h19652, ?_⟩
    refine jX6_of (d := d) M 71 ((gl M b19651 ((((0 : Int32) * ((gi M b19650 1) + (1 : Int32))) + l1)).toNatClampNeg) &&& (-513 : Int64)) ?_
    refine zand k (fun h19659 k => ?_)
    show Z E YX1_global (d + 1) (sl (sl (sl M 71 0 (0 : Int64)) 71 1 (0 : Int64)) 71 2 ((gl M b19651 ((((0 : Int32) * ((gi M b19650 1) + (1 : Int32))) + l1)).toNatClampNeg) &&& (-513 : Int64))) [(0, vr (some (16, 0, 0))), (2, vi l2), (3, vi (((0 : Int32) * ((gi M b19650 1) + (1 : Int32))) + l1)), (4, vi (1 : Int32))] 55 [vr (some (71, 4, 0))] Q
    refine sX1_global_55 (d := d) (sl (sl (sl M 71 0 (0 : Int64)) 71 1 (0 : Int64)) 71 2 ((gl M b19651 ((((0 : Int32) * ((gi M b19650 1) + (1 : Int32))) + l1)).toNatClampNeg) &&& (-513 : Int64))) l2 (((0 : Int32) * ((gi M b19650 1) + (1 : Int32))) + l1) (1 : Int32) (some (71, 4, 0)) hw ?_
    refine ⟨b19649, h19649, ?_⟩
    obtain ⟨b19660, m19660, h19660, k⟩ := k
    refine ⟨b19660, m19660, h19660, ?_⟩
    refine zand k (fun h19661 k => ?_)
    refine ⟨b19649, h19649, ?_⟩
    obtain ⟨b19662, m19662, h19662, k⟩ := k
    refine ⟨b19662, m19662, h19662, ?_⟩
    refine zand k (fun h19663 k => ?_)
    refine ⟨71, rfl, ?_⟩
    exact k
theorem iX1_global_77 {E : zE} {d : Nat} {Q : zO → zM → Prop} (M : zM) (l2 : Int32) (l4 : Int32) (u0 : Option zP) (hw : cw M) (k : if l2 = 0 then (if l4 = 0 then (Z E YX1_nextWith d M (zargs 0 [vr (some (16, 0, 0)), vr (some (71, 4, 0))]) 0 [] (zafter E YX1_global (d + 1) [] 147 3 [] Q)) else (Z E YX1_errs d M (zargs 0 [vr (some (16, 0, 0)), vr (gr M 16 60), vi (1 : Int32)]) 0 [] (zafter E YX1_global (d + 1) [(0, vr (some (16, 0, 0)))] 139 3 [] Q))) else (16 ≤ 74 ∧ (Z E YX1_types d (sl (sl (sl M 74 0 (0 : Int64)) 74 1 (0 : Int64)) 74 2 (0 : Int64)) (zargs 0 [vr (some (16, 0, 0)), vr (some (71, 4, 0)), vr (some (74, 4, 0))]) 0 [] (zafter E YX1_global (d + 1) [(0, vr (some (16, 0, 0))), (4, vi l4)] 94 3 [] Q)))) : Z E YX1_global (d + 1) M [(0, vr (some (16, 0, 0))), (2, vi l2), (4, vi l4)] 77 [vr u0] Q := by
  refine sX1_global_77 (d := d) M l2 l4 u0 hw ?_
  refine zite k (fun h19664 k => ?_) (fun h19664 k => ?_)
  · refine zite k (fun h19665 k => ?_) (fun h19665 k => ?_)
    · refine sX1_global_142 (d := d) M hw ?_
      exact k
    · exact k
  · refine jX6_empty (d := d) M 74 ?_
    refine zand k (fun h19666 k => ?_)
    show Z E YX1_global (d + 1) (sl (sl (sl M 74 0 (0 : Int64)) 74 1 (0 : Int64)) 74 2 (0 : Int64)) [(0, vr (some (16, 0, 0))), (4, vi l4)] 94 [vr (some (74, 4, 0)), vr (some (71, 4, 0)), vr (some (16, 0, 0))] Q
    refine sX1_global_94 (d := d) (sl (sl (sl M 74 0 (0 : Int64)) 74 1 (0 : Int64)) 74 2 (0 : Int64)) l4 (some (74, 4, 0)) hw ?_
    exact k
theorem iX1_global_97 {E : zE} {d : Nat} {Q : zO → zM → Prop} (M : zM) (l4 : Int32) (hw : cw M) (k : if l4 = 0 then (Z E YX1_nextWith d M (zargs 0 [vr (some (16, 0, 0)), vr (some (74, 4, 0))]) 0 [] (zafter E YX1_global (d + 1) [] 122 3 [] Q)) else (Z E YX6_join3 d M (zargs 0 [vr (some (74, 4, 0)), vl (0 : Int64), vl (0 : Int64), vl ((128 : Int64) ||| (zls ((19 : Int32)).toInt64 (16 : Int32)))]) 0 [] (zafter E YX1_global (d + 1) [(0, vr (some (16, 0, 0)))] 113 3 [] Q))) : Z E YX1_global (d + 1) M [(0, vr (some (16, 0, 0))), (4, vi l4)] 97 [] Q := by
  refine sX1_global_97 (d := d) M l4 hw ?_
  refine zite k (fun h19667 k => ?_) (fun h19667 k => ?_)
  · exact k
  · refine sX1_textSet_0 (d := d) M (19 : Int32) hw ?_
    refine zneg (show ¬ ((19 : Int32) = (-1 : Int32)) from by decide) ?_
    show Z E YX1_global (d + 1) M [(0, vr (some (16, 0, 0)))] 113 [vl ((128 : Int64) ||| (zls ((19 : Int32)).toInt64 (16 : Int32))), vl (0 : Int64), vl (0 : Int64), vr (some (74, 4, 0))] Q
    refine sX1_global_113 (d := d) M ((128 : Int64) ||| (zls ((19 : Int32)).toInt64 (16 : Int32))) (0 : Int64) (0 : Int64) hw ?_
    exact k
theorem iX1_global_125 {E : zE} {d : Nat} {Q : zO → zM → Prop} (M : zM) (hw : cw M) (k : Q (.inl none) M) : Z E YX1_global (d + 1) M [] 125 [] Q := by
  refine sX1_global_125 (d := d) M hw ?_
  refine sX1_global_150 (d := d) M hw ?_
  exact k
theorem iX1_in_0 {E : zE} {d : Nat} {Q : zO → zM → Prop} (M : zM) (l0 : Int32) (l1 : Int64) (l3 : Int64) (hw : cw M) (k : if (64 : Int32) ≤ l0 then (∀ x1_v19669 : Int64, x1_v19669 = (zls (zlr l3 (l0 - (64 : Int32))) (63 : Int32)) → (if (lg_cmp x1_v19669 (0 : Int64)) = 0 then (Q (.inl (some (vi (0 : Int32)))) M) else (Q (.inl (some (vi (1 : Int32)))) M))) else (∀ x1_v19671 : Int64, x1_v19671 = (zls (zlr l1 l0) (63 : Int32)) → (if (lg_cmp x1_v19671 (0 : Int64)) = 0 then (Q (.inl (some (vi (0 : Int32)))) M) else (Q (.inl (some (vi (1 : Int32)))) M)))) : Z E YX1_in d M [(0, vi l0), (1, vl l1), (3, vl l3)] 0 [] Q := by
  refine sX1_in_0 (d := d) M l0 l1 l3 hw ?_
  refine zite k (fun h19668 k => ?_) (fun h19668 k => ?_)
  · refine sX1_in_18 (d := d) M (zlr l3 (l0 - (64 : Int32))) hw ?_
    exact k
  · refine sX1_in_18 (d := d) M (zlr l1 l0) hw ?_
    exact k
theorem iX1_isKey_0 {E : zE} {d : Nat} {Q : zO → zM → Prop} (M : zM) (l1 : Int32) (hw : cw M) (k : if l1 = (gi M 16 1) then ((narrow .boolean (.int (gi M 16 90)) = .int (gi M 16 90)) ∧ (Q (.inl (some (vi (gi M 16 90)))) M)) else (if (64 : Int32) ≤ l1 then (∀ x1_v16398v19676 : Int64, x1_v16398v19676 = (zls (zlr (gl M 16 89) (l1 - (64 : Int32))) (63 : Int32)) → (if (lg_cmp x1_v16398v19676 (0 : Int64)) = 0 then ((narrow .boolean (.int (0 : Int32)) = .int (0 : Int32)) ∧ (Q (.inl (some (vi (0 : Int32)))) M)) else ((narrow .boolean (.int (1 : Int32)) = .int (1 : Int32)) ∧ (Q (.inl (some (vi (1 : Int32)))) M)))) else (∀ x1_v16400v19680 : Int64, x1_v16400v19680 = (zls (zlr (gl M 16 88) l1) (63 : Int32)) → (if (lg_cmp x1_v16400v19680 (0 : Int64)) = 0 then ((narrow .boolean (.int (0 : Int32)) = .int (0 : Int32)) ∧ (Q (.inl (some (vi (0 : Int32)))) M)) else ((narrow .boolean (.int (1 : Int32)) = .int (1 : Int32)) ∧ (Q (.inl (some (vi (1 : Int32)))) M)))))) : Z E YX1_isKey (d + 1) M [(0, vr (some (16, 0, 0))), (1, vi l1)] 0 [] Q := by
  refine sX1_isKey_0 (d := d) M l1 hw ?_
  refine zite k (fun h19673 k => ?_) (fun h19673 k => ?_)
  · refine sX1_isKey_27 (d := d) M (gi M 16 90) hw ?_
    exact k
  · refine jX1_in (d := d) M l1 (gl M 16 88) (gl M 16 89) hw ?_
    refine zite k (fun h19675 k => ?_) (fun h19675 k => ?_)
    · intro x1_v16398v19676 h19676
      have k := k x1_v16398v19676 h19676
      refine zite k (fun h19677 k => ?_) (fun h19677 k => ?_)
      · show Z E YX1_isKey (d + 1) M [] 27 [vi (0 : Int32)] Q
        refine sX1_isKey_27 (d := d) M (0 : Int32) hw ?_
        exact k
      · show Z E YX1_isKey (d + 1) M [] 27 [vi (1 : Int32)] Q
        refine sX1_isKey_27 (d := d) M (1 : Int32) hw ?_
        exact k
    · intro x1_v16400v19680 h19680
      have k := k x1_v16400v19680 h19680
      refine zite k (fun h19681 k => ?_) (fun h19681 k => ?_)
      · show Z E YX1_isKey (d + 1) M [] 27 [vi (0 : Int32)] Q
        refine sX1_isKey_27 (d := d) M (0 : Int32) hw ?_
        exact k
      · show Z E YX1_isKey (d + 1) M [] 27 [vi (1 : Int32)] Q
        refine sX1_isKey_27 (d := d) M (1 : Int32) hw ?_
        exact k
theorem iX1_keys_20 {E : zE} {d : Nat} {Q : zO → zM → Prop} (M : zM) (a1 : Nat) (s0 : Int32) (hw : cw M) (k : if s0 = 0 then (Z E YX6_has d M (zargs 0 [vr (some (a1, 4, 0)), vi (2 : Int32)]) 0 [] (zafter E YX1_keys (d + 1) [(0, vr (some (16, 0, 0))), (1, vr (some (a1, 4, 0)))] 31 3 [] Q)) else (if (lg_cmp ((gl (sl M 16 88 ((gl M 16 88) ||| (zls (1 : Int64) (19 : Int32)))) a1 2) &&& ((2 : Int32)).toInt64) (0 : Int64)) = 0 then (Z E YX6_has d (sl M 16 88 ((gl M 16 88) ||| (zls (1 : Int64) (19 : Int32)))) (zargs 0 [vr (some (a1, 4, 0)), vi (4 : Int32)]) 0 [] (zafter E YX1_keys (d + 1) [(0, vr (some (16, 0, 0))), (1, vr (some (a1, 4, 0)))] 45 3 [] Q)) else (if (lg_cmp ((gl (sl (sl M 16 88 ((gl M 16 88) ||| (zls (1 : Int64) (19 : Int32)))) 16 88 (((gl M 16 88) ||| (zls (1 : Int64) (19 : Int32))) ||| (zls (1 : Int64) (25 : Int32)))) a1 2) &&& ((4 : Int32)).toInt64) (0 : Int64)) = 0 then (Z E YX6_has d (sl (sl M 16 88 ((gl M 16 88) ||| (zls (1 : Int64) (19 : Int32)))) 16 88 (((gl M 16 88) ||| (zls (1 : Int64) (19 : Int32))) ||| (zls (1 : Int64) (25 : Int32)))) (zargs 0 [vr (some (a1, 4, 0)), vi (8 : Int32)]) 0 [] (zafter E YX1_keys (d + 1) [(0, vr (some (16, 0, 0))), (1, vr (some (a1, 4, 0)))] 60 3 [] Q)) else (Z E YX6_has d (sl (sl (sl M 16 88 ((gl M 16 88) ||| (zls (1 : Int64) (19 : Int32)))) 16 88 (((gl M 16 88) ||| (zls (1 : Int64) (19 : Int32))) ||| (zls (1 : Int64) (25 : Int32)))) 16 88 ((((gl M 16 88) ||| (zls (1 : Int64) (19 : Int32))) ||| (zls (1 : Int64) (25 : Int32))) ||| (zls (1 : Int64) (26 : Int32)))) (zargs 0 [vr (some (a1, 4, 0)), vi (8 : Int32)]) 0 [] (zafter E YX1_keys (d + 1) [(0, vr (some (16, 0, 0))), (1, vr (some (a1, 4, 0)))] 60 3 [] Q))))) : Z E YX1_keys (d + 1) M [(0, vr (some (16, 0, 0))), (1, vr (some (a1, 4, 0)))] 20 [vi s0] Q := by
  refine sX1_keys_20 (d := d) M a1 s0 hw ?_
  refine zite k (fun h20564 k => ?_) (fun h20564 k => ?_)
  · refine sX1_keys_29 (d := d) M _ hw ?_
    exact k
  · refine sX1_key_0 (d := d) M (19 : Int32) hw ?_
    refine zneg (show ¬ ((64 : Int32) ≤ (19 : Int32)) from by decide) ?_
    show Z E YX1_keys (d + 1) (sl M 16 88 ((gl M 16 88) ||| (zls (1 : Int64) (19 : Int32)))) [(0, vr (some (16, 0, 0))), (1, vr (some (a1, 4, 0)))] 29 [] Q
    refine sX1_keys_29 (d := d) (sl M 16 88 ((gl M 16 88) ||| (zls (1 : Int64) (19 : Int32)))) _ hw ?_
    refine sX6_has_0 (d := d) (sl M 16 88 ((gl M 16 88) ||| (zls (1 : Int64) (19 : Int32)))) a1 (2 : Int32) ?_
    refine zite k (fun h21278 k => ?_) (fun h21278 k => ?_)
    · show Z E YX1_keys (d + 1) (sl M 16 88 ((gl M 16 88) ||| (zls (1 : Int64) (19 : Int32)))) [(0, vr (some (16, 0, 0))), (1, vr (some (a1, 4, 0)))] 34 [vi (0 : Int32)] Q
      refine sX1_keys_34 (d := d) (sl M 16 88 ((gl M 16 88) ||| (zls (1 : Int64) (19 : Int32)))) _ (0 : Int32) hw ?_
      refine zpos (show (0 : Int32) = 0 from by decide) ?_
      refine sX1_keys_43 (d := d) (sl M 16 88 ((gl M 16 88) ||| (zls (1 : Int64) (19 : Int32)))) _ hw ?_
      exact k
    · show Z E YX1_keys (d + 1) (sl M 16 88 ((gl M 16 88) ||| (zls (1 : Int64) (19 : Int32)))) [(0, vr (some (16, 0, 0))), (1, vr (some (a1, 4, 0)))] 34 [vi (1 : Int32)] Q
      refine sX1_keys_34 (d := d) (sl M 16 88 ((gl M 16 88) ||| (zls (1 : Int64) (19 : Int32)))) _ (1 : Int32) hw ?_
      refine zneg (show ¬ ((1 : Int32) = 0) from by decide) ?_
      refine sX1_key_0 (d := d) (sl M 16 88 ((gl M 16 88) ||| (zls (1 : Int64) (19 : Int32)))) (25 : Int32) hw ?_
      refine zneg (show ¬ ((64 : Int32) ≤ (25 : Int32)) from by decide) ?_
      show Z E YX1_keys (d + 1) (sl (sl M 16 88 ((gl M 16 88) ||| (zls (1 : Int64) (19 : Int32)))) 16 88 (((gl M 16 88) ||| (zls (1 : Int64) (19 : Int32))) ||| (zls (1 : Int64) (25 : Int32)))) [(0, vr (some (16, 0, 0))), (1, vr (some (a1, 4, 0)))] 43 [] Q
      refine sX1_keys_43 (d := d) (sl (sl M 16 88 ((gl M 16 88) ||| (zls (1 : Int64) (19 : Int32)))) 16 88 (((gl M 16 88) ||| (zls (1 : Int64) (19 : Int32))) ||| (zls (1 : Int64) (25 : Int32)))) _ hw ?_
      refine sX6_has_0 (d := d) (sl (sl M 16 88 ((gl M 16 88) ||| (zls (1 : Int64) (19 : Int32)))) 16 88 (((gl M 16 88) ||| (zls (1 : Int64) (19 : Int32))) ||| (zls (1 : Int64) (25 : Int32)))) a1 (4 : Int32) ?_
      refine zite k (fun h21651 k => ?_) (fun h21651 k => ?_)
      · show Z E YX1_keys (d + 1) (sl (sl M 16 88 ((gl M 16 88) ||| (zls (1 : Int64) (19 : Int32)))) 16 88 (((gl M 16 88) ||| (zls (1 : Int64) (19 : Int32))) ||| (zls (1 : Int64) (25 : Int32)))) [(0, vr (some (16, 0, 0))), (1, vr (some (a1, 4, 0)))] 48 [vi (0 : Int32)] Q
        refine sX1_keys_48 (d := d) (sl (sl M 16 88 ((gl M 16 88) ||| (zls (1 : Int64) (19 : Int32)))) 16 88 (((gl M 16 88) ||| (zls (1 : Int64) (19 : Int32))) ||| (zls (1 : Int64) (25 : Int32)))) _ (0 : Int32) hw ?_
        refine zpos (show (0 : Int32) = 0 from by decide) ?_
        refine sX1_keys_57 (d := d) (sl (sl M 16 88 ((gl M 16 88) ||| (zls (1 : Int64) (19 : Int32)))) 16 88 (((gl M 16 88) ||| (zls (1 : Int64) (19 : Int32))) ||| (zls (1 : Int64) (25 : Int32)))) _ hw ?_
        exact k
      · show Z E YX1_keys (d + 1) (sl (sl M 16 88 ((gl M 16 88) ||| (zls (1 : Int64) (19 : Int32)))) 16 88 (((gl M 16 88) ||| (zls (1 : Int64) (19 : Int32))) ||| (zls (1 : Int64) (25 : Int32)))) [(0, vr (some (16, 0, 0))), (1, vr (some (a1, 4, 0)))] 48 [vi (1 : Int32)] Q
        refine sX1_keys_48 (d := d) (sl (sl M 16 88 ((gl M 16 88) ||| (zls (1 : Int64) (19 : Int32)))) 16 88 (((gl M 16 88) ||| (zls (1 : Int64) (19 : Int32))) ||| (zls (1 : Int64) (25 : Int32)))) _ (1 : Int32) hw ?_
        refine zneg (show ¬ ((1 : Int32) = 0) from by decide) ?_
        refine sX1_key_0 (d := d) (sl (sl M 16 88 ((gl M 16 88) ||| (zls (1 : Int64) (19 : Int32)))) 16 88 (((gl M 16 88) ||| (zls (1 : Int64) (19 : Int32))) ||| (zls (1 : Int64) (25 : Int32)))) (26 : Int32) hw ?_
        refine zneg (show ¬ ((64 : Int32) ≤ (26 : Int32)) from by decide) ?_
        show Z E YX1_keys (d + 1) (sl (sl (sl M 16 88 ((gl M 16 88) ||| (zls (1 : Int64) (19 : Int32)))) 16 88 (((gl M 16 88) ||| (zls (1 : Int64) (19 : Int32))) ||| (zls (1 : Int64) (25 : Int32)))) 16 88 ((((gl M 16 88) ||| (zls (1 : Int64) (19 : Int32))) ||| (zls (1 : Int64) (25 : Int32))) ||| (zls (1 : Int64) (26 : Int32)))) [(0, vr (some (16, 0, 0))), (1, vr (some (a1, 4, 0)))] 57 [] Q
        refine sX1_keys_57 (d := d) (sl (sl (sl M 16 88 ((gl M 16 88) ||| (zls (1 : Int64) (19 : Int32)))) 16 88 (((gl M 16 88) ||| (zls (1 : Int64) (19 : Int32))) ||| (zls (1 : Int64) (25 : Int32)))) 16 88 ((((gl M 16 88) ||| (zls (1 : Int64) (19 : Int32))) ||| (zls (1 : Int64) (25 : Int32))) ||| (zls (1 : Int64) (26 : Int32)))) _ hw ?_
        exact k
theorem iX1_keys_34 {E : zE} {d : Nat} {Q : zO → zM → Prop} (M : zM) (a1 : Nat) (s0 : Int32) (hw : cw M) (k : if s0 = 0 then (Z E YX6_has d M (zargs 0 [vr (some (a1, 4, 0)), vi (4 : Int32)]) 0 [] (zafter E YX1_keys (d + 1) [(0, vr (some (16, 0, 0))), (1, vr (some (a1, 4, 0)))] 45 3 [] Q)) else (Z E YX1_key d M (zargs 0 [vr (some (16, 0, 0)), vi (25 : Int32)]) 0 [] (zafter E YX1_keys (d + 1) [(0, vr (some (16, 0, 0))), (1, vr (some (a1, 4, 0)))] 40 3 [] Q))) : Z E YX1_keys (d + 1) M [(0, vr (some (16, 0, 0))), (1, vr (some (a1, 4, 0)))] 34 [vi s0] Q := by
  refine sX1_keys_34 (d := d) M a1 s0 hw ?_
  refine zite k (fun h22586 k => ?_) (fun h22586 k => ?_)
  · refine sX1_keys_43 (d := d) M _ hw ?_
    exact k
  · exact k
theorem iX1_keys_48 {E : zE} {d : Nat} {Q : zO → zM → Prop} (M : zM) (a1 : Nat) (s0 : Int32) (hw : cw M) (k : if s0 = 0 then (Z E YX6_has d M (zargs 0 [vr (some (a1, 4, 0)), vi (8 : Int32)]) 0 [] (zafter E YX1_keys (d + 1) [(0, vr (some (16, 0, 0))), (1, vr (some (a1, 4, 0)))] 60 3 [] Q)) else (Z E YX1_key d M (zargs 0 [vr (some (16, 0, 0)), vi (26 : Int32)]) 0 [] (zafter E YX1_keys (d + 1) [(0, vr (some (16, 0, 0))), (1, vr (some (a1, 4, 0)))] 54 3 [] Q))) : Z E YX1_keys (d + 1) M [(0, vr (some (16, 0, 0))), (1, vr (some (a1, 4, 0)))] 48 [vi s0] Q := by
  refine sX1_keys_48 (d := d) M a1 s0 hw ?_
  refine zite k (fun h23198 k => ?_) (fun h23198 k => ?_)
  · refine sX1_keys_57 (d := d) M _ hw ?_
    exact k
  · exact k
theorem iX1_keys_63 {E : zE} {d : Nat} {Q : zO → zM → Prop} (M : zM) (a1 : Nat) (s0 : Int32) (hw : cw M) (k : if s0 = 0 then (if (lg_cmp ((gl M a1 2) &&& ((16 : Int32)).toInt64) (0 : Int64)) = 0 then (Z E YX6_hasLabels d M (zargs 0 [vr (some (a1, 4, 0))]) 0 [] (zafter E YX1_keys (d + 1) [(0, vr (some (16, 0, 0))), (1, vr (some (a1, 4, 0)))] 88 3 [] Q)) else (Z E YX6_hasLabels d (sl M 16 88 ((gl M 16 88) ||| (zls (1 : Int64) (28 : Int32)))) (zargs 0 [vr (some (a1, 4, 0))]) 0 [] (zafter E YX1_keys (d + 1) [(0, vr (some (16, 0, 0))), (1, vr (some (a1, 4, 0)))] 88 3 [] Q))) else (if (lg_cmp ((gl (sl M 16 88 ((gl M 16 88) ||| (zls (1 : Int64) (27 : Int32)))) a1 2) &&& ((16 : Int32)).toInt64) (0 : Int64)) = 0 then (Z E YX6_hasLabels d (sl M 16 88 ((gl M 16 88) ||| (zls (1 : Int64) (27 : Int32)))) (zargs 0 [vr (some (a1, 4, 0))]) 0 [] (zafter E YX1_keys (d + 1) [(0, vr (some (16, 0, 0))), (1, vr (some (a1, 4, 0)))] 88 3 [] Q)) else (Z E YX6_hasLabels d (sl (sl M 16 88 ((gl M 16 88) ||| (zls (1 : Int64) (27 : Int32)))) 16 88 (((gl M 16 88) ||| (zls (1 : Int64) (27 : Int32))) ||| (zls (1 : Int64) (28 : Int32)))) (zargs 0 [vr (some (a1, 4, 0))]) 0 [] (zafter E YX1_keys (d + 1) [(0, vr (some (16, 0, 0))), (1, vr (some (a1, 4, 0)))] 88 3 [] Q)))) : Z E YX1_keys (d + 1) M [(0, vr (some (16, 0, 0))), (1, vr (some (a1, 4, 0)))] 63 [vi s0] Q := by
  refine sX1_keys_63 (d := d) M a1 s0 hw ?_
  refine zite k (fun h23199 k => ?_) (fun h23199 k => ?_)
  · refine sX1_keys_72 (d := d) M _ hw ?_
    refine sX6_has_0 (d := d) M a1 (16 : Int32) ?_
    refine zite k (fun h23200 k => ?_) (fun h23200 k => ?_)
    · show Z E YX1_keys (d + 1) M [(0, vr (some (16, 0, 0))), (1, vr (some (a1, 4, 0)))] 78 [vi (0 : Int32)] Q
      refine sX1_keys_78 (d := d) M _ (0 : Int32) hw ?_
      refine zpos (show (0 : Int32) = 0 from by decide) ?_
      refine sX1_keys_87 (d := d) M _ hw ?_
      exact k
    · show Z E YX1_keys (d + 1) M [(0, vr (some (16, 0, 0))), (1, vr (some (a1, 4, 0)))] 78 [vi (1 : Int32)] Q
      refine sX1_keys_78 (d := d) M _ (1 : Int32) hw ?_
      refine zneg (show ¬ ((1 : Int32) = 0) from by decide) ?_
      refine sX1_key_0 (d := d) M (28 : Int32) hw ?_
      refine zneg (show ¬ ((64 : Int32) ≤ (28 : Int32)) from by decide) ?_
      show Z E YX1_keys (d + 1) (sl M 16 88 ((gl M 16 88) ||| (zls (1 : Int64) (28 : Int32)))) [(0, vr (some (16, 0, 0))), (1, vr (some (a1, 4, 0)))] 87 [] Q
      refine sX1_keys_87 (d := d) (sl M 16 88 ((gl M 16 88) ||| (zls (1 : Int64) (28 : Int32)))) _ hw ?_
      exact k
  · refine sX1_key_0 (d := d) M (27 : Int32) hw ?_
    refine zneg (show ¬ ((64 : Int32) ≤ (27 : Int32)) from by decide) ?_
    show Z E YX1_keys (d + 1) (sl M 16 88 ((gl M 16 88) ||| (zls (1 : Int64) (27 : Int32)))) [(0, vr (some (16, 0, 0))), (1, vr (some (a1, 4, 0)))] 72 [] Q
    refine sX1_keys_72 (d := d) (sl M 16 88 ((gl M 16 88) ||| (zls (1 : Int64) (27 : Int32)))) _ hw ?_
    refine sX6_has_0 (d := d) (sl M 16 88 ((gl M 16 88) ||| (zls (1 : Int64) (27 : Int32)))) a1 (16 : Int32) ?_
    refine zite k (fun h23402 k => ?_) (fun h23402 k => ?_)
    · show Z E YX1_keys (d + 1) (sl M 16 88 ((gl M 16 88) ||| (zls (1 : Int64) (27 : Int32)))) [(0, vr (some (16, 0, 0))), (1, vr (some (a1, 4, 0)))] 78 [vi (0 : Int32)] Q
      refine sX1_keys_78 (d := d) (sl M 16 88 ((gl M 16 88) ||| (zls (1 : Int64) (27 : Int32)))) _ (0 : Int32) hw ?_
      refine zpos (show (0 : Int32) = 0 from by decide) ?_
      refine sX1_keys_87 (d := d) (sl M 16 88 ((gl M 16 88) ||| (zls (1 : Int64) (27 : Int32)))) _ hw ?_
      exact k
    · show Z E YX1_keys (d + 1) (sl M 16 88 ((gl M 16 88) ||| (zls (1 : Int64) (27 : Int32)))) [(0, vr (some (16, 0, 0))), (1, vr (some (a1, 4, 0)))] 78 [vi (1 : Int32)] Q
      refine sX1_keys_78 (d := d) (sl M 16 88 ((gl M 16 88) ||| (zls (1 : Int64) (27 : Int32)))) _ (1 : Int32) hw ?_
      refine zneg (show ¬ ((1 : Int32) = 0) from by decide) ?_
      refine sX1_key_0 (d := d) (sl M 16 88 ((gl M 16 88) ||| (zls (1 : Int64) (27 : Int32)))) (28 : Int32) hw ?_
      refine zneg (show ¬ ((64 : Int32) ≤ (28 : Int32)) from by decide) ?_
      show Z E YX1_keys (d + 1) (sl (sl M 16 88 ((gl M 16 88) ||| (zls (1 : Int64) (27 : Int32)))) 16 88 (((gl M 16 88) ||| (zls (1 : Int64) (27 : Int32))) ||| (zls (1 : Int64) (28 : Int32)))) [(0, vr (some (16, 0, 0))), (1, vr (some (a1, 4, 0)))] 87 [] Q
      refine sX1_keys_87 (d := d) (sl (sl M 16 88 ((gl M 16 88) ||| (zls (1 : Int64) (27 : Int32)))) 16 88 (((gl M 16 88) ||| (zls (1 : Int64) (27 : Int32))) ||| (zls (1 : Int64) (28 : Int32)))) _ hw ?_
      exact k
theorem iX1_keys_57 {E : zE} {d : Nat} {Q : zO → zM → Prop} (M : zM) (a1 : Nat) (hw : cw M) (k : if (lg_cmp ((gl M a1 2) &&& ((8 : Int32)).toInt64) (0 : Int64)) = 0 then (if (lg_cmp ((gl M a1 2) &&& ((16 : Int32)).toInt64) (0 : Int64)) = 0 then (Z E YX6_hasLabels d M (zargs 0 [vr (some (a1, 4, 0))]) 0 [] (zafter E YX1_keys (d + 1) [(0, vr (some (16, 0, 0))), (1, vr (some (a1, 4, 0)))] 88 3 [] Q)) else (Z E YX6_hasLabels d (sl M 16 88 ((gl M 16 88) ||| (zls (1 : Int64) (28 : Int32)))) (zargs 0 [vr (some (a1, 4, 0))]) 0 [] (zafter E YX1_keys (d + 1) [(0, vr (some (16, 0, 0))), (1, vr (some (a1, 4, 0)))] 88 3 [] Q))) else (if (lg_cmp ((gl (sl M 16 88 ((gl M 16 88) ||| (zls (1 : Int64) (27 : Int32)))) a1 2) &&& ((16 : Int32)).toInt64) (0 : Int64)) = 0 then (Z E YX6_hasLabels d (sl M 16 88 ((gl M 16 88) ||| (zls (1 : Int64) (27 : Int32)))) (zargs 0 [vr (some (a1, 4, 0))]) 0 [] (zafter E YX1_keys (d + 1) [(0, vr (some (16, 0, 0))), (1, vr (some (a1, 4, 0)))] 88 3 [] Q)) else (Z E YX6_hasLabels d (sl (sl M 16 88 ((gl M 16 88) ||| (zls (1 : Int64) (27 : Int32)))) 16 88 (((gl M 16 88) ||| (zls (1 : Int64) (27 : Int32))) ||| (zls (1 : Int64) (28 : Int32)))) (zargs 0 [vr (some (a1, 4, 0))]) 0 [] (zafter E YX1_keys (d + 1) [(0, vr (some (16, 0, 0))), (1, vr (some (a1, 4, 0)))] 88 3 [] Q)))) : Z E YX1_keys (d + 1) M [(0, vr (some (16, 0, 0))), (1, vr (some (a1, 4, 0)))] 57 [] Q := by
  refine sX1_keys_57 (d := d) M a1 hw ?_
  refine sX6_has_0 (d := d) M a1 (8 : Int32) ?_
  refine zite k (fun h24166 k => ?_) (fun h24166 k => ?_)
  · show Z E YX1_keys (d + 1) M [(0, vr (some (16, 0, 0))), (1, vr (some (a1, 4, 0)))] 63 [vi (0 : Int32)] Q
    refine sX1_keys_63 (d := d) M _ (0 : Int32) hw ?_
    refine zpos (show (0 : Int32) = 0 from by decide) ?_
    refine sX1_keys_72 (d := d) M _ hw ?_
    refine sX6_has_0 (d := d) M a1 (16 : Int32) ?_
    refine zite k (fun h24167 k => ?_) (fun h24167 k => ?_)
    · show Z E YX1_keys (d + 1) M [(0, vr (some (16, 0, 0))), (1, vr (some (a1, 4, 0)))] 78 [vi (0 : Int32)] Q
      refine sX1_keys_78 (d := d) M _ (0 : Int32) hw ?_
      refine zpos (show (0 : Int32) = 0 from by decide) ?_
      refine sX1_keys_87 (d := d) M _ hw ?_
      exact k
    · show Z E YX1_keys (d + 1) M [(0, vr (some (16, 0, 0))), (1, vr (some (a1, 4, 0)))] 78 [vi (1 : Int32)] Q
      refine sX1_keys_78 (d := d) M _ (1 : Int32) hw ?_
      refine zneg (show ¬ ((1 : Int32) = 0) from by decide) ?_
      refine sX1_key_0 (d := d) M (28 : Int32) hw ?_
      refine zneg (show ¬ ((64 : Int32) ≤ (28 : Int32)) from by decide) ?_
      show Z E YX1_keys (d + 1) (sl M 16 88 ((gl M 16 88) ||| (zls (1 : Int64) (28 : Int32)))) [(0, vr (some (16, 0, 0))), (1, vr (some (a1, 4, 0)))] 87 [] Q
      refine sX1_keys_87 (d := d) (sl M 16 88 ((gl M 16 88) ||| (zls (1 : Int64) (28 : Int32)))) _ hw ?_
      exact k
  · show Z E YX1_keys (d + 1) M [(0, vr (some (16, 0, 0))), (1, vr (some (a1, 4, 0)))] 63 [vi (1 : Int32)] Q
    refine sX1_keys_63 (d := d) M _ (1 : Int32) hw ?_
    refine zneg (show ¬ ((1 : Int32) = 0) from by decide) ?_
    refine sX1_key_0 (d := d) M (27 : Int32) hw ?_
    refine zneg (show ¬ ((64 : Int32) ≤ (27 : Int32)) from by decide) ?_
    show Z E YX1_keys (d + 1) (sl M 16 88 ((gl M 16 88) ||| (zls (1 : Int64) (27 : Int32)))) [(0, vr (some (16, 0, 0))), (1, vr (some (a1, 4, 0)))] 72 [] Q
    refine sX1_keys_72 (d := d) (sl M 16 88 ((gl M 16 88) ||| (zls (1 : Int64) (27 : Int32)))) _ hw ?_
    refine sX6_has_0 (d := d) (sl M 16 88 ((gl M 16 88) ||| (zls (1 : Int64) (27 : Int32)))) a1 (16 : Int32) ?_
    refine zite k (fun h24369 k => ?_) (fun h24369 k => ?_)
    · show Z E YX1_keys (d + 1) (sl M 16 88 ((gl M 16 88) ||| (zls (1 : Int64) (27 : Int32)))) [(0, vr (some (16, 0, 0))), (1, vr (some (a1, 4, 0)))] 78 [vi (0 : Int32)] Q
      refine sX1_keys_78 (d := d) (sl M 16 88 ((gl M 16 88) ||| (zls (1 : Int64) (27 : Int32)))) _ (0 : Int32) hw ?_
      refine zpos (show (0 : Int32) = 0 from by decide) ?_
      refine sX1_keys_87 (d := d) (sl M 16 88 ((gl M 16 88) ||| (zls (1 : Int64) (27 : Int32)))) _ hw ?_
      exact k
    · show Z E YX1_keys (d + 1) (sl M 16 88 ((gl M 16 88) ||| (zls (1 : Int64) (27 : Int32)))) [(0, vr (some (16, 0, 0))), (1, vr (some (a1, 4, 0)))] 78 [vi (1 : Int32)] Q
      refine sX1_keys_78 (d := d) (sl M 16 88 ((gl M 16 88) ||| (zls (1 : Int64) (27 : Int32)))) _ (1 : Int32) hw ?_
      refine zneg (show ¬ ((1 : Int32) = 0) from by decide) ?_
      refine sX1_key_0 (d := d) (sl M 16 88 ((gl M 16 88) ||| (zls (1 : Int64) (27 : Int32)))) (28 : Int32) hw ?_
      refine zneg (show ¬ ((64 : Int32) ≤ (28 : Int32)) from by decide) ?_
      show Z E YX1_keys (d + 1) (sl (sl M 16 88 ((gl M 16 88) ||| (zls (1 : Int64) (27 : Int32)))) 16 88 (((gl M 16 88) ||| (zls (1 : Int64) (27 : Int32))) ||| (zls (1 : Int64) (28 : Int32)))) [(0, vr (some (16, 0, 0))), (1, vr (some (a1, 4, 0)))] 87 [] Q
      refine sX1_keys_87 (d := d) (sl (sl M 16 88 ((gl M 16 88) ||| (zls (1 : Int64) (27 : Int32)))) 16 88 (((gl M 16 88) ||| (zls (1 : Int64) (27 : Int32))) ||| (zls (1 : Int64) (28 : Int32)))) _ hw ?_
      exact k
theorem iX1_keys_91 {E : zE} {d : Nat} {Q : zO → zM → Prop} (M : zM) (a1 : Nat) (s0 : Int32) (hw : cw M) (k : if s0 = 0 then (Z E YX6_has d M (zargs 0 [vr (some (a1, 4, 0)), vi (128 : Int32)]) 0 [] (zafter E YX1_keys (d + 1) [(0, vr (some (16, 0, 0))), (1, vr (some (a1, 4, 0)))] 104 3 [] Q)) else (Z E YX1_key d M (zargs 0 [vr (some (16, 0, 0)), vi (29 : Int32)]) 0 [] (zafter E YX1_keys (d + 1) [(0, vr (some (16, 0, 0))), (1, vr (some (a1, 4, 0)))] 97 3 [] Q))) : Z E YX1_keys (d + 1) M [(0, vr (some (16, 0, 0))), (1, vr (some (a1, 4, 0)))] 91 [vi s0] Q := by
  refine sX1_keys_91 (d := d) M a1 s0 hw ?_
  refine zite k (fun h24664 k => ?_) (fun h24664 k => ?_)
  · refine sX1_keys_100 (d := d) M _ hw ?_
    exact k
  · exact k
theorem iX1_keys_107 {E : zE} {d : Nat} {Q : zO → zM → Prop} (M : zM) (a1 : Nat) (s0 : Int32) (hw : cw M) (k : if s0 = 0 then (Z E YX6_has d M (zargs 0 [vr (some (a1, 4, 0)), vi (32 : Int32)]) 0 [] (zafter E YX1_keys (d + 1) [(0, vr (some (16, 0, 0))), (1, vr (some (a1, 4, 0)))] 121 3 [] Q)) else (Z E YX1_key d M (zargs 0 [vr (some (16, 0, 0)), vi (((zlr (gl M a1 2) (16 : Int32)) &&& (65535 : Int64))).toInt32]) 0 [] (zafter E YX1_keys (d + 1) [(0, vr (some (16, 0, 0))), (1, vr (some (a1, 4, 0)))] 115 3 [] Q))) : Z E YX1_keys (d + 1) M [(0, vr (some (16, 0, 0))), (1, vr (some (a1, 4, 0)))] 107 [vi s0] Q := by
  refine sX1_keys_107 (d := d) M a1 s0 hw ?_
  refine zite k (fun h24735 k => ?_) (fun h24735 k => ?_)
  · refine sX1_keys_118 (d := d) M _ hw ?_
    exact k
  · refine sX6_name_0 (d := d) M a1 ?_
    show Z E YX1_keys (d + 1) M [(0, vr (some (16, 0, 0))), (1, vr (some (a1, 4, 0)))] 115 [vi (((zlr (gl M a1 2) (16 : Int32)) &&& (65535 : Int64))).toInt32, vr (some (16, 0, 0))] Q
    refine sX1_keys_115 (d := d) M _ ((((zlr (gl M a1 2) (16 : Int32)) &&& (65535 : Int64))).toInt32) hw ?_
    exact k
theorem iX1_keys_124 {E : zE} {d : Nat} {Q : zO → zM → Prop} (M : zM) (a1 : Nat) (s0 : Int32) (hw : cw M) (k : if s0 = 0 then (if (lg_cmp ((gl M a1 2) &&& ((64 : Int32)).toInt64) (0 : Int64)) = 0 then (if (lg_cmp ((gl M a1 2) &&& ((256 : Int32)).toInt64) (0 : Int64)) = 0 then (Q (.inl none) M) else (if (64 : Int32) ≤ (gi M 16 1) then (if (gi M 16 1) ≤ (64 : Int32) then (Q (.inl none) (si (sl (sl M 16 88 (-1 : Int64)) 16 89 (0 : Int64)) 16 90 (1 : Int32))) else (Q (.inl none) (si (sl (sl M 16 88 (-1 : Int64)) 16 89 ((zls (1 : Int64) ((gi M 16 1) - (64 : Int32))) - (1 : Int64))) 16 90 (1 : Int32)))) else (if (gi M 16 1) ≤ (64 : Int32) then (Q (.inl none) (si (sl (sl M 16 88 ((zls (1 : Int64) (gi M 16 1)) - (1 : Int64))) 16 89 (0 : Int64)) 16 90 (1 : Int32))) else (Q (.inl none) (si (sl (sl M 16 88 ((zls (1 : Int64) (gi M 16 1)) - (1 : Int64))) 16 89 ((zls (1 : Int64) ((gi M 16 1) - (64 : Int32))) - (1 : Int64))) 16 90 (1 : Int32)))))) else (if (lg_cmp ((gl (sl (sl M 16 88 ((gl M 16 88) ||| (gl M 16 67))) 16 89 ((gl M 16 89) ||| (gl M 16 68))) a1 2) &&& ((256 : Int32)).toInt64) (0 : Int64)) = 0 then (Q (.inl none) (si (sl (sl M 16 88 ((gl M 16 88) ||| (gl M 16 67))) 16 89 ((gl M 16 89) ||| (gl M 16 68))) 16 90 (1 : Int32))) else (if (64 : Int32) ≤ (gi M 16 1) then (if (gi M 16 1) ≤ (64 : Int32) then (Q (.inl none) (si (sl (sl (si (sl (sl M 16 88 ((gl M 16 88) ||| (gl M 16 67))) 16 89 ((gl M 16 89) ||| (gl M 16 68))) 16 90 (1 : Int32)) 16 88 (-1 : Int64)) 16 89 (0 : Int64)) 16 90 (1 : Int32))) else (Q (.inl none) (si (sl (sl (si (sl (sl M 16 88 ((gl M 16 88) ||| (gl M 16 67))) 16 89 ((gl M 16 89) ||| (gl M 16 68))) 16 90 (1 : Int32)) 16 88 (-1 : Int64)) 16 89 ((zls (1 : Int64) ((gi M 16 1) - (64 : Int32))) - (1 : Int64))) 16 90 (1 : Int32)))) else (if (gi M 16 1) ≤ (64 : Int32) then (Q (.inl none) (si (sl (sl (si (sl (sl M 16 88 ((gl M 16 88) ||| (gl M 16 67))) 16 89 ((gl M 16 89) ||| (gl M 16 68))) 16 90 (1 : Int32)) 16 88 ((zls (1 : Int64) (gi M 16 1)) - (1 : Int64))) 16 89 (0 : Int64)) 16 90 (1 : Int32))) else (Q (.inl none) (si (sl (sl (si (sl (sl M 16 88 ((gl M 16 88) ||| (gl M 16 67))) 16 89 ((gl M 16 89) ||| (gl M 16 68))) 16 90 (1 : Int32)) 16 88 ((zls (1 : Int64) (gi M 16 1)) - (1 : Int64))) 16 89 ((zls (1 : Int64) ((gi M 16 1) - (64 : Int32))) - (1 : Int64))) 16 90 (1 : Int32))))))) else (∀ x1_v17361v24816 : Int64, x1_v17361v24816 = (zlr (gl M a1 2) (32 : Int32)) → (Z E YX1_nameOf d M (zargs 0 [vr (some (16, 0, 0)), vi (x1_v17361v24816).toInt32]) 0 [] (zafter E YX1_keys (d + 1) [(0, vr (some (16, 0, 0))), (1, vr (some (a1, 4, 0)))] 132 3 [] Q)))) : Z E YX1_keys (d + 1) M [(0, vr (some (16, 0, 0))), (1, vr (some (a1, 4, 0)))] 124 [vi s0] Q := by
  refine sX1_keys_124 (d := d) M a1 s0 hw ?_
  refine zite k (fun h24806 k => ?_) (fun h24806 k => ?_)
  · refine sX1_keys_154 (d := d) M _ hw ?_
    refine sX6_has_0 (d := d) M a1 (64 : Int32) ?_
    refine zite k (fun h24807 k => ?_) (fun h24807 k => ?_)
    · show Z E YX1_keys (d + 1) M [(0, vr (some (16, 0, 0))), (1, vr (some (a1, 4, 0)))] 160 [vi (0 : Int32)] Q
      refine sX1_keys_160 (d := d) M _ (0 : Int32) hw ?_
      refine zpos (show (0 : Int32) = 0 from by decide) ?_
      refine sX6_has_0 (d := d) M a1 (256 : Int32) ?_
      refine zite k (fun h24808 k => ?_) (fun h24808 k => ?_)
      · show Z E YX1_keys (d + 1) M [(0, vr (some (16, 0, 0)))] 201 [vi (0 : Int32)] Q
        refine sX1_keys_201 (d := d) M (0 : Int32) hw ?_
        refine zpos (show (0 : Int32) = 0 from by decide) ?_
        exact k
      · show Z E YX1_keys (d + 1) M [(0, vr (some (16, 0, 0)))] 201 [vi (1 : Int32)] Q
        refine sX1_keys_201 (d := d) M (1 : Int32) hw ?_
        refine zneg (show ¬ ((1 : Int32) = 0) from by decide) ?_
        refine zite k (fun h24809 k => ?_) (fun h24809 k => ?_)
        · refine sX1_keys_228 (d := d) M (-1 : Int64) hw ?_
          exact k
        · refine sX1_keys_228 (d := d) M ((zls (1 : Int64) (gi M 16 1)) - (1 : Int64)) hw ?_
          exact k
    · show Z E YX1_keys (d + 1) M [(0, vr (some (16, 0, 0))), (1, vr (some (a1, 4, 0)))] 160 [vi (1 : Int32)] Q
      refine sX1_keys_160 (d := d) M _ (1 : Int32) hw ?_
      refine zneg (show ¬ ((1 : Int32) = 0) from by decide) ?_
      refine sX6_has_0 (d := d) (si (sl (sl M 16 88 ((gl M 16 88) ||| (gl M 16 67))) 16 89 ((gl M 16 89) ||| (gl M 16 68))) 16 90 (1 : Int32)) a1 (256 : Int32) ?_
      refine zite k (fun h24812 k => ?_) (fun h24812 k => ?_)
      · show Z E YX1_keys (d + 1) (si (sl (sl M 16 88 ((gl M 16 88) ||| (gl M 16 67))) 16 89 ((gl M 16 89) ||| (gl M 16 68))) 16 90 (1 : Int32)) [(0, vr (some (16, 0, 0)))] 201 [vi (0 : Int32)] Q
        refine sX1_keys_201 (d := d) (si (sl (sl M 16 88 ((gl M 16 88) ||| (gl M 16 67))) 16 89 ((gl M 16 89) ||| (gl M 16 68))) 16 90 (1 : Int32)) (0 : Int32) hw ?_
        refine zpos (show (0 : Int32) = 0 from by decide) ?_
        exact k
      · show Z E YX1_keys (d + 1) (si (sl (sl M 16 88 ((gl M 16 88) ||| (gl M 16 67))) 16 89 ((gl M 16 89) ||| (gl M 16 68))) 16 90 (1 : Int32)) [(0, vr (some (16, 0, 0)))] 201 [vi (1 : Int32)] Q
        refine sX1_keys_201 (d := d) (si (sl (sl M 16 88 ((gl M 16 88) ||| (gl M 16 67))) 16 89 ((gl M 16 89) ||| (gl M 16 68))) 16 90 (1 : Int32)) (1 : Int32) hw ?_
        refine zneg (show ¬ ((1 : Int32) = 0) from by decide) ?_
        refine zite k (fun h24813 k => ?_) (fun h24813 k => ?_)
        · refine sX1_keys_228 (d := d) (si (sl (sl M 16 88 ((gl M 16 88) ||| (gl M 16 67))) 16 89 ((gl M 16 89) ||| (gl M 16 68))) 16 90 (1 : Int32)) (-1 : Int64) hw ?_
          exact k
        · refine sX1_keys_228 (d := d) (si (sl (sl M 16 88 ((gl M 16 88) ||| (gl M 16 67))) 16 89 ((gl M 16 89) ||| (gl M 16 68))) 16 90 (1 : Int32)) ((zls (1 : Int64) (gi M 16 1)) - (1 : Int64)) hw ?_
          exact k
  · refine sX6_number_0 (d := d) M a1 ?_
    intro x1_v17361v24816 h24816
    have k := k x1_v17361v24816 h24816
    show Z E YX1_keys (d + 1) M [(0, vr (some (16, 0, 0))), (1, vr (some (a1, 4, 0)))] 132 [vi (x1_v17361v24816).toInt32, vr (some (16, 0, 0))] Q
    refine sX1_keys_132 (d := d) M _ ((x1_v17361v24816).toInt32) hw ?_
    exact k
theorem iX1_keys_118 {E : zE} {d : Nat} {Q : zO → zM → Prop} (M : zM) (a1 : Nat) (hw : cw M) (k : if (lg_cmp ((gl M a1 2) &&& ((32 : Int32)).toInt64) (0 : Int64)) = 0 then (if (lg_cmp ((gl M a1 2) &&& ((64 : Int32)).toInt64) (0 : Int64)) = 0 then (if (lg_cmp ((gl M a1 2) &&& ((256 : Int32)).toInt64) (0 : Int64)) = 0 then (Q (.inl none) M) else (if (64 : Int32) ≤ (gi M 16 1) then (if (gi M 16 1) ≤ (64 : Int32) then (Q (.inl none) (si (sl (sl M 16 88 (-1 : Int64)) 16 89 (0 : Int64)) 16 90 (1 : Int32))) else (Q (.inl none) (si (sl (sl M 16 88 (-1 : Int64)) 16 89 ((zls (1 : Int64) ((gi M 16 1) - (64 : Int32))) - (1 : Int64))) 16 90 (1 : Int32)))) else (if (gi M 16 1) ≤ (64 : Int32) then (Q (.inl none) (si (sl (sl M 16 88 ((zls (1 : Int64) (gi M 16 1)) - (1 : Int64))) 16 89 (0 : Int64)) 16 90 (1 : Int32))) else (Q (.inl none) (si (sl (sl M 16 88 ((zls (1 : Int64) (gi M 16 1)) - (1 : Int64))) 16 89 ((zls (1 : Int64) ((gi M 16 1) - (64 : Int32))) - (1 : Int64))) 16 90 (1 : Int32)))))) else (if (lg_cmp ((gl (sl (sl M 16 88 ((gl M 16 88) ||| (gl M 16 67))) 16 89 ((gl M 16 89) ||| (gl M 16 68))) a1 2) &&& ((256 : Int32)).toInt64) (0 : Int64)) = 0 then (Q (.inl none) (si (sl (sl M 16 88 ((gl M 16 88) ||| (gl M 16 67))) 16 89 ((gl M 16 89) ||| (gl M 16 68))) 16 90 (1 : Int32))) else (if (64 : Int32) ≤ (gi M 16 1) then (if (gi M 16 1) ≤ (64 : Int32) then (Q (.inl none) (si (sl (sl (si (sl (sl M 16 88 ((gl M 16 88) ||| (gl M 16 67))) 16 89 ((gl M 16 89) ||| (gl M 16 68))) 16 90 (1 : Int32)) 16 88 (-1 : Int64)) 16 89 (0 : Int64)) 16 90 (1 : Int32))) else (Q (.inl none) (si (sl (sl (si (sl (sl M 16 88 ((gl M 16 88) ||| (gl M 16 67))) 16 89 ((gl M 16 89) ||| (gl M 16 68))) 16 90 (1 : Int32)) 16 88 (-1 : Int64)) 16 89 ((zls (1 : Int64) ((gi M 16 1) - (64 : Int32))) - (1 : Int64))) 16 90 (1 : Int32)))) else (if (gi M 16 1) ≤ (64 : Int32) then (Q (.inl none) (si (sl (sl (si (sl (sl M 16 88 ((gl M 16 88) ||| (gl M 16 67))) 16 89 ((gl M 16 89) ||| (gl M 16 68))) 16 90 (1 : Int32)) 16 88 ((zls (1 : Int64) (gi M 16 1)) - (1 : Int64))) 16 89 (0 : Int64)) 16 90 (1 : Int32))) else (Q (.inl none) (si (sl (sl (si (sl (sl M 16 88 ((gl M 16 88) ||| (gl M 16 67))) 16 89 ((gl M 16 89) ||| (gl M 16 68))) 16 90 (1 : Int32)) 16 88 ((zls (1 : Int64) (gi M 16 1)) - (1 : Int64))) 16 89 ((zls (1 : Int64) ((gi M 16 1) - (64 : Int32))) - (1 : Int64))) 16 90 (1 : Int32))))))) else (∀ x1_v17361v24827 : Int64, x1_v17361v24827 = (zlr (gl M a1 2) (32 : Int32)) → (Z E YX1_nameOf d M (zargs 0 [vr (some (16, 0, 0)), vi (x1_v17361v24827).toInt32]) 0 [] (zafter E YX1_keys (d + 1) [(0, vr (some (16, 0, 0))), (1, vr (some (a1, 4, 0)))] 132 3 [] Q)))) : Z E YX1_keys (d + 1) M [(0, vr (some (16, 0, 0))), (1, vr (some (a1, 4, 0)))] 118 [] Q := by
  refine sX1_keys_118 (d := d) M a1 hw ?_
  refine sX6_has_0 (d := d) M a1 (32 : Int32) ?_
  refine zite k (fun h24817 k => ?_) (fun h24817 k => ?_)
  · show Z E YX1_keys (d + 1) M [(0, vr (some (16, 0, 0))), (1, vr (some (a1, 4, 0)))] 124 [vi (0 : Int32)] Q
    refine sX1_keys_124 (d := d) M _ (0 : Int32) hw ?_
    refine zpos (show (0 : Int32) = 0 from by decide) ?_
    refine sX1_keys_154 (d := d) M _ hw ?_
    refine sX6_has_0 (d := d) M a1 (64 : Int32) ?_
    refine zite k (fun h24818 k => ?_) (fun h24818 k => ?_)
    · show Z E YX1_keys (d + 1) M [(0, vr (some (16, 0, 0))), (1, vr (some (a1, 4, 0)))] 160 [vi (0 : Int32)] Q
      refine sX1_keys_160 (d := d) M _ (0 : Int32) hw ?_
      refine zpos (show (0 : Int32) = 0 from by decide) ?_
      refine sX6_has_0 (d := d) M a1 (256 : Int32) ?_
      refine zite k (fun h24819 k => ?_) (fun h24819 k => ?_)
      · show Z E YX1_keys (d + 1) M [(0, vr (some (16, 0, 0)))] 201 [vi (0 : Int32)] Q
        refine sX1_keys_201 (d := d) M (0 : Int32) hw ?_
        refine zpos (show (0 : Int32) = 0 from by decide) ?_
        exact k
      · show Z E YX1_keys (d + 1) M [(0, vr (some (16, 0, 0)))] 201 [vi (1 : Int32)] Q
        refine sX1_keys_201 (d := d) M (1 : Int32) hw ?_
        refine zneg (show ¬ ((1 : Int32) = 0) from by decide) ?_
        refine zite k (fun h24820 k => ?_) (fun h24820 k => ?_)
        · refine sX1_keys_228 (d := d) M (-1 : Int64) hw ?_
          exact k
        · refine sX1_keys_228 (d := d) M ((zls (1 : Int64) (gi M 16 1)) - (1 : Int64)) hw ?_
          exact k
    · show Z E YX1_keys (d + 1) M [(0, vr (some (16, 0, 0))), (1, vr (some (a1, 4, 0)))] 160 [vi (1 : Int32)] Q
      refine sX1_keys_160 (d := d) M _ (1 : Int32) hw ?_
      refine zneg (show ¬ ((1 : Int32) = 0) from by decide) ?_
      refine sX6_has_0 (d := d) (si (sl (sl M 16 88 ((gl M 16 88) ||| (gl M 16 67))) 16 89 ((gl M 16 89) ||| (gl M 16 68))) 16 90 (1 : Int32)) a1 (256 : Int32) ?_
      refine zite k (fun h24823 k => ?_) (fun h24823 k => ?_)
      · show Z E YX1_keys (d + 1) (si (sl (sl M 16 88 ((gl M 16 88) ||| (gl M 16 67))) 16 89 ((gl M 16 89) ||| (gl M 16 68))) 16 90 (1 : Int32)) [(0, vr (some (16, 0, 0)))] 201 [vi (0 : Int32)] Q
        refine sX1_keys_201 (d := d) (si (sl (sl M 16 88 ((gl M 16 88) ||| (gl M 16 67))) 16 89 ((gl M 16 89) ||| (gl M 16 68))) 16 90 (1 : Int32)) (0 : Int32) hw ?_
        refine zpos (show (0 : Int32) = 0 from by decide) ?_
        exact k
      · show Z E YX1_keys (d + 1) (si (sl (sl M 16 88 ((gl M 16 88) ||| (gl M 16 67))) 16 89 ((gl M 16 89) ||| (gl M 16 68))) 16 90 (1 : Int32)) [(0, vr (some (16, 0, 0)))] 201 [vi (1 : Int32)] Q
        refine sX1_keys_201 (d := d) (si (sl (sl M 16 88 ((gl M 16 88) ||| (gl M 16 67))) 16 89 ((gl M 16 89) ||| (gl M 16 68))) 16 90 (1 : Int32)) (1 : Int32) hw ?_
        refine zneg (show ¬ ((1 : Int32) = 0) from by decide) ?_
        refine zite k (fun h24824 k => ?_) (fun h24824 k => ?_)
        · refine sX1_keys_228 (d := d) (si (sl (sl M 16 88 ((gl M 16 88) ||| (gl M 16 67))) 16 89 ((gl M 16 89) ||| (gl M 16 68))) 16 90 (1 : Int32)) (-1 : Int64) hw ?_
          exact k
        · refine sX1_keys_228 (d := d) (si (sl (sl M 16 88 ((gl M 16 88) ||| (gl M 16 67))) 16 89 ((gl M 16 89) ||| (gl M 16 68))) 16 90 (1 : Int32)) ((zls (1 : Int64) (gi M 16 1)) - (1 : Int64)) hw ?_
          exact k
  · show Z E YX1_keys (d + 1) M [(0, vr (some (16, 0, 0))), (1, vr (some (a1, 4, 0)))] 124 [vi (1 : Int32)] Q
    refine sX1_keys_124 (d := d) M _ (1 : Int32) hw ?_
    refine zneg (show ¬ ((1 : Int32) = 0) from by decide) ?_
    refine sX6_number_0 (d := d) M a1 ?_
    intro x1_v17361v24827 h24827
    have k := k x1_v17361v24827 h24827
    show Z E YX1_keys (d + 1) M [(0, vr (some (16, 0, 0))), (1, vr (some (a1, 4, 0)))] 132 [vi (x1_v17361v24827).toInt32, vr (some (16, 0, 0))] Q
    refine sX1_keys_132 (d := d) M _ ((x1_v17361v24827).toInt32) hw ?_
    exact k
theorem iX1_keys_135 {E : zE} {d : Nat} {Q : zO → zM → Prop} (M : zM) (a1 : Nat) (s0 : Int32) (hw : cw M) (k : if s0 = (-1 : Int32) then (Z E YX6_has d (si M 16 90 (1 : Int32)) (zargs 0 [vr (some (a1, 4, 0)), vi (64 : Int32)]) 0 [] (zafter E YX1_keys (d + 1) [(0, vr (some (16, 0, 0))), (1, vr (some (a1, 4, 0)))] 157 3 [] Q)) else (Z E YX1_key d M (zargs 0 [vr (some (16, 0, 0)), vi s0]) 0 [] (zafter E YX1_keys (d + 1) [(0, vr (some (16, 0, 0))), (1, vr (some (a1, 4, 0)))] 151 3 [] Q))) : Z E YX1_keys (d + 1) M [(0, vr (some (16, 0, 0))), (1, vr (some (a1, 4, 0)))] 135 [vi s0] Q := by
  refine sX1_keys_135 (d := d) M a1 s0 hw ?_
  refine zite k (fun h24886 k => ?_) (fun h24886 k => ?_)
  · refine sX1_keys_154 (d := d) (si M 16 90 (1 : Int32)) _ hw ?_
    exact k
  · exact k
theorem iX1_keys_160 {E : zE} {d : Nat} {Q : zO → zM → Prop} (M : zM) (a1 : Nat) (s0 : Int32) (hw : cw M) (k : if s0 = 0 then (if (lg_cmp ((gl M a1 2) &&& ((256 : Int32)).toInt64) (0 : Int64)) = 0 then (Q (.inl none) M) else (if (64 : Int32) ≤ (gi M 16 1) then (if (gi M 16 1) ≤ (64 : Int32) then (Q (.inl none) (si (sl (sl M 16 88 (-1 : Int64)) 16 89 (0 : Int64)) 16 90 (1 : Int32))) else (Q (.inl none) (si (sl (sl M 16 88 (-1 : Int64)) 16 89 ((zls (1 : Int64) ((gi M 16 1) - (64 : Int32))) - (1 : Int64))) 16 90 (1 : Int32)))) else (if (gi M 16 1) ≤ (64 : Int32) then (Q (.inl none) (si (sl (sl M 16 88 ((zls (1 : Int64) (gi M 16 1)) - (1 : Int64))) 16 89 (0 : Int64)) 16 90 (1 : Int32))) else (Q (.inl none) (si (sl (sl M 16 88 ((zls (1 : Int64) (gi M 16 1)) - (1 : Int64))) 16 89 ((zls (1 : Int64) ((gi M 16 1) - (64 : Int32))) - (1 : Int64))) 16 90 (1 : Int32)))))) else (if (lg_cmp ((gl (sl (sl M 16 88 ((gl M 16 88) ||| (gl M 16 67))) 16 89 ((gl M 16 89) ||| (gl M 16 68))) a1 2) &&& ((256 : Int32)).toInt64) (0 : Int64)) = 0 then (Q (.inl none) (si (sl (sl M 16 88 ((gl M 16 88) ||| (gl M 16 67))) 16 89 ((gl M 16 89) ||| (gl M 16 68))) 16 90 (1 : Int32))) else (if (64 : Int32) ≤ (gi M 16 1) then (if (gi M 16 1) ≤ (64 : Int32) then (Q (.inl none) (si (sl (sl (si (sl (sl M 16 88 ((gl M 16 88) ||| (gl M 16 67))) 16 89 ((gl M 16 89) ||| (gl M 16 68))) 16 90 (1 : Int32)) 16 88 (-1 : Int64)) 16 89 (0 : Int64)) 16 90 (1 : Int32))) else (Q (.inl none) (si (sl (sl (si (sl (sl M 16 88 ((gl M 16 88) ||| (gl M 16 67))) 16 89 ((gl M 16 89) ||| (gl M 16 68))) 16 90 (1 : Int32)) 16 88 (-1 : Int64)) 16 89 ((zls (1 : Int64) ((gi M 16 1) - (64 : Int32))) - (1 : Int64))) 16 90 (1 : Int32)))) else (if (gi M 16 1) ≤ (64 : Int32) then (Q (.inl none) (si (sl (sl (si (sl (sl M 16 88 ((gl M 16 88) ||| (gl M 16 67))) 16 89 ((gl M 16 89) ||| (gl M 16 68))) 16 90 (1 : Int32)) 16 88 ((zls (1 : Int64) (gi M 16 1)) - (1 : Int64))) 16 89 (0 : Int64)) 16 90 (1 : Int32))) else (Q (.inl none) (si (sl (sl (si (sl (sl M 16 88 ((gl M 16 88) ||| (gl M 16 67))) 16 89 ((gl M 16 89) ||| (gl M 16 68))) 16 90 (1 : Int32)) 16 88 ((zls (1 : Int64) (gi M 16 1)) - (1 : Int64))) 16 89 ((zls (1 : Int64) ((gi M 16 1) - (64 : Int32))) - (1 : Int64))) 16 90 (1 : Int32))))))) : Z E YX1_keys (d + 1) M [(0, vr (some (16, 0, 0))), (1, vr (some (a1, 4, 0)))] 160 [vi s0] Q := by
  refine sX1_keys_160 (d := d) M a1 s0 hw ?_
  refine zite k (fun h24887 k => ?_) (fun h24887 k => ?_)
  · refine sX6_has_0 (d := d) M a1 (256 : Int32) ?_
    refine zite k (fun h24888 k => ?_) (fun h24888 k => ?_)
    · show Z E YX1_keys (d + 1) M [(0, vr (some (16, 0, 0)))] 201 [vi (0 : Int32)] Q
      refine sX1_keys_201 (d := d) M (0 : Int32) hw ?_
      refine zpos (show (0 : Int32) = 0 from by decide) ?_
      exact k
    · show Z E YX1_keys (d + 1) M [(0, vr (some (16, 0, 0)))] 201 [vi (1 : Int32)] Q
      refine sX1_keys_201 (d := d) M (1 : Int32) hw ?_
      refine zneg (show ¬ ((1 : Int32) = 0) from by decide) ?_
      refine zite k (fun h24889 k => ?_) (fun h24889 k => ?_)
      · refine sX1_keys_228 (d := d) M (-1 : Int64) hw ?_
        exact k
      · refine sX1_keys_228 (d := d) M ((zls (1 : Int64) (gi M 16 1)) - (1 : Int64)) hw ?_
        exact k
  · refine sX6_has_0 (d := d) (si (sl (sl M 16 88 ((gl M 16 88) ||| (gl M 16 67))) 16 89 ((gl M 16 89) ||| (gl M 16 68))) 16 90 (1 : Int32)) a1 (256 : Int32) ?_
    refine zite k (fun h24892 k => ?_) (fun h24892 k => ?_)
    · show Z E YX1_keys (d + 1) (si (sl (sl M 16 88 ((gl M 16 88) ||| (gl M 16 67))) 16 89 ((gl M 16 89) ||| (gl M 16 68))) 16 90 (1 : Int32)) [(0, vr (some (16, 0, 0)))] 201 [vi (0 : Int32)] Q
      refine sX1_keys_201 (d := d) (si (sl (sl M 16 88 ((gl M 16 88) ||| (gl M 16 67))) 16 89 ((gl M 16 89) ||| (gl M 16 68))) 16 90 (1 : Int32)) (0 : Int32) hw ?_
      refine zpos (show (0 : Int32) = 0 from by decide) ?_
      exact k
    · show Z E YX1_keys (d + 1) (si (sl (sl M 16 88 ((gl M 16 88) ||| (gl M 16 67))) 16 89 ((gl M 16 89) ||| (gl M 16 68))) 16 90 (1 : Int32)) [(0, vr (some (16, 0, 0)))] 201 [vi (1 : Int32)] Q
      refine sX1_keys_201 (d := d) (si (sl (sl M 16 88 ((gl M 16 88) ||| (gl M 16 67))) 16 89 ((gl M 16 89) ||| (gl M 16 68))) 16 90 (1 : Int32)) (1 : Int32) hw ?_
      refine zneg (show ¬ ((1 : Int32) = 0) from by decide) ?_
      refine zite k (fun h24893 k => ?_) (fun h24893 k => ?_)
      · refine sX1_keys_228 (d := d) (si (sl (sl M 16 88 ((gl M 16 88) ||| (gl M 16 67))) 16 89 ((gl M 16 89) ||| (gl M 16 68))) 16 90 (1 : Int32)) (-1 : Int64) hw ?_
        exact k
      · refine sX1_keys_228 (d := d) (si (sl (sl M 16 88 ((gl M 16 88) ||| (gl M 16 67))) 16 89 ((gl M 16 89) ||| (gl M 16 68))) 16 90 (1 : Int32)) ((zls (1 : Int64) (gi M 16 1)) - (1 : Int64)) hw ?_
        exact k
theorem iX1_keys_154 {E : zE} {d : Nat} {Q : zO → zM → Prop} (M : zM) (a1 : Nat) (hw : cw M) (k : if (lg_cmp ((gl M a1 2) &&& ((64 : Int32)).toInt64) (0 : Int64)) = 0 then (if (lg_cmp ((gl M a1 2) &&& ((256 : Int32)).toInt64) (0 : Int64)) = 0 then (Q (.inl none) M) else (if (64 : Int32) ≤ (gi M 16 1) then (if (gi M 16 1) ≤ (64 : Int32) then (Q (.inl none) (si (sl (sl M 16 88 (-1 : Int64)) 16 89 (0 : Int64)) 16 90 (1 : Int32))) else (Q (.inl none) (si (sl (sl M 16 88 (-1 : Int64)) 16 89 ((zls (1 : Int64) ((gi M 16 1) - (64 : Int32))) - (1 : Int64))) 16 90 (1 : Int32)))) else (if (gi M 16 1) ≤ (64 : Int32) then (Q (.inl none) (si (sl (sl M 16 88 ((zls (1 : Int64) (gi M 16 1)) - (1 : Int64))) 16 89 (0 : Int64)) 16 90 (1 : Int32))) else (Q (.inl none) (si (sl (sl M 16 88 ((zls (1 : Int64) (gi M 16 1)) - (1 : Int64))) 16 89 ((zls (1 : Int64) ((gi M 16 1) - (64 : Int32))) - (1 : Int64))) 16 90 (1 : Int32)))))) else (if (lg_cmp ((gl (sl (sl M 16 88 ((gl M 16 88) ||| (gl M 16 67))) 16 89 ((gl M 16 89) ||| (gl M 16 68))) a1 2) &&& ((256 : Int32)).toInt64) (0 : Int64)) = 0 then (Q (.inl none) (si (sl (sl M 16 88 ((gl M 16 88) ||| (gl M 16 67))) 16 89 ((gl M 16 89) ||| (gl M 16 68))) 16 90 (1 : Int32))) else (if (64 : Int32) ≤ (gi M 16 1) then (if (gi M 16 1) ≤ (64 : Int32) then (Q (.inl none) (si (sl (sl (si (sl (sl M 16 88 ((gl M 16 88) ||| (gl M 16 67))) 16 89 ((gl M 16 89) ||| (gl M 16 68))) 16 90 (1 : Int32)) 16 88 (-1 : Int64)) 16 89 (0 : Int64)) 16 90 (1 : Int32))) else (Q (.inl none) (si (sl (sl (si (sl (sl M 16 88 ((gl M 16 88) ||| (gl M 16 67))) 16 89 ((gl M 16 89) ||| (gl M 16 68))) 16 90 (1 : Int32)) 16 88 (-1 : Int64)) 16 89 ((zls (1 : Int64) ((gi M 16 1) - (64 : Int32))) - (1 : Int64))) 16 90 (1 : Int32)))) else (if (gi M 16 1) ≤ (64 : Int32) then (Q (.inl none) (si (sl (sl (si (sl (sl M 16 88 ((gl M 16 88) ||| (gl M 16 67))) 16 89 ((gl M 16 89) ||| (gl M 16 68))) 16 90 (1 : Int32)) 16 88 ((zls (1 : Int64) (gi M 16 1)) - (1 : Int64))) 16 89 (0 : Int64)) 16 90 (1 : Int32))) else (Q (.inl none) (si (sl (sl (si (sl (sl M 16 88 ((gl M 16 88) ||| (gl M 16 67))) 16 89 ((gl M 16 89) ||| (gl M 16 68))) 16 90 (1 : Int32)) 16 88 ((zls (1 : Int64) (gi M 16 1)) - (1 : Int64))) 16 89 ((zls (1 : Int64) ((gi M 16 1) - (64 : Int32))) - (1 : Int64))) 16 90 (1 : Int32))))))) : Z E YX1_keys (d + 1) M [(0, vr (some (16, 0, 0))), (1, vr (some (a1, 4, 0)))] 154 [] Q := by
  refine sX1_keys_154 (d := d) M a1 hw ?_
  refine sX6_has_0 (d := d) M a1 (64 : Int32) ?_
  refine zite k (fun h24896 k => ?_) (fun h24896 k => ?_)
  · show Z E YX1_keys (d + 1) M [(0, vr (some (16, 0, 0))), (1, vr (some (a1, 4, 0)))] 160 [vi (0 : Int32)] Q
    refine sX1_keys_160 (d := d) M _ (0 : Int32) hw ?_
    refine zpos (show (0 : Int32) = 0 from by decide) ?_
    refine sX6_has_0 (d := d) M a1 (256 : Int32) ?_
    refine zite k (fun h24897 k => ?_) (fun h24897 k => ?_)
    · show Z E YX1_keys (d + 1) M [(0, vr (some (16, 0, 0)))] 201 [vi (0 : Int32)] Q
      refine sX1_keys_201 (d := d) M (0 : Int32) hw ?_
      refine zpos (show (0 : Int32) = 0 from by decide) ?_
      exact k
    · show Z E YX1_keys (d + 1) M [(0, vr (some (16, 0, 0)))] 201 [vi (1 : Int32)] Q
      refine sX1_keys_201 (d := d) M (1 : Int32) hw ?_
      refine zneg (show ¬ ((1 : Int32) = 0) from by decide) ?_
      refine zite k (fun h24898 k => ?_) (fun h24898 k => ?_)
      · refine sX1_keys_228 (d := d) M (-1 : Int64) hw ?_
        exact k
      · refine sX1_keys_228 (d := d) M ((zls (1 : Int64) (gi M 16 1)) - (1 : Int64)) hw ?_
        exact k
  · show Z E YX1_keys (d + 1) M [(0, vr (some (16, 0, 0))), (1, vr (some (a1, 4, 0)))] 160 [vi (1 : Int32)] Q
    refine sX1_keys_160 (d := d) M _ (1 : Int32) hw ?_
    refine zneg (show ¬ ((1 : Int32) = 0) from by decide) ?_
    refine sX6_has_0 (d := d) (si (sl (sl M 16 88 ((gl M 16 88) ||| (gl M 16 67))) 16 89 ((gl M 16 89) ||| (gl M 16 68))) 16 90 (1 : Int32)) a1 (256 : Int32) ?_
    refine zite k (fun h24901 k => ?_) (fun h24901 k => ?_)
    · show Z E YX1_keys (d + 1) (si (sl (sl M 16 88 ((gl M 16 88) ||| (gl M 16 67))) 16 89 ((gl M 16 89) ||| (gl M 16 68))) 16 90 (1 : Int32)) [(0, vr (some (16, 0, 0)))] 201 [vi (0 : Int32)] Q
      refine sX1_keys_201 (d := d) (si (sl (sl M 16 88 ((gl M 16 88) ||| (gl M 16 67))) 16 89 ((gl M 16 89) ||| (gl M 16 68))) 16 90 (1 : Int32)) (0 : Int32) hw ?_
      refine zpos (show (0 : Int32) = 0 from by decide) ?_
      exact k
    · show Z E YX1_keys (d + 1) (si (sl (sl M 16 88 ((gl M 16 88) ||| (gl M 16 67))) 16 89 ((gl M 16 89) ||| (gl M 16 68))) 16 90 (1 : Int32)) [(0, vr (some (16, 0, 0)))] 201 [vi (1 : Int32)] Q
      refine sX1_keys_201 (d := d) (si (sl (sl M 16 88 ((gl M 16 88) ||| (gl M 16 67))) 16 89 ((gl M 16 89) ||| (gl M 16 68))) 16 90 (1 : Int32)) (1 : Int32) hw ?_
      refine zneg (show ¬ ((1 : Int32) = 0) from by decide) ?_
      refine zite k (fun h24902 k => ?_) (fun h24902 k => ?_)
      · refine sX1_keys_228 (d := d) (si (sl (sl M 16 88 ((gl M 16 88) ||| (gl M 16 67))) 16 89 ((gl M 16 89) ||| (gl M 16 68))) 16 90 (1 : Int32)) (-1 : Int64) hw ?_
        exact k
      · refine sX1_keys_228 (d := d) (si (sl (sl M 16 88 ((gl M 16 88) ||| (gl M 16 67))) 16 89 ((gl M 16 89) ||| (gl M 16 68))) 16 90 (1 : Int32)) ((zls (1 : Int64) (gi M 16 1)) - (1 : Int64)) hw ?_
        exact k
theorem iX1_load_5 {E : zE} {d : Nat} {Q : zO → zM → Prop} (M : zM) (l2 : Int32) (hw : cw M) (k : 16 ≤ 71 ∧ (Z E YX1_load (d + 1) (sl (sl (sl M 71 0 (0 : Int64)) 71 1 (0 : Int64)) 71 2 (0 : Int64)) [(0, vr (some (16, 0, 0))), (2, vi l2), (3, vi (0 : Int32))] 15 [] Q)) : Z E YX1_load (d + 1) M [(0, vr (some (16, 0, 0))), (2, vi l2)] 5 [] Q := by
  refine sX1_load_5 (d := d) M l2 hw ?_
  refine jX6_empty (d := d) M 71 ?_
  refine zand k (fun h24905 k => ?_)
  show Z E YX1_load (d + 1) (sl (sl (sl M 71 0 (0 : Int64)) 71 1 (0 : Int64)) 71 2 (0 : Int64)) [(0, vr (some (16, 0, 0))), (2, vi l2)] 12 [vr (some (71, 4, 0))] Q
  refine sX1_load_12 (d := d) (sl (sl (sl M 71 0 (0 : Int64)) 71 1 (0 : Int64)) 71 2 (0 : Int64)) l2 (some (71, 4, 0)) hw ?_
  exact k
theorem iX1_load_15 {E : zE} {d : Nat} {Q : zO → zM → Prop} (M : zM) (l2 : Int32) (l3 : Int32) (hw : cw M) (k : if (gi M 16 11) ≤ l3 then (Z E YX1_nextWith d M (zargs 0 [vr (some (16, 0, 0)), vr (some (71, 4, 0))]) 0 [] (zafter E YX1_load (d + 1) [] 102 3 [] Q)) else (∃ b24907 : Nat, (gr M 16 60) = some (b24907, 7, 0) ∧ (∃ b24908 : Nat, (gr M b24907 0) = some (b24908, 0, 0) ∧ (if (64 : Int32) ≤ l3 then (∀ x1_v16398v24910 : Int64, x1_v16398v24910 = (zls (zlr (gl M 16 94) (l3 - (64 : Int32))) (63 : Int32)) → (if (lg_cmp x1_v16398v24910 (0 : Int64)) = 0 then (Z E YX1_load (d + 1) M [(0, vr (some (16, 0, 0))), (2, vi l2), (3, vi (l3 + (1 : Int32)))] 15 [] Q) else (∃ b24912 m24912 : Nat, (gr M b24907 1) = some (b24912, 105, m24912) ∧ (vp_in ((l3 * ((gi M b24908 1) + (1 : Int32))) + l2) m24912 ∧ (∃ b24914 m24914 : Nat, (gr M b24907 2) = some (b24914, 105, m24914) ∧ (vp_in ((l3 * ((gi M b24908 1) + (1 : Int32))) + l2) m24914 ∧ (∃ b24916 m24916 : Nat, (gr M b24907 3) = some (b24916, 105, m24916) ∧ (vp_in ((l3 * ((gi M b24908 1) + (1 : Int32))) + l2) m24916 ∧ (Z E YX6_join3 d M (zargs 0 [vr (some (71, 4, 0)), vl (gl M b24912 (((l3 * ((gi M b24908 1) + (1 : Int32))) + l2)).toNatClampNeg), vl (gl M b24914 (((l3 * ((gi M b24908 1) + (1 : Int32))) + l2)).toNatClampNeg), vl ((gl M b24916 (((l3 * ((gi M b24908 1) + (1 : Int32))) + l2)).toNatClampNeg) &&& (-513 : Int64))]) 0 [] (zafter E YX1_load (d + 1) [(0, vr (some (16, 0, 0))), (2, vi l2), (3, vi l3)] 87 3 [] Q)))))))))) else (∀ x1_v16400v24918 : Int64, x1_v16400v24918 = (zls (zlr (gl M 16 93) l3) (63 : Int32)) → (if (lg_cmp x1_v16400v24918 (0 : Int64)) = 0 then (Z E YX1_load (d + 1) M [(0, vr (some (16, 0, 0))), (2, vi l2), (3, vi (l3 + (1 : Int32)))] 15 [] Q) else (∃ b24920 m24920 : Nat, (gr M b24907 1) = some (b24920, 105, m24920) ∧ (vp_in ((l3 * ((gi M b24908 1) + (1 : Int32))) + l2) m24920 ∧ (∃ b24922 m24922 : Nat, (gr M b24907 2) = some (b24922, 105, m24922) ∧ (vp_in ((l3 * ((gi M b24908 1) + (1 : Int32))) + l2) m24922 ∧ (∃ b24924 m24924 : Nat, (gr M b24907 3) = some (b24924, 105, m24924) ∧ (vp_in ((l3 * ((gi M b24908 1) + (1 : Int32))) + l2) m24924 ∧ (Z E YX6_join3 d M (zargs 0 [vr (some (71, 4, 0)), vl (gl M b24920 (((l3 * ((gi M b24908 1) + (1 : Int32))) + l2)).toNatClampNeg), vl (gl M b24922 (((l3 * ((gi M b24908 1) + (1 : Int32))) + l2)).toNatClampNeg), vl ((gl M b24924 (((l3 * ((gi M b24908 1) + (1 : Int32))) + l2)).toNatClampNeg) &&& (-513 : Int64))]) 0 [] (zafter E YX1_load (d + 1) [(0, vr (some (16, 0, 0))), (2, vi l2), (3, vi l3)] 87 3 [] Q)))))))))))))) : Z E YX1_load (d + 1) M [(0, vr (some (16, 0, 0))), (2, vi l2), (3, vi l3)] 15 [] Q := by
  refine sX1_load_15 (d := d) M l2 l3 hw ?_
  refine zite k (fun h24906 k => ?_) (fun h24906 k => ?_)
  · exact k
  · obtain ⟨b24907, h24907, k⟩ := k
    refine ⟨b24907, h24907, ?_⟩
    refine sX43_cell_0 (d := d) M b24907 l3 l2 ?_
    obtain ⟨b24908, h24908, k⟩ := k
    refine ⟨b24908, h24908, ?_⟩
    show Z E YX1_load (d + 1) M [(0, vr (some (16, 0, 0))), (2, vi l2), (3, vi l3)] 32 [vi ((l3 * ((gi M b24908 1) + (1 : Int32))) + l2)] Q
    refine sX1_load_32 (d := d) M l2 l3 ((l3 * ((gi M b24908 1) + (1 : Int32))) + l2) hw ?_
    refine jX1_in (d := d) M l3 (gl M 16 93) (gl M 16 94) hw ?_
    refine zite k (fun h24909 k => ?_) (fun h24909 k => ?_)
    · intro x1_v16398v24910 h24910
      have k := k x1_v16398v24910 h24910
      refine zite k (fun h24911 k => ?_) (fun h24911 k => ?_)
      · show Z E YX1_load (d + 1) M [(0, vr (some (16, 0, 0))), (2, vi l2), (3, vi l3), (4, vi ((l3 * ((gi M b24908 1) + (1 : Int32))) + l2))] 46 [vi (0 : Int32)] Q
        refine sX1_load_46 (d := d) M l2 l3 ((l3 * ((gi M b24908 1) + (1 : Int32))) + l2) (0 : Int32) hw ?_
        refine zpos (show (0 : Int32) = 0 from by decide) ?_
        exact k
      · show Z E YX1_load (d + 1) M [(0, vr (some (16, 0, 0))), (2, vi l2), (3, vi l3), (4, vi ((l3 * ((gi M b24908 1) + (1 : Int32))) + l2))] 46 [vi (1 : Int32)] Q
        refine sX1_load_46 (d := d) M l2 l3 ((l3 * ((gi M b24908 1) + (1 : Int32))) + l2) (1 : Int32) hw ?_
        refine zneg (show ¬ ((1 : Int32) = 0) from by decide) ?_
        refine ⟨b24907, h24907, ?_⟩
        obtain ⟨b24912, m24912, h24912, k⟩ := k
        refine ⟨b24912, m24912, h24912, ?_⟩
        refine zand k (fun h24913 k => ?_)
        refine ⟨b24907, h24907, ?_⟩
        obtain ⟨b24914, m24914, h24914, k⟩ := k
        refine ⟨b24914, m24914, h24914, ?_⟩
        refine zand k (fun h24915 k => ?_)
        refine ⟨b24907, h24907, ?_⟩
        exact k
    · intro x1_v16400v24918 h24918
      have k := k x1_v16400v24918 h24918
      refine zite k (fun h24919 k => ?_) (fun h24919 k => ?_)
      · show Z E YX1_load (d + 1) M [(0, vr (some (16, 0, 0))), (2, vi l2), (3, vi l3), (4, vi ((l3 * ((gi M b24908 1) + (1 : Int32))) + l2))] 46 [vi (0 : Int32)] Q
        refine sX1_load_46 (d := d) M l2 l3 ((l3 * ((gi M b24908 1) + (1 : Int32))) + l2) (0 : Int32) hw ?_
        refine zpos (show (0 : Int32) = 0 from by decide) ?_
        exact k
      · show Z E YX1_load (d + 1) M [(0, vr (some (16, 0, 0))), (2, vi l2), (3, vi l3), (4, vi ((l3 * ((gi M b24908 1) + (1 : Int32))) + l2))] 46 [vi (1 : Int32)] Q
        refine sX1_load_46 (d := d) M l2 l3 ((l3 * ((gi M b24908 1) + (1 : Int32))) + l2) (1 : Int32) hw ?_
        refine zneg (show ¬ ((1 : Int32) = 0) from by decide) ?_
        refine ⟨b24907, h24907, ?_⟩
        obtain ⟨b24920, m24920, h24920, k⟩ := k
        refine ⟨b24920, m24920, h24920, ?_⟩
        refine zand k (fun h24921 k => ?_)
        refine ⟨b24907, h24907, ?_⟩
        obtain ⟨b24922, m24922, h24922, k⟩ := k
        refine ⟨b24922, m24922, h24922, ?_⟩
        refine zand k (fun h24923 k => ?_)
        refine ⟨b24907, h24907, ?_⟩
        exact k
theorem iX1_nameOf_0 {E : zE} {d : Nat} {Q : zO → zM → Prop} (M : zM) (l1 : Int32) (hw : cw M) (k : Z E YX1_putDigits d (si M 16 3 (0 : Int32)) (zargs 0 [vr (some (16, 0, 0)), vi l1]) 0 [] (zafter E YX1_nameOf (d + 1) [(0, vr (some (16, 0, 0)))] 6 3 [] Q)) : Z E YX1_nameOf (d + 1) M [(0, vr (some (16, 0, 0))), (1, vi l1)] 0 [] Q := by
  refine sX1_nameOf_0 (d := d) M l1 hw ?_
  refine sX1_clearRow_0 (d := d) M hw ?_
  show Z E YX1_nameOf (d + 1) (si M 16 3 (0 : Int32)) [(0, vr (some (16, 0, 0))), (1, vi l1)] 4 [] Q
  refine sX1_nameOf_4 (d := d) (si M 16 3 (0 : Int32)) l1 hw ?_
  exact k
theorem iX1_onlySingle_34 {E : zE} {d : Nat} {Q : zO → zM → Prop} (M : zM) (s0 : Int32) (s1 : Int32) (hw : cw M) (k : if (s1 + s0) < (23 : Int32) then (Q (.inl (some (vi (s1 + s0)))) M) else (if (s1 + s0) < (29 : Int32) then (Q (.inl (some (vi (-1 : Int32)))) M) else (if (((s1 + s0) - (29 : Int32)) &&& (1 : Int32)) = 0 then (Q (.inl (some (vi (s1 + s0)))) M) else (Q (.inl (some (vi (-1 : Int32)))) M)))) : Z E YX1_onlySingle (d + 1) M [] 34 [vi s0, vi s1] Q := by
  refine sX1_onlySingle_34 (d := d) M s0 s1 hw ?_
  refine sX1_isSingle_0 (d := d) M (s1 + s0) hw ?_
  refine zite k (fun h24935 k => ?_) (fun h24935 k => ?_)
  · show Z E YX1_onlySingle (d + 1) M [(4, vi (s1 + s0))] 42 [vi (1 : Int32)] Q
    refine sX1_onlySingle_42 (d := d) M (s1 + s0) (1 : Int32) hw ?_
    refine zneg (show ¬ ((1 : Int32) = 0) from by decide) ?_
    exact k
  · refine zite k (fun h24936 k => ?_) (fun h24936 k => ?_)
    · show Z E YX1_onlySingle (d + 1) M [(4, vi (s1 + s0))] 42 [vi (0 : Int32)] Q
      refine sX1_onlySingle_42 (d := d) M (s1 + s0) (0 : Int32) hw ?_
      refine zpos (show (0 : Int32) = 0 from by decide) ?_
      exact k
    · refine zite k (fun h24937 k => ?_) (fun h24937 k => ?_)
      · show Z E YX1_onlySingle (d + 1) M [(4, vi (s1 + s0))] 42 [vi (1 : Int32)] Q
        refine sX1_onlySingle_42 (d := d) M (s1 + s0) (1 : Int32) hw ?_
        refine zneg (show ¬ ((1 : Int32) = 0) from by decide) ?_
        exact k
      · show Z E YX1_onlySingle (d + 1) M [(4, vi (s1 + s0))] 42 [vi (0 : Int32)] Q
        refine sX1_onlySingle_42 (d := d) M (s1 + s0) (0 : Int32) hw ?_
        refine zpos (show (0 : Int32) = 0 from by decide) ?_
        exact k
theorem iX1_onlySingle_25 {E : zE} {d : Nat} {Q : zO → zM → Prop} (M : zM) (s0 : Int32) (hw : cw M) (k : if s0 < (23 : Int32) then (Q (.inl (some (vi s0))) M) else (if s0 < (29 : Int32) then (Q (.inl (some (vi (-1 : Int32)))) M) else (if ((s0 - (29 : Int32)) &&& (1 : Int32)) = 0 then (Q (.inl (some (vi s0))) M) else (Q (.inl (some (vi (-1 : Int32)))) M)))) : Z E YX1_onlySingle (d + 1) M [] 25 [vi s0] Q := by
  refine sX1_onlySingle_25 (d := d) M s0 hw ?_
  refine sX1_isSingle_0 (d := d) M s0 hw ?_
  refine zite k (fun h24938 k => ?_) (fun h24938 k => ?_)
  · show Z E YX1_onlySingle (d + 1) M [(4, vi s0)] 42 [vi (1 : Int32)] Q
    refine sX1_onlySingle_42 (d := d) M s0 (1 : Int32) hw ?_
    refine zneg (show ¬ ((1 : Int32) = 0) from by decide) ?_
    exact k
  · refine zite k (fun h24939 k => ?_) (fun h24939 k => ?_)
    · show Z E YX1_onlySingle (d + 1) M [(4, vi s0)] 42 [vi (0 : Int32)] Q
      refine sX1_onlySingle_42 (d := d) M s0 (0 : Int32) hw ?_
      refine zpos (show (0 : Int32) = 0 from by decide) ?_
      exact k
    · refine zite k (fun h24940 k => ?_) (fun h24940 k => ?_)
      · show Z E YX1_onlySingle (d + 1) M [(4, vi s0)] 42 [vi (1 : Int32)] Q
        refine sX1_onlySingle_42 (d := d) M s0 (1 : Int32) hw ?_
        refine zneg (show ¬ ((1 : Int32) = 0) from by decide) ?_
        exact k
      · show Z E YX1_onlySingle (d + 1) M [(4, vi s0)] 42 [vi (0 : Int32)] Q
        refine sX1_onlySingle_42 (d := d) M s0 (0 : Int32) hw ?_
        refine zpos (show (0 : Int32) = 0 from by decide) ?_
        exact k
theorem iX1_puts_35 {E : zE} {d : Nat} {Q : zO → zM → Prop} (M : zM) (u0 : Option zP) (hw : cw M) (k : if (lg_cmp ((gl M 71 2) &&& ((3 : Int32)).toInt64) (0 : Int64)) = 0 then (if (lg_cmp (gl M 71 0) (0 : Int64)) = 0 then (if (lg_cmp (gl M 71 1) (0 : Int64)) = 0 then (if (lg_cmp ((gl M 71 2) &&& (508 : Int64)) (0 : Int64)) = 0 then (Q (.inl none) M) else (Z E YX1_keys d M (zargs 0 [vr (some (16, 0, 0)), vr (some (72, 4, 0))]) 0 [] (zafter E YX1_puts (d + 1) [(0, vr (some (16, 0, 0)))] 87 3 [] Q))) else (Z E YX1_keys d M (zargs 0 [vr (some (16, 0, 0)), vr (some (72, 4, 0))]) 0 [] (zafter E YX1_puts (d + 1) [(0, vr (some (16, 0, 0)))] 87 3 [] Q))) else (Z E YX1_keys d M (zargs 0 [vr (some (16, 0, 0)), vr (some (72, 4, 0))]) 0 [] (zafter E YX1_puts (d + 1) [(0, vr (some (16, 0, 0)))] 87 3 [] Q))) else (Z E YX1_errs d M (zargs 0 [vr (some (16, 0, 0)), vr (gr M 16 60), vi (0 : Int32)]) 0 [] (zafter E YX1_puts (d + 1) [(0, vr (some (16, 0, 0)))] 53 3 [] Q))) : Z E YX1_puts (d + 1) M [(0, vr (some (16, 0, 0)))] 35 [vr u0] Q := by
  refine sX1_puts_35 (d := d) M u0 hw ?_
  refine sX6_has_0 (d := d) M 71 (3 : Int32) ?_
  refine zite k (fun h24944 k => ?_) (fun h24944 k => ?_)
  · show Z E YX1_puts (d + 1) M [(0, vr (some (16, 0, 0)))] 44 [vi (0 : Int32)] Q
    refine sX1_puts_44 (d := d) M (0 : Int32) hw ?_
    refine zpos (show (0 : Int32) = 0 from by decide) ?_
    refine sX1_puts_56 (d := d) M hw ?_
    refine sX6_hasLabels_0 (d := d) M 71 ?_
    refine zite k (fun h24945 k => ?_) (fun h24945 k => ?_)
    · refine zite k (fun h24946 k => ?_) (fun h24946 k => ?_)
      · show Z E YX1_puts (d + 1) M [(0, vr (some (16, 0, 0)))] 63 [vi (0 : Int32)] Q
        refine sX1_puts_63 (d := d) M (0 : Int32) hw ?_
        refine zpos (show (0 : Int32) = 0 from by decide) ?_
        refine zite k (fun h24947 k => ?_) (fun h24947 k => ?_)
        · refine sX1_puts_279 (d := d) M hw ?_
          exact k
        · exact k
      · show Z E YX1_puts (d + 1) M [(0, vr (some (16, 0, 0)))] 63 [vi (1 : Int32)] Q
        refine sX1_puts_63 (d := d) M (1 : Int32) hw ?_
        refine zneg (show ¬ ((1 : Int32) = 0) from by decide) ?_
        exact k
    · show Z E YX1_puts (d + 1) M [(0, vr (some (16, 0, 0)))] 63 [vi (1 : Int32)] Q
      refine sX1_puts_63 (d := d) M (1 : Int32) hw ?_
      refine zneg (show ¬ ((1 : Int32) = 0) from by decide) ?_
      exact k
  · show Z E YX1_puts (d + 1) M [(0, vr (some (16, 0, 0)))] 44 [vi (1 : Int32)] Q
    refine sX1_puts_44 (d := d) M (1 : Int32) hw ?_
    refine zneg (show ¬ ((1 : Int32) = 0) from by decide) ?_
    exact k
theorem iX1_puts_56 {E : zE} {d : Nat} {Q : zO → zM → Prop} (M : zM) (hw : cw M) (k : if (lg_cmp (gl M 71 0) (0 : Int64)) = 0 then (if (lg_cmp (gl M 71 1) (0 : Int64)) = 0 then (if (lg_cmp ((gl M 71 2) &&& (508 : Int64)) (0 : Int64)) = 0 then (Q (.inl none) M) else (Z E YX1_keys d M (zargs 0 [vr (some (16, 0, 0)), vr (some (72, 4, 0))]) 0 [] (zafter E YX1_puts (d + 1) [(0, vr (some (16, 0, 0)))] 87 3 [] Q))) else (Z E YX1_keys d M (zargs 0 [vr (some (16, 0, 0)), vr (some (72, 4, 0))]) 0 [] (zafter E YX1_puts (d + 1) [(0, vr (some (16, 0, 0)))] 87 3 [] Q))) else (Z E YX1_keys d M (zargs 0 [vr (some (16, 0, 0)), vr (some (72, 4, 0))]) 0 [] (zafter E YX1_puts (d + 1) [(0, vr (some (16, 0, 0)))] 87 3 [] Q))) : Z E YX1_puts (d + 1) M [(0, vr (some (16, 0, 0)))] 56 [] Q := by
  refine sX1_puts_56 (d := d) M hw ?_
  refine sX6_hasLabels_0 (d := d) M 71 ?_
  refine zite k (fun h24949 k => ?_) (fun h24949 k => ?_)
  · refine zite k (fun h24950 k => ?_) (fun h24950 k => ?_)
    · show Z E YX1_puts (d + 1) M [(0, vr (some (16, 0, 0)))] 63 [vi (0 : Int32)] Q
      refine sX1_puts_63 (d := d) M (0 : Int32) hw ?_
      refine zpos (show (0 : Int32) = 0 from by decide) ?_
      refine zite k (fun h24951 k => ?_) (fun h24951 k => ?_)
      · refine sX1_puts_279 (d := d) M hw ?_
        exact k
      · exact k
    · show Z E YX1_puts (d + 1) M [(0, vr (some (16, 0, 0)))] 63 [vi (1 : Int32)] Q
      refine sX1_puts_63 (d := d) M (1 : Int32) hw ?_
      refine zneg (show ¬ ((1 : Int32) = 0) from by decide) ?_
      exact k
  · show Z E YX1_puts (d + 1) M [(0, vr (some (16, 0, 0)))] 63 [vi (1 : Int32)] Q
    refine sX1_puts_63 (d := d) M (1 : Int32) hw ?_
    refine zneg (show ¬ ((1 : Int32) = 0) from by decide) ?_
    exact k
theorem iX1_puts_111 {E : zE} {d : Nat} {Q : zO → zM → Prop} (M : zM) (s0 : Int32) (hw : cw M) (k : if (gi M 16 90) = 0 then (if (lg_cmp ((gl M 16 88) &&& (gl M 16 69)) (0 : Int64)) = 0 then (if (lg_cmp ((gl M 16 89) &&& (gl M 16 70)) (0 : Int64)) = 0 then (Z E YX1_writes d M (zargs 0 [vr (some (16, 0, 0)), vl (gl M 71 0), vl (gl M 71 1), vi s0, vr (some (73, 4, 0))]) 0 [] (zafter E YX1_puts (d + 1) [(0, vr (some (16, 0, 0))), (2, vl ((gl M 71 0) &&& (gl M 16 71))), (4, vl ((gl M 71 1) &&& (gl M 16 72))), (6, vi (0 : Int32))] 201 3 [] Q)) else (Z E YX1_writes d M (zargs 0 [vr (some (16, 0, 0)), vl (gl M 71 0), vl (gl M 71 1), vi s0, vr (some (73, 4, 0))]) 0 [] (zafter E YX1_puts (d + 1) [(0, vr (some (16, 0, 0))), (2, vl ((gl M 71 0) &&& (gl M 16 71))), (4, vl ((gl M 71 1) &&& (gl M 16 72))), (6, vi (1 : Int32))] 201 3 [] Q))) else (Z E YX1_writes d M (zargs 0 [vr (some (16, 0, 0)), vl (gl M 71 0), vl (gl M 71 1), vi s0, vr (some (73, 4, 0))]) 0 [] (zafter E YX1_puts (d + 1) [(0, vr (some (16, 0, 0))), (2, vl ((gl M 71 0) &&& (gl M 16 71))), (4, vl ((gl M 71 1) &&& (gl M 16 72))), (6, vi (1 : Int32))] 201 3 [] Q))) else (Z E YX1_writes d M (zargs 0 [vr (some (16, 0, 0)), vl (gl M 71 0), vl (gl M 71 1), vi s0, vr (some (73, 4, 0))]) 0 [] (zafter E YX1_puts (d + 1) [(0, vr (some (16, 0, 0))), (2, vl ((gl M 71 0) &&& (gl M 16 71))), (4, vl ((gl M 71 1) &&& (gl M 16 72))), (6, vi (1 : Int32))] 201 3 [] Q))) : Z E YX1_puts (d + 1) M [(0, vr (some (16, 0, 0)))] 111 [vi s0] Q := by
  refine sX1_puts_111 (d := d) M s0 hw ?_
  refine zite k (fun h24952 k => ?_) (fun h24952 k => ?_)
  · refine zite k (fun h24953 k => ?_) (fun h24953 k => ?_)
    · refine zite k (fun h24954 k => ?_) (fun h24954 k => ?_)
      · refine sX1_puts_179 (d := d) M s0 ((gl M 71 0) &&& (gl M 16 71)) ((gl M 71 1) &&& (gl M 16 72)) (0 : Int32) hw ?_
        exact k
      · refine sX1_puts_179 (d := d) M s0 ((gl M 71 0) &&& (gl M 16 71)) ((gl M 71 1) &&& (gl M 16 72)) (1 : Int32) hw ?_
        exact k
    · refine sX1_puts_179 (d := d) M s0 ((gl M 71 0) &&& (gl M 16 71)) ((gl M 71 1) &&& (gl M 16 72)) (1 : Int32) hw ?_
      exact k
  · refine sX1_puts_179 (d := d) M s0 ((gl M 71 0) &&& (gl M 16 71)) ((gl M 71 1) &&& (gl M 16 72)) (1 : Int32) hw ?_
    exact k
theorem iX1_puts_212 {E : zE} {d : Nat} {Q : zO → zM → Prop} (M : zM) (l2 : Int64) (l4 : Int64) (l7 : Int32) (hw : cw M) (k : if (gi M 16 11) ≤ l7 then (Z E YX1_nextWith d M (zargs 0 [vr (some (16, 0, 0)), vr (some (73, 4, 0))]) 0 [] (zafter E YX1_puts (d + 1) [] 276 3 [] Q)) else (if (64 : Int32) ≤ l7 then (∀ x1_v16398v24958 : Int64, x1_v16398v24958 = (zls (zlr l4 (l7 - (64 : Int32))) (63 : Int32)) → (if (lg_cmp x1_v16398v24958 (0 : Int64)) = 0 then (Z E YX1_puts (d + 1) M [(0, vr (some (16, 0, 0))), (2, vl l2), (4, vl l4), (7, vi (l7 + (1 : Int32)))] 212 [] Q) else (∃ b24960 : Nat, (gr M 16 60) = some (b24960, 7, 0) ∧ (∃ b24961 m24961 : Nat, (gr M b24960 8) = some (b24961, 104, m24961) ∧ (vp_in l7 m24961 ∧ (if (gi M b24961 (l7).toNatClampNeg) = 0 then (Z E YX1_puts (d + 1) M [(0, vr (some (16, 0, 0))), (2, vl l2), (4, vl l4), (7, vi (l7 + (1 : Int32)))] 212 [] Q) else (16 ≤ 72 ∧ (Z E YX43_joinField d (sl (sl (sl M 72 0 (0 : Int64)) 72 1 (0 : Int64)) 72 2 (64 : Int64)) (zargs 0 [vr (some (b24960, 7, 0)), vi l7, vi (0 : Int32), vr (some (72, 4, 0))]) 0 [] (zafter E YX1_puts (d + 1) [(0, vr (some (16, 0, 0))), (2, vl l2), (4, vl l4), (7, vi l7)] 262 3 [] Q))))))))) else (∀ x1_v16400v24975 : Int64, x1_v16400v24975 = (zls (zlr l2 l7) (63 : Int32)) → (if (lg_cmp x1_v16400v24975 (0 : Int64)) = 0 then (Z E YX1_puts (d + 1) M [(0, vr (some (16, 0, 0))), (2, vl l2), (4, vl l4), (7, vi (l7 + (1 : Int32)))] 212 [] Q) else (∃ b24977 : Nat, (gr M 16 60) = some (b24977, 7, 0) ∧ (∃ b24978 m24978 : Nat, (gr M b24977 8) = some (b24978, 104, m24978) ∧ (vp_in l7 m24978 ∧ (if (gi M b24978 (l7).toNatClampNeg) = 0 then (Z E YX1_puts (d + 1) M [(0, vr (some (16, 0, 0))), (2, vl l2), (4, vl l4), (7, vi (l7 + (1 : Int32)))] 212 [] Q) else (16 ≤ 72 ∧ (Z E YX43_joinField d (sl (sl (sl M 72 0 (0 : Int64)) 72 1 (0 : Int64)) 72 2 (64 : Int64)) (zargs 0 [vr (some (b24977, 7, 0)), vi l7, vi (0 : Int32), vr (some (72, 4, 0))]) 0 [] (zafter E YX1_puts (d + 1) [(0, vr (some (16, 0, 0))), (2, vl l2), (4, vl l4), (7, vi l7)] 262 3 [] Q))))))))))) : Z E YX1_puts (d + 1) M [(0, vr (some (16, 0, 0))), (2, vl l2), (4, vl l4), (7, vi l7)] 212 [] Q := by
  refine sX1_puts_212 (d := d) M l2 l4 l7 hw ?_
  refine zite k (fun h24956 k => ?_) (fun h24956 k => ?_)
  · exact k
  · refine jX1_in (d := d) M l7 l2 l4 hw ?_
    refine zite k (fun h24957 k => ?_) (fun h24957 k => ?_)
    · intro x1_v16398v24958 h24958
      have k := k x1_v16398v24958 h24958
      refine zite k (fun h24959 k => ?_) (fun h24959 k => ?_)
      · show Z E YX1_puts (d + 1) M [(0, vr (some (16, 0, 0))), (2, vl l2), (4, vl l4), (7, vi l7)] 229 [vi (0 : Int32)] Q
        refine sX1_puts_229 (d := d) M l2 l4 l7 (0 : Int32) hw ?_
        refine zpos (show (0 : Int32) = 0 from by decide) ?_
        refine sX1_puts_265 (d := d) M l2 l4 l7 hw ?_
        exact k
      · show Z E YX1_puts (d + 1) M [(0, vr (some (16, 0, 0))), (2, vl l2), (4, vl l4), (7, vi l7)] 229 [vi (1 : Int32)] Q
        refine sX1_puts_229 (d := d) M l2 l4 l7 (1 : Int32) hw ?_
        refine zneg (show ¬ ((1 : Int32) = 0) from by decide) ?_
        obtain ⟨b24960, h24960, k⟩ := k
        refine ⟨b24960, h24960, ?_⟩
        obtain ⟨b24961, m24961, h24961, k⟩ := k
        refine ⟨b24961, m24961, h24961, ?_⟩
        refine zand k (fun h24962 k => ?_)
        refine zite k (fun h24963 k => ?_) (fun h24963 k => ?_)
        · refine sX1_puts_265 (d := d) M l2 l4 l7 hw ?_
          exact k
        · refine jX6_of (d := d) M 72 (64 : Int64) ?_
          refine zand k (fun h24964 k => ?_)
          show Z E YX1_puts (d + 1) (sl (sl (sl M 72 0 (0 : Int64)) 72 1 (0 : Int64)) 72 2 (64 : Int64)) [(0, vr (some (16, 0, 0))), (2, vl l2), (4, vl l4), (7, vi l7)] 262 [vr (some (72, 4, 0)), vi (0 : Int32), vi l7, vr (gr M 16 60)] Q
          refine sX1_puts_262 (d := d) (sl (sl (sl M 72 0 (0 : Int64)) 72 1 (0 : Int64)) 72 2 (64 : Int64)) l2 l4 l7 (some (72, 4, 0)) (0 : Int32) l7 (gr M 16 60) hw ?_
          refine ⟨b24960, h24960, ?_⟩
          exact k
    · intro x1_v16400v24975 h24975
      have k := k x1_v16400v24975 h24975
      refine zite k (fun h24976 k => ?_) (fun h24976 k => ?_)
      · show Z E YX1_puts (d + 1) M [(0, vr (some (16, 0, 0))), (2, vl l2), (4, vl l4), (7, vi l7)] 229 [vi (0 : Int32)] Q
        refine sX1_puts_229 (d := d) M l2 l4 l7 (0 : Int32) hw ?_
        refine zpos (show (0 : Int32) = 0 from by decide) ?_
        refine sX1_puts_265 (d := d) M l2 l4 l7 hw ?_
        exact k
      · show Z E YX1_puts (d + 1) M [(0, vr (some (16, 0, 0))), (2, vl l2), (4, vl l4), (7, vi l7)] 229 [vi (1 : Int32)] Q
        refine sX1_puts_229 (d := d) M l2 l4 l7 (1 : Int32) hw ?_
        refine zneg (show ¬ ((1 : Int32) = 0) from by decide) ?_
        obtain ⟨b24977, h24977, k⟩ := k
        refine ⟨b24977, h24977, ?_⟩
        obtain ⟨b24978, m24978, h24978, k⟩ := k
        refine ⟨b24978, m24978, h24978, ?_⟩
        refine zand k (fun h24979 k => ?_)
        refine zite k (fun h24980 k => ?_) (fun h24980 k => ?_)
        · refine sX1_puts_265 (d := d) M l2 l4 l7 hw ?_
          exact k
        · refine jX6_of (d := d) M 72 (64 : Int64) ?_
          refine zand k (fun h24981 k => ?_)
          show Z E YX1_puts (d + 1) (sl (sl (sl M 72 0 (0 : Int64)) 72 1 (0 : Int64)) 72 2 (64 : Int64)) [(0, vr (some (16, 0, 0))), (2, vl l2), (4, vl l4), (7, vi l7)] 262 [vr (some (72, 4, 0)), vi (0 : Int32), vi l7, vr (gr M 16 60)] Q
          refine sX1_puts_262 (d := d) (sl (sl (sl M 72 0 (0 : Int64)) 72 1 (0 : Int64)) 72 2 (64 : Int64)) l2 l4 l7 (some (72, 4, 0)) (0 : Int32) l7 (gr M 16 60) hw ?_
          refine ⟨b24977, h24977, ?_⟩
          exact k
theorem iX1_readAll_13 {E : zE} {d : Nat} {Q : zO → zM → Prop} (M : zM) (l1 : Int64) (l3 : Int64) (r5 : Option zP) (l6 : Int32) (hw : cw M) (k : if (gi M 16 1) < l6 then (Q (.inl none) M) else (if l6 = (gi M 16 1) then ((narrow .boolean (.int (gi M 16 90)) = .int (gi M 16 90)) ∧ (if (gi M 16 90) = 0 then (Z E YX1_readAll ((d + 1) + 1) M [(0, vr (some (16, 0, 0))), (1, vl l1), (3, vl l3), (5, vr r5), (6, vi (l6 + (1 : Int32)))] 13 [] Q) else (Z E YX1_readOne (d + 1) M (zargs 0 [vr (some (16, 0, 0)), vl l1, vl l3, vi l6, vr r5]) 0 [] (zafter E YX1_readAll ((d + 1) + 1) [(0, vr (some (16, 0, 0))), (1, vl l1), (3, vl l3), (5, vr r5), (6, vi l6)] 38 3 [] Q)))) else (if (64 : Int32) ≤ l6 then (∀ x1_v16398v18661v24988 : Int64, x1_v16398v18661v24988 = (zls (zlr (gl M 16 89) (l6 - (64 : Int32))) (63 : Int32)) → (if (lg_cmp x1_v16398v18661v24988 (0 : Int64)) = 0 then ((narrow .boolean (.int (0 : Int32)) = .int (0 : Int32)) ∧ (Z E YX1_readAll ((d + 1) + 1) M [(0, vr (some (16, 0, 0))), (1, vl l1), (3, vl l3), (5, vr r5), (6, vi (l6 + (1 : Int32)))] 13 [] Q)) else ((narrow .boolean (.int (1 : Int32)) = .int (1 : Int32)) ∧ (Z E YX1_readOne (d + 1) M (zargs 0 [vr (some (16, 0, 0)), vl l1, vl l3, vi l6, vr r5]) 0 [] (zafter E YX1_readAll ((d + 1) + 1) [(0, vr (some (16, 0, 0))), (1, vl l1), (3, vl l3), (5, vr r5), (6, vi l6)] 38 3 [] Q))))) else (∀ x1_v16400v18665v24992 : Int64, x1_v16400v18665v24992 = (zls (zlr (gl M 16 88) l6) (63 : Int32)) → (if (lg_cmp x1_v16400v18665v24992 (0 : Int64)) = 0 then ((narrow .boolean (.int (0 : Int32)) = .int (0 : Int32)) ∧ (Z E YX1_readAll ((d + 1) + 1) M [(0, vr (some (16, 0, 0))), (1, vl l1), (3, vl l3), (5, vr r5), (6, vi (l6 + (1 : Int32)))] 13 [] Q)) else ((narrow .boolean (.int (1 : Int32)) = .int (1 : Int32)) ∧ (Z E YX1_readOne (d + 1) M (zargs 0 [vr (some (16, 0, 0)), vl l1, vl l3, vi l6, vr r5]) 0 [] (zafter E YX1_readAll ((d + 1) + 1) [(0, vr (some (16, 0, 0))), (1, vl l1), (3, vl l3), (5, vr r5), (6, vi l6)] 38 3 [] Q)))))))) : Z E YX1_readAll (d + 2) M [(0, vr (some (16, 0, 0))), (1, vl l1), (3, vl l3), (5, vr r5), (6, vi l6)] 13 [] Q := by
  refine sX1_readAll_13 (d := (d + 1)) M l1 l3 r5 l6 hw ?_
  refine zite k (fun h24983 k => ?_) (fun h24983 k => ?_)
  · exact k
  · refine jX1_isKey (d := d) M l6 hw ?_
    refine zite k (fun h24984 k => ?_) (fun h24984 k => ?_)
    · refine zand k (fun h24985 k => ?_)
      show Z E YX1_readAll ((d + 1) + 1) M [(0, vr (some (16, 0, 0))), (1, vl l1), (3, vl l3), (5, vr r5), (6, vi l6)] 28 [vi (gi M 16 90)] Q
      refine sX1_readAll_28 (d := (d + 1)) M l1 l3 r5 l6 (gi M 16 90) hw ?_
      refine zite k (fun h24986 k => ?_) (fun h24986 k => ?_)
      · refine sX1_readAll_41 (d := (d + 1)) M l1 l3 r5 l6 hw ?_
        exact k
      · exact k
    · refine zite k (fun h24987 k => ?_) (fun h24987 k => ?_)
      · intro x1_v16398v18661v24988 h24988
        have k := k x1_v16398v18661v24988 h24988
        refine zite k (fun h24989 k => ?_) (fun h24989 k => ?_)
        · refine zand k (fun h24990 k => ?_)
          show Z E YX1_readAll ((d + 1) + 1) M [(0, vr (some (16, 0, 0))), (1, vl l1), (3, vl l3), (5, vr r5), (6, vi l6)] 28 [vi (0 : Int32)] Q
          refine sX1_readAll_28 (d := (d + 1)) M l1 l3 r5 l6 (0 : Int32) hw ?_
          refine zpos (show (0 : Int32) = 0 from by decide) ?_
          refine sX1_readAll_41 (d := (d + 1)) M l1 l3 r5 l6 hw ?_
          exact k
        · refine zand k (fun h24991 k => ?_)
          show Z E YX1_readAll ((d + 1) + 1) M [(0, vr (some (16, 0, 0))), (1, vl l1), (3, vl l3), (5, vr r5), (6, vi l6)] 28 [vi (1 : Int32)] Q
          refine sX1_readAll_28 (d := (d + 1)) M l1 l3 r5 l6 (1 : Int32) hw ?_
          refine zneg (show ¬ ((1 : Int32) = 0) from by decide) ?_
          exact k
      · intro x1_v16400v18665v24992 h24992
        have k := k x1_v16400v18665v24992 h24992
        refine zite k (fun h24993 k => ?_) (fun h24993 k => ?_)
        · refine zand k (fun h24994 k => ?_)
          show Z E YX1_readAll ((d + 1) + 1) M [(0, vr (some (16, 0, 0))), (1, vl l1), (3, vl l3), (5, vr r5), (6, vi l6)] 28 [vi (0 : Int32)] Q
          refine sX1_readAll_28 (d := (d + 1)) M l1 l3 r5 l6 (0 : Int32) hw ?_
          refine zpos (show (0 : Int32) = 0 from by decide) ?_
          refine sX1_readAll_41 (d := (d + 1)) M l1 l3 r5 l6 hw ?_
          exact k
        · refine zand k (fun h24995 k => ?_)
          show Z E YX1_readAll ((d + 1) + 1) M [(0, vr (some (16, 0, 0))), (1, vl l1), (3, vl l3), (5, vr r5), (6, vi l6)] 28 [vi (1 : Int32)] Q
          refine sX1_readAll_28 (d := (d + 1)) M l1 l3 r5 l6 (1 : Int32) hw ?_
          refine zneg (show ¬ ((1 : Int32) = 0) from by decide) ?_
          exact k
theorem iX1_readOne_12 {E : zE} {d : Nat} {Q : zO → zM → Prop} (M : zM) (l5 : Int32) (r6 : Option zP) (l7 : Int64) (l9 : Int64) (l11 : Int64) (l13 : Int64) (hw : cw M) (k : if (lg_cmp l11 (0 : Int64)) = 0 then (if (lg_cmp l13 (0 : Int64)) = 0 then (Q (.inl none) M) else (Z E YJ17_numberOfTrailingZeros d M (zargs 0 [vl l13]) 0 [] (zafter E YX1_readOne (d + 1) [(0, vr (some (16, 0, 0))), (5, vi l5), (6, vr r6), (7, vl l7), (9, vl l9), (11, vl l11), (13, vl l13)] 45 3 [vi (64 : Int32)] Q))) else (Z E YJ17_numberOfTrailingZeros d M (zargs 0 [vl l11]) 0 [] (zafter E YX1_readOne (d + 1) [(0, vr (some (16, 0, 0))), (5, vi l5), (6, vr r6), (7, vl l7), (9, vl l9), (11, vl l11), (13, vl l13)] 35 3 [] Q))) : Z E YX1_readOne (d + 1) M [(0, vr (some (16, 0, 0))), (5, vi l5), (6, vr r6), (7, vl l7), (9, vl l9), (11, vl l11), (13, vl l13)] 12 [] Q := by
  refine sX1_readOne_12 (d := d) M l5 r6 l7 l9 l11 l13 hw ?_
  refine zite k (fun h24996 k => ?_) (fun h24996 k => ?_)
  · refine zite k (fun h24997 k => ?_) (fun h24997 k => ?_)
    · exact k
    · refine sX1_readOne_26 (d := d) M l5 r6 l7 l9 l11 l13 hw ?_
      refine zpos h24996 ?_
      exact k
  · refine sX1_readOne_26 (d := d) M l5 r6 l7 l9 l11 l13 hw ?_
    refine zneg h24996 ?_
    exact k
theorem iX1_readOne_48 {E : zE} {d : Nat} {Q : zO → zM → Prop} (M : zM) (l5 : Int32) (r6 : Option zP) (l7 : Int64) (l9 : Int64) (l11 : Int64) (l13 : Int64) (s0 : Int32) (s1 : Int32) (hw : cw M) (k : if (64 : Int32) ≤ (s1 + s0) then (∃ b24999 : Nat, (gr M 16 60) = some (b24999, 7, 0) ∧ (∃ b25000 : Nat, (gr M b24999 0) = some (b25000, 0, 0) ∧ (∃ b25001 m25001 : Nat, (gr M b24999 1) = some (b25001, 105, m25001) ∧ (vp_in (((s1 + s0) * ((gi M b25000 1) + (1 : Int32))) + l5) m25001 ∧ (∃ b25003 m25003 : Nat, (gr M b24999 2) = some (b25003, 105, m25003) ∧ (vp_in (((s1 + s0) * ((gi M b25000 1) + (1 : Int32))) + l5) m25003 ∧ (∃ b25005 m25005 : Nat, (gr M b24999 3) = some (b25005, 105, m25005) ∧ (vp_in (((s1 + s0) * ((gi M b25000 1) + (1 : Int32))) + l5) m25005 ∧ (∃ b25007 : Nat, r6 = some (b25007, 4, 0) ∧ (Z E YX6_join3 d M (zargs 0 [vr (some (b25007, 4, 0)), vl (gl M b25001 ((((s1 + s0) * ((gi M b25000 1) + (1 : Int32))) + l5)).toNatClampNeg), vl (gl M b25003 ((((s1 + s0) * ((gi M b25000 1) + (1 : Int32))) + l5)).toNatClampNeg), vl ((gl M b25005 ((((s1 + s0) * ((gi M b25000 1) + (1 : Int32))) + l5)).toNatClampNeg) &&& (-513 : Int64))]) 0 [] (zafter E YX1_readOne (d + 1) [(0, vr (some (16, 0, 0))), (5, vi l5), (6, vr (some (b25007, 4, 0))), (7, vl l7), (9, vl (l9 ||| (zls (1 : Int64) ((s1 + s0) - (64 : Int32))))), (11, vl l11), (13, vl l13), (15, vi (s1 + s0)), (16, vi (((s1 + s0) * ((gi M b25000 1) + (1 : Int32))) + l5))] 131 3 [] Q))))))))))) else (∃ b25008 : Nat, (gr M 16 60) = some (b25008, 7, 0) ∧ (∃ b25009 : Nat, (gr M b25008 0) = some (b25009, 0, 0) ∧ (∃ b25010 m25010 : Nat, (gr M b25008 1) = some (b25010, 105, m25010) ∧ (vp_in (((s1 + s0) * ((gi M b25009 1) + (1 : Int32))) + l5) m25010 ∧ (∃ b25012 m25012 : Nat, (gr M b25008 2) = some (b25012, 105, m25012) ∧ (vp_in (((s1 + s0) * ((gi M b25009 1) + (1 : Int32))) + l5) m25012 ∧ (∃ b25014 m25014 : Nat, (gr M b25008 3) = some (b25014, 105, m25014) ∧ (vp_in (((s1 + s0) * ((gi M b25009 1) + (1 : Int32))) + l5) m25014 ∧ (∃ b25016 : Nat, r6 = some (b25016, 4, 0) ∧ (Z E YX6_join3 d M (zargs 0 [vr (some (b25016, 4, 0)), vl (gl M b25010 ((((s1 + s0) * ((gi M b25009 1) + (1 : Int32))) + l5)).toNatClampNeg), vl (gl M b25012 ((((s1 + s0) * ((gi M b25009 1) + (1 : Int32))) + l5)).toNatClampNeg), vl ((gl M b25014 ((((s1 + s0) * ((gi M b25009 1) + (1 : Int32))) + l5)).toNatClampNeg) &&& (-513 : Int64))]) 0 [] (zafter E YX1_readOne (d + 1) [(0, vr (some (16, 0, 0))), (5, vi l5), (6, vr (some (b25016, 4, 0))), (7, vl (l7 ||| (zls (1 : Int64) (s1 + s0)))), (9, vl l9), (11, vl l11), (13, vl l13), (15, vi (s1 + s0)), (16, vi (((s1 + s0) * ((gi M b25009 1) + (1 : Int32))) + l5))] 131 3 [] Q)))))))))))) : Z E YX1_readOne (d + 1) M [(0, vr (some (16, 0, 0))), (5, vi l5), (6, vr r6), (7, vl l7), (9, vl l9), (11, vl l11), (13, vl l13)] 48 [vi s0, vi s1] Q := by
  refine sX1_readOne_48 (d := d) M l5 r6 l7 l9 l11 l13 s0 s1 hw ?_
  refine sX1_readOne_49 (d := d) M l5 r6 l7 l9 l11 l13 (s1 + s0) hw ?_
  refine zite k (fun h24998 k => ?_) (fun h24998 k => ?_)
  · obtain ⟨b24999, h24999, k⟩ := k
    refine ⟨b24999, h24999, ?_⟩
    refine sX43_cell_0 (d := d) M b24999 (s1 + s0) l5 ?_
    obtain ⟨b25000, h25000, k⟩ := k
    refine ⟨b25000, h25000, ?_⟩
    show Z E YX1_readOne (d + 1) M [(0, vr (some (16, 0, 0))), (5, vi l5), (6, vr r6), (7, vl l7), (9, vl (l9 ||| (zls (1 : Int64) ((s1 + s0) - (64 : Int32))))), (11, vl l11), (13, vl l13), (15, vi (s1 + s0))] 93 [vi (((s1 + s0) * ((gi M b25000 1) + (1 : Int32))) + l5)] Q
    refine sX1_readOne_93 (d := d) M l5 r6 l7 (l9 ||| (zls (1 : Int64) ((s1 + s0) - (64 : Int32)))) l11 l13 (s1 + s0) (((s1 + s0) * ((gi M b25000 1) + (1 : Int32))) + l5) hw ?_
    refine ⟨b24999, h24999, ?_⟩
    obtain ⟨b25001, m25001, h25001, k⟩ := k
    refine ⟨b25001, m25001, h25001, ?_⟩
    refine zand k (fun h25002 k => ?_)
    refine ⟨b24999, h24999, ?_⟩
    obtain ⟨b25003, m25003, h25003, k⟩ := k
    refine ⟨b25003, m25003, h25003, ?_⟩
    refine zand k (fun h25004 k => ?_)
    refine ⟨b24999, h24999, ?_⟩
    exact k
  · obtain ⟨b25008, h25008, k⟩ := k
    refine ⟨b25008, h25008, ?_⟩
    refine sX43_cell_0 (d := d) M b25008 (s1 + s0) l5 ?_
    obtain ⟨b25009, h25009, k⟩ := k
    refine ⟨b25009, h25009, ?_⟩
    show Z E YX1_readOne (d + 1) M [(0, vr (some (16, 0, 0))), (5, vi l5), (6, vr r6), (7, vl (l7 ||| (zls (1 : Int64) (s1 + s0)))), (9, vl l9), (11, vl l11), (13, vl l13), (15, vi (s1 + s0))] 93 [vi (((s1 + s0) * ((gi M b25009 1) + (1 : Int32))) + l5)] Q
    refine sX1_readOne_93 (d := d) M l5 r6 (l7 ||| (zls (1 : Int64) (s1 + s0))) l9 l11 l13 (s1 + s0) (((s1 + s0) * ((gi M b25009 1) + (1 : Int32))) + l5) hw ?_
    refine ⟨b25008, h25008, ?_⟩
    obtain ⟨b25010, m25010, h25010, k⟩ := k
    refine ⟨b25010, m25010, h25010, ?_⟩
    refine zand k (fun h25011 k => ?_)
    refine ⟨b25008, h25008, ?_⟩
    obtain ⟨b25012, m25012, h25012, k⟩ := k
    refine ⟨b25012, m25012, h25012, ?_⟩
    refine zand k (fun h25013 k => ?_)
    refine ⟨b25008, h25008, ?_⟩
    exact k
theorem iX1_readOne_38 {E : zE} {d : Nat} {Q : zO → zM → Prop} (M : zM) (l5 : Int32) (r6 : Option zP) (l7 : Int64) (l9 : Int64) (l11 : Int64) (l13 : Int64) (s0 : Int32) (hw : cw M) (k : if (64 : Int32) ≤ s0 then (∃ b25018 : Nat, (gr M 16 60) = some (b25018, 7, 0) ∧ (∃ b25019 : Nat, (gr M b25018 0) = some (b25019, 0, 0) ∧ (∃ b25020 m25020 : Nat, (gr M b25018 1) = some (b25020, 105, m25020) ∧ (vp_in ((s0 * ((gi M b25019 1) + (1 : Int32))) + l5) m25020 ∧ (∃ b25022 m25022 : Nat, (gr M b25018 2) = some (b25022, 105, m25022) ∧ (vp_in ((s0 * ((gi M b25019 1) + (1 : Int32))) + l5) m25022 ∧ (∃ b25024 m25024 : Nat, (gr M b25018 3) = some (b25024, 105, m25024) ∧ (vp_in ((s0 * ((gi M b25019 1) + (1 : Int32))) + l5) m25024 ∧ (∃ b25026 : Nat, r6 = some (b25026, 4, 0) ∧ (Z E YX6_join3 d M (zargs 0 [vr (some (b25026, 4, 0)), vl (gl M b25020 (((s0 * ((gi M b25019 1) + (1 : Int32))) + l5)).toNatClampNeg), vl (gl M b25022 (((s0 * ((gi M b25019 1) + (1 : Int32))) + l5)).toNatClampNeg), vl ((gl M b25024 (((s0 * ((gi M b25019 1) + (1 : Int32))) + l5)).toNatClampNeg) &&& (-513 : Int64))]) 0 [] (zafter E YX1_readOne (d + 1) [(0, vr (some (16, 0, 0))), (5, vi l5), (6, vr (some (b25026, 4, 0))), (7, vl l7), (9, vl (l9 ||| (zls (1 : Int64) (s0 - (64 : Int32))))), (11, vl l11), (13, vl l13), (15, vi s0), (16, vi ((s0 * ((gi M b25019 1) + (1 : Int32))) + l5))] 131 3 [] Q))))))))))) else (∃ b25027 : Nat, (gr M 16 60) = some (b25027, 7, 0) ∧ (∃ b25028 : Nat, (gr M b25027 0) = some (b25028, 0, 0) ∧ (∃ b25029 m25029 : Nat, (gr M b25027 1) = some (b25029, 105, m25029) ∧ (vp_in ((s0 * ((gi M b25028 1) + (1 : Int32))) + l5) m25029 ∧ (∃ b25031 m25031 : Nat, (gr M b25027 2) = some (b25031, 105, m25031) ∧ (vp_in ((s0 * ((gi M b25028 1) + (1 : Int32))) + l5) m25031 ∧ (∃ b25033 m25033 : Nat, (gr M b25027 3) = some (b25033, 105, m25033) ∧ (vp_in ((s0 * ((gi M b25028 1) + (1 : Int32))) + l5) m25033 ∧ (∃ b25035 : Nat, r6 = some (b25035, 4, 0) ∧ (Z E YX6_join3 d M (zargs 0 [vr (some (b25035, 4, 0)), vl (gl M b25029 (((s0 * ((gi M b25028 1) + (1 : Int32))) + l5)).toNatClampNeg), vl (gl M b25031 (((s0 * ((gi M b25028 1) + (1 : Int32))) + l5)).toNatClampNeg), vl ((gl M b25033 (((s0 * ((gi M b25028 1) + (1 : Int32))) + l5)).toNatClampNeg) &&& (-513 : Int64))]) 0 [] (zafter E YX1_readOne (d + 1) [(0, vr (some (16, 0, 0))), (5, vi l5), (6, vr (some (b25035, 4, 0))), (7, vl (l7 ||| (zls (1 : Int64) s0))), (9, vl l9), (11, vl l11), (13, vl l13), (15, vi s0), (16, vi ((s0 * ((gi M b25028 1) + (1 : Int32))) + l5))] 131 3 [] Q)))))))))))) : Z E YX1_readOne (d + 1) M [(0, vr (some (16, 0, 0))), (5, vi l5), (6, vr r6), (7, vl l7), (9, vl l9), (11, vl l11), (13, vl l13)] 38 [vi s0] Q := by
  refine sX1_readOne_38 (d := d) M l5 r6 l7 l9 l11 l13 s0 hw ?_
  refine sX1_readOne_49 (d := d) M l5 r6 l7 l9 l11 l13 s0 hw ?_
  refine zite k (fun h25017 k => ?_) (fun h25017 k => ?_)
  · obtain ⟨b25018, h25018, k⟩ := k
    refine ⟨b25018, h25018, ?_⟩
    refine sX43_cell_0 (d := d) M b25018 s0 l5 ?_
    obtain ⟨b25019, h25019, k⟩ := k
    refine ⟨b25019, h25019, ?_⟩
    show Z E YX1_readOne (d + 1) M [(0, vr (some (16, 0, 0))), (5, vi l5), (6, vr r6), (7, vl l7), (9, vl (l9 ||| (zls (1 : Int64) (s0 - (64 : Int32))))), (11, vl l11), (13, vl l13), (15, vi s0)] 93 [vi ((s0 * ((gi M b25019 1) + (1 : Int32))) + l5)] Q
    refine sX1_readOne_93 (d := d) M l5 r6 l7 (l9 ||| (zls (1 : Int64) (s0 - (64 : Int32)))) l11 l13 s0 ((s0 * ((gi M b25019 1) + (1 : Int32))) + l5) hw ?_
    refine ⟨b25018, h25018, ?_⟩
    obtain ⟨b25020, m25020, h25020, k⟩ := k
    refine ⟨b25020, m25020, h25020, ?_⟩
    refine zand k (fun h25021 k => ?_)
    refine ⟨b25018, h25018, ?_⟩
    obtain ⟨b25022, m25022, h25022, k⟩ := k
    refine ⟨b25022, m25022, h25022, ?_⟩
    refine zand k (fun h25023 k => ?_)
    refine ⟨b25018, h25018, ?_⟩
    exact k
  · obtain ⟨b25027, h25027, k⟩ := k
    refine ⟨b25027, h25027, ?_⟩
    refine sX43_cell_0 (d := d) M b25027 s0 l5 ?_
    obtain ⟨b25028, h25028, k⟩ := k
    refine ⟨b25028, h25028, ?_⟩
    show Z E YX1_readOne (d + 1) M [(0, vr (some (16, 0, 0))), (5, vi l5), (6, vr r6), (7, vl (l7 ||| (zls (1 : Int64) s0))), (9, vl l9), (11, vl l11), (13, vl l13), (15, vi s0)] 93 [vi ((s0 * ((gi M b25028 1) + (1 : Int32))) + l5)] Q
    refine sX1_readOne_93 (d := d) M l5 r6 (l7 ||| (zls (1 : Int64) s0)) l9 l11 l13 s0 ((s0 * ((gi M b25028 1) + (1 : Int32))) + l5) hw ?_
    refine ⟨b25027, h25027, ?_⟩
    obtain ⟨b25029, m25029, h25029, k⟩ := k
    refine ⟨b25029, m25029, h25029, ?_⟩
    refine zand k (fun h25030 k => ?_)
    refine ⟨b25027, h25027, ?_⟩
    obtain ⟨b25031, m25031, h25031, k⟩ := k
    refine ⟨b25031, m25031, h25031, ?_⟩
    refine zand k (fun h25032 k => ?_)
    refine ⟨b25027, h25027, ?_⟩
    exact k
theorem iX1_readOne_194 {E : zE} {d : Nat} {Q : zO → zM → Prop} (M : zM) (l5 : Int32) (a6 : Nat) (l7 : Int64) (l9 : Int64) (l11 : Int64) (l13 : Int64) (l15 : Int32) (l16 : Int32) (s0 : Int32) (s1 : Int32) (hw : cw M) (k : zfit .boolean (s1 ||| s0) ∧ (∃ b25187 : Nat, (gr M 16 60) = some (b25187, 7, 0) ∧ (∃ b25188 m25188 : Nat, (gr M b25187 3) = some (b25188, 105, m25188) ∧ (vp_in l16 m25188 ∧ (if (lg_cmp ((gl M b25188 (l16).toNatClampNeg) &&& (512 : Int64)) (0 : Int64)) = 0 then (Z E YX1_readOne (d + 1) (si M 16 92 (s1 ||| s0)) [(0, vr (some (16, 0, 0))), (5, vi l5), (6, vr (some (a6, 4, 0))), (7, vl l7), (9, vl l9), (11, vl (l11 &&& (l7 ^^^ (-1 : Int64)))), (13, vl (l13 &&& (l9 ^^^ (-1 : Int64))))] 12 [] Q) else (∃ b25191 m25191 : Nat, (gr M b25187 9) = some (b25191, 104, m25191) ∧ (vp_in l15 m25191 ∧ (zfit .boolean ((gi M 16 91) ||| (gi (si M 16 92 (s1 ||| s0)) b25191 (l15).toNatClampNeg)) ∧ (∃ b25194 m25194 : Nat, (gr M b25187 4) = some (b25194, 105, m25194) ∧ (vp_in l15 m25194 ∧ (∃ b25196 m25196 : Nat, (gr M b25187 5) = some (b25196, 105, m25196) ∧ (vp_in l15 m25196 ∧ (Z E YX1_readOne (d + 1) (si (si M 16 92 (s1 ||| s0)) 16 91 ((gi M 16 91) ||| (gi (si M 16 92 (s1 ||| s0)) b25191 (l15).toNatClampNeg))) [(0, vr (some (16, 0, 0))), (5, vi l5), (6, vr (some (a6, 4, 0))), (7, vl l7), (9, vl l9), (11, vl ((l11 ||| (gl M b25194 (l15).toNatClampNeg)) &&& (l7 ^^^ (-1 : Int64)))), (13, vl ((l13 ||| (gl M b25196 (l15).toNatClampNeg)) &&& (l9 ^^^ (-1 : Int64))))] 12 [] Q))))))))))))) : Z E YX1_readOne (d + 1) M [(0, vr (some (16, 0, 0))), (5, vi l5), (6, vr (some (a6, 4, 0))), (7, vl l7), (9, vl l9), (11, vl l11), (13, vl l13), (15, vi l15), (16, vi l16)] 194 [vi s0, vi s1, vr (some (16, 0, 0))] Q := by
  refine sX1_readOne_194 (d := d) M l5 a6 l7 l9 l11 l13 l15 l16 s0 s1 hw ?_
  refine zand k (fun h25186 k => ?_)
  obtain ⟨b25187, h25187, k⟩ := k
  refine ⟨b25187, h25187, ?_⟩
  obtain ⟨b25188, m25188, h25188, k⟩ := k
  refine ⟨b25188, m25188, h25188, ?_⟩
  refine zand k (fun h25189 k => ?_)
  refine zite k (fun h25190 k => ?_) (fun h25190 k => ?_)
  · refine sX1_readOne_266 (d := d) (si M 16 92 (s1 ||| s0)) l5 _ l7 l9 l11 l13 hw ?_
    exact k
  · refine ⟨b25187, h25187, ?_⟩
    obtain ⟨b25191, m25191, h25191, k⟩ := k
    refine ⟨b25191, m25191, h25191, ?_⟩
    refine zand k (fun h25192 k => ?_)
    refine zand k (fun h25193 k => ?_)
    refine ⟨b25187, h25187, ?_⟩
    obtain ⟨b25194, m25194, h25194, k⟩ := k
    refine ⟨b25194, m25194, h25194, ?_⟩
    refine zand k (fun h25195 k => ?_)
    refine ⟨b25187, h25187, ?_⟩
    obtain ⟨b25196, m25196, h25196, k⟩ := k
    refine ⟨b25196, m25196, h25196, ?_⟩
    refine zand k (fun h25197 k => ?_)
    refine sX1_readOne_266 (d := d) (si (si M 16 92 (s1 ||| s0)) 16 91 ((gi M 16 91) ||| (gi (si M 16 92 (s1 ||| s0)) b25191 (l15).toNatClampNeg))) l5 _ l7 l9 (l11 ||| (gl M b25194 (l15).toNatClampNeg)) (l13 ||| (gl M b25196 (l15).toNatClampNeg)) hw ?_
    exact k
theorem iX1_scope_0 {E : zE} {d : Nat} {Q : zO → zM → Prop} (M : zM) (l1 : Int32) (hw : cw M) (k : ∃ b25198 : Nat, (gr M 16 60) = some (b25198, 7, 0) ∧ (Z E YX1_scope (d + 1) (sl (sl M 16 93 (gl M b25198 17)) 16 94 (gl (sl M 16 93 (gl M b25198 17)) b25198 18)) [(0, vr (some (16, 0, 0))), (1, vi l1), (2, vi (0 : Int32))] 24 [] Q)) : Z E YX1_scope (d + 1) M [(0, vr (some (16, 0, 0))), (1, vi l1)] 0 [] Q := by
  refine sX1_scope_0 (d := d) M l1 hw ?_
  obtain ⟨b25198, h25198, k⟩ := k
  refine ⟨b25198, h25198, ?_⟩
  refine ⟨b25198, h25198, ?_⟩
  exact k
theorem iX1_scope_37 {E : zE} {d : Nat} {Q : zO → zM → Prop} (M : zM) (l1 : Int32) (l2 : Int32) (l3 : Int64) (l5 : Int64) (l7 : Int32) (hw : cw M) (k : if (gi M 16 11) ≤ l7 then (Z E YX1_scope (d + 1) (sl (sl M 16 93 l3) 16 94 l5) [(0, vr (some (16, 0, 0))), (1, vi l1), (2, vi (l2 + (1 : Int32)))] 24 [] Q) else (if (64 : Int32) ≤ l7 then (∀ x1_v16398v25202 : Int64, x1_v16398v25202 = (zls (zlr (gl M 16 94) (l7 - (64 : Int32))) (63 : Int32)) → (if (lg_cmp x1_v16398v25202 (0 : Int64)) = 0 then (Z E YX1_scope (d + 1) M [(0, vr (some (16, 0, 0))), (1, vi l1), (2, vi l2), (3, vl l3), (5, vl l5), (7, vi (l7 + (1 : Int32)))] 37 [] Q) else (∃ b25204 : Nat, (gr M 16 60) = some (b25204, 7, 0) ∧ (∃ b25205 m25205 : Nat, (gr M b25204 6) = some (b25205, 105, m25205) ∧ (vp_in l7 m25205 ∧ (∃ b25207 m25207 : Nat, (gr M b25204 7) = some (b25207, 105, m25207) ∧ (vp_in l7 m25207 ∧ (Z E YX1_scope (d + 1) M [(0, vr (some (16, 0, 0))), (1, vi l1), (2, vi l2), (3, vl (l3 ||| (gl M b25205 (l7).toNatClampNeg))), (5, vl (l5 ||| (gl M b25207 (l7).toNatClampNeg))), (7, vi (l7 + (1 : Int32)))] 37 [] Q)))))))) else (∀ x1_v16400v25209 : Int64, x1_v16400v25209 = (zls (zlr (gl M 16 93) l7) (63 : Int32)) → (if (lg_cmp x1_v16400v25209 (0 : Int64)) = 0 then (Z E YX1_scope (d + 1) M [(0, vr (some (16, 0, 0))), (1, vi l1), (2, vi l2), (3, vl l3), (5, vl l5), (7, vi (l7 + (1 : Int32)))] 37 [] Q) else (∃ b25211 : Nat, (gr M 16 60) = some (b25211, 7, 0) ∧ (∃ b25212 m25212 : Nat, (gr M b25211 6) = some (b25212, 105, m25212) ∧ (vp_in l7 m25212 ∧ (∃ b25214 m25214 : Nat, (gr M b25211 7) = some (b25214, 105, m25214) ∧ (vp_in l7 m25214 ∧ (Z E YX1_scope (d + 1) M [(0, vr (some (16, 0, 0))), (1, vi l1), (2, vi l2), (3, vl (l3 ||| (gl M b25212 (l7).toNatClampNeg))), (5, vl (l5 ||| (gl M b25214 (l7).toNatClampNeg))), (7, vi (l7 + (1 : Int32)))] 37 [] Q)))))))))) : Z E YX1_scope (d + 1) M [(0, vr (some (16, 0, 0))), (1, vi l1), (2, vi l2), (3, vl l3), (5, vl l5), (7, vi l7)] 37 [] Q := by
  refine sX1_scope_37 (d := d) M l1 l2 l3 l5 l7 hw ?_
  refine zite k (fun h25200 k => ?_) (fun h25200 k => ?_)
  · exact k
  · refine jX1_in (d := d) M l7 (gl M 16 93) (gl M 16 94) hw ?_
    refine zite k (fun h25201 k => ?_) (fun h25201 k => ?_)
    · intro x1_v16398v25202 h25202
      have k := k x1_v16398v25202 h25202
      refine zite k (fun h25203 k => ?_) (fun h25203 k => ?_)
      · show Z E YX1_scope (d + 1) M [(0, vr (some (16, 0, 0))), (1, vi l1), (2, vi l2), (3, vl l3), (5, vl l5), (7, vi l7)] 59 [vi (0 : Int32)] Q
        refine sX1_scope_59 (d := d) M l1 l2 l3 l5 l7 (0 : Int32) hw ?_
        refine zpos (show (0 : Int32) = 0 from by decide) ?_
        exact k
      · show Z E YX1_scope (d + 1) M [(0, vr (some (16, 0, 0))), (1, vi l1), (2, vi l2), (3, vl l3), (5, vl l5), (7, vi l7)] 59 [vi (1 : Int32)] Q
        refine sX1_scope_59 (d := d) M l1 l2 l3 l5 l7 (1 : Int32) hw ?_
        refine zneg (show ¬ ((1 : Int32) = 0) from by decide) ?_
        obtain ⟨b25204, h25204, k⟩ := k
        refine ⟨b25204, h25204, ?_⟩
        obtain ⟨b25205, m25205, h25205, k⟩ := k
        refine ⟨b25205, m25205, h25205, ?_⟩
        refine zand k (fun h25206 k => ?_)
        refine ⟨b25204, h25204, ?_⟩
        exact k
    · intro x1_v16400v25209 h25209
      have k := k x1_v16400v25209 h25209
      refine zite k (fun h25210 k => ?_) (fun h25210 k => ?_)
      · show Z E YX1_scope (d + 1) M [(0, vr (some (16, 0, 0))), (1, vi l1), (2, vi l2), (3, vl l3), (5, vl l5), (7, vi l7)] 59 [vi (0 : Int32)] Q
        refine sX1_scope_59 (d := d) M l1 l2 l3 l5 l7 (0 : Int32) hw ?_
        refine zpos (show (0 : Int32) = 0 from by decide) ?_
        exact k
      · show Z E YX1_scope (d + 1) M [(0, vr (some (16, 0, 0))), (1, vi l1), (2, vi l2), (3, vl l3), (5, vl l5), (7, vi l7)] 59 [vi (1 : Int32)] Q
        refine sX1_scope_59 (d := d) M l1 l2 l3 l5 l7 (1 : Int32) hw ?_
        refine zneg (show ¬ ((1 : Int32) = 0) from by decide) ?_
        obtain ⟨b25211, h25211, k⟩ := k
        refine ⟨b25211, h25211, ?_⟩
        obtain ⟨b25212, m25212, h25212, k⟩ := k
        refine ⟨b25212, m25212, h25212, ?_⟩
        refine zand k (fun h25213 k => ?_)
        refine ⟨b25211, h25211, ?_⟩
        exact k
theorem iX1_types_0 {E : zE} {d : Nat} {Q : zO → zM → Prop} (M : zM) (r1 : Option zP) (r2 : Option zP) (hw : cw M) (k : ∃ b25532 : Nat, r1 = some (b25532, 4, 0) ∧ (if (lg_cmp ((gl M b25532 2) &&& ((1 : Int32)).toInt64) (0 : Int64)) = 0 then (if (lg_cmp ((gl M b25532 2) &&& ((2 : Int32)).toInt64) (0 : Int64)) = 0 then (if (lg_cmp ((gl M b25532 2) &&& ((12 : Int32)).toInt64) (0 : Int64)) = 0 then (if (lg_cmp ((gl M b25532 2) &&& ((112 : Int32)).toInt64) (0 : Int64)) = 0 then (if (lg_cmp ((gl M b25532 2) &&& ((384 : Int32)).toInt64) (0 : Int64)) = 0 then (Z E YX6_meets d M (zargs 0 [vr (some (b25532, 4, 0)), vl ((8388096 : Int64) ||| (gl M 16 73)), vl (gl M 16 74)]) 0 [] (zafter E YX1_types (d + 1) [(0, vr (some (16, 0, 0))), (1, vr (some (b25532, 4, 0))), (2, vr r2), (3, vl ((8388096 : Int64) ||| (gl M 16 73)))] 119 3 [] Q)) else (∃ b25538 : Nat, r2 = some (b25538, 4, 0) ∧ (Z E YX6_join3 d M (zargs 0 [vr (some (b25538, 4, 0)), vl (0 : Int64), vl (0 : Int64), vl ((128 : Int64) ||| (zls ((23 : Int32)).toInt64 (16 : Int32)))]) 0 [] (zafter E YX1_types (d + 1) [(0, vr (some (16, 0, 0))), (1, vr (some (b25532, 4, 0))), (2, vr r2)] 100 3 [] Q)))) else (∃ b25539 : Nat, r2 = some (b25539, 4, 0) ∧ (Z E YX6_join3 d M (zargs 0 [vr (some (b25539, 4, 0)), vl (0 : Int64), vl (0 : Int64), vl ((128 : Int64) ||| (zls ((22 : Int32)).toInt64 (16 : Int32)))]) 0 [] (zafter E YX1_types (d + 1) [(0, vr (some (16, 0, 0))), (1, vr (some (b25532, 4, 0))), (2, vr r2)] 78 3 [] Q)))) else (∃ b25540 : Nat, r2 = some (b25540, 4, 0) ∧ (Z E YX6_join3 d M (zargs 0 [vr (some (b25540, 4, 0)), vl (0 : Int64), vl (0 : Int64), vl ((128 : Int64) ||| (zls ((21 : Int32)).toInt64 (16 : Int32)))]) 0 [] (zafter E YX1_types (d + 1) [(0, vr (some (16, 0, 0))), (1, vr (some (b25532, 4, 0))), (2, vr r2)] 57 3 [] Q)))) else (∃ b25541 : Nat, r2 = some (b25541, 4, 0) ∧ (Z E YX6_join3 d M (zargs 0 [vr (some (b25541, 4, 0)), vl (0 : Int64), vl (0 : Int64), vl ((128 : Int64) ||| (zls ((20 : Int32)).toInt64 (16 : Int32)))]) 0 [] (zafter E YX1_types (d + 1) [(0, vr (some (16, 0, 0))), (1, vr (some (b25532, 4, 0))), (2, vr r2)] 36 3 [] Q)))) else (∃ b25542 : Nat, r2 = some (b25542, 4, 0) ∧ (Z E YX6_join3 d M (zargs 0 [vr (some (b25542, 4, 0)), vl (0 : Int64), vl (0 : Int64), vl ((128 : Int64) ||| (zls ((19 : Int32)).toInt64 (16 : Int32)))]) 0 [] (zafter E YX1_types (d + 1) [(0, vr (some (16, 0, 0))), (1, vr (some (b25532, 4, 0))), (2, vr r2)] 16 3 [] Q))))) : Z E YX1_types (d + 1) M [(0, vr (some (16, 0, 0))), (1, vr r1), (2, vr r2)] 0 [] Q := by
  refine sX1_types_0 (d := d) M r1 r2 hw ?_
  obtain ⟨b25532, h25532, k⟩ := k
  refine ⟨b25532, h25532, ?_⟩
  refine sX6_has_0 (d := d) M b25532 (1 : Int32) ?_
  refine zite k (fun h25533 k => ?_) (fun h25533 k => ?_)
  · show Z E YX1_types (d + 1) M [(0, vr (some (16, 0, 0))), (1, vr (some (b25532, 4, 0))), (2, vr r2)] 5 [vi (0 : Int32)] Q
    refine sX1_types_5 (d := d) M b25532 r2 (0 : Int32) hw ?_
    refine zpos (show (0 : Int32) = 0 from by decide) ?_
    refine sX6_has_0 (d := d) M b25532 (2 : Int32) ?_
    refine zite k (fun h25534 k => ?_) (fun h25534 k => ?_)
    · show Z E YX1_types (d + 1) M [(0, vr (some (16, 0, 0))), (1, vr (some (b25532, 4, 0))), (2, vr r2)] 25 [vi (0 : Int32)] Q
      refine sX1_types_25 (d := d) M b25532 r2 (0 : Int32) hw ?_
      refine zpos (show (0 : Int32) = 0 from by decide) ?_
      refine sX6_has_0 (d := d) M b25532 (12 : Int32) ?_
      refine zite k (fun h25535 k => ?_) (fun h25535 k => ?_)
      · show Z E YX1_types (d + 1) M [(0, vr (some (16, 0, 0))), (1, vr (some (b25532, 4, 0))), (2, vr r2)] 46 [vi (0 : Int32)] Q
        refine sX1_types_46 (d := d) M b25532 r2 (0 : Int32) hw ?_
        refine zpos (show (0 : Int32) = 0 from by decide) ?_
        refine sX6_has_0 (d := d) M b25532 (112 : Int32) ?_
        refine zite k (fun h25536 k => ?_) (fun h25536 k => ?_)
        · show Z E YX1_types (d + 1) M [(0, vr (some (16, 0, 0))), (1, vr (some (b25532, 4, 0))), (2, vr r2)] 67 [vi (0 : Int32)] Q
          refine sX1_types_67 (d := d) M b25532 r2 (0 : Int32) hw ?_
          refine zpos (show (0 : Int32) = 0 from by decide) ?_
          refine sX6_has_0 (d := d) M b25532 (384 : Int32) ?_
          refine zite k (fun h25537 k => ?_) (fun h25537 k => ?_)
          · show Z E YX1_types (d + 1) M [(0, vr (some (16, 0, 0))), (1, vr (some (b25532, 4, 0))), (2, vr r2)] 89 [vi (0 : Int32)] Q
            refine sX1_types_89 (d := d) M b25532 r2 (0 : Int32) hw ?_
            refine zpos (show (0 : Int32) = 0 from by decide) ?_
            refine sX1_natives_0 (d := d) M hw ?_
            show Z E YX1_types (d + 1) M [(0, vr (some (16, 0, 0))), (1, vr (some (b25532, 4, 0))), (2, vr r2)] 107 [vl (8388096 : Int64)] Q
            refine sX1_types_107 (d := d) M b25532 r2 (8388096 : Int64) hw ?_
            exact k
          · show Z E YX1_types (d + 1) M [(0, vr (some (16, 0, 0))), (1, vr (some (b25532, 4, 0))), (2, vr r2)] 89 [vi (1 : Int32)] Q
            refine sX1_types_89 (d := d) M b25532 r2 (1 : Int32) hw ?_
            refine zneg (show ¬ ((1 : Int32) = 0) from by decide) ?_
            refine sX1_textSet_0 (d := d) M (23 : Int32) hw ?_
            refine zneg (show ¬ ((23 : Int32) = (-1 : Int32)) from by decide) ?_
            show Z E YX1_types (d + 1) M [(0, vr (some (16, 0, 0))), (1, vr (some (b25532, 4, 0))), (2, vr r2)] 100 [vl ((128 : Int64) ||| (zls ((23 : Int32)).toInt64 (16 : Int32))), vl (0 : Int64), vl (0 : Int64), vr r2] Q
            refine sX1_types_100 (d := d) M b25532 r2 ((128 : Int64) ||| (zls ((23 : Int32)).toInt64 (16 : Int32))) (0 : Int64) (0 : Int64) r2 hw ?_
            exact k
        · show Z E YX1_types (d + 1) M [(0, vr (some (16, 0, 0))), (1, vr (some (b25532, 4, 0))), (2, vr r2)] 67 [vi (1 : Int32)] Q
          refine sX1_types_67 (d := d) M b25532 r2 (1 : Int32) hw ?_
          refine zneg (show ¬ ((1 : Int32) = 0) from by decide) ?_
          refine sX1_textSet_0 (d := d) M (22 : Int32) hw ?_
          refine zneg (show ¬ ((22 : Int32) = (-1 : Int32)) from by decide) ?_
          show Z E YX1_types (d + 1) M [(0, vr (some (16, 0, 0))), (1, vr (some (b25532, 4, 0))), (2, vr r2)] 78 [vl ((128 : Int64) ||| (zls ((22 : Int32)).toInt64 (16 : Int32))), vl (0 : Int64), vl (0 : Int64), vr r2] Q
          refine sX1_types_78 (d := d) M b25532 r2 ((128 : Int64) ||| (zls ((22 : Int32)).toInt64 (16 : Int32))) (0 : Int64) (0 : Int64) r2 hw ?_
          exact k
      · show Z E YX1_types (d + 1) M [(0, vr (some (16, 0, 0))), (1, vr (some (b25532, 4, 0))), (2, vr r2)] 46 [vi (1 : Int32)] Q
        refine sX1_types_46 (d := d) M b25532 r2 (1 : Int32) hw ?_
        refine zneg (show ¬ ((1 : Int32) = 0) from by decide) ?_
        refine sX1_textSet_0 (d := d) M (21 : Int32) hw ?_
        refine zneg (show ¬ ((21 : Int32) = (-1 : Int32)) from by decide) ?_
        show Z E YX1_types (d + 1) M [(0, vr (some (16, 0, 0))), (1, vr (some (b25532, 4, 0))), (2, vr r2)] 57 [vl ((128 : Int64) ||| (zls ((21 : Int32)).toInt64 (16 : Int32))), vl (0 : Int64), vl (0 : Int64), vr r2] Q
        refine sX1_types_57 (d := d) M b25532 r2 ((128 : Int64) ||| (zls ((21 : Int32)).toInt64 (16 : Int32))) (0 : Int64) (0 : Int64) r2 hw ?_
        exact k
    · show Z E YX1_types (d + 1) M [(0, vr (some (16, 0, 0))), (1, vr (some (b25532, 4, 0))), (2, vr r2)] 25 [vi (1 : Int32)] Q
      refine sX1_types_25 (d := d) M b25532 r2 (1 : Int32) hw ?_
      refine zneg (show ¬ ((1 : Int32) = 0) from by decide) ?_
      refine sX1_textSet_0 (d := d) M (20 : Int32) hw ?_
      refine zneg (show ¬ ((20 : Int32) = (-1 : Int32)) from by decide) ?_
      show Z E YX1_types (d + 1) M [(0, vr (some (16, 0, 0))), (1, vr (some (b25532, 4, 0))), (2, vr r2)] 36 [vl ((128 : Int64) ||| (zls ((20 : Int32)).toInt64 (16 : Int32))), vl (0 : Int64), vl (0 : Int64), vr r2] Q
      refine sX1_types_36 (d := d) M b25532 r2 ((128 : Int64) ||| (zls ((20 : Int32)).toInt64 (16 : Int32))) (0 : Int64) (0 : Int64) r2 hw ?_
      exact k
  · show Z E YX1_types (d + 1) M [(0, vr (some (16, 0, 0))), (1, vr (some (b25532, 4, 0))), (2, vr r2)] 5 [vi (1 : Int32)] Q
    refine sX1_types_5 (d := d) M b25532 r2 (1 : Int32) hw ?_
    refine zneg (show ¬ ((1 : Int32) = 0) from by decide) ?_
    refine sX1_textSet_0 (d := d) M (19 : Int32) hw ?_
    refine zneg (show ¬ ((19 : Int32) = (-1 : Int32)) from by decide) ?_
    show Z E YX1_types (d + 1) M [(0, vr (some (16, 0, 0))), (1, vr (some (b25532, 4, 0))), (2, vr r2)] 16 [vl ((128 : Int64) ||| (zls ((19 : Int32)).toInt64 (16 : Int32))), vl (0 : Int64), vl (0 : Int64), vr r2] Q
    refine sX1_types_16 (d := d) M b25532 r2 ((128 : Int64) ||| (zls ((19 : Int32)).toInt64 (16 : Int32))) (0 : Int64) (0 : Int64) r2 hw ?_
    exact k
theorem iX1_types_122 {E : zE} {d : Nat} {Q : zO → zM → Prop} (M : zM) (a1 : Nat) (r2 : Option zP) (l3 : Int64) (s0 : Int32) (hw : cw M) (k : if s0 = 0 then (Z E YX1_types (d + 1) M [(0, vr (some (16, 0, 0))), (1, vr (some (a1, 4, 0))), (2, vr r2), (3, vl l3)] 137 [] Q) else (∃ b25544 : Nat, r2 = some (b25544, 4, 0) ∧ (Z E YX6_join3 d M (zargs 0 [vr (some (b25544, 4, 0)), vl (0 : Int64), vl (0 : Int64), vl ((128 : Int64) ||| (zls ((24 : Int32)).toInt64 (16 : Int32)))]) 0 [] (zafter E YX1_types (d + 1) [(0, vr (some (16, 0, 0))), (1, vr (some (a1, 4, 0))), (2, vr r2), (3, vl l3)] 133 3 [] Q)))) : Z E YX1_types (d + 1) M [(0, vr (some (16, 0, 0))), (1, vr (some (a1, 4, 0))), (2, vr r2), (3, vl l3)] 122 [vi s0] Q := by
  refine sX1_types_122 (d := d) M a1 r2 l3 s0 hw ?_
  refine zite k (fun h25543 k => ?_) (fun h25543 k => ?_)
  · exact k
  · refine sX1_textSet_0 (d := d) M (24 : Int32) hw ?_
    refine zneg (show ¬ ((24 : Int32) = (-1 : Int32)) from by decide) ?_
    show Z E YX1_types (d + 1) M [(0, vr (some (16, 0, 0))), (1, vr (some (a1, 4, 0))), (2, vr r2), (3, vl l3)] 133 [vl ((128 : Int64) ||| (zls ((24 : Int32)).toInt64 (16 : Int32))), vl (0 : Int64), vl (0 : Int64), vr r2] Q
    refine sX1_types_133 (d := d) M _ r2 l3 ((128 : Int64) ||| (zls ((24 : Int32)).toInt64 (16 : Int32))) (0 : Int64) (0 : Int64) r2 hw ?_
    exact k
theorem iX1_types_103 {E : zE} {d : Nat} {Q : zO → zM → Prop} (M : zM) (a1 : Nat) (r2 : Option zP) (u0 : Option zP) (hw : cw M) (k : if (lg_cmp ((gl M a1 0) &&& ((8388096 : Int64) ||| (gl M 16 73))) (0 : Int64)) = 0 then (if (lg_cmp ((gl M a1 1) &&& (gl M 16 74)) (0 : Int64)) = 0 then (Z E YX1_types (d + 1) M [(0, vr (some (16, 0, 0))), (1, vr (some (a1, 4, 0))), (2, vr r2), (3, vl ((8388096 : Int64) ||| (gl M 16 73)))] 137 [] Q) else (∃ b25547 : Nat, r2 = some (b25547, 4, 0) ∧ (Z E YX6_join3 d M (zargs 0 [vr (some (b25547, 4, 0)), vl (0 : Int64), vl (0 : Int64), vl ((128 : Int64) ||| (zls ((24 : Int32)).toInt64 (16 : Int32)))]) 0 [] (zafter E YX1_types (d + 1) [(0, vr (some (16, 0, 0))), (1, vr (some (a1, 4, 0))), (2, vr r2), (3, vl ((8388096 : Int64) ||| (gl M 16 73)))] 133 3 [] Q)))) else (∃ b25548 : Nat, r2 = some (b25548, 4, 0) ∧ (Z E YX6_join3 d M (zargs 0 [vr (some (b25548, 4, 0)), vl (0 : Int64), vl (0 : Int64), vl ((128 : Int64) ||| (zls ((24 : Int32)).toInt64 (16 : Int32)))]) 0 [] (zafter E YX1_types (d + 1) [(0, vr (some (16, 0, 0))), (1, vr (some (a1, 4, 0))), (2, vr r2), (3, vl ((8388096 : Int64) ||| (gl M 16 73)))] 133 3 [] Q)))) : Z E YX1_types (d + 1) M [(0, vr (some (16, 0, 0))), (1, vr (some (a1, 4, 0))), (2, vr r2)] 103 [vr u0] Q := by
  refine sX1_types_103 (d := d) M a1 r2 u0 hw ?_
  refine sX1_natives_0 (d := d) M hw ?_
  show Z E YX1_types (d + 1) M [(0, vr (some (16, 0, 0))), (1, vr (some (a1, 4, 0))), (2, vr r2)] 107 [vl (8388096 : Int64)] Q
  refine sX1_types_107 (d := d) M _ r2 (8388096 : Int64) hw ?_
  refine sX6_meets_0 (d := d) M a1 ((8388096 : Int64) ||| (gl M 16 73)) (gl M 16 74) ?_
  refine zite k (fun h25545 k => ?_) (fun h25545 k => ?_)
  · refine zite k (fun h25546 k => ?_) (fun h25546 k => ?_)
    · show Z E YX1_types (d + 1) M [(0, vr (some (16, 0, 0))), (1, vr (some (a1, 4, 0))), (2, vr r2), (3, vl ((8388096 : Int64) ||| (gl M 16 73)))] 122 [vi (0 : Int32)] Q
      refine sX1_types_122 (d := d) M _ r2 ((8388096 : Int64) ||| (gl M 16 73)) (0 : Int32) hw ?_
      refine zpos (show (0 : Int32) = 0 from by decide) ?_
      exact k
    · show Z E YX1_types (d + 1) M [(0, vr (some (16, 0, 0))), (1, vr (some (a1, 4, 0))), (2, vr r2), (3, vl ((8388096 : Int64) ||| (gl M 16 73)))] 122 [vi (1 : Int32)] Q
      refine sX1_types_122 (d := d) M _ r2 ((8388096 : Int64) ||| (gl M 16 73)) (1 : Int32) hw ?_
      refine zneg (show ¬ ((1 : Int32) = 0) from by decide) ?_
      refine sX1_textSet_0 (d := d) M (24 : Int32) hw ?_
      refine zneg (show ¬ ((24 : Int32) = (-1 : Int32)) from by decide) ?_
      show Z E YX1_types (d + 1) M [(0, vr (some (16, 0, 0))), (1, vr (some (a1, 4, 0))), (2, vr r2), (3, vl ((8388096 : Int64) ||| (gl M 16 73)))] 133 [vl ((128 : Int64) ||| (zls ((24 : Int32)).toInt64 (16 : Int32))), vl (0 : Int64), vl (0 : Int64), vr r2] Q
      refine sX1_types_133 (d := d) M _ r2 ((8388096 : Int64) ||| (gl M 16 73)) ((128 : Int64) ||| (zls ((24 : Int32)).toInt64 (16 : Int32))) (0 : Int64) (0 : Int64) r2 hw ?_
      exact k
  · show Z E YX1_types (d + 1) M [(0, vr (some (16, 0, 0))), (1, vr (some (a1, 4, 0))), (2, vr r2), (3, vl ((8388096 : Int64) ||| (gl M 16 73)))] 122 [vi (1 : Int32)] Q
    refine sX1_types_122 (d := d) M _ r2 ((8388096 : Int64) ||| (gl M 16 73)) (1 : Int32) hw ?_
    refine zneg (show ¬ ((1 : Int32) = 0) from by decide) ?_
    refine sX1_textSet_0 (d := d) M (24 : Int32) hw ?_
    refine zneg (show ¬ ((24 : Int32) = (-1 : Int32)) from by decide) ?_
    show Z E YX1_types (d + 1) M [(0, vr (some (16, 0, 0))), (1, vr (some (a1, 4, 0))), (2, vr r2), (3, vl ((8388096 : Int64) ||| (gl M 16 73)))] 133 [vl ((128 : Int64) ||| (zls ((24 : Int32)).toInt64 (16 : Int32))), vl (0 : Int64), vl (0 : Int64), vr r2] Q
    refine sX1_types_133 (d := d) M _ r2 ((8388096 : Int64) ||| (gl M 16 73)) ((128 : Int64) ||| (zls ((24 : Int32)).toInt64 (16 : Int32))) (0 : Int64) (0 : Int64) r2 hw ?_
    exact k
theorem iX1_types_81 {E : zE} {d : Nat} {Q : zO → zM → Prop} (M : zM) (a1 : Nat) (r2 : Option zP) (u0 : Option zP) (hw : cw M) (k : if (lg_cmp ((gl M a1 2) &&& ((384 : Int32)).toInt64) (0 : Int64)) = 0 then (if (lg_cmp ((gl M a1 0) &&& ((8388096 : Int64) ||| (gl M 16 73))) (0 : Int64)) = 0 then (if (lg_cmp ((gl M a1 1) &&& (gl M 16 74)) (0 : Int64)) = 0 then (Z E YX1_types (d + 1) M [(0, vr (some (16, 0, 0))), (1, vr (some (a1, 4, 0))), (2, vr r2), (3, vl ((8388096 : Int64) ||| (gl M 16 73)))] 137 [] Q) else (∃ b25552 : Nat, r2 = some (b25552, 4, 0) ∧ (Z E YX6_join3 d M (zargs 0 [vr (some (b25552, 4, 0)), vl (0 : Int64), vl (0 : Int64), vl ((128 : Int64) ||| (zls ((24 : Int32)).toInt64 (16 : Int32)))]) 0 [] (zafter E YX1_types (d + 1) [(0, vr (some (16, 0, 0))), (1, vr (some (a1, 4, 0))), (2, vr r2), (3, vl ((8388096 : Int64) ||| (gl M 16 73)))] 133 3 [] Q)))) else (∃ b25553 : Nat, r2 = some (b25553, 4, 0) ∧ (Z E YX6_join3 d M (zargs 0 [vr (some (b25553, 4, 0)), vl (0 : Int64), vl (0 : Int64), vl ((128 : Int64) ||| (zls ((24 : Int32)).toInt64 (16 : Int32)))]) 0 [] (zafter E YX1_types (d + 1) [(0, vr (some (16, 0, 0))), (1, vr (some (a1, 4, 0))), (2, vr r2), (3, vl ((8388096 : Int64) ||| (gl M 16 73)))] 133 3 [] Q)))) else (∃ b25554 : Nat, r2 = some (b25554, 4, 0) ∧ (Z E YX6_join3 d M (zargs 0 [vr (some (b25554, 4, 0)), vl (0 : Int64), vl (0 : Int64), vl ((128 : Int64) ||| (zls ((23 : Int32)).toInt64 (16 : Int32)))]) 0 [] (zafter E YX1_types (d + 1) [(0, vr (some (16, 0, 0))), (1, vr (some (a1, 4, 0))), (2, vr r2)] 100 3 [] Q)))) : Z E YX1_types (d + 1) M [(0, vr (some (16, 0, 0))), (1, vr (some (a1, 4, 0))), (2, vr r2)] 81 [vr u0] Q := by
  refine sX1_types_81 (d := d) M a1 r2 u0 hw ?_
  refine sX6_has_0 (d := d) M a1 (384 : Int32) ?_
  refine zite k (fun h25549 k => ?_) (fun h25549 k => ?_)
  · show Z E YX1_types (d + 1) M [(0, vr (some (16, 0, 0))), (1, vr (some (a1, 4, 0))), (2, vr r2)] 89 [vi (0 : Int32)] Q
    refine sX1_types_89 (d := d) M _ r2 (0 : Int32) hw ?_
    refine zpos (show (0 : Int32) = 0 from by decide) ?_
    refine sX1_natives_0 (d := d) M hw ?_
    show Z E YX1_types (d + 1) M [(0, vr (some (16, 0, 0))), (1, vr (some (a1, 4, 0))), (2, vr r2)] 107 [vl (8388096 : Int64)] Q
    refine sX1_types_107 (d := d) M _ r2 (8388096 : Int64) hw ?_
    refine sX6_meets_0 (d := d) M a1 ((8388096 : Int64) ||| (gl M 16 73)) (gl M 16 74) ?_
    refine zite k (fun h25550 k => ?_) (fun h25550 k => ?_)
    · refine zite k (fun h25551 k => ?_) (fun h25551 k => ?_)
      · show Z E YX1_types (d + 1) M [(0, vr (some (16, 0, 0))), (1, vr (some (a1, 4, 0))), (2, vr r2), (3, vl ((8388096 : Int64) ||| (gl M 16 73)))] 122 [vi (0 : Int32)] Q
        refine sX1_types_122 (d := d) M _ r2 ((8388096 : Int64) ||| (gl M 16 73)) (0 : Int32) hw ?_
        refine zpos (show (0 : Int32) = 0 from by decide) ?_
        exact k
      · show Z E YX1_types (d + 1) M [(0, vr (some (16, 0, 0))), (1, vr (some (a1, 4, 0))), (2, vr r2), (3, vl ((8388096 : Int64) ||| (gl M 16 73)))] 122 [vi (1 : Int32)] Q
        refine sX1_types_122 (d := d) M _ r2 ((8388096 : Int64) ||| (gl M 16 73)) (1 : Int32) hw ?_
        refine zneg (show ¬ ((1 : Int32) = 0) from by decide) ?_
        refine sX1_textSet_0 (d := d) M (24 : Int32) hw ?_
        refine zneg (show ¬ ((24 : Int32) = (-1 : Int32)) from by decide) ?_
        show Z E YX1_types (d + 1) M [(0, vr (some (16, 0, 0))), (1, vr (some (a1, 4, 0))), (2, vr r2), (3, vl ((8388096 : Int64) ||| (gl M 16 73)))] 133 [vl ((128 : Int64) ||| (zls ((24 : Int32)).toInt64 (16 : Int32))), vl (0 : Int64), vl (0 : Int64), vr r2] Q
        refine sX1_types_133 (d := d) M _ r2 ((8388096 : Int64) ||| (gl M 16 73)) ((128 : Int64) ||| (zls ((24 : Int32)).toInt64 (16 : Int32))) (0 : Int64) (0 : Int64) r2 hw ?_
        exact k
    · show Z E YX1_types (d + 1) M [(0, vr (some (16, 0, 0))), (1, vr (some (a1, 4, 0))), (2, vr r2), (3, vl ((8388096 : Int64) ||| (gl M 16 73)))] 122 [vi (1 : Int32)] Q
      refine sX1_types_122 (d := d) M _ r2 ((8388096 : Int64) ||| (gl M 16 73)) (1 : Int32) hw ?_
      refine zneg (show ¬ ((1 : Int32) = 0) from by decide) ?_
      refine sX1_textSet_0 (d := d) M (24 : Int32) hw ?_
      refine zneg (show ¬ ((24 : Int32) = (-1 : Int32)) from by decide) ?_
      show Z E YX1_types (d + 1) M [(0, vr (some (16, 0, 0))), (1, vr (some (a1, 4, 0))), (2, vr r2), (3, vl ((8388096 : Int64) ||| (gl M 16 73)))] 133 [vl ((128 : Int64) ||| (zls ((24 : Int32)).toInt64 (16 : Int32))), vl (0 : Int64), vl (0 : Int64), vr r2] Q
      refine sX1_types_133 (d := d) M _ r2 ((8388096 : Int64) ||| (gl M 16 73)) ((128 : Int64) ||| (zls ((24 : Int32)).toInt64 (16 : Int32))) (0 : Int64) (0 : Int64) r2 hw ?_
      exact k
  · show Z E YX1_types (d + 1) M [(0, vr (some (16, 0, 0))), (1, vr (some (a1, 4, 0))), (2, vr r2)] 89 [vi (1 : Int32)] Q
    refine sX1_types_89 (d := d) M _ r2 (1 : Int32) hw ?_
    refine zneg (show ¬ ((1 : Int32) = 0) from by decide) ?_
    refine sX1_textSet_0 (d := d) M (23 : Int32) hw ?_
    refine zneg (show ¬ ((23 : Int32) = (-1 : Int32)) from by decide) ?_
    show Z E YX1_types (d + 1) M [(0, vr (some (16, 0, 0))), (1, vr (some (a1, 4, 0))), (2, vr r2)] 100 [vl ((128 : Int64) ||| (zls ((23 : Int32)).toInt64 (16 : Int32))), vl (0 : Int64), vl (0 : Int64), vr r2] Q
    refine sX1_types_100 (d := d) M _ r2 ((128 : Int64) ||| (zls ((23 : Int32)).toInt64 (16 : Int32))) (0 : Int64) (0 : Int64) r2 hw ?_
    exact k
theorem iX1_types_60 {E : zE} {d : Nat} {Q : zO → zM → Prop} (M : zM) (a1 : Nat) (r2 : Option zP) (u0 : Option zP) (hw : cw M) (k : if (lg_cmp ((gl M a1 2) &&& ((112 : Int32)).toInt64) (0 : Int64)) = 0 then (if (lg_cmp ((gl M a1 2) &&& ((384 : Int32)).toInt64) (0 : Int64)) = 0 then (if (lg_cmp ((gl M a1 0) &&& ((8388096 : Int64) ||| (gl M 16 73))) (0 : Int64)) = 0 then (if (lg_cmp ((gl M a1 1) &&& (gl M 16 74)) (0 : Int64)) = 0 then (Z E YX1_types (d + 1) M [(0, vr (some (16, 0, 0))), (1, vr (some (a1, 4, 0))), (2, vr r2), (3, vl ((8388096 : Int64) ||| (gl M 16 73)))] 137 [] Q) else (∃ b25559 : Nat, r2 = some (b25559, 4, 0) ∧ (Z E YX6_join3 d M (zargs 0 [vr (some (b25559, 4, 0)), vl (0 : Int64), vl (0 : Int64), vl ((128 : Int64) ||| (zls ((24 : Int32)).toInt64 (16 : Int32)))]) 0 [] (zafter E YX1_types (d + 1) [(0, vr (some (16, 0, 0))), (1, vr (some (a1, 4, 0))), (2, vr r2), (3, vl ((8388096 : Int64) ||| (gl M 16 73)))] 133 3 [] Q)))) else (∃ b25560 : Nat, r2 = some (b25560, 4, 0) ∧ (Z E YX6_join3 d M (zargs 0 [vr (some (b25560, 4, 0)), vl (0 : Int64), vl (0 : Int64), vl ((128 : Int64) ||| (zls ((24 : Int32)).toInt64 (16 : Int32)))]) 0 [] (zafter E YX1_types (d + 1) [(0, vr (some (16, 0, 0))), (1, vr (some (a1, 4, 0))), (2, vr r2), (3, vl ((8388096 : Int64) ||| (gl M 16 73)))] 133 3 [] Q)))) else (∃ b25561 : Nat, r2 = some (b25561, 4, 0) ∧ (Z E YX6_join3 d M (zargs 0 [vr (some (b25561, 4, 0)), vl (0 : Int64), vl (0 : Int64), vl ((128 : Int64) ||| (zls ((23 : Int32)).toInt64 (16 : Int32)))]) 0 [] (zafter E YX1_types (d + 1) [(0, vr (some (16, 0, 0))), (1, vr (some (a1, 4, 0))), (2, vr r2)] 100 3 [] Q)))) else (∃ b25562 : Nat, r2 = some (b25562, 4, 0) ∧ (Z E YX6_join3 d M (zargs 0 [vr (some (b25562, 4, 0)), vl (0 : Int64), vl (0 : Int64), vl ((128 : Int64) ||| (zls ((22 : Int32)).toInt64 (16 : Int32)))]) 0 [] (zafter E YX1_types (d + 1) [(0, vr (some (16, 0, 0))), (1, vr (some (a1, 4, 0))), (2, vr r2)] 78 3 [] Q)))) : Z E YX1_types (d + 1) M [(0, vr (some (16, 0, 0))), (1, vr (some (a1, 4, 0))), (2, vr r2)] 60 [vr u0] Q := by
  refine sX1_types_60 (d := d) M a1 r2 u0 hw ?_
  refine sX6_has_0 (d := d) M a1 (112 : Int32) ?_
  refine zite k (fun h25555 k => ?_) (fun h25555 k => ?_)
  · show Z E YX1_types (d + 1) M [(0, vr (some (16, 0, 0))), (1, vr (some (a1, 4, 0))), (2, vr r2)] 67 [vi (0 : Int32)] Q
    refine sX1_types_67 (d := d) M _ r2 (0 : Int32) hw ?_
    refine zpos (show (0 : Int32) = 0 from by decide) ?_
    refine sX6_has_0 (d := d) M a1 (384 : Int32) ?_
    refine zite k (fun h25556 k => ?_) (fun h25556 k => ?_)
    · show Z E YX1_types (d + 1) M [(0, vr (some (16, 0, 0))), (1, vr (some (a1, 4, 0))), (2, vr r2)] 89 [vi (0 : Int32)] Q
      refine sX1_types_89 (d := d) M _ r2 (0 : Int32) hw ?_
      refine zpos (show (0 : Int32) = 0 from by decide) ?_
      refine sX1_natives_0 (d := d) M hw ?_
      show Z E YX1_types (d + 1) M [(0, vr (some (16, 0, 0))), (1, vr (some (a1, 4, 0))), (2, vr r2)] 107 [vl (8388096 : Int64)] Q
      refine sX1_types_107 (d := d) M _ r2 (8388096 : Int64) hw ?_
      refine sX6_meets_0 (d := d) M a1 ((8388096 : Int64) ||| (gl M 16 73)) (gl M 16 74) ?_
      refine zite k (fun h25557 k => ?_) (fun h25557 k => ?_)
      · refine zite k (fun h25558 k => ?_) (fun h25558 k => ?_)
        · show Z E YX1_types (d + 1) M [(0, vr (some (16, 0, 0))), (1, vr (some (a1, 4, 0))), (2, vr r2), (3, vl ((8388096 : Int64) ||| (gl M 16 73)))] 122 [vi (0 : Int32)] Q
          refine sX1_types_122 (d := d) M _ r2 ((8388096 : Int64) ||| (gl M 16 73)) (0 : Int32) hw ?_
          refine zpos (show (0 : Int32) = 0 from by decide) ?_
          exact k
        · show Z E YX1_types (d + 1) M [(0, vr (some (16, 0, 0))), (1, vr (some (a1, 4, 0))), (2, vr r2), (3, vl ((8388096 : Int64) ||| (gl M 16 73)))] 122 [vi (1 : Int32)] Q
          refine sX1_types_122 (d := d) M _ r2 ((8388096 : Int64) ||| (gl M 16 73)) (1 : Int32) hw ?_
          refine zneg (show ¬ ((1 : Int32) = 0) from by decide) ?_
          refine sX1_textSet_0 (d := d) M (24 : Int32) hw ?_
          refine zneg (show ¬ ((24 : Int32) = (-1 : Int32)) from by decide) ?_
          show Z E YX1_types (d + 1) M [(0, vr (some (16, 0, 0))), (1, vr (some (a1, 4, 0))), (2, vr r2), (3, vl ((8388096 : Int64) ||| (gl M 16 73)))] 133 [vl ((128 : Int64) ||| (zls ((24 : Int32)).toInt64 (16 : Int32))), vl (0 : Int64), vl (0 : Int64), vr r2] Q
          refine sX1_types_133 (d := d) M _ r2 ((8388096 : Int64) ||| (gl M 16 73)) ((128 : Int64) ||| (zls ((24 : Int32)).toInt64 (16 : Int32))) (0 : Int64) (0 : Int64) r2 hw ?_
          exact k
      · show Z E YX1_types (d + 1) M [(0, vr (some (16, 0, 0))), (1, vr (some (a1, 4, 0))), (2, vr r2), (3, vl ((8388096 : Int64) ||| (gl M 16 73)))] 122 [vi (1 : Int32)] Q
        refine sX1_types_122 (d := d) M _ r2 ((8388096 : Int64) ||| (gl M 16 73)) (1 : Int32) hw ?_
        refine zneg (show ¬ ((1 : Int32) = 0) from by decide) ?_
        refine sX1_textSet_0 (d := d) M (24 : Int32) hw ?_
        refine zneg (show ¬ ((24 : Int32) = (-1 : Int32)) from by decide) ?_
        show Z E YX1_types (d + 1) M [(0, vr (some (16, 0, 0))), (1, vr (some (a1, 4, 0))), (2, vr r2), (3, vl ((8388096 : Int64) ||| (gl M 16 73)))] 133 [vl ((128 : Int64) ||| (zls ((24 : Int32)).toInt64 (16 : Int32))), vl (0 : Int64), vl (0 : Int64), vr r2] Q
        refine sX1_types_133 (d := d) M _ r2 ((8388096 : Int64) ||| (gl M 16 73)) ((128 : Int64) ||| (zls ((24 : Int32)).toInt64 (16 : Int32))) (0 : Int64) (0 : Int64) r2 hw ?_
        exact k
    · show Z E YX1_types (d + 1) M [(0, vr (some (16, 0, 0))), (1, vr (some (a1, 4, 0))), (2, vr r2)] 89 [vi (1 : Int32)] Q
      refine sX1_types_89 (d := d) M _ r2 (1 : Int32) hw ?_
      refine zneg (show ¬ ((1 : Int32) = 0) from by decide) ?_
      refine sX1_textSet_0 (d := d) M (23 : Int32) hw ?_
      refine zneg (show ¬ ((23 : Int32) = (-1 : Int32)) from by decide) ?_
      show Z E YX1_types (d + 1) M [(0, vr (some (16, 0, 0))), (1, vr (some (a1, 4, 0))), (2, vr r2)] 100 [vl ((128 : Int64) ||| (zls ((23 : Int32)).toInt64 (16 : Int32))), vl (0 : Int64), vl (0 : Int64), vr r2] Q
      refine sX1_types_100 (d := d) M _ r2 ((128 : Int64) ||| (zls ((23 : Int32)).toInt64 (16 : Int32))) (0 : Int64) (0 : Int64) r2 hw ?_
      exact k
  · show Z E YX1_types (d + 1) M [(0, vr (some (16, 0, 0))), (1, vr (some (a1, 4, 0))), (2, vr r2)] 67 [vi (1 : Int32)] Q
    refine sX1_types_67 (d := d) M _ r2 (1 : Int32) hw ?_
    refine zneg (show ¬ ((1 : Int32) = 0) from by decide) ?_
    refine sX1_textSet_0 (d := d) M (22 : Int32) hw ?_
    refine zneg (show ¬ ((22 : Int32) = (-1 : Int32)) from by decide) ?_
    show Z E YX1_types (d + 1) M [(0, vr (some (16, 0, 0))), (1, vr (some (a1, 4, 0))), (2, vr r2)] 78 [vl ((128 : Int64) ||| (zls ((22 : Int32)).toInt64 (16 : Int32))), vl (0 : Int64), vl (0 : Int64), vr r2] Q
    refine sX1_types_78 (d := d) M _ r2 ((128 : Int64) ||| (zls ((22 : Int32)).toInt64 (16 : Int32))) (0 : Int64) (0 : Int64) r2 hw ?_
    exact k
theorem iX1_types_39 {E : zE} {d : Nat} {Q : zO → zM → Prop} (M : zM) (a1 : Nat) (r2 : Option zP) (u0 : Option zP) (hw : cw M) (k : if (lg_cmp ((gl M a1 2) &&& ((12 : Int32)).toInt64) (0 : Int64)) = 0 then (if (lg_cmp ((gl M a1 2) &&& ((112 : Int32)).toInt64) (0 : Int64)) = 0 then (if (lg_cmp ((gl M a1 2) &&& ((384 : Int32)).toInt64) (0 : Int64)) = 0 then (if (lg_cmp ((gl M a1 0) &&& ((8388096 : Int64) ||| (gl M 16 73))) (0 : Int64)) = 0 then (if (lg_cmp ((gl M a1 1) &&& (gl M 16 74)) (0 : Int64)) = 0 then (Z E YX1_types (d + 1) M [(0, vr (some (16, 0, 0))), (1, vr (some (a1, 4, 0))), (2, vr r2), (3, vl ((8388096 : Int64) ||| (gl M 16 73)))] 137 [] Q) else (∃ b25568 : Nat, r2 = some (b25568, 4, 0) ∧ (Z E YX6_join3 d M (zargs 0 [vr (some (b25568, 4, 0)), vl (0 : Int64), vl (0 : Int64), vl ((128 : Int64) ||| (zls ((24 : Int32)).toInt64 (16 : Int32)))]) 0 [] (zafter E YX1_types (d + 1) [(0, vr (some (16, 0, 0))), (1, vr (some (a1, 4, 0))), (2, vr r2), (3, vl ((8388096 : Int64) ||| (gl M 16 73)))] 133 3 [] Q)))) else (∃ b25569 : Nat, r2 = some (b25569, 4, 0) ∧ (Z E YX6_join3 d M (zargs 0 [vr (some (b25569, 4, 0)), vl (0 : Int64), vl (0 : Int64), vl ((128 : Int64) ||| (zls ((24 : Int32)).toInt64 (16 : Int32)))]) 0 [] (zafter E YX1_types (d + 1) [(0, vr (some (16, 0, 0))), (1, vr (some (a1, 4, 0))), (2, vr r2), (3, vl ((8388096 : Int64) ||| (gl M 16 73)))] 133 3 [] Q)))) else (∃ b25570 : Nat, r2 = some (b25570, 4, 0) ∧ (Z E YX6_join3 d M (zargs 0 [vr (some (b25570, 4, 0)), vl (0 : Int64), vl (0 : Int64), vl ((128 : Int64) ||| (zls ((23 : Int32)).toInt64 (16 : Int32)))]) 0 [] (zafter E YX1_types (d + 1) [(0, vr (some (16, 0, 0))), (1, vr (some (a1, 4, 0))), (2, vr r2)] 100 3 [] Q)))) else (∃ b25571 : Nat, r2 = some (b25571, 4, 0) ∧ (Z E YX6_join3 d M (zargs 0 [vr (some (b25571, 4, 0)), vl (0 : Int64), vl (0 : Int64), vl ((128 : Int64) ||| (zls ((22 : Int32)).toInt64 (16 : Int32)))]) 0 [] (zafter E YX1_types (d + 1) [(0, vr (some (16, 0, 0))), (1, vr (some (a1, 4, 0))), (2, vr r2)] 78 3 [] Q)))) else (∃ b25572 : Nat, r2 = some (b25572, 4, 0) ∧ (Z E YX6_join3 d M (zargs 0 [vr (some (b25572, 4, 0)), vl (0 : Int64), vl (0 : Int64), vl ((128 : Int64) ||| (zls ((21 : Int32)).toInt64 (16 : Int32)))]) 0 [] (zafter E YX1_types (d + 1) [(0, vr (some (16, 0, 0))), (1, vr (some (a1, 4, 0))), (2, vr r2)] 57 3 [] Q)))) : Z E YX1_types (d + 1) M [(0, vr (some (16, 0, 0))), (1, vr (some (a1, 4, 0))), (2, vr r2)] 39 [vr u0] Q := by
  refine sX1_types_39 (d := d) M a1 r2 u0 hw ?_
  refine sX6_has_0 (d := d) M a1 (12 : Int32) ?_
  refine zite k (fun h25563 k => ?_) (fun h25563 k => ?_)
  · show Z E YX1_types (d + 1) M [(0, vr (some (16, 0, 0))), (1, vr (some (a1, 4, 0))), (2, vr r2)] 46 [vi (0 : Int32)] Q
    refine sX1_types_46 (d := d) M _ r2 (0 : Int32) hw ?_
    refine zpos (show (0 : Int32) = 0 from by decide) ?_
    refine sX6_has_0 (d := d) M a1 (112 : Int32) ?_
    refine zite k (fun h25564 k => ?_) (fun h25564 k => ?_)
    · show Z E YX1_types (d + 1) M [(0, vr (some (16, 0, 0))), (1, vr (some (a1, 4, 0))), (2, vr r2)] 67 [vi (0 : Int32)] Q
      refine sX1_types_67 (d := d) M _ r2 (0 : Int32) hw ?_
      refine zpos (show (0 : Int32) = 0 from by decide) ?_
      refine sX6_has_0 (d := d) M a1 (384 : Int32) ?_
      refine zite k (fun h25565 k => ?_) (fun h25565 k => ?_)
      · show Z E YX1_types (d + 1) M [(0, vr (some (16, 0, 0))), (1, vr (some (a1, 4, 0))), (2, vr r2)] 89 [vi (0 : Int32)] Q
        refine sX1_types_89 (d := d) M _ r2 (0 : Int32) hw ?_
        refine zpos (show (0 : Int32) = 0 from by decide) ?_
        refine sX1_natives_0 (d := d) M hw ?_
        show Z E YX1_types (d + 1) M [(0, vr (some (16, 0, 0))), (1, vr (some (a1, 4, 0))), (2, vr r2)] 107 [vl (8388096 : Int64)] Q
        refine sX1_types_107 (d := d) M _ r2 (8388096 : Int64) hw ?_
        refine sX6_meets_0 (d := d) M a1 ((8388096 : Int64) ||| (gl M 16 73)) (gl M 16 74) ?_
        refine zite k (fun h25566 k => ?_) (fun h25566 k => ?_)
        · refine zite k (fun h25567 k => ?_) (fun h25567 k => ?_)
          · show Z E YX1_types (d + 1) M [(0, vr (some (16, 0, 0))), (1, vr (some (a1, 4, 0))), (2, vr r2), (3, vl ((8388096 : Int64) ||| (gl M 16 73)))] 122 [vi (0 : Int32)] Q
            refine sX1_types_122 (d := d) M _ r2 ((8388096 : Int64) ||| (gl M 16 73)) (0 : Int32) hw ?_
            refine zpos (show (0 : Int32) = 0 from by decide) ?_
            exact k
          · show Z E YX1_types (d + 1) M [(0, vr (some (16, 0, 0))), (1, vr (some (a1, 4, 0))), (2, vr r2), (3, vl ((8388096 : Int64) ||| (gl M 16 73)))] 122 [vi (1 : Int32)] Q
            refine sX1_types_122 (d := d) M _ r2 ((8388096 : Int64) ||| (gl M 16 73)) (1 : Int32) hw ?_
            refine zneg (show ¬ ((1 : Int32) = 0) from by decide) ?_
            refine sX1_textSet_0 (d := d) M (24 : Int32) hw ?_
            refine zneg (show ¬ ((24 : Int32) = (-1 : Int32)) from by decide) ?_
            show Z E YX1_types (d + 1) M [(0, vr (some (16, 0, 0))), (1, vr (some (a1, 4, 0))), (2, vr r2), (3, vl ((8388096 : Int64) ||| (gl M 16 73)))] 133 [vl ((128 : Int64) ||| (zls ((24 : Int32)).toInt64 (16 : Int32))), vl (0 : Int64), vl (0 : Int64), vr r2] Q
            refine sX1_types_133 (d := d) M _ r2 ((8388096 : Int64) ||| (gl M 16 73)) ((128 : Int64) ||| (zls ((24 : Int32)).toInt64 (16 : Int32))) (0 : Int64) (0 : Int64) r2 hw ?_
            exact k
        · show Z E YX1_types (d + 1) M [(0, vr (some (16, 0, 0))), (1, vr (some (a1, 4, 0))), (2, vr r2), (3, vl ((8388096 : Int64) ||| (gl M 16 73)))] 122 [vi (1 : Int32)] Q
          refine sX1_types_122 (d := d) M _ r2 ((8388096 : Int64) ||| (gl M 16 73)) (1 : Int32) hw ?_
          refine zneg (show ¬ ((1 : Int32) = 0) from by decide) ?_
          refine sX1_textSet_0 (d := d) M (24 : Int32) hw ?_
          refine zneg (show ¬ ((24 : Int32) = (-1 : Int32)) from by decide) ?_
          show Z E YX1_types (d + 1) M [(0, vr (some (16, 0, 0))), (1, vr (some (a1, 4, 0))), (2, vr r2), (3, vl ((8388096 : Int64) ||| (gl M 16 73)))] 133 [vl ((128 : Int64) ||| (zls ((24 : Int32)).toInt64 (16 : Int32))), vl (0 : Int64), vl (0 : Int64), vr r2] Q
          refine sX1_types_133 (d := d) M _ r2 ((8388096 : Int64) ||| (gl M 16 73)) ((128 : Int64) ||| (zls ((24 : Int32)).toInt64 (16 : Int32))) (0 : Int64) (0 : Int64) r2 hw ?_
          exact k
      · show Z E YX1_types (d + 1) M [(0, vr (some (16, 0, 0))), (1, vr (some (a1, 4, 0))), (2, vr r2)] 89 [vi (1 : Int32)] Q
        refine sX1_types_89 (d := d) M _ r2 (1 : Int32) hw ?_
        refine zneg (show ¬ ((1 : Int32) = 0) from by decide) ?_
        refine sX1_textSet_0 (d := d) M (23 : Int32) hw ?_
        refine zneg (show ¬ ((23 : Int32) = (-1 : Int32)) from by decide) ?_
        show Z E YX1_types (d + 1) M [(0, vr (some (16, 0, 0))), (1, vr (some (a1, 4, 0))), (2, vr r2)] 100 [vl ((128 : Int64) ||| (zls ((23 : Int32)).toInt64 (16 : Int32))), vl (0 : Int64), vl (0 : Int64), vr r2] Q
        refine sX1_types_100 (d := d) M _ r2 ((128 : Int64) ||| (zls ((23 : Int32)).toInt64 (16 : Int32))) (0 : Int64) (0 : Int64) r2 hw ?_
        exact k
    · show Z E YX1_types (d + 1) M [(0, vr (some (16, 0, 0))), (1, vr (some (a1, 4, 0))), (2, vr r2)] 67 [vi (1 : Int32)] Q
      refine sX1_types_67 (d := d) M _ r2 (1 : Int32) hw ?_
      refine zneg (show ¬ ((1 : Int32) = 0) from by decide) ?_
      refine sX1_textSet_0 (d := d) M (22 : Int32) hw ?_
      refine zneg (show ¬ ((22 : Int32) = (-1 : Int32)) from by decide) ?_
      show Z E YX1_types (d + 1) M [(0, vr (some (16, 0, 0))), (1, vr (some (a1, 4, 0))), (2, vr r2)] 78 [vl ((128 : Int64) ||| (zls ((22 : Int32)).toInt64 (16 : Int32))), vl (0 : Int64), vl (0 : Int64), vr r2] Q
      refine sX1_types_78 (d := d) M _ r2 ((128 : Int64) ||| (zls ((22 : Int32)).toInt64 (16 : Int32))) (0 : Int64) (0 : Int64) r2 hw ?_
      exact k
  · show Z E YX1_types (d + 1) M [(0, vr (some (16, 0, 0))), (1, vr (some (a1, 4, 0))), (2, vr r2)] 46 [vi (1 : Int32)] Q
    refine sX1_types_46 (d := d) M _ r2 (1 : Int32) hw ?_
    refine zneg (show ¬ ((1 : Int32) = 0) from by decide) ?_
    refine sX1_textSet_0 (d := d) M (21 : Int32) hw ?_
    refine zneg (show ¬ ((21 : Int32) = (-1 : Int32)) from by decide) ?_
    show Z E YX1_types (d + 1) M [(0, vr (some (16, 0, 0))), (1, vr (some (a1, 4, 0))), (2, vr r2)] 57 [vl ((128 : Int64) ||| (zls ((21 : Int32)).toInt64 (16 : Int32))), vl (0 : Int64), vl (0 : Int64), vr r2] Q
    refine sX1_types_57 (d := d) M _ r2 ((128 : Int64) ||| (zls ((21 : Int32)).toInt64 (16 : Int32))) (0 : Int64) (0 : Int64) r2 hw ?_
    exact k
theorem iX1_types_19 {E : zE} {d : Nat} {Q : zO → zM → Prop} (M : zM) (a1 : Nat) (r2 : Option zP) (u0 : Option zP) (hw : cw M) (k : if (lg_cmp ((gl M a1 2) &&& ((2 : Int32)).toInt64) (0 : Int64)) = 0 then (if (lg_cmp ((gl M a1 2) &&& ((12 : Int32)).toInt64) (0 : Int64)) = 0 then (if (lg_cmp ((gl M a1 2) &&& ((112 : Int32)).toInt64) (0 : Int64)) = 0 then (if (lg_cmp ((gl M a1 2) &&& ((384 : Int32)).toInt64) (0 : Int64)) = 0 then (Z E YX6_meets d M (zargs 0 [vr (some (a1, 4, 0)), vl ((8388096 : Int64) ||| (gl M 16 73)), vl (gl M 16 74)]) 0 [] (zafter E YX1_types (d + 1) [(0, vr (some (16, 0, 0))), (1, vr (some (a1, 4, 0))), (2, vr r2), (3, vl ((8388096 : Int64) ||| (gl M 16 73)))] 119 3 [] Q)) else (∃ b25589 : Nat, r2 = some (b25589, 4, 0) ∧ (Z E YX6_join3 d M (zargs 0 [vr (some (b25589, 4, 0)), vl (0 : Int64), vl (0 : Int64), vl ((128 : Int64) ||| (zls ((23 : Int32)).toInt64 (16 : Int32)))]) 0 [] (zafter E YX1_types (d + 1) [(0, vr (some (16, 0, 0))), (1, vr (some (a1, 4, 0))), (2, vr r2)] 100 3 [] Q)))) else (∃ b25590 : Nat, r2 = some (b25590, 4, 0) ∧ (Z E YX6_join3 d M (zargs 0 [vr (some (b25590, 4, 0)), vl (0 : Int64), vl (0 : Int64), vl ((128 : Int64) ||| (zls ((22 : Int32)).toInt64 (16 : Int32)))]) 0 [] (zafter E YX1_types (d + 1) [(0, vr (some (16, 0, 0))), (1, vr (some (a1, 4, 0))), (2, vr r2)] 78 3 [] Q)))) else (∃ b25591 : Nat, r2 = some (b25591, 4, 0) ∧ (Z E YX6_join3 d M (zargs 0 [vr (some (b25591, 4, 0)), vl (0 : Int64), vl (0 : Int64), vl ((128 : Int64) ||| (zls ((21 : Int32)).toInt64 (16 : Int32)))]) 0 [] (zafter E YX1_types (d + 1) [(0, vr (some (16, 0, 0))), (1, vr (some (a1, 4, 0))), (2, vr r2)] 57 3 [] Q)))) else (∃ b25592 : Nat, r2 = some (b25592, 4, 0) ∧ (Z E YX6_join3 d M (zargs 0 [vr (some (b25592, 4, 0)), vl (0 : Int64), vl (0 : Int64), vl ((128 : Int64) ||| (zls ((20 : Int32)).toInt64 (16 : Int32)))]) 0 [] (zafter E YX1_types (d + 1) [(0, vr (some (16, 0, 0))), (1, vr (some (a1, 4, 0))), (2, vr r2)] 36 3 [] Q)))) : Z E YX1_types (d + 1) M [(0, vr (some (16, 0, 0))), (1, vr (some (a1, 4, 0))), (2, vr r2)] 19 [vr u0] Q := by
  refine sX1_types_19 (d := d) M a1 r2 u0 hw ?_
  refine sX6_has_0 (d := d) M a1 (2 : Int32) ?_
  refine zite k (fun h25585 k => ?_) (fun h25585 k => ?_)
  · show Z E YX1_types (d + 1) M [(0, vr (some (16, 0, 0))), (1, vr (some (a1, 4, 0))), (2, vr r2)] 25 [vi (0 : Int32)] Q
    refine sX1_types_25 (d := d) M _ r2 (0 : Int32) hw ?_
    refine zpos (show (0 : Int32) = 0 from by decide) ?_
    refine sX6_has_0 (d := d) M a1 (12 : Int32) ?_
    refine zite k (fun h25586 k => ?_) (fun h25586 k => ?_)
    · show Z E YX1_types (d + 1) M [(0, vr (some (16, 0, 0))), (1, vr (some (a1, 4, 0))), (2, vr r2)] 46 [vi (0 : Int32)] Q
      refine sX1_types_46 (d := d) M _ r2 (0 : Int32) hw ?_
      refine zpos (show (0 : Int32) = 0 from by decide) ?_
      refine sX6_has_0 (d := d) M a1 (112 : Int32) ?_
      refine zite k (fun h25587 k => ?_) (fun h25587 k => ?_)
      · show Z E YX1_types (d + 1) M [(0, vr (some (16, 0, 0))), (1, vr (some (a1, 4, 0))), (2, vr r2)] 67 [vi (0 : Int32)] Q
        refine sX1_types_67 (d := d) M _ r2 (0 : Int32) hw ?_
        refine zpos (show (0 : Int32) = 0 from by decide) ?_
        refine sX6_has_0 (d := d) M a1 (384 : Int32) ?_
        refine zite k (fun h25588 k => ?_) (fun h25588 k => ?_)
        · show Z E YX1_types (d + 1) M [(0, vr (some (16, 0, 0))), (1, vr (some (a1, 4, 0))), (2, vr r2)] 89 [vi (0 : Int32)] Q
          refine sX1_types_89 (d := d) M _ r2 (0 : Int32) hw ?_
          refine zpos (show (0 : Int32) = 0 from by decide) ?_
          refine sX1_natives_0 (d := d) M hw ?_
          show Z E YX1_types (d + 1) M [(0, vr (some (16, 0, 0))), (1, vr (some (a1, 4, 0))), (2, vr r2)] 107 [vl (8388096 : Int64)] Q
          refine sX1_types_107 (d := d) M _ r2 (8388096 : Int64) hw ?_
          exact k
        · show Z E YX1_types (d + 1) M [(0, vr (some (16, 0, 0))), (1, vr (some (a1, 4, 0))), (2, vr r2)] 89 [vi (1 : Int32)] Q
          refine sX1_types_89 (d := d) M _ r2 (1 : Int32) hw ?_
          refine zneg (show ¬ ((1 : Int32) = 0) from by decide) ?_
          refine sX1_textSet_0 (d := d) M (23 : Int32) hw ?_
          refine zneg (show ¬ ((23 : Int32) = (-1 : Int32)) from by decide) ?_
          show Z E YX1_types (d + 1) M [(0, vr (some (16, 0, 0))), (1, vr (some (a1, 4, 0))), (2, vr r2)] 100 [vl ((128 : Int64) ||| (zls ((23 : Int32)).toInt64 (16 : Int32))), vl (0 : Int64), vl (0 : Int64), vr r2] Q
          refine sX1_types_100 (d := d) M _ r2 ((128 : Int64) ||| (zls ((23 : Int32)).toInt64 (16 : Int32))) (0 : Int64) (0 : Int64) r2 hw ?_
          exact k
      · show Z E YX1_types (d + 1) M [(0, vr (some (16, 0, 0))), (1, vr (some (a1, 4, 0))), (2, vr r2)] 67 [vi (1 : Int32)] Q
        refine sX1_types_67 (d := d) M _ r2 (1 : Int32) hw ?_
        refine zneg (show ¬ ((1 : Int32) = 0) from by decide) ?_
        refine sX1_textSet_0 (d := d) M (22 : Int32) hw ?_
        refine zneg (show ¬ ((22 : Int32) = (-1 : Int32)) from by decide) ?_
        show Z E YX1_types (d + 1) M [(0, vr (some (16, 0, 0))), (1, vr (some (a1, 4, 0))), (2, vr r2)] 78 [vl ((128 : Int64) ||| (zls ((22 : Int32)).toInt64 (16 : Int32))), vl (0 : Int64), vl (0 : Int64), vr r2] Q
        refine sX1_types_78 (d := d) M _ r2 ((128 : Int64) ||| (zls ((22 : Int32)).toInt64 (16 : Int32))) (0 : Int64) (0 : Int64) r2 hw ?_
        exact k
    · show Z E YX1_types (d + 1) M [(0, vr (some (16, 0, 0))), (1, vr (some (a1, 4, 0))), (2, vr r2)] 46 [vi (1 : Int32)] Q
      refine sX1_types_46 (d := d) M _ r2 (1 : Int32) hw ?_
      refine zneg (show ¬ ((1 : Int32) = 0) from by decide) ?_
      refine sX1_textSet_0 (d := d) M (21 : Int32) hw ?_
      refine zneg (show ¬ ((21 : Int32) = (-1 : Int32)) from by decide) ?_
      show Z E YX1_types (d + 1) M [(0, vr (some (16, 0, 0))), (1, vr (some (a1, 4, 0))), (2, vr r2)] 57 [vl ((128 : Int64) ||| (zls ((21 : Int32)).toInt64 (16 : Int32))), vl (0 : Int64), vl (0 : Int64), vr r2] Q
      refine sX1_types_57 (d := d) M _ r2 ((128 : Int64) ||| (zls ((21 : Int32)).toInt64 (16 : Int32))) (0 : Int64) (0 : Int64) r2 hw ?_
      exact k
  · show Z E YX1_types (d + 1) M [(0, vr (some (16, 0, 0))), (1, vr (some (a1, 4, 0))), (2, vr r2)] 25 [vi (1 : Int32)] Q
    refine sX1_types_25 (d := d) M _ r2 (1 : Int32) hw ?_
    refine zneg (show ¬ ((1 : Int32) = 0) from by decide) ?_
    refine sX1_textSet_0 (d := d) M (20 : Int32) hw ?_
    refine zneg (show ¬ ((20 : Int32) = (-1 : Int32)) from by decide) ?_
    show Z E YX1_types (d + 1) M [(0, vr (some (16, 0, 0))), (1, vr (some (a1, 4, 0))), (2, vr r2)] 36 [vl ((128 : Int64) ||| (zls ((20 : Int32)).toInt64 (16 : Int32))), vl (0 : Int64), vl (0 : Int64), vr r2] Q
    refine sX1_types_36 (d := d) M _ r2 ((128 : Int64) ||| (zls ((20 : Int32)).toInt64 (16 : Int32))) (0 : Int64) (0 : Int64) r2 hw ?_
    exact k
theorem iX1_types_137 {E : zE} {d : Nat} {Q : zO → zM → Prop} (M : zM) (a1 : Nat) (r2 : Option zP) (l3 : Int64) (hw : cw M) (k : if (lg_cmp ((gl M a1 0) &&& (l3 ^^^ (-1 : Int64))) (0 : Int64)) = 0 then (if (lg_cmp ((gl M a1 1) &&& ((gl M 16 74) ^^^ (-1 : Int64))) (0 : Int64)) = 0 then (Q (.inl none) M) else (∃ b25595 : Nat, r2 = some (b25595, 4, 0) ∧ (Z E YX6_join3 d M (zargs 0 [vr (some (b25595, 4, 0)), vl (0 : Int64), vl (0 : Int64), vl ((128 : Int64) ||| (zls ((20 : Int32)).toInt64 (16 : Int32)))]) 0 [] (zafter E YX1_types (d + 1) [] 178 3 [] Q)))) else (∃ b25596 : Nat, r2 = some (b25596, 4, 0) ∧ (Z E YX6_join3 d M (zargs 0 [vr (some (b25596, 4, 0)), vl (0 : Int64), vl (0 : Int64), vl ((128 : Int64) ||| (zls ((20 : Int32)).toInt64 (16 : Int32)))]) 0 [] (zafter E YX1_types (d + 1) [] 178 3 [] Q)))) : Z E YX1_types (d + 1) M [(0, vr (some (16, 0, 0))), (1, vr (some (a1, 4, 0))), (2, vr r2), (3, vl l3)] 137 [] Q := by
  refine sX1_types_137 (d := d) M a1 r2 l3 hw ?_
  refine zite k (fun h25593 k => ?_) (fun h25593 k => ?_)
  · refine zite k (fun h25594 k => ?_) (fun h25594 k => ?_)
    · exact k
    · refine sX1_textSet_0 (d := d) M (20 : Int32) hw ?_
      refine zneg (show ¬ ((20 : Int32) = (-1 : Int32)) from by decide) ?_
      show Z E YX1_types (d + 1) M [] 178 [vl ((128 : Int64) ||| (zls ((20 : Int32)).toInt64 (16 : Int32))), vl (0 : Int64), vl (0 : Int64), vr r2] Q
      refine sX1_types_178 (d := d) M ((128 : Int64) ||| (zls ((20 : Int32)).toInt64 (16 : Int32))) (0 : Int64) (0 : Int64) r2 hw ?_
      exact k
  · refine sX1_textSet_0 (d := d) M (20 : Int32) hw ?_
    refine zneg (show ¬ ((20 : Int32) = (-1 : Int32)) from by decide) ?_
    show Z E YX1_types (d + 1) M [] 178 [vl ((128 : Int64) ||| (zls ((20 : Int32)).toInt64 (16 : Int32))), vl (0 : Int64), vl (0 : Int64), vr r2] Q
    refine sX1_types_178 (d := d) M ((128 : Int64) ||| (zls ((20 : Int32)).toInt64 (16 : Int32))) (0 : Int64) (0 : Int64) r2 hw ?_
    exact k
theorem jX6_value {E : zE} {d : Nat} {Q : zO → zM → Prop} (M : zM) (a0 : Nat) (k : if (lg_cmp ((gl M a0 2) &&& ((32 : Int32)).toInt64) (0 : Int64)) = 0 then (if (lg_cmp ((gl M a0 2) &&& ((128 : Int32)).toInt64) (0 : Int64)) = 0 then (Q (.inl (some (vi (0 : Int32)))) M) else (Q (.inl (some (vi (((zlr (gl M a0 2) (16 : Int32)) &&& (65535 : Int64))).toInt32))) M)) else (∀ x1_v17361v25629 : Int64, x1_v17361v25629 = (zlr (gl M a0 2) (32 : Int32)) → (Q (.inl (some (vi (x1_v17361v25629).toInt32))) M))) : Z E YX6_value (d + 1) M [(0, vr (some (a0, 4, 0)))] 0 [] Q := by
  refine sX6_value_0 (d := d) M a0 ?_
  refine sX6_has_0 (d := d) M _ (32 : Int32) ?_
  refine zite k (fun h25627 k => ?_) (fun h25627 k => ?_)
  · show Z E YX6_value (d + 1) M [(0, vr (some (a0, 4, 0)))] 6 [vi (0 : Int32)] Q
    refine sX6_value_6 (d := d) M _ (0 : Int32) ?_
    refine zpos (show (0 : Int32) = 0 from by decide) ?_
    refine sX6_has_0 (d := d) M _ (128 : Int32) ?_
    refine zite k (fun h25628 k => ?_) (fun h25628 k => ?_)
    · show Z E YX6_value (d + 1) M [(0, vr (some (a0, 4, 0)))] 23 [vi (0 : Int32)] Q
      refine sX6_value_23 (d := d) M _ (0 : Int32) ?_
      refine zpos (show (0 : Int32) = 0 from by decide) ?_
      exact k
    · show Z E YX6_value (d + 1) M [(0, vr (some (a0, 4, 0)))] 23 [vi (1 : Int32)] Q
      refine sX6_value_23 (d := d) M _ (1 : Int32) ?_
      refine zneg (show ¬ ((1 : Int32) = 0) from by decide) ?_
      refine sX6_name_0 (d := d) M _ ?_
      show Z E YX6_value (d + 1) M [] 30 [vi (((zlr (gl M a0 2) (16 : Int32)) &&& (65535 : Int64))).toInt32] Q
      refine sX6_value_30 (d := d) M ((((zlr (gl M a0 2) (16 : Int32)) &&& (65535 : Int64))).toInt32) ?_
      exact k
  · show Z E YX6_value (d + 1) M [(0, vr (some (a0, 4, 0)))] 6 [vi (1 : Int32)] Q
    refine sX6_value_6 (d := d) M _ (1 : Int32) ?_
    refine zneg (show ¬ ((1 : Int32) = 0) from by decide) ?_
    refine sX6_number_0 (d := d) M _ ?_
    intro x1_v17361v25629 h25629
    have k := k x1_v17361v25629 h25629
    show Z E YX6_value (d + 1) M [] 13 [vi (x1_v17361v25629).toInt32] Q
    refine sX6_value_13 (d := d) M ((x1_v17361v25629).toInt32) ?_
    exact k
theorem jX1_fold {E : zE} {d : Nat} {Q : zO → zM → Prop} (M : zM) (hw : cw M) (k : if (gi M 16 33) = (5 : Int32) then (∀ x1_v18196v25635 : Int64, x1_v18196v25635 = (zls ((gi M 16 32)).toInt64 (32 : Int32)) → (16 ≤ 74 ∧ (Q (.inl none) (sl (sl (sl M 74 0 (0 : Int64)) 74 1 (0 : Int64)) 74 2 ((32 : Int64) ||| x1_v18196v25635))))) else (if (gi M 16 33) = (6 : Int32) then (if (gi M 16 32) = (-1 : Int32) then (16 ≤ 74 ∧ (Q (.inl none) (sl (sl (sl M 74 0 (0 : Int64)) 74 1 (0 : Int64)) 74 2 (256 : Int64)))) else (16 ≤ 74 ∧ (Q (.inl none) (sl (sl (sl M 74 0 (0 : Int64)) 74 1 (0 : Int64)) 74 2 ((128 : Int64) ||| (zls ((gi M 16 32)).toInt64 (16 : Int32))))))) else (16 ≤ 74 ∧ (Q (.inl none) (sl (sl (sl M 74 0 (0 : Int64)) 74 1 (0 : Int64)) 74 2 (zls (1 : Int64) (gi M 16 33))))))) : Z E YX1_fold (d + 1) M [(0, vr (some (16, 0, 0)))] 0 [] Q := by
  refine sX1_fold_0 (d := d) M hw ?_
  refine zite k (fun h25634 k => ?_) (fun h25634 k => ?_)
  · refine sX1_numberSet_0 (d := d) M (gi M 16 32) hw ?_
    intro x1_v18196v25635 h25635
    have k := k x1_v18196v25635 h25635
    show Z E YX1_fold (d + 1) M [] 19 [vl ((32 : Int64) ||| x1_v18196v25635), vr (some (74, 4, 0))] Q
    refine sX1_fold_19 (d := d) M ((32 : Int64) ||| x1_v18196v25635) hw ?_
    refine jX6_of (d := d) M 74 ((32 : Int64) ||| x1_v18196v25635) ?_
    refine zand k (fun h25636 k => ?_)
    show Z E YX1_fold (d + 1) (sl (sl (sl M 74 0 (0 : Int64)) 74 1 (0 : Int64)) 74 2 ((32 : Int64) ||| x1_v18196v25635)) [] 50 [vr (some (74, 4, 0))] Q
    refine sX1_fold_50 (d := d) (sl (sl (sl M 74 0 (0 : Int64)) 74 1 (0 : Int64)) 74 2 ((32 : Int64) ||| x1_v18196v25635)) (some (74, 4, 0)) hw ?_
    exact k
  · refine zite k (fun h25637 k => ?_) (fun h25637 k => ?_)
    · refine sX1_textSet_0 (d := d) M (gi M 16 32) hw ?_
      refine zite k (fun h25638 k => ?_) (fun h25638 k => ?_)
      · show Z E YX1_fold (d + 1) M [] 38 [vl (256 : Int64), vr (some (74, 4, 0))] Q
        refine sX1_fold_38 (d := d) M (256 : Int64) hw ?_
        refine jX6_of (d := d) M 74 (256 : Int64) ?_
        refine zand k (fun h25639 k => ?_)
        show Z E YX1_fold (d + 1) (sl (sl (sl M 74 0 (0 : Int64)) 74 1 (0 : Int64)) 74 2 (256 : Int64)) [] 50 [vr (some (74, 4, 0))] Q
        refine sX1_fold_50 (d := d) (sl (sl (sl M 74 0 (0 : Int64)) 74 1 (0 : Int64)) 74 2 (256 : Int64)) (some (74, 4, 0)) hw ?_
        exact k
      · show Z E YX1_fold (d + 1) M [] 38 [vl ((128 : Int64) ||| (zls ((gi M 16 32)).toInt64 (16 : Int32))), vr (some (74, 4, 0))] Q
        refine sX1_fold_38 (d := d) M ((128 : Int64) ||| (zls ((gi M 16 32)).toInt64 (16 : Int32))) hw ?_
        refine jX6_of (d := d) M 74 ((128 : Int64) ||| (zls ((gi M 16 32)).toInt64 (16 : Int32))) ?_
        refine zand k (fun h25640 k => ?_)
        show Z E YX1_fold (d + 1) (sl (sl (sl M 74 0 (0 : Int64)) 74 1 (0 : Int64)) 74 2 ((128 : Int64) ||| (zls ((gi M 16 32)).toInt64 (16 : Int32)))) [] 50 [vr (some (74, 4, 0))] Q
        refine sX1_fold_50 (d := d) (sl (sl (sl M 74 0 (0 : Int64)) 74 1 (0 : Int64)) 74 2 ((128 : Int64) ||| (zls ((gi M 16 32)).toInt64 (16 : Int32)))) (some (74, 4, 0)) hw ?_
        exact k
    · refine jX6_of (d := d) M 74 (zls (1 : Int64) (gi M 16 33)) ?_
      refine zand k (fun h25641 k => ?_)
      show Z E YX1_fold (d + 1) (sl (sl (sl M 74 0 (0 : Int64)) 74 1 (0 : Int64)) 74 2 (zls (1 : Int64) (gi M 16 33))) [] 50 [vr (some (74, 4, 0))] Q
      refine sX1_fold_50 (d := d) (sl (sl (sl M 74 0 (0 : Int64)) 74 1 (0 : Int64)) 74 2 (zls (1 : Int64) (gi M 16 33))) (some (74, 4, 0)) hw ?_
      exact k
theorem iX1_unaryOf_0 {E : zE} {d : Nat} {Q : zO → zM → Prop} (M : zM) (l1 : Int32) (hw : cw M) (k : 16 ≤ 74 ∧ (if l1 = (4 : Int32) then (Z E YX1_types d (sl (sl (sl M 74 0 (0 : Int64)) 74 1 (0 : Int64)) 74 2 (0 : Int64)) (zargs 0 [vr (some (16, 0, 0)), vr (some (71, 4, 0)), vr (some (74, 4, 0))]) 0 [] (zafter E YX1_unaryOf (d + 1) [] 22 3 [] Q)) else (Z E YX6_isAlone d (sl (sl (sl M 74 0 (0 : Int64)) 74 1 (0 : Int64)) 74 2 (0 : Int64)) (zargs 0 [vr (some (71, 4, 0))]) 0 [] (zafter E YX1_unaryOf (d + 1) [(0, vr (some (16, 0, 0))), (1, vi l1)] 32 3 [] Q)))) : Z E YX1_unaryOf (d + 1) M [(0, vr (some (16, 0, 0))), (1, vi l1)] 0 [] Q := by
  refine sX1_unaryOf_0 (d := d) M l1 hw ?_
  refine jX6_empty (d := d) M 74 ?_
  refine zand k (fun h25597 k => ?_)
  show Z E YX1_unaryOf (d + 1) (sl (sl (sl M 74 0 (0 : Int64)) 74 1 (0 : Int64)) 74 2 (0 : Int64)) [(0, vr (some (16, 0, 0))), (1, vi l1)] 7 [vr (some (74, 4, 0))] Q
  refine sX1_unaryOf_7 (d := d) (sl (sl (sl M 74 0 (0 : Int64)) 74 1 (0 : Int64)) 74 2 (0 : Int64)) l1 (some (74, 4, 0)) hw ?_
  exact k
theorem iX1_unaryOf_35 {E : zE} {d : Nat} {Q : zO → zM → Prop} (M : zM) (l1 : Int32) (s0 : Int32) (hw : cw M) (k : if s0 = 0 then (if l1 = (3 : Int32) then (Z E YX1_mayBeFalse d M (zargs 0 [vr (some (16, 0, 0)), vr (some (71, 4, 0))]) 0 [] (zafter E YX1_unaryOf (d + 1) [(0, vr (some (16, 0, 0)))] 74 3 [] Q)) else (if l1 = (2 : Int32) then (16 ≤ 74 ∧ (Q (.inl none) (sl (sl (sl M 74 0 (0 : Int64)) 74 1 (0 : Int64)) 74 2 (64 : Int64)))) else (16 ≤ 74 ∧ (Q (.inl none) (sl (sl (sl M 74 0 (0 : Int64)) 74 1 (0 : Int64)) 74 2 (80 : Int64)))))) else (Z E YX6_sort d M (zargs 0 [vr (some (71, 4, 0))]) 0 [] (zafter E YX1_unaryOf (d + 1) [(0, vr (some (16, 0, 0)))] 44 3 [vi l1, vr (some (16, 0, 0))] Q))) : Z E YX1_unaryOf (d + 1) M [(0, vr (some (16, 0, 0))), (1, vi l1)] 35 [vi s0] Q := by
  refine sX1_unaryOf_35 (d := d) M l1 s0 hw ?_
  refine zite k (fun h25599 k => ?_) (fun h25599 k => ?_)
  · refine zite k (fun h25600 k => ?_) (fun h25600 k => ?_)
    · exact k
    · refine zite k (fun h25610 k => ?_) (fun h25610 k => ?_)
      · refine jX6_of (d := d) M 74 (64 : Int64) ?_
        refine zand k (fun h25611 k => ?_)
        show Z E YX1_unaryOf (d + 1) (sl (sl (sl M 74 0 (0 : Int64)) 74 1 (0 : Int64)) 74 2 (64 : Int64)) [] 141 [vr (some (74, 4, 0))] Q
        refine sX1_unaryOf_141 (d := d) (sl (sl (sl M 74 0 (0 : Int64)) 74 1 (0 : Int64)) 74 2 (64 : Int64)) (some (74, 4, 0)) hw ?_
        exact k
      · refine jX6_of (d := d) M 74 (80 : Int64) ?_
        refine zand k (fun h25612 k => ?_)
        show Z E YX1_unaryOf (d + 1) (sl (sl (sl M 74 0 (0 : Int64)) 74 1 (0 : Int64)) 74 2 (80 : Int64)) [] 141 [vr (some (74, 4, 0))] Q
        refine sX1_unaryOf_141 (d := d) (sl (sl (sl M 74 0 (0 : Int64)) 74 1 (0 : Int64)) 74 2 (80 : Int64)) (some (74, 4, 0)) hw ?_
        exact k
  · exact k
theorem iX1_unaryOf_47 {E : zE} {d : Nat} {Q : zO → zM → Prop} (M : zM) (s0 : Int32) (s1 : Int32) (hw : cw M) (k : if (lg_cmp ((gl M 71 2) &&& ((32 : Int32)).toInt64) (0 : Int64)) = 0 then (if (lg_cmp ((gl M 71 2) &&& ((128 : Int32)).toInt64) (0 : Int64)) = 0 then (Z E YX1_unary (d + 1) M (zargs 0 [vr (some (16, 0, 0)), vi s1, vi s0, vi (0 : Int32)]) 0 [] (zafter E YX1_unaryOf ((d + 1) + 1) [(0, vr (some (16, 0, 0)))] 54 3 [] Q)) else (Z E YX1_unary (d + 1) M (zargs 0 [vr (some (16, 0, 0)), vi s1, vi s0, vi (((zlr (gl M 71 2) (16 : Int32)) &&& (65535 : Int64))).toInt32]) 0 [] (zafter E YX1_unaryOf ((d + 1) + 1) [(0, vr (some (16, 0, 0)))] 54 3 [] Q))) else (∀ x1_v17361v25629v25632 : Int64, x1_v17361v25629v25632 = (zlr (gl M 71 2) (32 : Int32)) → (Z E YX1_unary (d + 1) M (zargs 0 [vr (some (16, 0, 0)), vi s1, vi s0, vi (x1_v17361v25629v25632).toInt32]) 0 [] (zafter E YX1_unaryOf ((d + 1) + 1) [(0, vr (some (16, 0, 0)))] 54 3 [] Q)))) : Z E YX1_unaryOf (d + 2) M [(0, vr (some (16, 0, 0)))] 47 [vi s0, vi s1, vr (some (16, 0, 0))] Q := by
  refine sX1_unaryOf_47 (d := (d + 1)) M s0 s1 hw ?_
  refine jX6_value (d := d) M 71 ?_
  refine zite k (fun h25630 k => ?_) (fun h25630 k => ?_)
  · refine zite k (fun h25631 k => ?_) (fun h25631 k => ?_)
    · show Z E YX1_unaryOf ((d + 1) + 1) M [(0, vr (some (16, 0, 0)))] 54 [vi (0 : Int32), vi s0, vi s1, vr (some (16, 0, 0))] Q
      refine sX1_unaryOf_54 (d := (d + 1)) M (0 : Int32) s0 s1 hw ?_
      exact k
    · show Z E YX1_unaryOf ((d + 1) + 1) M [(0, vr (some (16, 0, 0)))] 54 [vi (((zlr (gl M 71 2) (16 : Int32)) &&& (65535 : Int64))).toInt32, vi s0, vi s1, vr (some (16, 0, 0))] Q
      refine sX1_unaryOf_54 (d := (d + 1)) M ((((zlr (gl M 71 2) (16 : Int32)) &&& (65535 : Int64))).toInt32) s0 s1 hw ?_
      exact k
  · intro x1_v17361v25629v25632 h25632
    have k := k x1_v17361v25629v25632 h25632
    show Z E YX1_unaryOf ((d + 1) + 1) M [(0, vr (some (16, 0, 0)))] 54 [vi (x1_v17361v25629v25632).toInt32, vi s0, vi s1, vr (some (16, 0, 0))] Q
    refine sX1_unaryOf_54 (d := (d + 1)) M ((x1_v17361v25629v25632).toInt32) s0 s1 hw ?_
    exact k
theorem iX1_unaryOf_57 {E : zE} {d : Nat} {Q : zO → zM → Prop} (M : zM) (hw : cw M) (k : if (gi M 16 33) = (5 : Int32) then (∀ x1_v18196v25635v25643 : Int64, x1_v18196v25635v25643 = (zls ((gi M 16 32)).toInt64 (32 : Int32)) → (16 ≤ 74 ∧ (Q (.inl none) (sl (sl (sl M 74 0 (0 : Int64)) 74 1 (0 : Int64)) 74 2 ((32 : Int64) ||| x1_v18196v25635v25643))))) else (if (gi M 16 33) = (6 : Int32) then (if (gi M 16 32) = (-1 : Int32) then (16 ≤ 74 ∧ (Q (.inl none) (sl (sl (sl M 74 0 (0 : Int64)) 74 1 (0 : Int64)) 74 2 (256 : Int64)))) else (16 ≤ 74 ∧ (Q (.inl none) (sl (sl (sl M 74 0 (0 : Int64)) 74 1 (0 : Int64)) 74 2 ((128 : Int64) ||| (zls ((gi M 16 32)).toInt64 (16 : Int32))))))) else (16 ≤ 74 ∧ (Q (.inl none) (sl (sl (sl M 74 0 (0 : Int64)) 74 1 (0 : Int64)) 74 2 (zls (1 : Int64) (gi M 16 33))))))) : Z E YX1_unaryOf (d + 2) M [(0, vr (some (16, 0, 0)))] 57 [] Q := by
  refine sX1_unaryOf_57 (d := (d + 1)) M hw ?_
  refine jX1_fold (d := d) M hw ?_
  refine zite k (fun h25642 k => ?_) (fun h25642 k => ?_)
  · intro x1_v18196v25635v25643 h25643
    have k := k x1_v18196v25635v25643 h25643
    refine zand k (fun h25644 k => ?_)
    show Z E YX1_unaryOf ((d + 1) + 1) (sl (sl (sl M 74 0 (0 : Int64)) 74 1 (0 : Int64)) 74 2 ((32 : Int64) ||| x1_v18196v25635v25643)) [] 61 [] Q
    refine sX1_unaryOf_61 (d := (d + 1)) (sl (sl (sl M 74 0 (0 : Int64)) 74 1 (0 : Int64)) 74 2 ((32 : Int64) ||| x1_v18196v25635v25643)) hw ?_
    exact k
  · refine zite k (fun h25645 k => ?_) (fun h25645 k => ?_)
    · refine zite k (fun h25646 k => ?_) (fun h25646 k => ?_)
      · refine zand k (fun h25647 k => ?_)
        show Z E YX1_unaryOf ((d + 1) + 1) (sl (sl (sl M 74 0 (0 : Int64)) 74 1 (0 : Int64)) 74 2 (256 : Int64)) [] 61 [] Q
        refine sX1_unaryOf_61 (d := (d + 1)) (sl (sl (sl M 74 0 (0 : Int64)) 74 1 (0 : Int64)) 74 2 (256 : Int64)) hw ?_
        exact k
      · refine zand k (fun h25648 k => ?_)
        show Z E YX1_unaryOf ((d + 1) + 1) (sl (sl (sl M 74 0 (0 : Int64)) 74 1 (0 : Int64)) 74 2 ((128 : Int64) ||| (zls ((gi M 16 32)).toInt64 (16 : Int32)))) [] 61 [] Q
        refine sX1_unaryOf_61 (d := (d + 1)) (sl (sl (sl M 74 0 (0 : Int64)) 74 1 (0 : Int64)) 74 2 ((128 : Int64) ||| (zls ((gi M 16 32)).toInt64 (16 : Int32)))) hw ?_
        exact k
    · refine zand k (fun h25649 k => ?_)
      show Z E YX1_unaryOf ((d + 1) + 1) (sl (sl (sl M 74 0 (0 : Int64)) 74 1 (0 : Int64)) 74 2 (zls (1 : Int64) (gi M 16 33))) [] 61 [] Q
      refine sX1_unaryOf_61 (d := (d + 1)) (sl (sl (sl M 74 0 (0 : Int64)) 74 1 (0 : Int64)) 74 2 (zls (1 : Int64) (gi M 16 33))) hw ?_
      exact k
theorem iX1_writes_20 {E : zE} {d : Nat} {Q : zO → zM → Prop} (M : zM) (l1 : Int64) (l3 : Int64) (r6 : Option zP) (l7 : Int32) (s0 : Int32) (hw : cw M) (k : if l7 = (-1 : Int32) then (Z E YX1_writes ((d + 1) + 1) M [(0, vr (some (16, 0, 0))), (1, vl l1), (3, vl l3), (6, vr r6), (9, vi (0 : Int32))] 102 [] Q) else (if s0 = (-1 : Int32) then (Z E YX1_writes ((d + 1) + 1) M [(0, vr (some (16, 0, 0))), (1, vl l1), (3, vl l3), (6, vr r6), (9, vi (0 : Int32))] 102 [] Q) else (∃ b25717 : Nat, (gr M 16 60) = some (b25717, 7, 0) ∧ (∃ b25718 m25718 : Nat, (gr M b25717 8) = some (b25718, 104, m25718) ∧ (vp_in l7 m25718 ∧ (if (gi M b25718 (l7).toNatClampNeg) = 0 then (Z E YX1_writes ((d + 1) + 1) M [(0, vr (some (16, 0, 0))), (1, vl l1), (3, vl l3), (6, vr r6), (9, vi (0 : Int32))] 102 [] Q) else (if s0 = 0 then (Z E YX1_in (d + 1) M (zargs 0 [vi l7, vl (gl M 16 71), vl (gl M 16 72)]) 0 [] (zafter E YX1_writes ((d + 1) + 1) [(0, vr (some (16, 0, 0))), (6, vr r6), (7, vi l7), (8, vi s0)] 62 3 [] Q)) else (∃ b25722 : Nat, r6 = some (b25722, 4, 0) ∧ (∃ b25723 : Nat, (gr M b25717 0) = some (b25723, 0, 0) ∧ (∃ b25724 m25724 : Nat, (gr M b25717 1) = some (b25724, 105, m25724) ∧ (16 ≤ b25724 ∧ (vp_in ((l7 * ((gi M b25723 1) + (1 : Int32))) + s0) m25724 ∧ (∃ b25727 m25727 : Nat, (gr M b25717 2) = some (b25727, 105, m25727) ∧ (16 ≤ b25727 ∧ (vp_in ((l7 * ((gi M b25723 1) + (1 : Int32))) + s0) m25727 ∧ (∃ b25730 m25730 : Nat, (gr M b25717 3) = some (b25730, 105, m25730) ∧ (16 ≤ b25730 ∧ (vp_in ((l7 * ((gi M b25723 1) + (1 : Int32))) + s0) m25730 ∧ (Q (.inl none) (sl (sl (sl M b25724 (((l7 * ((gi M b25723 1) + (1 : Int32))) + s0)).toNatClampNeg (gl M b25722 0)) b25727 (((l7 * ((gi M b25723 1) + (1 : Int32))) + s0)).toNatClampNeg (gl M b25722 1)) b25730 (((l7 * ((gi M b25723 1) + (1 : Int32))) + s0)).toNatClampNeg ((gl M b25722 2) &&& (-513 : Int64)))))))))))))))))))))) : Z E YX1_writes (d + 2) M [(0, vr (some (16, 0, 0))), (1, vl l1), (3, vl l3), (6, vr r6), (7, vi l7)] 20 [vi s0] Q := by
  refine sX1_writes_20 (d := (d + 1)) M l1 l3 r6 l7 s0 hw ?_
  refine zite k (fun h25715 k => ?_) (fun h25715 k => ?_)
  · exact k
  · refine zite k (fun h25716 k => ?_) (fun h25716 k => ?_)
    · exact k
    · obtain ⟨b25717, h25717, k⟩ := k
      refine ⟨b25717, h25717, ?_⟩
      obtain ⟨b25718, m25718, h25718, k⟩ := k
      refine ⟨b25718, m25718, h25718, ?_⟩
      refine zand k (fun h25719 k => ?_)
      refine zite k (fun h25720 k => ?_) (fun h25720 k => ?_)
      · exact k
      · refine zite k (fun h25721 k => ?_) (fun h25721 k => ?_)
        · exact k
        · refine sX1_writes_68 (d := (d + 1)) M r6 l7 s0 hw ?_
          obtain ⟨b25722, h25722, k⟩ := k
          refine ⟨b25722, h25722, ?_⟩
          refine ⟨b25717, h25717, ?_⟩
          refine jX43_put (d := d) M b25717 l7 s0 (gl M b25722 0) (gl M b25722 1) ((gl M b25722 2) &&& (-513 : Int64)) ?_
          obtain ⟨b25723, h25723, k⟩ := k
          refine ⟨b25723, h25723, ?_⟩
          obtain ⟨b25724, m25724, h25724, k⟩ := k
          refine ⟨b25724, m25724, h25724, ?_⟩
          refine zand k (fun h25725 k => ?_)
          refine zand k (fun h25726 k => ?_)
          obtain ⟨b25727, m25727, h25727, k⟩ := k
          refine ⟨b25727, m25727, h25727, ?_⟩
          refine zand k (fun h25728 k => ?_)
          refine zand k (fun h25729 k => ?_)
          obtain ⟨b25730, m25730, h25730, k⟩ := k
          refine ⟨b25730, m25730, h25730, ?_⟩
          refine zand k (fun h25731 k => ?_)
          refine zand k (fun h25732 k => ?_)
          show Z E YX1_writes ((d + 1) + 1) (sl (sl (sl M b25724 (((l7 * ((gi M b25723 1) + (1 : Int32))) + s0)).toNatClampNeg (gl M b25722 0)) b25727 (((l7 * ((gi M b25723 1) + (1 : Int32))) + s0)).toNatClampNeg (gl M b25722 1)) b25730 (((l7 * ((gi M b25723 1) + (1 : Int32))) + s0)).toNatClampNeg ((gl M b25722 2) &&& (-513 : Int64))) [] 98 [] Q
          refine sX1_writes_98 (d := (d + 1)) (sl (sl (sl M b25724 (((l7 * ((gi M b25723 1) + (1 : Int32))) + s0)).toNatClampNeg (gl M b25722 0)) b25727 (((l7 * ((gi M b25723 1) + (1 : Int32))) + s0)).toNatClampNeg (gl M b25722 1)) b25730 (((l7 * ((gi M b25723 1) + (1 : Int32))) + s0)).toNatClampNeg ((gl M b25722 2) &&& (-513 : Int64))) hw ?_
          exact k
theorem iX1_writes_102 {E : zE} {d : Nat} {Q : zO → zM → Prop} (M : zM) (l1 : Int64) (l3 : Int64) (r6 : Option zP) (l9 : Int32) (hw : cw M) (k : if (gi M 16 11) ≤ l9 then (Q (.inl none) M) else (if (64 : Int32) ≤ l9 then (∀ x1_v16398v25735 : Int64, x1_v16398v25735 = (zls (zlr l3 (l9 - (64 : Int32))) (63 : Int32)) → (if (lg_cmp x1_v16398v25735 (0 : Int64)) = 0 then (Z E YX1_writes (d + 1) M [(0, vr (some (16, 0, 0))), (1, vl l1), (3, vl l3), (6, vr r6), (9, vi (l9 + (1 : Int32)))] 102 [] Q) else (∃ b25737 : Nat, (gr M 16 60) = some (b25737, 7, 0) ∧ (∃ b25738 m25738 : Nat, (gr M b25737 8) = some (b25738, 104, m25738) ∧ (vp_in l9 m25738 ∧ (if (gi M b25738 (l9).toNatClampNeg) = 0 then (Z E YX1_writes (d + 1) M [(0, vr (some (16, 0, 0))), (1, vl l1), (3, vl l3), (6, vr r6), (9, vi (l9 + (1 : Int32)))] 102 [] Q) else (∀ x1_v16398v25741 : Int64, x1_v16398v25741 = (zls (zlr (gl M 16 72) (l9 - (64 : Int32))) (63 : Int32)) → (if (lg_cmp x1_v16398v25741 (0 : Int64)) = 0 then (Z E YX1_writes (d + 1) M [(0, vr (some (16, 0, 0))), (1, vl l1), (3, vl l3), (6, vr r6), (9, vi l9), (10, vi (0 : Int32)), (11, vi (0 : Int32))] 155 [] Q) else (Z E YX1_writes (d + 1) M [(0, vr (some (16, 0, 0))), (1, vl l1), (3, vl l3), (6, vr r6), (9, vi l9), (10, vi (1 : Int32)), (11, vi (0 : Int32))] 155 [] Q))))))))) else (∀ x1_v16400v25743 : Int64, x1_v16400v25743 = (zls (zlr l1 l9) (63 : Int32)) → (if (lg_cmp x1_v16400v25743 (0 : Int64)) = 0 then (Z E YX1_writes (d + 1) M [(0, vr (some (16, 0, 0))), (1, vl l1), (3, vl l3), (6, vr r6), (9, vi (l9 + (1 : Int32)))] 102 [] Q) else (∃ b25745 : Nat, (gr M 16 60) = some (b25745, 7, 0) ∧ (∃ b25746 m25746 : Nat, (gr M b25745 8) = some (b25746, 104, m25746) ∧ (vp_in l9 m25746 ∧ (if (gi M b25746 (l9).toNatClampNeg) = 0 then (Z E YX1_writes (d + 1) M [(0, vr (some (16, 0, 0))), (1, vl l1), (3, vl l3), (6, vr r6), (9, vi (l9 + (1 : Int32)))] 102 [] Q) else (∀ x1_v16400v25749 : Int64, x1_v16400v25749 = (zls (zlr (gl M 16 71) l9) (63 : Int32)) → (if (lg_cmp x1_v16400v25749 (0 : Int64)) = 0 then (Z E YX1_writes (d + 1) M [(0, vr (some (16, 0, 0))), (1, vl l1), (3, vl l3), (6, vr r6), (9, vi l9), (10, vi (0 : Int32)), (11, vi (0 : Int32))] 155 [] Q) else (Z E YX1_writes (d + 1) M [(0, vr (some (16, 0, 0))), (1, vl l1), (3, vl l3), (6, vr r6), (9, vi l9), (10, vi (1 : Int32)), (11, vi (0 : Int32))] 155 [] Q))))))))))) : Z E YX1_writes (d + 1) M [(0, vr (some (16, 0, 0))), (1, vl l1), (3, vl l3), (6, vr r6), (9, vi l9)] 102 [] Q := by
  refine sX1_writes_102 (d := d) M l1 l3 r6 l9 hw ?_
  refine zite k (fun h25733 k => ?_) (fun h25733 k => ?_)
  · exact k
  · refine jX1_in (d := d) M l9 l1 l3 hw ?_
    refine zite k (fun h25734 k => ?_) (fun h25734 k => ?_)
    · intro x1_v16398v25735 h25735
      have k := k x1_v16398v25735 h25735
      refine zite k (fun h25736 k => ?_) (fun h25736 k => ?_)
      · show Z E YX1_writes (d + 1) M [(0, vr (some (16, 0, 0))), (1, vl l1), (3, vl l3), (6, vr r6), (9, vi l9)] 118 [vi (0 : Int32)] Q
        refine sX1_writes_118 (d := d) M l1 l3 r6 l9 (0 : Int32) hw ?_
        refine zpos (show (0 : Int32) = 0 from by decide) ?_
        exact k
      · show Z E YX1_writes (d + 1) M [(0, vr (some (16, 0, 0))), (1, vl l1), (3, vl l3), (6, vr r6), (9, vi l9)] 118 [vi (1 : Int32)] Q
        refine sX1_writes_118 (d := d) M l1 l3 r6 l9 (1 : Int32) hw ?_
        refine zneg (show ¬ ((1 : Int32) = 0) from by decide) ?_
        obtain ⟨b25737, h25737, k⟩ := k
        refine ⟨b25737, h25737, ?_⟩
        obtain ⟨b25738, m25738, h25738, k⟩ := k
        refine ⟨b25738, m25738, h25738, ?_⟩
        refine zand k (fun h25739 k => ?_)
        refine zite k (fun h25740 k => ?_) (fun h25740 k => ?_)
        · exact k
        · refine jX1_in (d := d) M l9 (gl M 16 71) (gl M 16 72) hw ?_
          refine zpos h25734 ?_
          intro x1_v16398v25741 h25741
          have k := k x1_v16398v25741 h25741
          refine zite k (fun h25742 k => ?_) (fun h25742 k => ?_)
          · show Z E YX1_writes (d + 1) M [(0, vr (some (16, 0, 0))), (1, vl l1), (3, vl l3), (6, vr r6), (9, vi l9)] 150 [vi (0 : Int32)] Q
            refine sX1_writes_150 (d := d) M l1 l3 r6 l9 (0 : Int32) hw ?_
            exact k
          · show Z E YX1_writes (d + 1) M [(0, vr (some (16, 0, 0))), (1, vl l1), (3, vl l3), (6, vr r6), (9, vi l9)] 150 [vi (1 : Int32)] Q
            refine sX1_writes_150 (d := d) M l1 l3 r6 l9 (1 : Int32) hw ?_
            exact k
    · intro x1_v16400v25743 h25743
      have k := k x1_v16400v25743 h25743
      refine zite k (fun h25744 k => ?_) (fun h25744 k => ?_)
      · show Z E YX1_writes (d + 1) M [(0, vr (some (16, 0, 0))), (1, vl l1), (3, vl l3), (6, vr r6), (9, vi l9)] 118 [vi (0 : Int32)] Q
        refine sX1_writes_118 (d := d) M l1 l3 r6 l9 (0 : Int32) hw ?_
        refine zpos (show (0 : Int32) = 0 from by decide) ?_
        exact k
      · show Z E YX1_writes (d + 1) M [(0, vr (some (16, 0, 0))), (1, vl l1), (3, vl l3), (6, vr r6), (9, vi l9)] 118 [vi (1 : Int32)] Q
        refine sX1_writes_118 (d := d) M l1 l3 r6 l9 (1 : Int32) hw ?_
        refine zneg (show ¬ ((1 : Int32) = 0) from by decide) ?_
        obtain ⟨b25745, h25745, k⟩ := k
        refine ⟨b25745, h25745, ?_⟩
        obtain ⟨b25746, m25746, h25746, k⟩ := k
        refine ⟨b25746, m25746, h25746, ?_⟩
        refine zand k (fun h25747 k => ?_)
        refine zite k (fun h25748 k => ?_) (fun h25748 k => ?_)
        · exact k
        · refine jX1_in (d := d) M l9 (gl M 16 71) (gl M 16 72) hw ?_
          refine zneg h25734 ?_
          intro x1_v16400v25749 h25749
          have k := k x1_v16400v25749 h25749
          refine zite k (fun h25750 k => ?_) (fun h25750 k => ?_)
          · show Z E YX1_writes (d + 1) M [(0, vr (some (16, 0, 0))), (1, vl l1), (3, vl l3), (6, vr r6), (9, vi l9)] 150 [vi (0 : Int32)] Q
            refine sX1_writes_150 (d := d) M l1 l3 r6 l9 (0 : Int32) hw ?_
            exact k
          · show Z E YX1_writes (d + 1) M [(0, vr (some (16, 0, 0))), (1, vl l1), (3, vl l3), (6, vr r6), (9, vi l9)] 150 [vi (1 : Int32)] Q
            refine sX1_writes_150 (d := d) M l1 l3 r6 l9 (1 : Int32) hw ?_
            exact k
theorem iX1_writes_65 {E : zE} {d : Nat} {Q : zO → zM → Prop} (M : zM) (r6 : Option zP) (l7 : Int32) (l8 : Int32) (s0 : Int32) (hw : cw M) (k : if s0 = 0 then (∃ b25755 : Nat, r6 = some (b25755, 4, 0) ∧ (∃ b25756 : Nat, (gr M 16 60) = some (b25756, 7, 0) ∧ (∃ b25757 : Nat, (gr M b25756 0) = some (b25757, 0, 0) ∧ (∃ b25758 m25758 : Nat, (gr M b25756 1) = some (b25758, 105, m25758) ∧ (16 ≤ b25758 ∧ (vp_in ((l7 * ((gi M b25757 1) + (1 : Int32))) + l8) m25758 ∧ (∃ b25761 m25761 : Nat, (gr M b25756 2) = some (b25761, 105, m25761) ∧ (16 ≤ b25761 ∧ (vp_in ((l7 * ((gi M b25757 1) + (1 : Int32))) + l8) m25761 ∧ (∃ b25764 m25764 : Nat, (gr M b25756 3) = some (b25764, 105, m25764) ∧ (16 ≤ b25764 ∧ (vp_in ((l7 * ((gi M b25757 1) + (1 : Int32))) + l8) m25764 ∧ (Q (.inl none) (sl (sl (sl M b25758 (((l7 * ((gi M b25757 1) + (1 : Int32))) + l8)).toNatClampNeg (gl M b25755 0)) b25761 (((l7 * ((gi M b25757 1) + (1 : Int32))) + l8)).toNatClampNeg (gl M b25755 1)) b25764 (((l7 * ((gi M b25757 1) + (1 : Int32))) + l8)).toNatClampNeg ((gl M b25755 2) &&& (-513 : Int64)))))))))))))))) else (Q (.inl none) M)) : Z E YX1_writes (d + 2) M [(0, vr (some (16, 0, 0))), (6, vr r6), (7, vi l7), (8, vi l8)] 65 [vi s0] Q := by
  refine sX1_writes_65 (d := (d + 1)) M r6 l7 l8 s0 hw ?_
  refine zite k (fun h25754 k => ?_) (fun h25754 k => ?_)
  · refine sX1_writes_68 (d := (d + 1)) M r6 l7 l8 hw ?_
    obtain ⟨b25755, h25755, k⟩ := k
    refine ⟨b25755, h25755, ?_⟩
    obtain ⟨b25756, h25756, k⟩ := k
    refine ⟨b25756, h25756, ?_⟩
    refine jX43_put (d := d) M b25756 l7 l8 (gl M b25755 0) (gl M b25755 1) ((gl M b25755 2) &&& (-513 : Int64)) ?_
    obtain ⟨b25757, h25757, k⟩ := k
    refine ⟨b25757, h25757, ?_⟩
    obtain ⟨b25758, m25758, h25758, k⟩ := k
    refine ⟨b25758, m25758, h25758, ?_⟩
    refine zand k (fun h25759 k => ?_)
    refine zand k (fun h25760 k => ?_)
    obtain ⟨b25761, m25761, h25761, k⟩ := k
    refine ⟨b25761, m25761, h25761, ?_⟩
    refine zand k (fun h25762 k => ?_)
    refine zand k (fun h25763 k => ?_)
    obtain ⟨b25764, m25764, h25764, k⟩ := k
    refine ⟨b25764, m25764, h25764, ?_⟩
    refine zand k (fun h25765 k => ?_)
    refine zand k (fun h25766 k => ?_)
    show Z E YX1_writes ((d + 1) + 1) (sl (sl (sl M b25758 (((l7 * ((gi M b25757 1) + (1 : Int32))) + l8)).toNatClampNeg (gl M b25755 0)) b25761 (((l7 * ((gi M b25757 1) + (1 : Int32))) + l8)).toNatClampNeg (gl M b25755 1)) b25764 (((l7 * ((gi M b25757 1) + (1 : Int32))) + l8)).toNatClampNeg ((gl M b25755 2) &&& (-513 : Int64))) [] 98 [] Q
    refine sX1_writes_98 (d := (d + 1)) (sl (sl (sl M b25758 (((l7 * ((gi M b25757 1) + (1 : Int32))) + l8)).toNatClampNeg (gl M b25755 0)) b25761 (((l7 * ((gi M b25757 1) + (1 : Int32))) + l8)).toNatClampNeg (gl M b25755 1)) b25764 (((l7 * ((gi M b25757 1) + (1 : Int32))) + l8)).toNatClampNeg ((gl M b25755 2) &&& (-513 : Int64))) hw ?_
    exact k
  · refine sX1_writes_98 (d := (d + 1)) M hw ?_
    exact k
theorem iX1_writes_155 {E : zE} {d : Nat} {Q : zO → zM → Prop} (M : zM) (l1 : Int64) (l3 : Int64) (r6 : Option zP) (l9 : Int32) (l10 : Int32) (l11 : Int32) (hw : cw M) (k : if (gi M 16 1) < l11 then (Z E YX1_writes ((d + 1) + 1) M [(0, vr (some (16, 0, 0))), (1, vl l1), (3, vl l3), (6, vr r6), (9, vi (l9 + (1 : Int32)))] 102 [] Q) else (if l11 = (gi M 16 1) then ((narrow .boolean (.int (gi M 16 90)) = .int (gi M 16 90)) ∧ (if (gi M 16 90) = 0 then (Z E YX1_writes ((d + 1) + 1) M [(0, vr (some (16, 0, 0))), (1, vl l1), (3, vl l3), (6, vr r6), (9, vi l9), (10, vi l10), (11, vi (l11 + (1 : Int32)))] 155 [] Q) else (if l10 = 0 then (∃ b25773 : Nat, (gr M 16 60) = some (b25773, 7, 0) ∧ (Z E YX43_joinField (d + 1) M (zargs 0 [vr (some (b25773, 7, 0)), vi l9, vi l11, vr r6]) 0 [] (zafter E YX1_writes ((d + 1) + 1) [(0, vr (some (16, 0, 0))), (1, vl l1), (3, vl l3), (6, vr r6), (9, vi l9), (10, vi l10), (11, vi l11)] 193 3 [] Q))) else (if l11 = 0 then (Z E YX1_writes ((d + 1) + 1) M [(0, vr (some (16, 0, 0))), (1, vl l1), (3, vl l3), (6, vr r6), (9, vi l9), (10, vi l10), (11, vi (l11 + (1 : Int32)))] 155 [] Q) else (∃ b25775 : Nat, (gr M 16 60) = some (b25775, 7, 0) ∧ (Z E YX43_joinField (d + 1) M (zargs 0 [vr (some (b25775, 7, 0)), vi l9, vi l11, vr r6]) 0 [] (zafter E YX1_writes ((d + 1) + 1) [(0, vr (some (16, 0, 0))), (1, vl l1), (3, vl l3), (6, vr r6), (9, vi l9), (10, vi l10), (11, vi l11)] 193 3 [] Q))))))) else (if (64 : Int32) ≤ l11 then (∀ x1_v16398v18661v25777 : Int64, x1_v16398v18661v25777 = (zls (zlr (gl M 16 89) (l11 - (64 : Int32))) (63 : Int32)) → (if (lg_cmp x1_v16398v18661v25777 (0 : Int64)) = 0 then ((narrow .boolean (.int (0 : Int32)) = .int (0 : Int32)) ∧ (Z E YX1_writes ((d + 1) + 1) M [(0, vr (some (16, 0, 0))), (1, vl l1), (3, vl l3), (6, vr r6), (9, vi l9), (10, vi l10), (11, vi (l11 + (1 : Int32)))] 155 [] Q)) else ((narrow .boolean (.int (1 : Int32)) = .int (1 : Int32)) ∧ (if l10 = 0 then (∃ b25782 : Nat, (gr M 16 60) = some (b25782, 7, 0) ∧ (Z E YX43_joinField (d + 1) M (zargs 0 [vr (some (b25782, 7, 0)), vi l9, vi l11, vr r6]) 0 [] (zafter E YX1_writes ((d + 1) + 1) [(0, vr (some (16, 0, 0))), (1, vl l1), (3, vl l3), (6, vr r6), (9, vi l9), (10, vi l10), (11, vi l11)] 193 3 [] Q))) else (if l11 = 0 then (Z E YX1_writes ((d + 1) + 1) M [(0, vr (some (16, 0, 0))), (1, vl l1), (3, vl l3), (6, vr r6), (9, vi l9), (10, vi l10), (11, vi (l11 + (1 : Int32)))] 155 [] Q) else (∃ b25784 : Nat, (gr M 16 60) = some (b25784, 7, 0) ∧ (Z E YX43_joinField (d + 1) M (zargs 0 [vr (some (b25784, 7, 0)), vi l9, vi l11, vr r6]) 0 [] (zafter E YX1_writes ((d + 1) + 1) [(0, vr (some (16, 0, 0))), (1, vl l1), (3, vl l3), (6, vr r6), (9, vi l9), (10, vi l10), (11, vi l11)] 193 3 [] Q)))))))) else (∀ x1_v16400v18665v25785 : Int64, x1_v16400v18665v25785 = (zls (zlr (gl M 16 88) l11) (63 : Int32)) → (if (lg_cmp x1_v16400v18665v25785 (0 : Int64)) = 0 then ((narrow .boolean (.int (0 : Int32)) = .int (0 : Int32)) ∧ (Z E YX1_writes ((d + 1) + 1) M [(0, vr (some (16, 0, 0))), (1, vl l1), (3, vl l3), (6, vr r6), (9, vi l9), (10, vi l10), (11, vi (l11 + (1 : Int32)))] 155 [] Q)) else ((narrow .boolean (.int (1 : Int32)) = .int (1 : Int32)) ∧ (if l10 = 0 then (∃ b25790 : Nat, (gr M 16 60) = some (b25790, 7, 0) ∧ (Z E YX43_joinField (d + 1) M (zargs 0 [vr (some (b25790, 7, 0)), vi l9, vi l11, vr r6]) 0 [] (zafter E YX1_writes ((d + 1) + 1) [(0, vr (some (16, 0, 0))), (1, vl l1), (3, vl l3), (6, vr r6), (9, vi l9), (10, vi l10), (11, vi l11)] 193 3 [] Q))) else (if l11 = 0 then (Z E YX1_writes ((d + 1) + 1) M [(0, vr (some (16, 0, 0))), (1, vl l1), (3, vl l3), (6, vr r6), (9, vi l9), (10, vi l10), (11, vi (l11 + (1 : Int32)))] 155 [] Q) else (∃ b25792 : Nat, (gr M 16 60) = some (b25792, 7, 0) ∧ (Z E YX43_joinField (d + 1) M (zargs 0 [vr (some (b25792, 7, 0)), vi l9, vi l11, vr r6]) 0 [] (zafter E YX1_writes ((d + 1) + 1) [(0, vr (some (16, 0, 0))), (1, vl l1), (3, vl l3), (6, vr r6), (9, vi l9), (10, vi l10), (11, vi l11)] 193 3 [] Q))))))))))) : Z E YX1_writes (d + 2) M [(0, vr (some (16, 0, 0))), (1, vl l1), (3, vl l3), (6, vr r6), (9, vi l9), (10, vi l10), (11, vi l11)] 155 [] Q := by
  refine sX1_writes_155 (d := (d + 1)) M l1 l3 r6 l9 l10 l11 hw ?_
  refine zite k (fun h25768 k => ?_) (fun h25768 k => ?_)
  · exact k
  · refine jX1_isKey (d := d) M l11 hw ?_
    refine zite k (fun h25769 k => ?_) (fun h25769 k => ?_)
    · refine zand k (fun h25770 k => ?_)
      show Z E YX1_writes ((d + 1) + 1) M [(0, vr (some (16, 0, 0))), (1, vl l1), (3, vl l3), (6, vr r6), (9, vi l9), (10, vi l10), (11, vi l11)] 170 [vi (gi M 16 90)] Q
      refine sX1_writes_170 (d := (d + 1)) M l1 l3 r6 l9 l10 l11 (gi M 16 90) hw ?_
      refine zite k (fun h25771 k => ?_) (fun h25771 k => ?_)
      · refine sX1_writes_196 (d := (d + 1)) M l1 l3 r6 l9 l10 l11 hw ?_
        exact k
      · refine zite k (fun h25772 k => ?_) (fun h25772 k => ?_)
        · exact k
        · refine zite k (fun h25774 k => ?_) (fun h25774 k => ?_)
          · refine sX1_writes_196 (d := (d + 1)) M l1 l3 r6 l9 l10 l11 hw ?_
            exact k
          · exact k
    · refine zite k (fun h25776 k => ?_) (fun h25776 k => ?_)
      · intro x1_v16398v18661v25777 h25777
        have k := k x1_v16398v18661v25777 h25777
        refine zite k (fun h25778 k => ?_) (fun h25778 k => ?_)
        · refine zand k (fun h25779 k => ?_)
          show Z E YX1_writes ((d + 1) + 1) M [(0, vr (some (16, 0, 0))), (1, vl l1), (3, vl l3), (6, vr r6), (9, vi l9), (10, vi l10), (11, vi l11)] 170 [vi (0 : Int32)] Q
          refine sX1_writes_170 (d := (d + 1)) M l1 l3 r6 l9 l10 l11 (0 : Int32) hw ?_
          refine zpos (show (0 : Int32) = 0 from by decide) ?_
          refine sX1_writes_196 (d := (d + 1)) M l1 l3 r6 l9 l10 l11 hw ?_
          exact k
        · refine zand k (fun h25780 k => ?_)
          show Z E YX1_writes ((d + 1) + 1) M [(0, vr (some (16, 0, 0))), (1, vl l1), (3, vl l3), (6, vr r6), (9, vi l9), (10, vi l10), (11, vi l11)] 170 [vi (1 : Int32)] Q
          refine sX1_writes_170 (d := (d + 1)) M l1 l3 r6 l9 l10 l11 (1 : Int32) hw ?_
          refine zneg (show ¬ ((1 : Int32) = 0) from by decide) ?_
          refine zite k (fun h25781 k => ?_) (fun h25781 k => ?_)
          · exact k
          · refine zite k (fun h25783 k => ?_) (fun h25783 k => ?_)
            · refine sX1_writes_196 (d := (d + 1)) M l1 l3 r6 l9 l10 l11 hw ?_
              exact k
            · exact k
      · intro x1_v16400v18665v25785 h25785
        have k := k x1_v16400v18665v25785 h25785
        refine zite k (fun h25786 k => ?_) (fun h25786 k => ?_)
        · refine zand k (fun h25787 k => ?_)
          show Z E YX1_writes ((d + 1) + 1) M [(0, vr (some (16, 0, 0))), (1, vl l1), (3, vl l3), (6, vr r6), (9, vi l9), (10, vi l10), (11, vi l11)] 170 [vi (0 : Int32)] Q
          refine sX1_writes_170 (d := (d + 1)) M l1 l3 r6 l9 l10 l11 (0 : Int32) hw ?_
          refine zpos (show (0 : Int32) = 0 from by decide) ?_
          refine sX1_writes_196 (d := (d + 1)) M l1 l3 r6 l9 l10 l11 hw ?_
          exact k
        · refine zand k (fun h25788 k => ?_)
          show Z E YX1_writes ((d + 1) + 1) M [(0, vr (some (16, 0, 0))), (1, vl l1), (3, vl l3), (6, vr r6), (9, vi l9), (10, vi l10), (11, vi l11)] 170 [vi (1 : Int32)] Q
          refine sX1_writes_170 (d := (d + 1)) M l1 l3 r6 l9 l10 l11 (1 : Int32) hw ?_
          refine zneg (show ¬ ((1 : Int32) = 0) from by decide) ?_
          refine zite k (fun h25789 k => ?_) (fun h25789 k => ?_)
          · exact k
          · refine zite k (fun h25791 k => ?_) (fun h25791 k => ?_)
            · refine sX1_writes_196 (d := (d + 1)) M l1 l3 r6 l9 l10 l11 hw ?_
              exact k
            · exact k
theorem iX1_alone_0 {E : zE} {d : Nat} {Q : zO → zM → Prop} (M : zM) (l1 : Int32) (l2 : Int32) (l3 : Int32) (hw : cw M) (k : if l3 ≤ 0 then (16 ≤ 72 ∧ (if l1 = 9 then (16 ≤ 74 ∧ (Z E YX1_nextWith d (sl (sl (sl (sl (sl (sl M 72 0 (0 : Int64)) 72 1 (0 : Int64)) 72 2 (1 : Int64)) 74 0 (0 : Int64)) 74 1 (0 : Int64)) 74 2 (1 : Int64)) (zargs 0 [vr (some (16, 0, 0)), vr (some (74, 4, 0))]) 0 [] (zafter E YX1_alone (d + 1) [] 101 3 [] Q))) else (if l1 = 10 then (Z E YX1_newOne d (sl (sl (sl M 72 0 (0 : Int64)) 72 1 (0 : Int64)) 72 2 (1 : Int64)) (zargs 0 [vr (some (16, 0, 0)), vi l1, vl (0 : Int64)]) 0 [] (zafter E YX1_alone (d + 1) [] 123 3 [] Q)) else (if l1 = 11 then (Z E YX1_newOne d (sl (sl (sl M 72 0 (0 : Int64)) 72 1 (0 : Int64)) 72 2 (1 : Int64)) (zargs 0 [vr (some (16, 0, 0)), vi l1, vl (0 : Int64)]) 0 [] (zafter E YX1_alone (d + 1) [] 123 3 [] Q)) else (if l1 = 12 then (16 ≤ 74 ∧ (Z E YX1_nextWith d (sl (sl (sl (sl (sl (sl M 72 0 (0 : Int64)) 72 1 (0 : Int64)) 72 2 (1 : Int64)) 74 0 (0 : Int64)) 74 1 (0 : Int64)) 74 2 ((128 : Int64) ||| (zls ((30 : Int32)).toInt64 (16 : Int32)))) (zargs 0 [vr (some (16, 0, 0)), vr (some (74, 4, 0))]) 0 [] (zafter E YX1_alone (d + 1) [] 155 3 [] Q))) else (if l1 = 13 then (Z E YX6_isAlone d (sl (sl (sl M 72 0 (0 : Int64)) 72 1 (0 : Int64)) 72 2 (1 : Int64)) (zargs 0 [vr (some (72, 4, 0))]) 0 [] (zafter E YX1_alone (d + 1) [(0, vr (some (16, 0, 0))), (4, vr (some (72, 4, 0)))] 163 3 [] Q)) else (if l1 = 14 then (Z E YX1_newOne d (sl (sl (sl M 72 0 (0 : Int64)) 72 1 (0 : Int64)) 72 2 (1 : Int64)) (zargs 0 [vr (some (16, 0, 0)), vi l1, vl (0 : Int64)]) 0 [] (zafter E YX1_alone (d + 1) [] 123 3 [] Q)) else (if l1 = 15 then (Z E YX1_newOne d (sl (sl (sl M 72 0 (0 : Int64)) 72 1 (0 : Int64)) 72 2 (1 : Int64)) (zargs 0 [vr (some (16, 0, 0)), vi l1, vl (0 : Int64)]) 0 [] (zafter E YX1_alone (d + 1) [] 123 3 [] Q)) else (if l1 = 16 then (Z E YX1_newOne d (sl (sl (sl M 72 0 (0 : Int64)) 72 1 (0 : Int64)) 72 2 (1 : Int64)) (zargs 0 [vr (some (16, 0, 0)), vi l1, vl (0 : Int64)]) 0 [] (zafter E YX1_alone (d + 1) [] 123 3 [] Q)) else (if l1 = 17 then (Z E YX1_newOne d (sl (sl (sl M 72 0 (0 : Int64)) 72 1 (0 : Int64)) 72 2 (1 : Int64)) (zargs 0 [vr (some (16, 0, 0)), vi l1, vl (0 : Int64)]) 0 [] (zafter E YX1_alone (d + 1) [] 123 3 [] Q)) else (if l1 = 18 then (if l1 = (18 : Int32) then (Z E YX1_rows d (sl (sl (sl M 72 0 (0 : Int64)) 72 1 (0 : Int64)) 72 2 (1 : Int64)) (zargs 0 [vr (some (16, 0, 0)), vi (1 : Int32), vr (some (72, 4, 0))]) 0 [] (zafter E YX1_alone (d + 1) [] 240 3 [] Q)) else (Z E YX1_rows d (sl (sl (sl M 72 0 (0 : Int64)) 72 1 (0 : Int64)) 72 2 (1 : Int64)) (zargs 0 [vr (some (16, 0, 0)), vi (0 : Int32), vr (some (72, 4, 0))]) 0 [] (zafter E YX1_alone (d + 1) [] 240 3 [] Q))) else (if l1 = 19 then (if l1 = (18 : Int32) then (Z E YX1_rows d (sl (sl (sl M 72 0 (0 : Int64)) 72 1 (0 : Int64)) 72 2 (1 : Int64)) (zargs 0 [vr (some (16, 0, 0)), vi (1 : Int32), vr (some (72, 4, 0))]) 0 [] (zafter E YX1_alone (d + 1) [] 240 3 [] Q)) else (Z E YX1_rows d (sl (sl (sl M 72 0 (0 : Int64)) 72 1 (0 : Int64)) 72 2 (1 : Int64)) (zargs 0 [vr (some (16, 0, 0)), vi (0 : Int32), vr (some (72, 4, 0))]) 0 [] (zafter E YX1_alone (d + 1) [] 240 3 [] Q))) else (if l1 = 20 then (Z E YX6_hasLabels d (sl (sl (sl M 72 0 (0 : Int64)) 72 1 (0 : Int64)) 72 2 (1 : Int64)) (zargs 0 [vr (some (77, 4, 0))]) 0 [] (zafter E YX1_alone (d + 1) [(0, vr (some (16, 0, 0)))] 259 3 [] Q)) else (if l1 = 21 then (Z E YX1_hasOwn d (sl (sl (sl M 72 0 (0 : Int64)) 72 1 (0 : Int64)) 72 2 (1 : Int64)) (zargs 0 [vr (some (16, 0, 0)), vr (some (72, 4, 0))]) 0 [] (zafter E YX1_alone (d + 1) [] 249 3 [] Q)) else (Z E YX6_hasLabels d (sl (sl (sl M 72 0 (0 : Int64)) 72 1 (0 : Int64)) 72 2 (1 : Int64)) (zargs 0 [vr (some (77, 4, 0))]) 0 [] (zafter E YX1_alone (d + 1) [(0, vr (some (16, 0, 0)))] 259 3 [] Q)))))))))))))))) else (vp_in l2 9 ∧ (Z E YX1_alone (d + 1) M [(0, vr (some (16, 0, 0))), (1, vi l1), (3, vi l3)] 21 [vr (gr M 78 (l2).toNatClampNeg)] Q))) : Z E YX1_alone (d + 1) M [(0, vr (some (16, 0, 0))), (1, vi l1), (2, vi l2), (3, vi l3)] 0 [] Q := by
  refine sX1_alone_0 (d := d) M l1 l2 l3 hw ?_
  refine zite k (fun h25851 k => ?_) (fun h25851 k => ?_)
  · refine jX6_of (d := d) M 72 (1 : Int64) ?_
    refine zand k (fun h25852 k => ?_)
    show Z E YX1_alone (d + 1) (sl (sl (sl M 72 0 (0 : Int64)) 72 1 (0 : Int64)) 72 2 (1 : Int64)) [(0, vr (some (16, 0, 0))), (1, vi l1), (3, vi l3)] 21 [vr (some (72, 4, 0))] Q
    refine sX1_alone_21 (d := d) (sl (sl (sl M 72 0 (0 : Int64)) 72 1 (0 : Int64)) 72 2 (1 : Int64)) l1 l3 (some (72, 4, 0)) hw ?_
    refine zite k (fun h25853 k => ?_) (fun h25853 k => ?_)
    · refine jX6_of (d := d) (sl (sl (sl M 72 0 (0 : Int64)) 72 1 (0 : Int64)) 72 2 (1 : Int64)) 74 (1 : Int64) ?_
      refine zand k (fun h25854 k => ?_)
      show Z E YX1_alone (d + 1) (sl (sl (sl (sl (sl (sl M 72 0 (0 : Int64)) 72 1 (0 : Int64)) 72 2 (1 : Int64)) 74 0 (0 : Int64)) 74 1 (0 : Int64)) 74 2 (1 : Int64)) [] 101 [vr (some (74, 4, 0)), vr (some (16, 0, 0))] Q
      refine sX1_alone_101 (d := d) (sl (sl (sl (sl (sl (sl M 72 0 (0 : Int64)) 72 1 (0 : Int64)) 72 2 (1 : Int64)) 74 0 (0 : Int64)) 74 1 (0 : Int64)) 74 2 (1 : Int64)) (some (74, 4, 0)) hw ?_
      exact k
    · refine zite k (fun h25855 k => ?_) (fun h25855 k => ?_)
      · refine zpos h25851 ?_
        exact k
      · refine zite k (fun h25856 k => ?_) (fun h25856 k => ?_)
        · refine zpos h25851 ?_
          exact k
        · refine zite k (fun h25857 k => ?_) (fun h25857 k => ?_)
          · refine zpos h25851 ?_
            refine sX1_textSet_0 (d := d) (sl (sl (sl M 72 0 (0 : Int64)) 72 1 (0 : Int64)) 72 2 (1 : Int64)) (30 : Int32) hw ?_
            refine zneg (show ¬ ((30 : Int32) = (-1 : Int32)) from by decide) ?_
            show Z E YX1_alone (d + 1) (sl (sl (sl M 72 0 (0 : Int64)) 72 1 (0 : Int64)) 72 2 (1 : Int64)) [] 152 [vl ((128 : Int64) ||| (zls ((30 : Int32)).toInt64 (16 : Int32))), vr (some (74, 4, 0)), vr (some (16, 0, 0))] Q
            refine sX1_alone_152 (d := d) (sl (sl (sl M 72 0 (0 : Int64)) 72 1 (0 : Int64)) 72 2 (1 : Int64)) ((128 : Int64) ||| (zls ((30 : Int32)).toInt64 (16 : Int32))) hw ?_
            refine jX6_of (d := d) (sl (sl (sl M 72 0 (0 : Int64)) 72 1 (0 : Int64)) 72 2 (1 : Int64)) 74 ((128 : Int64) ||| (zls ((30 : Int32)).toInt64 (16 : Int32))) ?_
            refine zand k (fun h25858 k => ?_)
            show Z E YX1_alone (d + 1) (sl (sl (sl (sl (sl (sl M 72 0 (0 : Int64)) 72 1 (0 : Int64)) 72 2 (1 : Int64)) 74 0 (0 : Int64)) 74 1 (0 : Int64)) 74 2 ((128 : Int64) ||| (zls ((30 : Int32)).toInt64 (16 : Int32)))) [] 155 [vr (some (74, 4, 0)), vr (some (16, 0, 0))] Q
            refine sX1_alone_155 (d := d) (sl (sl (sl (sl (sl (sl M 72 0 (0 : Int64)) 72 1 (0 : Int64)) 72 2 (1 : Int64)) 74 0 (0 : Int64)) 74 1 (0 : Int64)) 74 2 ((128 : Int64) ||| (zls ((30 : Int32)).toInt64 (16 : Int32)))) (some (74, 4, 0)) hw ?_
            exact k
          · refine zite k (fun h25859 k => ?_) (fun h25859 k => ?_)
            · refine ⟨72, rfl, ?_⟩
              exact k
            · refine zite k (fun h25860 k => ?_) (fun h25860 k => ?_)
              · refine zpos h25851 ?_
                exact k
              · refine zite k (fun h25861 k => ?_) (fun h25861 k => ?_)
                · refine zpos h25851 ?_
                  exact k
                · refine zite k (fun h25862 k => ?_) (fun h25862 k => ?_)
                  · refine zpos h25851 ?_
                    exact k
                  · refine zite k (fun h25863 k => ?_) (fun h25863 k => ?_)
                    · refine zpos h25851 ?_
                      exact k
                    · exact k
  · exact k
theorem iX1_alone_104 {E : zE} {d : Nat} {Q : zO → zM → Prop} (M : zM) (hw : cw M) (k : Q (.inl none) M) : Z E YX1_alone (d + 1) M [] 104 [] Q := by
  refine sX1_alone_104 (d := d) M hw ?_
  refine sX1_alone_321 (d := d) M hw ?_
  exact k
theorem iX1_alone_126 {E : zE} {d : Nat} {Q : zO → zM → Prop} (M : zM) (hw : cw M) (k : Q (.inl none) M) : Z E YX1_alone (d + 1) M [] 126 [] Q := by
  refine sX1_alone_126 (d := d) M hw ?_
  refine sX1_alone_321 (d := d) M hw ?_
  exact k
theorem iX1_alone_158 {E : zE} {d : Nat} {Q : zO → zM → Prop} (M : zM) (hw : cw M) (k : Q (.inl none) M) : Z E YX1_alone (d + 1) M [] 158 [] Q := by
  refine sX1_alone_158 (d := d) M hw ?_
  refine sX1_alone_321 (d := d) M hw ?_
  exact k
theorem iX1_alone_166 {E : zE} {d : Nat} {Q : zO → zM → Prop} (M : zM) (a4 : Nat) (s0 : Int32) (hw : cw M) (k : if s0 = 0 then (16 ≤ 74 ∧ (Z E YX1_nextWith d (sl (sl (sl M 74 0 (0 : Int64)) 74 1 (0 : Int64)) 74 2 (12 : Int64)) (zargs 0 [vr (some (16, 0, 0)), vr (some (74, 4, 0))]) 0 [] (zafter E YX1_alone (d + 1) [] 220 3 [] Q))) else (Z E YX6_sort d M (zargs 0 [vr (some (a4, 4, 0))]) 0 [] (zafter E YX1_alone (d + 1) [(4, vr (some (a4, 4, 0)))] 177 3 [vr (some (16, 0, 0)), vr (some (74, 4, 0)), vr (some (16, 0, 0))] Q))) : Z E YX1_alone (d + 1) M [(0, vr (some (16, 0, 0))), (4, vr (some (a4, 4, 0)))] 166 [vi s0] Q := by
  refine sX1_alone_166 (d := d) M a4 s0 hw ?_
  refine zite k (fun h25871 k => ?_) (fun h25871 k => ?_)
  · refine jX6_of (d := d) M 74 (12 : Int64) ?_
    refine zand k (fun h25872 k => ?_)
    show Z E YX1_alone (d + 1) (sl (sl (sl M 74 0 (0 : Int64)) 74 1 (0 : Int64)) 74 2 (12 : Int64)) [] 220 [vr (some (74, 4, 0)), vr (some (16, 0, 0))] Q
    refine sX1_alone_220 (d := d) (sl (sl (sl M 74 0 (0 : Int64)) 74 1 (0 : Int64)) 74 2 (12 : Int64)) (some (74, 4, 0)) hw ?_
    exact k
  · exact k
theorem iX1_alone_243 {E : zE} {d : Nat} {Q : zO → zM → Prop} (M : zM) (hw : cw M) (k : Q (.inl none) M) : Z E YX1_alone (d + 1) M [] 243 [] Q := by
  refine sX1_alone_243 (d := d) M hw ?_
  refine sX1_alone_321 (d := d) M hw ?_
  exact k
theorem iX1_alone_262 {E : zE} {d : Nat} {Q : zO → zM → Prop} (M : zM) (s0 : Int32) (hw : cw M) (k : if s0 = 0 then (if (lg_cmp (((gl M 77 2) &&& (511 : Int64)) &&& (-385 : Int64)) (0 : Int64)) = 0 then (if (lg_cmp ((gl M 77 2) &&& ((384 : Int32)).toInt64) (0 : Int64)) = 0 then (Q (.inl none) M) else (16 ≤ 74 ∧ (Z E YX1_nextWith d (sl (sl (sl M 74 0 (0 : Int64)) 74 1 (0 : Int64)) 74 2 (256 : Int64)) (zargs 0 [vr (some (16, 0, 0)), vr (some (74, 4, 0))]) 0 [] (zafter E YX1_alone (d + 1) [] 318 3 [] Q)))) else (Z E YX1_errs d M (zargs 0 [vr (some (16, 0, 0)), vr (gr M 16 60), vi (0 : Int32)]) 0 [] (zafter E YX1_alone (d + 1) [(0, vr (some (16, 0, 0)))] 291 3 [] Q))) else (Z E YX1_errs d M (zargs 0 [vr (some (16, 0, 0)), vr (gr M 16 60), vi (0 : Int32)]) 0 [] (zafter E YX1_alone (d + 1) [(0, vr (some (16, 0, 0)))] 291 3 [] Q))) : Z E YX1_alone (d + 1) M [(0, vr (some (16, 0, 0)))] 262 [vi s0] Q := by
  refine sX1_alone_262 (d := d) M s0 hw ?_
  refine zite k (fun h25873 k => ?_) (fun h25873 k => ?_)
  · refine zite k (fun h25874 k => ?_) (fun h25874 k => ?_)
    · refine sX1_alone_294 (d := d) M hw ?_
      refine sX6_has_0 (d := d) M 77 (384 : Int32) ?_
      refine zite k (fun h25875 k => ?_) (fun h25875 k => ?_)
      · show Z E YX1_alone (d + 1) M [(0, vr (some (16, 0, 0)))] 304 [vi (0 : Int32)] Q
        refine sX1_alone_304 (d := d) M (0 : Int32) hw ?_
        refine zpos (show (0 : Int32) = 0 from by decide) ?_
        refine sX1_alone_321 (d := d) M hw ?_
        exact k
      · show Z E YX1_alone (d + 1) M [(0, vr (some (16, 0, 0)))] 304 [vi (1 : Int32)] Q
        refine sX1_alone_304 (d := d) M (1 : Int32) hw ?_
        refine zneg (show ¬ ((1 : Int32) = 0) from by decide) ?_
        refine jX6_of (d := d) M 74 (256 : Int64) ?_
        refine zand k (fun h25876 k => ?_)
        show Z E YX1_alone (d + 1) (sl (sl (sl M 74 0 (0 : Int64)) 74 1 (0 : Int64)) 74 2 (256 : Int64)) [] 318 [vr (some (74, 4, 0)), vr (some (16, 0, 0))] Q
        refine sX1_alone_318 (d := d) (sl (sl (sl M 74 0 (0 : Int64)) 74 1 (0 : Int64)) 74 2 (256 : Int64)) (some (74, 4, 0)) hw ?_
        exact k
    · exact k
  · exact k
theorem iX1_alone_252 {E : zE} {d : Nat} {Q : zO → zM → Prop} (M : zM) (hw : cw M) (k : Q (.inl none) M) : Z E YX1_alone (d + 1) M [] 252 [] Q := by
  refine sX1_alone_252 (d := d) M hw ?_
  refine sX1_alone_321 (d := d) M hw ?_
  exact k
theorem iX1_alone_21 {E : zE} {d : Nat} {Q : zO → zM → Prop} (M : zM) (l1 : Int32) (l3 : Int32) (u0 : Option zP) (hw : cw M) (k : if l1 = 9 then (16 ≤ 74 ∧ (Z E YX1_nextWith d (sl (sl (sl M 74 0 (0 : Int64)) 74 1 (0 : Int64)) 74 2 (1 : Int64)) (zargs 0 [vr (some (16, 0, 0)), vr (some (74, 4, 0))]) 0 [] (zafter E YX1_alone (d + 1) [] 101 3 [] Q))) else (if l1 = 10 then (if l3 ≤ 0 then (Z E YX1_newOne d M (zargs 0 [vr (some (16, 0, 0)), vi l1, vl (0 : Int64)]) 0 [] (zafter E YX1_alone (d + 1) [] 123 3 [] Q)) else (Z E YX1_textIn d M (zargs 0 [vr (some (16, 0, 0)), vr u0]) 0 [] (zafter E YX1_alone (d + 1) [] 116 3 [vi l1, vr (some (16, 0, 0))] Q))) else (if l1 = 11 then (if l3 ≤ 0 then (Z E YX1_newOne d M (zargs 0 [vr (some (16, 0, 0)), vi l1, vl (0 : Int64)]) 0 [] (zafter E YX1_alone (d + 1) [] 123 3 [] Q)) else (Z E YX1_textIn d M (zargs 0 [vr (some (16, 0, 0)), vr u0]) 0 [] (zafter E YX1_alone (d + 1) [] 116 3 [vi l1, vr (some (16, 0, 0))] Q))) else (if l1 = 12 then (if l3 ≤ 0 then (16 ≤ 74 ∧ (Z E YX1_nextWith d (sl (sl (sl M 74 0 (0 : Int64)) 74 1 (0 : Int64)) 74 2 ((128 : Int64) ||| (zls ((30 : Int32)).toInt64 (16 : Int32)))) (zargs 0 [vr (some (16, 0, 0)), vr (some (74, 4, 0))]) 0 [] (zafter E YX1_alone (d + 1) [] 155 3 [] Q))) else (Z E YX1_textIn d M (zargs 0 [vr (some (16, 0, 0)), vr u0]) 0 [] (zafter E YX1_alone (d + 1) [] 141 3 [vr (some (74, 4, 0)), vr (some (16, 0, 0))] Q))) else (if l1 = 13 then (∃ b25922 : Nat, u0 = some (b25922, 4, 0) ∧ (Z E YX6_isAlone d M (zargs 0 [vr (some (b25922, 4, 0))]) 0 [] (zafter E YX1_alone (d + 1) [(0, vr (some (16, 0, 0))), (4, vr (some (b25922, 4, 0)))] 163 3 [] Q))) else (if l1 = 14 then (if l3 ≤ 0 then (Z E YX1_newOne d M (zargs 0 [vr (some (16, 0, 0)), vi l1, vl (0 : Int64)]) 0 [] (zafter E YX1_alone (d + 1) [] 123 3 [] Q)) else (Z E YX1_textIn d M (zargs 0 [vr (some (16, 0, 0)), vr u0]) 0 [] (zafter E YX1_alone (d + 1) [] 116 3 [vi l1, vr (some (16, 0, 0))] Q))) else (if l1 = 15 then (if l3 ≤ 0 then (Z E YX1_newOne d M (zargs 0 [vr (some (16, 0, 0)), vi l1, vl (0 : Int64)]) 0 [] (zafter E YX1_alone (d + 1) [] 123 3 [] Q)) else (Z E YX1_textIn d M (zargs 0 [vr (some (16, 0, 0)), vr u0]) 0 [] (zafter E YX1_alone (d + 1) [] 116 3 [vi l1, vr (some (16, 0, 0))] Q))) else (if l1 = 16 then (if l3 ≤ 0 then (Z E YX1_newOne d M (zargs 0 [vr (some (16, 0, 0)), vi l1, vl (0 : Int64)]) 0 [] (zafter E YX1_alone (d + 1) [] 123 3 [] Q)) else (Z E YX1_textIn d M (zargs 0 [vr (some (16, 0, 0)), vr u0]) 0 [] (zafter E YX1_alone (d + 1) [] 116 3 [vi l1, vr (some (16, 0, 0))] Q))) else (if l1 = 17 then (if l3 ≤ 0 then (Z E YX1_newOne d M (zargs 0 [vr (some (16, 0, 0)), vi l1, vl (0 : Int64)]) 0 [] (zafter E YX1_alone (d + 1) [] 123 3 [] Q)) else (Z E YX1_textIn d M (zargs 0 [vr (some (16, 0, 0)), vr u0]) 0 [] (zafter E YX1_alone (d + 1) [] 116 3 [vi l1, vr (some (16, 0, 0))] Q))) else (if l1 = 18 then (if l1 = (18 : Int32) then (Z E YX1_rows d M (zargs 0 [vr (some (16, 0, 0)), vi (1 : Int32), vr u0]) 0 [] (zafter E YX1_alone (d + 1) [] 240 3 [] Q)) else (Z E YX1_rows d M (zargs 0 [vr (some (16, 0, 0)), vi (0 : Int32), vr u0]) 0 [] (zafter E YX1_alone (d + 1) [] 240 3 [] Q))) else (if l1 = 19 then (if l1 = (18 : Int32) then (Z E YX1_rows d M (zargs 0 [vr (some (16, 0, 0)), vi (1 : Int32), vr u0]) 0 [] (zafter E YX1_alone (d + 1) [] 240 3 [] Q)) else (Z E YX1_rows d M (zargs 0 [vr (some (16, 0, 0)), vi (0 : Int32), vr u0]) 0 [] (zafter E YX1_alone (d + 1) [] 240 3 [] Q))) else (if l1 = 20 then (Z E YX6_hasLabels d M (zargs 0 [vr (some (77, 4, 0))]) 0 [] (zafter E YX1_alone (d + 1) [(0, vr (some (16, 0, 0)))] 259 3 [] Q)) else (if l1 = 21 then (Z E YX1_hasOwn d M (zargs 0 [vr (some (16, 0, 0)), vr u0]) 0 [] (zafter E YX1_alone (d + 1) [] 249 3 [] Q)) else (Z E YX6_hasLabels d M (zargs 0 [vr (some (77, 4, 0))]) 0 [] (zafter E YX1_alone (d + 1) [(0, vr (some (16, 0, 0)))] 259 3 [] Q))))))))))))))) : Z E YX1_alone (d + 1) M [(0, vr (some (16, 0, 0))), (1, vi l1), (3, vi l3)] 21 [vr u0] Q := by
  refine sX1_alone_21 (d := d) M l1 l3 u0 hw ?_
  refine zite k (fun h25912 k => ?_) (fun h25912 k => ?_)
  · refine jX6_of (d := d) M 74 (1 : Int64) ?_
    refine zand k (fun h25913 k => ?_)
    show Z E YX1_alone (d + 1) (sl (sl (sl M 74 0 (0 : Int64)) 74 1 (0 : Int64)) 74 2 (1 : Int64)) [] 101 [vr (some (74, 4, 0)), vr (some (16, 0, 0))] Q
    refine sX1_alone_101 (d := d) (sl (sl (sl M 74 0 (0 : Int64)) 74 1 (0 : Int64)) 74 2 (1 : Int64)) (some (74, 4, 0)) hw ?_
    exact k
  · refine zite k (fun h25914 k => ?_) (fun h25914 k => ?_)
    · exact k
    · refine zite k (fun h25916 k => ?_) (fun h25916 k => ?_)
      · exact k
      · refine zite k (fun h25918 k => ?_) (fun h25918 k => ?_)
        · refine zite k (fun h25919 k => ?_) (fun h25919 k => ?_)
          · refine sX1_textSet_0 (d := d) M (30 : Int32) hw ?_
            refine zneg (show ¬ ((30 : Int32) = (-1 : Int32)) from by decide) ?_
            show Z E YX1_alone (d + 1) M [] 152 [vl ((128 : Int64) ||| (zls ((30 : Int32)).toInt64 (16 : Int32))), vr (some (74, 4, 0)), vr (some (16, 0, 0))] Q
            refine sX1_alone_152 (d := d) M ((128 : Int64) ||| (zls ((30 : Int32)).toInt64 (16 : Int32))) hw ?_
            refine jX6_of (d := d) M 74 ((128 : Int64) ||| (zls ((30 : Int32)).toInt64 (16 : Int32))) ?_
            refine zand k (fun h25920 k => ?_)
            show Z E YX1_alone (d + 1) (sl (sl (sl M 74 0 (0 : Int64)) 74 1 (0 : Int64)) 74 2 ((128 : Int64) ||| (zls ((30 : Int32)).toInt64 (16 : Int32)))) [] 155 [vr (some (74, 4, 0)), vr (some (16, 0, 0))] Q
            refine sX1_alone_155 (d := d) (sl (sl (sl M 74 0 (0 : Int64)) 74 1 (0 : Int64)) 74 2 ((128 : Int64) ||| (zls ((30 : Int32)).toInt64 (16 : Int32)))) (some (74, 4, 0)) hw ?_
            exact k
          · exact k
        · exact k
theorem iX1_alone_223 {E : zE} {d : Nat} {Q : zO → zM → Prop} (M : zM) (hw : cw M) (k : Q (.inl none) M) : Z E YX1_alone (d + 1) M [] 223 [] Q := by
  refine sX1_alone_223 (d := d) M hw ?_
  refine sX1_alone_321 (d := d) M hw ?_
  exact k
theorem iX1_alone_180 {E : zE} {d : Nat} {Q : zO → zM → Prop} (M : zM) (a4 : Nat) (s0 : Int32) (hw : cw M) (k : if (lg_cmp ((gl M a4 2) &&& ((32 : Int32)).toInt64) (0 : Int64)) = 0 then (if (lg_cmp ((gl M a4 2) &&& ((128 : Int32)).toInt64) (0 : Int64)) = 0 then (Z E YX1_hasNumber (d + 1) M (zargs 0 [vr (some (16, 0, 0)), vi s0, vi (0 : Int32)]) 0 [] (zafter E YX1_alone ((d + 1) + 1) [] 185 3 [vr (some (74, 4, 0)), vr (some (16, 0, 0))] Q)) else (Z E YX1_hasNumber (d + 1) M (zargs 0 [vr (some (16, 0, 0)), vi s0, vi (((zlr (gl M a4 2) (16 : Int32)) &&& (65535 : Int64))).toInt32]) 0 [] (zafter E YX1_alone ((d + 1) + 1) [] 185 3 [vr (some (74, 4, 0)), vr (some (16, 0, 0))] Q))) else (∀ x1_v17361v25629v25939 : Int64, x1_v17361v25629v25939 = (zlr (gl M a4 2) (32 : Int32)) → (Z E YX1_hasNumber (d + 1) M (zargs 0 [vr (some (16, 0, 0)), vi s0, vi (x1_v17361v25629v25939).toInt32]) 0 [] (zafter E YX1_alone ((d + 1) + 1) [] 185 3 [vr (some (74, 4, 0)), vr (some (16, 0, 0))] Q)))) : Z E YX1_alone (d + 2) M [(4, vr (some (a4, 4, 0)))] 180 [vi s0, vr (some (16, 0, 0)), vr (some (74, 4, 0)), vr (some (16, 0, 0))] Q := by
  refine sX1_alone_180 (d := (d + 1)) M a4 s0 hw ?_
  refine jX6_value (d := d) M a4 ?_
  refine zite k (fun h25937 k => ?_) (fun h25937 k => ?_)
  · refine zite k (fun h25938 k => ?_) (fun h25938 k => ?_)
    · show Z E YX1_alone ((d + 1) + 1) M [] 185 [vi (0 : Int32), vi s0, vr (some (16, 0, 0)), vr (some (74, 4, 0)), vr (some (16, 0, 0))] Q
      refine sX1_alone_185 (d := (d + 1)) M (0 : Int32) s0 hw ?_
      exact k
    · show Z E YX1_alone ((d + 1) + 1) M [] 185 [vi (((zlr (gl M a4 2) (16 : Int32)) &&& (65535 : Int64))).toInt32, vi s0, vr (some (16, 0, 0)), vr (some (74, 4, 0)), vr (some (16, 0, 0))] Q
      refine sX1_alone_185 (d := (d + 1)) M ((((zlr (gl M a4 2) (16 : Int32)) &&& (65535 : Int64))).toInt32) s0 hw ?_
      exact k
  · intro x1_v17361v25629v25939 h25939
    have k := k x1_v17361v25629v25939 h25939
    show Z E YX1_alone ((d + 1) + 1) M [] 185 [vi (x1_v17361v25629v25939).toInt32, vi s0, vr (some (16, 0, 0)), vr (some (74, 4, 0)), vr (some (16, 0, 0))] Q
    refine sX1_alone_185 (d := (d + 1)) M ((x1_v17361v25629v25939).toInt32) s0 hw ?_
    exact k
theorem iX1_alone_294 {E : zE} {d : Nat} {Q : zO → zM → Prop} (M : zM) (hw : cw M) (k : if (lg_cmp ((gl M 77 2) &&& ((384 : Int32)).toInt64) (0 : Int64)) = 0 then (Q (.inl none) M) else (16 ≤ 74 ∧ (Z E YX1_nextWith d (sl (sl (sl M 74 0 (0 : Int64)) 74 1 (0 : Int64)) 74 2 (256 : Int64)) (zargs 0 [vr (some (16, 0, 0)), vr (some (74, 4, 0))]) 0 [] (zafter E YX1_alone (d + 1) [] 318 3 [] Q)))) : Z E YX1_alone (d + 1) M [(0, vr (some (16, 0, 0)))] 294 [] Q := by
  refine sX1_alone_294 (d := d) M hw ?_
  refine sX6_has_0 (d := d) M 77 (384 : Int32) ?_
  refine zite k (fun h25940 k => ?_) (fun h25940 k => ?_)
  · show Z E YX1_alone (d + 1) M [(0, vr (some (16, 0, 0)))] 304 [vi (0 : Int32)] Q
    refine sX1_alone_304 (d := d) M (0 : Int32) hw ?_
    refine zpos (show (0 : Int32) = 0 from by decide) ?_
    refine sX1_alone_321 (d := d) M hw ?_
    exact k
  · show Z E YX1_alone (d + 1) M [(0, vr (some (16, 0, 0)))] 304 [vi (1 : Int32)] Q
    refine sX1_alone_304 (d := d) M (1 : Int32) hw ?_
    refine zneg (show ¬ ((1 : Int32) = 0) from by decide) ?_
    refine jX6_of (d := d) M 74 (256 : Int64) ?_
    refine zand k (fun h25941 k => ?_)
    show Z E YX1_alone (d + 1) (sl (sl (sl M 74 0 (0 : Int64)) 74 1 (0 : Int64)) 74 2 (256 : Int64)) [] 318 [vr (some (74, 4, 0)), vr (some (16, 0, 0))] Q
    refine sX1_alone_318 (d := d) (sl (sl (sl M 74 0 (0 : Int64)) 74 1 (0 : Int64)) 74 2 (256 : Int64)) (some (74, 4, 0)) hw ?_
    exact k
theorem iX1_alone_144 {E : zE} {d : Nat} {Q : zO → zM → Prop} (M : zM) (s0 : Int64) (hw : cw M) (k : 16 ≤ 74 ∧ (Z E YX1_nextWith d (sl (sl (sl M 74 0 (0 : Int64)) 74 1 (0 : Int64)) 74 2 s0) (zargs 0 [vr (some (16, 0, 0)), vr (some (74, 4, 0))]) 0 [] (zafter E YX1_alone (d + 1) [] 155 3 [] Q))) : Z E YX1_alone (d + 1) M [] 144 [vl s0, vr (some (74, 4, 0)), vr (some (16, 0, 0))] Q := by
  refine sX1_alone_144 (d := d) M s0 hw ?_
  refine sX1_alone_152 (d := d) M s0 hw ?_
  refine jX6_of (d := d) M 74 s0 ?_
  refine zand k (fun h25942 k => ?_)
  show Z E YX1_alone (d + 1) (sl (sl (sl M 74 0 (0 : Int64)) 74 1 (0 : Int64)) 74 2 s0) [] 155 [vr (some (74, 4, 0)), vr (some (16, 0, 0))] Q
  refine sX1_alone_155 (d := d) (sl (sl (sl M 74 0 (0 : Int64)) 74 1 (0 : Int64)) 74 2 s0) (some (74, 4, 0)) hw ?_
  exact k
theorem iX1_alone_188 {E : zE} {d : Nat} {Q : zO → zM → Prop} (M : zM) (s0 : Int32) (hw : cw M) (k : if s0 = 0 then (16 ≤ 74 ∧ (Z E YX1_nextWith d (sl (sl (sl M 74 0 (0 : Int64)) 74 1 (0 : Int64)) 74 2 (4 : Int64)) (zargs 0 [vr (some (16, 0, 0)), vr (some (74, 4, 0))]) 0 [] (zafter E YX1_alone (d + 1) [] 203 3 [] Q))) else (16 ≤ 74 ∧ (Z E YX1_nextWith d (sl (sl (sl M 74 0 (0 : Int64)) 74 1 (0 : Int64)) 74 2 (8 : Int64)) (zargs 0 [vr (some (16, 0, 0)), vr (some (74, 4, 0))]) 0 [] (zafter E YX1_alone (d + 1) [] 203 3 [] Q)))) : Z E YX1_alone (d + 1) M [] 188 [vi s0, vr (some (74, 4, 0)), vr (some (16, 0, 0))] Q := by
  refine sX1_alone_188 (d := d) M s0 hw ?_
  refine zite k (fun h25943 k => ?_) (fun h25943 k => ?_)
  · refine jX6_of (d := d) M 74 (4 : Int64) ?_
    refine zand k (fun h25944 k => ?_)
    show Z E YX1_alone (d + 1) (sl (sl (sl M 74 0 (0 : Int64)) 74 1 (0 : Int64)) 74 2 (4 : Int64)) [] 203 [vr (some (74, 4, 0)), vr (some (16, 0, 0))] Q
    refine sX1_alone_203 (d := d) (sl (sl (sl M 74 0 (0 : Int64)) 74 1 (0 : Int64)) 74 2 (4 : Int64)) (some (74, 4, 0)) hw ?_
    exact k
  · refine jX6_of (d := d) M 74 (8 : Int64) ?_
    refine zand k (fun h25945 k => ?_)
    show Z E YX1_alone (d + 1) (sl (sl (sl M 74 0 (0 : Int64)) 74 1 (0 : Int64)) 74 2 (8 : Int64)) [] 203 [vr (some (74, 4, 0)), vr (some (16, 0, 0))] Q
    refine sX1_alone_203 (d := d) (sl (sl (sl M 74 0 (0 : Int64)) 74 1 (0 : Int64)) 74 2 (8 : Int64)) (some (74, 4, 0)) hw ?_
    exact k
theorem iX1_alone_206 {E : zE} {d : Nat} {Q : zO → zM → Prop} (M : zM) (hw : cw M) (k : Q (.inl none) M) : Z E YX1_alone (d + 1) M [] 206 [] Q := by
  refine sX1_alone_206 (d := d) M hw ?_
  refine sX1_alone_321 (d := d) M hw ?_
  exact k
theorem iX1_binaryOf_0 {E : zE} {d : Nat} {Q : zO → zM → Prop} (M : zM) (l1 : Int32) (hw : cw M) (k : 16 ≤ 74 ∧ (if (lg_cmp ((gl M 71 2) &&& ((384 : Int32)).toInt64) (0 : Int64)) = 0 then (if (lg_cmp (gl M 71 0) (0 : Int64)) = 0 then (if (lg_cmp (gl M 71 1) (0 : Int64)) = 0 then (if (lg_cmp ((gl M 72 2) &&& ((384 : Int32)).toInt64) (0 : Int64)) = 0 then (if (lg_cmp (gl M 72 0) (0 : Int64)) = 0 then (if (lg_cmp (gl M 72 1) (0 : Int64)) = 0 then (Z E YX6_isAlone d (sl (sl (sl M 74 0 (0 : Int64)) 74 1 (0 : Int64)) 74 2 (0 : Int64)) (zargs 0 [vr (some (71, 4, 0))]) 0 [] (zafter E YX1_binaryOf (d + 1) [(0, vr (some (16, 0, 0))), (1, vi l1), (2, vi (0 : Int32))] 64 3 [] Q)) else (Z E YX6_isAlone d (sl (sl (sl M 74 0 (0 : Int64)) 74 1 (0 : Int64)) 74 2 (0 : Int64)) (zargs 0 [vr (some (71, 4, 0))]) 0 [] (zafter E YX1_binaryOf (d + 1) [(0, vr (some (16, 0, 0))), (1, vi l1), (2, vi (1 : Int32))] 64 3 [] Q))) else (Z E YX6_isAlone d (sl (sl (sl M 74 0 (0 : Int64)) 74 1 (0 : Int64)) 74 2 (0 : Int64)) (zargs 0 [vr (some (71, 4, 0))]) 0 [] (zafter E YX1_binaryOf (d + 1) [(0, vr (some (16, 0, 0))), (1, vi l1), (2, vi (1 : Int32))] 64 3 [] Q))) else (Z E YX6_isAlone d (sl (sl (sl M 74 0 (0 : Int64)) 74 1 (0 : Int64)) 74 2 (0 : Int64)) (zargs 0 [vr (some (71, 4, 0))]) 0 [] (zafter E YX1_binaryOf (d + 1) [(0, vr (some (16, 0, 0))), (1, vi l1), (2, vi (1 : Int32))] 64 3 [] Q))) else (Z E YX6_isAlone d (sl (sl (sl M 74 0 (0 : Int64)) 74 1 (0 : Int64)) 74 2 (0 : Int64)) (zargs 0 [vr (some (71, 4, 0))]) 0 [] (zafter E YX1_binaryOf (d + 1) [(0, vr (some (16, 0, 0))), (1, vi l1), (2, vi (1 : Int32))] 64 3 [] Q))) else (Z E YX6_isAlone d (sl (sl (sl M 74 0 (0 : Int64)) 74 1 (0 : Int64)) 74 2 (0 : Int64)) (zargs 0 [vr (some (71, 4, 0))]) 0 [] (zafter E YX1_binaryOf (d + 1) [(0, vr (some (16, 0, 0))), (1, vi l1), (2, vi (1 : Int32))] 64 3 [] Q))) else (Z E YX6_isAlone d (sl (sl (sl M 74 0 (0 : Int64)) 74 1 (0 : Int64)) 74 2 (0 : Int64)) (zargs 0 [vr (some (71, 4, 0))]) 0 [] (zafter E YX1_binaryOf (d + 1) [(0, vr (some (16, 0, 0))), (1, vi l1), (2, vi (1 : Int32))] 64 3 [] Q)))) : Z E YX1_binaryOf (d + 1) M [(0, vr (some (16, 0, 0))), (1, vi l1)] 0 [] Q := by
  refine sX1_binaryOf_0 (d := d) M l1 hw ?_
  refine jX6_empty (d := d) M 74 ?_
  refine zand k (fun h25946 k => ?_)
  show Z E YX1_binaryOf (d + 1) (sl (sl (sl M 74 0 (0 : Int64)) 74 1 (0 : Int64)) 74 2 (0 : Int64)) [(0, vr (some (16, 0, 0))), (1, vi l1)] 7 [vr (some (74, 4, 0))] Q
  refine sX1_binaryOf_7 (d := d) (sl (sl (sl M 74 0 (0 : Int64)) 74 1 (0 : Int64)) 74 2 (0 : Int64)) l1 (some (74, 4, 0)) hw ?_
  refine sX6_has_0 (d := d) (sl (sl (sl M 74 0 (0 : Int64)) 74 1 (0 : Int64)) 74 2 (0 : Int64)) 71 (384 : Int32) ?_
  refine zite k (fun h25947 k => ?_) (fun h25947 k => ?_)
  · show Z E YX1_binaryOf (d + 1) (sl (sl (sl M 74 0 (0 : Int64)) 74 1 (0 : Int64)) 74 2 (0 : Int64)) [(0, vr (some (16, 0, 0))), (1, vi l1)] 18 [vi (0 : Int32)] Q
    refine sX1_binaryOf_18 (d := d) (sl (sl (sl M 74 0 (0 : Int64)) 74 1 (0 : Int64)) 74 2 (0 : Int64)) l1 (0 : Int32) hw ?_
    refine zpos (show (0 : Int32) = 0 from by decide) ?_
    refine sX6_hasLabels_0 (d := d) (sl (sl (sl M 74 0 (0 : Int64)) 74 1 (0 : Int64)) 74 2 (0 : Int64)) 71 ?_
    refine zite k (fun h25948 k => ?_) (fun h25948 k => ?_)
    · refine zite k (fun h25949 k => ?_) (fun h25949 k => ?_)
      · show Z E YX1_binaryOf (d + 1) (sl (sl (sl M 74 0 (0 : Int64)) 74 1 (0 : Int64)) 74 2 (0 : Int64)) [(0, vr (some (16, 0, 0))), (1, vi l1)] 28 [vi (0 : Int32)] Q
        refine sX1_binaryOf_28 (d := d) (sl (sl (sl M 74 0 (0 : Int64)) 74 1 (0 : Int64)) 74 2 (0 : Int64)) l1 (0 : Int32) hw ?_
        refine zpos (show (0 : Int32) = 0 from by decide) ?_
        refine sX6_has_0 (d := d) (sl (sl (sl M 74 0 (0 : Int64)) 74 1 (0 : Int64)) 74 2 (0 : Int64)) 72 (384 : Int32) ?_
        refine zite k (fun h25950 k => ?_) (fun h25950 k => ?_)
        · show Z E YX1_binaryOf (d + 1) (sl (sl (sl M 74 0 (0 : Int64)) 74 1 (0 : Int64)) 74 2 (0 : Int64)) [(0, vr (some (16, 0, 0))), (1, vi l1)] 41 [vi (0 : Int32)] Q
          refine sX1_binaryOf_41 (d := d) (sl (sl (sl M 74 0 (0 : Int64)) 74 1 (0 : Int64)) 74 2 (0 : Int64)) l1 (0 : Int32) hw ?_
          refine zpos (show (0 : Int32) = 0 from by decide) ?_
          refine sX6_hasLabels_0 (d := d) (sl (sl (sl M 74 0 (0 : Int64)) 74 1 (0 : Int64)) 74 2 (0 : Int64)) 72 ?_
          refine zite k (fun h25951 k => ?_) (fun h25951 k => ?_)
          · refine zite k (fun h25952 k => ?_) (fun h25952 k => ?_)
            · show Z E YX1_binaryOf (d + 1) (sl (sl (sl M 74 0 (0 : Int64)) 74 1 (0 : Int64)) 74 2 (0 : Int64)) [(0, vr (some (16, 0, 0))), (1, vi l1)] 51 [vi (0 : Int32)] Q
              refine sX1_binaryOf_51 (d := d) (sl (sl (sl M 74 0 (0 : Int64)) 74 1 (0 : Int64)) 74 2 (0 : Int64)) l1 (0 : Int32) hw ?_
              refine zpos (show (0 : Int32) = 0 from by decide) ?_
              exact k
            · show Z E YX1_binaryOf (d + 1) (sl (sl (sl M 74 0 (0 : Int64)) 74 1 (0 : Int64)) 74 2 (0 : Int64)) [(0, vr (some (16, 0, 0))), (1, vi l1)] 51 [vi (1 : Int32)] Q
              refine sX1_binaryOf_51 (d := d) (sl (sl (sl M 74 0 (0 : Int64)) 74 1 (0 : Int64)) 74 2 (0 : Int64)) l1 (1 : Int32) hw ?_
              refine zneg (show ¬ ((1 : Int32) = 0) from by decide) ?_
              exact k
          · show Z E YX1_binaryOf (d + 1) (sl (sl (sl M 74 0 (0 : Int64)) 74 1 (0 : Int64)) 74 2 (0 : Int64)) [(0, vr (some (16, 0, 0))), (1, vi l1)] 51 [vi (1 : Int32)] Q
            refine sX1_binaryOf_51 (d := d) (sl (sl (sl M 74 0 (0 : Int64)) 74 1 (0 : Int64)) 74 2 (0 : Int64)) l1 (1 : Int32) hw ?_
            refine zneg (show ¬ ((1 : Int32) = 0) from by decide) ?_
            exact k
        · show Z E YX1_binaryOf (d + 1) (sl (sl (sl M 74 0 (0 : Int64)) 74 1 (0 : Int64)) 74 2 (0 : Int64)) [(0, vr (some (16, 0, 0))), (1, vi l1)] 41 [vi (1 : Int32)] Q
          refine sX1_binaryOf_41 (d := d) (sl (sl (sl M 74 0 (0 : Int64)) 74 1 (0 : Int64)) 74 2 (0 : Int64)) l1 (1 : Int32) hw ?_
          refine zneg (show ¬ ((1 : Int32) = 0) from by decide) ?_
          exact k
      · show Z E YX1_binaryOf (d + 1) (sl (sl (sl M 74 0 (0 : Int64)) 74 1 (0 : Int64)) 74 2 (0 : Int64)) [(0, vr (some (16, 0, 0))), (1, vi l1)] 28 [vi (1 : Int32)] Q
        refine sX1_binaryOf_28 (d := d) (sl (sl (sl M 74 0 (0 : Int64)) 74 1 (0 : Int64)) 74 2 (0 : Int64)) l1 (1 : Int32) hw ?_
        refine zneg (show ¬ ((1 : Int32) = 0) from by decide) ?_
        exact k
    · show Z E YX1_binaryOf (d + 1) (sl (sl (sl M 74 0 (0 : Int64)) 74 1 (0 : Int64)) 74 2 (0 : Int64)) [(0, vr (some (16, 0, 0))), (1, vi l1)] 28 [vi (1 : Int32)] Q
      refine sX1_binaryOf_28 (d := d) (sl (sl (sl M 74 0 (0 : Int64)) 74 1 (0 : Int64)) 74 2 (0 : Int64)) l1 (1 : Int32) hw ?_
      refine zneg (show ¬ ((1 : Int32) = 0) from by decide) ?_
      exact k
  · show Z E YX1_binaryOf (d + 1) (sl (sl (sl M 74 0 (0 : Int64)) 74 1 (0 : Int64)) 74 2 (0 : Int64)) [(0, vr (some (16, 0, 0))), (1, vi l1)] 18 [vi (1 : Int32)] Q
    refine sX1_binaryOf_18 (d := d) (sl (sl (sl M 74 0 (0 : Int64)) 74 1 (0 : Int64)) 74 2 (0 : Int64)) l1 (1 : Int32) hw ?_
    refine zneg (show ¬ ((1 : Int32) = 0) from by decide) ?_
    exact k
theorem iX1_binaryOf_216 {E : zE} {d : Nat} {Q : zO → zM → Prop} (M : zM) (l1 : Int32) (l2 : Int32) (hw : cw M) (k : if l1 = 0 then (if l2 = 0 then (if (lg_cmp ((gl M 71 2) &&& ((127 : Int32)).toInt64) (0 : Int64)) = 0 then (Z E YX1_nextWith d M (zargs 0 [vr (some (16, 0, 0)), vr (some (74, 4, 0))]) 0 [] (zafter E YX1_binaryOf (d + 1) [] 316 3 [] Q)) else (if (lg_cmp ((gl M 72 2) &&& ((127 : Int32)).toInt64) (0 : Int64)) = 0 then (Z E YX1_nextWith d M (zargs 0 [vr (some (16, 0, 0)), vr (some (74, 4, 0))]) 0 [] (zafter E YX1_binaryOf (d + 1) [] 316 3 [] Q)) else (Z E YX6_join3 d M (zargs 0 [vr (some (74, 4, 0)), vl (0 : Int64), vl (0 : Int64), vl (80 : Int64)]) 0 [] (zafter E YX1_binaryOf (d + 1) [(0, vr (some (16, 0, 0)))] 270 3 [] Q)))) else (Z E YX6_join3 d M (zargs 0 [vr (some (74, 4, 0)), vl (0 : Int64), vl (0 : Int64), vl (256 : Int64)]) 0 [] (zafter E YX1_binaryOf (d + 1) [(0, vr (some (16, 0, 0)))] 233 3 [] Q))) else (if (5 : Int32) ≤ l1 then (if (11 : Int32) ≤ l1 then (16 ≤ 74 ∧ (Z E YX1_nextWith d (sl (sl (sl M 74 0 (0 : Int64)) 74 1 (0 : Int64)) 74 2 (12 : Int64)) (zargs 0 [vr (some (16, 0, 0)), vr (some (74, 4, 0))]) 0 [] (zafter E YX1_binaryOf (d + 1) [] 316 3 [] Q))) else (16 ≤ 74 ∧ (Z E YX1_nextWith d (sl (sl (sl M 74 0 (0 : Int64)) 74 1 (0 : Int64)) 74 2 (64 : Int64)) (zargs 0 [vr (some (16, 0, 0)), vr (some (74, 4, 0))]) 0 [] (zafter E YX1_binaryOf (d + 1) [] 316 3 [] Q)))) else (16 ≤ 74 ∧ (Z E YX1_nextWith d (sl (sl (sl M 74 0 (0 : Int64)) 74 1 (0 : Int64)) 74 2 (80 : Int64)) (zargs 0 [vr (some (16, 0, 0)), vr (some (74, 4, 0))]) 0 [] (zafter E YX1_binaryOf (d + 1) [] 316 3 [] Q))))) : Z E YX1_binaryOf (d + 1) M [(0, vr (some (16, 0, 0))), (1, vi l1), (2, vi l2)] 216 [] Q := by
  refine sX1_binaryOf_216 (d := d) M l1 l2 hw ?_
  refine zite k (fun h25954 k => ?_) (fun h25954 k => ?_)
  · refine zite k (fun h25955 k => ?_) (fun h25955 k => ?_)
    · refine sX6_has_0 (d := d) M 71 (127 : Int32) ?_
      refine zite k (fun h25956 k => ?_) (fun h25956 k => ?_)
      · show Z E YX1_binaryOf (d + 1) M [(0, vr (some (16, 0, 0)))] 246 [vi (0 : Int32)] Q
        refine sX1_binaryOf_246 (d := d) M (0 : Int32) hw ?_
        refine zpos (show (0 : Int32) = 0 from by decide) ?_
        exact k
      · show Z E YX1_binaryOf (d + 1) M [(0, vr (some (16, 0, 0)))] 246 [vi (1 : Int32)] Q
        refine sX1_binaryOf_246 (d := d) M (1 : Int32) hw ?_
        refine zneg (show ¬ ((1 : Int32) = 0) from by decide) ?_
        refine sX6_has_0 (d := d) M 72 (127 : Int32) ?_
        refine zite k (fun h25957 k => ?_) (fun h25957 k => ?_)
        · show Z E YX1_binaryOf (d + 1) M [(0, vr (some (16, 0, 0)))] 258 [vi (0 : Int32)] Q
          refine sX1_binaryOf_258 (d := d) M (0 : Int32) hw ?_
          refine zpos (show (0 : Int32) = 0 from by decide) ?_
          exact k
        · show Z E YX1_binaryOf (d + 1) M [(0, vr (some (16, 0, 0)))] 258 [vi (1 : Int32)] Q
          refine sX1_binaryOf_258 (d := d) M (1 : Int32) hw ?_
          refine zneg (show ¬ ((1 : Int32) = 0) from by decide) ?_
          exact k
    · exact k
  · refine zite k (fun h25958 k => ?_) (fun h25958 k => ?_)
    · refine zite k (fun h25959 k => ?_) (fun h25959 k => ?_)
      · refine jX6_of (d := d) M 74 (12 : Int64) ?_
        refine zand k (fun h25960 k => ?_)
        show Z E YX1_binaryOf (d + 1) (sl (sl (sl M 74 0 (0 : Int64)) 74 1 (0 : Int64)) 74 2 (12 : Int64)) [(0, vr (some (16, 0, 0)))] 310 [vr (some (74, 4, 0))] Q
        refine sX1_binaryOf_310 (d := d) (sl (sl (sl M 74 0 (0 : Int64)) 74 1 (0 : Int64)) 74 2 (12 : Int64)) (some (74, 4, 0)) hw ?_
        exact k
      · refine jX6_of (d := d) M 74 (64 : Int64) ?_
        refine zand k (fun h25961 k => ?_)
        show Z E YX1_binaryOf (d + 1) (sl (sl (sl M 74 0 (0 : Int64)) 74 1 (0 : Int64)) 74 2 (64 : Int64)) [(0, vr (some (16, 0, 0)))] 310 [vr (some (74, 4, 0))] Q
        refine sX1_binaryOf_310 (d := d) (sl (sl (sl M 74 0 (0 : Int64)) 74 1 (0 : Int64)) 74 2 (64 : Int64)) (some (74, 4, 0)) hw ?_
        exact k
    · refine jX6_of (d := d) M 74 (80 : Int64) ?_
      refine zand k (fun h25962 k => ?_)
      show Z E YX1_binaryOf (d + 1) (sl (sl (sl M 74 0 (0 : Int64)) 74 1 (0 : Int64)) 74 2 (80 : Int64)) [(0, vr (some (16, 0, 0)))] 310 [vr (some (74, 4, 0))] Q
      refine sX1_binaryOf_310 (d := d) (sl (sl (sl M 74 0 (0 : Int64)) 74 1 (0 : Int64)) 74 2 (80 : Int64)) (some (74, 4, 0)) hw ?_
      exact k
theorem iX1_binaryOf_77 {E : zE} {d : Nat} {Q : zO → zM → Prop} (M : zM) (l1 : Int32) (l2 : Int32) (s0 : Int32) (hw : cw M) (k : if s0 = 0 then (Z E YX1_binaryOf (d + 1) M [(0, vr (some (16, 0, 0))), (1, vi l1), (2, vi l2)] 216 [] Q) else (if l1 = 0 then (if l2 = 0 then (Z E YX6_sort d M (zargs 0 [vr (some (71, 4, 0))]) 0 [] (zafter E YX1_binaryOf (d + 1) [(0, vr (some (16, 0, 0)))] 182 3 [vi l1, vr (some (16, 0, 0))] Q)) else (Z E YX6_sort d (si M 16 3 (0 : Int32)) (zargs 0 [vr (some (71, 4, 0))]) 0 [] (zafter E YX1_binaryOf (d + 1) [(0, vr (some (16, 0, 0)))] 97 3 [vr (some (16, 0, 0))] Q))) else (Z E YX6_sort d M (zargs 0 [vr (some (71, 4, 0))]) 0 [] (zafter E YX1_binaryOf (d + 1) [(0, vr (some (16, 0, 0)))] 182 3 [vi l1, vr (some (16, 0, 0))] Q)))) : Z E YX1_binaryOf (d + 1) M [(0, vr (some (16, 0, 0))), (1, vi l1), (2, vi l2)] 77 [vi s0] Q := by
  refine sX1_binaryOf_77 (d := d) M l1 l2 s0 hw ?_
  refine zite k (fun h25963 k => ?_) (fun h25963 k => ?_)
  · exact k
  · refine zite k (fun h25964 k => ?_) (fun h25964 k => ?_)
    · refine zite k (fun h25965 k => ?_) (fun h25965 k => ?_)
      · exact k
      · refine sX1_clearRow_0 (d := d) M hw ?_
        show Z E YX1_binaryOf (d + 1) (si M 16 3 (0 : Int32)) [(0, vr (some (16, 0, 0)))] 92 [] Q
        refine sX1_binaryOf_92 (d := d) (si M 16 3 (0 : Int32)) hw ?_
        exact k
    · exact k
theorem iX1_binaryOf_236 {E : zE} {d : Nat} {Q : zO → zM → Prop} (M : zM) (u0 : Option zP) (hw : cw M) (k : if (lg_cmp ((gl M 71 2) &&& ((127 : Int32)).toInt64) (0 : Int64)) = 0 then (Z E YX1_nextWith d M (zargs 0 [vr (some (16, 0, 0)), vr (some (74, 4, 0))]) 0 [] (zafter E YX1_binaryOf (d + 1) [] 316 3 [] Q)) else (if (lg_cmp ((gl M 72 2) &&& ((127 : Int32)).toInt64) (0 : Int64)) = 0 then (Z E YX1_nextWith d M (zargs 0 [vr (some (16, 0, 0)), vr (some (74, 4, 0))]) 0 [] (zafter E YX1_binaryOf (d + 1) [] 316 3 [] Q)) else (Z E YX6_join3 d M (zargs 0 [vr (some (74, 4, 0)), vl (0 : Int64), vl (0 : Int64), vl (80 : Int64)]) 0 [] (zafter E YX1_binaryOf (d + 1) [(0, vr (some (16, 0, 0)))] 270 3 [] Q)))) : Z E YX1_binaryOf (d + 1) M [(0, vr (some (16, 0, 0)))] 236 [vr u0] Q := by
  refine sX1_binaryOf_236 (d := d) M u0 hw ?_
  refine sX6_has_0 (d := d) M 71 (127 : Int32) ?_
  refine zite k (fun h25966 k => ?_) (fun h25966 k => ?_)
  · show Z E YX1_binaryOf (d + 1) M [(0, vr (some (16, 0, 0)))] 246 [vi (0 : Int32)] Q
    refine sX1_binaryOf_246 (d := d) M (0 : Int32) hw ?_
    refine zpos (show (0 : Int32) = 0 from by decide) ?_
    exact k
  · show Z E YX1_binaryOf (d + 1) M [(0, vr (some (16, 0, 0)))] 246 [vi (1 : Int32)] Q
    refine sX1_binaryOf_246 (d := d) M (1 : Int32) hw ?_
    refine zneg (show ¬ ((1 : Int32) = 0) from by decide) ?_
    refine sX6_has_0 (d := d) M 72 (127 : Int32) ?_
    refine zite k (fun h25967 k => ?_) (fun h25967 k => ?_)
    · show Z E YX1_binaryOf (d + 1) M [(0, vr (some (16, 0, 0)))] 258 [vi (0 : Int32)] Q
      refine sX1_binaryOf_258 (d := d) M (0 : Int32) hw ?_
      refine zpos (show (0 : Int32) = 0 from by decide) ?_
      exact k
    · show Z E YX1_binaryOf (d + 1) M [(0, vr (some (16, 0, 0)))] 258 [vi (1 : Int32)] Q
      refine sX1_binaryOf_258 (d := d) M (1 : Int32) hw ?_
      refine zneg (show ¬ ((1 : Int32) = 0) from by decide) ?_
      exact k
theorem iX1_binaryOf_185 {E : zE} {d : Nat} {Q : zO → zM → Prop} (M : zM) (s0 : Int32) (s1 : Int32) (hw : cw M) (k : if (lg_cmp ((gl M 71 2) &&& ((32 : Int32)).toInt64) (0 : Int64)) = 0 then (if (lg_cmp ((gl M 71 2) &&& ((128 : Int32)).toInt64) (0 : Int64)) = 0 then (Z E YX6_sort (d + 1) M (zargs 0 [vr (some (72, 4, 0))]) 0 [] (zafter E YX1_binaryOf ((d + 1) + 1) [(0, vr (some (16, 0, 0)))] 196 3 [vi (0 : Int32), vi s0, vi s1, vr (some (16, 0, 0))] Q)) else (Z E YX6_sort (d + 1) M (zargs 0 [vr (some (72, 4, 0))]) 0 [] (zafter E YX1_binaryOf ((d + 1) + 1) [(0, vr (some (16, 0, 0)))] 196 3 [vi (((zlr (gl M 71 2) (16 : Int32)) &&& (65535 : Int64))).toInt32, vi s0, vi s1, vr (some (16, 0, 0))] Q))) else (∀ x1_v17361v25629v25970 : Int64, x1_v17361v25629v25970 = (zlr (gl M 71 2) (32 : Int32)) → (Z E YX6_sort (d + 1) M (zargs 0 [vr (some (72, 4, 0))]) 0 [] (zafter E YX1_binaryOf ((d + 1) + 1) [(0, vr (some (16, 0, 0)))] 196 3 [vi (x1_v17361v25629v25970).toInt32, vi s0, vi s1, vr (some (16, 0, 0))] Q)))) : Z E YX1_binaryOf (d + 2) M [(0, vr (some (16, 0, 0)))] 185 [vi s0, vi s1, vr (some (16, 0, 0))] Q := by
  refine sX1_binaryOf_185 (d := (d + 1)) M s0 s1 hw ?_
  refine jX6_value (d := d) M 71 ?_
  refine zite k (fun h25968 k => ?_) (fun h25968 k => ?_)
  · refine zite k (fun h25969 k => ?_) (fun h25969 k => ?_)
    · show Z E YX1_binaryOf ((d + 1) + 1) M [(0, vr (some (16, 0, 0)))] 192 [vi (0 : Int32), vi s0, vi s1, vr (some (16, 0, 0))] Q
      refine sX1_binaryOf_192 (d := (d + 1)) M (0 : Int32) s0 s1 hw ?_
      exact k
    · show Z E YX1_binaryOf ((d + 1) + 1) M [(0, vr (some (16, 0, 0)))] 192 [vi (((zlr (gl M 71 2) (16 : Int32)) &&& (65535 : Int64))).toInt32, vi s0, vi s1, vr (some (16, 0, 0))] Q
      refine sX1_binaryOf_192 (d := (d + 1)) M ((((zlr (gl M 71 2) (16 : Int32)) &&& (65535 : Int64))).toInt32) s0 s1 hw ?_
      exact k
  · intro x1_v17361v25629v25970 h25970
    have k := k x1_v17361v25629v25970 h25970
    show Z E YX1_binaryOf ((d + 1) + 1) M [(0, vr (some (16, 0, 0)))] 192 [vi (x1_v17361v25629v25970).toInt32, vi s0, vi s1, vr (some (16, 0, 0))] Q
    refine sX1_binaryOf_192 (d := (d + 1)) M ((x1_v17361v25629v25970).toInt32) s0 s1 hw ?_
    exact k
theorem iX1_binaryOf_100 {E : zE} {d : Nat} {Q : zO → zM → Prop} (M : zM) (s0 : Int32) (hw : cw M) (k : if (lg_cmp ((gl M 71 2) &&& ((32 : Int32)).toInt64) (0 : Int64)) = 0 then (if (lg_cmp ((gl M 71 2) &&& ((128 : Int32)).toInt64) (0 : Int64)) = 0 then (Z E YX1_putValue (d + 1) M (zargs 0 [vr (some (16, 0, 0)), vi s0, vi (0 : Int32)]) 0 [] (zafter E YX1_binaryOf ((d + 1) + 1) [(0, vr (some (16, 0, 0)))] 107 3 [] Q)) else (Z E YX1_putValue (d + 1) M (zargs 0 [vr (some (16, 0, 0)), vi s0, vi (((zlr (gl M 71 2) (16 : Int32)) &&& (65535 : Int64))).toInt32]) 0 [] (zafter E YX1_binaryOf ((d + 1) + 1) [(0, vr (some (16, 0, 0)))] 107 3 [] Q))) else (∀ x1_v17361v25629v25973 : Int64, x1_v17361v25629v25973 = (zlr (gl M 71 2) (32 : Int32)) → (Z E YX1_putValue (d + 1) M (zargs 0 [vr (some (16, 0, 0)), vi s0, vi (x1_v17361v25629v25973).toInt32]) 0 [] (zafter E YX1_binaryOf ((d + 1) + 1) [(0, vr (some (16, 0, 0)))] 107 3 [] Q)))) : Z E YX1_binaryOf (d + 2) M [(0, vr (some (16, 0, 0)))] 100 [vi s0, vr (some (16, 0, 0))] Q := by
  refine sX1_binaryOf_100 (d := (d + 1)) M s0 hw ?_
  refine jX6_value (d := d) M 71 ?_
  refine zite k (fun h25971 k => ?_) (fun h25971 k => ?_)
  · refine zite k (fun h25972 k => ?_) (fun h25972 k => ?_)
    · show Z E YX1_binaryOf ((d + 1) + 1) M [(0, vr (some (16, 0, 0)))] 107 [vi (0 : Int32), vi s0, vr (some (16, 0, 0))] Q
      refine sX1_binaryOf_107 (d := (d + 1)) M (0 : Int32) s0 hw ?_
      exact k
    · show Z E YX1_binaryOf ((d + 1) + 1) M [(0, vr (some (16, 0, 0)))] 107 [vi (((zlr (gl M 71 2) (16 : Int32)) &&& (65535 : Int64))).toInt32, vi s0, vr (some (16, 0, 0))] Q
      refine sX1_binaryOf_107 (d := (d + 1)) M ((((zlr (gl M 71 2) (16 : Int32)) &&& (65535 : Int64))).toInt32) s0 hw ?_
      exact k
  · intro x1_v17361v25629v25973 h25973
    have k := k x1_v17361v25629v25973 h25973
    show Z E YX1_binaryOf ((d + 1) + 1) M [(0, vr (some (16, 0, 0)))] 107 [vi (x1_v17361v25629v25973).toInt32, vi s0, vr (some (16, 0, 0))] Q
    refine sX1_binaryOf_107 (d := (d + 1)) M ((x1_v17361v25629v25973).toInt32) s0 hw ?_
    exact k
theorem iX1_binaryOf_199 {E : zE} {d : Nat} {Q : zO → zM → Prop} (M : zM) (s0 : Int32) (s1 : Int32) (s2 : Int32) (s3 : Int32) (hw : cw M) (k : if (lg_cmp ((gl M 72 2) &&& ((32 : Int32)).toInt64) (0 : Int64)) = 0 then (if (lg_cmp ((gl M 72 2) &&& ((128 : Int32)).toInt64) (0 : Int64)) = 0 then (Z E YX1_binary (d + 1) M (zargs 0 [vr (some (16, 0, 0)), vi s3, vi s2, vi s1, vi s0, vi (0 : Int32)]) 0 [] (zafter E YX1_binaryOf ((d + 1) + 1) [(0, vr (some (16, 0, 0)))] 206 3 [] Q)) else (Z E YX1_binary (d + 1) M (zargs 0 [vr (some (16, 0, 0)), vi s3, vi s2, vi s1, vi s0, vi (((zlr (gl M 72 2) (16 : Int32)) &&& (65535 : Int64))).toInt32]) 0 [] (zafter E YX1_binaryOf ((d + 1) + 1) [(0, vr (some (16, 0, 0)))] 206 3 [] Q))) else (∀ x1_v17361v25629v25976 : Int64, x1_v17361v25629v25976 = (zlr (gl M 72 2) (32 : Int32)) → (Z E YX1_binary (d + 1) M (zargs 0 [vr (some (16, 0, 0)), vi s3, vi s2, vi s1, vi s0, vi (x1_v17361v25629v25976).toInt32]) 0 [] (zafter E YX1_binaryOf ((d + 1) + 1) [(0, vr (some (16, 0, 0)))] 206 3 [] Q)))) : Z E YX1_binaryOf (d + 2) M [(0, vr (some (16, 0, 0)))] 199 [vi s0, vi s1, vi s2, vi s3, vr (some (16, 0, 0))] Q := by
  refine sX1_binaryOf_199 (d := (d + 1)) M s0 s1 s2 s3 hw ?_
  refine jX6_value (d := d) M 72 ?_
  refine zite k (fun h25974 k => ?_) (fun h25974 k => ?_)
  · refine zite k (fun h25975 k => ?_) (fun h25975 k => ?_)
    · show Z E YX1_binaryOf ((d + 1) + 1) M [(0, vr (some (16, 0, 0)))] 206 [vi (0 : Int32), vi s0, vi s1, vi s2, vi s3, vr (some (16, 0, 0))] Q
      refine sX1_binaryOf_206 (d := (d + 1)) M (0 : Int32) s0 s1 s2 s3 hw ?_
      exact k
    · show Z E YX1_binaryOf ((d + 1) + 1) M [(0, vr (some (16, 0, 0)))] 206 [vi (((zlr (gl M 72 2) (16 : Int32)) &&& (65535 : Int64))).toInt32, vi s0, vi s1, vi s2, vi s3, vr (some (16, 0, 0))] Q
      refine sX1_binaryOf_206 (d := (d + 1)) M ((((zlr (gl M 72 2) (16 : Int32)) &&& (65535 : Int64))).toInt32) s0 s1 s2 s3 hw ?_
      exact k
  · intro x1_v17361v25629v25976 h25976
    have k := k x1_v17361v25629v25976 h25976
    show Z E YX1_binaryOf ((d + 1) + 1) M [(0, vr (some (16, 0, 0)))] 206 [vi (x1_v17361v25629v25976).toInt32, vi s0, vi s1, vi s2, vi s3, vr (some (16, 0, 0))] Q
    refine sX1_binaryOf_206 (d := (d + 1)) M ((x1_v17361v25629v25976).toInt32) s0 s1 s2 s3 hw ?_
    exact k
theorem iX1_binaryOf_209 {E : zE} {d : Nat} {Q : zO → zM → Prop} (M : zM) (hw : cw M) (k : if (gi M 16 33) = (5 : Int32) then (∀ x1_v18196v25635v25978 : Int64, x1_v18196v25635v25978 = (zls ((gi M 16 32)).toInt64 (32 : Int32)) → (16 ≤ 74 ∧ (Z E YX1_nextWith (d + 1) (sl (sl (sl M 74 0 (0 : Int64)) 74 1 (0 : Int64)) 74 2 ((32 : Int64) ||| x1_v18196v25635v25978)) (zargs 0 [vr (some (16, 0, 0)), vr (some (74, 4, 0))]) 0 [] (zafter E YX1_binaryOf ((d + 1) + 1) [] 316 3 [] Q)))) else (if (gi M 16 33) = (6 : Int32) then (if (gi M 16 32) = (-1 : Int32) then (16 ≤ 74 ∧ (Z E YX1_nextWith (d + 1) (sl (sl (sl M 74 0 (0 : Int64)) 74 1 (0 : Int64)) 74 2 (256 : Int64)) (zargs 0 [vr (some (16, 0, 0)), vr (some (74, 4, 0))]) 0 [] (zafter E YX1_binaryOf ((d + 1) + 1) [] 316 3 [] Q))) else (16 ≤ 74 ∧ (Z E YX1_nextWith (d + 1) (sl (sl (sl M 74 0 (0 : Int64)) 74 1 (0 : Int64)) 74 2 ((128 : Int64) ||| (zls ((gi M 16 32)).toInt64 (16 : Int32)))) (zargs 0 [vr (some (16, 0, 0)), vr (some (74, 4, 0))]) 0 [] (zafter E YX1_binaryOf ((d + 1) + 1) [] 316 3 [] Q)))) else (16 ≤ 74 ∧ (Z E YX1_nextWith (d + 1) (sl (sl (sl M 74 0 (0 : Int64)) 74 1 (0 : Int64)) 74 2 (zls (1 : Int64) (gi M 16 33))) (zargs 0 [vr (some (16, 0, 0)), vr (some (74, 4, 0))]) 0 [] (zafter E YX1_binaryOf ((d + 1) + 1) [] 316 3 [] Q))))) : Z E YX1_binaryOf (d + 2) M [(0, vr (some (16, 0, 0)))] 209 [] Q := by
  refine sX1_binaryOf_209 (d := (d + 1)) M hw ?_
  refine jX1_fold (d := d) M hw ?_
  refine zite k (fun h25977 k => ?_) (fun h25977 k => ?_)
  · intro x1_v18196v25635v25978 h25978
    have k := k x1_v18196v25635v25978 h25978
    refine zand k (fun h25979 k => ?_)
    show Z E YX1_binaryOf ((d + 1) + 1) (sl (sl (sl M 74 0 (0 : Int64)) 74 1 (0 : Int64)) 74 2 ((32 : Int64) ||| x1_v18196v25635v25978)) [(0, vr (some (16, 0, 0)))] 213 [] Q
    refine sX1_binaryOf_213 (d := (d + 1)) (sl (sl (sl M 74 0 (0 : Int64)) 74 1 (0 : Int64)) 74 2 ((32 : Int64) ||| x1_v18196v25635v25978)) hw ?_
    exact k
  · refine zite k (fun h25980 k => ?_) (fun h25980 k => ?_)
    · refine zite k (fun h25981 k => ?_) (fun h25981 k => ?_)
      · refine zand k (fun h25982 k => ?_)
        show Z E YX1_binaryOf ((d + 1) + 1) (sl (sl (sl M 74 0 (0 : Int64)) 74 1 (0 : Int64)) 74 2 (256 : Int64)) [(0, vr (some (16, 0, 0)))] 213 [] Q
        refine sX1_binaryOf_213 (d := (d + 1)) (sl (sl (sl M 74 0 (0 : Int64)) 74 1 (0 : Int64)) 74 2 (256 : Int64)) hw ?_
        exact k
      · refine zand k (fun h25983 k => ?_)
        show Z E YX1_binaryOf ((d + 1) + 1) (sl (sl (sl M 74 0 (0 : Int64)) 74 1 (0 : Int64)) 74 2 ((128 : Int64) ||| (zls ((gi M 16 32)).toInt64 (16 : Int32)))) [(0, vr (some (16, 0, 0)))] 213 [] Q
        refine sX1_binaryOf_213 (d := (d + 1)) (sl (sl (sl M 74 0 (0 : Int64)) 74 1 (0 : Int64)) 74 2 ((128 : Int64) ||| (zls ((gi M 16 32)).toInt64 (16 : Int32)))) hw ?_
        exact k
    · refine zand k (fun h25984 k => ?_)
      show Z E YX1_binaryOf ((d + 1) + 1) (sl (sl (sl M 74 0 (0 : Int64)) 74 1 (0 : Int64)) 74 2 (zls (1 : Int64) (gi M 16 33))) [(0, vr (some (16, 0, 0)))] 213 [] Q
      refine sX1_binaryOf_213 (d := (d + 1)) (sl (sl (sl M 74 0 (0 : Int64)) 74 1 (0 : Int64)) 74 2 (zls (1 : Int64) (gi M 16 33))) hw ?_
      exact k
theorem iX1_binaryOf_118 {E : zE} {d : Nat} {Q : zO → zM → Prop} (M : zM) (s0 : Int32) (hw : cw M) (k : if (lg_cmp ((gl M 72 2) &&& ((32 : Int32)).toInt64) (0 : Int64)) = 0 then (if (lg_cmp ((gl M 72 2) &&& ((128 : Int32)).toInt64) (0 : Int64)) = 0 then (Z E YX1_putValue (d + 1) M (zargs 0 [vr (some (16, 0, 0)), vi s0, vi (0 : Int32)]) 0 [] (zafter E YX1_binaryOf ((d + 1) + 1) [(0, vr (some (16, 0, 0)))] 125 3 [] Q)) else (Z E YX1_putValue (d + 1) M (zargs 0 [vr (some (16, 0, 0)), vi s0, vi (((zlr (gl M 72 2) (16 : Int32)) &&& (65535 : Int64))).toInt32]) 0 [] (zafter E YX1_binaryOf ((d + 1) + 1) [(0, vr (some (16, 0, 0)))] 125 3 [] Q))) else (∀ x1_v17361v25629v25987 : Int64, x1_v17361v25629v25987 = (zlr (gl M 72 2) (32 : Int32)) → (Z E YX1_putValue (d + 1) M (zargs 0 [vr (some (16, 0, 0)), vi s0, vi (x1_v17361v25629v25987).toInt32]) 0 [] (zafter E YX1_binaryOf ((d + 1) + 1) [(0, vr (some (16, 0, 0)))] 125 3 [] Q)))) : Z E YX1_binaryOf (d + 2) M [(0, vr (some (16, 0, 0)))] 118 [vi s0, vr (some (16, 0, 0))] Q := by
  refine sX1_binaryOf_118 (d := (d + 1)) M s0 hw ?_
  refine jX6_value (d := d) M 72 ?_
  refine zite k (fun h25985 k => ?_) (fun h25985 k => ?_)
  · refine zite k (fun h25986 k => ?_) (fun h25986 k => ?_)
    · show Z E YX1_binaryOf ((d + 1) + 1) M [(0, vr (some (16, 0, 0)))] 125 [vi (0 : Int32), vi s0, vr (some (16, 0, 0))] Q
      refine sX1_binaryOf_125 (d := (d + 1)) M (0 : Int32) s0 hw ?_
      exact k
    · show Z E YX1_binaryOf ((d + 1) + 1) M [(0, vr (some (16, 0, 0)))] 125 [vi (((zlr (gl M 72 2) (16 : Int32)) &&& (65535 : Int64))).toInt32, vi s0, vr (some (16, 0, 0))] Q
      refine sX1_binaryOf_125 (d := (d + 1)) M ((((zlr (gl M 72 2) (16 : Int32)) &&& (65535 : Int64))).toInt32) s0 hw ?_
      exact k
  · intro x1_v17361v25629v25987 h25987
    have k := k x1_v17361v25629v25987 h25987
    show Z E YX1_binaryOf ((d + 1) + 1) M [(0, vr (some (16, 0, 0)))] 125 [vi (x1_v17361v25629v25987).toInt32, vi s0, vr (some (16, 0, 0))] Q
    refine sX1_binaryOf_125 (d := (d + 1)) M ((x1_v17361v25629v25987).toInt32) s0 hw ?_
    exact k
theorem iX1_binaryOf_128 {E : zE} {d : Nat} {Q : zO → zM → Prop} (M : zM) (hw : cw M) (k : if (60 : Int32) < (gi M 16 3) then (Z E YX2_find d M (zargs 0 [vr (some (17, 2, 0)), vr (some (20, 101, 256)), vi (60 : Int32)]) 0 [] (zafter E YX1_binaryOf (d + 1) [(0, vr (some (16, 0, 0)))] 145 3 [] Q)) else (Z E YX2_find d M (zargs 0 [vr (some (17, 2, 0)), vr (some (20, 101, 256)), vi (gi M 16 3)]) 0 [] (zafter E YX1_binaryOf (d + 1) [(0, vr (some (16, 0, 0)))] 145 3 [] Q))) : Z E YX1_binaryOf (d + 1) M [(0, vr (some (16, 0, 0)))] 128 [] Q := by
  refine sX1_binaryOf_128 (d := d) M hw ?_
  refine sJ11_min_0 (d := d) M (gi M 16 3) (60 : Int32) ?_
  refine zite k (fun h25988 k => ?_) (fun h25988 k => ?_)
  · show Z E YX1_binaryOf (d + 1) M [(0, vr (some (16, 0, 0)))] 145 [vi (60 : Int32), vr (some (20, 101, 256)), vr (some (17, 2, 0))] Q
    refine sX1_binaryOf_145 (d := d) M (60 : Int32) hw ?_
    exact k
  · show Z E YX1_binaryOf (d + 1) M [(0, vr (some (16, 0, 0)))] 145 [vi (gi M 16 3), vr (some (20, 101, 256)), vr (some (17, 2, 0))] Q
    refine sX1_binaryOf_145 (d := d) M (gi M 16 3) hw ?_
    exact k
theorem iX1_binaryOf_148 {E : zE} {d : Nat} {Q : zO → zM → Prop} (M : zM) (s0 : Int32) (hw : cw M) (k : if (gi M 16 1) ≤ s0 then (16 ≤ 74 ∧ (Z E YX1_nextWith d (sl (sl (sl M 74 0 (0 : Int64)) 74 1 (0 : Int64)) 74 2 (256 : Int64)) (zargs 0 [vr (some (16, 0, 0)), vr (some (74, 4, 0))]) 0 [] (zafter E YX1_binaryOf (d + 1) [] 316 3 [] Q))) else (if s0 = (-1 : Int32) then (16 ≤ 74 ∧ (Z E YX1_nextWith d (sl (sl (sl M 74 0 (0 : Int64)) 74 1 (0 : Int64)) 74 2 (256 : Int64)) (zargs 0 [vr (some (16, 0, 0)), vr (some (74, 4, 0))]) 0 [] (zafter E YX1_binaryOf (d + 1) [] 316 3 [] Q))) else (16 ≤ 74 ∧ (Z E YX1_nextWith d (sl (sl (sl M 74 0 (0 : Int64)) 74 1 (0 : Int64)) 74 2 ((128 : Int64) ||| (zls (s0).toInt64 (16 : Int32)))) (zargs 0 [vr (some (16, 0, 0)), vr (some (74, 4, 0))]) 0 [] (zafter E YX1_binaryOf (d + 1) [] 316 3 [] Q))))) : Z E YX1_binaryOf (d + 1) M [(0, vr (some (16, 0, 0)))] 148 [vi s0] Q := by
  refine sX1_binaryOf_148 (d := d) M s0 hw ?_
  refine zite k (fun h25989 k => ?_) (fun h25989 k => ?_)
  · refine sX1_textSet_0 (d := d) M (-1 : Int32) hw ?_
    refine zpos (show (-1 : Int32) = (-1 : Int32) from by decide) ?_
    show Z E YX1_binaryOf (d + 1) M [(0, vr (some (16, 0, 0)))] 169 [vl (256 : Int64), vr (some (74, 4, 0))] Q
    refine sX1_binaryOf_169 (d := d) M (256 : Int64) hw ?_
    refine jX6_of (d := d) M 74 (256 : Int64) ?_
    refine zand k (fun h25990 k => ?_)
    show Z E YX1_binaryOf (d + 1) (sl (sl (sl M 74 0 (0 : Int64)) 74 1 (0 : Int64)) 74 2 (256 : Int64)) [(0, vr (some (16, 0, 0)))] 172 [vr (some (74, 4, 0))] Q
    refine sX1_binaryOf_172 (d := d) (sl (sl (sl M 74 0 (0 : Int64)) 74 1 (0 : Int64)) 74 2 (256 : Int64)) (some (74, 4, 0)) hw ?_
    exact k
  · refine sX1_textSet_0 (d := d) M s0 hw ?_
    refine zite k (fun h25991 k => ?_) (fun h25991 k => ?_)
    · show Z E YX1_binaryOf (d + 1) M [(0, vr (some (16, 0, 0)))] 169 [vl (256 : Int64), vr (some (74, 4, 0))] Q
      refine sX1_binaryOf_169 (d := d) M (256 : Int64) hw ?_
      refine jX6_of (d := d) M 74 (256 : Int64) ?_
      refine zand k (fun h25992 k => ?_)
      show Z E YX1_binaryOf (d + 1) (sl (sl (sl M 74 0 (0 : Int64)) 74 1 (0 : Int64)) 74 2 (256 : Int64)) [(0, vr (some (16, 0, 0)))] 172 [vr (some (74, 4, 0))] Q
      refine sX1_binaryOf_172 (d := d) (sl (sl (sl M 74 0 (0 : Int64)) 74 1 (0 : Int64)) 74 2 (256 : Int64)) (some (74, 4, 0)) hw ?_
      exact k
    · show Z E YX1_binaryOf (d + 1) M [(0, vr (some (16, 0, 0)))] 169 [vl ((128 : Int64) ||| (zls (s0).toInt64 (16 : Int32))), vr (some (74, 4, 0))] Q
      refine sX1_binaryOf_169 (d := d) M ((128 : Int64) ||| (zls (s0).toInt64 (16 : Int32))) hw ?_
      refine jX6_of (d := d) M 74 ((128 : Int64) ||| (zls (s0).toInt64 (16 : Int32))) ?_
      refine zand k (fun h25993 k => ?_)
      show Z E YX1_binaryOf (d + 1) (sl (sl (sl M 74 0 (0 : Int64)) 74 1 (0 : Int64)) 74 2 ((128 : Int64) ||| (zls (s0).toInt64 (16 : Int32)))) [(0, vr (some (16, 0, 0)))] 172 [vr (some (74, 4, 0))] Q
      refine sX1_binaryOf_172 (d := d) (sl (sl (sl M 74 0 (0 : Int64)) 74 1 (0 : Int64)) 74 2 ((128 : Int64) ||| (zls (s0).toInt64 (16 : Int32)))) (some (74, 4, 0)) hw ?_
      exact k
theorem jX6_copy {E : zE} {d : Nat} {Q : zO → zM → Prop} (M : zM) (a0 : Nat) (r1 : Option zP) (k : ∃ b26016 : Nat, r1 = some (b26016, 4, 0) ∧ (16 ≤ a0 ∧ (Q (.inl (some (vr (some (a0, 4, 0))))) (sl (sl (sl M a0 0 (gl M b26016 0)) a0 1 (gl (sl M a0 0 (gl M b26016 0)) b26016 1)) a0 2 (gl (sl (sl M a0 0 (gl M b26016 0)) a0 1 (gl (sl M a0 0 (gl M b26016 0)) b26016 1)) b26016 2))))) : Z E YX6_copy d M [(0, vr (some (a0, 4, 0))), (1, vr r1)] 0 [] Q := by
  refine sX6_copy_0 (d := d) M a0 r1 ?_
  obtain ⟨b26016, h26016, k⟩ := k
  refine ⟨b26016, h26016, ?_⟩
  refine zand k (fun h26017 k => ?_)
  refine ⟨h26017, ?_⟩
  refine ⟨h26017, ?_⟩
  exact k
theorem iX1_callsOf_5 {E : zE} {d : Nat} {Q : zO → zM → Prop} (M : zM) (l1 : Int32) (hw : cw M) (k : ∃ b25994 : Nat, (gr M 16 60) = some (b25994, 7, 0) ∧ (16 ≤ b25994 ∧ (Z E YX43_pop d (si M b25994 13 ((gi M b25994 13) - l1)) (zargs 0 [vr (some (b25994, 7, 0)), vr (some (76, 4, 0))]) 0 [] (zafter E YX1_callsOf (d + 1) [(0, vr (some (16, 0, 0))), (1, vi l1)] 26 3 [] Q)))) : Z E YX1_callsOf (d + 1) M [(0, vr (some (16, 0, 0))), (1, vi l1)] 5 [] Q := by
  refine sX1_callsOf_5 (d := d) M l1 hw ?_
  obtain ⟨b25994, h25994, k⟩ := k
  refine ⟨b25994, h25994, ?_⟩
  refine zand k (fun h25995 k => ?_)
  refine ⟨b25994, h25994, ?_⟩
  exact k
theorem iX1_callsOf_57 {E : zE} {d : Nat} {Q : zO → zM → Prop} (M : zM) (l2 : Int32) (l3 : Int32) (hw : cw M) (k : if (lg_cmp ((gl M 76 2) &&& (511 : Int64)) (0 : Int64)) = 0 then (if (lg_cmp ((gl M 76 0) &&& (((8388096 : Int64) ||| (gl M 16 73)) ^^^ (-1 : Int64))) (0 : Int64)) = 0 then (if (lg_cmp ((gl M 76 1) &&& ((gl M 16 74) ^^^ (-1 : Int64))) (0 : Int64)) = 0 then (Z E YX1_callsOf (d + 1) M [(0, vr (some (16, 0, 0))), (2, vi l2), (3, vi l3), (4, vi (9 : Int32))] 92 [] Q) else (Z E YX1_errs d M (zargs 0 [vr (some (16, 0, 0)), vr (gr M 16 60), vi (0 : Int32)]) 0 [] (zafter E YX1_callsOf (d + 1) [(0, vr (some (16, 0, 0))), (2, vi l2), (3, vi l3)] 85 3 [] Q))) else (Z E YX1_errs d M (zargs 0 [vr (some (16, 0, 0)), vr (gr M 16 60), vi (0 : Int32)]) 0 [] (zafter E YX1_callsOf (d + 1) [(0, vr (some (16, 0, 0))), (2, vi l2), (3, vi l3)] 85 3 [] Q))) else (Z E YX1_errs d M (zargs 0 [vr (some (16, 0, 0)), vr (gr M 16 60), vi (0 : Int32)]) 0 [] (zafter E YX1_callsOf (d + 1) [(0, vr (some (16, 0, 0))), (2, vi l2), (3, vi l3)] 85 3 [] Q))) : Z E YX1_callsOf (d + 1) M [(0, vr (some (16, 0, 0))), (2, vi l2), (3, vi l3)] 57 [] Q := by
  refine sX1_callsOf_57 (d := d) M l2 l3 hw ?_
  refine sX1_natives_0 (d := d) M hw ?_
  show Z E YX1_callsOf (d + 1) M [(0, vr (some (16, 0, 0))), (2, vi l2), (3, vi l3)] 64 [vl (8388096 : Int64), vr (some (76, 4, 0))] Q
  refine sX1_callsOf_64 (d := d) M l2 l3 (8388096 : Int64) hw ?_
  refine sX6_hasOnly_0 (d := d) M 76 ((8388096 : Int64) ||| (gl M 16 73)) (gl M 16 74) ?_
  refine zite k (fun h25998 k => ?_) (fun h25998 k => ?_)
  · refine zite k (fun h25999 k => ?_) (fun h25999 k => ?_)
    · refine zite k (fun h26000 k => ?_) (fun h26000 k => ?_)
      · show Z E YX1_callsOf (d + 1) M [(0, vr (some (16, 0, 0))), (2, vi l2), (3, vi l3)] 76 [vi (1 : Int32)] Q
        refine sX1_callsOf_76 (d := d) M l2 l3 (1 : Int32) hw ?_
        refine zneg (show ¬ ((1 : Int32) = 0) from by decide) ?_
        refine sX1_callsOf_88 (d := d) M l2 l3 hw ?_
        exact k
      · show Z E YX1_callsOf (d + 1) M [(0, vr (some (16, 0, 0))), (2, vi l2), (3, vi l3)] 76 [vi (0 : Int32)] Q
        refine sX1_callsOf_76 (d := d) M l2 l3 (0 : Int32) hw ?_
        refine zpos (show (0 : Int32) = 0 from by decide) ?_
        exact k
    · show Z E YX1_callsOf (d + 1) M [(0, vr (some (16, 0, 0))), (2, vi l2), (3, vi l3)] 76 [vi (0 : Int32)] Q
      refine sX1_callsOf_76 (d := d) M l2 l3 (0 : Int32) hw ?_
      refine zpos (show (0 : Int32) = 0 from by decide) ?_
      exact k
  · show Z E YX1_callsOf (d + 1) M [(0, vr (some (16, 0, 0))), (2, vi l2), (3, vi l3)] 76 [vi (0 : Int32)] Q
    refine sX1_callsOf_76 (d := d) M l2 l3 (0 : Int32) hw ?_
    refine zpos (show (0 : Int32) = 0 from by decide) ?_
    exact k
theorem iX1_callsOf_92 {E : zE} {d : Nat} {Q : zO → zM → Prop} (M : zM) (l2 : Int32) (l3 : Int32) (l4 : Int32) (hw : cw M) (k : if (23 : Int32) ≤ l4 then (Z E YX1_callsOf (d + 1) M [(0, vr (some (16, 0, 0))), (2, vi l2), (3, vi l3), (4, vi (1 : Int32))] 145 [] Q) else (if l4 = (20 : Int32) then (Z E YX1_callsOf (d + 1) M [(0, vr (some (16, 0, 0))), (2, vi l2), (3, vi l3), (4, vi (l4 + (1 : Int32)))] 92 [] Q) else (if (64 : Int32) ≤ l4 then (∀ x1_v16398v26004 : Int64, x1_v16398v26004 = (zls (zlr (gl M 76 1) (l4 - (64 : Int32))) (63 : Int32)) → (if (lg_cmp x1_v16398v26004 (0 : Int64)) = 0 then (Z E YX1_callsOf (d + 1) M [(0, vr (some (16, 0, 0))), (2, vi l2), (3, vi l3), (4, vi (l4 + (1 : Int32)))] 92 [] Q) else (Z E YX1_alone d M (zargs 0 [vr (some (16, 0, 0)), vi l4, vi l2, vi l3]) 0 [] (zafter E YX1_callsOf (d + 1) [(0, vr (some (16, 0, 0))), (2, vi l2), (3, vi l3), (4, vi l4)] 133 3 [] Q)))) else (∀ x1_v16400v26010 : Int64, x1_v16400v26010 = (zls (zlr (gl M 76 0) l4) (63 : Int32)) → (if (lg_cmp x1_v16400v26010 (0 : Int64)) = 0 then (Z E YX1_callsOf (d + 1) M [(0, vr (some (16, 0, 0))), (2, vi l2), (3, vi l3), (4, vi (l4 + (1 : Int32)))] 92 [] Q) else (Z E YX1_alone d M (zargs 0 [vr (some (16, 0, 0)), vi l4, vi l2, vi l3]) 0 [] (zafter E YX1_callsOf (d + 1) [(0, vr (some (16, 0, 0))), (2, vi l2), (3, vi l3), (4, vi l4)] 133 3 [] Q))))))) : Z E YX1_callsOf (d + 1) M [(0, vr (some (16, 0, 0))), (2, vi l2), (3, vi l3), (4, vi l4)] 92 [] Q := by
  refine sX1_callsOf_92 (d := d) M l2 l3 l4 hw ?_
  refine zite k (fun h26001 k => ?_) (fun h26001 k => ?_)
  · exact k
  · refine zite k (fun h26002 k => ?_) (fun h26002 k => ?_)
    · refine sX1_callsOf_136 (d := d) M l2 l3 l4 hw ?_
      exact k
    · refine jX1_in (d := d) M l4 (gl M 76 0) (gl M 76 1) hw ?_
      refine zite k (fun h26003 k => ?_) (fun h26003 k => ?_)
      · intro x1_v16398v26004 h26004
        have k := k x1_v16398v26004 h26004
        refine zite k (fun h26005 k => ?_) (fun h26005 k => ?_)
        · show Z E YX1_callsOf (d + 1) M [(0, vr (some (16, 0, 0))), (2, vi l2), (3, vi l3), (4, vi l4)] 125 [vi (0 : Int32)] Q
          refine sX1_callsOf_125 (d := d) M l2 l3 l4 (0 : Int32) hw ?_
          refine zpos (show (0 : Int32) = 0 from by decide) ?_
          refine sX1_callsOf_136 (d := d) M l2 l3 l4 hw ?_
          exact k
        · show Z E YX1_callsOf (d + 1) M [(0, vr (some (16, 0, 0))), (2, vi l2), (3, vi l3), (4, vi l4)] 125 [vi (1 : Int32)] Q
          refine sX1_callsOf_125 (d := d) M l2 l3 l4 (1 : Int32) hw ?_
          refine zneg (show ¬ ((1 : Int32) = 0) from by decide) ?_
          exact k
      · intro x1_v16400v26010 h26010
        have k := k x1_v16400v26010 h26010
        refine zite k (fun h26011 k => ?_) (fun h26011 k => ?_)
        · show Z E YX1_callsOf (d + 1) M [(0, vr (some (16, 0, 0))), (2, vi l2), (3, vi l3), (4, vi l4)] 125 [vi (0 : Int32)] Q
          refine sX1_callsOf_125 (d := d) M l2 l3 l4 (0 : Int32) hw ?_
          refine zpos (show (0 : Int32) = 0 from by decide) ?_
          refine sX1_callsOf_136 (d := d) M l2 l3 l4 hw ?_
          exact k
        · show Z E YX1_callsOf (d + 1) M [(0, vr (some (16, 0, 0))), (2, vi l2), (3, vi l3), (4, vi l4)] 125 [vi (1 : Int32)] Q
          refine sX1_callsOf_125 (d := d) M l2 l3 l4 (1 : Int32) hw ?_
          refine zneg (show ¬ ((1 : Int32) = 0) from by decide) ?_
          exact k
theorem iX1_callsOf_145 {E : zE} {d : Nat} {Q : zO → zM → Prop} (M : zM) (l2 : Int32) (l3 : Int32) (l4 : Int32) (hw : cw M) (k : ∃ b26012 : Nat, (gr M 16 8) = some (b26012, 11, 0) ∧ (if (gi M b26012 2) ≤ l4 then (∀ x1_v16400v26014 : Int64, x1_v16400v26014 = (zls (zlr (gl M 76 0) (20 : Int32)) (63 : Int32)) → (if (lg_cmp x1_v16400v26014 (0 : Int64)) = 0 then (Q (.inl none) M) else (16 ≤ 76 ∧ (if l3 ≤ 0 then (16 ≤ 77 ∧ (if (0 : Int32) < (l3 - (1 : Int32)) then (Z E YX1_callsOf (d + 1) (sl (sl (sl (sl (sl (sl M 76 0 (gl M 77 0)) 76 1 (gl M 77 1)) 76 2 (gl M 77 2)) 77 0 (0 : Int64)) 77 1 (0 : Int64)) 77 2 (1 : Int64)) [(0, vr (some (16, 0, 0))), (2, vi (l2 + (1 : Int32))), (3, vi (l3 - (1 : Int32)))] 57 [] Q) else (Z E YX1_callsOf (d + 1) (sl (sl (sl (sl (sl (sl M 76 0 (gl M 77 0)) 76 1 (gl M 77 1)) 76 2 (gl M 77 2)) 77 0 (0 : Int64)) 77 1 (0 : Int64)) 77 2 (1 : Int64)) [(0, vr (some (16, 0, 0))), (2, vi (l2 + (1 : Int32))), (3, vi (0 : Int32))] 57 [] Q))) else (vp_in l2 9 ∧ (Z E YX6_copy d (sl (sl (sl M 76 0 (gl M 77 0)) 76 1 (gl M 77 1)) 76 2 (gl M 77 2)) (zargs 0 [vr (some (77, 4, 0)), vr (gr M 78 (l2).toNatClampNeg)]) 0 [] (zafter E YX1_callsOf (d + 1) [(0, vr (some (16, 0, 0))), (2, vi l2), (3, vi l3)] 230 3 [] Q))))))) else (Z E YX1_isOf d M (zargs 0 [vr (some (16, 0, 0)), vi l4]) 0 [] (zafter E YX1_callsOf (d + 1) [(0, vr (some (16, 0, 0))), (2, vi l2), (3, vi l3), (4, vi l4)] 160 3 [] Q)))) : Z E YX1_callsOf (d + 1) M [(0, vr (some (16, 0, 0))), (2, vi l2), (3, vi l3), (4, vi l4)] 145 [] Q := by
  refine sX1_callsOf_145 (d := d) M l2 l3 l4 hw ?_
  obtain ⟨b26012, h26012, k⟩ := k
  refine ⟨b26012, h26012, ?_⟩
  refine sJ2_size_0 (d := d) M b26012 ?_
  show Z E YX1_callsOf (d + 1) M [(0, vr (some (16, 0, 0))), (2, vi l2), (3, vi l3), (4, vi l4)] 154 [vi (gi M b26012 2), vi l4] Q
  refine sX1_callsOf_154 (d := d) M l2 l3 l4 (gi M b26012 2) l4 hw ?_
  refine zite k (fun h26013 k => ?_) (fun h26013 k => ?_)
  · refine jX1_in (d := d) M (20 : Int32) (gl M 76 0) (gl M 76 1) hw ?_
    refine zneg (show ¬ ((64 : Int32) ≤ (20 : Int32)) from by decide) ?_
    intro x1_v16400v26014 h26014
    have k := k x1_v16400v26014 h26014
    refine zite k (fun h26015 k => ?_) (fun h26015 k => ?_)
    · show Z E YX1_callsOf (d + 1) M [(0, vr (some (16, 0, 0))), (2, vi l2), (3, vi l3)] 200 [vi (0 : Int32)] Q
      refine sX1_callsOf_200 (d := d) M l2 l3 (0 : Int32) hw ?_
      refine zpos (show (0 : Int32) = 0 from by decide) ?_
      exact k
    · show Z E YX1_callsOf (d + 1) M [(0, vr (some (16, 0, 0))), (2, vi l2), (3, vi l3)] 200 [vi (1 : Int32)] Q
      refine sX1_callsOf_200 (d := d) M l2 l3 (1 : Int32) hw ?_
      refine zneg (show ¬ ((1 : Int32) = 0) from by decide) ?_
      refine jX6_copy (d := d) M 76 (some (77, 4, 0)) ?_
      refine ⟨77, rfl, ?_⟩
      refine zand k (fun h26018 k => ?_)
      show Z E YX1_callsOf (d + 1) (sl (sl (sl M 76 0 (gl M 77 0)) 76 1 (gl M 77 1)) 76 2 (gl M 77 2)) [(0, vr (some (16, 0, 0))), (2, vi l2), (3, vi l3)] 215 [vr (some (76, 4, 0))] Q
      refine sX1_callsOf_215 (d := d) (sl (sl (sl M 76 0 (gl M 77 0)) 76 1 (gl M 77 1)) 76 2 (gl M 77 2)) l2 l3 (some (76, 4, 0)) hw ?_
      refine zite k (fun h26019 k => ?_) (fun h26019 k => ?_)
      · refine jX6_of (d := d) (sl (sl (sl M 76 0 (gl M 77 0)) 76 1 (gl M 77 1)) 76 2 (gl M 77 2)) 77 (1 : Int64) ?_
        refine zand k (fun h26020 k => ?_)
        show Z E YX1_callsOf (d + 1) (sl (sl (sl (sl (sl (sl M 76 0 (gl M 77 0)) 76 1 (gl M 77 1)) 76 2 (gl M 77 2)) 77 0 (0 : Int64)) 77 1 (0 : Int64)) 77 2 (1 : Int64)) [(0, vr (some (16, 0, 0))), (2, vi l2), (3, vi l3)] 245 [vr (some (77, 4, 0))] Q
        refine sX1_callsOf_245 (d := d) (sl (sl (sl (sl (sl (sl M 76 0 (gl M 77 0)) 76 1 (gl M 77 1)) 76 2 (gl M 77 2)) 77 0 (0 : Int64)) 77 1 (0 : Int64)) 77 2 (1 : Int64)) l2 l3 (some (77, 4, 0)) hw ?_
        refine sJ11_max_0 (d := d) (sl (sl (sl (sl (sl (sl M 76 0 (gl M 77 0)) 76 1 (gl M 77 1)) 76 2 (gl M 77 2)) 77 0 (0 : Int64)) 77 1 (0 : Int64)) 77 2 (1 : Int64)) (0 : Int32) (l3 - (1 : Int32)) ?_
        refine zite k (fun h26021 k => ?_) (fun h26021 k => ?_)
        · show Z E YX1_callsOf (d + 1) (sl (sl (sl (sl (sl (sl M 76 0 (gl M 77 0)) 76 1 (gl M 77 1)) 76 2 (gl M 77 2)) 77 0 (0 : Int64)) 77 1 (0 : Int64)) 77 2 (1 : Int64)) [(0, vr (some (16, 0, 0))), (2, vi (l2 + (1 : Int32)))] 256 [vi (l3 - (1 : Int32))] Q
          refine sX1_callsOf_256 (d := d) (sl (sl (sl (sl (sl (sl M 76 0 (gl M 77 0)) 76 1 (gl M 77 1)) 76 2 (gl M 77 2)) 77 0 (0 : Int64)) 77 1 (0 : Int64)) 77 2 (1 : Int64)) (l2 + (1 : Int32)) (l3 - (1 : Int32)) hw ?_
          exact k
        · show Z E YX1_callsOf (d + 1) (sl (sl (sl (sl (sl (sl M 76 0 (gl M 77 0)) 76 1 (gl M 77 1)) 76 2 (gl M 77 2)) 77 0 (0 : Int64)) 77 1 (0 : Int64)) 77 2 (1 : Int64)) [(0, vr (some (16, 0, 0))), (2, vi (l2 + (1 : Int32)))] 256 [vi (0 : Int32)] Q
          refine sX1_callsOf_256 (d := d) (sl (sl (sl (sl (sl (sl M 76 0 (gl M 77 0)) 76 1 (gl M 77 1)) 76 2 (gl M 77 2)) 77 0 (0 : Int64)) 77 1 (0 : Int64)) 77 2 (1 : Int64)) (l2 + (1 : Int32)) (0 : Int32) hw ?_
          exact k
      · exact k
  · exact k
theorem iX1_callsOf_233 {E : zE} {d : Nat} {Q : zO → zM → Prop} (M : zM) (l2 : Int32) (l3 : Int32) (u0 : Option zP) (hw : cw M) (k : if (0 : Int32) < (l3 - (1 : Int32)) then (Z E YX1_callsOf (d + 1) M [(0, vr (some (16, 0, 0))), (2, vi (l2 + (1 : Int32))), (3, vi (l3 - (1 : Int32)))] 57 [] Q) else (Z E YX1_callsOf (d + 1) M [(0, vr (some (16, 0, 0))), (2, vi (l2 + (1 : Int32))), (3, vi (0 : Int32))] 57 [] Q)) : Z E YX1_callsOf (d + 1) M [(0, vr (some (16, 0, 0))), (2, vi l2), (3, vi l3)] 233 [vr u0] Q := by
  refine sX1_callsOf_233 (d := d) M l2 l3 u0 hw ?_
  refine sJ11_max_0 (d := d) M (0 : Int32) (l3 - (1 : Int32)) ?_
  refine zite k (fun h26040 k => ?_) (fun h26040 k => ?_)
  · show Z E YX1_callsOf (d + 1) M [(0, vr (some (16, 0, 0))), (2, vi (l2 + (1 : Int32)))] 256 [vi (l3 - (1 : Int32))] Q
    refine sX1_callsOf_256 (d := d) M (l2 + (1 : Int32)) (l3 - (1 : Int32)) hw ?_
    exact k
  · show Z E YX1_callsOf (d + 1) M [(0, vr (some (16, 0, 0))), (2, vi (l2 + (1 : Int32)))] 256 [vi (0 : Int32)] Q
    refine sX1_callsOf_256 (d := d) M (l2 + (1 : Int32)) (0 : Int32) hw ?_
    exact k
theorem iX1_callsOf_163 {E : zE} {d : Nat} {Q : zO → zM → Prop} (M : zM) (l2 : Int32) (l3 : Int32) (l4 : Int32) (s0 : Int32) (hw : cw M) (k : if s0 = 0 then (Z E YX1_callsOf (d + 1) M [(0, vr (some (16, 0, 0))), (2, vi l2), (3, vi l3), (4, vi (l4 + (1 : Int32)))] 145 [] Q) else (Z E YX1_enters d M (zargs 0 [vr (some (16, 0, 0)), vi l4, vi l2, vi l3, vi (-1 : Int32)]) 0 [] (zafter E YX1_callsOf (d + 1) [(0, vr (some (16, 0, 0))), (2, vi l2), (3, vi l3), (4, vi l4)] 172 3 [] Q))) : Z E YX1_callsOf (d + 1) M [(0, vr (some (16, 0, 0))), (2, vi l2), (3, vi l3), (4, vi l4)] 163 [vi s0] Q := by
  refine sX1_callsOf_163 (d := d) M l2 l3 l4 s0 hw ?_
  refine zite k (fun h26041 k => ?_) (fun h26041 k => ?_)
  · refine sX1_callsOf_175 (d := d) M l2 l3 l4 hw ?_
    exact k
  · exact k
theorem iX1_enters_8 {E : zE} {d : Nat} {Q : zO → zM → Prop} (M : zM) (l1 : Int32) (l2 : Int32) (l3 : Int32) (l4 : Int32) (u0 : Option zP) (hw : cw M) (k : ∃ b26044 : Nat, u0 = some (b26044, 10, 0) ∧ (Z E YX1_errs d M (zargs 0 [vr (some (16, 0, 0)), vr (gr M 16 60), vi (2 : Int32)]) 0 [] (zafter E YX1_enters (d + 1) [(0, vr (some (16, 0, 0))), (1, vi l1), (2, vi l2), (3, vi l3), (4, vi l4), (5, vr (some (b26044, 10, 0))), (6, vi ((29 : Int32) + ((6 : Int32) * (l1 - (1 : Int32)))))] 26 3 [] Q))) : Z E YX1_enters (d + 1) M [(0, vr (some (16, 0, 0))), (1, vi l1), (2, vi l2), (3, vi l3), (4, vi l4)] 8 [vr u0] Q := by
  refine sX1_enters_8 (d := d) M l1 l2 l3 l4 u0 hw ?_
  obtain ⟨b26044, h26044, k⟩ := k
  refine ⟨b26044, h26044, ?_⟩
  refine sX1_scopePair_0 (d := d) M l1 hw ?_
  show Z E YX1_enters (d + 1) M [(0, vr (some (16, 0, 0))), (1, vi l1), (2, vi l2), (3, vi l3), (4, vi l4), (5, vr (some (b26044, 10, 0)))] 18 [vi ((29 : Int32) + ((6 : Int32) * (l1 - (1 : Int32))))] Q
  refine sX1_enters_18 (d := d) M l1 l2 l3 l4 b26044 ((29 : Int32) + ((6 : Int32) * (l1 - (1 : Int32)))) hw ?_
  exact k
theorem iX1_enters_29 {E : zE} {d : Nat} {Q : zO → zM → Prop} (M : zM) (l1 : Int32) (l2 : Int32) (l3 : Int32) (l4 : Int32) (a5 : Nat) (l6 : Int32) (hw : cw M) (k : vp_in (gi M 16 76) 624 ∧ (∃ b26046 : Nat, (gr M 16 61) = some (b26046, 7, 0) ∧ (Z E YX43_copy d (si M 69 ((gi M 16 76)).toNatClampNeg (vp_nar .short (((gi M 69 ((gi M 16 76)).toNatClampNeg) ||| ((1 : Int32) <<< (l1 &&& 31)))).toInt16.toInt32)) (zargs 0 [vr (some (b26046, 7, 0)), vr (gr M 16 60)]) 0 [] (zafter E YX1_enters (d + 1) [(0, vr (some (16, 0, 0))), (1, vi l1), (2, vi l2), (3, vi l3), (4, vi l4), (5, vr (some (a5, 10, 0))), (6, vi l6)] 53 3 [] Q)))) : Z E YX1_enters (d + 1) M [(0, vr (some (16, 0, 0))), (1, vi l1), (2, vi l2), (3, vi l3), (4, vi l4), (5, vr (some (a5, 10, 0))), (6, vi l6)] 29 [] Q := by
  refine sX1_enters_29 (d := d) M l1 l2 l3 l4 a5 l6 hw ?_
  refine zand k (fun h26045 k => ?_)
  refine ⟨h26045, ?_⟩
  exact k
theorem iX1_enters_56 {E : zE} {d : Nat} {Q : zO → zM → Prop} (M : zM) (l1 : Int32) (l2 : Int32) (l3 : Int32) (l4 : Int32) (a5 : Nat) (l6 : Int32) (hw : cw M) (k : ∃ b26048 : Nat, (gr M 16 60) = some (b26048, 7, 0) ∧ (∃ b26049 m26049 : Nat, (gr M b26048 10) = some (b26049, 105, m26049) ∧ (16 ≤ b26049 ∧ (vp_in (gi M b26048 13) m26049 ∧ (∃ b26052 m26052 : Nat, (gr M b26048 11) = some (b26052, 105, m26052) ∧ (16 ≤ b26052 ∧ (vp_in (gi M b26048 13) m26052 ∧ (16 ≤ b26048 ∧ (∃ b26056 m26056 : Nat, (gr M b26048 12) = some (b26056, 105, m26056) ∧ (16 ≤ b26056 ∧ (vp_in (gi M b26048 13) m26056 ∧ (Z E YX43_push (d + 1) (sl (si (sl (sl M b26049 ((gi M b26048 13)).toNatClampNeg (gl M 77 0)) b26052 ((gi M b26048 13)).toNatClampNeg (gl M 77 1)) b26048 13 ((gi M b26048 13) + (1 : Int32))) b26056 ((gi M b26048 13)).toNatClampNeg ((gl M 77 2) &&& (-513 : Int64))) (zargs 0 [vr (some (b26048, 7, 0)), vr (some (76, 4, 0))]) 0 [] (zafter E YX1_enters ((d + 1) + 1) [(0, vr (some (16, 0, 0))), (1, vi l1), (2, vi l2), (3, vi l3), (4, vi l4), (5, vr (some (a5, 10, 0))), (6, vi l6)] 75 3 [] Q))))))))))))) : Z E YX1_enters (d + 2) M [(0, vr (some (16, 0, 0))), (1, vi l1), (2, vi l2), (3, vi l3), (4, vi l4), (5, vr (some (a5, 10, 0))), (6, vi l6)] 56 [] Q := by
  refine sX1_enters_56 (d := (d + 1)) M l1 l2 l3 l4 a5 l6 hw ?_
  obtain ⟨b26048, h26048, k⟩ := k
  refine ⟨b26048, h26048, ?_⟩
  refine jX43_push (d := d) M b26048 (some (77, 4, 0)) ?_
  refine ⟨77, rfl, ?_⟩
  obtain ⟨b26049, m26049, h26049, k⟩ := k
  refine ⟨b26049, m26049, h26049, ?_⟩
  refine zand k (fun h26050 k => ?_)
  refine zand k (fun h26051 k => ?_)
  obtain ⟨b26052, m26052, h26052, k⟩ := k
  refine ⟨b26052, m26052, h26052, ?_⟩
  refine zand k (fun h26053 k => ?_)
  refine zand k (fun h26054 k => ?_)
  refine zand k (fun h26055 k => ?_)
  obtain ⟨b26056, m26056, h26056, k⟩ := k
  refine ⟨b26056, m26056, h26056, ?_⟩
  refine zand k (fun h26057 k => ?_)
  refine zand k (fun h26058 k => ?_)
  show Z E YX1_enters ((d + 1) + 1) (sl (si (sl (sl M b26049 ((gi M b26048 13)).toNatClampNeg (gl M 77 0)) b26052 ((gi M b26048 13)).toNatClampNeg (gl M 77 1)) b26048 13 ((gi M b26048 13) + (1 : Int32))) b26056 ((gi M b26048 13)).toNatClampNeg ((gl M 77 2) &&& (-513 : Int64))) [(0, vr (some (16, 0, 0))), (1, vi l1), (2, vi l2), (3, vi l3), (4, vi l4), (5, vr (some (a5, 10, 0))), (6, vi l6)] 67 [] Q
  refine sX1_enters_67 (d := (d + 1)) (sl (si (sl (sl M b26049 ((gi M b26048 13)).toNatClampNeg (gl M 77 0)) b26052 ((gi M b26048 13)).toNatClampNeg (gl M 77 1)) b26048 13 ((gi M b26048 13) + (1 : Int32))) b26056 ((gi M b26048 13)).toNatClampNeg ((gl M 77 2) &&& (-513 : Int64))) l1 l2 l3 l4 _ l6 hw ?_
  refine ⟨b26048, h26048, ?_⟩
  exact k
theorem iX1_enters_81 {E : zE} {d : Nat} {Q : zO → zM → Prop} (M : zM) (l1 : Int32) (l2 : Int32) (l3 : Int32) (l4 : Int32) (a5 : Nat) (l6 : Int32) (l7 : Int32) (hw : cw M) (k : if l3 ≤ l7 then (∃ b26067 : Nat, (gr M 16 60) = some (b26067, 7, 0) ∧ (Z E YX43_make (d + 1) M (zargs 0 [vr (some (b26067, 7, 0)), vi l6, vi (-1 : Int32)]) 0 [] (zafter E YX1_enters ((d + 1) + 1) [(0, vr (some (16, 0, 0))), (1, vi l1), (3, vi l3), (4, vi l4), (5, vr (some (a5, 10, 0))), (6, vi l6)] 116 3 [] Q))) else (vp_in (l2 + l7) 9 ∧ (∃ b26069 : Nat, (gr M 16 60) = some (b26069, 7, 0) ∧ (∃ b26070 : Nat, (gr M 78 ((l2 + l7)).toNatClampNeg) = some (b26070, 4, 0) ∧ (∃ b26071 m26071 : Nat, (gr M b26069 10) = some (b26071, 105, m26071) ∧ (16 ≤ b26071 ∧ (vp_in (gi M b26069 13) m26071 ∧ (∃ b26074 m26074 : Nat, (gr M b26069 11) = some (b26074, 105, m26074) ∧ (16 ≤ b26074 ∧ (vp_in (gi M b26069 13) m26074 ∧ (16 ≤ b26069 ∧ (∃ b26078 m26078 : Nat, (gr M b26069 12) = some (b26078, 105, m26078) ∧ (16 ≤ b26078 ∧ (vp_in (gi M b26069 13) m26078 ∧ (Z E YX1_enters ((d + 1) + 1) (sl (si (sl (sl M b26071 ((gi M b26069 13)).toNatClampNeg (gl M b26070 0)) b26074 ((gi M b26069 13)).toNatClampNeg (gl M b26070 1)) b26069 13 ((gi M b26069 13) + (1 : Int32))) b26078 ((gi M b26069 13)).toNatClampNeg ((gl M b26070 2) &&& (-513 : Int64))) [(0, vr (some (16, 0, 0))), (1, vi l1), (2, vi l2), (3, vi l3), (4, vi l4), (5, vr (some (a5, 10, 0))), (6, vi l6), (7, vi (l7 + (1 : Int32)))] 81 [] Q))))))))))))))) : Z E YX1_enters (d + 2) M [(0, vr (some (16, 0, 0))), (1, vi l1), (2, vi l2), (3, vi l3), (4, vi l4), (5, vr (some (a5, 10, 0))), (6, vi l6), (7, vi l7)] 81 [] Q := by
  refine sX1_enters_81 (d := (d + 1)) M l1 l2 l3 l4 a5 l6 l7 hw ?_
  refine zite k (fun h26066 k => ?_) (fun h26066 k => ?_)
  · exact k
  · refine zand k (fun h26068 k => ?_)
    obtain ⟨b26069, h26069, k⟩ := k
    refine ⟨b26069, h26069, ?_⟩
    refine jX43_push (d := d) M b26069 (gr M 78 ((l2 + l7)).toNatClampNeg) ?_
    obtain ⟨b26070, h26070, k⟩ := k
    refine ⟨b26070, h26070, ?_⟩
    obtain ⟨b26071, m26071, h26071, k⟩ := k
    refine ⟨b26071, m26071, h26071, ?_⟩
    refine zand k (fun h26072 k => ?_)
    refine zand k (fun h26073 k => ?_)
    obtain ⟨b26074, m26074, h26074, k⟩ := k
    refine ⟨b26074, m26074, h26074, ?_⟩
    refine zand k (fun h26075 k => ?_)
    refine zand k (fun h26076 k => ?_)
    refine zand k (fun h26077 k => ?_)
    obtain ⟨b26078, m26078, h26078, k⟩ := k
    refine ⟨b26078, m26078, h26078, ?_⟩
    refine zand k (fun h26079 k => ?_)
    refine zand k (fun h26080 k => ?_)
    show Z E YX1_enters ((d + 1) + 1) (sl (si (sl (sl M b26071 ((gi M b26069 13)).toNatClampNeg (gl M b26070 0)) b26074 ((gi M b26069 13)).toNatClampNeg (gl M b26070 1)) b26069 13 ((gi M b26069 13) + (1 : Int32))) b26078 ((gi M b26069 13)).toNatClampNeg ((gl M b26070 2) &&& (-513 : Int64))) [(0, vr (some (16, 0, 0))), (1, vi l1), (2, vi l2), (3, vi l3), (4, vi l4), (5, vr (some (a5, 10, 0))), (6, vi l6), (7, vi l7)] 103 [] Q
    refine sX1_enters_103 (d := (d + 1)) (sl (si (sl (sl M b26071 ((gi M b26069 13)).toNatClampNeg (gl M b26070 0)) b26074 ((gi M b26069 13)).toNatClampNeg (gl M b26070 1)) b26069 13 ((gi M b26069 13) + (1 : Int32))) b26078 ((gi M b26069 13)).toNatClampNeg ((gl M b26070 2) &&& (-513 : Int64))) l1 l2 l3 l4 _ l6 l7 hw ?_
    exact k
theorem iX1_enters_119 {E : zE} {d : Nat} {Q : zO → zM → Prop} (M : zM) (l1 : Int32) (l3 : Int32) (l4 : Int32) (a5 : Nat) (l6 : Int32) (hw : cw M) (k : ∃ b26081 : Nat, (gr M 16 60) = some (b26081, 7, 0) ∧ (∃ b26082 m26082 : Nat, (gr M b26081 9) = some (b26082, 104, m26082) ∧ (16 ≤ b26082 ∧ (vp_in l6 m26082 ∧ (Z E YX1_enters (d + 1) (si M b26082 (l6).toNatClampNeg (vp_nar .boolean (1 : Int32))) [(0, vr (some (16, 0, 0))), (1, vi l1), (3, vi l3), (4, vi l4), (5, vr (some (a5, 10, 0))), (6, vi l6), (7, vi ((gi (si M b26082 (l6).toNatClampNeg (vp_nar .boolean (1 : Int32))) b26081 13) - l3)), (8, vi (0 : Int32))] 144 [] Q))))) : Z E YX1_enters (d + 1) M [(0, vr (some (16, 0, 0))), (1, vi l1), (3, vi l3), (4, vi l4), (5, vr (some (a5, 10, 0))), (6, vi l6)] 119 [] Q := by
  refine sX1_enters_119 (d := d) M l1 l3 l4 a5 l6 hw ?_
  obtain ⟨b26081, h26081, k⟩ := k
  refine ⟨b26081, h26081, ?_⟩
  obtain ⟨b26082, m26082, h26082, k⟩ := k
  refine ⟨b26082, m26082, h26082, ?_⟩
  refine zand k (fun h26083 k => ?_)
  refine zand k (fun h26084 k => ?_)
  refine ⟨b26081, h26081, ?_⟩
  exact k
theorem iX1_enters_144 {E : zE} {d : Nat} {Q : zO → zM → Prop} (M : zM) (l1 : Int32) (l3 : Int32) (l4 : Int32) (a5 : Nat) (l6 : Int32) (l7 : Int32) (l8 : Int32) (hw : cw M) (k : if (gi M a5 5) ≤ l8 then (∃ b26086 : Nat, (gr M 16 60) = some (b26086, 7, 0) ∧ (∃ b26087 m26087 : Nat, (gr M b26086 10) = some (b26087, 105, m26087) ∧ (vp_in (l7 - (1 : Int32)) m26087 ∧ (16 ≤ 71 ∧ (∃ b26090 m26090 : Nat, (gr M b26086 11) = some (b26090, 105, m26090) ∧ (vp_in (l7 - (1 : Int32)) m26090 ∧ (∃ b26092 m26092 : Nat, (gr M b26086 12) = some (b26092, 105, m26092) ∧ (vp_in (l7 - (1 : Int32)) m26092 ∧ (Z E YX1_onlyOf d (sl (sl (sl M 71 0 (gl M b26087 ((l7 - (1 : Int32))).toNatClampNeg)) 71 1 (gl (sl M 71 0 (gl M b26087 ((l7 - (1 : Int32))).toNatClampNeg)) b26090 ((l7 - (1 : Int32))).toNatClampNeg)) 71 2 (gl (sl (sl M 71 0 (gl M b26087 ((l7 - (1 : Int32))).toNatClampNeg)) 71 1 (gl (sl M 71 0 (gl M b26087 ((l7 - (1 : Int32))).toNatClampNeg)) b26090 ((l7 - (1 : Int32))).toNatClampNeg)) b26092 ((l7 - (1 : Int32))).toNatClampNeg)) (zargs 0 [vr (some (71, 4, 0)), vi (l6 + (2 : Int32))]) 0 [] (zafter E YX1_enters (d + 1) [(0, vr (some (16, 0, 0))), (1, vi l1), (4, vi l4), (5, vr (some (a5, 10, 0))), (6, vi l6), (7, vi l7)] 331 3 [] Q)))))))))) else (if (gi M a5 6) ≤ l8 then (Z E YX1_enters (d + 1) M [(0, vr (some (16, 0, 0))), (1, vi l1), (3, vi l3), (4, vi l4), (5, vr (some (a5, 10, 0))), (6, vi l6), (7, vi l7), (8, vi l8)] 181 [] Q) else (∃ b26137 : Nat, (gr M 16 60) = some (b26137, 7, 0) ∧ (∃ b26138 m26138 : Nat, (gr M b26137 10) = some (b26138, 105, m26138) ∧ (vp_in (l7 + l8) m26138 ∧ (16 ≤ 71 ∧ (∃ b26141 m26141 : Nat, (gr M b26137 11) = some (b26141, 105, m26141) ∧ (vp_in (l7 + l8) m26141 ∧ (∃ b26143 m26143 : Nat, (gr M b26137 12) = some (b26143, 105, m26143) ∧ (vp_in (l7 + l8) m26143 ∧ (Z E YX1_enters (d + 1) (sl (sl (sl M 71 0 (gl M b26138 ((l7 + l8)).toNatClampNeg)) 71 1 (gl (sl M 71 0 (gl M b26138 ((l7 + l8)).toNatClampNeg)) b26141 ((l7 + l8)).toNatClampNeg)) 71 2 (gl (sl (sl M 71 0 (gl M b26138 ((l7 + l8)).toNatClampNeg)) 71 1 (gl (sl M 71 0 (gl M b26138 ((l7 + l8)).toNatClampNeg)) b26141 ((l7 + l8)).toNatClampNeg)) b26143 ((l7 + l8)).toNatClampNeg)) [(0, vr (some (16, 0, 0))), (1, vi l1), (3, vi l3), (4, vi l4), (5, vr (some (a5, 10, 0))), (6, vi l6), (7, vi l7), (8, vi l8)] 181 [] Q))))))))))) : Z E YX1_enters (d + 1) M [(0, vr (some (16, 0, 0))), (1, vi l1), (3, vi l3), (4, vi l4), (5, vr (some (a5, 10, 0))), (6, vi l6), (7, vi l7), (8, vi l8)] 144 [] Q := by
  refine sX1_enters_144 (d := d) M l1 l3 l4 a5 l6 l7 l8 hw ?_
  refine zite k (fun h26085 k => ?_) (fun h26085 k => ?_)
  · obtain ⟨b26086, h26086, k⟩ := k
    refine ⟨b26086, h26086, ?_⟩
    refine jX43_at (d := d) M b26086 (l7 - (1 : Int32)) (some (71, 4, 0)) ?_
    obtain ⟨b26087, m26087, h26087, k⟩ := k
    refine ⟨b26087, m26087, h26087, ?_⟩
    refine zand k (fun h26088 k => ?_)
    refine ⟨71, rfl, ?_⟩
    refine zand k (fun h26089 k => ?_)
    obtain ⟨b26090, m26090, h26090, k⟩ := k
    refine ⟨b26090, m26090, h26090, ?_⟩
    refine zand k (fun h26091 k => ?_)
    obtain ⟨b26092, m26092, h26092, k⟩ := k
    refine ⟨b26092, m26092, h26092, ?_⟩
    refine zand k (fun h26093 k => ?_)
    show Z E YX1_enters (d + 1) (sl (sl (sl M 71 0 (gl M b26087 ((l7 - (1 : Int32))).toNatClampNeg)) 71 1 (gl (sl M 71 0 (gl M b26087 ((l7 - (1 : Int32))).toNatClampNeg)) b26090 ((l7 - (1 : Int32))).toNatClampNeg)) 71 2 (gl (sl (sl M 71 0 (gl M b26087 ((l7 - (1 : Int32))).toNatClampNeg)) 71 1 (gl (sl M 71 0 (gl M b26087 ((l7 - (1 : Int32))).toNatClampNeg)) b26090 ((l7 - (1 : Int32))).toNatClampNeg)) b26092 ((l7 - (1 : Int32))).toNatClampNeg)) [(0, vr (some (16, 0, 0))), (1, vi l1), (4, vi l4), (5, vr (some (a5, 10, 0))), (6, vi l6), (7, vi l7)] 322 [vr (some (71, 4, 0))] Q
    refine sX1_enters_322 (d := d) (sl (sl (sl M 71 0 (gl M b26087 ((l7 - (1 : Int32))).toNatClampNeg)) 71 1 (gl (sl M 71 0 (gl M b26087 ((l7 - (1 : Int32))).toNatClampNeg)) b26090 ((l7 - (1 : Int32))).toNatClampNeg)) 71 2 (gl (sl (sl M 71 0 (gl M b26087 ((l7 - (1 : Int32))).toNatClampNeg)) 71 1 (gl (sl M 71 0 (gl M b26087 ((l7 - (1 : Int32))).toNatClampNeg)) b26090 ((l7 - (1 : Int32))).toNatClampNeg)) b26092 ((l7 - (1 : Int32))).toNatClampNeg)) l1 l4 _ l6 l7 (some (71, 4, 0)) hw ?_
    exact k
  · refine zite k (fun h26136 k => ?_) (fun h26136 k => ?_)
    · exact k
    · obtain ⟨b26137, h26137, k⟩ := k
      refine ⟨b26137, h26137, ?_⟩
      refine jX43_at (d := d) M b26137 (l7 + l8) (some (71, 4, 0)) ?_
      obtain ⟨b26138, m26138, h26138, k⟩ := k
      refine ⟨b26138, m26138, h26138, ?_⟩
      refine zand k (fun h26139 k => ?_)
      refine ⟨71, rfl, ?_⟩
      refine zand k (fun h26140 k => ?_)
      obtain ⟨b26141, m26141, h26141, k⟩ := k
      refine ⟨b26141, m26141, h26141, ?_⟩
      refine zand k (fun h26142 k => ?_)
      obtain ⟨b26143, m26143, h26143, k⟩ := k
      refine ⟨b26143, m26143, h26143, ?_⟩
      refine zand k (fun h26144 k => ?_)
      show Z E YX1_enters (d + 1) (sl (sl (sl M 71 0 (gl M b26138 ((l7 + l8)).toNatClampNeg)) 71 1 (gl (sl M 71 0 (gl M b26138 ((l7 + l8)).toNatClampNeg)) b26141 ((l7 + l8)).toNatClampNeg)) 71 2 (gl (sl (sl M 71 0 (gl M b26138 ((l7 + l8)).toNatClampNeg)) 71 1 (gl (sl M 71 0 (gl M b26138 ((l7 + l8)).toNatClampNeg)) b26141 ((l7 + l8)).toNatClampNeg)) b26143 ((l7 + l8)).toNatClampNeg)) [(0, vr (some (16, 0, 0))), (1, vi l1), (3, vi l3), (4, vi l4), (5, vr (some (a5, 10, 0))), (6, vi l6), (7, vi l7), (8, vi l8)] 180 [vr (some (71, 4, 0))] Q
      refine sX1_enters_180 (d := d) (sl (sl (sl M 71 0 (gl M b26138 ((l7 + l8)).toNatClampNeg)) 71 1 (gl (sl M 71 0 (gl M b26138 ((l7 + l8)).toNatClampNeg)) b26141 ((l7 + l8)).toNatClampNeg)) 71 2 (gl (sl (sl M 71 0 (gl M b26138 ((l7 + l8)).toNatClampNeg)) 71 1 (gl (sl M 71 0 (gl M b26138 ((l7 + l8)).toNatClampNeg)) b26141 ((l7 + l8)).toNatClampNeg)) b26143 ((l7 + l8)).toNatClampNeg)) l1 l3 l4 _ l6 l7 l8 (some (71, 4, 0)) hw ?_
      exact k
theorem iX1_enters_181 {E : zE} {d : Nat} {Q : zO → zM → Prop} (M : zM) (l1 : Int32) (l3 : Int32) (l4 : Int32) (a5 : Nat) (l6 : Int32) (l7 : Int32) (l8 : Int32) (hw : cw M) (k : if (gi M a5 6) ≤ l8 then (16 ≤ 71 ∧ (Z E YX1_enters (d + 1) (sl (sl (sl M 71 0 (0 : Int64)) 71 1 (0 : Int64)) 71 2 (1 : Int64)) [(0, vr (some (16, 0, 0))), (1, vi l1), (3, vi l3), (4, vi l4), (5, vr (some (a5, 10, 0))), (6, vi l6), (7, vi l7), (8, vi l8)] 206 [] Q)) else (if l8 < l3 then (Z E YX1_enters (d + 1) M [(0, vr (some (16, 0, 0))), (1, vi l1), (3, vi l3), (4, vi l4), (5, vr (some (a5, 10, 0))), (6, vi l6), (7, vi l7), (8, vi l8)] 206 [] Q) else (16 ≤ 71 ∧ (Z E YX1_enters (d + 1) (sl (sl (sl M 71 0 (0 : Int64)) 71 1 (0 : Int64)) 71 2 (1 : Int64)) [(0, vr (some (16, 0, 0))), (1, vi l1), (3, vi l3), (4, vi l4), (5, vr (some (a5, 10, 0))), (6, vi l6), (7, vi l7), (8, vi l8)] 206 [] Q)))) : Z E YX1_enters (d + 1) M [(0, vr (some (16, 0, 0))), (1, vi l1), (3, vi l3), (4, vi l4), (5, vr (some (a5, 10, 0))), (6, vi l6), (7, vi l7), (8, vi l8)] 181 [] Q := by
  refine sX1_enters_181 (d := d) M l1 l3 l4 a5 l6 l7 l8 hw ?_
  refine zite k (fun h26145 k => ?_) (fun h26145 k => ?_)
  · refine jX6_of (d := d) M 71 (1 : Int64) ?_
    refine zand k (fun h26146 k => ?_)
    show Z E YX1_enters (d + 1) (sl (sl (sl M 71 0 (0 : Int64)) 71 1 (0 : Int64)) 71 2 (1 : Int64)) [(0, vr (some (16, 0, 0))), (1, vi l1), (3, vi l3), (4, vi l4), (5, vr (some (a5, 10, 0))), (6, vi l6), (7, vi l7), (8, vi l8)] 205 [vr (some (71, 4, 0))] Q
    refine sX1_enters_205 (d := d) (sl (sl (sl M 71 0 (0 : Int64)) 71 1 (0 : Int64)) 71 2 (1 : Int64)) l1 l3 l4 _ l6 l7 l8 (some (71, 4, 0)) hw ?_
    exact k
  · refine zite k (fun h26147 k => ?_) (fun h26147 k => ?_)
    · exact k
    · refine jX6_of (d := d) M 71 (1 : Int64) ?_
      refine zand k (fun h26148 k => ?_)
      show Z E YX1_enters (d + 1) (sl (sl (sl M 71 0 (0 : Int64)) 71 1 (0 : Int64)) 71 2 (1 : Int64)) [(0, vr (some (16, 0, 0))), (1, vi l1), (3, vi l3), (4, vi l4), (5, vr (some (a5, 10, 0))), (6, vi l6), (7, vi l7), (8, vi l8)] 205 [vr (some (71, 4, 0))] Q
      refine sX1_enters_205 (d := d) (sl (sl (sl M 71 0 (0 : Int64)) 71 1 (0 : Int64)) 71 2 (1 : Int64)) l1 l3 l4 _ l6 l7 l8 (some (71, 4, 0)) hw ?_
      exact k
theorem iX1_enters_346 {E : zE} {d : Nat} {Q : zO → zM → Prop} (M : zM) (l1 : Int32) (l4 : Int32) (a5 : Nat) (l6 : Int32) (l7 : Int32) (l8 : Int64) (l10 : Int64) (l12 : Int32) (hw : cw M) (k : if (l6 + (4 : Int32)) ≤ l12 then (∃ b26150 : Nat, (gr M 16 60) = some (b26150, 7, 0) ∧ (∃ b26151 m26151 : Nat, (gr M b26150 6) = some (b26151, 105, m26151) ∧ (16 ≤ b26151 ∧ (vp_in l6 m26151 ∧ (∃ b26154 m26154 : Nat, (gr M b26150 7) = some (b26154, 105, m26154) ∧ (16 ≤ b26154 ∧ (vp_in l6 m26154 ∧ (Z E YX43_at d (sl (sl M b26151 (l6).toNatClampNeg l8) b26154 (l6).toNatClampNeg l10) (zargs 0 [vr (some (b26150, 7, 0)), vi (l7 - (2 : Int32)), vr (some (71, 4, 0))]) 0 [] (zafter E YX1_enters (d + 1) [(0, vr (some (16, 0, 0))), (1, vi l1), (4, vi l4), (5, vr (some (a5, 10, 0))), (6, vi l6)] 452 3 [] Q))))))))) else (if (64 : Int32) ≤ l12 then (∀ x1_v16398v26165 : Int64, x1_v16398v26165 = (zls (zlr (gl M 71 1) (l12 - (64 : Int32))) (63 : Int32)) → (if (lg_cmp x1_v16398v26165 (0 : Int64)) = 0 then (Z E YX1_enters (d + 1) M [(0, vr (some (16, 0, 0))), (1, vi l1), (4, vi l4), (5, vr (some (a5, 10, 0))), (6, vi l6), (7, vi l7), (8, vl l8), (10, vl l10), (12, vi (l12 + (1 : Int32)))] 346 [] Q) else (∃ b26167 : Nat, (gr M 16 60) = some (b26167, 7, 0) ∧ (∃ b26168 m26168 : Nat, (gr M b26167 6) = some (b26168, 105, m26168) ∧ (vp_in l12 m26168 ∧ (∃ b26170 m26170 : Nat, (gr M b26167 7) = some (b26170, 105, m26170) ∧ (vp_in l12 m26170 ∧ (Z E YX1_enters (d + 1) M [(0, vr (some (16, 0, 0))), (1, vi l1), (4, vi l4), (5, vr (some (a5, 10, 0))), (6, vi l6), (7, vi l7), (8, vl (l8 ||| (gl M b26168 (l12).toNatClampNeg))), (10, vl (l10 ||| (gl M b26170 (l12).toNatClampNeg))), (12, vi (l12 + (1 : Int32)))] 346 [] Q)))))))) else (∀ x1_v16400v26172 : Int64, x1_v16400v26172 = (zls (zlr (gl M 71 0) l12) (63 : Int32)) → (if (lg_cmp x1_v16400v26172 (0 : Int64)) = 0 then (Z E YX1_enters (d + 1) M [(0, vr (some (16, 0, 0))), (1, vi l1), (4, vi l4), (5, vr (some (a5, 10, 0))), (6, vi l6), (7, vi l7), (8, vl l8), (10, vl l10), (12, vi (l12 + (1 : Int32)))] 346 [] Q) else (∃ b26174 : Nat, (gr M 16 60) = some (b26174, 7, 0) ∧ (∃ b26175 m26175 : Nat, (gr M b26174 6) = some (b26175, 105, m26175) ∧ (vp_in l12 m26175 ∧ (∃ b26177 m26177 : Nat, (gr M b26174 7) = some (b26177, 105, m26177) ∧ (vp_in l12 m26177 ∧ (Z E YX1_enters (d + 1) M [(0, vr (some (16, 0, 0))), (1, vi l1), (4, vi l4), (5, vr (some (a5, 10, 0))), (6, vi l6), (7, vi l7), (8, vl (l8 ||| (gl M b26175 (l12).toNatClampNeg))), (10, vl (l10 ||| (gl M b26177 (l12).toNatClampNeg))), (12, vi (l12 + (1 : Int32)))] 346 [] Q)))))))))) : Z E YX1_enters (d + 1) M [(0, vr (some (16, 0, 0))), (1, vi l1), (4, vi l4), (5, vr (some (a5, 10, 0))), (6, vi l6), (7, vi l7), (8, vl l8), (10, vl l10), (12, vi l12)] 346 [] Q := by
  refine sX1_enters_346 (d := d) M l1 l4 a5 l6 l7 l8 l10 l12 hw ?_
  refine zite k (fun h26149 k => ?_) (fun h26149 k => ?_)
  · obtain ⟨b26150, h26150, k⟩ := k
    refine ⟨b26150, h26150, ?_⟩
    obtain ⟨b26151, m26151, h26151, k⟩ := k
    refine ⟨b26151, m26151, h26151, ?_⟩
    refine zand k (fun h26152 k => ?_)
    refine zand k (fun h26153 k => ?_)
    refine ⟨b26150, h26150, ?_⟩
    obtain ⟨b26154, m26154, h26154, k⟩ := k
    refine ⟨b26154, m26154, h26154, ?_⟩
    refine zand k (fun h26155 k => ?_)
    refine zand k (fun h26156 k => ?_)
    refine ⟨b26150, h26150, ?_⟩
    exact k
  · refine jX1_in (d := d) M l12 (gl M 71 0) (gl M 71 1) hw ?_
    refine zite k (fun h26164 k => ?_) (fun h26164 k => ?_)
    · intro x1_v16398v26165 h26165
      have k := k x1_v16398v26165 h26165
      refine zite k (fun h26166 k => ?_) (fun h26166 k => ?_)
      · show Z E YX1_enters (d + 1) M [(0, vr (some (16, 0, 0))), (1, vi l1), (4, vi l4), (5, vr (some (a5, 10, 0))), (6, vi l6), (7, vi l7), (8, vl l8), (10, vl l10), (12, vi l12)] 374 [vi (0 : Int32)] Q
        refine sX1_enters_374 (d := d) M l1 l4 _ l6 l7 l8 l10 l12 (0 : Int32) hw ?_
        refine zpos (show (0 : Int32) = 0 from by decide) ?_
        exact k
      · show Z E YX1_enters (d + 1) M [(0, vr (some (16, 0, 0))), (1, vi l1), (4, vi l4), (5, vr (some (a5, 10, 0))), (6, vi l6), (7, vi l7), (8, vl l8), (10, vl l10), (12, vi l12)] 374 [vi (1 : Int32)] Q
        refine sX1_enters_374 (d := d) M l1 l4 _ l6 l7 l8 l10 l12 (1 : Int32) hw ?_
        refine zneg (show ¬ ((1 : Int32) = 0) from by decide) ?_
        obtain ⟨b26167, h26167, k⟩ := k
        refine ⟨b26167, h26167, ?_⟩
        obtain ⟨b26168, m26168, h26168, k⟩ := k
        refine ⟨b26168, m26168, h26168, ?_⟩
        refine zand k (fun h26169 k => ?_)
        refine ⟨b26167, h26167, ?_⟩
        exact k
    · intro x1_v16400v26172 h26172
      have k := k x1_v16400v26172 h26172
      refine zite k (fun h26173 k => ?_) (fun h26173 k => ?_)
      · show Z E YX1_enters (d + 1) M [(0, vr (some (16, 0, 0))), (1, vi l1), (4, vi l4), (5, vr (some (a5, 10, 0))), (6, vi l6), (7, vi l7), (8, vl l8), (10, vl l10), (12, vi l12)] 374 [vi (0 : Int32)] Q
        refine sX1_enters_374 (d := d) M l1 l4 _ l6 l7 l8 l10 l12 (0 : Int32) hw ?_
        refine zpos (show (0 : Int32) = 0 from by decide) ?_
        exact k
      · show Z E YX1_enters (d + 1) M [(0, vr (some (16, 0, 0))), (1, vi l1), (4, vi l4), (5, vr (some (a5, 10, 0))), (6, vi l6), (7, vi l7), (8, vl l8), (10, vl l10), (12, vi l12)] 374 [vi (1 : Int32)] Q
        refine sX1_enters_374 (d := d) M l1 l4 _ l6 l7 l8 l10 l12 (1 : Int32) hw ?_
        refine zneg (show ¬ ((1 : Int32) = 0) from by decide) ?_
        obtain ⟨b26174, h26174, k⟩ := k
        refine ⟨b26174, h26174, ?_⟩
        obtain ⟨b26175, m26175, h26175, k⟩ := k
        refine ⟨b26175, m26175, h26175, ?_⟩
        refine zand k (fun h26176 k => ?_)
        refine ⟨b26174, h26174, ?_⟩
        exact k
theorem iX1_enters_455 {E : zE} {d : Nat} {Q : zO → zM → Prop} (M : zM) (l1 : Int32) (l4 : Int32) (a5 : Nat) (l6 : Int32) (u0 : Option zP) (hw : cw M) (k : ∃ b26299 : Nat, (gr M 16 60) = some (b26299, 7, 0) ∧ (16 ≤ b26299 ∧ (if (64 : Int32) ≤ l6 then (Z E YX1_goes d (si (sl (sl (sl (sl (sl M b26299 14 (gl M 71 0)) b26299 15 (gl (sl M b26299 14 (gl M 71 0)) 71 1)) b26299 16 (gl (sl (sl M b26299 14 (gl M 71 0)) b26299 15 (gl (sl M b26299 14 (gl M 71 0)) 71 1)) 71 2)) b26299 17 (0 : Int64)) b26299 18 (zls (1 : Int64) (l6 - (64 : Int32)))) b26299 13 (0 : Int32)) (zargs 0 [vr (some (16, 0, 0)), vi (gi (si (sl (sl (sl (sl (sl M b26299 14 (gl M 71 0)) b26299 15 (gl (sl M b26299 14 (gl M 71 0)) 71 1)) b26299 16 (gl (sl (sl M b26299 14 (gl M 71 0)) b26299 15 (gl (sl M b26299 14 (gl M 71 0)) 71 1)) 71 2)) b26299 17 (0 : Int64)) b26299 18 (zls (1 : Int64) (l6 - (64 : Int32)))) b26299 13 (0 : Int32)) a5 9), vr (gr M 16 60)]) 0 [] (zafter E YX1_enters (d + 1) [(0, vr (some (16, 0, 0))), (1, vi l1), (4, vi l4)] 563 3 [] Q)) else (Z E YX1_goes d (si (sl (sl (sl (sl (sl M b26299 14 (gl M 71 0)) b26299 15 (gl (sl M b26299 14 (gl M 71 0)) 71 1)) b26299 16 (gl (sl (sl M b26299 14 (gl M 71 0)) b26299 15 (gl (sl M b26299 14 (gl M 71 0)) 71 1)) 71 2)) b26299 17 (zls (1 : Int64) l6)) b26299 18 (0 : Int64)) b26299 13 (0 : Int32)) (zargs 0 [vr (some (16, 0, 0)), vi (gi (si (sl (sl (sl (sl (sl M b26299 14 (gl M 71 0)) b26299 15 (gl (sl M b26299 14 (gl M 71 0)) 71 1)) b26299 16 (gl (sl (sl M b26299 14 (gl M 71 0)) b26299 15 (gl (sl M b26299 14 (gl M 71 0)) 71 1)) 71 2)) b26299 17 (zls (1 : Int64) l6)) b26299 18 (0 : Int64)) b26299 13 (0 : Int32)) a5 9), vr (gr M 16 60)]) 0 [] (zafter E YX1_enters (d + 1) [(0, vr (some (16, 0, 0))), (1, vi l1), (4, vi l4)] 563 3 [] Q))))) : Z E YX1_enters (d + 1) M [(0, vr (some (16, 0, 0))), (1, vi l1), (4, vi l4), (5, vr (some (a5, 10, 0))), (6, vi l6)] 455 [vr u0] Q := by
  refine sX1_enters_455 (d := d) M l1 l4 a5 l6 u0 hw ?_
  obtain ⟨b26299, h26299, k⟩ := k
  refine ⟨b26299, h26299, ?_⟩
  refine zand k (fun h26300 k => ?_)
  refine ⟨b26299, h26299, ?_⟩
  refine ⟨h26300, ?_⟩
  refine ⟨b26299, h26299, ?_⟩
  refine ⟨h26300, ?_⟩
  refine zite k (fun h26301 k => ?_) (fun h26301 k => ?_)
  · refine sX1_enters_517 (d := d) (sl (sl (sl M b26299 14 (gl M 71 0)) b26299 15 (gl (sl M b26299 14 (gl M 71 0)) 71 1)) b26299 16 (gl (sl (sl M b26299 14 (gl M 71 0)) b26299 15 (gl (sl M b26299 14 (gl M 71 0)) 71 1)) 71 2)) l1 l4 _ l6 (0 : Int64) (gr M 16 60) hw ?_
    refine ⟨b26299, h26299, ?_⟩
    refine ⟨h26300, ?_⟩
    refine zpos h26301 ?_
    refine sX1_enters_542 (d := d) (sl (sl (sl (sl M b26299 14 (gl M 71 0)) b26299 15 (gl (sl M b26299 14 (gl M 71 0)) 71 1)) b26299 16 (gl (sl (sl M b26299 14 (gl M 71 0)) b26299 15 (gl (sl M b26299 14 (gl M 71 0)) 71 1)) 71 2)) b26299 17 (0 : Int64)) l1 l4 _ (zls (1 : Int64) (l6 - (64 : Int32))) (gr M 16 60) hw ?_
    refine ⟨b26299, h26299, ?_⟩
    refine ⟨h26300, ?_⟩
    refine ⟨b26299, h26299, ?_⟩
    refine ⟨h26300, ?_⟩
    exact k
  · refine sX1_enters_517 (d := d) (sl (sl (sl M b26299 14 (gl M 71 0)) b26299 15 (gl (sl M b26299 14 (gl M 71 0)) 71 1)) b26299 16 (gl (sl (sl M b26299 14 (gl M 71 0)) b26299 15 (gl (sl M b26299 14 (gl M 71 0)) 71 1)) 71 2)) l1 l4 _ l6 (zls (1 : Int64) l6) (gr M 16 60) hw ?_
    refine ⟨b26299, h26299, ?_⟩
    refine ⟨h26300, ?_⟩
    refine zneg h26301 ?_
    refine sX1_enters_542 (d := d) (sl (sl (sl (sl M b26299 14 (gl M 71 0)) b26299 15 (gl (sl M b26299 14 (gl M 71 0)) 71 1)) b26299 16 (gl (sl (sl M b26299 14 (gl M 71 0)) b26299 15 (gl (sl M b26299 14 (gl M 71 0)) 71 1)) 71 2)) b26299 17 (zls (1 : Int64) l6)) l1 l4 _ (0 : Int64) (gr M 16 60) hw ?_
    refine ⟨b26299, h26299, ?_⟩
    refine ⟨h26300, ?_⟩
    refine ⟨b26299, h26299, ?_⟩
    refine ⟨h26300, ?_⟩
    exact k
theorem iX1_enters_259 {E : zE} {d : Nat} {Q : zO → zM → Prop} (M : zM) (l1 : Int32) (l3 : Int32) (l4 : Int32) (a5 : Nat) (l6 : Int32) (l7 : Int32) (l8 : Int32) (hw : cw M) (k : ∃ b26305 m26305 : Nat, (gr M a5 4) = some (b26305, 100, m26305) ∧ (vp_in l8 m26305 ∧ (∃ b26307 : Nat, (gr M 16 60) = some (b26307, 7, 0) ∧ (∃ b26308 : Nat, (gr M b26307 0) = some (b26308, 0, 0) ∧ (∃ b26309 m26309 : Nat, (gr M b26307 1) = some (b26309, 105, m26309) ∧ (16 ≤ b26309 ∧ (vp_in ((l6 * ((gi M b26308 1) + (1 : Int32))) + (gi M b26305 (l8).toNatClampNeg)) m26309 ∧ (∃ b26312 m26312 : Nat, (gr M b26307 2) = some (b26312, 105, m26312) ∧ (16 ≤ b26312 ∧ (vp_in ((l6 * ((gi M b26308 1) + (1 : Int32))) + (gi M b26305 (l8).toNatClampNeg)) m26312 ∧ (∃ b26315 m26315 : Nat, (gr M b26307 3) = some (b26315, 105, m26315) ∧ (16 ≤ b26315 ∧ (vp_in ((l6 * ((gi M b26308 1) + (1 : Int32))) + (gi M b26305 (l8).toNatClampNeg)) m26315 ∧ (Z E YX1_enters ((d + 1) + 1) (sl (sl (sl M b26309 (((l6 * ((gi M b26308 1) + (1 : Int32))) + (gi M b26305 (l8).toNatClampNeg))).toNatClampNeg (gl M 71 0)) b26312 (((l6 * ((gi M b26308 1) + (1 : Int32))) + (gi M b26305 (l8).toNatClampNeg))).toNatClampNeg (gl M 71 1)) b26315 (((l6 * ((gi M b26308 1) + (1 : Int32))) + (gi M b26305 (l8).toNatClampNeg))).toNatClampNeg ((gl M 71 2) &&& (-513 : Int64))) [(0, vr (some (16, 0, 0))), (1, vi l1), (3, vi l3), (4, vi l4), (5, vr (some (a5, 10, 0))), (6, vi l6), (7, vi l7), (8, vi (l8 + (1 : Int32)))] 144 [] Q)))))))))))))) : Z E YX1_enters (d + 2) M [(0, vr (some (16, 0, 0))), (1, vi l1), (3, vi l3), (4, vi l4), (5, vr (some (a5, 10, 0))), (6, vi l6), (7, vi l7), (8, vi l8)] 259 [] Q := by
  refine sX1_enters_259 (d := (d + 1)) M l1 l3 l4 a5 l6 l7 l8 hw ?_
  obtain ⟨b26305, m26305, h26305, k⟩ := k
  refine ⟨b26305, m26305, h26305, ?_⟩
  refine zand k (fun h26306 k => ?_)
  obtain ⟨b26307, h26307, k⟩ := k
  refine ⟨b26307, h26307, ?_⟩
  refine jX43_put (d := d) M b26307 l6 (gi M b26305 (l8).toNatClampNeg) (gl M 71 0) (gl M 71 1) ((gl M 71 2) &&& (-513 : Int64)) ?_
  obtain ⟨b26308, h26308, k⟩ := k
  refine ⟨b26308, h26308, ?_⟩
  obtain ⟨b26309, m26309, h26309, k⟩ := k
  refine ⟨b26309, m26309, h26309, ?_⟩
  refine zand k (fun h26310 k => ?_)
  refine zand k (fun h26311 k => ?_)
  obtain ⟨b26312, m26312, h26312, k⟩ := k
  refine ⟨b26312, m26312, h26312, ?_⟩
  refine zand k (fun h26313 k => ?_)
  refine zand k (fun h26314 k => ?_)
  obtain ⟨b26315, m26315, h26315, k⟩ := k
  refine ⟨b26315, m26315, h26315, ?_⟩
  refine zand k (fun h26316 k => ?_)
  refine zand k (fun h26317 k => ?_)
  show Z E YX1_enters ((d + 1) + 1) (sl (sl (sl M b26309 (((l6 * ((gi M b26308 1) + (1 : Int32))) + (gi M b26305 (l8).toNatClampNeg))).toNatClampNeg (gl M 71 0)) b26312 (((l6 * ((gi M b26308 1) + (1 : Int32))) + (gi M b26305 (l8).toNatClampNeg))).toNatClampNeg (gl M 71 1)) b26315 (((l6 * ((gi M b26308 1) + (1 : Int32))) + (gi M b26305 (l8).toNatClampNeg))).toNatClampNeg ((gl M 71 2) &&& (-513 : Int64))) [(0, vr (some (16, 0, 0))), (1, vi l1), (3, vi l3), (4, vi l4), (5, vr (some (a5, 10, 0))), (6, vi l6), (7, vi l7), (8, vi l8)] 301 [] Q
  refine sX1_enters_301 (d := (d + 1)) (sl (sl (sl M b26309 (((l6 * ((gi M b26308 1) + (1 : Int32))) + (gi M b26305 (l8).toNatClampNeg))).toNatClampNeg (gl M 71 0)) b26312 (((l6 * ((gi M b26308 1) + (1 : Int32))) + (gi M b26305 (l8).toNatClampNeg))).toNatClampNeg (gl M 71 1)) b26315 (((l6 * ((gi M b26308 1) + (1 : Int32))) + (gi M b26305 (l8).toNatClampNeg))).toNatClampNeg ((gl M 71 2) &&& (-513 : Int64))) l1 l3 l4 _ l6 l7 l8 hw ?_
  exact k
theorem iX1_fold_0 {E : zE} {d : Nat} {Q : zO → zM → Prop} (M : zM) (hw : cw M) (k : if (gi M 16 33) = (5 : Int32) then (∀ x1_v18196v26326 : Int64, x1_v18196v26326 = (zls ((gi M 16 32)).toInt64 (32 : Int32)) → (16 ≤ 74 ∧ (Q (.inl none) (sl (sl (sl M 74 0 (0 : Int64)) 74 1 (0 : Int64)) 74 2 ((32 : Int64) ||| x1_v18196v26326))))) else (if (gi M 16 33) = (6 : Int32) then (if (gi M 16 32) = (-1 : Int32) then (16 ≤ 74 ∧ (Q (.inl none) (sl (sl (sl M 74 0 (0 : Int64)) 74 1 (0 : Int64)) 74 2 (256 : Int64)))) else (16 ≤ 74 ∧ (Q (.inl none) (sl (sl (sl M 74 0 (0 : Int64)) 74 1 (0 : Int64)) 74 2 ((128 : Int64) ||| (zls ((gi M 16 32)).toInt64 (16 : Int32))))))) else (16 ≤ 74 ∧ (Q (.inl none) (sl (sl (sl M 74 0 (0 : Int64)) 74 1 (0 : Int64)) 74 2 (zls (1 : Int64) (gi M 16 33))))))) : Z E YX1_fold (d + 1) M [(0, vr (some (16, 0, 0)))] 0 [] Q := by
  refine sX1_fold_0 (d := d) M hw ?_
  refine zite k (fun h26325 k => ?_) (fun h26325 k => ?_)
  · refine sX1_numberSet_0 (d := d) M (gi M 16 32) hw ?_
    intro x1_v18196v26326 h26326
    have k := k x1_v18196v26326 h26326
    show Z E YX1_fold (d + 1) M [] 19 [vl ((32 : Int64) ||| x1_v18196v26326), vr (some (74, 4, 0))] Q
    refine sX1_fold_19 (d := d) M ((32 : Int64) ||| x1_v18196v26326) hw ?_
    refine jX6_of (d := d) M 74 ((32 : Int64) ||| x1_v18196v26326) ?_
    refine zand k (fun h26327 k => ?_)
    show Z E YX1_fold (d + 1) (sl (sl (sl M 74 0 (0 : Int64)) 74 1 (0 : Int64)) 74 2 ((32 : Int64) ||| x1_v18196v26326)) [] 50 [vr (some (74, 4, 0))] Q
    refine sX1_fold_50 (d := d) (sl (sl (sl M 74 0 (0 : Int64)) 74 1 (0 : Int64)) 74 2 ((32 : Int64) ||| x1_v18196v26326)) (some (74, 4, 0)) hw ?_
    exact k
  · refine zite k (fun h26328 k => ?_) (fun h26328 k => ?_)
    · refine sX1_textSet_0 (d := d) M (gi M 16 32) hw ?_
      refine zite k (fun h26329 k => ?_) (fun h26329 k => ?_)
      · show Z E YX1_fold (d + 1) M [] 38 [vl (256 : Int64), vr (some (74, 4, 0))] Q
        refine sX1_fold_38 (d := d) M (256 : Int64) hw ?_
        refine jX6_of (d := d) M 74 (256 : Int64) ?_
        refine zand k (fun h26330 k => ?_)
        show Z E YX1_fold (d + 1) (sl (sl (sl M 74 0 (0 : Int64)) 74 1 (0 : Int64)) 74 2 (256 : Int64)) [] 50 [vr (some (74, 4, 0))] Q
        refine sX1_fold_50 (d := d) (sl (sl (sl M 74 0 (0 : Int64)) 74 1 (0 : Int64)) 74 2 (256 : Int64)) (some (74, 4, 0)) hw ?_
        exact k
      · show Z E YX1_fold (d + 1) M [] 38 [vl ((128 : Int64) ||| (zls ((gi M 16 32)).toInt64 (16 : Int32))), vr (some (74, 4, 0))] Q
        refine sX1_fold_38 (d := d) M ((128 : Int64) ||| (zls ((gi M 16 32)).toInt64 (16 : Int32))) hw ?_
        refine jX6_of (d := d) M 74 ((128 : Int64) ||| (zls ((gi M 16 32)).toInt64 (16 : Int32))) ?_
        refine zand k (fun h26331 k => ?_)
        show Z E YX1_fold (d + 1) (sl (sl (sl M 74 0 (0 : Int64)) 74 1 (0 : Int64)) 74 2 ((128 : Int64) ||| (zls ((gi M 16 32)).toInt64 (16 : Int32)))) [] 50 [vr (some (74, 4, 0))] Q
        refine sX1_fold_50 (d := d) (sl (sl (sl M 74 0 (0 : Int64)) 74 1 (0 : Int64)) 74 2 ((128 : Int64) ||| (zls ((gi M 16 32)).toInt64 (16 : Int32)))) (some (74, 4, 0)) hw ?_
        exact k
    · refine jX6_of (d := d) M 74 (zls (1 : Int64) (gi M 16 33)) ?_
      refine zand k (fun h26332 k => ?_)
      show Z E YX1_fold (d + 1) (sl (sl (sl M 74 0 (0 : Int64)) 74 1 (0 : Int64)) 74 2 (zls (1 : Int64) (gi M 16 33))) [] 50 [vr (some (74, 4, 0))] Q
      refine sX1_fold_50 (d := d) (sl (sl (sl M 74 0 (0 : Int64)) 74 1 (0 : Int64)) 74 2 (zls (1 : Int64) (gi M 16 33))) (some (74, 4, 0)) hw ?_
      exact k
theorem iX1_goesOn_81 {E : zE} {d : Nat} {Q : zO → zM → Prop} (M : zM) (hw : cw M) (k : Q (.inl none) M) : Z E YX1_goesOn (d + 1) M [] 81 [] Q := by
  refine sX1_goesOn_81 (d := d) M hw ?_
  refine sX1_goesOn_450 (d := d) M hw ?_
  exact k
theorem iX1_goesOn_90 {E : zE} {d : Nat} {Q : zO → zM → Prop} (M : zM) (hw : cw M) (k : Q (.inl none) M) : Z E YX1_goesOn (d + 1) M [] 90 [] Q := by
  refine sX1_goesOn_90 (d := d) M hw ?_
  refine sX1_goesOn_450 (d := d) M hw ?_
  exact k
theorem iX1_goesOn_116 {E : zE} {d : Nat} {Q : zO → zM → Prop} (M : zM) (hw : cw M) (k : Q (.inl none) M) : Z E YX1_goesOn (d + 1) M [] 116 [] Q := by
  refine sX1_goesOn_116 (d := d) M hw ?_
  refine sX1_goesOn_450 (d := d) M hw ?_
  exact k
theorem iX1_goesOn_296 {E : zE} {d : Nat} {Q : zO → zM → Prop} (M : zM) (u0 : Option zP) (hw : cw M) (k : ∃ b26481 : Nat, (gr M 16 60) = some (b26481, 7, 0) ∧ (16 ≤ b26481 ∧ (∃ b26483 m26483 : Nat, (gr M b26481 10) = some (b26483, 105, m26483) ∧ (16 ≤ b26483 ∧ (vp_in (gi (si M b26481 13 (0 : Int32)) b26481 13) m26483 ∧ (∃ b26486 m26486 : Nat, (gr M b26481 11) = some (b26486, 105, m26486) ∧ (16 ≤ b26486 ∧ (vp_in (gi (si M b26481 13 (0 : Int32)) b26481 13) m26486 ∧ (∃ b26489 m26489 : Nat, (gr M b26481 12) = some (b26489, 105, m26489) ∧ (16 ≤ b26489 ∧ (vp_in (gi (si M b26481 13 (0 : Int32)) b26481 13) m26489 ∧ (vp_in (gi (si (sl (sl (si M b26481 13 (0 : Int32)) b26483 ((gi (si M b26481 13 (0 : Int32)) b26481 13)).toNatClampNeg (gl M 71 0)) b26486 ((gi (si M b26481 13 (0 : Int32)) b26481 13)).toNatClampNeg (gl M 71 1)) b26481 13 ((gi (si M b26481 13 (0 : Int32)) b26481 13) + (1 : Int32))) 16 76) 600 ∧ (Z E YX1_next (d + 1) (sl (si (sl (sl (si M b26481 13 (0 : Int32)) b26483 ((gi (si M b26481 13 (0 : Int32)) b26481 13)).toNatClampNeg (gl M 71 0)) b26486 ((gi (si M b26481 13 (0 : Int32)) b26481 13)).toNatClampNeg (gl M 71 1)) b26481 13 ((gi (si M b26481 13 (0 : Int32)) b26481 13) + (1 : Int32))) b26489 ((gi (si M b26481 13 (0 : Int32)) b26481 13)).toNatClampNeg ((gl M 71 2) &&& (-513 : Int64))) (zargs 0 [vr (some (16, 0, 0)), vi ((gi (si (sl (sl (si M b26481 13 (0 : Int32)) b26483 ((gi (si M b26481 13 (0 : Int32)) b26481 13)).toNatClampNeg (gl M 71 0)) b26486 ((gi (si M b26481 13 (0 : Int32)) b26481 13)).toNatClampNeg (gl M 71 1)) b26481 13 ((gi (si M b26481 13 (0 : Int32)) b26481 13) + (1 : Int32))) 16 75) + ((2 : Int32) * (gi (si (sl (sl (si M b26481 13 (0 : Int32)) b26483 ((gi (si M b26481 13 (0 : Int32)) b26481 13)).toNatClampNeg (gl M 71 0)) b26486 ((gi (si M b26481 13 (0 : Int32)) b26481 13)).toNatClampNeg (gl M 71 1)) b26481 13 ((gi (si M b26481 13 (0 : Int32)) b26481 13) + (1 : Int32))) 35 ((gi (si (sl (sl (si M b26481 13 (0 : Int32)) b26483 ((gi (si M b26481 13 (0 : Int32)) b26481 13)).toNatClampNeg (gl M 71 0)) b26486 ((gi (si M b26481 13 (0 : Int32)) b26481 13)).toNatClampNeg (gl M 71 1)) b26481 13 ((gi (si M b26481 13 (0 : Int32)) b26481 13) + (1 : Int32))) 16 76)).toNatClampNeg)))]) 0 [] (zafter E YX1_goesOn ((d + 1) + 1) [] 336 3 [] Q)))))))))))))) : Z E YX1_goesOn (d + 2) M [(0, vr (some (16, 0, 0)))] 296 [vr u0] Q := by
  refine sX1_goesOn_296 (d := (d + 1)) M u0 hw ?_
  obtain ⟨b26481, h26481, k⟩ := k
  refine ⟨b26481, h26481, ?_⟩
  refine zand k (fun h26482 k => ?_)
  refine ⟨b26481, h26481, ?_⟩
  refine jX43_push (d := d) (si M b26481 13 (0 : Int32)) b26481 (some (71, 4, 0)) ?_
  refine ⟨71, rfl, ?_⟩
  obtain ⟨b26483, m26483, h26483, k⟩ := k
  refine ⟨b26483, m26483, h26483, ?_⟩
  refine zand k (fun h26484 k => ?_)
  refine zand k (fun h26485 k => ?_)
  obtain ⟨b26486, m26486, h26486, k⟩ := k
  refine ⟨b26486, m26486, h26486, ?_⟩
  refine zand k (fun h26487 k => ?_)
  refine zand k (fun h26488 k => ?_)
  refine ⟨h26482, ?_⟩
  obtain ⟨b26489, m26489, h26489, k⟩ := k
  refine ⟨b26489, m26489, h26489, ?_⟩
  refine zand k (fun h26490 k => ?_)
  refine zand k (fun h26491 k => ?_)
  show Z E YX1_goesOn ((d + 1) + 1) (sl (si (sl (sl (si M b26481 13 (0 : Int32)) b26483 ((gi (si M b26481 13 (0 : Int32)) b26481 13)).toNatClampNeg (gl M 71 0)) b26486 ((gi (si M b26481 13 (0 : Int32)) b26481 13)).toNatClampNeg (gl M 71 1)) b26481 13 ((gi (si M b26481 13 (0 : Int32)) b26481 13) + (1 : Int32))) b26489 ((gi (si M b26481 13 (0 : Int32)) b26481 13)).toNatClampNeg ((gl M 71 2) &&& (-513 : Int64))) [(0, vr (some (16, 0, 0)))] 316 [] Q
  refine sX1_goesOn_316 (d := (d + 1)) (sl (si (sl (sl (si M b26481 13 (0 : Int32)) b26483 ((gi (si M b26481 13 (0 : Int32)) b26481 13)).toNatClampNeg (gl M 71 0)) b26486 ((gi (si M b26481 13 (0 : Int32)) b26481 13)).toNatClampNeg (gl M 71 1)) b26481 13 ((gi (si M b26481 13 (0 : Int32)) b26481 13) + (1 : Int32))) b26489 ((gi (si M b26481 13 (0 : Int32)) b26481 13)).toNatClampNeg ((gl M 71 2) &&& (-513 : Int64))) hw ?_
  exact k
theorem iX1_goesOn_379 {E : zE} {d : Nat} {Q : zO → zM → Prop} (M : zM) (hw : cw M) (k : Q (.inl none) M) : Z E YX1_goesOn (d + 1) M [] 379 [] Q := by
  refine sX1_goesOn_379 (d := d) M hw ?_
  refine sX1_goesOn_450 (d := d) M hw ?_
  exact k
theorem iX1_goesOn_108 {E : zE} {d : Nat} {Q : zO → zM → Prop} (M : zM) (hw : cw M) (k : Q (.inl none) M) : Z E YX1_goesOn (d + 1) M [] 108 [] Q := by
  refine sX1_goesOn_108 (d := d) M hw ?_
  refine sX1_goesOn_450 (d := d) M hw ?_
  exact k
theorem iX1_goesOn_139 {E : zE} {d : Nat} {Q : zO → zM → Prop} (M : zM) (l2 : Int32) (s0 : Int32) (hw : cw M) (k : if s0 = 0 then (Z E YX1_mayBeFalse d M (zargs 0 [vr (some (16, 0, 0)), vr (some (71, 4, 0))]) 0 [] (zafter E YX1_goesOn (d + 1) [(0, vr (some (16, 0, 0))), (2, vi l2)] 157 3 [] Q)) else (Z E YX1_next d M (zargs 0 [vr (some (16, 0, 0)), vi ((gi M 16 76) + (1 : Int32))]) 0 [] (zafter E YX1_goesOn (d + 1) [(0, vr (some (16, 0, 0))), (2, vi l2)] 149 3 [] Q))) : Z E YX1_goesOn (d + 1) M [(0, vr (some (16, 0, 0))), (2, vi l2)] 139 [vi s0] Q := by
  refine sX1_goesOn_139 (d := d) M l2 s0 hw ?_
  refine zite k (fun h26493 k => ?_) (fun h26493 k => ?_)
  · refine sX1_goesOn_152 (d := d) M l2 hw ?_
    exact k
  · exact k
theorem iX1_goesOn_206 {E : zE} {d : Nat} {Q : zO → zM → Prop} (M : zM) (l1 : Int32) (l2 : Int32) (s0 : Int32) (hw : cw M) (k : if s0 = 0 then (∃ b26495 : Nat, (gr M 16 60) = some (b26495, 7, 0) ∧ (16 ≤ b26495 ∧ (if l1 = (23 : Int32) then (Z E YX1_mayBeTrue d (si M b26495 13 ((gi M b26495 13) - (1 : Int32))) (zargs 0 [vr (some (16, 0, 0)), vr (some (71, 4, 0))]) 0 [] (zafter E YX1_goesOn (d + 1) [(0, vr (some (16, 0, 0)))] 252 3 [] Q)) else (Z E YX1_mayBeFalse d (si M b26495 13 ((gi M b26495 13) - (1 : Int32))) (zargs 0 [vr (some (16, 0, 0)), vr (some (71, 4, 0))]) 0 [] (zafter E YX1_goesOn (d + 1) [(0, vr (some (16, 0, 0)))] 266 3 [] Q))))) else (Z E YX1_next d M (zargs 0 [vr (some (16, 0, 0)), vi l2]) 0 [] (zafter E YX1_goesOn (d + 1) [(0, vr (some (16, 0, 0))), (1, vi l1)] 225 3 [] Q))) : Z E YX1_goesOn (d + 1) M [(0, vr (some (16, 0, 0))), (1, vi l1), (2, vi l2)] 206 [vi s0] Q := by
  refine sX1_goesOn_206 (d := d) M l1 l2 s0 hw ?_
  refine zite k (fun h26494 k => ?_) (fun h26494 k => ?_)
  · refine sX1_goesOn_228 (d := d) M l1 hw ?_
    exact k
  · exact k
theorem iX1_goesOn_220 {E : zE} {d : Nat} {Q : zO → zM → Prop} (M : zM) (l1 : Int32) (l2 : Int32) (s0 : Int32) (hw : cw M) (k : if s0 = 0 then (∃ b26499 : Nat, (gr M 16 60) = some (b26499, 7, 0) ∧ (16 ≤ b26499 ∧ (if l1 = (23 : Int32) then (Z E YX1_mayBeTrue d (si M b26499 13 ((gi M b26499 13) - (1 : Int32))) (zargs 0 [vr (some (16, 0, 0)), vr (some (71, 4, 0))]) 0 [] (zafter E YX1_goesOn (d + 1) [(0, vr (some (16, 0, 0)))] 252 3 [] Q)) else (Z E YX1_mayBeFalse d (si M b26499 13 ((gi M b26499 13) - (1 : Int32))) (zargs 0 [vr (some (16, 0, 0)), vr (some (71, 4, 0))]) 0 [] (zafter E YX1_goesOn (d + 1) [(0, vr (some (16, 0, 0)))] 266 3 [] Q))))) else (Z E YX1_next d M (zargs 0 [vr (some (16, 0, 0)), vi l2]) 0 [] (zafter E YX1_goesOn (d + 1) [(0, vr (some (16, 0, 0))), (1, vi l1)] 225 3 [] Q))) : Z E YX1_goesOn (d + 1) M [(0, vr (some (16, 0, 0))), (1, vi l1), (2, vi l2)] 220 [vi s0] Q := by
  refine sX1_goesOn_220 (d := d) M l1 l2 s0 hw ?_
  refine zite k (fun h26498 k => ?_) (fun h26498 k => ?_)
  · refine sX1_goesOn_228 (d := d) M l1 hw ?_
    exact k
  · exact k
theorem iX1_goesOn_339 {E : zE} {d : Nat} {Q : zO → zM → Prop} (M : zM) (hw : cw M) (k : Q (.inl none) M) : Z E YX1_goesOn (d + 1) M [] 339 [] Q := by
  refine sX1_goesOn_339 (d := d) M hw ?_
  refine sX1_goesOn_450 (d := d) M hw ?_
  exact k
theorem iX1_goesOn_366 {E : zE} {d : Nat} {Q : zO → zM → Prop} (M : zM) (hw : cw M) (k : Q (.inl none) M) : Z E YX1_goesOn (d + 1) M [] 366 [] Q := by
  refine sX1_goesOn_366 (d := d) M hw ?_
  refine sX1_goesOn_450 (d := d) M hw ?_
  exact k
theorem iX1_goesOn_415 {E : zE} {d : Nat} {Q : zO → zM → Prop} (M : zM) (hw : cw M) (k : Q (.inl none) M) : Z E YX1_goesOn (d + 1) M [] 415 [] Q := by
  refine sX1_goesOn_415 (d := d) M hw ?_
  refine sX1_goesOn_450 (d := d) M hw ?_
  exact k
theorem iX1_goesOn_160 {E : zE} {d : Nat} {Q : zO → zM → Prop} (M : zM) (l2 : Int32) (s0 : Int32) (hw : cw M) (k : if s0 = 0 then (Q (.inl none) M) else (Z E YX1_next d M (zargs 0 [vr (some (16, 0, 0)), vi l2]) 0 [] (zafter E YX1_goesOn (d + 1) [] 165 3 [] Q))) : Z E YX1_goesOn (d + 1) M [(0, vr (some (16, 0, 0))), (2, vi l2)] 160 [vi s0] Q := by
  refine sX1_goesOn_160 (d := d) M l2 s0 hw ?_
  refine zite k (fun h26504 k => ?_) (fun h26504 k => ?_)
  · refine sX1_goesOn_450 (d := d) M hw ?_
    exact k
  · exact k
theorem iX1_goesOn_255 {E : zE} {d : Nat} {Q : zO → zM → Prop} (M : zM) (s0 : Int32) (hw : cw M) (k : if s0 = 0 then (Q (.inl none) M) else (Z E YX1_next d M (zargs 0 [vr (some (16, 0, 0)), vi ((gi M 16 76) + (1 : Int32))]) 0 [] (zafter E YX1_goesOn (d + 1) [] 279 3 [] Q))) : Z E YX1_goesOn (d + 1) M [(0, vr (some (16, 0, 0)))] 255 [vi s0] Q := by
  refine sX1_goesOn_255 (d := d) M s0 hw ?_
  refine zite k (fun h26505 k => ?_) (fun h26505 k => ?_)
  · refine sX1_goesOn_450 (d := d) M hw ?_
    exact k
  · exact k
theorem iX1_goesOn_269 {E : zE} {d : Nat} {Q : zO → zM → Prop} (M : zM) (s0 : Int32) (hw : cw M) (k : if s0 = 0 then (Q (.inl none) M) else (Z E YX1_next d M (zargs 0 [vr (some (16, 0, 0)), vi ((gi M 16 76) + (1 : Int32))]) 0 [] (zafter E YX1_goesOn (d + 1) [] 279 3 [] Q))) : Z E YX1_goesOn (d + 1) M [(0, vr (some (16, 0, 0)))] 269 [vi s0] Q := by
  refine sX1_goesOn_269 (d := d) M s0 hw ?_
  refine zite k (fun h26506 k => ?_) (fun h26506 k => ?_)
  · refine sX1_goesOn_450 (d := d) M hw ?_
    exact k
  · exact k
theorem iX1_goesOn_168 {E : zE} {d : Nat} {Q : zO → zM → Prop} (M : zM) (hw : cw M) (k : Q (.inl none) M) : Z E YX1_goesOn (d + 1) M [] 168 [] Q := by
  refine sX1_goesOn_168 (d := d) M hw ?_
  refine sX1_goesOn_450 (d := d) M hw ?_
  exact k
theorem iX1_goesOn_282 {E : zE} {d : Nat} {Q : zO → zM → Prop} (M : zM) (hw : cw M) (k : Q (.inl none) M) : Z E YX1_goesOn (d + 1) M [] 282 [] Q := by
  refine sX1_goesOn_282 (d := d) M hw ?_
  refine sX1_goesOn_450 (d := d) M hw ?_
  exact k
theorem iX1_hasOwn_0 {E : zE} {d : Nat} {Q : zO → zM → Prop} (M : zM) (r1 : Option zP) (hw : cw M) (k : if (lg_cmp ((gl M 77 2) &&& (511 : Int64)) (0 : Int64)) = 0 then (Z E YX1_keys d M (zargs 0 [vr (some (16, 0, 0)), vr r1]) 0 [] (zafter E YX1_hasOwn (d + 1) [(0, vr (some (16, 0, 0)))] 27 3 [] Q)) else (Z E YX1_errs d M (zargs 0 [vr (some (16, 0, 0)), vr (gr M 16 60), vi (0 : Int32)]) 0 [] (zafter E YX1_hasOwn (d + 1) [(0, vr (some (16, 0, 0))), (1, vr r1)] 22 3 [] Q))) : Z E YX1_hasOwn (d + 1) M [(0, vr (some (16, 0, 0))), (1, vr r1)] 0 [] Q := by
  refine sX1_hasOwn_0 (d := d) M r1 hw ?_
  refine zite k (fun h26510 k => ?_) (fun h26510 k => ?_)
  · refine sX1_hasOwn_25 (d := d) M r1 hw ?_
    exact k
  · exact k
theorem iX1_hasOwn_30 {E : zE} {d : Nat} {Q : zO → zM → Prop} (M : zM) (hw : cw M) (k : 16 ≤ 74 ∧ (Z E YX1_hasOwn (d + 1) (sl (sl (sl M 74 0 (0 : Int64)) 74 1 (0 : Int64)) 74 2 (0 : Int64)) [(0, vr (some (16, 0, 0))), (2, vi (0 : Int32))] 40 [] Q)) : Z E YX1_hasOwn (d + 1) M [(0, vr (some (16, 0, 0)))] 30 [] Q := by
  refine sX1_hasOwn_30 (d := d) M hw ?_
  refine jX6_empty (d := d) M 74 ?_
  refine zand k (fun h26511 k => ?_)
  show Z E YX1_hasOwn (d + 1) (sl (sl (sl M 74 0 (0 : Int64)) 74 1 (0 : Int64)) 74 2 (0 : Int64)) [(0, vr (some (16, 0, 0)))] 37 [vr (some (74, 4, 0))] Q
  refine sX1_hasOwn_37 (d := d) (sl (sl (sl M 74 0 (0 : Int64)) 74 1 (0 : Int64)) 74 2 (0 : Int64)) (some (74, 4, 0)) hw ?_
  exact k
theorem iX1_hasOwn_40 {E : zE} {d : Nat} {Q : zO → zM → Prop} (M : zM) (l2 : Int32) (hw : cw M) (k : if (gi M 16 11) ≤ l2 then (Z E YX1_nextWith d M (zargs 0 [vr (some (16, 0, 0)), vr (some (74, 4, 0))]) 0 [] (zafter E YX1_hasOwn (d + 1) [] 215 3 [] Q)) else (if (64 : Int32) ≤ l2 then (∀ x1_v16398v26514 : Int64, x1_v16398v26514 = (zls (zlr (gl M 77 1) (l2 - (64 : Int32))) (63 : Int32)) → (if (lg_cmp x1_v16398v26514 (0 : Int64)) = 0 then (Z E YX1_hasOwn (d + 1) M [(0, vr (some (16, 0, 0))), (2, vi (l2 + (1 : Int32)))] 40 [] Q) else (Z E YX1_hasOwn (d + 1) M [(0, vr (some (16, 0, 0))), (2, vi l2), (3, vi (0 : Int32))] 74 [] Q))) else (∀ x1_v16400v26516 : Int64, x1_v16400v26516 = (zls (zlr (gl M 77 0) l2) (63 : Int32)) → (if (lg_cmp x1_v16400v26516 (0 : Int64)) = 0 then (Z E YX1_hasOwn (d + 1) M [(0, vr (some (16, 0, 0))), (2, vi (l2 + (1 : Int32)))] 40 [] Q) else (Z E YX1_hasOwn (d + 1) M [(0, vr (some (16, 0, 0))), (2, vi l2), (3, vi (0 : Int32))] 74 [] Q))))) : Z E YX1_hasOwn (d + 1) M [(0, vr (some (16, 0, 0))), (2, vi l2)] 40 [] Q := by
  refine sX1_hasOwn_40 (d := d) M l2 hw ?_
  refine zite k (fun h26512 k => ?_) (fun h26512 k => ?_)
  · exact k
  · refine jX1_in (d := d) M l2 (gl M 77 0) (gl M 77 1) hw ?_
    refine zite k (fun h26513 k => ?_) (fun h26513 k => ?_)
    · intro x1_v16398v26514 h26514
      have k := k x1_v16398v26514 h26514
      refine zite k (fun h26515 k => ?_) (fun h26515 k => ?_)
      · show Z E YX1_hasOwn (d + 1) M [(0, vr (some (16, 0, 0))), (2, vi l2)] 66 [vi (0 : Int32)] Q
        refine sX1_hasOwn_66 (d := d) M l2 (0 : Int32) hw ?_
        refine zpos (show (0 : Int32) = 0 from by decide) ?_
        exact k
      · show Z E YX1_hasOwn (d + 1) M [(0, vr (some (16, 0, 0))), (2, vi l2)] 66 [vi (1 : Int32)] Q
        refine sX1_hasOwn_66 (d := d) M l2 (1 : Int32) hw ?_
        refine zneg (show ¬ ((1 : Int32) = 0) from by decide) ?_
        exact k
    · intro x1_v16400v26516 h26516
      have k := k x1_v16400v26516 h26516
      refine zite k (fun h26517 k => ?_) (fun h26517 k => ?_)
      · show Z E YX1_hasOwn (d + 1) M [(0, vr (some (16, 0, 0))), (2, vi l2)] 66 [vi (0 : Int32)] Q
        refine sX1_hasOwn_66 (d := d) M l2 (0 : Int32) hw ?_
        refine zpos (show (0 : Int32) = 0 from by decide) ?_
        exact k
      · show Z E YX1_hasOwn (d + 1) M [(0, vr (some (16, 0, 0))), (2, vi l2)] 66 [vi (1 : Int32)] Q
        refine sX1_hasOwn_66 (d := d) M l2 (1 : Int32) hw ?_
        refine zneg (show ¬ ((1 : Int32) = 0) from by decide) ?_
        exact k
theorem iX1_hasOwn_87 {E : zE} {d : Nat} {Q : zO → zM → Prop} (M : zM) (l2 : Int32) (l3 : Int32) (s0 : Int32) (hw : cw M) (k : if s0 = 0 then (Z E YX1_hasOwn (d + 1) M [(0, vr (some (16, 0, 0))), (2, vi l2), (3, vi (l3 + (1 : Int32)))] 74 [] Q) else (∃ b26570 : Nat, (gr M 16 60) = some (b26570, 7, 0) ∧ (∃ b26571 : Nat, (gr M b26570 0) = some (b26571, 0, 0) ∧ (∃ b26572 m26572 : Nat, (gr M b26570 1) = some (b26572, 105, m26572) ∧ (vp_in ((l2 * ((gi M b26571 1) + (1 : Int32))) + l3) m26572 ∧ (if (lg_cmp (gl M b26572 (((l2 * ((gi M b26571 1) + (1 : Int32))) + l3)).toNatClampNeg) (0 : Int64)) = 0 then (∃ b26575 m26575 : Nat, (gr M b26570 2) = some (b26575, 105, m26575) ∧ (vp_in ((l2 * ((gi M b26571 1) + (1 : Int32))) + l3) m26575 ∧ (if (lg_cmp (gl M b26575 (((l2 * ((gi M b26571 1) + (1 : Int32))) + l3)).toNatClampNeg) (0 : Int64)) = 0 then (∃ b26578 m26578 : Nat, (gr M b26570 3) = some (b26578, 105, m26578) ∧ (vp_in ((l2 * ((gi M b26571 1) + (1 : Int32))) + l3) m26578 ∧ (if (lg_cmp ((gl M b26578 (((l2 * ((gi M b26571 1) + (1 : Int32))) + l3)).toNatClampNeg) &&& (511 : Int64)) (0 : Int64)) = 0 then (if (lg_cmp ((gl M b26578 (((l2 * ((gi M b26571 1) + (1 : Int32))) + l3)).toNatClampNeg) &&& (512 : Int64)) (0 : Int64)) = 0 then (Z E YX1_hasOwn (d + 1) M [(0, vr (some (16, 0, 0))), (2, vi l2), (3, vi (l3 + (1 : Int32)))] 74 [] Q) else (Z E YX6_join3 d M (zargs 0 [vr (some (74, 4, 0)), vl (0 : Int64), vl (0 : Int64), vl (8 : Int64)]) 0 [] (zafter E YX1_hasOwn (d + 1) [(0, vr (some (16, 0, 0))), (2, vi l2), (3, vi l3)] 194 3 [] Q))) else (Z E YX6_join3 d M (zargs 0 [vr (some (74, 4, 0)), vl (0 : Int64), vl (0 : Int64), vl (4 : Int64)]) 0 [] (zafter E YX1_hasOwn (d + 1) [(0, vr (some (16, 0, 0))), (2, vi l2), (3, vi l3), (4, vi ((l2 * ((gi M b26571 1) + (1 : Int32))) + l3))] 162 3 [] Q))))) else (Z E YX6_join3 d M (zargs 0 [vr (some (74, 4, 0)), vl (0 : Int64), vl (0 : Int64), vl (4 : Int64)]) 0 [] (zafter E YX1_hasOwn (d + 1) [(0, vr (some (16, 0, 0))), (2, vi l2), (3, vi l3), (4, vi ((l2 * ((gi M b26571 1) + (1 : Int32))) + l3))] 162 3 [] Q))))) else (Z E YX6_join3 d M (zargs 0 [vr (some (74, 4, 0)), vl (0 : Int64), vl (0 : Int64), vl (4 : Int64)]) 0 [] (zafter E YX1_hasOwn (d + 1) [(0, vr (some (16, 0, 0))), (2, vi l2), (3, vi l3), (4, vi ((l2 * ((gi M b26571 1) + (1 : Int32))) + l3))] 162 3 [] Q)))))))) : Z E YX1_hasOwn (d + 1) M [(0, vr (some (16, 0, 0))), (2, vi l2), (3, vi l3)] 87 [vi s0] Q := by
  refine sX1_hasOwn_87 (d := d) M l2 l3 s0 hw ?_
  refine zite k (fun h26569 k => ?_) (fun h26569 k => ?_)
  · exact k
  · obtain ⟨b26570, h26570, k⟩ := k
    refine ⟨b26570, h26570, ?_⟩
    refine sX43_cell_0 (d := d) M b26570 l2 l3 ?_
    obtain ⟨b26571, h26571, k⟩ := k
    refine ⟨b26571, h26571, ?_⟩
    show Z E YX1_hasOwn (d + 1) M [(0, vr (some (16, 0, 0))), (2, vi l2), (3, vi l3)] 102 [vi ((l2 * ((gi M b26571 1) + (1 : Int32))) + l3)] Q
    refine sX1_hasOwn_102 (d := d) M l2 l3 ((l2 * ((gi M b26571 1) + (1 : Int32))) + l3) hw ?_
    refine ⟨b26570, h26570, ?_⟩
    obtain ⟨b26572, m26572, h26572, k⟩ := k
    refine ⟨b26572, m26572, h26572, ?_⟩
    refine zand k (fun h26573 k => ?_)
    refine zite k (fun h26574 k => ?_) (fun h26574 k => ?_)
    · refine ⟨b26570, h26570, ?_⟩
      obtain ⟨b26575, m26575, h26575, k⟩ := k
      refine ⟨b26575, m26575, h26575, ?_⟩
      refine zand k (fun h26576 k => ?_)
      refine zite k (fun h26577 k => ?_) (fun h26577 k => ?_)
      · refine ⟨b26570, h26570, ?_⟩
        obtain ⟨b26578, m26578, h26578, k⟩ := k
        refine ⟨b26578, m26578, h26578, ?_⟩
        refine zand k (fun h26579 k => ?_)
        refine zite k (fun h26580 k => ?_) (fun h26580 k => ?_)
        · refine sX1_hasOwn_166 (d := d) M l2 l3 ((l2 * ((gi M b26571 1) + (1 : Int32))) + l3) hw ?_
          refine ⟨b26570, h26570, ?_⟩
          refine ⟨b26578, m26578, h26578, ?_⟩
          refine ⟨h26579, ?_⟩
          exact k
        · exact k
      · exact k
    · exact k
theorem iX1_hasOwn_165 {E : zE} {d : Nat} {Q : zO → zM → Prop} (M : zM) (l2 : Int32) (l3 : Int32) (l4 : Int32) (u0 : Option zP) (hw : cw M) (k : ∃ b26582 : Nat, (gr M 16 60) = some (b26582, 7, 0) ∧ (∃ b26583 m26583 : Nat, (gr M b26582 3) = some (b26583, 105, m26583) ∧ (vp_in l4 m26583 ∧ (if (lg_cmp ((gl M b26583 (l4).toNatClampNeg) &&& (512 : Int64)) (0 : Int64)) = 0 then (Z E YX1_hasOwn (d + 1) M [(0, vr (some (16, 0, 0))), (2, vi l2), (3, vi (l3 + (1 : Int32)))] 74 [] Q) else (Z E YX6_join3 d M (zargs 0 [vr (some (74, 4, 0)), vl (0 : Int64), vl (0 : Int64), vl (8 : Int64)]) 0 [] (zafter E YX1_hasOwn (d + 1) [(0, vr (some (16, 0, 0))), (2, vi l2), (3, vi l3)] 194 3 [] Q)))))) : Z E YX1_hasOwn (d + 1) M [(0, vr (some (16, 0, 0))), (2, vi l2), (3, vi l3), (4, vi l4)] 165 [vr u0] Q := by
  refine sX1_hasOwn_165 (d := d) M l2 l3 l4 u0 hw ?_
  refine sX1_hasOwn_166 (d := d) M l2 l3 l4 hw ?_
  exact k
theorem iX1_isHundred_0 {E : zE} {d : Nat} {Q : zO → zM → Prop} (M : zM) (l1 : Int32) (hw : cw M) (k : ∃ b26586 m26586 : Nat, (gr M 17 1) = some (b26586, 100, m26586) ∧ (vp_in (l1 + (1 : Int32)) m26586 ∧ (vp_in l1 m26586 ∧ (if ((gi M b26586 ((l1 + (1 : Int32))).toNatClampNeg) - (gi M b26586 (l1).toNatClampNeg)) = (3 : Int32) then (∃ b26590 m26590 : Nat, (gr M 17 0) = some (b26590, 101, m26590) ∧ (vp_in ((gi M b26586 (l1).toNatClampNeg) + (0 : Int32)) m26590 ∧ (if (gi M b26590 (((gi M b26586 (l1).toNatClampNeg) + (0 : Int32))).toNatClampNeg) = (49 : Int32) then (vp_in ((gi M b26586 (l1).toNatClampNeg) + (1 : Int32)) m26590 ∧ (if (gi M b26590 (((gi M b26586 (l1).toNatClampNeg) + (1 : Int32))).toNatClampNeg) = (48 : Int32) then (vp_in ((gi M b26586 (l1).toNatClampNeg) + (2 : Int32)) m26590 ∧ (if (gi M b26590 (((gi M b26586 (l1).toNatClampNeg) + (2 : Int32))).toNatClampNeg) = (48 : Int32) then (Q (.inl (some (vi (1 : Int32)))) M) else (Q (.inl (some (vi (0 : Int32)))) M))) else (Q (.inl (some (vi (0 : Int32)))) M))) else (Q (.inl (some (vi (0 : Int32)))) M)))) else (Q (.inl (some (vi (0 : Int32)))) M))))) : Z E YX1_isHundred (d + 1) M [(0, vr (some (16, 0, 0))), (1, vi l1)] 0 [] Q := by
  refine sX1_isHundred_0 (d := d) M l1 hw ?_
  refine jX2_length (d := d) M 17 l1 ?_
  obtain ⟨b26586, m26586, h26586, k⟩ := k
  refine ⟨b26586, m26586, h26586, ?_⟩
  refine zand k (fun h26587 k => ?_)
  refine zand k (fun h26588 k => ?_)
  show Z E YX1_isHundred (d + 1) M [(0, vr (some (16, 0, 0))), (1, vi l1)] 8 [vi ((gi M b26586 ((l1 + (1 : Int32))).toNatClampNeg) - (gi M b26586 (l1).toNatClampNeg))] Q
  refine sX1_isHundred_8 (d := d) M l1 ((gi M b26586 ((l1 + (1 : Int32))).toNatClampNeg) - (gi M b26586 (l1).toNatClampNeg)) hw ?_
  refine zite k (fun h26589 k => ?_) (fun h26589 k => ?_)
  · refine sX2_sign_0 (d := d) M 17 l1 (0 : Int32) ?_
    refine ⟨b26586, m26586, h26586, ?_⟩
    refine ⟨h26588, ?_⟩
    obtain ⟨b26590, m26590, h26590, k⟩ := k
    refine ⟨b26590, m26590, h26590, ?_⟩
    refine zand k (fun h26591 k => ?_)
    show Z E YX1_isHundred (d + 1) M [(0, vr (some (16, 0, 0))), (1, vi l1)] 21 [vi (gi M b26590 (((gi M b26586 (l1).toNatClampNeg) + (0 : Int32))).toNatClampNeg)] Q
    refine sX1_isHundred_21 (d := d) M l1 (gi M b26590 (((gi M b26586 (l1).toNatClampNeg) + (0 : Int32))).toNatClampNeg) hw ?_
    refine zite k (fun h26592 k => ?_) (fun h26592 k => ?_)
    · refine sX2_sign_0 (d := d) M 17 l1 (1 : Int32) ?_
      refine ⟨b26586, m26586, h26586, ?_⟩
      refine ⟨h26588, ?_⟩
      refine ⟨b26590, m26590, h26590, ?_⟩
      refine zand k (fun h26593 k => ?_)
      show Z E YX1_isHundred (d + 1) M [(0, vr (some (16, 0, 0))), (1, vi l1)] 35 [vi (gi M b26590 (((gi M b26586 (l1).toNatClampNeg) + (1 : Int32))).toNatClampNeg)] Q
      refine sX1_isHundred_35 (d := d) M l1 (gi M b26590 (((gi M b26586 (l1).toNatClampNeg) + (1 : Int32))).toNatClampNeg) hw ?_
      refine zite k (fun h26594 k => ?_) (fun h26594 k => ?_)
      · refine sX2_sign_0 (d := d) M 17 l1 (2 : Int32) ?_
        refine ⟨b26586, m26586, h26586, ?_⟩
        refine ⟨h26588, ?_⟩
        refine ⟨b26590, m26590, h26590, ?_⟩
        refine zand k (fun h26595 k => ?_)
        show Z E YX1_isHundred (d + 1) M [] 49 [vi (gi M b26590 (((gi M b26586 (l1).toNatClampNeg) + (2 : Int32))).toNatClampNeg)] Q
        refine sX1_isHundred_49 (d := d) M (gi M b26590 (((gi M b26586 (l1).toNatClampNeg) + (2 : Int32))).toNatClampNeg) hw ?_
        exact k
      · exact k
    · exact k
  · exact k
theorem iX1_isIn_0 {E : zE} {d : Nat} {Q : zO → zM → Prop} (M : zM) (hw : cw M) (k : if (lg_cmp ((gl M 72 2) &&& (511 : Int64)) (0 : Int64)) = 0 then (if (lg_cmp ((gl M 72 0) &&& (((8388096 : Int64) ||| (gl M 16 73)) ^^^ (-1 : Int64))) (0 : Int64)) = 0 then (if (lg_cmp ((gl M 72 1) &&& ((gl M 16 74) ^^^ (-1 : Int64))) (0 : Int64)) = 0 then (16 ≤ 75 ∧ (Z E YX1_readAll d (sl (sl (sl (si (sl (sl M 16 88 (2 : Int64)) 16 89 (0 : Int64)) 16 90 (0 : Int32)) 75 0 (0 : Int64)) 75 1 (0 : Int64)) 75 2 (0 : Int64)) (zargs 0 [vr (some (16, 0, 0)), vl ((gl M 72 0) &&& ((8388096 : Int64) ||| (gl M 16 73))), vl ((gl M 72 1) &&& (gl M 16 74)), vr (some (75, 4, 0))]) 0 [] (zafter E YX1_isIn (d + 1) [(0, vr (some (16, 0, 0))), (5, vi (0 : Int32))] 86 3 [] Q))) else (16 ≤ 75 ∧ (Z E YX1_readAll d (sl (sl (sl (si (sl (sl M 16 88 (2 : Int64)) 16 89 (0 : Int64)) 16 90 (0 : Int32)) 75 0 (0 : Int64)) 75 1 (0 : Int64)) 75 2 (0 : Int64)) (zargs 0 [vr (some (16, 0, 0)), vl ((gl M 72 0) &&& ((8388096 : Int64) ||| (gl M 16 73))), vl ((gl M 72 1) &&& (gl M 16 74)), vr (some (75, 4, 0))]) 0 [] (zafter E YX1_isIn (d + 1) [(0, vr (some (16, 0, 0))), (5, vi (1 : Int32))] 86 3 [] Q)))) else (16 ≤ 75 ∧ (Z E YX1_readAll d (sl (sl (sl (si (sl (sl M 16 88 (2 : Int64)) 16 89 (0 : Int64)) 16 90 (0 : Int32)) 75 0 (0 : Int64)) 75 1 (0 : Int64)) 75 2 (0 : Int64)) (zargs 0 [vr (some (16, 0, 0)), vl ((gl M 72 0) &&& ((8388096 : Int64) ||| (gl M 16 73))), vl ((gl M 72 1) &&& (gl M 16 74)), vr (some (75, 4, 0))]) 0 [] (zafter E YX1_isIn (d + 1) [(0, vr (some (16, 0, 0))), (5, vi (1 : Int32))] 86 3 [] Q)))) else (16 ≤ 75 ∧ (Z E YX1_readAll d (sl (sl (sl (si (sl (sl M 16 88 (2 : Int64)) 16 89 (0 : Int64)) 16 90 (0 : Int32)) 75 0 (0 : Int64)) 75 1 (0 : Int64)) 75 2 (0 : Int64)) (zargs 0 [vr (some (16, 0, 0)), vl ((gl M 72 0) &&& ((8388096 : Int64) ||| (gl M 16 73))), vl ((gl M 72 1) &&& (gl M 16 74)), vr (some (75, 4, 0))]) 0 [] (zafter E YX1_isIn (d + 1) [(0, vr (some (16, 0, 0))), (5, vi (1 : Int32))] 86 3 [] Q)))) : Z E YX1_isIn (d + 1) M [(0, vr (some (16, 0, 0)))] 0 [] Q := by
  refine sX1_isIn_0 (d := d) M hw ?_
  refine sX1_natives_0 (d := d) M hw ?_
  show Z E YX1_isIn (d + 1) M [(0, vr (some (16, 0, 0)))] 10 [vl (8388096 : Int64), vl (gl M 72 0)] Q
  refine sX1_isIn_10 (d := d) M (8388096 : Int64) (gl M 72 0) hw ?_
  refine sX1_natives_0 (d := d) M hw ?_
  show Z E YX1_isIn (d + 1) M [(0, vr (some (16, 0, 0))), (1, vl ((gl M 72 0) &&& ((8388096 : Int64) ||| (gl M 16 73)))), (3, vl ((gl M 72 1) &&& (gl M 16 74)))] 37 [vl (8388096 : Int64), vr (some (72, 4, 0))] Q
  refine sX1_isIn_37 (d := d) M ((gl M 72 0) &&& ((8388096 : Int64) ||| (gl M 16 73))) ((gl M 72 1) &&& (gl M 16 74)) (8388096 : Int64) hw ?_
  refine sX6_hasOnly_0 (d := d) M 72 ((8388096 : Int64) ||| (gl M 16 73)) (gl M 16 74) ?_
  refine zite k (fun h26597 k => ?_) (fun h26597 k => ?_)
  · refine zite k (fun h26598 k => ?_) (fun h26598 k => ?_)
    · refine zite k (fun h26599 k => ?_) (fun h26599 k => ?_)
      · show Z E YX1_isIn (d + 1) M [(0, vr (some (16, 0, 0))), (1, vl ((gl M 72 0) &&& ((8388096 : Int64) ||| (gl M 16 73)))), (3, vl ((gl M 72 1) &&& (gl M 16 74)))] 49 [vi (1 : Int32)] Q
        refine sX1_isIn_49 (d := d) M ((gl M 72 0) &&& ((8388096 : Int64) ||| (gl M 16 73))) ((gl M 72 1) &&& (gl M 16 74)) (1 : Int32) hw ?_
        refine zneg (show ¬ ((1 : Int32) = 0) from by decide) ?_
        refine sX1_isIn_57 (d := d) M ((gl M 72 0) &&& ((8388096 : Int64) ||| (gl M 16 73))) ((gl M 72 1) &&& (gl M 16 74)) (0 : Int32) hw ?_
        refine jX6_empty (d := d) (si (sl (sl M 16 88 (2 : Int64)) 16 89 (0 : Int64)) 16 90 (0 : Int32)) 75 ?_
        refine zand k (fun h26600 k => ?_)
        show Z E YX1_isIn (d + 1) (sl (sl (sl (si (sl (sl M 16 88 (2 : Int64)) 16 89 (0 : Int64)) 16 90 (0 : Int32)) 75 0 (0 : Int64)) 75 1 (0 : Int64)) 75 2 (0 : Int64)) [(0, vr (some (16, 0, 0))), (5, vi (0 : Int32))] 86 [vr (some (75, 4, 0)), vl ((gl M 72 1) &&& (gl M 16 74)), vl ((gl M 72 0) &&& ((8388096 : Int64) ||| (gl M 16 73))), vr (some (16, 0, 0))] Q
        refine sX1_isIn_86 (d := d) (sl (sl (sl (si (sl (sl M 16 88 (2 : Int64)) 16 89 (0 : Int64)) 16 90 (0 : Int32)) 75 0 (0 : Int64)) 75 1 (0 : Int64)) 75 2 (0 : Int64)) (0 : Int32) (some (75, 4, 0)) ((gl M 72 1) &&& (gl M 16 74)) ((gl M 72 0) &&& ((8388096 : Int64) ||| (gl M 16 73))) hw ?_
        exact k
      · show Z E YX1_isIn (d + 1) M [(0, vr (some (16, 0, 0))), (1, vl ((gl M 72 0) &&& ((8388096 : Int64) ||| (gl M 16 73)))), (3, vl ((gl M 72 1) &&& (gl M 16 74)))] 49 [vi (0 : Int32)] Q
        refine sX1_isIn_49 (d := d) M ((gl M 72 0) &&& ((8388096 : Int64) ||| (gl M 16 73))) ((gl M 72 1) &&& (gl M 16 74)) (0 : Int32) hw ?_
        refine zpos (show (0 : Int32) = 0 from by decide) ?_
        refine sX1_isIn_57 (d := d) M ((gl M 72 0) &&& ((8388096 : Int64) ||| (gl M 16 73))) ((gl M 72 1) &&& (gl M 16 74)) (1 : Int32) hw ?_
        refine jX6_empty (d := d) (si (sl (sl M 16 88 (2 : Int64)) 16 89 (0 : Int64)) 16 90 (0 : Int32)) 75 ?_
        refine zand k (fun h26601 k => ?_)
        show Z E YX1_isIn (d + 1) (sl (sl (sl (si (sl (sl M 16 88 (2 : Int64)) 16 89 (0 : Int64)) 16 90 (0 : Int32)) 75 0 (0 : Int64)) 75 1 (0 : Int64)) 75 2 (0 : Int64)) [(0, vr (some (16, 0, 0))), (5, vi (1 : Int32))] 86 [vr (some (75, 4, 0)), vl ((gl M 72 1) &&& (gl M 16 74)), vl ((gl M 72 0) &&& ((8388096 : Int64) ||| (gl M 16 73))), vr (some (16, 0, 0))] Q
        refine sX1_isIn_86 (d := d) (sl (sl (sl (si (sl (sl M 16 88 (2 : Int64)) 16 89 (0 : Int64)) 16 90 (0 : Int32)) 75 0 (0 : Int64)) 75 1 (0 : Int64)) 75 2 (0 : Int64)) (1 : Int32) (some (75, 4, 0)) ((gl M 72 1) &&& (gl M 16 74)) ((gl M 72 0) &&& ((8388096 : Int64) ||| (gl M 16 73))) hw ?_
        exact k
    · show Z E YX1_isIn (d + 1) M [(0, vr (some (16, 0, 0))), (1, vl ((gl M 72 0) &&& ((8388096 : Int64) ||| (gl M 16 73)))), (3, vl ((gl M 72 1) &&& (gl M 16 74)))] 49 [vi (0 : Int32)] Q
      refine sX1_isIn_49 (d := d) M ((gl M 72 0) &&& ((8388096 : Int64) ||| (gl M 16 73))) ((gl M 72 1) &&& (gl M 16 74)) (0 : Int32) hw ?_
      refine zpos (show (0 : Int32) = 0 from by decide) ?_
      refine sX1_isIn_57 (d := d) M ((gl M 72 0) &&& ((8388096 : Int64) ||| (gl M 16 73))) ((gl M 72 1) &&& (gl M 16 74)) (1 : Int32) hw ?_
      refine jX6_empty (d := d) (si (sl (sl M 16 88 (2 : Int64)) 16 89 (0 : Int64)) 16 90 (0 : Int32)) 75 ?_
      refine zand k (fun h26602 k => ?_)
      show Z E YX1_isIn (d + 1) (sl (sl (sl (si (sl (sl M 16 88 (2 : Int64)) 16 89 (0 : Int64)) 16 90 (0 : Int32)) 75 0 (0 : Int64)) 75 1 (0 : Int64)) 75 2 (0 : Int64)) [(0, vr (some (16, 0, 0))), (5, vi (1 : Int32))] 86 [vr (some (75, 4, 0)), vl ((gl M 72 1) &&& (gl M 16 74)), vl ((gl M 72 0) &&& ((8388096 : Int64) ||| (gl M 16 73))), vr (some (16, 0, 0))] Q
      refine sX1_isIn_86 (d := d) (sl (sl (sl (si (sl (sl M 16 88 (2 : Int64)) 16 89 (0 : Int64)) 16 90 (0 : Int32)) 75 0 (0 : Int64)) 75 1 (0 : Int64)) 75 2 (0 : Int64)) (1 : Int32) (some (75, 4, 0)) ((gl M 72 1) &&& (gl M 16 74)) ((gl M 72 0) &&& ((8388096 : Int64) ||| (gl M 16 73))) hw ?_
      exact k
  · show Z E YX1_isIn (d + 1) M [(0, vr (some (16, 0, 0))), (1, vl ((gl M 72 0) &&& ((8388096 : Int64) ||| (gl M 16 73)))), (3, vl ((gl M 72 1) &&& (gl M 16 74)))] 49 [vi (0 : Int32)] Q
    refine sX1_isIn_49 (d := d) M ((gl M 72 0) &&& ((8388096 : Int64) ||| (gl M 16 73))) ((gl M 72 1) &&& (gl M 16 74)) (0 : Int32) hw ?_
    refine zpos (show (0 : Int32) = 0 from by decide) ?_
    refine sX1_isIn_57 (d := d) M ((gl M 72 0) &&& ((8388096 : Int64) ||| (gl M 16 73))) ((gl M 72 1) &&& (gl M 16 74)) (1 : Int32) hw ?_
    refine jX6_empty (d := d) (si (sl (sl M 16 88 (2 : Int64)) 16 89 (0 : Int64)) 16 90 (0 : Int32)) 75 ?_
    refine zand k (fun h26603 k => ?_)
    show Z E YX1_isIn (d + 1) (sl (sl (sl (si (sl (sl M 16 88 (2 : Int64)) 16 89 (0 : Int64)) 16 90 (0 : Int32)) 75 0 (0 : Int64)) 75 1 (0 : Int64)) 75 2 (0 : Int64)) [(0, vr (some (16, 0, 0))), (5, vi (1 : Int32))] 86 [vr (some (75, 4, 0)), vl ((gl M 72 1) &&& (gl M 16 74)), vl ((gl M 72 0) &&& ((8388096 : Int64) ||| (gl M 16 73))), vr (some (16, 0, 0))] Q
    refine sX1_isIn_86 (d := d) (sl (sl (sl (si (sl (sl M 16 88 (2 : Int64)) 16 89 (0 : Int64)) 16 90 (0 : Int32)) 75 0 (0 : Int64)) 75 1 (0 : Int64)) 75 2 (0 : Int64)) (1 : Int32) (some (75, 4, 0)) ((gl M 72 1) &&& (gl M 16 74)) ((gl M 72 0) &&& ((8388096 : Int64) ||| (gl M 16 73))) hw ?_
    exact k
theorem iX1_isIn_89 {E : zE} {d : Nat} {Q : zO → zM → Prop} (M : zM) (l5 : Int32) (hw : cw M) (k : if (gi M 16 91) = 0 then (if (lg_cmp ((gl M 75 2) &&& (511 : Int64)) (0 : Int64)) = 0 then (if (l5 ||| (0 : Int32)) = 0 then (Z E YX6_hasLabels d M (zargs 0 [vr (some (75, 4, 0))]) 0 [] (zafter E YX1_isIn (d + 1) [(0, vr (some (16, 0, 0)))] 140 3 [] Q)) else (Z E YX1_errs d M (zargs 0 [vr (some (16, 0, 0)), vr (gr M 16 60), vi (0 : Int32)]) 0 [] (zafter E YX1_isIn (d + 1) [(0, vr (some (16, 0, 0)))] 133 3 [] Q))) else (if (l5 ||| (1 : Int32)) = 0 then (Z E YX6_hasLabels d M (zargs 0 [vr (some (75, 4, 0))]) 0 [] (zafter E YX1_isIn (d + 1) [(0, vr (some (16, 0, 0)))] 140 3 [] Q)) else (Z E YX1_errs d M (zargs 0 [vr (some (16, 0, 0)), vr (gr M 16 60), vi (0 : Int32)]) 0 [] (zafter E YX1_isIn (d + 1) [(0, vr (some (16, 0, 0)))] 133 3 [] Q)))) else (if (l5 ||| (1 : Int32)) = 0 then (Z E YX6_hasLabels d M (zargs 0 [vr (some (75, 4, 0))]) 0 [] (zafter E YX1_isIn (d + 1) [(0, vr (some (16, 0, 0)))] 140 3 [] Q)) else (Z E YX1_errs d M (zargs 0 [vr (some (16, 0, 0)), vr (gr M 16 60), vi (0 : Int32)]) 0 [] (zafter E YX1_isIn (d + 1) [(0, vr (some (16, 0, 0)))] 133 3 [] Q)))) : Z E YX1_isIn (d + 1) M [(0, vr (some (16, 0, 0))), (5, vi l5)] 89 [] Q := by
  refine sX1_isIn_89 (d := d) M l5 hw ?_
  refine zite k (fun h26645 k => ?_) (fun h26645 k => ?_)
  · refine zite k (fun h26646 k => ?_) (fun h26646 k => ?_)
    · refine sX1_isIn_119 (d := d) M (0 : Int32) l5 hw ?_
      refine zite k (fun h26647 k => ?_) (fun h26647 k => ?_)
      · refine sX1_isIn_136 (d := d) M hw ?_
        exact k
      · exact k
    · refine sX1_isIn_119 (d := d) M (1 : Int32) l5 hw ?_
      refine zite k (fun h26648 k => ?_) (fun h26648 k => ?_)
      · refine sX1_isIn_136 (d := d) M hw ?_
        exact k
      · exact k
  · refine sX1_isIn_119 (d := d) M (1 : Int32) l5 hw ?_
    refine zite k (fun h26649 k => ?_) (fun h26649 k => ?_)
    · refine sX1_isIn_136 (d := d) M hw ?_
      exact k
    · exact k
theorem iX1_isIn_143 {E : zE} {d : Nat} {Q : zO → zM → Prop} (M : zM) (s0 : Int32) (hw : cw M) (k : if s0 = 0 then (Q (.inl none) M) else (if (lg_cmp (gl M 71 0) (0 : Int64)) = 0 then (if (lg_cmp (gl M 71 1) (0 : Int64)) = 0 then (16 ≤ 74 ∧ (Z E YX1_nextWith d (sl (sl (sl M 74 0 (0 : Int64)) 74 1 (0 : Int64)) 74 2 ((8 : Int64) ||| ((0 : Int32)).toInt64)) (zargs 0 [vr (some (16, 0, 0)), vr (some (74, 4, 0))]) 0 [] (zafter E YX1_isIn (d + 1) [] 174 3 [] Q))) else (16 ≤ 74 ∧ (Z E YX1_nextWith d (sl (sl (sl M 74 0 (0 : Int64)) 74 1 (0 : Int64)) 74 2 ((8 : Int64) ||| ((4 : Int32)).toInt64)) (zargs 0 [vr (some (16, 0, 0)), vr (some (74, 4, 0))]) 0 [] (zafter E YX1_isIn (d + 1) [] 174 3 [] Q)))) else (16 ≤ 74 ∧ (Z E YX1_nextWith d (sl (sl (sl M 74 0 (0 : Int64)) 74 1 (0 : Int64)) 74 2 ((8 : Int64) ||| ((4 : Int32)).toInt64)) (zargs 0 [vr (some (16, 0, 0)), vr (some (74, 4, 0))]) 0 [] (zafter E YX1_isIn (d + 1) [] 174 3 [] Q))))) : Z E YX1_isIn (d + 1) M [(0, vr (some (16, 0, 0)))] 143 [vi s0] Q := by
  refine sX1_isIn_143 (d := d) M s0 hw ?_
  refine zite k (fun h26650 k => ?_) (fun h26650 k => ?_)
  · refine sX1_isIn_177 (d := d) M hw ?_
    exact k
  · refine sX6_hasLabels_0 (d := d) M 71 ?_
    refine zite k (fun h26651 k => ?_) (fun h26651 k => ?_)
    · refine zite k (fun h26652 k => ?_) (fun h26652 k => ?_)
      · show Z E YX1_isIn (d + 1) M [] 161 [vi (0 : Int32), vl (8 : Int64), vr (some (74, 4, 0)), vr (some (16, 0, 0))] Q
        refine sX1_isIn_161 (d := d) M (0 : Int32) (8 : Int64) hw ?_
        refine zpos (show (0 : Int32) = 0 from by decide) ?_
        refine jX6_of (d := d) M 74 ((8 : Int64) ||| ((0 : Int32)).toInt64) ?_
        refine zand k (fun h26653 k => ?_)
        show Z E YX1_isIn (d + 1) (sl (sl (sl M 74 0 (0 : Int64)) 74 1 (0 : Int64)) 74 2 ((8 : Int64) ||| ((0 : Int32)).toInt64)) [] 174 [vr (some (74, 4, 0)), vr (some (16, 0, 0))] Q
        refine sX1_isIn_174 (d := d) (sl (sl (sl M 74 0 (0 : Int64)) 74 1 (0 : Int64)) 74 2 ((8 : Int64) ||| ((0 : Int32)).toInt64)) (some (74, 4, 0)) hw ?_
        exact k
      · show Z E YX1_isIn (d + 1) M [] 161 [vi (1 : Int32), vl (8 : Int64), vr (some (74, 4, 0)), vr (some (16, 0, 0))] Q
        refine sX1_isIn_161 (d := d) M (1 : Int32) (8 : Int64) hw ?_
        refine zneg (show ¬ ((1 : Int32) = 0) from by decide) ?_
        refine jX6_of (d := d) M 74 ((8 : Int64) ||| ((4 : Int32)).toInt64) ?_
        refine zand k (fun h26654 k => ?_)
        show Z E YX1_isIn (d + 1) (sl (sl (sl M 74 0 (0 : Int64)) 74 1 (0 : Int64)) 74 2 ((8 : Int64) ||| ((4 : Int32)).toInt64)) [] 174 [vr (some (74, 4, 0)), vr (some (16, 0, 0))] Q
        refine sX1_isIn_174 (d := d) (sl (sl (sl M 74 0 (0 : Int64)) 74 1 (0 : Int64)) 74 2 ((8 : Int64) ||| ((4 : Int32)).toInt64)) (some (74, 4, 0)) hw ?_
        exact k
    · show Z E YX1_isIn (d + 1) M [] 161 [vi (1 : Int32), vl (8 : Int64), vr (some (74, 4, 0)), vr (some (16, 0, 0))] Q
      refine sX1_isIn_161 (d := d) M (1 : Int32) (8 : Int64) hw ?_
      refine zneg (show ¬ ((1 : Int32) = 0) from by decide) ?_
      refine jX6_of (d := d) M 74 ((8 : Int64) ||| ((4 : Int32)).toInt64) ?_
      refine zand k (fun h26655 k => ?_)
      show Z E YX1_isIn (d + 1) (sl (sl (sl M 74 0 (0 : Int64)) 74 1 (0 : Int64)) 74 2 ((8 : Int64) ||| ((4 : Int32)).toInt64)) [] 174 [vr (some (74, 4, 0)), vr (some (16, 0, 0))] Q
      refine sX1_isIn_174 (d := d) (sl (sl (sl M 74 0 (0 : Int64)) 74 1 (0 : Int64)) 74 2 ((8 : Int64) ||| ((4 : Int32)).toInt64)) (some (74, 4, 0)) hw ?_
      exact k
theorem iX1_isIn_136 {E : zE} {d : Nat} {Q : zO → zM → Prop} (M : zM) (hw : cw M) (k : if (lg_cmp (gl M 75 0) (0 : Int64)) = 0 then (if (lg_cmp (gl M 75 1) (0 : Int64)) = 0 then (Q (.inl none) M) else (if (lg_cmp (gl M 71 0) (0 : Int64)) = 0 then (if (lg_cmp (gl M 71 1) (0 : Int64)) = 0 then (16 ≤ 74 ∧ (Z E YX1_nextWith d (sl (sl (sl M 74 0 (0 : Int64)) 74 1 (0 : Int64)) 74 2 ((8 : Int64) ||| ((0 : Int32)).toInt64)) (zargs 0 [vr (some (16, 0, 0)), vr (some (74, 4, 0))]) 0 [] (zafter E YX1_isIn (d + 1) [] 174 3 [] Q))) else (16 ≤ 74 ∧ (Z E YX1_nextWith d (sl (sl (sl M 74 0 (0 : Int64)) 74 1 (0 : Int64)) 74 2 ((8 : Int64) ||| ((4 : Int32)).toInt64)) (zargs 0 [vr (some (16, 0, 0)), vr (some (74, 4, 0))]) 0 [] (zafter E YX1_isIn (d + 1) [] 174 3 [] Q)))) else (16 ≤ 74 ∧ (Z E YX1_nextWith d (sl (sl (sl M 74 0 (0 : Int64)) 74 1 (0 : Int64)) 74 2 ((8 : Int64) ||| ((4 : Int32)).toInt64)) (zargs 0 [vr (some (16, 0, 0)), vr (some (74, 4, 0))]) 0 [] (zafter E YX1_isIn (d + 1) [] 174 3 [] Q))))) else (if (lg_cmp (gl M 71 0) (0 : Int64)) = 0 then (if (lg_cmp (gl M 71 1) (0 : Int64)) = 0 then (16 ≤ 74 ∧ (Z E YX1_nextWith d (sl (sl (sl M 74 0 (0 : Int64)) 74 1 (0 : Int64)) 74 2 ((8 : Int64) ||| ((0 : Int32)).toInt64)) (zargs 0 [vr (some (16, 0, 0)), vr (some (74, 4, 0))]) 0 [] (zafter E YX1_isIn (d + 1) [] 174 3 [] Q))) else (16 ≤ 74 ∧ (Z E YX1_nextWith d (sl (sl (sl M 74 0 (0 : Int64)) 74 1 (0 : Int64)) 74 2 ((8 : Int64) ||| ((4 : Int32)).toInt64)) (zargs 0 [vr (some (16, 0, 0)), vr (some (74, 4, 0))]) 0 [] (zafter E YX1_isIn (d + 1) [] 174 3 [] Q)))) else (16 ≤ 74 ∧ (Z E YX1_nextWith d (sl (sl (sl M 74 0 (0 : Int64)) 74 1 (0 : Int64)) 74 2 ((8 : Int64) ||| ((4 : Int32)).toInt64)) (zargs 0 [vr (some (16, 0, 0)), vr (some (74, 4, 0))]) 0 [] (zafter E YX1_isIn (d + 1) [] 174 3 [] Q))))) : Z E YX1_isIn (d + 1) M [(0, vr (some (16, 0, 0)))] 136 [] Q := by
  refine sX1_isIn_136 (d := d) M hw ?_
  refine sX6_hasLabels_0 (d := d) M 75 ?_
  refine zite k (fun h26656 k => ?_) (fun h26656 k => ?_)
  · refine zite k (fun h26657 k => ?_) (fun h26657 k => ?_)
    · show Z E YX1_isIn (d + 1) M [(0, vr (some (16, 0, 0)))] 143 [vi (0 : Int32)] Q
      refine sX1_isIn_143 (d := d) M (0 : Int32) hw ?_
      refine zpos (show (0 : Int32) = 0 from by decide) ?_
      refine sX1_isIn_177 (d := d) M hw ?_
      exact k
    · show Z E YX1_isIn (d + 1) M [(0, vr (some (16, 0, 0)))] 143 [vi (1 : Int32)] Q
      refine sX1_isIn_143 (d := d) M (1 : Int32) hw ?_
      refine zneg (show ¬ ((1 : Int32) = 0) from by decide) ?_
      refine sX6_hasLabels_0 (d := d) M 71 ?_
      refine zite k (fun h26658 k => ?_) (fun h26658 k => ?_)
      · refine zite k (fun h26659 k => ?_) (fun h26659 k => ?_)
        · show Z E YX1_isIn (d + 1) M [] 161 [vi (0 : Int32), vl (8 : Int64), vr (some (74, 4, 0)), vr (some (16, 0, 0))] Q
          refine sX1_isIn_161 (d := d) M (0 : Int32) (8 : Int64) hw ?_
          refine zpos (show (0 : Int32) = 0 from by decide) ?_
          refine jX6_of (d := d) M 74 ((8 : Int64) ||| ((0 : Int32)).toInt64) ?_
          refine zand k (fun h26660 k => ?_)
          show Z E YX1_isIn (d + 1) (sl (sl (sl M 74 0 (0 : Int64)) 74 1 (0 : Int64)) 74 2 ((8 : Int64) ||| ((0 : Int32)).toInt64)) [] 174 [vr (some (74, 4, 0)), vr (some (16, 0, 0))] Q
          refine sX1_isIn_174 (d := d) (sl (sl (sl M 74 0 (0 : Int64)) 74 1 (0 : Int64)) 74 2 ((8 : Int64) ||| ((0 : Int32)).toInt64)) (some (74, 4, 0)) hw ?_
          exact k
        · show Z E YX1_isIn (d + 1) M [] 161 [vi (1 : Int32), vl (8 : Int64), vr (some (74, 4, 0)), vr (some (16, 0, 0))] Q
          refine sX1_isIn_161 (d := d) M (1 : Int32) (8 : Int64) hw ?_
          refine zneg (show ¬ ((1 : Int32) = 0) from by decide) ?_
          refine jX6_of (d := d) M 74 ((8 : Int64) ||| ((4 : Int32)).toInt64) ?_
          refine zand k (fun h26661 k => ?_)
          show Z E YX1_isIn (d + 1) (sl (sl (sl M 74 0 (0 : Int64)) 74 1 (0 : Int64)) 74 2 ((8 : Int64) ||| ((4 : Int32)).toInt64)) [] 174 [vr (some (74, 4, 0)), vr (some (16, 0, 0))] Q
          refine sX1_isIn_174 (d := d) (sl (sl (sl M 74 0 (0 : Int64)) 74 1 (0 : Int64)) 74 2 ((8 : Int64) ||| ((4 : Int32)).toInt64)) (some (74, 4, 0)) hw ?_
          exact k
      · show Z E YX1_isIn (d + 1) M [] 161 [vi (1 : Int32), vl (8 : Int64), vr (some (74, 4, 0)), vr (some (16, 0, 0))] Q
        refine sX1_isIn_161 (d := d) M (1 : Int32) (8 : Int64) hw ?_
        refine zneg (show ¬ ((1 : Int32) = 0) from by decide) ?_
        refine jX6_of (d := d) M 74 ((8 : Int64) ||| ((4 : Int32)).toInt64) ?_
        refine zand k (fun h26662 k => ?_)
        show Z E YX1_isIn (d + 1) (sl (sl (sl M 74 0 (0 : Int64)) 74 1 (0 : Int64)) 74 2 ((8 : Int64) ||| ((4 : Int32)).toInt64)) [] 174 [vr (some (74, 4, 0)), vr (some (16, 0, 0))] Q
        refine sX1_isIn_174 (d := d) (sl (sl (sl M 74 0 (0 : Int64)) 74 1 (0 : Int64)) 74 2 ((8 : Int64) ||| ((4 : Int32)).toInt64)) (some (74, 4, 0)) hw ?_
        exact k
  · show Z E YX1_isIn (d + 1) M [(0, vr (some (16, 0, 0)))] 143 [vi (1 : Int32)] Q
    refine sX1_isIn_143 (d := d) M (1 : Int32) hw ?_
    refine zneg (show ¬ ((1 : Int32) = 0) from by decide) ?_
    refine sX6_hasLabels_0 (d := d) M 71 ?_
    refine zite k (fun h26663 k => ?_) (fun h26663 k => ?_)
    · refine zite k (fun h26664 k => ?_) (fun h26664 k => ?_)
      · show Z E YX1_isIn (d + 1) M [] 161 [vi (0 : Int32), vl (8 : Int64), vr (some (74, 4, 0)), vr (some (16, 0, 0))] Q
        refine sX1_isIn_161 (d := d) M (0 : Int32) (8 : Int64) hw ?_
        refine zpos (show (0 : Int32) = 0 from by decide) ?_
        refine jX6_of (d := d) M 74 ((8 : Int64) ||| ((0 : Int32)).toInt64) ?_
        refine zand k (fun h26665 k => ?_)
        show Z E YX1_isIn (d + 1) (sl (sl (sl M 74 0 (0 : Int64)) 74 1 (0 : Int64)) 74 2 ((8 : Int64) ||| ((0 : Int32)).toInt64)) [] 174 [vr (some (74, 4, 0)), vr (some (16, 0, 0))] Q
        refine sX1_isIn_174 (d := d) (sl (sl (sl M 74 0 (0 : Int64)) 74 1 (0 : Int64)) 74 2 ((8 : Int64) ||| ((0 : Int32)).toInt64)) (some (74, 4, 0)) hw ?_
        exact k
      · show Z E YX1_isIn (d + 1) M [] 161 [vi (1 : Int32), vl (8 : Int64), vr (some (74, 4, 0)), vr (some (16, 0, 0))] Q
        refine sX1_isIn_161 (d := d) M (1 : Int32) (8 : Int64) hw ?_
        refine zneg (show ¬ ((1 : Int32) = 0) from by decide) ?_
        refine jX6_of (d := d) M 74 ((8 : Int64) ||| ((4 : Int32)).toInt64) ?_
        refine zand k (fun h26666 k => ?_)
        show Z E YX1_isIn (d + 1) (sl (sl (sl M 74 0 (0 : Int64)) 74 1 (0 : Int64)) 74 2 ((8 : Int64) ||| ((4 : Int32)).toInt64)) [] 174 [vr (some (74, 4, 0)), vr (some (16, 0, 0))] Q
        refine sX1_isIn_174 (d := d) (sl (sl (sl M 74 0 (0 : Int64)) 74 1 (0 : Int64)) 74 2 ((8 : Int64) ||| ((4 : Int32)).toInt64)) (some (74, 4, 0)) hw ?_
        exact k
    · show Z E YX1_isIn (d + 1) M [] 161 [vi (1 : Int32), vl (8 : Int64), vr (some (74, 4, 0)), vr (some (16, 0, 0))] Q
      refine sX1_isIn_161 (d := d) M (1 : Int32) (8 : Int64) hw ?_
      refine zneg (show ¬ ((1 : Int32) = 0) from by decide) ?_
      refine jX6_of (d := d) M 74 ((8 : Int64) ||| ((4 : Int32)).toInt64) ?_
      refine zand k (fun h26667 k => ?_)
      show Z E YX1_isIn (d + 1) (sl (sl (sl M 74 0 (0 : Int64)) 74 1 (0 : Int64)) 74 2 ((8 : Int64) ||| ((4 : Int32)).toInt64)) [] 174 [vr (some (74, 4, 0)), vr (some (16, 0, 0))] Q
      refine sX1_isIn_174 (d := d) (sl (sl (sl M 74 0 (0 : Int64)) 74 1 (0 : Int64)) 74 2 ((8 : Int64) ||| ((4 : Int32)).toInt64)) (some (74, 4, 0)) hw ?_
      exact k
theorem iX1_isOf_0 {E : zE} {d : Nat} {Q : zO → zM → Prop} (M : zM) (l1 : Int32) (hw : cw M) (k : if (64 : Int32) ≤ (((29 : Int32) + ((6 : Int32) * (l1 - (1 : Int32)))) + (2 : Int32)) then (∀ x1_v16398v26669 : Int64, x1_v16398v26669 = (zls (zlr (gl M 76 1) ((((29 : Int32) + ((6 : Int32) * (l1 - (1 : Int32)))) + (2 : Int32)) - (64 : Int32))) (63 : Int32)) → (if (lg_cmp x1_v16398v26669 (0 : Int64)) = 0 then (if (64 : Int32) ≤ (((29 : Int32) + ((6 : Int32) * (l1 - (1 : Int32)))) + (3 : Int32)) then (∀ x1_v16398v26672 : Int64, x1_v16398v26672 = (zls (zlr (gl M 76 1) ((((29 : Int32) + ((6 : Int32) * (l1 - (1 : Int32)))) + (3 : Int32)) - (64 : Int32))) (63 : Int32)) → (if (lg_cmp x1_v16398v26672 (0 : Int64)) = 0 then (Q (.inl (some (vi (0 : Int32)))) M) else (Q (.inl (some (vi (1 : Int32)))) M))) else (∀ x1_v16400v26674 : Int64, x1_v16400v26674 = (zls (zlr (gl M 76 0) (((29 : Int32) + ((6 : Int32) * (l1 - (1 : Int32)))) + (3 : Int32))) (63 : Int32)) → (if (lg_cmp x1_v16400v26674 (0 : Int64)) = 0 then (Q (.inl (some (vi (0 : Int32)))) M) else (Q (.inl (some (vi (1 : Int32)))) M)))) else (Q (.inl (some (vi (1 : Int32)))) M))) else (∀ x1_v16400v26676 : Int64, x1_v16400v26676 = (zls (zlr (gl M 76 0) (((29 : Int32) + ((6 : Int32) * (l1 - (1 : Int32)))) + (2 : Int32))) (63 : Int32)) → (if (lg_cmp x1_v16400v26676 (0 : Int64)) = 0 then (if (64 : Int32) ≤ (((29 : Int32) + ((6 : Int32) * (l1 - (1 : Int32)))) + (3 : Int32)) then (∀ x1_v16398v26679 : Int64, x1_v16398v26679 = (zls (zlr (gl M 76 1) ((((29 : Int32) + ((6 : Int32) * (l1 - (1 : Int32)))) + (3 : Int32)) - (64 : Int32))) (63 : Int32)) → (if (lg_cmp x1_v16398v26679 (0 : Int64)) = 0 then (Q (.inl (some (vi (0 : Int32)))) M) else (Q (.inl (some (vi (1 : Int32)))) M))) else (∀ x1_v16400v26681 : Int64, x1_v16400v26681 = (zls (zlr (gl M 76 0) (((29 : Int32) + ((6 : Int32) * (l1 - (1 : Int32)))) + (3 : Int32))) (63 : Int32)) → (if (lg_cmp x1_v16400v26681 (0 : Int64)) = 0 then (Q (.inl (some (vi (0 : Int32)))) M) else (Q (.inl (some (vi (1 : Int32)))) M)))) else (Q (.inl (some (vi (1 : Int32)))) M)))) : Z E YX1_isOf (d + 1) M [(0, vr (some (16, 0, 0))), (1, vi l1)] 0 [] Q := by
  refine sX1_isOf_0 (d := d) M l1 hw ?_
  refine sX1_scopePair_0 (d := d) M l1 hw ?_
  show Z E YX1_isOf (d + 1) M [(0, vr (some (16, 0, 0))), (1, vi l1)] 5 [vi ((29 : Int32) + ((6 : Int32) * (l1 - (1 : Int32))))] Q
  refine sX1_isOf_5 (d := d) M l1 ((29 : Int32) + ((6 : Int32) * (l1 - (1 : Int32)))) hw ?_
  refine jX1_in (d := d) M (((29 : Int32) + ((6 : Int32) * (l1 - (1 : Int32)))) + (2 : Int32)) (gl M 76 0) (gl M 76 1) hw ?_
  refine zite k (fun h26668 k => ?_) (fun h26668 k => ?_)
  · intro x1_v16398v26669 h26669
    have k := k x1_v16398v26669 h26669
    refine zite k (fun h26670 k => ?_) (fun h26670 k => ?_)
    · show Z E YX1_isOf (d + 1) M [(0, vr (some (16, 0, 0))), (1, vi l1)] 24 [vi (0 : Int32)] Q
      refine sX1_isOf_24 (d := d) M l1 (0 : Int32) hw ?_
      refine zpos (show (0 : Int32) = 0 from by decide) ?_
      refine sX1_scopePair_0 (d := d) M l1 hw ?_
      show Z E YX1_isOf (d + 1) M [(0, vr (some (16, 0, 0)))] 32 [vi ((29 : Int32) + ((6 : Int32) * (l1 - (1 : Int32))))] Q
      refine sX1_isOf_32 (d := d) M ((29 : Int32) + ((6 : Int32) * (l1 - (1 : Int32)))) hw ?_
      refine jX1_in (d := d) M (((29 : Int32) + ((6 : Int32) * (l1 - (1 : Int32)))) + (3 : Int32)) (gl M 76 0) (gl M 76 1) hw ?_
      refine zite k (fun h26671 k => ?_) (fun h26671 k => ?_)
      · intro x1_v16398v26672 h26672
        have k := k x1_v16398v26672 h26672
        refine zite k (fun h26673 k => ?_) (fun h26673 k => ?_)
        · show Z E YX1_isOf (d + 1) M [] 51 [vi (0 : Int32)] Q
          refine sX1_isOf_51 (d := d) M (0 : Int32) hw ?_
          refine zpos (show (0 : Int32) = 0 from by decide) ?_
          exact k
        · show Z E YX1_isOf (d + 1) M [] 51 [vi (1 : Int32)] Q
          refine sX1_isOf_51 (d := d) M (1 : Int32) hw ?_
          refine zneg (show ¬ ((1 : Int32) = 0) from by decide) ?_
          exact k
      · intro x1_v16400v26674 h26674
        have k := k x1_v16400v26674 h26674
        refine zite k (fun h26675 k => ?_) (fun h26675 k => ?_)
        · show Z E YX1_isOf (d + 1) M [] 51 [vi (0 : Int32)] Q
          refine sX1_isOf_51 (d := d) M (0 : Int32) hw ?_
          refine zpos (show (0 : Int32) = 0 from by decide) ?_
          exact k
        · show Z E YX1_isOf (d + 1) M [] 51 [vi (1 : Int32)] Q
          refine sX1_isOf_51 (d := d) M (1 : Int32) hw ?_
          refine zneg (show ¬ ((1 : Int32) = 0) from by decide) ?_
          exact k
    · show Z E YX1_isOf (d + 1) M [(0, vr (some (16, 0, 0))), (1, vi l1)] 24 [vi (1 : Int32)] Q
      refine sX1_isOf_24 (d := d) M l1 (1 : Int32) hw ?_
      refine zneg (show ¬ ((1 : Int32) = 0) from by decide) ?_
      exact k
  · intro x1_v16400v26676 h26676
    have k := k x1_v16400v26676 h26676
    refine zite k (fun h26677 k => ?_) (fun h26677 k => ?_)
    · show Z E YX1_isOf (d + 1) M [(0, vr (some (16, 0, 0))), (1, vi l1)] 24 [vi (0 : Int32)] Q
      refine sX1_isOf_24 (d := d) M l1 (0 : Int32) hw ?_
      refine zpos (show (0 : Int32) = 0 from by decide) ?_
      refine sX1_scopePair_0 (d := d) M l1 hw ?_
      show Z E YX1_isOf (d + 1) M [(0, vr (some (16, 0, 0)))] 32 [vi ((29 : Int32) + ((6 : Int32) * (l1 - (1 : Int32))))] Q
      refine sX1_isOf_32 (d := d) M ((29 : Int32) + ((6 : Int32) * (l1 - (1 : Int32)))) hw ?_
      refine jX1_in (d := d) M (((29 : Int32) + ((6 : Int32) * (l1 - (1 : Int32)))) + (3 : Int32)) (gl M 76 0) (gl M 76 1) hw ?_
      refine zite k (fun h26678 k => ?_) (fun h26678 k => ?_)
      · intro x1_v16398v26679 h26679
        have k := k x1_v16398v26679 h26679
        refine zite k (fun h26680 k => ?_) (fun h26680 k => ?_)
        · show Z E YX1_isOf (d + 1) M [] 51 [vi (0 : Int32)] Q
          refine sX1_isOf_51 (d := d) M (0 : Int32) hw ?_
          refine zpos (show (0 : Int32) = 0 from by decide) ?_
          exact k
        · show Z E YX1_isOf (d + 1) M [] 51 [vi (1 : Int32)] Q
          refine sX1_isOf_51 (d := d) M (1 : Int32) hw ?_
          refine zneg (show ¬ ((1 : Int32) = 0) from by decide) ?_
          exact k
      · intro x1_v16400v26681 h26681
        have k := k x1_v16400v26681 h26681
        refine zite k (fun h26682 k => ?_) (fun h26682 k => ?_)
        · show Z E YX1_isOf (d + 1) M [] 51 [vi (0 : Int32)] Q
          refine sX1_isOf_51 (d := d) M (0 : Int32) hw ?_
          refine zpos (show (0 : Int32) = 0 from by decide) ?_
          exact k
        · show Z E YX1_isOf (d + 1) M [] 51 [vi (1 : Int32)] Q
          refine sX1_isOf_51 (d := d) M (1 : Int32) hw ?_
          refine zneg (show ¬ ((1 : Int32) = 0) from by decide) ?_
          exact k
    · show Z E YX1_isOf (d + 1) M [(0, vr (some (16, 0, 0))), (1, vi l1)] 24 [vi (1 : Int32)] Q
      refine sX1_isOf_24 (d := d) M l1 (1 : Int32) hw ?_
      refine zneg (show ¬ ((1 : Int32) = 0) from by decide) ?_
      exact k
theorem iX1_mayBeFalse_0 {E : zE} {d : Nat} {Q : zO → zM → Prop} (M : zM) (r1 : Option zP) (hw : cw M) (k : ∃ b26683 : Nat, r1 = some (b26683, 4, 0) ∧ (if (lg_cmp ((gl M b26683 2) &&& ((347 : Int32)).toInt64) (0 : Int64)) = 0 then (if (lg_cmp ((gl M b26683 2) &&& ((32 : Int32)).toInt64) (0 : Int64)) = 0 then (if (lg_cmp ((gl M b26683 2) &&& ((128 : Int32)).toInt64) (0 : Int64)) = 0 then (Q (.inl (some (vi (0 : Int32)))) M) else (if (((zlr (gl M b26683 2) (16 : Int32)) &&& (65535 : Int64))).toInt32 = (30 : Int32) then (Q (.inl (some (vi (1 : Int32)))) M) else (Q (.inl (some (vi (0 : Int32)))) M))) else (∀ x1_v17361v26688 : Int64, x1_v17361v26688 = (zlr (gl M b26683 2) (32 : Int32)) → (if (x1_v17361v26688).toInt32 = 0 then (Q (.inl (some (vi (1 : Int32)))) M) else (if (lg_cmp ((gl M b26683 2) &&& ((128 : Int32)).toInt64) (0 : Int64)) = 0 then (Q (.inl (some (vi (0 : Int32)))) M) else (if (((zlr (gl M b26683 2) (16 : Int32)) &&& (65535 : Int64))).toInt32 = (30 : Int32) then (Q (.inl (some (vi (1 : Int32)))) M) else (Q (.inl (some (vi (0 : Int32)))) M)))))) else (Q (.inl (some (vi (1 : Int32)))) M))) : Z E YX1_mayBeFalse (d + 1) M [(0, vr (some (16, 0, 0))), (1, vr r1)] 0 [] Q := by
  refine sX1_mayBeFalse_0 (d := d) M r1 hw ?_
  obtain ⟨b26683, h26683, k⟩ := k
  refine ⟨b26683, h26683, ?_⟩
  refine sX6_has_0 (d := d) M b26683 (347 : Int32) ?_
  refine zite k (fun h26684 k => ?_) (fun h26684 k => ?_)
  · show Z E YX1_mayBeFalse (d + 1) M [(1, vr (some (b26683, 4, 0)))] 7 [vi (0 : Int32)] Q
    refine sX1_mayBeFalse_7 (d := d) M b26683 (0 : Int32) hw ?_
    refine zpos (show (0 : Int32) = 0 from by decide) ?_
    refine sX6_has_0 (d := d) M b26683 (32 : Int32) ?_
    refine zite k (fun h26685 k => ?_) (fun h26685 k => ?_)
    · show Z E YX1_mayBeFalse (d + 1) M [(1, vr (some (b26683, 4, 0)))] 16 [vi (0 : Int32)] Q
      refine sX1_mayBeFalse_16 (d := d) M b26683 (0 : Int32) hw ?_
      refine zpos (show (0 : Int32) = 0 from by decide) ?_
      refine sX6_has_0 (d := d) M b26683 (128 : Int32) ?_
      refine zite k (fun h26686 k => ?_) (fun h26686 k => ?_)
      · show Z E YX1_mayBeFalse (d + 1) M [(1, vr (some (b26683, 4, 0)))] 33 [vi (0 : Int32)] Q
        refine sX1_mayBeFalse_33 (d := d) M b26683 (0 : Int32) hw ?_
        refine zpos (show (0 : Int32) = 0 from by decide) ?_
        exact k
      · show Z E YX1_mayBeFalse (d + 1) M [(1, vr (some (b26683, 4, 0)))] 33 [vi (1 : Int32)] Q
        refine sX1_mayBeFalse_33 (d := d) M b26683 (1 : Int32) hw ?_
        refine zneg (show ¬ ((1 : Int32) = 0) from by decide) ?_
        refine sX6_name_0 (d := d) M b26683 ?_
        show Z E YX1_mayBeFalse (d + 1) M [] 40 [vi (((zlr (gl M b26683 2) (16 : Int32)) &&& (65535 : Int64))).toInt32] Q
        refine sX1_mayBeFalse_40 (d := d) M ((((zlr (gl M b26683 2) (16 : Int32)) &&& (65535 : Int64))).toInt32) hw ?_
        exact k
    · show Z E YX1_mayBeFalse (d + 1) M [(1, vr (some (b26683, 4, 0)))] 16 [vi (1 : Int32)] Q
      refine sX1_mayBeFalse_16 (d := d) M b26683 (1 : Int32) hw ?_
      refine zneg (show ¬ ((1 : Int32) = 0) from by decide) ?_
      refine sX6_number_0 (d := d) M b26683 ?_
      intro x1_v17361v26688 h26688
      have k := k x1_v17361v26688 h26688
      show Z E YX1_mayBeFalse (d + 1) M [(1, vr (some (b26683, 4, 0)))] 23 [vi (x1_v17361v26688).toInt32] Q
      refine sX1_mayBeFalse_23 (d := d) M b26683 ((x1_v17361v26688).toInt32) hw ?_
      refine zite k (fun h26689 k => ?_) (fun h26689 k => ?_)
      · exact k
      · refine sX6_has_0 (d := d) M b26683 (128 : Int32) ?_
        refine zite k (fun h26690 k => ?_) (fun h26690 k => ?_)
        · show Z E YX1_mayBeFalse (d + 1) M [(1, vr (some (b26683, 4, 0)))] 33 [vi (0 : Int32)] Q
          refine sX1_mayBeFalse_33 (d := d) M b26683 (0 : Int32) hw ?_
          refine zpos (show (0 : Int32) = 0 from by decide) ?_
          exact k
        · show Z E YX1_mayBeFalse (d + 1) M [(1, vr (some (b26683, 4, 0)))] 33 [vi (1 : Int32)] Q
          refine sX1_mayBeFalse_33 (d := d) M b26683 (1 : Int32) hw ?_
          refine zneg (show ¬ ((1 : Int32) = 0) from by decide) ?_
          refine sX6_name_0 (d := d) M b26683 ?_
          show Z E YX1_mayBeFalse (d + 1) M [] 40 [vi (((zlr (gl M b26683 2) (16 : Int32)) &&& (65535 : Int64))).toInt32] Q
          refine sX1_mayBeFalse_40 (d := d) M ((((zlr (gl M b26683 2) (16 : Int32)) &&& (65535 : Int64))).toInt32) hw ?_
          exact k
  · show Z E YX1_mayBeFalse (d + 1) M [(1, vr (some (b26683, 4, 0)))] 7 [vi (1 : Int32)] Q
    refine sX1_mayBeFalse_7 (d := d) M b26683 (1 : Int32) hw ?_
    refine zneg (show ¬ ((1 : Int32) = 0) from by decide) ?_
    exact k
theorem iX1_mayBeTrue_0 {E : zE} {d : Nat} {Q : zO → zM → Prop} (M : zM) (r1 : Option zP) (hw : cw M) (k : ∃ b26692 : Nat, r1 = some (b26692, 4, 0) ∧ (if (lg_cmp ((gl M b26692 2) &&& ((324 : Int32)).toInt64) (0 : Int64)) = 0 then (if (lg_cmp (gl M b26692 0) (0 : Int64)) = 0 then (if (lg_cmp (gl M b26692 1) (0 : Int64)) = 0 then (if (lg_cmp ((gl M b26692 2) &&& ((32 : Int32)).toInt64) (0 : Int64)) = 0 then (if (lg_cmp ((gl M b26692 2) &&& ((128 : Int32)).toInt64) (0 : Int64)) = 0 then (Q (.inl (some (vi (0 : Int32)))) M) else (if (((zlr (gl M b26692 2) (16 : Int32)) &&& (65535 : Int64))).toInt32 = (30 : Int32) then (Q (.inl (some (vi (0 : Int32)))) M) else (Q (.inl (some (vi (1 : Int32)))) M))) else (∀ x1_v17361v26699 : Int64, x1_v17361v26699 = (zlr (gl M b26692 2) (32 : Int32)) → (if (x1_v17361v26699).toInt32 = 0 then (if (lg_cmp ((gl M b26692 2) &&& ((128 : Int32)).toInt64) (0 : Int64)) = 0 then (Q (.inl (some (vi (0 : Int32)))) M) else (if (((zlr (gl M b26692 2) (16 : Int32)) &&& (65535 : Int64))).toInt32 = (30 : Int32) then (Q (.inl (some (vi (0 : Int32)))) M) else (Q (.inl (some (vi (1 : Int32)))) M))) else (Q (.inl (some (vi (1 : Int32)))) M)))) else (Q (.inl (some (vi (1 : Int32)))) M)) else (Q (.inl (some (vi (1 : Int32)))) M)) else (Q (.inl (some (vi (1 : Int32)))) M))) : Z E YX1_mayBeTrue (d + 1) M [(0, vr (some (16, 0, 0))), (1, vr r1)] 0 [] Q := by
  refine sX1_mayBeTrue_0 (d := d) M r1 hw ?_
  obtain ⟨b26692, h26692, k⟩ := k
  refine ⟨b26692, h26692, ?_⟩
  refine sX6_has_0 (d := d) M b26692 (324 : Int32) ?_
  refine zite k (fun h26693 k => ?_) (fun h26693 k => ?_)
  · show Z E YX1_mayBeTrue (d + 1) M [(1, vr (some (b26692, 4, 0)))] 7 [vi (0 : Int32)] Q
    refine sX1_mayBeTrue_7 (d := d) M b26692 (0 : Int32) hw ?_
    refine zpos (show (0 : Int32) = 0 from by decide) ?_
    refine sX6_hasLabels_0 (d := d) M b26692 ?_
    refine zite k (fun h26694 k => ?_) (fun h26694 k => ?_)
    · refine zite k (fun h26695 k => ?_) (fun h26695 k => ?_)
      · show Z E YX1_mayBeTrue (d + 1) M [(1, vr (some (b26692, 4, 0)))] 14 [vi (0 : Int32)] Q
        refine sX1_mayBeTrue_14 (d := d) M b26692 (0 : Int32) hw ?_
        refine zpos (show (0 : Int32) = 0 from by decide) ?_
        refine sX6_has_0 (d := d) M b26692 (32 : Int32) ?_
        refine zite k (fun h26696 k => ?_) (fun h26696 k => ?_)
        · show Z E YX1_mayBeTrue (d + 1) M [(1, vr (some (b26692, 4, 0)))] 23 [vi (0 : Int32)] Q
          refine sX1_mayBeTrue_23 (d := d) M b26692 (0 : Int32) hw ?_
          refine zpos (show (0 : Int32) = 0 from by decide) ?_
          refine sX6_has_0 (d := d) M b26692 (128 : Int32) ?_
          refine zite k (fun h26697 k => ?_) (fun h26697 k => ?_)
          · show Z E YX1_mayBeTrue (d + 1) M [(1, vr (some (b26692, 4, 0)))] 40 [vi (0 : Int32)] Q
            refine sX1_mayBeTrue_40 (d := d) M b26692 (0 : Int32) hw ?_
            refine zpos (show (0 : Int32) = 0 from by decide) ?_
            exact k
          · show Z E YX1_mayBeTrue (d + 1) M [(1, vr (some (b26692, 4, 0)))] 40 [vi (1 : Int32)] Q
            refine sX1_mayBeTrue_40 (d := d) M b26692 (1 : Int32) hw ?_
            refine zneg (show ¬ ((1 : Int32) = 0) from by decide) ?_
            refine sX6_name_0 (d := d) M b26692 ?_
            show Z E YX1_mayBeTrue (d + 1) M [] 47 [vi (((zlr (gl M b26692 2) (16 : Int32)) &&& (65535 : Int64))).toInt32] Q
            refine sX1_mayBeTrue_47 (d := d) M ((((zlr (gl M b26692 2) (16 : Int32)) &&& (65535 : Int64))).toInt32) hw ?_
            exact k
        · show Z E YX1_mayBeTrue (d + 1) M [(1, vr (some (b26692, 4, 0)))] 23 [vi (1 : Int32)] Q
          refine sX1_mayBeTrue_23 (d := d) M b26692 (1 : Int32) hw ?_
          refine zneg (show ¬ ((1 : Int32) = 0) from by decide) ?_
          refine sX6_number_0 (d := d) M b26692 ?_
          intro x1_v17361v26699 h26699
          have k := k x1_v17361v26699 h26699
          show Z E YX1_mayBeTrue (d + 1) M [(1, vr (some (b26692, 4, 0)))] 30 [vi (x1_v17361v26699).toInt32] Q
          refine sX1_mayBeTrue_30 (d := d) M b26692 ((x1_v17361v26699).toInt32) hw ?_
          refine zite k (fun h26700 k => ?_) (fun h26700 k => ?_)
          · refine sX6_has_0 (d := d) M b26692 (128 : Int32) ?_
            refine zite k (fun h26701 k => ?_) (fun h26701 k => ?_)
            · show Z E YX1_mayBeTrue (d + 1) M [(1, vr (some (b26692, 4, 0)))] 40 [vi (0 : Int32)] Q
              refine sX1_mayBeTrue_40 (d := d) M b26692 (0 : Int32) hw ?_
              refine zpos (show (0 : Int32) = 0 from by decide) ?_
              exact k
            · show Z E YX1_mayBeTrue (d + 1) M [(1, vr (some (b26692, 4, 0)))] 40 [vi (1 : Int32)] Q
              refine sX1_mayBeTrue_40 (d := d) M b26692 (1 : Int32) hw ?_
              refine zneg (show ¬ ((1 : Int32) = 0) from by decide) ?_
              refine sX6_name_0 (d := d) M b26692 ?_
              show Z E YX1_mayBeTrue (d + 1) M [] 47 [vi (((zlr (gl M b26692 2) (16 : Int32)) &&& (65535 : Int64))).toInt32] Q
              refine sX1_mayBeTrue_47 (d := d) M ((((zlr (gl M b26692 2) (16 : Int32)) &&& (65535 : Int64))).toInt32) hw ?_
              exact k
          · exact k
      · show Z E YX1_mayBeTrue (d + 1) M [(1, vr (some (b26692, 4, 0)))] 14 [vi (1 : Int32)] Q
        refine sX1_mayBeTrue_14 (d := d) M b26692 (1 : Int32) hw ?_
        refine zneg (show ¬ ((1 : Int32) = 0) from by decide) ?_
        exact k
    · show Z E YX1_mayBeTrue (d + 1) M [(1, vr (some (b26692, 4, 0)))] 14 [vi (1 : Int32)] Q
      refine sX1_mayBeTrue_14 (d := d) M b26692 (1 : Int32) hw ?_
      refine zneg (show ¬ ((1 : Int32) = 0) from by decide) ?_
      exact k
  · show Z E YX1_mayBeTrue (d + 1) M [(1, vr (some (b26692, 4, 0)))] 7 [vi (1 : Int32)] Q
    refine sX1_mayBeTrue_7 (d := d) M b26692 (1 : Int32) hw ?_
    refine zneg (show ¬ ((1 : Int32) = 0) from by decide) ?_
    exact k
theorem iX1_newOne_66 {E : zE} {d : Nat} {Q : zO → zM → Prop} (M : zM) (l1 : Int32) (l2 : Int64) (l4 : Int32) (hw : cw M) (k : if l1 = (11 : Int32) then (∃ b26707 : Nat, (gr M 16 60) = some (b26707, 7, 0) ∧ (∃ b26708 : Nat, (gr M b26707 0) = some (b26708, 0, 0) ∧ (∃ b26709 m26709 : Nat, (gr M 84 3) = some (b26709, 105, m26709) ∧ (vp_in (0 : Int32) m26709 ∧ (∀ x1_v18196v26711 : Int64, x1_v18196v26711 = (zls ((0 : Int32)).toInt64 (32 : Int32)) → (Z E YX1_joined d M (zargs 0 [vl (gl M b26709 ((0 : Int32)).toNatClampNeg), vl ((32 : Int64) ||| x1_v18196v26711)]) 0 [] (zafter E YX1_newOne (d + 1) [(0, vr (some (16, 0, 0))), (1, vi l1), (2, vl l2), (4, vi l4)] 106 3 [vi ((l4 * ((gi M b26708 1) + (1 : Int32))) + (0 : Int32)), vr (gr M b26707 3)] Q))))))) else (Z E YX1_newOne (d + 1) M [(0, vr (some (16, 0, 0))), (1, vi l1), (2, vl l2), (4, vi l4)] 110 [] Q)) : Z E YX1_newOne (d + 1) M [(0, vr (some (16, 0, 0))), (1, vi l1), (2, vl l2), (4, vi l4)] 66 [] Q := by
  refine sX1_newOne_66 (d := d) M l1 l2 l4 hw ?_
  refine zite k (fun h26706 k => ?_) (fun h26706 k => ?_)
  · obtain ⟨b26707, h26707, k⟩ := k
    refine ⟨b26707, h26707, ?_⟩
    refine sX43_cell_0 (d := d) M b26707 l4 (0 : Int32) ?_
    obtain ⟨b26708, h26708, k⟩ := k
    refine ⟨b26708, h26708, ?_⟩
    show Z E YX1_newOne (d + 1) M [(0, vr (some (16, 0, 0))), (1, vi l1), (2, vl l2), (4, vi l4)] 82 [vi ((l4 * ((gi M b26708 1) + (1 : Int32))) + (0 : Int32))] Q
    refine sX1_newOne_82 (d := d) M l1 l2 l4 ((l4 * ((gi M b26708 1) + (1 : Int32))) + (0 : Int32)) hw ?_
    refine ⟨b26707, h26707, ?_⟩
    obtain ⟨b26709, m26709, h26709, k⟩ := k
    refine ⟨b26709, m26709, h26709, ?_⟩
    refine zand k (fun h26710 k => ?_)
    refine sX1_numberSet_0 (d := d) M (0 : Int32) hw ?_
    intro x1_v18196v26711 h26711
    have k := k x1_v18196v26711 h26711
    show Z E YX1_newOne (d + 1) M [(0, vr (some (16, 0, 0))), (1, vi l1), (2, vl l2), (4, vi l4)] 106 [vl ((32 : Int64) ||| x1_v18196v26711), vl (gl M b26709 ((0 : Int32)).toNatClampNeg), vi ((l4 * ((gi M b26708 1) + (1 : Int32))) + (0 : Int32)), vr (gr M b26707 3)] Q
    refine sX1_newOne_106 (d := d) M l1 l2 l4 ((32 : Int64) ||| x1_v18196v26711) (gl M b26709 ((0 : Int32)).toNatClampNeg) ((l4 * ((gi M b26708 1) + (1 : Int32))) + (0 : Int32)) (gr M b26707 3) hw ?_
    exact k
  · exact k
theorem iX1_newOne_110 {E : zE} {d : Nat} {Q : zO → zM → Prop} (M : zM) (l1 : Int32) (l2 : Int64) (l4 : Int32) (hw : cw M) (k : if (lg_cmp l2 (0 : Int64)) = 0 then (16 ≤ 74 ∧ (if (64 : Int32) ≤ l4 then (Z E YX1_nextWith d (sl (sl (sl (sl M 74 0 (0 : Int64)) 74 1 (0 : Int64)) 74 2 (0 : Int64)) 74 1 ((0 : Int64) ||| (zls (1 : Int64) (l4 - (64 : Int32))))) (zargs 0 [vr (some (16, 0, 0)), vr (some (74, 4, 0))]) 0 [] (zafter E YX1_newOne (d + 1) [(0, vr (some (16, 0, 0))), (4, vi l4)] 170 3 [] Q)) else (Z E YX1_nextWith d (sl (sl (sl (sl M 74 0 (0 : Int64)) 74 1 (0 : Int64)) 74 2 (0 : Int64)) 74 0 ((0 : Int64) ||| (zls (1 : Int64) l4))) (zargs 0 [vr (some (16, 0, 0)), vr (some (74, 4, 0))]) 0 [] (zafter E YX1_newOne (d + 1) [(0, vr (some (16, 0, 0))), (4, vi l4)] 170 3 [] Q)))) else (if l1 ≤ (13 : Int32) then (16 ≤ 74 ∧ (if (64 : Int32) ≤ l4 then (Z E YX1_nextWith d (sl (sl (sl (sl M 74 0 (0 : Int64)) 74 1 (0 : Int64)) 74 2 (0 : Int64)) 74 1 ((0 : Int64) ||| (zls (1 : Int64) (l4 - (64 : Int32))))) (zargs 0 [vr (some (16, 0, 0)), vr (some (74, 4, 0))]) 0 [] (zafter E YX1_newOne (d + 1) [(0, vr (some (16, 0, 0))), (4, vi l4)] 170 3 [] Q)) else (Z E YX1_nextWith d (sl (sl (sl (sl M 74 0 (0 : Int64)) 74 1 (0 : Int64)) 74 2 (0 : Int64)) 74 0 ((0 : Int64) ||| (zls (1 : Int64) l4))) (zargs 0 [vr (some (16, 0, 0)), vr (some (74, 4, 0))]) 0 [] (zafter E YX1_newOne (d + 1) [(0, vr (some (16, 0, 0))), (4, vi l4)] 170 3 [] Q)))) else (∃ b26721 : Nat, (gr M 16 60) = some (b26721, 7, 0) ∧ (∃ b26722 : Nat, (gr M b26721 0) = some (b26722, 0, 0) ∧ (∃ b26723 m26723 : Nat, (gr M 84 3) = some (b26723, 105, m26723) ∧ (vp_in (3 : Int32) m26723 ∧ (Z E YX1_joined d M (zargs 0 [vl (gl M b26723 ((3 : Int32)).toNatClampNeg), vl l2]) 0 [] (zafter E YX1_newOne (d + 1) [(0, vr (some (16, 0, 0))), (4, vi l4)] 153 3 [vi ((l4 * ((gi M b26722 1) + (1 : Int32))) + (3 : Int32)), vr (gr M b26721 3)] Q)))))))) : Z E YX1_newOne (d + 1) M [(0, vr (some (16, 0, 0))), (1, vi l1), (2, vl l2), (4, vi l4)] 110 [] Q := by
  refine sX1_newOne_110 (d := d) M l1 l2 l4 hw ?_
  refine zite k (fun h26715 k => ?_) (fun h26715 k => ?_)
  · refine jX6_empty (d := d) M 74 ?_
    refine zand k (fun h26716 k => ?_)
    show Z E YX1_newOne (d + 1) (sl (sl (sl M 74 0 (0 : Int64)) 74 1 (0 : Int64)) 74 2 (0 : Int64)) [(0, vr (some (16, 0, 0))), (4, vi l4)] 165 [vr (some (74, 4, 0)), vr (some (16, 0, 0))] Q
    refine sX1_newOne_165 (d := d) (sl (sl (sl M 74 0 (0 : Int64)) 74 1 (0 : Int64)) 74 2 (0 : Int64)) l4 (some (74, 4, 0)) hw ?_
    refine ⟨74, rfl, ?_⟩
    refine sX6_add_0 (d := d) (sl (sl (sl M 74 0 (0 : Int64)) 74 1 (0 : Int64)) 74 2 (0 : Int64)) 74 l4 ?_
    refine zite k (fun h26717 k => ?_) (fun h26717 k => ?_)
    · refine ⟨h26716, ?_⟩
      show Z E YX1_newOne (d + 1) (sl (sl (sl (sl M 74 0 (0 : Int64)) 74 1 (0 : Int64)) 74 2 (0 : Int64)) 74 1 ((0 : Int64) ||| (zls (1 : Int64) (l4 - (64 : Int32))))) [(0, vr (some (16, 0, 0))), (4, vi l4)] 170 [vr (some (74, 4, 0)), vr (some (16, 0, 0))] Q
      refine sX1_newOne_170 (d := d) (sl (sl (sl (sl M 74 0 (0 : Int64)) 74 1 (0 : Int64)) 74 2 (0 : Int64)) 74 1 ((0 : Int64) ||| (zls (1 : Int64) (l4 - (64 : Int32))))) l4 (some (74, 4, 0)) hw ?_
      exact k
    · refine ⟨h26716, ?_⟩
      show Z E YX1_newOne (d + 1) (sl (sl (sl (sl M 74 0 (0 : Int64)) 74 1 (0 : Int64)) 74 2 (0 : Int64)) 74 0 ((0 : Int64) ||| (zls (1 : Int64) l4))) [(0, vr (some (16, 0, 0))), (4, vi l4)] 170 [vr (some (74, 4, 0)), vr (some (16, 0, 0))] Q
      refine sX1_newOne_170 (d := d) (sl (sl (sl (sl M 74 0 (0 : Int64)) 74 1 (0 : Int64)) 74 2 (0 : Int64)) 74 0 ((0 : Int64) ||| (zls (1 : Int64) l4))) l4 (some (74, 4, 0)) hw ?_
      exact k
  · refine zite k (fun h26718 k => ?_) (fun h26718 k => ?_)
    · refine jX6_empty (d := d) M 74 ?_
      refine zand k (fun h26719 k => ?_)
      show Z E YX1_newOne (d + 1) (sl (sl (sl M 74 0 (0 : Int64)) 74 1 (0 : Int64)) 74 2 (0 : Int64)) [(0, vr (some (16, 0, 0))), (4, vi l4)] 165 [vr (some (74, 4, 0)), vr (some (16, 0, 0))] Q
      refine sX1_newOne_165 (d := d) (sl (sl (sl M 74 0 (0 : Int64)) 74 1 (0 : Int64)) 74 2 (0 : Int64)) l4 (some (74, 4, 0)) hw ?_
      refine ⟨74, rfl, ?_⟩
      refine sX6_add_0 (d := d) (sl (sl (sl M 74 0 (0 : Int64)) 74 1 (0 : Int64)) 74 2 (0 : Int64)) 74 l4 ?_
      refine zite k (fun h26720 k => ?_) (fun h26720 k => ?_)
      · refine ⟨h26719, ?_⟩
        show Z E YX1_newOne (d + 1) (sl (sl (sl (sl M 74 0 (0 : Int64)) 74 1 (0 : Int64)) 74 2 (0 : Int64)) 74 1 ((0 : Int64) ||| (zls (1 : Int64) (l4 - (64 : Int32))))) [(0, vr (some (16, 0, 0))), (4, vi l4)] 170 [vr (some (74, 4, 0)), vr (some (16, 0, 0))] Q
        refine sX1_newOne_170 (d := d) (sl (sl (sl (sl M 74 0 (0 : Int64)) 74 1 (0 : Int64)) 74 2 (0 : Int64)) 74 1 ((0 : Int64) ||| (zls (1 : Int64) (l4 - (64 : Int32))))) l4 (some (74, 4, 0)) hw ?_
        exact k
      · refine ⟨h26719, ?_⟩
        show Z E YX1_newOne (d + 1) (sl (sl (sl (sl M 74 0 (0 : Int64)) 74 1 (0 : Int64)) 74 2 (0 : Int64)) 74 0 ((0 : Int64) ||| (zls (1 : Int64) l4))) [(0, vr (some (16, 0, 0))), (4, vi l4)] 170 [vr (some (74, 4, 0)), vr (some (16, 0, 0))] Q
        refine sX1_newOne_170 (d := d) (sl (sl (sl (sl M 74 0 (0 : Int64)) 74 1 (0 : Int64)) 74 2 (0 : Int64)) 74 0 ((0 : Int64) ||| (zls (1 : Int64) l4))) l4 (some (74, 4, 0)) hw ?_
        exact k
    · obtain ⟨b26721, h26721, k⟩ := k
      refine ⟨b26721, h26721, ?_⟩
      refine sX43_cell_0 (d := d) M b26721 l4 (3 : Int32) ?_
      obtain ⟨b26722, h26722, k⟩ := k
      refine ⟨b26722, h26722, ?_⟩
      show Z E YX1_newOne (d + 1) M [(0, vr (some (16, 0, 0))), (2, vl l2), (4, vi l4)] 132 [vi ((l4 * ((gi M b26722 1) + (1 : Int32))) + (3 : Int32))] Q
      refine sX1_newOne_132 (d := d) M l2 l4 ((l4 * ((gi M b26722 1) + (1 : Int32))) + (3 : Int32)) hw ?_
      refine ⟨b26721, h26721, ?_⟩
      exact k
theorem iX1_newOne_156 {E : zE} {d : Nat} {Q : zO → zM → Prop} (M : zM) (l4 : Int32) (s0 : Int64) (s1 : Int32) (u2 : Option zP) (hw : cw M) (k : ∃ b26725 m26725 : Nat, u2 = some (b26725, 105, m26725) ∧ (16 ≤ b26725 ∧ (vp_in s1 m26725 ∧ (16 ≤ 74 ∧ (if (64 : Int32) ≤ l4 then (Z E YX1_nextWith d (sl (sl (sl (sl (sl M b26725 (s1).toNatClampNeg s0) 74 0 (0 : Int64)) 74 1 (0 : Int64)) 74 2 (0 : Int64)) 74 1 ((0 : Int64) ||| (zls (1 : Int64) (l4 - (64 : Int32))))) (zargs 0 [vr (some (16, 0, 0)), vr (some (74, 4, 0))]) 0 [] (zafter E YX1_newOne (d + 1) [(0, vr (some (16, 0, 0))), (4, vi l4)] 170 3 [] Q)) else (Z E YX1_nextWith d (sl (sl (sl (sl (sl M b26725 (s1).toNatClampNeg s0) 74 0 (0 : Int64)) 74 1 (0 : Int64)) 74 2 (0 : Int64)) 74 0 ((0 : Int64) ||| (zls (1 : Int64) l4))) (zargs 0 [vr (some (16, 0, 0)), vr (some (74, 4, 0))]) 0 [] (zafter E YX1_newOne (d + 1) [(0, vr (some (16, 0, 0))), (4, vi l4)] 170 3 [] Q))))))) : Z E YX1_newOne (d + 1) M [(0, vr (some (16, 0, 0))), (4, vi l4)] 156 [vl s0, vi s1, vr u2] Q := by
  refine sX1_newOne_156 (d := d) M l4 s0 s1 u2 hw ?_
  obtain ⟨b26725, m26725, h26725, k⟩ := k
  refine ⟨b26725, m26725, h26725, ?_⟩
  refine zand k (fun h26726 k => ?_)
  refine zand k (fun h26727 k => ?_)
  refine jX6_empty (d := d) (sl M b26725 (s1).toNatClampNeg s0) 74 ?_
  refine zand k (fun h26728 k => ?_)
  show Z E YX1_newOne (d + 1) (sl (sl (sl (sl M b26725 (s1).toNatClampNeg s0) 74 0 (0 : Int64)) 74 1 (0 : Int64)) 74 2 (0 : Int64)) [(0, vr (some (16, 0, 0))), (4, vi l4)] 165 [vr (some (74, 4, 0)), vr (some (16, 0, 0))] Q
  refine sX1_newOne_165 (d := d) (sl (sl (sl (sl M b26725 (s1).toNatClampNeg s0) 74 0 (0 : Int64)) 74 1 (0 : Int64)) 74 2 (0 : Int64)) l4 (some (74, 4, 0)) hw ?_
  refine ⟨74, rfl, ?_⟩
  refine sX6_add_0 (d := d) (sl (sl (sl (sl M b26725 (s1).toNatClampNeg s0) 74 0 (0 : Int64)) 74 1 (0 : Int64)) 74 2 (0 : Int64)) 74 l4 ?_
  refine zite k (fun h26729 k => ?_) (fun h26729 k => ?_)
  · refine ⟨h26728, ?_⟩
    show Z E YX1_newOne (d + 1) (sl (sl (sl (sl (sl M b26725 (s1).toNatClampNeg s0) 74 0 (0 : Int64)) 74 1 (0 : Int64)) 74 2 (0 : Int64)) 74 1 ((0 : Int64) ||| (zls (1 : Int64) (l4 - (64 : Int32))))) [(0, vr (some (16, 0, 0))), (4, vi l4)] 170 [vr (some (74, 4, 0)), vr (some (16, 0, 0))] Q
    refine sX1_newOne_170 (d := d) (sl (sl (sl (sl (sl M b26725 (s1).toNatClampNeg s0) 74 0 (0 : Int64)) 74 1 (0 : Int64)) 74 2 (0 : Int64)) 74 1 ((0 : Int64) ||| (zls (1 : Int64) (l4 - (64 : Int32))))) l4 (some (74, 4, 0)) hw ?_
    exact k
  · refine ⟨h26728, ?_⟩
    show Z E YX1_newOne (d + 1) (sl (sl (sl (sl (sl M b26725 (s1).toNatClampNeg s0) 74 0 (0 : Int64)) 74 1 (0 : Int64)) 74 2 (0 : Int64)) 74 0 ((0 : Int64) ||| (zls (1 : Int64) l4))) [(0, vr (some (16, 0, 0))), (4, vi l4)] 170 [vr (some (74, 4, 0)), vr (some (16, 0, 0))] Q
    refine sX1_newOne_170 (d := d) (sl (sl (sl (sl (sl M b26725 (s1).toNatClampNeg s0) 74 0 (0 : Int64)) 74 1 (0 : Int64)) 74 2 (0 : Int64)) 74 0 ((0 : Int64) ||| (zls (1 : Int64) l4))) l4 (some (74, 4, 0)) hw ?_
    exact k
theorem iX1_readsIn_0 {E : zE} {d : Nat} {Q : zO → zM → Prop} (M : zM) (hw : cw M) (k : if (lg_cmp ((gl M 72 2) &&& (511 : Int64)) (0 : Int64)) = 0 then (if (lg_cmp (gl M 72 0) (0 : Int64)) = 0 then (if (lg_cmp (gl M 72 1) (0 : Int64)) = 0 then (Q (.inl none) M) else (Z E YX1_keys d M (zargs 0 [vr (some (16, 0, 0)), vr (some (71, 4, 0))]) 0 [] (zafter E YX1_readsIn (d + 1) [(0, vr (some (16, 0, 0)))] 41 3 [] Q))) else (Z E YX1_keys d M (zargs 0 [vr (some (16, 0, 0)), vr (some (71, 4, 0))]) 0 [] (zafter E YX1_readsIn (d + 1) [(0, vr (some (16, 0, 0)))] 41 3 [] Q))) else (Z E YX1_errs d M (zargs 0 [vr (some (16, 0, 0)), vr (gr M 16 60), vi (0 : Int32)]) 0 [] (zafter E YX1_readsIn (d + 1) [(0, vr (some (16, 0, 0)))] 22 3 [] Q))) : Z E YX1_readsIn (d + 1) M [(0, vr (some (16, 0, 0)))] 0 [] Q := by
  refine sX1_readsIn_0 (d := d) M hw ?_
  refine zite k (fun h26730 k => ?_) (fun h26730 k => ?_)
  · refine sX1_readsIn_25 (d := d) M hw ?_
    refine sX6_hasLabels_0 (d := d) M 72 ?_
    refine zite k (fun h26731 k => ?_) (fun h26731 k => ?_)
    · refine zite k (fun h26732 k => ?_) (fun h26732 k => ?_)
      · show Z E YX1_readsIn (d + 1) M [(0, vr (some (16, 0, 0)))] 32 [vi (0 : Int32)] Q
        refine sX1_readsIn_32 (d := d) M (0 : Int32) hw ?_
        refine zpos (show (0 : Int32) = 0 from by decide) ?_
        exact k
      · show Z E YX1_readsIn (d + 1) M [(0, vr (some (16, 0, 0)))] 32 [vi (1 : Int32)] Q
        refine sX1_readsIn_32 (d := d) M (1 : Int32) hw ?_
        refine zneg (show ¬ ((1 : Int32) = 0) from by decide) ?_
        exact k
    · show Z E YX1_readsIn (d + 1) M [(0, vr (some (16, 0, 0)))] 32 [vi (1 : Int32)] Q
      refine sX1_readsIn_32 (d := d) M (1 : Int32) hw ?_
      refine zneg (show ¬ ((1 : Int32) = 0) from by decide) ?_
      exact k
  · exact k
theorem iX1_readsIn_44 {E : zE} {d : Nat} {Q : zO → zM → Prop} (M : zM) (hw : cw M) (k : 16 ≤ 75 ∧ (Z E YX1_readAll d (sl (sl (sl M 75 0 (0 : Int64)) 75 1 (0 : Int64)) 75 2 (0 : Int64)) (zargs 0 [vr (some (16, 0, 0)), vl (gl M 72 0), vl (gl M 72 1), vr (some (75, 4, 0))]) 0 [] (zafter E YX1_readsIn (d + 1) [(0, vr (some (16, 0, 0)))] 66 3 [] Q))) : Z E YX1_readsIn (d + 1) M [(0, vr (some (16, 0, 0)))] 44 [] Q := by
  refine sX1_readsIn_44 (d := d) M hw ?_
  refine jX6_empty (d := d) M 75 ?_
  refine zand k (fun h26733 k => ?_)
  show Z E YX1_readsIn (d + 1) (sl (sl (sl M 75 0 (0 : Int64)) 75 1 (0 : Int64)) 75 2 (0 : Int64)) [(0, vr (some (16, 0, 0)))] 66 [vr (some (75, 4, 0)), vl (gl M 72 1), vl (gl M 72 0), vr (some (16, 0, 0))] Q
  refine sX1_readsIn_66 (d := d) (sl (sl (sl M 75 0 (0 : Int64)) 75 1 (0 : Int64)) 75 2 (0 : Int64)) (some (75, 4, 0)) (gl M 72 1) (gl M 72 0) hw ?_
  exact k
theorem iX1_readsIn_25 {E : zE} {d : Nat} {Q : zO → zM → Prop} (M : zM) (hw : cw M) (k : if (lg_cmp (gl M 72 0) (0 : Int64)) = 0 then (if (lg_cmp (gl M 72 1) (0 : Int64)) = 0 then (Q (.inl none) M) else (Z E YX1_keys d M (zargs 0 [vr (some (16, 0, 0)), vr (some (71, 4, 0))]) 0 [] (zafter E YX1_readsIn (d + 1) [(0, vr (some (16, 0, 0)))] 41 3 [] Q))) else (Z E YX1_keys d M (zargs 0 [vr (some (16, 0, 0)), vr (some (71, 4, 0))]) 0 [] (zafter E YX1_readsIn (d + 1) [(0, vr (some (16, 0, 0)))] 41 3 [] Q))) : Z E YX1_readsIn (d + 1) M [(0, vr (some (16, 0, 0)))] 25 [] Q := by
  refine sX1_readsIn_25 (d := d) M hw ?_
  refine sX6_hasLabels_0 (d := d) M 72 ?_
  refine zite k (fun h26734 k => ?_) (fun h26734 k => ?_)
  · refine zite k (fun h26735 k => ?_) (fun h26735 k => ?_)
    · show Z E YX1_readsIn (d + 1) M [(0, vr (some (16, 0, 0)))] 32 [vi (0 : Int32)] Q
      refine sX1_readsIn_32 (d := d) M (0 : Int32) hw ?_
      refine zpos (show (0 : Int32) = 0 from by decide) ?_
      exact k
    · show Z E YX1_readsIn (d + 1) M [(0, vr (some (16, 0, 0)))] 32 [vi (1 : Int32)] Q
      refine sX1_readsIn_32 (d := d) M (1 : Int32) hw ?_
      refine zneg (show ¬ ((1 : Int32) = 0) from by decide) ?_
      exact k
  · show Z E YX1_readsIn (d + 1) M [(0, vr (some (16, 0, 0)))] 32 [vi (1 : Int32)] Q
    refine sX1_readsIn_32 (d := d) M (1 : Int32) hw ?_
    refine zneg (show ¬ ((1 : Int32) = 0) from by decide) ?_
    exact k
theorem iX1_readsIn_69 {E : zE} {d : Nat} {Q : zO → zM → Prop} (M : zM) (hw : cw M) (k : if (gi M 16 92) = 0 then (if (gi M 16 91) = 0 then (16 ≤ 74 ∧ (Z E YX1_nextWith d (sl (sl (sl M 74 0 (0 : Int64)) 74 1 (0 : Int64)) 74 2 ((0 : Int64) ||| ((0 : Int32)).toInt64)) (zargs 0 [vr (some (16, 0, 0)), vr (some (74, 4, 0))]) 0 [] (zafter E YX1_readsIn (d + 1) [] 106 3 [] Q))) else (16 ≤ 74 ∧ (Z E YX1_nextWith d (sl (sl (sl M 74 0 (0 : Int64)) 74 1 (0 : Int64)) 74 2 ((0 : Int64) ||| ((8 : Int32)).toInt64)) (zargs 0 [vr (some (16, 0, 0)), vr (some (74, 4, 0))]) 0 [] (zafter E YX1_readsIn (d + 1) [] 106 3 [] Q)))) else (if (gi M 16 91) = 0 then (16 ≤ 74 ∧ (Z E YX1_nextWith d (sl (sl (sl M 74 0 (0 : Int64)) 74 1 (0 : Int64)) 74 2 ((4 : Int64) ||| ((0 : Int32)).toInt64)) (zargs 0 [vr (some (16, 0, 0)), vr (some (74, 4, 0))]) 0 [] (zafter E YX1_readsIn (d + 1) [] 106 3 [] Q))) else (16 ≤ 74 ∧ (Z E YX1_nextWith d (sl (sl (sl M 74 0 (0 : Int64)) 74 1 (0 : Int64)) 74 2 ((4 : Int64) ||| ((8 : Int32)).toInt64)) (zargs 0 [vr (some (16, 0, 0)), vr (some (74, 4, 0))]) 0 [] (zafter E YX1_readsIn (d + 1) [] 106 3 [] Q))))) : Z E YX1_readsIn (d + 1) M [(0, vr (some (16, 0, 0)))] 69 [] Q := by
  refine sX1_readsIn_69 (d := d) M hw ?_
  refine zite k (fun h26736 k => ?_) (fun h26736 k => ?_)
  · refine sX1_readsIn_88 (d := d) M (0 : Int64) hw ?_
    refine zite k (fun h26737 k => ?_) (fun h26737 k => ?_)
    · refine jX6_of (d := d) M 74 ((0 : Int64) ||| ((0 : Int32)).toInt64) ?_
      refine zand k (fun h26738 k => ?_)
      show Z E YX1_readsIn (d + 1) (sl (sl (sl M 74 0 (0 : Int64)) 74 1 (0 : Int64)) 74 2 ((0 : Int64) ||| ((0 : Int32)).toInt64)) [] 106 [vr (some (74, 4, 0)), vr (some (16, 0, 0))] Q
      refine sX1_readsIn_106 (d := d) (sl (sl (sl M 74 0 (0 : Int64)) 74 1 (0 : Int64)) 74 2 ((0 : Int64) ||| ((0 : Int32)).toInt64)) (some (74, 4, 0)) hw ?_
      exact k
    · refine jX6_of (d := d) M 74 ((0 : Int64) ||| ((8 : Int32)).toInt64) ?_
      refine zand k (fun h26739 k => ?_)
      show Z E YX1_readsIn (d + 1) (sl (sl (sl M 74 0 (0 : Int64)) 74 1 (0 : Int64)) 74 2 ((0 : Int64) ||| ((8 : Int32)).toInt64)) [] 106 [vr (some (74, 4, 0)), vr (some (16, 0, 0))] Q
      refine sX1_readsIn_106 (d := d) (sl (sl (sl M 74 0 (0 : Int64)) 74 1 (0 : Int64)) 74 2 ((0 : Int64) ||| ((8 : Int32)).toInt64)) (some (74, 4, 0)) hw ?_
      exact k
  · refine sX1_readsIn_88 (d := d) M (4 : Int64) hw ?_
    refine zite k (fun h26740 k => ?_) (fun h26740 k => ?_)
    · refine jX6_of (d := d) M 74 ((4 : Int64) ||| ((0 : Int32)).toInt64) ?_
      refine zand k (fun h26741 k => ?_)
      show Z E YX1_readsIn (d + 1) (sl (sl (sl M 74 0 (0 : Int64)) 74 1 (0 : Int64)) 74 2 ((4 : Int64) ||| ((0 : Int32)).toInt64)) [] 106 [vr (some (74, 4, 0)), vr (some (16, 0, 0))] Q
      refine sX1_readsIn_106 (d := d) (sl (sl (sl M 74 0 (0 : Int64)) 74 1 (0 : Int64)) 74 2 ((4 : Int64) ||| ((0 : Int32)).toInt64)) (some (74, 4, 0)) hw ?_
      exact k
    · refine jX6_of (d := d) M 74 ((4 : Int64) ||| ((8 : Int32)).toInt64) ?_
      refine zand k (fun h26742 k => ?_)
      show Z E YX1_readsIn (d + 1) (sl (sl (sl M 74 0 (0 : Int64)) 74 1 (0 : Int64)) 74 2 ((4 : Int64) ||| ((8 : Int32)).toInt64)) [] 106 [vr (some (74, 4, 0)), vr (some (16, 0, 0))] Q
      refine sX1_readsIn_106 (d := d) (sl (sl (sl M 74 0 (0 : Int64)) 74 1 (0 : Int64)) 74 2 ((4 : Int64) ||| ((8 : Int32)).toInt64)) (some (74, 4, 0)) hw ?_
      exact k
theorem jX1_isHundred {E : zE} {d : Nat} {Q : zO → zM → Prop} (M : zM) (l1 : Int32) (hw : cw M) (k : ∃ b26789 m26789 : Nat, (gr M 17 1) = some (b26789, 100, m26789) ∧ (vp_in (l1 + (1 : Int32)) m26789 ∧ (vp_in l1 m26789 ∧ (if ((gi M b26789 ((l1 + (1 : Int32))).toNatClampNeg) - (gi M b26789 (l1).toNatClampNeg)) = (3 : Int32) then (∃ b26793 m26793 : Nat, (gr M 17 0) = some (b26793, 101, m26793) ∧ (vp_in ((gi M b26789 (l1).toNatClampNeg) + (0 : Int32)) m26793 ∧ (if (gi M b26793 (((gi M b26789 (l1).toNatClampNeg) + (0 : Int32))).toNatClampNeg) = (49 : Int32) then (vp_in ((gi M b26789 (l1).toNatClampNeg) + (1 : Int32)) m26793 ∧ (if (gi M b26793 (((gi M b26789 (l1).toNatClampNeg) + (1 : Int32))).toNatClampNeg) = (48 : Int32) then (vp_in ((gi M b26789 (l1).toNatClampNeg) + (2 : Int32)) m26793 ∧ (if (gi M b26793 (((gi M b26789 (l1).toNatClampNeg) + (2 : Int32))).toNatClampNeg) = (48 : Int32) then (Q (.inl (some (vi (1 : Int32)))) M) else (Q (.inl (some (vi (0 : Int32)))) M))) else (Q (.inl (some (vi (0 : Int32)))) M))) else (Q (.inl (some (vi (0 : Int32)))) M)))) else (Q (.inl (some (vi (0 : Int32)))) M))))) : Z E YX1_isHundred (d + 1) M [(0, vr (some (16, 0, 0))), (1, vi l1)] 0 [] Q := by
  refine sX1_isHundred_0 (d := d) M l1 hw ?_
  refine jX2_length (d := d) M 17 l1 ?_
  obtain ⟨b26789, m26789, h26789, k⟩ := k
  refine ⟨b26789, m26789, h26789, ?_⟩
  refine zand k (fun h26790 k => ?_)
  refine zand k (fun h26791 k => ?_)
  show Z E YX1_isHundred (d + 1) M [(0, vr (some (16, 0, 0))), (1, vi l1)] 8 [vi ((gi M b26789 ((l1 + (1 : Int32))).toNatClampNeg) - (gi M b26789 (l1).toNatClampNeg))] Q
  refine sX1_isHundred_8 (d := d) M l1 ((gi M b26789 ((l1 + (1 : Int32))).toNatClampNeg) - (gi M b26789 (l1).toNatClampNeg)) hw ?_
  refine zite k (fun h26792 k => ?_) (fun h26792 k => ?_)
  · refine sX2_sign_0 (d := d) M 17 l1 (0 : Int32) ?_
    refine ⟨b26789, m26789, h26789, ?_⟩
    refine ⟨h26791, ?_⟩
    obtain ⟨b26793, m26793, h26793, k⟩ := k
    refine ⟨b26793, m26793, h26793, ?_⟩
    refine zand k (fun h26794 k => ?_)
    show Z E YX1_isHundred (d + 1) M [(0, vr (some (16, 0, 0))), (1, vi l1)] 21 [vi (gi M b26793 (((gi M b26789 (l1).toNatClampNeg) + (0 : Int32))).toNatClampNeg)] Q
    refine sX1_isHundred_21 (d := d) M l1 (gi M b26793 (((gi M b26789 (l1).toNatClampNeg) + (0 : Int32))).toNatClampNeg) hw ?_
    refine zite k (fun h26795 k => ?_) (fun h26795 k => ?_)
    · refine sX2_sign_0 (d := d) M 17 l1 (1 : Int32) ?_
      refine ⟨b26789, m26789, h26789, ?_⟩
      refine ⟨h26791, ?_⟩
      refine ⟨b26793, m26793, h26793, ?_⟩
      refine zand k (fun h26796 k => ?_)
      show Z E YX1_isHundred (d + 1) M [(0, vr (some (16, 0, 0))), (1, vi l1)] 35 [vi (gi M b26793 (((gi M b26789 (l1).toNatClampNeg) + (1 : Int32))).toNatClampNeg)] Q
      refine sX1_isHundred_35 (d := d) M l1 (gi M b26793 (((gi M b26789 (l1).toNatClampNeg) + (1 : Int32))).toNatClampNeg) hw ?_
      refine zite k (fun h26797 k => ?_) (fun h26797 k => ?_)
      · refine sX2_sign_0 (d := d) M 17 l1 (2 : Int32) ?_
        refine ⟨b26789, m26789, h26789, ?_⟩
        refine ⟨h26791, ?_⟩
        refine ⟨b26793, m26793, h26793, ?_⟩
        refine zand k (fun h26798 k => ?_)
        show Z E YX1_isHundred (d + 1) M [] 49 [vi (gi M b26793 (((gi M b26789 (l1).toNatClampNeg) + (2 : Int32))).toNatClampNeg)] Q
        refine sX1_isHundred_49 (d := d) M (gi M b26793 (((gi M b26789 (l1).toNatClampNeg) + (2 : Int32))).toNatClampNeg) hw ?_
        exact k
      · exact k
    · exact k
  · exact k
theorem iX1_rows_0 {E : zE} {d : Nat} {Q : zO → zM → Prop} (M : zM) (l1 : Int32) (r2 : Option zP) (hw : cw M) (k : if (lg_cmp ((gl M 77 2) &&& (511 : Int64)) (0 : Int64)) = 0 then (if (lg_cmp ((gl M 77 0) &&& ((gl M 16 71) ^^^ (-1 : Int64))) (0 : Int64)) = 0 then (if (lg_cmp ((gl M 77 1) &&& ((gl M 16 72) ^^^ (-1 : Int64))) (0 : Int64)) = 0 then (if (lg_cmp ((gl M 77 0) &&& (gl M 16 71)) (0 : Int64)) = 0 then (if (lg_cmp ((gl M 77 1) &&& (gl M 16 72)) (0 : Int64)) = 0 then (Q (.inl none) M) else (∃ b26748 : Nat, (gr M 16 61) = some (b26748, 7, 0) ∧ (Z E YX43_copy d M (zargs 0 [vr (some (b26748, 7, 0)), vr (gr M 16 60)]) 0 [] (zafter E YX1_rows (d + 1) [(0, vr (some (16, 0, 0))), (1, vi l1), (2, vr r2)] 54 3 [] Q)))) else (∃ b26749 : Nat, (gr M 16 61) = some (b26749, 7, 0) ∧ (Z E YX43_copy d M (zargs 0 [vr (some (b26749, 7, 0)), vr (gr M 16 60)]) 0 [] (zafter E YX1_rows (d + 1) [(0, vr (some (16, 0, 0))), (1, vi l1), (2, vr r2)] 54 3 [] Q)))) else (Z E YX1_errs d M (zargs 0 [vr (some (16, 0, 0)), vr (gr M 16 60), vi (0 : Int32)]) 0 [] (zafter E YX1_rows (d + 1) [(0, vr (some (16, 0, 0))), (1, vi l1), (2, vr r2)] 24 3 [] Q))) else (Z E YX1_errs d M (zargs 0 [vr (some (16, 0, 0)), vr (gr M 16 60), vi (0 : Int32)]) 0 [] (zafter E YX1_rows (d + 1) [(0, vr (some (16, 0, 0))), (1, vi l1), (2, vr r2)] 24 3 [] Q))) else (Z E YX1_errs d M (zargs 0 [vr (some (16, 0, 0)), vr (gr M 16 60), vi (0 : Int32)]) 0 [] (zafter E YX1_rows (d + 1) [(0, vr (some (16, 0, 0))), (1, vi l1), (2, vr r2)] 24 3 [] Q))) : Z E YX1_rows (d + 1) M [(0, vr (some (16, 0, 0))), (1, vi l1), (2, vr r2)] 0 [] Q := by
  refine sX1_rows_0 (d := d) M l1 r2 hw ?_
  refine sX6_hasOnly_0 (d := d) M 77 (gl M 16 71) (gl M 16 72) ?_
  refine zite k (fun h26743 k => ?_) (fun h26743 k => ?_)
  · refine zite k (fun h26744 k => ?_) (fun h26744 k => ?_)
    · refine zite k (fun h26745 k => ?_) (fun h26745 k => ?_)
      · show Z E YX1_rows (d + 1) M [(0, vr (some (16, 0, 0))), (1, vi l1), (2, vr r2)] 15 [vi (1 : Int32)] Q
        refine sX1_rows_15 (d := d) M l1 r2 (1 : Int32) hw ?_
        refine zneg (show ¬ ((1 : Int32) = 0) from by decide) ?_
        refine sX1_rows_27 (d := d) M l1 r2 hw ?_
        refine sX6_meets_0 (d := d) M 77 (gl M 16 71) (gl M 16 72) ?_
        refine zite k (fun h26746 k => ?_) (fun h26746 k => ?_)
        · refine zite k (fun h26747 k => ?_) (fun h26747 k => ?_)
          · show Z E YX1_rows (d + 1) M [(0, vr (some (16, 0, 0))), (1, vi l1), (2, vr r2)] 42 [vi (0 : Int32)] Q
            refine sX1_rows_42 (d := d) M l1 r2 (0 : Int32) hw ?_
            refine zpos (show (0 : Int32) = 0 from by decide) ?_
            exact k
          · show Z E YX1_rows (d + 1) M [(0, vr (some (16, 0, 0))), (1, vi l1), (2, vr r2)] 42 [vi (1 : Int32)] Q
            refine sX1_rows_42 (d := d) M l1 r2 (1 : Int32) hw ?_
            refine zneg (show ¬ ((1 : Int32) = 0) from by decide) ?_
            exact k
        · show Z E YX1_rows (d + 1) M [(0, vr (some (16, 0, 0))), (1, vi l1), (2, vr r2)] 42 [vi (1 : Int32)] Q
          refine sX1_rows_42 (d := d) M l1 r2 (1 : Int32) hw ?_
          refine zneg (show ¬ ((1 : Int32) = 0) from by decide) ?_
          exact k
      · show Z E YX1_rows (d + 1) M [(0, vr (some (16, 0, 0))), (1, vi l1), (2, vr r2)] 15 [vi (0 : Int32)] Q
        refine sX1_rows_15 (d := d) M l1 r2 (0 : Int32) hw ?_
        refine zpos (show (0 : Int32) = 0 from by decide) ?_
        exact k
    · show Z E YX1_rows (d + 1) M [(0, vr (some (16, 0, 0))), (1, vi l1), (2, vr r2)] 15 [vi (0 : Int32)] Q
      refine sX1_rows_15 (d := d) M l1 r2 (0 : Int32) hw ?_
      refine zpos (show (0 : Int32) = 0 from by decide) ?_
      exact k
  · show Z E YX1_rows (d + 1) M [(0, vr (some (16, 0, 0))), (1, vi l1), (2, vr r2)] 15 [vi (0 : Int32)] Q
    refine sX1_rows_15 (d := d) M l1 r2 (0 : Int32) hw ?_
    refine zpos (show (0 : Int32) = 0 from by decide) ?_
    exact k
theorem iX1_rows_57 {E : zE} {d : Nat} {Q : zO → zM → Prop} (M : zM) (l1 : Int32) (r2 : Option zP) (hw : cw M) (k : if l1 = 0 then (16 ≤ 74 ∧ (Z E YX1_rows (d + 1) (sl (sl (sl M 74 0 (0 : Int64)) 74 1 (0 : Int64)) 74 2 (1 : Int64)) [(0, vr (some (16, 0, 0))), (1, vi l1), (2, vr r2), (3, vi (0 : Int32))] 78 [] Q)) else (16 ≤ 74 ∧ (Z E YX1_rows (d + 1) (sl (sl (sl M 74 0 (0 : Int64)) 74 1 (0 : Int64)) 74 2 (64 : Int64)) [(0, vr (some (16, 0, 0))), (1, vi l1), (2, vr r2), (3, vi (0 : Int32))] 78 [] Q))) : Z E YX1_rows (d + 1) M [(0, vr (some (16, 0, 0))), (1, vi l1), (2, vr r2)] 57 [] Q := by
  refine sX1_rows_57 (d := d) M l1 r2 hw ?_
  refine zite k (fun h26750 k => ?_) (fun h26750 k => ?_)
  · refine jX6_of (d := d) M 74 (1 : Int64) ?_
    refine zand k (fun h26751 k => ?_)
    show Z E YX1_rows (d + 1) (sl (sl (sl M 74 0 (0 : Int64)) 74 1 (0 : Int64)) 74 2 (1 : Int64)) [(0, vr (some (16, 0, 0))), (1, vi l1), (2, vr r2)] 75 [vr (some (74, 4, 0))] Q
    refine sX1_rows_75 (d := d) (sl (sl (sl M 74 0 (0 : Int64)) 74 1 (0 : Int64)) 74 2 (1 : Int64)) l1 r2 (some (74, 4, 0)) hw ?_
    exact k
  · refine jX6_of (d := d) M 74 (64 : Int64) ?_
    refine zand k (fun h26752 k => ?_)
    show Z E YX1_rows (d + 1) (sl (sl (sl M 74 0 (0 : Int64)) 74 1 (0 : Int64)) 74 2 (64 : Int64)) [(0, vr (some (16, 0, 0))), (1, vi l1), (2, vr r2)] 75 [vr (some (74, 4, 0))] Q
    refine sX1_rows_75 (d := d) (sl (sl (sl M 74 0 (0 : Int64)) 74 1 (0 : Int64)) 74 2 (64 : Int64)) l1 r2 (some (74, 4, 0)) hw ?_
    exact k
theorem iX1_rows_27 {E : zE} {d : Nat} {Q : zO → zM → Prop} (M : zM) (l1 : Int32) (r2 : Option zP) (hw : cw M) (k : if (lg_cmp ((gl M 77 0) &&& (gl M 16 71)) (0 : Int64)) = 0 then (if (lg_cmp ((gl M 77 1) &&& (gl M 16 72)) (0 : Int64)) = 0 then (Q (.inl none) M) else (∃ b26755 : Nat, (gr M 16 61) = some (b26755, 7, 0) ∧ (Z E YX43_copy d M (zargs 0 [vr (some (b26755, 7, 0)), vr (gr M 16 60)]) 0 [] (zafter E YX1_rows (d + 1) [(0, vr (some (16, 0, 0))), (1, vi l1), (2, vr r2)] 54 3 [] Q)))) else (∃ b26756 : Nat, (gr M 16 61) = some (b26756, 7, 0) ∧ (Z E YX43_copy d M (zargs 0 [vr (some (b26756, 7, 0)), vr (gr M 16 60)]) 0 [] (zafter E YX1_rows (d + 1) [(0, vr (some (16, 0, 0))), (1, vi l1), (2, vr r2)] 54 3 [] Q)))) : Z E YX1_rows (d + 1) M [(0, vr (some (16, 0, 0))), (1, vi l1), (2, vr r2)] 27 [] Q := by
  refine sX1_rows_27 (d := d) M l1 r2 hw ?_
  refine sX6_meets_0 (d := d) M 77 (gl M 16 71) (gl M 16 72) ?_
  refine zite k (fun h26753 k => ?_) (fun h26753 k => ?_)
  · refine zite k (fun h26754 k => ?_) (fun h26754 k => ?_)
    · show Z E YX1_rows (d + 1) M [(0, vr (some (16, 0, 0))), (1, vi l1), (2, vr r2)] 42 [vi (0 : Int32)] Q
      refine sX1_rows_42 (d := d) M l1 r2 (0 : Int32) hw ?_
      refine zpos (show (0 : Int32) = 0 from by decide) ?_
      exact k
    · show Z E YX1_rows (d + 1) M [(0, vr (some (16, 0, 0))), (1, vi l1), (2, vr r2)] 42 [vi (1 : Int32)] Q
      refine sX1_rows_42 (d := d) M l1 r2 (1 : Int32) hw ?_
      refine zneg (show ¬ ((1 : Int32) = 0) from by decide) ?_
      exact k
  · show Z E YX1_rows (d + 1) M [(0, vr (some (16, 0, 0))), (1, vi l1), (2, vr r2)] 42 [vi (1 : Int32)] Q
    refine sX1_rows_42 (d := d) M l1 r2 (1 : Int32) hw ?_
    refine zneg (show ¬ ((1 : Int32) = 0) from by decide) ?_
    exact k
theorem iX1_rows_78 {E : zE} {d : Nat} {Q : zO → zM → Prop} (M : zM) (l1 : Int32) (r2 : Option zP) (l3 : Int32) (hw : cw M) (k : if (gi M 16 11) ≤ l3 then (Z E YX1_nextWith d M (zargs 0 [vr (some (16, 0, 0)), vr (some (74, 4, 0))]) 0 [] (zafter E YX1_rows (d + 1) [(0, vr (some (16, 0, 0)))] 309 3 [] Q)) else (if (64 : Int32) ≤ l3 then (∀ x1_v16398v26759 : Int64, x1_v16398v26759 = (zls (zlr ((gl M 77 1) &&& (gl M 16 72)) (l3 - (64 : Int32))) (63 : Int32)) → (if (lg_cmp x1_v16398v26759 (0 : Int64)) = 0 then (Z E YX1_rows (d + 1) M [(0, vr (some (16, 0, 0))), (1, vi l1), (2, vr r2), (3, vi (l3 + (1 : Int32)))] 78 [] Q) else (∃ b26761 : Nat, (gr M 16 60) = some (b26761, 7, 0) ∧ (∃ b26762 m26762 : Nat, (gr M b26761 8) = some (b26762, 104, m26762) ∧ (vp_in l3 m26762 ∧ (if (gi M b26762 (l3).toNatClampNeg) = 0 then (Z E YX1_rows (d + 1) M [(0, vr (some (16, 0, 0))), (1, vi l1), (2, vr r2), (3, vi (l3 + (1 : Int32)))] 78 [] Q) else (Z E YX1_rows (d + 1) M [(0, vr (some (16, 0, 0))), (1, vi l1), (2, vr r2), (3, vi l3), (4, vi (0 : Int32))] 135 [] Q))))))) else (∀ x1_v16400v26765 : Int64, x1_v16400v26765 = (zls (zlr ((gl M 77 0) &&& (gl M 16 71)) l3) (63 : Int32)) → (if (lg_cmp x1_v16400v26765 (0 : Int64)) = 0 then (Z E YX1_rows (d + 1) M [(0, vr (some (16, 0, 0))), (1, vi l1), (2, vr r2), (3, vi (l3 + (1 : Int32)))] 78 [] Q) else (∃ b26767 : Nat, (gr M 16 60) = some (b26767, 7, 0) ∧ (∃ b26768 m26768 : Nat, (gr M b26767 8) = some (b26768, 104, m26768) ∧ (vp_in l3 m26768 ∧ (if (gi M b26768 (l3).toNatClampNeg) = 0 then (Z E YX1_rows (d + 1) M [(0, vr (some (16, 0, 0))), (1, vi l1), (2, vr r2), (3, vi (l3 + (1 : Int32)))] 78 [] Q) else (Z E YX1_rows (d + 1) M [(0, vr (some (16, 0, 0))), (1, vi l1), (2, vr r2), (3, vi l3), (4, vi (0 : Int32))] 135 [] Q))))))))) : Z E YX1_rows (d + 1) M [(0, vr (some (16, 0, 0))), (1, vi l1), (2, vr r2), (3, vi l3)] 78 [] Q := by
  refine sX1_rows_78 (d := d) M l1 r2 l3 hw ?_
  refine zite k (fun h26757 k => ?_) (fun h26757 k => ?_)
  · exact k
  · refine jX1_in (d := d) M l3 ((gl M 77 0) &&& (gl M 16 71)) ((gl M 77 1) &&& (gl M 16 72)) hw ?_
    refine zite k (fun h26758 k => ?_) (fun h26758 k => ?_)
    · intro x1_v16398v26759 h26759
      have k := k x1_v16398v26759 h26759
      refine zite k (fun h26760 k => ?_) (fun h26760 k => ?_)
      · show Z E YX1_rows (d + 1) M [(0, vr (some (16, 0, 0))), (1, vi l1), (2, vr r2), (3, vi l3)] 114 [vi (0 : Int32)] Q
        refine sX1_rows_114 (d := d) M l1 r2 l3 (0 : Int32) hw ?_
        refine zpos (show (0 : Int32) = 0 from by decide) ?_
        refine sX1_rows_298 (d := d) M l1 r2 l3 hw ?_
        exact k
      · show Z E YX1_rows (d + 1) M [(0, vr (some (16, 0, 0))), (1, vi l1), (2, vr r2), (3, vi l3)] 114 [vi (1 : Int32)] Q
        refine sX1_rows_114 (d := d) M l1 r2 l3 (1 : Int32) hw ?_
        refine zneg (show ¬ ((1 : Int32) = 0) from by decide) ?_
        obtain ⟨b26761, h26761, k⟩ := k
        refine ⟨b26761, h26761, ?_⟩
        obtain ⟨b26762, m26762, h26762, k⟩ := k
        refine ⟨b26762, m26762, h26762, ?_⟩
        refine zand k (fun h26763 k => ?_)
        refine zite k (fun h26764 k => ?_) (fun h26764 k => ?_)
        · refine sX1_rows_298 (d := d) M l1 r2 l3 hw ?_
          exact k
        · exact k
    · intro x1_v16400v26765 h26765
      have k := k x1_v16400v26765 h26765
      refine zite k (fun h26766 k => ?_) (fun h26766 k => ?_)
      · show Z E YX1_rows (d + 1) M [(0, vr (some (16, 0, 0))), (1, vi l1), (2, vr r2), (3, vi l3)] 114 [vi (0 : Int32)] Q
        refine sX1_rows_114 (d := d) M l1 r2 l3 (0 : Int32) hw ?_
        refine zpos (show (0 : Int32) = 0 from by decide) ?_
        refine sX1_rows_298 (d := d) M l1 r2 l3 hw ?_
        exact k
      · show Z E YX1_rows (d + 1) M [(0, vr (some (16, 0, 0))), (1, vi l1), (2, vr r2), (3, vi l3)] 114 [vi (1 : Int32)] Q
        refine sX1_rows_114 (d := d) M l1 r2 l3 (1 : Int32) hw ?_
        refine zneg (show ¬ ((1 : Int32) = 0) from by decide) ?_
        obtain ⟨b26767, h26767, k⟩ := k
        refine ⟨b26767, h26767, ?_⟩
        obtain ⟨b26768, m26768, h26768, k⟩ := k
        refine ⟨b26768, m26768, h26768, ?_⟩
        refine zand k (fun h26769 k => ?_)
        refine zite k (fun h26770 k => ?_) (fun h26770 k => ?_)
        · refine sX1_rows_298 (d := d) M l1 r2 l3 hw ?_
          exact k
        · exact k
theorem iX1_rows_135 {E : zE} {d : Nat} {Q : zO → zM → Prop} (M : zM) (l1 : Int32) (r2 : Option zP) (l3 : Int32) (l4 : Int32) (hw : cw M) (k : if (gi M 16 1) < l4 then (16 ≤ 73 ∧ (∃ b26866 : Nat, (gr M 16 60) = some (b26866, 7, 0) ∧ (Z E YX43_joinField d (sl (sl (sl M 73 0 (0 : Int64)) 73 1 (0 : Int64)) 73 2 (64 : Int64)) (zargs 0 [vr (some (b26866, 7, 0)), vi l3, vi (0 : Int32), vr (some (73, 4, 0))]) 0 [] (zafter E YX1_rows (d + 1) [(0, vr (some (16, 0, 0))), (1, vi l1), (2, vr r2), (3, vi l3)] 295 3 [] Q)))) else (if (gi M 16 1) ≤ l4 then (∃ b26868 : Nat, (gr M 16 60) = some (b26868, 7, 0) ∧ (∃ b26869 : Nat, (gr M b26868 0) = some (b26869, 0, 0) ∧ (if l1 = 0 then (∃ b26871 m26871 : Nat, (gr M b26868 1) = some (b26871, 105, m26871) ∧ (vp_in ((l3 * ((gi M b26869 1) + (1 : Int32))) + l4) m26871 ∧ (∃ b26873 m26873 : Nat, (gr M b26868 2) = some (b26873, 105, m26873) ∧ (vp_in ((l3 * ((gi M b26869 1) + (1 : Int32))) + l4) m26873 ∧ (∃ b26875 m26875 : Nat, (gr M b26868 3) = some (b26875, 105, m26875) ∧ (vp_in ((l3 * ((gi M b26869 1) + (1 : Int32))) + l4) m26875 ∧ (Z E YX6_join3 d M (zargs 0 [vr (some (74, 4, 0)), vl (gl M b26871 (((l3 * ((gi M b26869 1) + (1 : Int32))) + l4)).toNatClampNeg), vl (gl M b26873 (((l3 * ((gi M b26869 1) + (1 : Int32))) + l4)).toNatClampNeg), vl ((gl M b26875 (((l3 * ((gi M b26869 1) + (1 : Int32))) + l4)).toNatClampNeg) &&& (-513 : Int64))]) 0 [] (zafter E YX1_rows (d + 1) [(0, vr (some (16, 0, 0))), (1, vi l1), (2, vr r2), (3, vi l3), (4, vi l4), (5, vi ((l3 * ((gi M b26869 1) + (1 : Int32))) + l4))] 253 3 [] Q)))))))) else (Z E YX43_joinField d M (zargs 0 [vr (some (b26868, 7, 0)), vi l3, vi l4, vr r2]) 0 [] (zafter E YX1_rows (d + 1) [(0, vr (some (16, 0, 0))), (1, vi l1), (2, vr r2), (3, vi l3), (4, vi l4)] 209 3 [] Q))))) else (Z E YX1_in d M (zargs 0 [vi l4, vl (gl M 16 69), vl (gl M 16 70)]) 0 [] (zafter E YX1_rows (d + 1) [(0, vr (some (16, 0, 0))), (1, vi l1), (2, vr r2), (3, vi l3), (4, vi l4)] 163 3 [] Q)))) : Z E YX1_rows (d + 1) M [(0, vr (some (16, 0, 0))), (1, vi l1), (2, vr r2), (3, vi l3), (4, vi l4)] 135 [] Q := by
  refine sX1_rows_135 (d := d) M l1 r2 l3 l4 hw ?_
  refine zite k (fun h26864 k => ?_) (fun h26864 k => ?_)
  · refine jX6_of (d := d) M 73 (64 : Int64) ?_
    refine zand k (fun h26865 k => ?_)
    show Z E YX1_rows (d + 1) (sl (sl (sl M 73 0 (0 : Int64)) 73 1 (0 : Int64)) 73 2 (64 : Int64)) [(0, vr (some (16, 0, 0))), (1, vi l1), (2, vr r2), (3, vi l3)] 295 [vr (some (73, 4, 0)), vi (0 : Int32), vi l3, vr (gr M 16 60)] Q
    refine sX1_rows_295 (d := d) (sl (sl (sl M 73 0 (0 : Int64)) 73 1 (0 : Int64)) 73 2 (64 : Int64)) l1 r2 l3 (some (73, 4, 0)) (0 : Int32) l3 (gr M 16 60) hw ?_
    exact k
  · refine zite k (fun h26867 k => ?_) (fun h26867 k => ?_)
    · obtain ⟨b26868, h26868, k⟩ := k
      refine ⟨b26868, h26868, ?_⟩
      refine sX43_cell_0 (d := d) M b26868 l3 l4 ?_
      obtain ⟨b26869, h26869, k⟩ := k
      refine ⟨b26869, h26869, ?_⟩
      show Z E YX1_rows (d + 1) M [(0, vr (some (16, 0, 0))), (1, vi l1), (2, vr r2), (3, vi l3), (4, vi l4)] 195 [vi ((l3 * ((gi M b26869 1) + (1 : Int32))) + l4)] Q
      refine sX1_rows_195 (d := d) M l1 r2 l3 l4 ((l3 * ((gi M b26869 1) + (1 : Int32))) + l4) hw ?_
      refine zite k (fun h26870 k => ?_) (fun h26870 k => ?_)
      · refine ⟨b26868, h26868, ?_⟩
        obtain ⟨b26871, m26871, h26871, k⟩ := k
        refine ⟨b26871, m26871, h26871, ?_⟩
        refine zand k (fun h26872 k => ?_)
        refine ⟨b26868, h26868, ?_⟩
        obtain ⟨b26873, m26873, h26873, k⟩ := k
        refine ⟨b26873, m26873, h26873, ?_⟩
        refine zand k (fun h26874 k => ?_)
        refine ⟨b26868, h26868, ?_⟩
        exact k
      · refine ⟨b26868, h26868, ?_⟩
        exact k
    · exact k
theorem iX1_rows_256 {E : zE} {d : Nat} {Q : zO → zM → Prop} (M : zM) (l1 : Int32) (r2 : Option zP) (l3 : Int32) (l4 : Int32) (l5 : Int32) (u0 : Option zP) (hw : cw M) (k : ∃ b26877 : Nat, (gr M 16 60) = some (b26877, 7, 0) ∧ (∃ b26878 m26878 : Nat, (gr M b26877 3) = some (b26878, 105, m26878) ∧ (vp_in l5 m26878 ∧ (16 ≤ b26878 ∧ (Z E YX1_rows (d + 1) (sl M b26878 (l5).toNatClampNeg ((gl M b26878 (l5).toNatClampNeg) ||| (512 : Int64))) [(0, vr (some (16, 0, 0))), (1, vi l1), (2, vr r2), (3, vi l3), (4, vi (l4 + (1 : Int32)))] 135 [] Q))))) : Z E YX1_rows (d + 1) M [(0, vr (some (16, 0, 0))), (1, vi l1), (2, vr r2), (3, vi l3), (4, vi l4), (5, vi l5)] 256 [vr u0] Q := by
  refine sX1_rows_256 (d := d) M l1 r2 l3 l4 l5 u0 hw ?_
  obtain ⟨b26877, h26877, k⟩ := k
  refine ⟨b26877, h26877, ?_⟩
  obtain ⟨b26878, m26878, h26878, k⟩ := k
  refine ⟨b26878, m26878, h26878, ?_⟩
  refine zand k (fun h26879 k => ?_)
  refine zand k (fun h26880 k => ?_)
  refine ⟨h26879, ?_⟩
  exact k
theorem iX1_rows_166 {E : zE} {d : Nat} {Q : zO → zM → Prop} (M : zM) (l1 : Int32) (r2 : Option zP) (l3 : Int32) (l4 : Int32) (s0 : Int32) (hw : cw M) (k : if s0 = 0 then (if l1 = 0 then (Z E YX1_rows ((d + 1) + 1) M [(0, vr (some (16, 0, 0))), (1, vi l1), (2, vr r2), (3, vi l3), (4, vi (l4 + (1 : Int32)))] 135 [] Q) else (∃ b26885 m26885 : Nat, (gr M 17 1) = some (b26885, 100, m26885) ∧ (vp_in (l4 + (1 : Int32)) m26885 ∧ (vp_in l4 m26885 ∧ (if ((gi M b26885 ((l4 + (1 : Int32))).toNatClampNeg) - (gi M b26885 (l4).toNatClampNeg)) = (3 : Int32) then (∃ b26889 m26889 : Nat, (gr M 17 0) = some (b26889, 101, m26889) ∧ (vp_in ((gi M b26885 (l4).toNatClampNeg) + (0 : Int32)) m26889 ∧ (if (gi M b26889 (((gi M b26885 (l4).toNatClampNeg) + (0 : Int32))).toNatClampNeg) = (49 : Int32) then (vp_in ((gi M b26885 (l4).toNatClampNeg) + (1 : Int32)) m26889 ∧ (if (gi M b26889 (((gi M b26885 (l4).toNatClampNeg) + (1 : Int32))).toNatClampNeg) = (48 : Int32) then (vp_in ((gi M b26885 (l4).toNatClampNeg) + (2 : Int32)) m26889 ∧ (if (gi M b26889 (((gi M b26885 (l4).toNatClampNeg) + (2 : Int32))).toNatClampNeg) = (48 : Int32) then (∃ b26896 : Nat, (gr M 16 60) = some (b26896, 7, 0) ∧ (∃ b26897 : Nat, (gr M b26896 0) = some (b26897, 0, 0) ∧ (Z E YX43_joinField (d + 1) M (zargs 0 [vr (some (b26896, 7, 0)), vi l3, vi l4, vr r2]) 0 [] (zafter E YX1_rows ((d + 1) + 1) [(0, vr (some (16, 0, 0))), (1, vi l1), (2, vr r2), (3, vi l3), (4, vi l4)] 209 3 [] Q)))) else (Z E YX1_rows ((d + 1) + 1) M [(0, vr (some (16, 0, 0))), (1, vi l1), (2, vr r2), (3, vi l3), (4, vi (l4 + (1 : Int32)))] 135 [] Q))) else (Z E YX1_rows ((d + 1) + 1) M [(0, vr (some (16, 0, 0))), (1, vi l1), (2, vr r2), (3, vi l3), (4, vi (l4 + (1 : Int32)))] 135 [] Q))) else (Z E YX1_rows ((d + 1) + 1) M [(0, vr (some (16, 0, 0))), (1, vi l1), (2, vr r2), (3, vi l3), (4, vi (l4 + (1 : Int32)))] 135 [] Q)))) else (Z E YX1_rows ((d + 1) + 1) M [(0, vr (some (16, 0, 0))), (1, vi l1), (2, vr r2), (3, vi l3), (4, vi (l4 + (1 : Int32)))] 135 [] Q)))))) else (∃ b26898 : Nat, (gr M 16 60) = some (b26898, 7, 0) ∧ (∃ b26899 : Nat, (gr M b26898 0) = some (b26899, 0, 0) ∧ (if l1 = 0 then (∃ b26901 m26901 : Nat, (gr M b26898 1) = some (b26901, 105, m26901) ∧ (vp_in ((l3 * ((gi M b26899 1) + (1 : Int32))) + l4) m26901 ∧ (∃ b26903 m26903 : Nat, (gr M b26898 2) = some (b26903, 105, m26903) ∧ (vp_in ((l3 * ((gi M b26899 1) + (1 : Int32))) + l4) m26903 ∧ (∃ b26905 m26905 : Nat, (gr M b26898 3) = some (b26905, 105, m26905) ∧ (vp_in ((l3 * ((gi M b26899 1) + (1 : Int32))) + l4) m26905 ∧ (Z E YX6_join3 (d + 1) M (zargs 0 [vr (some (74, 4, 0)), vl (gl M b26901 (((l3 * ((gi M b26899 1) + (1 : Int32))) + l4)).toNatClampNeg), vl (gl M b26903 (((l3 * ((gi M b26899 1) + (1 : Int32))) + l4)).toNatClampNeg), vl ((gl M b26905 (((l3 * ((gi M b26899 1) + (1 : Int32))) + l4)).toNatClampNeg) &&& (-513 : Int64))]) 0 [] (zafter E YX1_rows ((d + 1) + 1) [(0, vr (some (16, 0, 0))), (1, vi l1), (2, vr r2), (3, vi l3), (4, vi l4), (5, vi ((l3 * ((gi M b26899 1) + (1 : Int32))) + l4))] 253 3 [] Q)))))))) else (Z E YX43_joinField (d + 1) M (zargs 0 [vr (some (b26898, 7, 0)), vi l3, vi l4, vr r2]) 0 [] (zafter E YX1_rows ((d + 1) + 1) [(0, vr (some (16, 0, 0))), (1, vi l1), (2, vr r2), (3, vi l3), (4, vi l4)] 209 3 [] Q)))))) : Z E YX1_rows (d + 2) M [(0, vr (some (16, 0, 0))), (1, vi l1), (2, vr r2), (3, vi l3), (4, vi l4)] 166 [vi s0] Q := by
  refine sX1_rows_166 (d := (d + 1)) M l1 r2 l3 l4 s0 hw ?_
  refine zite k (fun h26883 k => ?_) (fun h26883 k => ?_)
  · refine zite k (fun h26884 k => ?_) (fun h26884 k => ?_)
    · exact k
    · refine jX1_isHundred (d := d) M l4 hw ?_
      obtain ⟨b26885, m26885, h26885, k⟩ := k
      refine ⟨b26885, m26885, h26885, ?_⟩
      refine zand k (fun h26886 k => ?_)
      refine zand k (fun h26887 k => ?_)
      refine zite k (fun h26888 k => ?_) (fun h26888 k => ?_)
      · obtain ⟨b26889, m26889, h26889, k⟩ := k
        refine ⟨b26889, m26889, h26889, ?_⟩
        refine zand k (fun h26890 k => ?_)
        refine zite k (fun h26891 k => ?_) (fun h26891 k => ?_)
        · refine zand k (fun h26892 k => ?_)
          refine zite k (fun h26893 k => ?_) (fun h26893 k => ?_)
          · refine zand k (fun h26894 k => ?_)
            refine zite k (fun h26895 k => ?_) (fun h26895 k => ?_)
            · show Z E YX1_rows ((d + 1) + 1) M [(0, vr (some (16, 0, 0))), (1, vi l1), (2, vr r2), (3, vi l3), (4, vi l4)] 179 [vi (1 : Int32)] Q
              refine sX1_rows_179 (d := (d + 1)) M l1 r2 l3 l4 (1 : Int32) hw ?_
              refine zneg (show ¬ ((1 : Int32) = 0) from by decide) ?_
              obtain ⟨b26896, h26896, k⟩ := k
              refine ⟨b26896, h26896, ?_⟩
              refine sX43_cell_0 (d := (d + 1)) M b26896 l3 l4 ?_
              obtain ⟨b26897, h26897, k⟩ := k
              refine ⟨b26897, h26897, ?_⟩
              show Z E YX1_rows ((d + 1) + 1) M [(0, vr (some (16, 0, 0))), (1, vi l1), (2, vr r2), (3, vi l3), (4, vi l4)] 195 [vi ((l3 * ((gi M b26897 1) + (1 : Int32))) + l4)] Q
              refine sX1_rows_195 (d := (d + 1)) M l1 r2 l3 l4 ((l3 * ((gi M b26897 1) + (1 : Int32))) + l4) hw ?_
              refine zneg h26884 ?_
              refine ⟨b26896, h26896, ?_⟩
              exact k
            · show Z E YX1_rows ((d + 1) + 1) M [(0, vr (some (16, 0, 0))), (1, vi l1), (2, vr r2), (3, vi l3), (4, vi l4)] 179 [vi (0 : Int32)] Q
              refine sX1_rows_179 (d := (d + 1)) M l1 r2 l3 l4 (0 : Int32) hw ?_
              refine zpos (show (0 : Int32) = 0 from by decide) ?_
              exact k
          · show Z E YX1_rows ((d + 1) + 1) M [(0, vr (some (16, 0, 0))), (1, vi l1), (2, vr r2), (3, vi l3), (4, vi l4)] 179 [vi (0 : Int32)] Q
            refine sX1_rows_179 (d := (d + 1)) M l1 r2 l3 l4 (0 : Int32) hw ?_
            refine zpos (show (0 : Int32) = 0 from by decide) ?_
            exact k
        · show Z E YX1_rows ((d + 1) + 1) M [(0, vr (some (16, 0, 0))), (1, vi l1), (2, vr r2), (3, vi l3), (4, vi l4)] 179 [vi (0 : Int32)] Q
          refine sX1_rows_179 (d := (d + 1)) M l1 r2 l3 l4 (0 : Int32) hw ?_
          refine zpos (show (0 : Int32) = 0 from by decide) ?_
          exact k
      · show Z E YX1_rows ((d + 1) + 1) M [(0, vr (some (16, 0, 0))), (1, vi l1), (2, vr r2), (3, vi l3), (4, vi l4)] 179 [vi (0 : Int32)] Q
        refine sX1_rows_179 (d := (d + 1)) M l1 r2 l3 l4 (0 : Int32) hw ?_
        refine zpos (show (0 : Int32) = 0 from by decide) ?_
        exact k
  · obtain ⟨b26898, h26898, k⟩ := k
    refine ⟨b26898, h26898, ?_⟩
    refine sX43_cell_0 (d := (d + 1)) M b26898 l3 l4 ?_
    obtain ⟨b26899, h26899, k⟩ := k
    refine ⟨b26899, h26899, ?_⟩
    show Z E YX1_rows ((d + 1) + 1) M [(0, vr (some (16, 0, 0))), (1, vi l1), (2, vr r2), (3, vi l3), (4, vi l4)] 195 [vi ((l3 * ((gi M b26899 1) + (1 : Int32))) + l4)] Q
    refine sX1_rows_195 (d := (d + 1)) M l1 r2 l3 l4 ((l3 * ((gi M b26899 1) + (1 : Int32))) + l4) hw ?_
    refine zite k (fun h26900 k => ?_) (fun h26900 k => ?_)
    · refine ⟨b26898, h26898, ?_⟩
      obtain ⟨b26901, m26901, h26901, k⟩ := k
      refine ⟨b26901, m26901, h26901, ?_⟩
      refine zand k (fun h26902 k => ?_)
      refine ⟨b26898, h26898, ?_⟩
      obtain ⟨b26903, m26903, h26903, k⟩ := k
      refine ⟨b26903, m26903, h26903, ?_⟩
      refine zand k (fun h26904 k => ?_)
      refine ⟨b26898, h26898, ?_⟩
      exact k
    · refine ⟨b26898, h26898, ?_⟩
      exact k
theorem iX1_takesArguments_2 {E : zE} {d : Nat} {Q : zO → zM → Prop} (M : zM) (l1 : Int32) (l2 : Int32) (hw : cw M) (k : if l1 ≤ l2 then (Q (.inl none) M) else (∃ b26908 : Nat, (gr M 16 60) = some (b26908, 7, 0) ∧ (vp_in l2 9 ∧ (∃ b26910 m26910 : Nat, (gr M b26908 10) = some (b26910, 105, m26910) ∧ (vp_in (((gi M b26908 13) - l1) + l2) m26910 ∧ (∃ b26912 : Nat, (gr M 78 (l2).toNatClampNeg) = some (b26912, 4, 0) ∧ (16 ≤ b26912 ∧ (∃ b26914 m26914 : Nat, (gr M b26908 11) = some (b26914, 105, m26914) ∧ (vp_in (((gi M b26908 13) - l1) + l2) m26914 ∧ (∃ b26916 m26916 : Nat, (gr M b26908 12) = some (b26916, 105, m26916) ∧ (vp_in (((gi M b26908 13) - l1) + l2) m26916 ∧ (Z E YX1_takesArguments (d + 1) (sl (sl (sl M b26912 0 (gl M b26910 ((((gi M b26908 13) - l1) + l2)).toNatClampNeg)) b26912 1 (gl (sl M b26912 0 (gl M b26910 ((((gi M b26908 13) - l1) + l2)).toNatClampNeg)) b26914 ((((gi M b26908 13) - l1) + l2)).toNatClampNeg)) b26912 2 (gl (sl (sl M b26912 0 (gl M b26910 ((((gi M b26908 13) - l1) + l2)).toNatClampNeg)) b26912 1 (gl (sl M b26912 0 (gl M b26910 ((((gi M b26908 13) - l1) + l2)).toNatClampNeg)) b26914 ((((gi M b26908 13) - l1) + l2)).toNatClampNeg)) b26916 ((((gi M b26908 13) - l1) + l2)).toNatClampNeg)) [(0, vr (some (16, 0, 0))), (1, vi l1), (2, vi (l2 + (1 : Int32)))] 2 [] Q)))))))))))) : Z E YX1_takesArguments (d + 1) M [(0, vr (some (16, 0, 0))), (1, vi l1), (2, vi l2)] 2 [] Q := by
  refine sX1_takesArguments_2 (d := d) M l1 l2 hw ?_
  refine zite k (fun h26907 k => ?_) (fun h26907 k => ?_)
  · exact k
  · obtain ⟨b26908, h26908, k⟩ := k
    refine ⟨b26908, h26908, ?_⟩
    refine zand k (fun h26909 k => ?_)
    refine jX43_at (d := d) M b26908 (((gi M b26908 13) - l1) + l2) (gr M 78 (l2).toNatClampNeg) ?_
    obtain ⟨b26910, m26910, h26910, k⟩ := k
    refine ⟨b26910, m26910, h26910, ?_⟩
    refine zand k (fun h26911 k => ?_)
    obtain ⟨b26912, h26912, k⟩ := k
    refine ⟨b26912, h26912, ?_⟩
    refine zand k (fun h26913 k => ?_)
    obtain ⟨b26914, m26914, h26914, k⟩ := k
    refine ⟨b26914, m26914, h26914, ?_⟩
    refine zand k (fun h26915 k => ?_)
    obtain ⟨b26916, m26916, h26916, k⟩ := k
    refine ⟨b26916, m26916, h26916, ?_⟩
    refine zand k (fun h26917 k => ?_)
    show Z E YX1_takesArguments (d + 1) (sl (sl (sl M b26912 0 (gl M b26910 ((((gi M b26908 13) - l1) + l2)).toNatClampNeg)) b26912 1 (gl (sl M b26912 0 (gl M b26910 ((((gi M b26908 13) - l1) + l2)).toNatClampNeg)) b26914 ((((gi M b26908 13) - l1) + l2)).toNatClampNeg)) b26912 2 (gl (sl (sl M b26912 0 (gl M b26910 ((((gi M b26908 13) - l1) + l2)).toNatClampNeg)) b26912 1 (gl (sl M b26912 0 (gl M b26910 ((((gi M b26908 13) - l1) + l2)).toNatClampNeg)) b26914 ((((gi M b26908 13) - l1) + l2)).toNatClampNeg)) b26916 ((((gi M b26908 13) - l1) + l2)).toNatClampNeg)) [(0, vr (some (16, 0, 0))), (1, vi l1), (2, vi l2)] 31 [vr (some (b26912, 4, 0))] Q
    refine sX1_takesArguments_31 (d := d) (sl (sl (sl M b26912 0 (gl M b26910 ((((gi M b26908 13) - l1) + l2)).toNatClampNeg)) b26912 1 (gl (sl M b26912 0 (gl M b26910 ((((gi M b26908 13) - l1) + l2)).toNatClampNeg)) b26914 ((((gi M b26908 13) - l1) + l2)).toNatClampNeg)) b26912 2 (gl (sl (sl M b26912 0 (gl M b26910 ((((gi M b26908 13) - l1) + l2)).toNatClampNeg)) b26912 1 (gl (sl M b26912 0 (gl M b26910 ((((gi M b26908 13) - l1) + l2)).toNatClampNeg)) b26914 ((((gi M b26908 13) - l1) + l2)).toNatClampNeg)) b26916 ((((gi M b26908 13) - l1) + l2)).toNatClampNeg)) l1 l2 (some (b26912, 4, 0)) hw ?_
    exact k
theorem iX1_textIn_9 {E : zE} {d : Nat} {Q : zO → zM → Prop} (M : zM) (s0 : Int32) (hw : cw M) (k : if s0 = (-1 : Int32) then (Q (.inl (some (vl (256 : Int64)))) M) else (Q (.inl (some (vl ((128 : Int64) ||| (zls (s0).toInt64 (16 : Int32)))))) M)) : Z E YX1_textIn (d + 1) M [] 9 [vi s0] Q := by
  refine sX1_textIn_9 (d := d) M s0 hw ?_
  refine sX1_textSet_0 (d := d) M s0 hw ?_
  refine zite k (fun h26918 k => ?_) (fun h26918 k => ?_)
  · show Z E YX1_textIn (d + 1) M [] 12 [vl (256 : Int64)] Q
    refine sX1_textIn_12 (d := d) M (256 : Int64) hw ?_
    exact k
  · show Z E YX1_textIn (d + 1) M [] 12 [vl ((128 : Int64) ||| (zls (s0).toInt64 (16 : Int32)))] Q
    refine sX1_textIn_12 (d := d) M ((128 : Int64) ||| (zls (s0).toInt64 (16 : Int32))) hw ?_
    exact k
theorem iX1_ages_2 {E : zE} {d : Nat} {Q : zO → zM → Prop} (M : zM) (l1 : Int32) (hw : cw M) (k : ∃ b26920 : Nat, (gr M 16 60) = some (b26920, 7, 0) ∧ (if (gi M b26920 13) ≤ l1 then (∀ x1_v26922v26923 : Int64, x1_v26922v26923 = (zlu (gl M b26920 14) (63 : Int32)) → (16 ≤ b26920 ∧ (∀ x1_v26922v26925 : Int64, x1_v26922v26925 = (zlu (gl M b26920 17) (63 : Int32)) → (Z E YX1_agedLow d (sl (sl (sl M b26920 15 (((gl M b26920 15) ||| (zls ((gl M b26920 15) &&& (-6148914691236517206 : Int64)) (1 : Int32))) ||| x1_v26922v26923)) b26920 14 ((gl M b26920 14) ||| (zls (((gl M b26920 14) &&& (-6148914691236517206 : Int64)) &&& (-536870912 : Int64)) (1 : Int32)))) b26920 18 (((gl (sl (sl M b26920 15 (((gl M b26920 15) ||| (zls ((gl M b26920 15) &&& (-6148914691236517206 : Int64)) (1 : Int32))) ||| x1_v26922v26923)) b26920 14 ((gl M b26920 14) ||| (zls (((gl M b26920 14) &&& (-6148914691236517206 : Int64)) &&& (-536870912 : Int64)) (1 : Int32)))) b26920 18) ||| (zls ((gl (sl (sl M b26920 15 (((gl M b26920 15) ||| (zls ((gl M b26920 15) &&& (-6148914691236517206 : Int64)) (1 : Int32))) ||| x1_v26922v26923)) b26920 14 ((gl M b26920 14) ||| (zls (((gl M b26920 14) &&& (-6148914691236517206 : Int64)) &&& (-536870912 : Int64)) (1 : Int32)))) b26920 18) &&& (-6148914691236517206 : Int64)) (1 : Int32))) ||| x1_v26922v26925)) (zargs 0 [vl (gl M b26920 17)]) 0 [] (zafter E YX1_ages (d + 1) [] 132 3 [vr (gr M 16 60)] Q))))) else (∃ b26926 m26926 : Nat, (gr M b26920 10) = some (b26926, 105, m26926) ∧ (vp_in l1 m26926 ∧ (∃ b26928 m26928 : Nat, (gr M b26920 11) = some (b26928, 105, m26928) ∧ (vp_in l1 m26928 ∧ (Z E YX1_agedHigh d M (zargs 0 [vl (gl M b26926 (l1).toNatClampNeg), vl (gl M b26928 (l1).toNatClampNeg)]) 0 [] (zafter E YX1_ages (d + 1) [(0, vr (some (16, 0, 0))), (1, vi l1), (2, vl (gl M b26926 (l1).toNatClampNeg))] 41 3 [vi l1, vr (gr M b26920 11)] Q)))))))) : Z E YX1_ages (d + 1) M [(0, vr (some (16, 0, 0))), (1, vi l1)] 2 [] Q := by
  refine sX1_ages_2 (d := d) M l1 hw ?_
  obtain ⟨b26920, h26920, k⟩ := k
  refine ⟨b26920, h26920, ?_⟩
  refine zite k (fun h26921 k => ?_) (fun h26921 k => ?_)
  · refine ⟨b26920, h26920, ?_⟩
    refine ⟨b26920, h26920, ?_⟩
    refine ⟨b26920, h26920, ?_⟩
    refine sX1_agedHigh_0 (d := d) M (gl M b26920 14) (gl M b26920 15) hw ?_
    intro x1_v26922v26923 h26923
    have k := k x1_v26922v26923 h26923
    show Z E YX1_ages (d + 1) M [(0, vr (some (16, 0, 0))), (1, vl (gl M b26920 14)), (3, vl (gl M b26920 17))] 95 [vl (((gl M b26920 15) ||| (zls ((gl M b26920 15) &&& (-6148914691236517206 : Int64)) (1 : Int32))) ||| x1_v26922v26923), vr (some (b26920, 7, 0))] Q
    refine sX1_ages_95 (d := d) M (gl M b26920 14) (gl M b26920 17) (((gl M b26920 15) ||| (zls ((gl M b26920 15) &&& (-6148914691236517206 : Int64)) (1 : Int32))) ||| x1_v26922v26923) b26920 hw ?_
    refine zand k (fun h26924 k => ?_)
    refine sX1_agedLow_0 (d := d) (sl M b26920 15 (((gl M b26920 15) ||| (zls ((gl M b26920 15) &&& (-6148914691236517206 : Int64)) (1 : Int32))) ||| x1_v26922v26923)) (gl M b26920 14) hw ?_
    show Z E YX1_ages (d + 1) (sl M b26920 15 (((gl M b26920 15) ||| (zls ((gl M b26920 15) &&& (-6148914691236517206 : Int64)) (1 : Int32))) ||| x1_v26922v26923)) [(0, vr (some (16, 0, 0))), (3, vl (gl M b26920 17))] 106 [vl ((gl M b26920 14) ||| (zls (((gl M b26920 14) &&& (-6148914691236517206 : Int64)) &&& (-536870912 : Int64)) (1 : Int32))), vr (gr M 16 60)] Q
    refine sX1_ages_106 (d := d) (sl M b26920 15 (((gl M b26920 15) ||| (zls ((gl M b26920 15) &&& (-6148914691236517206 : Int64)) (1 : Int32))) ||| x1_v26922v26923)) (gl M b26920 17) ((gl M b26920 14) ||| (zls (((gl M b26920 14) &&& (-6148914691236517206 : Int64)) &&& (-536870912 : Int64)) (1 : Int32))) (gr M 16 60) hw ?_
    refine ⟨b26920, h26920, ?_⟩
    refine ⟨h26924, ?_⟩
    refine ⟨b26920, h26920, ?_⟩
    refine sX1_agedHigh_0 (d := d) (sl (sl M b26920 15 (((gl M b26920 15) ||| (zls ((gl M b26920 15) &&& (-6148914691236517206 : Int64)) (1 : Int32))) ||| x1_v26922v26923)) b26920 14 ((gl M b26920 14) ||| (zls (((gl M b26920 14) &&& (-6148914691236517206 : Int64)) &&& (-536870912 : Int64)) (1 : Int32)))) (gl M b26920 17) (gl (sl (sl M b26920 15 (((gl M b26920 15) ||| (zls ((gl M b26920 15) &&& (-6148914691236517206 : Int64)) (1 : Int32))) ||| x1_v26922v26923)) b26920 14 ((gl M b26920 14) ||| (zls (((gl M b26920 14) &&& (-6148914691236517206 : Int64)) &&& (-536870912 : Int64)) (1 : Int32)))) b26920 18) hw ?_
    intro x1_v26922v26925 h26925
    have k := k x1_v26922v26925 h26925
    show Z E YX1_ages (d + 1) (sl (sl M b26920 15 (((gl M b26920 15) ||| (zls ((gl M b26920 15) &&& (-6148914691236517206 : Int64)) (1 : Int32))) ||| x1_v26922v26923)) b26920 14 ((gl M b26920 14) ||| (zls (((gl M b26920 14) &&& (-6148914691236517206 : Int64)) &&& (-536870912 : Int64)) (1 : Int32)))) [(0, vr (some (16, 0, 0))), (3, vl (gl M b26920 17))] 124 [vl (((gl (sl (sl M b26920 15 (((gl M b26920 15) ||| (zls ((gl M b26920 15) &&& (-6148914691236517206 : Int64)) (1 : Int32))) ||| x1_v26922v26923)) b26920 14 ((gl M b26920 14) ||| (zls (((gl M b26920 14) &&& (-6148914691236517206 : Int64)) &&& (-536870912 : Int64)) (1 : Int32)))) b26920 18) ||| (zls ((gl (sl (sl M b26920 15 (((gl M b26920 15) ||| (zls ((gl M b26920 15) &&& (-6148914691236517206 : Int64)) (1 : Int32))) ||| x1_v26922v26923)) b26920 14 ((gl M b26920 14) ||| (zls (((gl M b26920 14) &&& (-6148914691236517206 : Int64)) &&& (-536870912 : Int64)) (1 : Int32)))) b26920 18) &&& (-6148914691236517206 : Int64)) (1 : Int32))) ||| x1_v26922v26925), vr (some (b26920, 7, 0))] Q
    refine sX1_ages_124 (d := d) (sl (sl M b26920 15 (((gl M b26920 15) ||| (zls ((gl M b26920 15) &&& (-6148914691236517206 : Int64)) (1 : Int32))) ||| x1_v26922v26923)) b26920 14 ((gl M b26920 14) ||| (zls (((gl M b26920 14) &&& (-6148914691236517206 : Int64)) &&& (-536870912 : Int64)) (1 : Int32)))) (gl M b26920 17) (((gl (sl (sl M b26920 15 (((gl M b26920 15) ||| (zls ((gl M b26920 15) &&& (-6148914691236517206 : Int64)) (1 : Int32))) ||| x1_v26922v26923)) b26920 14 ((gl M b26920 14) ||| (zls (((gl M b26920 14) &&& (-6148914691236517206 : Int64)) &&& (-536870912 : Int64)) (1 : Int32)))) b26920 18) ||| (zls ((gl (sl (sl M b26920 15 (((gl M b26920 15) ||| (zls ((gl M b26920 15) &&& (-6148914691236517206 : Int64)) (1 : Int32))) ||| x1_v26922v26923)) b26920 14 ((gl M b26920 14) ||| (zls (((gl M b26920 14) &&& (-6148914691236517206 : Int64)) &&& (-536870912 : Int64)) (1 : Int32)))) b26920 18) &&& (-6148914691236517206 : Int64)) (1 : Int32))) ||| x1_v26922v26925) b26920 hw ?_
    refine ⟨h26924, ?_⟩
    exact k
  · refine ⟨b26920, h26920, ?_⟩
    obtain ⟨b26926, m26926, h26926, k⟩ := k
    refine ⟨b26926, m26926, h26926, ?_⟩
    refine zand k (fun h26927 k => ?_)
    refine ⟨b26920, h26920, ?_⟩
    refine ⟨b26920, h26920, ?_⟩
    exact k
theorem iX1_ages_44 {E : zE} {d : Nat} {Q : zO → zM → Prop} (M : zM) (l1 : Int32) (l2 : Int64) (s0 : Int64) (s1 : Int32) (p2 : Nat) (np2 : Nat) (hw : cw M) (k : 16 ≤ p2 ∧ (vp_in s1 np2 ∧ (∃ b26935 : Nat, (gr M 16 60) = some (b26935, 7, 0) ∧ (∃ b26936 m26936 : Nat, (gr M b26935 10) = some (b26936, 105, m26936) ∧ (16 ≤ b26936 ∧ (vp_in l1 m26936 ∧ (Z E YX1_ages (d + 1) (sl (sl M p2 (s1).toNatClampNeg s0) b26936 (l1).toNatClampNeg (l2 ||| (zls ((l2 &&& (-6148914691236517206 : Int64)) &&& (-536870912 : Int64)) (1 : Int32)))) [(0, vr (some (16, 0, 0))), (1, vi (l1 + (1 : Int32)))] 2 [] Q))))))) : Z E YX1_ages (d + 1) M [(0, vr (some (16, 0, 0))), (1, vi l1), (2, vl l2)] 44 [vl s0, vi s1, vr (some (p2, 105, np2))] Q := by
  refine sX1_ages_44 (d := d) M l1 l2 s0 s1 p2 np2 hw ?_
  refine zand k (fun h26933 k => ?_)
  refine zand k (fun h26934 k => ?_)
  obtain ⟨b26935, h26935, k⟩ := k
  refine ⟨b26935, h26935, ?_⟩
  refine sX1_agedLow_0 (d := d) (sl M p2 (s1).toNatClampNeg s0) l2 hw ?_
  show Z E YX1_ages (d + 1) (sl M p2 (s1).toNatClampNeg s0) [(0, vr (some (16, 0, 0))), (1, vi l1)] 57 [vl (l2 ||| (zls ((l2 &&& (-6148914691236517206 : Int64)) &&& (-536870912 : Int64)) (1 : Int32))), vi l1, vr (gr M b26935 10)] Q
  refine sX1_ages_57 (d := d) (sl M p2 (s1).toNatClampNeg s0) l1 (l2 ||| (zls ((l2 &&& (-6148914691236517206 : Int64)) &&& (-536870912 : Int64)) (1 : Int32))) l1 (gr M b26935 10) hw ?_
  exact k
theorem iX1_comesBack_0 {E : zE} {d : Nat} {Q : zO → zM → Prop} (M : zM) (l1 : Int32) (l2 : Int32) (hw : cw M) (k : ∃ b26939 : Nat, (gr M 16 59) = some (b26939, 6, 0) ∧ (∃ b26940 m26940 : Nat, (gr M b26939 9) = some (b26940, 100, m26940) ∧ (vp_in l1 m26940 ∧ (if (gi M b26940 (l1).toNatClampNeg) = (-1 : Int32) then (vp_in (l1 + (1 : Int32)) m26940 ∧ (if (gi M b26940 ((l1 + (1 : Int32))).toNatClampNeg) = (-1 : Int32) then (Q (.inl none) M) else (Z E YX42_heap d M (zargs 0 [vr (some (b26939, 6, 0)), vi (l1 + (1 : Int32)), vr (gr M 16 60)]) 0 [] (zafter E YX1_comesBack (d + 1) [(0, vr (some (16, 0, 0))), (1, vi l1)] 167 3 [] Q)))) else (Z E YX42_heap d M (zargs 0 [vr (some (b26939, 6, 0)), vi l1, vr (gr M 16 60)]) 0 [] (zafter E YX1_comesBack (d + 1) [(0, vr (some (16, 0, 0))), (1, vi l1), (2, vi l2)] 22 3 [] Q)))))) : Z E YX1_comesBack (d + 1) M [(0, vr (some (16, 0, 0))), (1, vi l1), (2, vi l2)] 0 [] Q := by
  refine sX1_comesBack_0 (d := d) M l1 l2 hw ?_
  obtain ⟨b26939, h26939, k⟩ := k
  refine ⟨b26939, h26939, ?_⟩
  obtain ⟨b26940, m26940, h26940, k⟩ := k
  refine ⟨b26940, m26940, h26940, ?_⟩
  refine zand k (fun h26941 k => ?_)
  refine zite k (fun h26942 k => ?_) (fun h26942 k => ?_)
  · refine sX1_comesBack_141 (d := d) M l1 hw ?_
    refine ⟨b26939, h26939, ?_⟩
    refine ⟨b26940, m26940, h26940, ?_⟩
    refine zand k (fun h26943 k => ?_)
    refine zite k (fun h26944 k => ?_) (fun h26944 k => ?_)
    · refine sX1_comesBack_248 (d := d) M hw ?_
      exact k
    · refine ⟨b26939, h26939, ?_⟩
      exact k
  · refine ⟨b26939, h26939, ?_⟩
    exact k
theorem iX1_comesBack_174 {E : zE} {d : Nat} {Q : zO → zM → Prop} (M : zM) (l1 : Int32) (hw : cw M) (k : ∃ b26950 : Nat, (gr M 16 59) = some (b26950, 6, 0) ∧ (∃ b26951 m26951 : Nat, (gr M b26950 10) = some (b26951, 100, m26951) ∧ (vp_in (l1 + (1 : Int32)) m26951 ∧ (∃ b26953 m26953 : Nat, (gr M b26950 18) = some (b26953, 105, m26953) ∧ (vp_in (gi M b26951 ((l1 + (1 : Int32))).toNatClampNeg) m26953 ∧ (16 ≤ 74 ∧ (∃ b26956 m26956 : Nat, (gr M b26950 16) = some (b26956, 105, m26956) ∧ (vp_in (gi M b26951 ((l1 + (1 : Int32))).toNatClampNeg) m26956 ∧ (∃ b26958 m26958 : Nat, (gr M b26950 17) = some (b26958, 105, m26958) ∧ (vp_in (gi M b26951 ((l1 + (1 : Int32))).toNatClampNeg) m26958 ∧ (Z E YX6_join3 d (sl (sl (sl M 74 0 (0 : Int64)) 74 1 (0 : Int64)) 74 2 (gl M b26953 ((gi M b26951 ((l1 + (1 : Int32))).toNatClampNeg)).toNatClampNeg)) (zargs 0 [vr (some (74, 4, 0)), vl (gl (sl (sl (sl M 74 0 (0 : Int64)) 74 1 (0 : Int64)) 74 2 (gl M b26953 ((gi M b26951 ((l1 + (1 : Int32))).toNatClampNeg)).toNatClampNeg)) b26956 ((gi M b26951 ((l1 + (1 : Int32))).toNatClampNeg)).toNatClampNeg), vl (gl (sl (sl (sl M 74 0 (0 : Int64)) 74 1 (0 : Int64)) 74 2 (gl M b26953 ((gi M b26951 ((l1 + (1 : Int32))).toNatClampNeg)).toNatClampNeg)) b26958 ((gi M b26951 ((l1 + (1 : Int32))).toNatClampNeg)).toNatClampNeg), vl (0 : Int64)]) 0 [] (zafter E YX1_comesBack (d + 1) [(0, vr (some (16, 0, 0)))] 221 3 [] Q)))))))))))) : Z E YX1_comesBack (d + 1) M [(0, vr (some (16, 0, 0))), (1, vi l1)] 174 [] Q := by
  refine sX1_comesBack_174 (d := d) M l1 hw ?_
  obtain ⟨b26950, h26950, k⟩ := k
  refine ⟨b26950, h26950, ?_⟩
  obtain ⟨b26951, m26951, h26951, k⟩ := k
  refine ⟨b26951, m26951, h26951, ?_⟩
  refine zand k (fun h26952 k => ?_)
  refine ⟨b26950, h26950, ?_⟩
  obtain ⟨b26953, m26953, h26953, k⟩ := k
  refine ⟨b26953, m26953, h26953, ?_⟩
  refine zand k (fun h26954 k => ?_)
  refine jX6_of (d := d) M 74 (gl M b26953 ((gi M b26951 ((l1 + (1 : Int32))).toNatClampNeg)).toNatClampNeg) ?_
  refine zand k (fun h26955 k => ?_)
  show Z E YX1_comesBack (d + 1) (sl (sl (sl M 74 0 (0 : Int64)) 74 1 (0 : Int64)) 74 2 (gl M b26953 ((gi M b26951 ((l1 + (1 : Int32))).toNatClampNeg)).toNatClampNeg)) [(0, vr (some (16, 0, 0))), (3, vi (gi M b26951 ((l1 + (1 : Int32))).toNatClampNeg))] 202 [vr (some (74, 4, 0))] Q
  refine sX1_comesBack_202 (d := d) (sl (sl (sl M 74 0 (0 : Int64)) 74 1 (0 : Int64)) 74 2 (gl M b26953 ((gi M b26951 ((l1 + (1 : Int32))).toNatClampNeg)).toNatClampNeg)) (gi M b26951 ((l1 + (1 : Int32))).toNatClampNeg) (some (74, 4, 0)) hw ?_
  refine ⟨b26950, h26950, ?_⟩
  obtain ⟨b26956, m26956, h26956, k⟩ := k
  refine ⟨b26956, m26956, h26956, ?_⟩
  refine zand k (fun h26957 k => ?_)
  refine ⟨b26950, h26950, ?_⟩
  obtain ⟨b26958, m26958, h26958, k⟩ := k
  refine ⟨b26958, m26958, h26958, ?_⟩
  refine zand k (fun h26959 k => ?_)
  refine ⟨74, rfl, ?_⟩
  exact k
theorem iX1_comesBack_29 {E : zE} {d : Nat} {Q : zO → zM → Prop} (M : zM) (l1 : Int32) (l2 : Int32) (hw : cw M) (k : ∃ b26960 : Nat, (gr M 16 59) = some (b26960, 6, 0) ∧ (∃ b26961 m26961 : Nat, (gr M b26960 10) = some (b26961, 100, m26961) ∧ (vp_in l1 m26961 ∧ (∃ b26963 m26963 : Nat, (gr M b26960 18) = some (b26963, 105, m26963) ∧ (vp_in (gi M b26961 (l1).toNatClampNeg) m26963 ∧ (16 ≤ 74 ∧ (∃ b26966 m26966 : Nat, (gr M b26960 16) = some (b26966, 105, m26966) ∧ (vp_in (gi M b26961 (l1).toNatClampNeg) m26966 ∧ (∃ b26968 m26968 : Nat, (gr M b26960 17) = some (b26968, 105, m26968) ∧ (vp_in (gi M b26961 (l1).toNatClampNeg) m26968 ∧ (Z E YX6_join3 d (sl (sl (sl M 74 0 (0 : Int64)) 74 1 (0 : Int64)) 74 2 (gl M b26963 ((gi M b26961 (l1).toNatClampNeg)).toNatClampNeg)) (zargs 0 [vr (some (74, 4, 0)), vl (gl (sl (sl (sl M 74 0 (0 : Int64)) 74 1 (0 : Int64)) 74 2 (gl M b26963 ((gi M b26961 (l1).toNatClampNeg)).toNatClampNeg)) b26966 ((gi M b26961 (l1).toNatClampNeg)).toNatClampNeg), vl (gl (sl (sl (sl M 74 0 (0 : Int64)) 74 1 (0 : Int64)) 74 2 (gl M b26963 ((gi M b26961 (l1).toNatClampNeg)).toNatClampNeg)) b26968 ((gi M b26961 (l1).toNatClampNeg)).toNatClampNeg), vl (0 : Int64)]) 0 [] (zafter E YX1_comesBack (d + 1) [(0, vr (some (16, 0, 0))), (1, vi l1), (2, vi l2)] 74 3 [] Q)))))))))))) : Z E YX1_comesBack (d + 1) M [(0, vr (some (16, 0, 0))), (1, vi l1), (2, vi l2)] 29 [] Q := by
  refine sX1_comesBack_29 (d := d) M l1 l2 hw ?_
  obtain ⟨b26960, h26960, k⟩ := k
  refine ⟨b26960, h26960, ?_⟩
  obtain ⟨b26961, m26961, h26961, k⟩ := k
  refine ⟨b26961, m26961, h26961, ?_⟩
  refine zand k (fun h26962 k => ?_)
  refine ⟨b26960, h26960, ?_⟩
  obtain ⟨b26963, m26963, h26963, k⟩ := k
  refine ⟨b26963, m26963, h26963, ?_⟩
  refine zand k (fun h26964 k => ?_)
  refine jX6_of (d := d) M 74 (gl M b26963 ((gi M b26961 (l1).toNatClampNeg)).toNatClampNeg) ?_
  refine zand k (fun h26965 k => ?_)
  show Z E YX1_comesBack (d + 1) (sl (sl (sl M 74 0 (0 : Int64)) 74 1 (0 : Int64)) 74 2 (gl M b26963 ((gi M b26961 (l1).toNatClampNeg)).toNatClampNeg)) [(0, vr (some (16, 0, 0))), (1, vi l1), (2, vi l2), (3, vi (gi M b26961 (l1).toNatClampNeg))] 55 [vr (some (74, 4, 0))] Q
  refine sX1_comesBack_55 (d := d) (sl (sl (sl M 74 0 (0 : Int64)) 74 1 (0 : Int64)) 74 2 (gl M b26963 ((gi M b26961 (l1).toNatClampNeg)).toNatClampNeg)) l1 l2 (gi M b26961 (l1).toNatClampNeg) (some (74, 4, 0)) hw ?_
  refine ⟨b26960, h26960, ?_⟩
  obtain ⟨b26966, m26966, h26966, k⟩ := k
  refine ⟨b26966, m26966, h26966, ?_⟩
  refine zand k (fun h26967 k => ?_)
  refine ⟨b26960, h26960, ?_⟩
  obtain ⟨b26968, m26968, h26968, k⟩ := k
  refine ⟨b26968, m26968, h26968, ?_⟩
  refine zand k (fun h26969 k => ?_)
  refine ⟨74, rfl, ?_⟩
  exact k
theorem iX1_comesBack_77 {E : zE} {d : Nat} {Q : zO → zM → Prop} (M : zM) (l1 : Int32) (l2 : Int32) (u0 : Option zP) (hw : cw M) (k : if l2 = (-1 : Int32) then (Z E YX1_nextWith d M (zargs 0 [vr (some (16, 0, 0)), vr (some (74, 4, 0))]) 0 [] (zafter E YX1_comesBack (d + 1) [(0, vr (some (16, 0, 0))), (1, vi l1)] 127 3 [] Q)) else (if (lg_cmp ((gl M 74 2) &&& (511 : Int64)) (0 : Int64)) = 0 then (Z E YX1_nextWith d M (zargs 0 [vr (some (16, 0, 0)), vr (some (74, 4, 0))]) 0 [] (zafter E YX1_comesBack (d + 1) [(0, vr (some (16, 0, 0))), (1, vi l1)] 127 3 [] Q)) else (if (64 : Int32) ≤ l2 then (16 ≤ 74 ∧ (if (64 : Int32) ≤ (l2 + (1 : Int32)) then (Z E YX1_nextWith d (sl (sl (sl M 74 2 (0 : Int64)) 74 1 ((gl M 74 1) ||| (zls (1 : Int64) (l2 - (64 : Int32))))) 74 1 (((gl M 74 1) ||| (zls (1 : Int64) (l2 - (64 : Int32)))) ||| (zls (1 : Int64) ((l2 + (1 : Int32)) - (64 : Int32))))) (zargs 0 [vr (some (16, 0, 0)), vr (some (74, 4, 0))]) 0 [] (zafter E YX1_comesBack (d + 1) [(0, vr (some (16, 0, 0))), (1, vi l1)] 127 3 [] Q)) else (Z E YX1_nextWith d (sl (sl (sl M 74 2 (0 : Int64)) 74 1 ((gl M 74 1) ||| (zls (1 : Int64) (l2 - (64 : Int32))))) 74 0 ((gl M 74 0) ||| (zls (1 : Int64) (l2 + (1 : Int32))))) (zargs 0 [vr (some (16, 0, 0)), vr (some (74, 4, 0))]) 0 [] (zafter E YX1_comesBack (d + 1) [(0, vr (some (16, 0, 0))), (1, vi l1)] 127 3 [] Q)))) else (16 ≤ 74 ∧ (if (64 : Int32) ≤ (l2 + (1 : Int32)) then (Z E YX1_nextWith d (sl (sl (sl M 74 2 (0 : Int64)) 74 0 ((gl M 74 0) ||| (zls (1 : Int64) l2))) 74 1 ((gl M 74 1) ||| (zls (1 : Int64) ((l2 + (1 : Int32)) - (64 : Int32))))) (zargs 0 [vr (some (16, 0, 0)), vr (some (74, 4, 0))]) 0 [] (zafter E YX1_comesBack (d + 1) [(0, vr (some (16, 0, 0))), (1, vi l1)] 127 3 [] Q)) else (Z E YX1_nextWith d (sl (sl (sl M 74 2 (0 : Int64)) 74 0 ((gl M 74 0) ||| (zls (1 : Int64) l2))) 74 0 (((gl M 74 0) ||| (zls (1 : Int64) l2)) ||| (zls (1 : Int64) (l2 + (1 : Int32))))) (zargs 0 [vr (some (16, 0, 0)), vr (some (74, 4, 0))]) 0 [] (zafter E YX1_comesBack (d + 1) [(0, vr (some (16, 0, 0))), (1, vi l1)] 127 3 [] Q))))))) : Z E YX1_comesBack (d + 1) M [(0, vr (some (16, 0, 0))), (1, vi l1), (2, vi l2)] 77 [vr u0] Q := by
  refine sX1_comesBack_77 (d := d) M l1 l2 u0 hw ?_
  refine zite k (fun h26970 k => ?_) (fun h26970 k => ?_)
  · exact k
  · refine zite k (fun h26971 k => ?_) (fun h26971 k => ?_)
    · exact k
    · refine sX6_add_0 (d := d) (sl M 74 2 (0 : Int64)) 74 l2 ?_
      refine zite k (fun h26972 k => ?_) (fun h26972 k => ?_)
      · refine zand k (fun h26973 k => ?_)
        show Z E YX1_comesBack (d + 1) (sl (sl M 74 2 (0 : Int64)) 74 1 ((gl M 74 1) ||| (zls (1 : Int64) (l2 - (64 : Int32))))) [(0, vr (some (16, 0, 0))), (1, vi l1), (2, vi l2)] 115 [vr (some (74, 4, 0))] Q
        refine sX1_comesBack_115 (d := d) (sl (sl M 74 2 (0 : Int64)) 74 1 ((gl M 74 1) ||| (zls (1 : Int64) (l2 - (64 : Int32))))) l1 l2 (some (74, 4, 0)) hw ?_
        refine ⟨74, rfl, ?_⟩
        refine sX6_add_0 (d := d) (sl (sl M 74 2 (0 : Int64)) 74 1 ((gl M 74 1) ||| (zls (1 : Int64) (l2 - (64 : Int32))))) 74 (l2 + (1 : Int32)) ?_
        refine zite k (fun h26974 k => ?_) (fun h26974 k => ?_)
        · refine ⟨h26973, ?_⟩
          show Z E YX1_comesBack (d + 1) (sl (sl (sl M 74 2 (0 : Int64)) 74 1 ((gl M 74 1) ||| (zls (1 : Int64) (l2 - (64 : Int32))))) 74 1 (((gl M 74 1) ||| (zls (1 : Int64) (l2 - (64 : Int32)))) ||| (zls (1 : Int64) ((l2 + (1 : Int32)) - (64 : Int32))))) [(0, vr (some (16, 0, 0))), (1, vi l1)] 121 [vr (some (74, 4, 0))] Q
          refine sX1_comesBack_121 (d := d) (sl (sl (sl M 74 2 (0 : Int64)) 74 1 ((gl M 74 1) ||| (zls (1 : Int64) (l2 - (64 : Int32))))) 74 1 (((gl M 74 1) ||| (zls (1 : Int64) (l2 - (64 : Int32)))) ||| (zls (1 : Int64) ((l2 + (1 : Int32)) - (64 : Int32))))) l1 (some (74, 4, 0)) hw ?_
          exact k
        · refine ⟨h26973, ?_⟩
          show Z E YX1_comesBack (d + 1) (sl (sl (sl M 74 2 (0 : Int64)) 74 1 ((gl M 74 1) ||| (zls (1 : Int64) (l2 - (64 : Int32))))) 74 0 ((gl M 74 0) ||| (zls (1 : Int64) (l2 + (1 : Int32))))) [(0, vr (some (16, 0, 0))), (1, vi l1)] 121 [vr (some (74, 4, 0))] Q
          refine sX1_comesBack_121 (d := d) (sl (sl (sl M 74 2 (0 : Int64)) 74 1 ((gl M 74 1) ||| (zls (1 : Int64) (l2 - (64 : Int32))))) 74 0 ((gl M 74 0) ||| (zls (1 : Int64) (l2 + (1 : Int32))))) l1 (some (74, 4, 0)) hw ?_
          exact k
      · refine zand k (fun h26975 k => ?_)
        show Z E YX1_comesBack (d + 1) (sl (sl M 74 2 (0 : Int64)) 74 0 ((gl M 74 0) ||| (zls (1 : Int64) l2))) [(0, vr (some (16, 0, 0))), (1, vi l1), (2, vi l2)] 115 [vr (some (74, 4, 0))] Q
        refine sX1_comesBack_115 (d := d) (sl (sl M 74 2 (0 : Int64)) 74 0 ((gl M 74 0) ||| (zls (1 : Int64) l2))) l1 l2 (some (74, 4, 0)) hw ?_
        refine ⟨74, rfl, ?_⟩
        refine sX6_add_0 (d := d) (sl (sl M 74 2 (0 : Int64)) 74 0 ((gl M 74 0) ||| (zls (1 : Int64) l2))) 74 (l2 + (1 : Int32)) ?_
        refine zite k (fun h26976 k => ?_) (fun h26976 k => ?_)
        · refine ⟨h26975, ?_⟩
          show Z E YX1_comesBack (d + 1) (sl (sl (sl M 74 2 (0 : Int64)) 74 0 ((gl M 74 0) ||| (zls (1 : Int64) l2))) 74 1 ((gl M 74 1) ||| (zls (1 : Int64) ((l2 + (1 : Int32)) - (64 : Int32))))) [(0, vr (some (16, 0, 0))), (1, vi l1)] 121 [vr (some (74, 4, 0))] Q
          refine sX1_comesBack_121 (d := d) (sl (sl (sl M 74 2 (0 : Int64)) 74 0 ((gl M 74 0) ||| (zls (1 : Int64) l2))) 74 1 ((gl M 74 1) ||| (zls (1 : Int64) ((l2 + (1 : Int32)) - (64 : Int32))))) l1 (some (74, 4, 0)) hw ?_
          exact k
        · refine ⟨h26975, ?_⟩
          show Z E YX1_comesBack (d + 1) (sl (sl (sl M 74 2 (0 : Int64)) 74 0 ((gl M 74 0) ||| (zls (1 : Int64) l2))) 74 0 (((gl M 74 0) ||| (zls (1 : Int64) l2)) ||| (zls (1 : Int64) (l2 + (1 : Int32))))) [(0, vr (some (16, 0, 0))), (1, vi l1)] 121 [vr (some (74, 4, 0))] Q
          refine sX1_comesBack_121 (d := d) (sl (sl (sl M 74 2 (0 : Int64)) 74 0 ((gl M 74 0) ||| (zls (1 : Int64) l2))) 74 0 (((gl M 74 0) ||| (zls (1 : Int64) l2)) ||| (zls (1 : Int64) (l2 + (1 : Int32))))) l1 (some (74, 4, 0)) hw ?_
          exact k
theorem iX1_comesBack_141 {E : zE} {d : Nat} {Q : zO → zM → Prop} (M : zM) (l1 : Int32) (hw : cw M) (k : ∃ b26979 : Nat, (gr M 16 59) = some (b26979, 6, 0) ∧ (∃ b26980 m26980 : Nat, (gr M b26979 9) = some (b26980, 100, m26980) ∧ (vp_in (l1 + (1 : Int32)) m26980 ∧ (if (gi M b26980 ((l1 + (1 : Int32))).toNatClampNeg) = (-1 : Int32) then (Q (.inl none) M) else (Z E YX42_heap d M (zargs 0 [vr (some (b26979, 6, 0)), vi (l1 + (1 : Int32)), vr (gr M 16 60)]) 0 [] (zafter E YX1_comesBack (d + 1) [(0, vr (some (16, 0, 0))), (1, vi l1)] 167 3 [] Q)))))) : Z E YX1_comesBack (d + 1) M [(0, vr (some (16, 0, 0))), (1, vi l1)] 141 [] Q := by
  refine sX1_comesBack_141 (d := d) M l1 hw ?_
  obtain ⟨b26979, h26979, k⟩ := k
  refine ⟨b26979, h26979, ?_⟩
  obtain ⟨b26980, m26980, h26980, k⟩ := k
  refine ⟨b26980, m26980, h26980, ?_⟩
  refine zand k (fun h26981 k => ?_)
  refine zite k (fun h26982 k => ?_) (fun h26982 k => ?_)
  · refine sX1_comesBack_248 (d := d) M hw ?_
    exact k
  · refine ⟨b26979, h26979, ?_⟩
    exact k
theorem iX1_makes_5 {E : zE} {d : Nat} {Q : zO → zM → Prop} (M : zM) (l1 : Int32) (l2 : Int32) (hw : cw M) (k : ∃ b26983 : Nat, (gr M 16 60) = some (b26983, 7, 0) ∧ (16 ≤ b26983 ∧ (Z E YX43_pop d (si M b26983 13 ((gi M b26983 13) - l1)) (zargs 0 [vr (some (b26983, 7, 0)), vr (some (76, 4, 0))]) 0 [] (zafter E YX1_makes (d + 1) [(0, vr (some (16, 0, 0))), (1, vi l1), (2, vi l2)] 26 3 [] Q)))) : Z E YX1_makes (d + 1) M [(0, vr (some (16, 0, 0))), (1, vi l1), (2, vi l2)] 5 [] Q := by
  refine sX1_makes_5 (d := d) M l1 l2 hw ?_
  obtain ⟨b26983, h26983, k⟩ := k
  refine ⟨b26983, h26983, ?_⟩
  refine zand k (fun h26984 k => ?_)
  refine ⟨b26983, h26983, ?_⟩
  exact k
theorem iX1_makes_29 {E : zE} {d : Nat} {Q : zO → zM → Prop} (M : zM) (l1 : Int32) (l2 : Int32) (u0 : Option zP) (hw : cw M) (k : ∃ b26985 : Nat, (gr M 16 60) = some (b26985, 7, 0) ∧ (if (lg_cmp ((gl M 76 2) &&& (511 : Int64)) (0 : Int64)) = 0 then (if (lg_cmp ((gl M 76 0) &&& (((252928 : Int64) ||| (gl M 16 73)) ^^^ (-1 : Int64))) (0 : Int64)) = 0 then (if (lg_cmp ((gl M 76 1) &&& ((gl M 16 74) ^^^ (-1 : Int64))) (0 : Int64)) = 0 then (16 ≤ 77 ∧ (Z E YX1_makes (d + 1) (sl (sl (sl (si M 16 95 (gi M b26985 13)) 77 0 (0 : Int64)) 77 1 (0 : Int64)) 77 2 (1 : Int64)) [(0, vr (some (16, 0, 0))), (1, vi l1), (2, vi l2), (3, vl (252928 : Int64)), (5, vi (10 : Int32))] 87 [] Q)) else (Z E YX1_errs d (si M 16 95 (gi M b26985 13)) (zargs 0 [vr (some (16, 0, 0)), vr (gr M 16 60), vi (0 : Int32)]) 0 [] (zafter E YX1_makes (d + 1) [(0, vr (some (16, 0, 0))), (1, vi l1), (2, vi l2), (3, vl (252928 : Int64))] 71 3 [] Q))) else (Z E YX1_errs d (si M 16 95 (gi M b26985 13)) (zargs 0 [vr (some (16, 0, 0)), vr (gr M 16 60), vi (0 : Int32)]) 0 [] (zafter E YX1_makes (d + 1) [(0, vr (some (16, 0, 0))), (1, vi l1), (2, vi l2), (3, vl (252928 : Int64))] 71 3 [] Q))) else (Z E YX1_errs d (si M 16 95 (gi M b26985 13)) (zargs 0 [vr (some (16, 0, 0)), vr (gr M 16 60), vi (0 : Int32)]) 0 [] (zafter E YX1_makes (d + 1) [(0, vr (some (16, 0, 0))), (1, vi l1), (2, vi l2), (3, vl (252928 : Int64))] 71 3 [] Q)))) : Z E YX1_makes (d + 1) M [(0, vr (some (16, 0, 0))), (1, vi l1), (2, vi l2)] 29 [vr u0] Q := by
  refine sX1_makes_29 (d := d) M l1 l2 u0 hw ?_
  obtain ⟨b26985, h26985, k⟩ := k
  refine ⟨b26985, h26985, ?_⟩
  refine sX6_hasOnly_0 (d := d) (si M 16 95 (gi M b26985 13)) 76 ((252928 : Int64) ||| (gl M 16 73)) (gl M 16 74) ?_
  refine zite k (fun h26986 k => ?_) (fun h26986 k => ?_)
  · refine zite k (fun h26987 k => ?_) (fun h26987 k => ?_)
    · refine zite k (fun h26988 k => ?_) (fun h26988 k => ?_)
      · show Z E YX1_makes (d + 1) (si M 16 95 (gi M b26985 13)) [(0, vr (some (16, 0, 0))), (1, vi l1), (2, vi l2), (3, vl (252928 : Int64))] 62 [vi (1 : Int32)] Q
        refine sX1_makes_62 (d := d) (si M 16 95 (gi M b26985 13)) l1 l2 (252928 : Int64) (1 : Int32) hw ?_
        refine zneg (show ¬ ((1 : Int32) = 0) from by decide) ?_
        refine sX1_makes_74 (d := d) (si M 16 95 (gi M b26985 13)) l1 l2 (252928 : Int64) hw ?_
        refine jX6_of (d := d) (si M 16 95 (gi M b26985 13)) 77 (1 : Int64) ?_
        refine zand k (fun h26989 k => ?_)
        show Z E YX1_makes (d + 1) (sl (sl (sl (si M 16 95 (gi M b26985 13)) 77 0 (0 : Int64)) 77 1 (0 : Int64)) 77 2 (1 : Int64)) [(0, vr (some (16, 0, 0))), (1, vi l1), (2, vi l2), (3, vl (252928 : Int64))] 82 [vr (some (77, 4, 0))] Q
        refine sX1_makes_82 (d := d) (sl (sl (sl (si M 16 95 (gi M b26985 13)) 77 0 (0 : Int64)) 77 1 (0 : Int64)) 77 2 (1 : Int64)) l1 l2 (252928 : Int64) (some (77, 4, 0)) hw ?_
        exact k
      · show Z E YX1_makes (d + 1) (si M 16 95 (gi M b26985 13)) [(0, vr (some (16, 0, 0))), (1, vi l1), (2, vi l2), (3, vl (252928 : Int64))] 62 [vi (0 : Int32)] Q
        refine sX1_makes_62 (d := d) (si M 16 95 (gi M b26985 13)) l1 l2 (252928 : Int64) (0 : Int32) hw ?_
        refine zpos (show (0 : Int32) = 0 from by decide) ?_
        exact k
    · show Z E YX1_makes (d + 1) (si M 16 95 (gi M b26985 13)) [(0, vr (some (16, 0, 0))), (1, vi l1), (2, vi l2), (3, vl (252928 : Int64))] 62 [vi (0 : Int32)] Q
      refine sX1_makes_62 (d := d) (si M 16 95 (gi M b26985 13)) l1 l2 (252928 : Int64) (0 : Int32) hw ?_
      refine zpos (show (0 : Int32) = 0 from by decide) ?_
      exact k
  · show Z E YX1_makes (d + 1) (si M 16 95 (gi M b26985 13)) [(0, vr (some (16, 0, 0))), (1, vi l1), (2, vi l2), (3, vl (252928 : Int64))] 62 [vi (0 : Int32)] Q
    refine sX1_makes_62 (d := d) (si M 16 95 (gi M b26985 13)) l1 l2 (252928 : Int64) (0 : Int32) hw ?_
    refine zpos (show (0 : Int32) = 0 from by decide) ?_
    exact k
theorem iX1_makes_87 {E : zE} {d : Nat} {Q : zO → zM → Prop} (M : zM) (l1 : Int32) (l2 : Int32) (l3 : Int64) (l5 : Int32) (hw : cw M) (k : if (18 : Int32) ≤ l5 then (Z E YX6_meets d M (zargs 0 [vr (some (76, 4, 0)), vl (gl M 16 73), vl (gl M 16 74)]) 0 [] (zafter E YX1_makes (d + 1) [(0, vr (some (16, 0, 0))), (1, vi l1), (2, vi l2)] 153 3 [] Q)) else (if (lg_cmp ((zlr l3 l5) &&& (1 : Int64)) (0 : Int64)) = 0 then (Z E YX1_makes (d + 1) M [(0, vr (some (16, 0, 0))), (1, vi l1), (2, vi l2), (3, vl l3), (5, vi (l5 + (1 : Int32)))] 87 [] Q) else (Z E YX1_in d M (zargs 0 [vi l5, vl (gl M 76 0), vl (gl M 76 1)]) 0 [] (zafter E YX1_makes (d + 1) [(0, vr (some (16, 0, 0))), (1, vi l1), (2, vi l2), (3, vl l3), (5, vi l5)] 121 3 [] Q)))) : Z E YX1_makes (d + 1) M [(0, vr (some (16, 0, 0))), (1, vi l1), (2, vi l2), (3, vl l3), (5, vi l5)] 87 [] Q := by
  refine sX1_makes_87 (d := d) M l1 l2 l3 l5 hw ?_
  refine zite k (fun h27026 k => ?_) (fun h27026 k => ?_)
  · exact k
  · refine zite k (fun h27027 k => ?_) (fun h27027 k => ?_)
    · refine sX1_makes_135 (d := d) M l1 l2 l3 l5 hw ?_
      exact k
    · exact k
theorem iX1_makes_74 {E : zE} {d : Nat} {Q : zO → zM → Prop} (M : zM) (l1 : Int32) (l2 : Int32) (l3 : Int64) (hw : cw M) (k : 16 ≤ 77 ∧ (Z E YX1_makes (d + 1) (sl (sl (sl M 77 0 (0 : Int64)) 77 1 (0 : Int64)) 77 2 (1 : Int64)) [(0, vr (some (16, 0, 0))), (1, vi l1), (2, vi l2), (3, vl l3), (5, vi (10 : Int32))] 87 [] Q)) : Z E YX1_makes (d + 1) M [(0, vr (some (16, 0, 0))), (1, vi l1), (2, vi l2), (3, vl l3)] 74 [] Q := by
  refine sX1_makes_74 (d := d) M l1 l2 l3 hw ?_
  refine jX6_of (d := d) M 77 (1 : Int64) ?_
  refine zand k (fun h27028 k => ?_)
  show Z E YX1_makes (d + 1) (sl (sl (sl M 77 0 (0 : Int64)) 77 1 (0 : Int64)) 77 2 (1 : Int64)) [(0, vr (some (16, 0, 0))), (1, vi l1), (2, vi l2), (3, vl l3)] 82 [vr (some (77, 4, 0))] Q
  refine sX1_makes_82 (d := d) (sl (sl (sl M 77 0 (0 : Int64)) 77 1 (0 : Int64)) 77 2 (1 : Int64)) l1 l2 l3 (some (77, 4, 0)) hw ?_
  exact k
theorem iX1_makes_156 {E : zE} {d : Nat} {Q : zO → zM → Prop} (M : zM) (l1 : Int32) (l2 : Int32) (s0 : Int32) (hw : cw M) (k : if s0 = 0 then (Q (.inl none) M) else (∃ b27031 : Nat, (gr M 16 8) = some (b27031, 11, 0) ∧ (∃ b27032 : Nat, (gr M 16 60) = some (b27032, 7, 0) ∧ (∃ b27033 m27033 : Nat, (gr M b27032 10) = some (b27033, 105, m27033) ∧ (16 ≤ b27033 ∧ (vp_in (gi M b27032 13) m27033 ∧ (∃ b27036 m27036 : Nat, (gr M b27032 11) = some (b27036, 105, m27036) ∧ (16 ≤ b27036 ∧ (vp_in (gi M b27032 13) m27036 ∧ (16 ≤ b27032 ∧ (∃ b27040 m27040 : Nat, (gr M b27032 12) = some (b27040, 105, m27040) ∧ (16 ≤ b27040 ∧ (vp_in (gi M b27032 13) m27040 ∧ (Z E YX1_makes ((d + 1) + 1) (sl (si (sl (sl M b27033 ((gi M b27032 13)).toNatClampNeg (gl M 76 0)) b27036 ((gi M b27032 13)).toNatClampNeg (gl M 76 1)) b27032 13 ((gi M b27032 13) + (1 : Int32))) b27040 ((gi M b27032 13)).toNatClampNeg ((gl M 76 2) &&& (-513 : Int64))) [(0, vr (some (16, 0, 0))), (1, vi l1), (5, vi (((29 : Int32) + ((6 : Int32) * ((gi M b27031 2) - (1 : Int32)))) + ((2 : Int32) * l2))), (6, vi (0 : Int32))] 181 [] Q)))))))))))))) : Z E YX1_makes (d + 2) M [(0, vr (some (16, 0, 0))), (1, vi l1), (2, vi l2)] 156 [vi s0] Q := by
  refine sX1_makes_156 (d := (d + 1)) M l1 l2 s0 hw ?_
  refine zite k (fun h27030 k => ?_) (fun h27030 k => ?_)
  · exact k
  · refine jX1_sitePair (d := d) M l2 hw ?_
    obtain ⟨b27031, h27031, k⟩ := k
    refine ⟨b27031, h27031, ?_⟩
    show Z E YX1_makes ((d + 1) + 1) M [(0, vr (some (16, 0, 0))), (1, vi l1)] 165 [vi (((29 : Int32) + ((6 : Int32) * ((gi M b27031 2) - (1 : Int32)))) + ((2 : Int32) * l2))] Q
    refine sX1_makes_165 (d := (d + 1)) M l1 (((29 : Int32) + ((6 : Int32) * ((gi M b27031 2) - (1 : Int32)))) + ((2 : Int32) * l2)) hw ?_
    obtain ⟨b27032, h27032, k⟩ := k
    refine ⟨b27032, h27032, ?_⟩
    refine jX43_push (d := d) M b27032 (some (76, 4, 0)) ?_
    refine ⟨76, rfl, ?_⟩
    obtain ⟨b27033, m27033, h27033, k⟩ := k
    refine ⟨b27033, m27033, h27033, ?_⟩
    refine zand k (fun h27034 k => ?_)
    refine zand k (fun h27035 k => ?_)
    obtain ⟨b27036, m27036, h27036, k⟩ := k
    refine ⟨b27036, m27036, h27036, ?_⟩
    refine zand k (fun h27037 k => ?_)
    refine zand k (fun h27038 k => ?_)
    refine zand k (fun h27039 k => ?_)
    obtain ⟨b27040, m27040, h27040, k⟩ := k
    refine ⟨b27040, m27040, h27040, ?_⟩
    refine zand k (fun h27041 k => ?_)
    refine zand k (fun h27042 k => ?_)
    show Z E YX1_makes ((d + 1) + 1) (sl (si (sl (sl M b27033 ((gi M b27032 13)).toNatClampNeg (gl M 76 0)) b27036 ((gi M b27032 13)).toNatClampNeg (gl M 76 1)) b27032 13 ((gi M b27032 13) + (1 : Int32))) b27040 ((gi M b27032 13)).toNatClampNeg ((gl M 76 2) &&& (-513 : Int64))) [(0, vr (some (16, 0, 0))), (1, vi l1), (5, vi (((29 : Int32) + ((6 : Int32) * ((gi M b27031 2) - (1 : Int32)))) + ((2 : Int32) * l2)))] 178 [] Q
    refine sX1_makes_178 (d := (d + 1)) (sl (si (sl (sl M b27033 ((gi M b27032 13)).toNatClampNeg (gl M 76 0)) b27036 ((gi M b27032 13)).toNatClampNeg (gl M 76 1)) b27032 13 ((gi M b27032 13) + (1 : Int32))) b27040 ((gi M b27032 13)).toNatClampNeg ((gl M 76 2) &&& (-513 : Int64))) l1 (((29 : Int32) + ((6 : Int32) * ((gi M b27031 2) - (1 : Int32)))) + ((2 : Int32) * l2)) hw ?_
    exact k
theorem iX1_makes_124 {E : zE} {d : Nat} {Q : zO → zM → Prop} (M : zM) (l1 : Int32) (l2 : Int32) (l3 : Int64) (l5 : Int32) (s0 : Int32) (hw : cw M) (k : if s0 = 0 then (Z E YX1_makes (d + 1) M [(0, vr (some (16, 0, 0))), (1, vi l1), (2, vi l2), (3, vl l3), (5, vi (l5 + (1 : Int32)))] 87 [] Q) else (Z E YX1_alone d M (zargs 0 [vr (some (16, 0, 0)), vi l5, vi (0 : Int32), vi l1]) 0 [] (zafter E YX1_makes (d + 1) [(0, vr (some (16, 0, 0))), (1, vi l1), (2, vi l2), (3, vl l3), (5, vi l5)] 132 3 [] Q))) : Z E YX1_makes (d + 1) M [(0, vr (some (16, 0, 0))), (1, vi l1), (2, vi l2), (3, vl l3), (5, vi l5)] 124 [vi s0] Q := by
  refine sX1_makes_124 (d := d) M l1 l2 l3 l5 s0 hw ?_
  refine zite k (fun h27043 k => ?_) (fun h27043 k => ?_)
  · refine sX1_makes_135 (d := d) M l1 l2 l3 l5 hw ?_
    exact k
  · exact k
theorem iX1_makes_181 {E : zE} {d : Nat} {Q : zO → zM → Prop} (M : zM) (l1 : Int32) (l5 : Int32) (l6 : Int32) (hw : cw M) (k : if l1 ≤ l6 then (∃ b27049 : Nat, (gr M 16 60) = some (b27049, 7, 0) ∧ (Z E YX43_make (d + 1) M (zargs 0 [vr (some (b27049, 7, 0)), vi l5, vi (1 : Int32)]) 0 [] (zafter E YX1_makes ((d + 1) + 1) [(0, vr (some (16, 0, 0))), (1, vi l1), (5, vi l5)] 214 3 [] Q))) else (vp_in l6 9 ∧ (∃ b27051 : Nat, (gr M 16 60) = some (b27051, 7, 0) ∧ (∃ b27052 : Nat, (gr M 78 (l6).toNatClampNeg) = some (b27052, 4, 0) ∧ (∃ b27053 m27053 : Nat, (gr M b27051 10) = some (b27053, 105, m27053) ∧ (16 ≤ b27053 ∧ (vp_in (gi M b27051 13) m27053 ∧ (∃ b27056 m27056 : Nat, (gr M b27051 11) = some (b27056, 105, m27056) ∧ (16 ≤ b27056 ∧ (vp_in (gi M b27051 13) m27056 ∧ (16 ≤ b27051 ∧ (∃ b27060 m27060 : Nat, (gr M b27051 12) = some (b27060, 105, m27060) ∧ (16 ≤ b27060 ∧ (vp_in (gi M b27051 13) m27060 ∧ (Z E YX1_makes ((d + 1) + 1) (sl (si (sl (sl M b27053 ((gi M b27051 13)).toNatClampNeg (gl M b27052 0)) b27056 ((gi M b27051 13)).toNatClampNeg (gl M b27052 1)) b27051 13 ((gi M b27051 13) + (1 : Int32))) b27060 ((gi M b27051 13)).toNatClampNeg ((gl M b27052 2) &&& (-513 : Int64))) [(0, vr (some (16, 0, 0))), (1, vi l1), (5, vi l5), (6, vi (l6 + (1 : Int32)))] 181 [] Q))))))))))))))) : Z E YX1_makes (d + 2) M [(0, vr (some (16, 0, 0))), (1, vi l1), (5, vi l5), (6, vi l6)] 181 [] Q := by
  refine sX1_makes_181 (d := (d + 1)) M l1 l5 l6 hw ?_
  refine zite k (fun h27048 k => ?_) (fun h27048 k => ?_)
  · exact k
  · refine zand k (fun h27050 k => ?_)
    obtain ⟨b27051, h27051, k⟩ := k
    refine ⟨b27051, h27051, ?_⟩
    refine jX43_push (d := d) M b27051 (gr M 78 (l6).toNatClampNeg) ?_
    obtain ⟨b27052, h27052, k⟩ := k
    refine ⟨b27052, h27052, ?_⟩
    obtain ⟨b27053, m27053, h27053, k⟩ := k
    refine ⟨b27053, m27053, h27053, ?_⟩
    refine zand k (fun h27054 k => ?_)
    refine zand k (fun h27055 k => ?_)
    obtain ⟨b27056, m27056, h27056, k⟩ := k
    refine ⟨b27056, m27056, h27056, ?_⟩
    refine zand k (fun h27057 k => ?_)
    refine zand k (fun h27058 k => ?_)
    refine zand k (fun h27059 k => ?_)
    obtain ⟨b27060, m27060, h27060, k⟩ := k
    refine ⟨b27060, m27060, h27060, ?_⟩
    refine zand k (fun h27061 k => ?_)
    refine zand k (fun h27062 k => ?_)
    show Z E YX1_makes ((d + 1) + 1) (sl (si (sl (sl M b27053 ((gi M b27051 13)).toNatClampNeg (gl M b27052 0)) b27056 ((gi M b27051 13)).toNatClampNeg (gl M b27052 1)) b27051 13 ((gi M b27051 13) + (1 : Int32))) b27060 ((gi M b27051 13)).toNatClampNeg ((gl M b27052 2) &&& (-513 : Int64))) [(0, vr (some (16, 0, 0))), (1, vi l1), (5, vi l5), (6, vi l6)] 201 [] Q
    refine sX1_makes_201 (d := (d + 1)) (sl (si (sl (sl M b27053 ((gi M b27051 13)).toNatClampNeg (gl M b27052 0)) b27056 ((gi M b27051 13)).toNatClampNeg (gl M b27052 1)) b27051 13 ((gi M b27051 13) + (1 : Int32))) b27060 ((gi M b27051 13)).toNatClampNeg ((gl M b27052 2) &&& (-513 : Int64))) l1 l5 l6 hw ?_
    exact k
theorem iX1_makes_222 {E : zE} {d : Nat} {Q : zO → zM → Prop} (M : zM) (l1 : Int32) (l5 : Int32) (hw : cw M) (k : ∃ b27063 : Nat, (gr M 16 60) = some (b27063, 7, 0) ∧ (16 ≤ b27063 ∧ (Z E YX43_pop d (si M b27063 13 ((gi M b27063 13) - l1)) (zargs 0 [vr (some (b27063, 7, 0)), vr (some (76, 4, 0))]) 0 [] (zafter E YX1_makes (d + 1) [(0, vr (some (16, 0, 0))), (1, vi l1), (5, vi l5)] 243 3 [] Q)))) : Z E YX1_makes (d + 1) M [(0, vr (some (16, 0, 0))), (1, vi l1), (5, vi l5)] 222 [] Q := by
  refine sX1_makes_222 (d := d) M l1 l5 hw ?_
  obtain ⟨b27063, h27063, k⟩ := k
  refine ⟨b27063, h27063, ?_⟩
  refine zand k (fun h27064 k => ?_)
  refine ⟨b27063, h27063, ?_⟩
  exact k
theorem iX1_makes_246 {E : zE} {d : Nat} {Q : zO → zM → Prop} (M : zM) (l1 : Int32) (l5 : Int32) (u0 : Option zP) (hw : cw M) (k : 16 ≤ 75 ∧ (Z E YX1_readAll d (sl (sl (sl (si (sl (sl M 16 88 (2 : Int64)) 16 89 (0 : Int64)) 16 90 (0 : Int32)) 75 0 (0 : Int64)) 75 1 (0 : Int64)) 75 2 (0 : Int64)) (zargs 0 [vr (some (16, 0, 0)), vl ((gl M 76 0) &&& (gl M 16 73)), vl ((gl M 76 1) &&& (gl M 16 74)), vr (some (75, 4, 0))]) 0 [] (zafter E YX1_makes (d + 1) [(0, vr (some (16, 0, 0))), (1, vi l1), (5, vi l5)] 296 3 [] Q))) : Z E YX1_makes (d + 1) M [(0, vr (some (16, 0, 0))), (1, vi l1), (5, vi l5)] 246 [vr u0] Q := by
  refine sX1_makes_246 (d := d) M l1 l5 u0 hw ?_
  refine jX6_empty (d := d) (si (sl (sl M 16 88 (2 : Int64)) 16 89 (0 : Int64)) 16 90 (0 : Int32)) 75 ?_
  refine zand k (fun h27065 k => ?_)
  show Z E YX1_makes (d + 1) (sl (sl (sl (si (sl (sl M 16 88 (2 : Int64)) 16 89 (0 : Int64)) 16 90 (0 : Int32)) 75 0 (0 : Int64)) 75 1 (0 : Int64)) 75 2 (0 : Int64)) [(0, vr (some (16, 0, 0))), (1, vi l1), (5, vi l5)] 296 [vr (some (75, 4, 0)), vl ((gl M 76 1) &&& (gl M 16 74)), vl ((gl M 76 0) &&& (gl M 16 73)), vr (some (16, 0, 0))] Q
  refine sX1_makes_296 (d := d) (sl (sl (sl (si (sl (sl M 16 88 (2 : Int64)) 16 89 (0 : Int64)) 16 90 (0 : Int32)) 75 0 (0 : Int64)) 75 1 (0 : Int64)) 75 2 (0 : Int64)) l1 l5 (some (75, 4, 0)) ((gl M 76 1) &&& (gl M 16 74)) ((gl M 76 0) &&& (gl M 16 73)) hw ?_
  exact k
theorem iX1_makes_299 {E : zE} {d : Nat} {Q : zO → zM → Prop} (M : zM) (l1 : Int32) (l5 : Int32) (hw : cw M) (k : ∃ b27120 : Nat, (gr M 16 60) = some (b27120, 7, 0) ∧ (if (gi M 16 91) = 0 then (if (lg_cmp ((gl M 75 2) &&& (511 : Int64)) (0 : Int64)) = 0 then (∃ b27123 m27123 : Nat, (gr M b27120 4) = some (b27123, 105, m27123) ∧ (16 ≤ b27123 ∧ (vp_in l5 m27123 ∧ (∃ b27126 m27126 : Nat, (gr M b27120 5) = some (b27126, 105, m27126) ∧ (16 ≤ b27126 ∧ (vp_in l5 m27126 ∧ (16 ≤ 77 ∧ (Z E YX6_add d (sl (sl (sl (sl (sl M b27123 (l5).toNatClampNeg ((gl M 75 0) ||| (0 : Int64))) b27126 (l5).toNatClampNeg (gl (sl M b27123 (l5).toNatClampNeg ((gl M 75 0) ||| (0 : Int64))) 75 1)) 77 0 (0 : Int64)) 77 1 (0 : Int64)) 77 2 (0 : Int64)) (zargs 0 [vr (some (77, 4, 0)), vi l5]) 0 [] (zafter E YX1_makes (d + 1) [(0, vr (some (16, 0, 0))), (1, vi l1), (5, vi l5)] 373 3 [] Q))))))))) else (∃ b27130 m27130 : Nat, (gr M b27120 4) = some (b27130, 105, m27130) ∧ (16 ≤ b27130 ∧ (vp_in l5 m27130 ∧ (∃ b27133 m27133 : Nat, (gr M b27120 5) = some (b27133, 105, m27133) ∧ (16 ≤ b27133 ∧ (vp_in l5 m27133 ∧ (16 ≤ 77 ∧ (Z E YX6_add d (sl (sl (sl (sl (sl M b27130 (l5).toNatClampNeg ((gl M 75 0) ||| (2 : Int64))) b27133 (l5).toNatClampNeg (gl (sl M b27130 (l5).toNatClampNeg ((gl M 75 0) ||| (2 : Int64))) 75 1)) 77 0 (0 : Int64)) 77 1 (0 : Int64)) 77 2 (0 : Int64)) (zargs 0 [vr (some (77, 4, 0)), vi l5]) 0 [] (zafter E YX1_makes (d + 1) [(0, vr (some (16, 0, 0))), (1, vi l1), (5, vi l5)] 373 3 [] Q)))))))))) else (∃ b27137 m27137 : Nat, (gr M b27120 4) = some (b27137, 105, m27137) ∧ (16 ≤ b27137 ∧ (vp_in l5 m27137 ∧ (∃ b27140 m27140 : Nat, (gr M b27120 5) = some (b27140, 105, m27140) ∧ (16 ≤ b27140 ∧ (vp_in l5 m27140 ∧ (16 ≤ 77 ∧ (Z E YX6_add d (sl (sl (sl (sl (sl M b27137 (l5).toNatClampNeg ((gl M 75 0) ||| (2 : Int64))) b27140 (l5).toNatClampNeg (gl (sl M b27137 (l5).toNatClampNeg ((gl M 75 0) ||| (2 : Int64))) 75 1)) 77 0 (0 : Int64)) 77 1 (0 : Int64)) 77 2 (0 : Int64)) (zargs 0 [vr (some (77, 4, 0)), vi l5]) 0 [] (zafter E YX1_makes (d + 1) [(0, vr (some (16, 0, 0))), (1, vi l1), (5, vi l5)] 373 3 [] Q))))))))))) : Z E YX1_makes (d + 1) M [(0, vr (some (16, 0, 0))), (1, vi l1), (5, vi l5)] 299 [] Q := by
  refine sX1_makes_299 (d := d) M l1 l5 hw ?_
  obtain ⟨b27120, h27120, k⟩ := k
  refine ⟨b27120, h27120, ?_⟩
  refine zite k (fun h27121 k => ?_) (fun h27121 k => ?_)
  · refine zite k (fun h27122 k => ?_) (fun h27122 k => ?_)
    · refine sX1_makes_345 (d := d) M l1 l5 (0 : Int64) (gl M 75 0) l5 (gr M b27120 4) hw ?_
      obtain ⟨b27123, m27123, h27123, k⟩ := k
      refine ⟨b27123, m27123, h27123, ?_⟩
      refine zand k (fun h27124 k => ?_)
      refine zand k (fun h27125 k => ?_)
      refine ⟨b27120, h27120, ?_⟩
      obtain ⟨b27126, m27126, h27126, k⟩ := k
      refine ⟨b27126, m27126, h27126, ?_⟩
      refine zand k (fun h27127 k => ?_)
      refine zand k (fun h27128 k => ?_)
      refine jX6_empty (d := d) (sl (sl M b27123 (l5).toNatClampNeg ((gl M 75 0) ||| (0 : Int64))) b27126 (l5).toNatClampNeg (gl (sl M b27123 (l5).toNatClampNeg ((gl M 75 0) ||| (0 : Int64))) 75 1)) 77 ?_
      refine zand k (fun h27129 k => ?_)
      show Z E YX1_makes (d + 1) (sl (sl (sl (sl (sl M b27123 (l5).toNatClampNeg ((gl M 75 0) ||| (0 : Int64))) b27126 (l5).toNatClampNeg (gl (sl M b27123 (l5).toNatClampNeg ((gl M 75 0) ||| (0 : Int64))) 75 1)) 77 0 (0 : Int64)) 77 1 (0 : Int64)) 77 2 (0 : Int64)) [(0, vr (some (16, 0, 0))), (1, vi l1), (5, vi l5)] 371 [vr (some (77, 4, 0))] Q
      refine sX1_makes_371 (d := d) (sl (sl (sl (sl (sl M b27123 (l5).toNatClampNeg ((gl M 75 0) ||| (0 : Int64))) b27126 (l5).toNatClampNeg (gl (sl M b27123 (l5).toNatClampNeg ((gl M 75 0) ||| (0 : Int64))) 75 1)) 77 0 (0 : Int64)) 77 1 (0 : Int64)) 77 2 (0 : Int64)) l1 l5 (some (77, 4, 0)) hw ?_
      refine ⟨77, rfl, ?_⟩
      exact k
    · refine sX1_makes_345 (d := d) M l1 l5 (2 : Int64) (gl M 75 0) l5 (gr M b27120 4) hw ?_
      obtain ⟨b27130, m27130, h27130, k⟩ := k
      refine ⟨b27130, m27130, h27130, ?_⟩
      refine zand k (fun h27131 k => ?_)
      refine zand k (fun h27132 k => ?_)
      refine ⟨b27120, h27120, ?_⟩
      obtain ⟨b27133, m27133, h27133, k⟩ := k
      refine ⟨b27133, m27133, h27133, ?_⟩
      refine zand k (fun h27134 k => ?_)
      refine zand k (fun h27135 k => ?_)
      refine jX6_empty (d := d) (sl (sl M b27130 (l5).toNatClampNeg ((gl M 75 0) ||| (2 : Int64))) b27133 (l5).toNatClampNeg (gl (sl M b27130 (l5).toNatClampNeg ((gl M 75 0) ||| (2 : Int64))) 75 1)) 77 ?_
      refine zand k (fun h27136 k => ?_)
      show Z E YX1_makes (d + 1) (sl (sl (sl (sl (sl M b27130 (l5).toNatClampNeg ((gl M 75 0) ||| (2 : Int64))) b27133 (l5).toNatClampNeg (gl (sl M b27130 (l5).toNatClampNeg ((gl M 75 0) ||| (2 : Int64))) 75 1)) 77 0 (0 : Int64)) 77 1 (0 : Int64)) 77 2 (0 : Int64)) [(0, vr (some (16, 0, 0))), (1, vi l1), (5, vi l5)] 371 [vr (some (77, 4, 0))] Q
      refine sX1_makes_371 (d := d) (sl (sl (sl (sl (sl M b27130 (l5).toNatClampNeg ((gl M 75 0) ||| (2 : Int64))) b27133 (l5).toNatClampNeg (gl (sl M b27130 (l5).toNatClampNeg ((gl M 75 0) ||| (2 : Int64))) 75 1)) 77 0 (0 : Int64)) 77 1 (0 : Int64)) 77 2 (0 : Int64)) l1 l5 (some (77, 4, 0)) hw ?_
      refine ⟨77, rfl, ?_⟩
      exact k
  · refine sX1_makes_345 (d := d) M l1 l5 (2 : Int64) (gl M 75 0) l5 (gr M b27120 4) hw ?_
    obtain ⟨b27137, m27137, h27137, k⟩ := k
    refine ⟨b27137, m27137, h27137, ?_⟩
    refine zand k (fun h27138 k => ?_)
    refine zand k (fun h27139 k => ?_)
    refine ⟨b27120, h27120, ?_⟩
    obtain ⟨b27140, m27140, h27140, k⟩ := k
    refine ⟨b27140, m27140, h27140, ?_⟩
    refine zand k (fun h27141 k => ?_)
    refine zand k (fun h27142 k => ?_)
    refine jX6_empty (d := d) (sl (sl M b27137 (l5).toNatClampNeg ((gl M 75 0) ||| (2 : Int64))) b27140 (l5).toNatClampNeg (gl (sl M b27137 (l5).toNatClampNeg ((gl M 75 0) ||| (2 : Int64))) 75 1)) 77 ?_
    refine zand k (fun h27143 k => ?_)
    show Z E YX1_makes (d + 1) (sl (sl (sl (sl (sl M b27137 (l5).toNatClampNeg ((gl M 75 0) ||| (2 : Int64))) b27140 (l5).toNatClampNeg (gl (sl M b27137 (l5).toNatClampNeg ((gl M 75 0) ||| (2 : Int64))) 75 1)) 77 0 (0 : Int64)) 77 1 (0 : Int64)) 77 2 (0 : Int64)) [(0, vr (some (16, 0, 0))), (1, vi l1), (5, vi l5)] 371 [vr (some (77, 4, 0))] Q
    refine sX1_makes_371 (d := d) (sl (sl (sl (sl (sl M b27137 (l5).toNatClampNeg ((gl M 75 0) ||| (2 : Int64))) b27140 (l5).toNatClampNeg (gl (sl M b27137 (l5).toNatClampNeg ((gl M 75 0) ||| (2 : Int64))) 75 1)) 77 0 (0 : Int64)) 77 1 (0 : Int64)) 77 2 (0 : Int64)) l1 l5 (some (77, 4, 0)) hw ?_
    refine ⟨77, rfl, ?_⟩
    exact k
