theorem iX1_makes_380 {E : zE} {d : Nat} {Q : zO → zM → Prop} (M : zM) (l1 : Int32) (l5 : Int32) (l6 : Int32) (hw : cw M) (k : ∃ b27144 : Nat, (gr M 16 8) = some (b27144, 11, 0) ∧ (if (gi M b27144 2) ≤ l6 then (Q (.inl none) M) else (Z E YX1_isOf d M (zargs 0 [vr (some (16, 0, 0)), vi l6]) 0 [] (zafter E YX1_makes (d + 1) [(0, vr (some (16, 0, 0))), (1, vi l1), (5, vi l5), (6, vi l6)] 395 3 [] Q)))) : Z E YX1_makes (d + 1) M [(0, vr (some (16, 0, 0))), (1, vi l1), (5, vi l5), (6, vi l6)] 380 [] Q := by
  refine sX1_makes_380 (d := d) M l1 l5 l6 hw ?_
  obtain ⟨b27144, h27144, k⟩ := k
  refine ⟨b27144, h27144, ?_⟩
  refine sJ2_size_0 (d := d) M b27144 ?_
  show Z E YX1_makes (d + 1) M [(0, vr (some (16, 0, 0))), (1, vi l1), (5, vi l5), (6, vi l6)] 389 [vi (gi M b27144 2), vi l6] Q
  refine sX1_makes_389 (d := d) M l1 l5 l6 (gi M b27144 2) l6 hw ?_
  exact k
theorem iX1_makes_398 {E : zE} {d : Nat} {Q : zO → zM → Prop} (M : zM) (l1 : Int32) (l5 : Int32) (l6 : Int32) (s0 : Int32) (hw : cw M) (k : if s0 = 0 then (Z E YX1_makes (d + 1) M [(0, vr (some (16, 0, 0))), (1, vi l1), (5, vi l5), (6, vi (l6 + (1 : Int32)))] 380 [] Q) else (Z E YX1_enters d M (zargs 0 [vr (some (16, 0, 0)), vi l6, vi (0 : Int32), vi l1, vi l5]) 0 [] (zafter E YX1_makes (d + 1) [(0, vr (some (16, 0, 0))), (1, vi l1), (5, vi l5), (6, vi l6)] 408 3 [] Q))) : Z E YX1_makes (d + 1) M [(0, vr (some (16, 0, 0))), (1, vi l1), (5, vi l5), (6, vi l6)] 398 [vi s0] Q := by
  refine sX1_makes_398 (d := d) M l1 l5 l6 s0 hw ?_
  refine zite k (fun h27146 k => ?_) (fun h27146 k => ?_)
  · refine sX1_makes_411 (d := d) M l1 l5 l6 hw ?_
    exact k
  · exact k
theorem iX1_onlyOf_27 {E : zE} {d : Nat} {Q : zO → zM → Prop} (M : zM) (a0 : Nat) (l1 : Int32) (l2 : Int32) (s0 : Int32) (hw : cw M) (k : 16 ≤ a0 ∧ (if l2 = 0 then (if s0 = 0 then (Q (.inl none) (sl (sl (sl M a0 0 (0 : Int64)) a0 1 (0 : Int64)) a0 2 (0 : Int64))) else (Z E YX6_add d (sl (sl (sl M a0 0 (0 : Int64)) a0 1 (0 : Int64)) a0 2 (0 : Int64)) (zargs 0 [vr (some (a0, 4, 0)), vi (l1 + (1 : Int32))]) 0 [] (zafter E YX1_onlyOf (d + 1) [] 51 3 [] Q))) else (Z E YX6_add d (sl (sl (sl M a0 0 (0 : Int64)) a0 1 (0 : Int64)) a0 2 (0 : Int64)) (zargs 0 [vr (some (a0, 4, 0)), vi l1]) 0 [] (zafter E YX1_onlyOf (d + 1) [(0, vr (some (a0, 4, 0))), (1, vi l1), (3, vi s0)] 39 3 [] Q)))) : Z E YX1_onlyOf (d + 1) M [(0, vr (some (a0, 4, 0))), (1, vi l1), (2, vi l2)] 27 [vi s0] Q := by
  refine sX1_onlyOf_27 (d := d) M a0 l1 l2 s0 hw ?_
  refine jX6_empty (d := d) M _ ?_
  refine zand k (fun h27225 k => ?_)
  show Z E YX1_onlyOf (d + 1) (sl (sl (sl M a0 0 (0 : Int64)) a0 1 (0 : Int64)) a0 2 (0 : Int64)) [(0, vr (some (a0, 4, 0))), (1, vi l1), (2, vi l2), (3, vi s0)] 32 [vr (some (a0, 4, 0))] Q
  refine sX1_onlyOf_32 (d := d) (sl (sl (sl M a0 0 (0 : Int64)) a0 1 (0 : Int64)) a0 2 (0 : Int64)) _ l1 l2 s0 (some (a0, 4, 0)) hw ?_
  refine zite k (fun h27226 k => ?_) (fun h27226 k => ?_)
  · refine sX1_onlyOf_43 (d := d) (sl (sl (sl M a0 0 (0 : Int64)) a0 1 (0 : Int64)) a0 2 (0 : Int64)) _ l1 s0 hw ?_
    exact k
  · exact k
theorem iX1_onlyOf_42 {E : zE} {d : Nat} {Q : zO → zM → Prop} (M : zM) (a0 : Nat) (l1 : Int32) (l3 : Int32) (u0 : Option zP) (hw : cw M) (k : if l3 = 0 then (Q (.inl none) M) else (if (64 : Int32) ≤ (l1 + (1 : Int32)) then (16 ≤ a0 ∧ (Q (.inl none) (sl M a0 1 ((gl M a0 1) ||| (zls (1 : Int64) ((l1 + (1 : Int32)) - (64 : Int32))))))) else (16 ≤ a0 ∧ (Q (.inl none) (sl M a0 0 ((gl M a0 0) ||| (zls (1 : Int64) (l1 + (1 : Int32))))))))) : Z E YX1_onlyOf (d + 1) M [(0, vr (some (a0, 4, 0))), (1, vi l1), (3, vi l3)] 42 [vr u0] Q := by
  refine sX1_onlyOf_42 (d := d) M a0 l1 l3 u0 hw ?_
  refine sX1_onlyOf_43 (d := d) M _ l1 l3 hw ?_
  refine zite k (fun h27228 k => ?_) (fun h27228 k => ?_)
  · exact k
  · refine sX6_add_0 (d := d) M _ (l1 + (1 : Int32)) ?_
    refine zite k (fun h27229 k => ?_) (fun h27229 k => ?_)
    · refine zand k (fun h27230 k => ?_)
      show Z E YX1_onlyOf (d + 1) (sl M a0 1 ((gl M a0 1) ||| (zls (1 : Int64) ((l1 + (1 : Int32)) - (64 : Int32))))) [] 54 [vr (some (a0, 4, 0))] Q
      refine sX1_onlyOf_54 (d := d) (sl M a0 1 ((gl M a0 1) ||| (zls (1 : Int64) ((l1 + (1 : Int32)) - (64 : Int32))))) (some (a0, 4, 0)) hw ?_
      exact k
    · refine zand k (fun h27231 k => ?_)
      show Z E YX1_onlyOf (d + 1) (sl M a0 0 ((gl M a0 0) ||| (zls (1 : Int64) (l1 + (1 : Int32))))) [] 54 [vr (some (a0, 4, 0))] Q
      refine sX1_onlyOf_54 (d := d) (sl M a0 0 ((gl M a0 0) ||| (zls (1 : Int64) (l1 + (1 : Int32))))) (some (a0, 4, 0)) hw ?_
      exact k
theorem iX1_stacks_11 {E : zE} {d : Nat} {Q : zO → zM → Prop} (M : zM) (l1 : Int32) (u0 : Option zP) (hw : cw M) (k : if l1 = (17 : Int32) then (Q (.inl none) M) else (if l1 = (18 : Int32) then (∃ b27238 : Nat, (gr M 16 60) = some (b27238, 7, 0) ∧ (∃ b27239 m27239 : Nat, (gr M b27238 10) = some (b27239, 105, m27239) ∧ (16 ≤ b27239 ∧ (vp_in (gi M b27238 13) m27239 ∧ (∃ b27242 m27242 : Nat, (gr M b27238 11) = some (b27242, 105, m27242) ∧ (16 ≤ b27242 ∧ (vp_in (gi M b27238 13) m27242 ∧ (16 ≤ b27238 ∧ (∃ b27246 m27246 : Nat, (gr M b27238 12) = some (b27246, 105, m27246) ∧ (16 ≤ b27246 ∧ (vp_in (gi M b27238 13) m27246 ∧ (Z E YX43_push (d + 1) (sl (si (sl (sl M b27239 ((gi M b27238 13)).toNatClampNeg (gl M 73 0)) b27242 ((gi M b27238 13)).toNatClampNeg (gl M 73 1)) b27238 13 ((gi M b27238 13) + (1 : Int32))) b27246 ((gi M b27238 13)).toNatClampNeg ((gl M 73 2) &&& (-513 : Int64))) (zargs 0 [vr (some (b27238, 7, 0)), vr (some (73, 4, 0))]) 0 [] (zafter E YX1_stacks ((d + 1) + 1) [] 44 3 [] Q))))))))))))) else (∃ b27252 : Nat, (gr M 16 60) = some (b27252, 7, 0) ∧ (Z E YX43_pop (d + 1) M (zargs 0 [vr (some (b27252, 7, 0)), vr (some (72, 4, 0))]) 0 [] (zafter E YX1_stacks ((d + 1) + 1) [(0, vr (some (16, 0, 0))), (1, vi l1)] 56 3 [] Q))))) : Z E YX1_stacks (d + 2) M [(0, vr (some (16, 0, 0))), (1, vi l1)] 11 [vr u0] Q := by
  refine sX1_stacks_11 (d := (d + 1)) M l1 u0 hw ?_
  refine zite k (fun h27236 k => ?_) (fun h27236 k => ?_)
  · exact k
  · refine zite k (fun h27237 k => ?_) (fun h27237 k => ?_)
    · obtain ⟨b27238, h27238, k⟩ := k
      refine ⟨b27238, h27238, ?_⟩
      refine jX43_push (d := d) M b27238 (some (73, 4, 0)) ?_
      refine ⟨73, rfl, ?_⟩
      obtain ⟨b27239, m27239, h27239, k⟩ := k
      refine ⟨b27239, m27239, h27239, ?_⟩
      refine zand k (fun h27240 k => ?_)
      refine zand k (fun h27241 k => ?_)
      obtain ⟨b27242, m27242, h27242, k⟩ := k
      refine ⟨b27242, m27242, h27242, ?_⟩
      refine zand k (fun h27243 k => ?_)
      refine zand k (fun h27244 k => ?_)
      refine zand k (fun h27245 k => ?_)
      obtain ⟨b27246, m27246, h27246, k⟩ := k
      refine ⟨b27246, m27246, h27246, ?_⟩
      refine zand k (fun h27247 k => ?_)
      refine zand k (fun h27248 k => ?_)
      show Z E YX1_stacks ((d + 1) + 1) (sl (si (sl (sl M b27239 ((gi M b27238 13)).toNatClampNeg (gl M 73 0)) b27242 ((gi M b27238 13)).toNatClampNeg (gl M 73 1)) b27238 13 ((gi M b27238 13) + (1 : Int32))) b27246 ((gi M b27238 13)).toNatClampNeg ((gl M 73 2) &&& (-513 : Int64))) [(0, vr (some (16, 0, 0)))] 36 [] Q
      refine sX1_stacks_36 (d := (d + 1)) (sl (si (sl (sl M b27239 ((gi M b27238 13)).toNatClampNeg (gl M 73 0)) b27242 ((gi M b27238 13)).toNatClampNeg (gl M 73 1)) b27238 13 ((gi M b27238 13) + (1 : Int32))) b27246 ((gi M b27238 13)).toNatClampNeg ((gl M 73 2) &&& (-513 : Int64))) hw ?_
      refine ⟨b27238, h27238, ?_⟩
      exact k
    · exact k
theorem iX1_stacks_59 {E : zE} {d : Nat} {Q : zO → zM → Prop} (M : zM) (l1 : Int32) (u0 : Option zP) (hw : cw M) (k : if l1 = (19 : Int32) then (∃ b27256 : Nat, (gr M 16 60) = some (b27256, 7, 0) ∧ (∃ b27257 m27257 : Nat, (gr M b27256 10) = some (b27257, 105, m27257) ∧ (16 ≤ b27257 ∧ (vp_in (gi M b27256 13) m27257 ∧ (∃ b27260 m27260 : Nat, (gr M b27256 11) = some (b27260, 105, m27260) ∧ (16 ≤ b27260 ∧ (vp_in (gi M b27256 13) m27260 ∧ (16 ≤ b27256 ∧ (∃ b27264 m27264 : Nat, (gr M b27256 12) = some (b27264, 105, m27264) ∧ (16 ≤ b27264 ∧ (vp_in (gi M b27256 13) m27264 ∧ (Z E YX43_push (d + 1) (sl (si (sl (sl M b27257 ((gi M b27256 13)).toNatClampNeg (gl M 72 0)) b27260 ((gi M b27256 13)).toNatClampNeg (gl M 72 1)) b27256 13 ((gi M b27256 13) + (1 : Int32))) b27264 ((gi M b27256 13)).toNatClampNeg ((gl M 72 2) &&& (-513 : Int64))) (zargs 0 [vr (some (b27256, 7, 0)), vr (some (73, 4, 0))]) 0 [] (zafter E YX1_stacks ((d + 1) + 1) [(0, vr (some (16, 0, 0)))] 85 3 [] Q))))))))))))) else (∃ b27270 : Nat, (gr M 16 60) = some (b27270, 7, 0) ∧ (Z E YX43_pop (d + 1) M (zargs 0 [vr (some (b27270, 7, 0)), vr (some (71, 4, 0))]) 0 [] (zafter E YX1_stacks ((d + 1) + 1) [(0, vr (some (16, 0, 0)))] 119 3 [] Q)))) : Z E YX1_stacks (d + 2) M [(0, vr (some (16, 0, 0))), (1, vi l1)] 59 [vr u0] Q := by
  refine sX1_stacks_59 (d := (d + 1)) M l1 u0 hw ?_
  refine zite k (fun h27255 k => ?_) (fun h27255 k => ?_)
  · obtain ⟨b27256, h27256, k⟩ := k
    refine ⟨b27256, h27256, ?_⟩
    refine jX43_push (d := d) M b27256 (some (72, 4, 0)) ?_
    refine ⟨72, rfl, ?_⟩
    obtain ⟨b27257, m27257, h27257, k⟩ := k
    refine ⟨b27257, m27257, h27257, ?_⟩
    refine zand k (fun h27258 k => ?_)
    refine zand k (fun h27259 k => ?_)
    obtain ⟨b27260, m27260, h27260, k⟩ := k
    refine ⟨b27260, m27260, h27260, ?_⟩
    refine zand k (fun h27261 k => ?_)
    refine zand k (fun h27262 k => ?_)
    refine zand k (fun h27263 k => ?_)
    obtain ⟨b27264, m27264, h27264, k⟩ := k
    refine ⟨b27264, m27264, h27264, ?_⟩
    refine zand k (fun h27265 k => ?_)
    refine zand k (fun h27266 k => ?_)
    show Z E YX1_stacks ((d + 1) + 1) (sl (si (sl (sl M b27257 ((gi M b27256 13)).toNatClampNeg (gl M 72 0)) b27260 ((gi M b27256 13)).toNatClampNeg (gl M 72 1)) b27256 13 ((gi M b27256 13) + (1 : Int32))) b27264 ((gi M b27256 13)).toNatClampNeg ((gl M 72 2) &&& (-513 : Int64))) [(0, vr (some (16, 0, 0)))] 77 [] Q
    refine sX1_stacks_77 (d := (d + 1)) (sl (si (sl (sl M b27257 ((gi M b27256 13)).toNatClampNeg (gl M 72 0)) b27260 ((gi M b27256 13)).toNatClampNeg (gl M 72 1)) b27256 13 ((gi M b27256 13) + (1 : Int32))) b27264 ((gi M b27256 13)).toNatClampNeg ((gl M 72 2) &&& (-513 : Int64))) hw ?_
    refine ⟨b27256, h27256, ?_⟩
    exact k
  · exact k
theorem iX1_stacks_88 {E : zE} {d : Nat} {Q : zO → zM → Prop} (M : zM) (hw : cw M) (k : ∃ b27272 : Nat, (gr M 16 60) = some (b27272, 7, 0) ∧ (∃ b27273 m27273 : Nat, (gr M b27272 10) = some (b27273, 105, m27273) ∧ (16 ≤ b27273 ∧ (vp_in (gi M b27272 13) m27273 ∧ (∃ b27276 m27276 : Nat, (gr M b27272 11) = some (b27276, 105, m27276) ∧ (16 ≤ b27276 ∧ (vp_in (gi M b27272 13) m27276 ∧ (16 ≤ b27272 ∧ (∃ b27280 m27280 : Nat, (gr M b27272 12) = some (b27280, 105, m27280) ∧ (16 ≤ b27280 ∧ (vp_in (gi M b27272 13) m27280 ∧ (Z E YX43_push (d + 1) (sl (si (sl (sl M b27273 ((gi M b27272 13)).toNatClampNeg (gl M 72 0)) b27276 ((gi M b27272 13)).toNatClampNeg (gl M 72 1)) b27272 13 ((gi M b27272 13) + (1 : Int32))) b27280 ((gi M b27272 13)).toNatClampNeg ((gl M 72 2) &&& (-513 : Int64))) (zargs 0 [vr (some (b27272, 7, 0)), vr (some (73, 4, 0))]) 0 [] (zafter E YX1_stacks ((d + 1) + 1) [] 107 3 [] Q))))))))))))) : Z E YX1_stacks (d + 2) M [(0, vr (some (16, 0, 0)))] 88 [] Q := by
  refine sX1_stacks_88 (d := (d + 1)) M hw ?_
  obtain ⟨b27272, h27272, k⟩ := k
  refine ⟨b27272, h27272, ?_⟩
  refine jX43_push (d := d) M b27272 (some (72, 4, 0)) ?_
  refine ⟨72, rfl, ?_⟩
  obtain ⟨b27273, m27273, h27273, k⟩ := k
  refine ⟨b27273, m27273, h27273, ?_⟩
  refine zand k (fun h27274 k => ?_)
  refine zand k (fun h27275 k => ?_)
  obtain ⟨b27276, m27276, h27276, k⟩ := k
  refine ⟨b27276, m27276, h27276, ?_⟩
  refine zand k (fun h27277 k => ?_)
  refine zand k (fun h27278 k => ?_)
  refine zand k (fun h27279 k => ?_)
  obtain ⟨b27280, m27280, h27280, k⟩ := k
  refine ⟨b27280, m27280, h27280, ?_⟩
  refine zand k (fun h27281 k => ?_)
  refine zand k (fun h27282 k => ?_)
  show Z E YX1_stacks ((d + 1) + 1) (sl (si (sl (sl M b27273 ((gi M b27272 13)).toNatClampNeg (gl M 72 0)) b27276 ((gi M b27272 13)).toNatClampNeg (gl M 72 1)) b27272 13 ((gi M b27272 13) + (1 : Int32))) b27280 ((gi M b27272 13)).toNatClampNeg ((gl M 72 2) &&& (-513 : Int64))) [(0, vr (some (16, 0, 0)))] 99 [] Q
  refine sX1_stacks_99 (d := (d + 1)) (sl (si (sl (sl M b27273 ((gi M b27272 13)).toNatClampNeg (gl M 72 0)) b27276 ((gi M b27272 13)).toNatClampNeg (gl M 72 1)) b27272 13 ((gi M b27272 13) + (1 : Int32))) b27280 ((gi M b27272 13)).toNatClampNeg ((gl M 72 2) &&& (-513 : Int64))) hw ?_
  refine ⟨b27272, h27272, ?_⟩
  exact k
theorem iX1_stacks_122 {E : zE} {d : Nat} {Q : zO → zM → Prop} (M : zM) (u0 : Option zP) (hw : cw M) (k : ∃ b27287 : Nat, (gr M 16 60) = some (b27287, 7, 0) ∧ (∃ b27288 m27288 : Nat, (gr M b27287 10) = some (b27288, 105, m27288) ∧ (16 ≤ b27288 ∧ (vp_in (gi M b27287 13) m27288 ∧ (∃ b27291 m27291 : Nat, (gr M b27287 11) = some (b27291, 105, m27291) ∧ (16 ≤ b27291 ∧ (vp_in (gi M b27287 13) m27291 ∧ (16 ≤ b27287 ∧ (∃ b27295 m27295 : Nat, (gr M b27287 12) = some (b27295, 105, m27295) ∧ (16 ≤ b27295 ∧ (vp_in (gi M b27287 13) m27295 ∧ (Z E YX43_push (d + 1) (sl (si (sl (sl M b27288 ((gi M b27287 13)).toNatClampNeg (gl M 73 0)) b27291 ((gi M b27287 13)).toNatClampNeg (gl M 73 1)) b27287 13 ((gi M b27287 13) + (1 : Int32))) b27295 ((gi M b27287 13)).toNatClampNeg ((gl M 73 2) &&& (-513 : Int64))) (zargs 0 [vr (some (b27287, 7, 0)), vr (some (71, 4, 0))]) 0 [] (zafter E YX1_stacks ((d + 1) + 1) [(0, vr (some (16, 0, 0)))] 142 3 [] Q))))))))))))) : Z E YX1_stacks (d + 2) M [(0, vr (some (16, 0, 0)))] 122 [vr u0] Q := by
  refine sX1_stacks_122 (d := (d + 1)) M u0 hw ?_
  obtain ⟨b27287, h27287, k⟩ := k
  refine ⟨b27287, h27287, ?_⟩
  refine jX43_push (d := d) M b27287 (some (73, 4, 0)) ?_
  refine ⟨73, rfl, ?_⟩
  obtain ⟨b27288, m27288, h27288, k⟩ := k
  refine ⟨b27288, m27288, h27288, ?_⟩
  refine zand k (fun h27289 k => ?_)
  refine zand k (fun h27290 k => ?_)
  obtain ⟨b27291, m27291, h27291, k⟩ := k
  refine ⟨b27291, m27291, h27291, ?_⟩
  refine zand k (fun h27292 k => ?_)
  refine zand k (fun h27293 k => ?_)
  refine zand k (fun h27294 k => ?_)
  obtain ⟨b27295, m27295, h27295, k⟩ := k
  refine ⟨b27295, m27295, h27295, ?_⟩
  refine zand k (fun h27296 k => ?_)
  refine zand k (fun h27297 k => ?_)
  show Z E YX1_stacks ((d + 1) + 1) (sl (si (sl (sl M b27288 ((gi M b27287 13)).toNatClampNeg (gl M 73 0)) b27291 ((gi M b27287 13)).toNatClampNeg (gl M 73 1)) b27287 13 ((gi M b27287 13) + (1 : Int32))) b27295 ((gi M b27287 13)).toNatClampNeg ((gl M 73 2) &&& (-513 : Int64))) [(0, vr (some (16, 0, 0)))] 134 [] Q
  refine sX1_stacks_134 (d := (d + 1)) (sl (si (sl (sl M b27288 ((gi M b27287 13)).toNatClampNeg (gl M 73 0)) b27291 ((gi M b27287 13)).toNatClampNeg (gl M 73 1)) b27287 13 ((gi M b27287 13) + (1 : Int32))) b27295 ((gi M b27287 13)).toNatClampNeg ((gl M 73 2) &&& (-513 : Int64))) hw ?_
  refine ⟨b27287, h27287, ?_⟩
  exact k
theorem iX1_stacks_145 {E : zE} {d : Nat} {Q : zO → zM → Prop} (M : zM) (hw : cw M) (k : ∃ b27302 : Nat, (gr M 16 60) = some (b27302, 7, 0) ∧ (∃ b27303 m27303 : Nat, (gr M b27302 10) = some (b27303, 105, m27303) ∧ (16 ≤ b27303 ∧ (vp_in (gi M b27302 13) m27303 ∧ (∃ b27306 m27306 : Nat, (gr M b27302 11) = some (b27306, 105, m27306) ∧ (16 ≤ b27306 ∧ (vp_in (gi M b27302 13) m27306 ∧ (16 ≤ b27302 ∧ (∃ b27310 m27310 : Nat, (gr M b27302 12) = some (b27310, 105, m27310) ∧ (16 ≤ b27310 ∧ (vp_in (gi M b27302 13) m27310 ∧ (Z E YX43_push (d + 1) (sl (si (sl (sl M b27303 ((gi M b27302 13)).toNatClampNeg (gl M 72 0)) b27306 ((gi M b27302 13)).toNatClampNeg (gl M 72 1)) b27302 13 ((gi M b27302 13) + (1 : Int32))) b27310 ((gi M b27302 13)).toNatClampNeg ((gl M 72 2) &&& (-513 : Int64))) (zargs 0 [vr (some (b27302, 7, 0)), vr (some (73, 4, 0))]) 0 [] (zafter E YX1_stacks ((d + 1) + 1) [] 164 3 [] Q))))))))))))) : Z E YX1_stacks (d + 2) M [(0, vr (some (16, 0, 0)))] 145 [] Q := by
  refine sX1_stacks_145 (d := (d + 1)) M hw ?_
  obtain ⟨b27302, h27302, k⟩ := k
  refine ⟨b27302, h27302, ?_⟩
  refine jX43_push (d := d) M b27302 (some (72, 4, 0)) ?_
  refine ⟨72, rfl, ?_⟩
  obtain ⟨b27303, m27303, h27303, k⟩ := k
  refine ⟨b27303, m27303, h27303, ?_⟩
  refine zand k (fun h27304 k => ?_)
  refine zand k (fun h27305 k => ?_)
  obtain ⟨b27306, m27306, h27306, k⟩ := k
  refine ⟨b27306, m27306, h27306, ?_⟩
  refine zand k (fun h27307 k => ?_)
  refine zand k (fun h27308 k => ?_)
  refine zand k (fun h27309 k => ?_)
  obtain ⟨b27310, m27310, h27310, k⟩ := k
  refine ⟨b27310, m27310, h27310, ?_⟩
  refine zand k (fun h27311 k => ?_)
  refine zand k (fun h27312 k => ?_)
  show Z E YX1_stacks ((d + 1) + 1) (sl (si (sl (sl M b27303 ((gi M b27302 13)).toNatClampNeg (gl M 72 0)) b27306 ((gi M b27302 13)).toNatClampNeg (gl M 72 1)) b27302 13 ((gi M b27302 13) + (1 : Int32))) b27310 ((gi M b27302 13)).toNatClampNeg ((gl M 72 2) &&& (-513 : Int64))) [(0, vr (some (16, 0, 0)))] 156 [] Q
  refine sX1_stacks_156 (d := (d + 1)) (sl (si (sl (sl M b27303 ((gi M b27302 13)).toNatClampNeg (gl M 72 0)) b27306 ((gi M b27302 13)).toNatClampNeg (gl M 72 1)) b27302 13 ((gi M b27302 13) + (1 : Int32))) b27310 ((gi M b27302 13)).toNatClampNeg ((gl M 72 2) &&& (-513 : Int64))) hw ?_
  refine ⟨b27302, h27302, ?_⟩
  exact k
theorem iX8_cutSign_42 {E : zE} {d : Nat} {Q : zO → zM → Prop} (M : zM) (l1 : Int32) (l2 : Int32) (l3 : Int32) (l4 : Int32) (l5 : Int32) (k : if l3 ≤ l5 then (if l4 = 0 then (Zm E YX8_cutSign (d + 1) M [(0, vr (some (97, 1, 0))), (1, vi (l1 + (1 : Int32))), (2, vi (l2 + (l3 + (1 : Int32))))] 4 [] Q) else (vp_in (gi M 97 12) 4002 ∧ (Q (.inl none) (si (si (si M 103 ((gi M 97 12)).toNatClampNeg (5 : Int32)) 104 ((gi M 97 12)).toNatClampNeg l1) 97 18 ((gi M 97 18) + l3))))) else (if l4 = 0 then (Zm E YX8_cutSign (d + 1) M [(0, vr (some (97, 1, 0))), (1, vi (l1 + (1 : Int32))), (2, vi (l2 + (l3 + (1 : Int32))))] 4 [] Q) else (if (gi M 97 4) ≤ ((gi M 97 18) + l5) then (Zm E YX8_cutSign (d + 1) M [(0, vr (some (97, 1, 0))), (1, vi l1), (2, vi l2), (3, vi l3), (4, vi (0 : Int32)), (5, vi (l5 + (1 : Int32)))] 42 [] Q) else ((4 ≤ (d + 1)) ∧ (vp_in (l2 + l5) (zslen.getD 4 0) ∧ (vp_in ((gi M 97 18) + l5) 4000 ∧ (if (zsch 4 ((l2 + l5)).toNatClampNeg) = ((gi M 99 (((gi M 97 18) + l5)).toNatClampNeg) &&& (255 : Int32)) then (Zm E YX8_cutSign (d + 1) M [(0, vr (some (97, 1, 0))), (1, vi l1), (2, vi l2), (3, vi l3), (4, vi (1 : Int32)), (5, vi (l5 + (1 : Int32)))] 42 [] Q) else (Zm E YX8_cutSign (d + 1) M [(0, vr (some (97, 1, 0))), (1, vi l1), (2, vi l2), (3, vi l3), (4, vi (0 : Int32)), (5, vi (l5 + (1 : Int32)))] 42 [] Q)))))))) : Zm E YX8_cutSign (d + 1) M [(0, vr (some (97, 1, 0))), (1, vi l1), (2, vi l2), (3, vi l3), (4, vi l4), (5, vi l5)] 42 [] Q := by
  refine sX8_cutSign_42 (d := d) M l1 l2 l3 l4 l5 ?_
  refine zite k (fun h27343 k => ?_) (fun h27343 k => ?_)
  · refine sX8_cutSign_104 (d := d) M l1 l2 l3 l4 ?_
    refine zite k (fun h27344 k => ?_) (fun h27344 k => ?_)
    · exact k
    · refine zand k (fun h27345 k => ?_)
      refine ⟨h27345, ?_⟩
      exact k
  · refine zite k (fun h27346 k => ?_) (fun h27346 k => ?_)
    · refine sX8_cutSign_104 (d := d) M l1 l2 l3 l4 ?_
      refine zpos h27346 ?_
      exact k
    · refine sX8_isThere_0 (d := d) M ((gi M 97 18) + l5) ?_
      refine zite k (fun h27347 k => ?_) (fun h27347 k => ?_)
      · show Zm E YX8_cutSign (d + 1) M [(0, vr (some (97, 1, 0))), (1, vi l1), (2, vi l2), (3, vi l3), (5, vi l5)] 64 [vi (0 : Int32)] Q
        refine sX8_cutSign_64 (d := d) M l1 l2 l3 l5 (0 : Int32) ?_
        refine zpos (show (0 : Int32) = 0 from by decide) ?_
        exact k
      · show Zm E YX8_cutSign (d + 1) M [(0, vr (some (97, 1, 0))), (1, vi l1), (2, vi l2), (3, vi l3), (5, vi l5)] 64 [vi (1 : Int32)] Q
        refine sX8_cutSign_64 (d := d) M l1 l2 l3 l5 (1 : Int32) ?_
        refine zneg (show ¬ ((1 : Int32) = 0) from by decide) ?_
        refine zand k (fun h27348 k => ?_)
        refine zand k (fun h27349 k => ?_)
        refine sX8_look_0 (d := d) M ((gi M 97 18) + l5) ?_
        refine zneg h27347 ?_
        refine zand k (fun h27350 k => ?_)
        show Zm E YX8_cutSign (d + 1) M [(0, vr (some (97, 1, 0))), (1, vi l1), (2, vi l2), (3, vi l3), (5, vi l5)] 88 [vi ((gi M 99 (((gi M 97 18) + l5)).toNatClampNeg) &&& (255 : Int32)), vi (zsch 4 ((l2 + l5)).toNatClampNeg)] Q
        refine sX8_cutSign_88 (d := d) M l1 l2 l3 l5 ((gi M 99 (((gi M 97 18) + l5)).toNatClampNeg) &&& (255 : Int32)) (zsch 4 ((l2 + l5)).toNatClampNeg) ?_
        exact k
theorem iX8_firstNames_17 {E : zE} {d : Nat} {Q : zO → zM → Prop} (M : zM) (l1 : Int32) (k : (4 ≤ (d + 1)) ∧ (if (Int32.ofNat (zslen.getD 3 0)) ≤ l1 then (Q (.inl none) M) else (vp_in l1 (zslen.getD 3 0) ∧ (if (zsch 3 (l1).toNatClampNeg) = (32 : Int32) then (Zm E YX8_addText d M (zargs 0 [vr (some (97, 1, 0))]) 0 [] (zma E YX8_firstNames (d + 1) [(0, vr (some (97, 1, 0))), (1, vi l1)] 54 3 [] Q)) else (vp_in (gi M 97 11) 200 ∧ (Zm E YX8_firstNames (d + 1) (si (si M 102 ((gi M 97 11)).toNatClampNeg (vp_nar .char (((zsch 3 (l1).toNatClampNeg)).toUInt32 % 65536).toInt32)) 97 11 ((gi M 97 11) + (1 : Int32))) [(0, vr (some (97, 1, 0))), (1, vi (l1 + (1 : Int32)))] 17 [] Q)))))) : Zm E YX8_firstNames (d + 1) M [(0, vr (some (97, 1, 0))), (1, vi l1)] 17 [] Q := by
  refine sX8_firstNames_17 (d := d) M l1 ?_
  refine zand k (fun h27352 k => ?_)
  refine zite k (fun h27353 k => ?_) (fun h27353 k => ?_)
  · exact k
  · refine ⟨h27352, ?_⟩
    refine zand k (fun h27354 k => ?_)
    refine zite k (fun h27355 k => ?_) (fun h27355 k => ?_)
    · exact k
    · refine ⟨h27352, ?_⟩
      refine ⟨h27354, ?_⟩
      refine sX8_put_0 (d := d) M (zsch 3 (l1).toNatClampNeg) ?_
      refine zand k (fun h27356 k => ?_)
      show Zm E YX8_firstNames (d + 1) (si (si M 102 ((gi M 97 11)).toNatClampNeg (vp_nar .char (((zsch 3 (l1).toNatClampNeg)).toUInt32 % 65536).toInt32)) 97 11 ((gi M 97 11) + (1 : Int32))) [(0, vr (some (97, 1, 0))), (1, vi l1)] 50 [] Q
      refine sX8_firstNames_50 (d := d) (si (si M 102 ((gi M 97 11)).toNatClampNeg (vp_nar .char (((zsch 3 (l1).toNatClampNeg)).toUInt32 % 65536).toInt32)) 97 11 ((gi M 97 11) + (1 : Int32))) l1 ?_
      exact k
theorem iX8_keywordAt_19 {E : zE} {d : Nat} {Q : zO → zM → Prop} (M : zM) (l1 : Int32) (l2 : Int32) (l3 : Int32) (l4 : Int32) (l5 : Int32) (k : if l2 ≤ l5 then (Zm E YX8_keywordAt (d + 1) M [(0, vr (some (97, 1, 0))), (1, vi l1), (2, vi l2), (3, vi l3), (4, vi l4), (5, vi l5)] 53 [] Q) else ((4 ≤ (d + 1)) ∧ (vp_in (l4 + l5) (zslen.getD 1 0) ∧ (if (gi M 97 4) ≤ (l1 + l5) then (if (zsch 1 ((l4 + l5)).toNatClampNeg) = (0 : Int32) then (Zm E YX8_keywordAt (d + 1) M [(0, vr (some (97, 1, 0))), (1, vi l1), (2, vi l2), (3, vi l3), (4, vi l4), (5, vi (l5 + (1 : Int32)))] 19 [] Q) else (Zm E YX8_keywordAt (d + 1) M [(0, vr (some (97, 1, 0))), (1, vi l1), (2, vi l2), (3, vi l3), (4, vi l4), (5, vi l5)] 53 [] Q)) else (vp_in (l1 + l5) 4000 ∧ (if (zsch 1 ((l4 + l5)).toNatClampNeg) = ((gi M 99 ((l1 + l5)).toNatClampNeg) &&& (255 : Int32)) then (Zm E YX8_keywordAt (d + 1) M [(0, vr (some (97, 1, 0))), (1, vi l1), (2, vi l2), (3, vi l3), (4, vi l4), (5, vi (l5 + (1 : Int32)))] 19 [] Q) else (Zm E YX8_keywordAt (d + 1) M [(0, vr (some (97, 1, 0))), (1, vi l1), (2, vi l2), (3, vi l3), (4, vi l4), (5, vi l5)] 53 [] Q))))))) : Zm E YX8_keywordAt (d + 1) M [(0, vr (some (97, 1, 0))), (1, vi l1), (2, vi l2), (3, vi l3), (4, vi l4), (5, vi l5)] 19 [] Q := by
  refine sX8_keywordAt_19 (d := d) M l1 l2 l3 l4 l5 ?_
  refine zite k (fun h27359 k => ?_) (fun h27359 k => ?_)
  · exact k
  · refine zand k (fun h27360 k => ?_)
    refine zand k (fun h27361 k => ?_)
    refine sX8_look_0 (d := d) M (l1 + l5) ?_
    refine zite k (fun h27362 k => ?_) (fun h27362 k => ?_)
    · show Zm E YX8_keywordAt (d + 1) M [(0, vr (some (97, 1, 0))), (1, vi l1), (2, vi l2), (3, vi l3), (4, vi l4), (5, vi l5)] 44 [vi (0 : Int32), vi (zsch 1 ((l4 + l5)).toNatClampNeg)] Q
      refine sX8_keywordAt_44 (d := d) M l1 l2 l3 l4 l5 (0 : Int32) (zsch 1 ((l4 + l5)).toNatClampNeg) ?_
      exact k
    · refine zand k (fun h27364 k => ?_)
      show Zm E YX8_keywordAt (d + 1) M [(0, vr (some (97, 1, 0))), (1, vi l1), (2, vi l2), (3, vi l3), (4, vi l4), (5, vi l5)] 44 [vi ((gi M 99 ((l1 + l5)).toNatClampNeg) &&& (255 : Int32)), vi (zsch 1 ((l4 + l5)).toNatClampNeg)] Q
      refine sX8_keywordAt_44 (d := d) M l1 l2 l3 l4 l5 ((gi M 99 ((l1 + l5)).toNatClampNeg) &&& (255 : Int32)) (zsch 1 ((l4 + l5)).toNatClampNeg) ?_
      exact k
