/-! RUN of the component: its handlers -/
theorem bX1_run_102 : zdec cX1_run 102 [(102, .astore 7, 2), (104, .aload_n 0, 1), (105, .invokevirtual 457, 3), (108, .goto 41, 3), (111, .astore 7, 2), (113, .aload_n 0, 1), (114, .iconst 4, 1), (115, .putfield 277, 3), (118, .aload_n 0, 1), (119, .iload_n 3, 1), (120, .putfield 328, 3), (123, .aload_n 0, 1), (124, .iload 4, 2), (126, .putfield 440, 3), (129, .aload_n 0, 1), (130, .iload 5, 2)] = true := by decide +kernel
theorem bX1_run_132 : zdec cX1_run 132 [(132, .putfield 443, 3), (135, .aload_n 0, 1), (136, .getfield 166, 3), (139, .aload_n 0, 1), (140, .getfield 328, 3), (143, .iconst 1, 1), (144, .isub, 1), (145, .iload 6, 2), (147, .i2s, 1), (148, .sastore, 1)] = true := by decide +kernel
theorem dX1_run_102 : decode cX1_run 102 = .ok (.astore 7, 2) := zdec_at bX1_run_102 0 rfl
theorem dX1_run_104 : decode cX1_run 104 = .ok (.aload_n 0, 1) := zdec_at bX1_run_102 1 rfl
theorem dX1_run_105 : decode cX1_run 105 = .ok (.invokevirtual 457, 3) := zdec_at bX1_run_102 2 rfl
theorem dX1_run_108 : decode cX1_run 108 = .ok (.goto 41, 3) := zdec_at bX1_run_102 3 rfl
theorem dX1_run_111 : decode cX1_run 111 = .ok (.astore 7, 2) := zdec_at bX1_run_102 4 rfl
theorem dX1_run_113 : decode cX1_run 113 = .ok (.aload_n 0, 1) := zdec_at bX1_run_102 5 rfl
theorem dX1_run_114 : decode cX1_run 114 = .ok (.iconst 4, 1) := zdec_at bX1_run_102 6 rfl
theorem dX1_run_115 : decode cX1_run 115 = .ok (.putfield 277, 3) := zdec_at bX1_run_102 7 rfl
theorem dX1_run_118 : decode cX1_run 118 = .ok (.aload_n 0, 1) := zdec_at bX1_run_102 8 rfl
theorem dX1_run_119 : decode cX1_run 119 = .ok (.iload_n 3, 1) := zdec_at bX1_run_102 9 rfl
theorem dX1_run_120 : decode cX1_run 120 = .ok (.putfield 328, 3) := zdec_at bX1_run_102 10 rfl
theorem dX1_run_123 : decode cX1_run 123 = .ok (.aload_n 0, 1) := zdec_at bX1_run_102 11 rfl
theorem dX1_run_124 : decode cX1_run 124 = .ok (.iload 4, 2) := zdec_at bX1_run_102 12 rfl
theorem dX1_run_126 : decode cX1_run 126 = .ok (.putfield 440, 3) := zdec_at bX1_run_102 13 rfl
theorem dX1_run_129 : decode cX1_run 129 = .ok (.aload_n 0, 1) := zdec_at bX1_run_102 14 rfl
theorem dX1_run_130 : decode cX1_run 130 = .ok (.iload 5, 2) := zdec_at bX1_run_102 15 rfl
theorem dX1_run_132 : decode cX1_run 132 = .ok (.putfield 443, 3) := zdec_at bX1_run_132 0 rfl
theorem dX1_run_135 : decode cX1_run 135 = .ok (.aload_n 0, 1) := zdec_at bX1_run_132 1 rfl
theorem dX1_run_136 : decode cX1_run 136 = .ok (.getfield 166, 3) := zdec_at bX1_run_132 2 rfl
theorem dX1_run_139 : decode cX1_run 139 = .ok (.aload_n 0, 1) := zdec_at bX1_run_132 3 rfl
theorem dX1_run_140 : decode cX1_run 140 = .ok (.getfield 328, 3) := zdec_at bX1_run_132 4 rfl
theorem dX1_run_143 : decode cX1_run 143 = .ok (.iconst 1, 1) := zdec_at bX1_run_132 5 rfl
theorem dX1_run_144 : decode cX1_run 144 = .ok (.isub, 1) := zdec_at bX1_run_132 6 rfl
theorem dX1_run_145 : decode cX1_run 145 = .ok (.iload 6, 2) := zdec_at bX1_run_132 7 rfl
theorem dX1_run_147 : decode cX1_run 147 = .ok (.i2s, 1) := zdec_at bX1_run_132 8 rfl
theorem dX1_run_148 : decode cX1_run 148 = .ok (.sastore, 1) := zdec_at bX1_run_132 9 rfl
section
variable {E : zE} {d : Nat} {Q : zO → zM → Prop}
/-- the locals while a step runs -/
def lvR (M : zM) (l1 l2 : Int32) : List (Nat × zV) := [(0, zX16), (1, vi l1), (2, vi l2), (3, vi (gi M 16 49)), (4, vi (gi M 16 38)), (5, vi (gi M 16 50)), (6, vi (gi M 59 ((gi M 16 49) - 1).toNatClampNeg))]
theorem rX1_run_37 (M : zM) (l1 l2 : Int32) (hw : cw M) (k : if l1 ≤ l2 then (Q (.inl (some (vi l2))) M) else (if gi M 16 51 = 1 then (vp_in (gi M 16 49 - 1) 24 ∧ Z E YX1_step d (si M 16 52 (gi M 16 52 + 1)) (zargs 0 [zX16, vi (gi M 59 (gi M 16 49 - 1).toNatClampNeg)]) 0 [] (zafter E YX1_run (d + 1) (lvR M l1 (l2 + 1)) 96 3 [] Q)) else (Q (.inl (some (vi l2))) M))) : Z E YX1_run (d + 1) M [(0, zX16), (1, vi l1), (2, vi l2)] 37 [] Q := by
  refine z_iload_n dX1_run_37 rfl rfl ?_
  refine z_iload_n dX1_run_38 rfl rfl ?_
  refine z_icmp_ge (tgt := 152) dX1_run_39 rfl (fun h_ => ?_) (fun h_ => ?_)
  · have k := zit h_ k
    refine z_iload_n dX1_run_152 rfl rfl ?_
    exact z_iret dX1_run_153 rfl rfl k
  · have k := zif h_ k
    refine z_aload_n dX1_run_42 rfl rfl ?_
    refine z_geti dX1_run_43 fsX1_277_0 ?_
    refine z_iconst (v := 1) dX1_run_46 rfl ?_
    refine z_icmp_ne (tgt := 152) dX1_run_47 rfl (fun h_ => ?_) (fun h_ => ?_)
    · have k := zif h_ k
      refine z_iload_n dX1_run_152 rfl rfl ?_
      exact z_iret dX1_run_153 rfl rfl k
    · have k := zit h_ k
      refine z_inc (v := (l2 + (1 : Int32))) dX1_run_50 rfl rfl (by decide) (lv' := [(0, vr (some (16, 0, 0))), (1, vi l1), (2, vi (l2 + (1 : Int32)))]) rfl ?_
      refine z_aload_n dX1_run_53 rfl rfl ?_
      refine z_dup dX1_run_54 rfl ?_
      refine z_geti dX1_run_55 fsX1_319_0 ?_
      refine z_iconst (v := 1) dX1_run_58 rfl ?_
      refine z_iadd dX1_run_59 ?_
      refine z_puti (by decide) dX1_run_60 (zfwN.w fwX1_319_0) rfl ⟨rfl, rfl⟩ ?_
      refine z_aload_n dX1_run_63 rfl rfl ?_
      refine z_geti dX1_run_64 fsX1_328_0 ?_
      refine z_ist_n dX1_run_67 rfl (by decide) (lv' := [(0, vr (some (16, 0, 0))), (1, vi l1), (2, vi (l2 + (1 : Int32))), (3, vi (gi M 16 49))]) rfl ?_
      refine z_aload_n dX1_run_68 rfl rfl ?_
      refine z_geti dX1_run_69 fsX1_440_0 ?_
      refine z_ist dX1_run_72 (by decide) (lv' := [(0, vr (some (16, 0, 0))), (1, vi l1), (2, vi (l2 + (1 : Int32))), (3, vi (gi M 16 49)), (4, vi (gi M 16 38))]) rfl ?_
      refine z_aload_n dX1_run_74 rfl rfl ?_
      refine z_geti dX1_run_75 fsX1_443_0 ?_
      refine z_ist dX1_run_78 (by decide) (lv' := [(0, vr (some (16, 0, 0))), (1, vi l1), (2, vi (l2 + (1 : Int32))), (3, vi (gi M 16 49)), (4, vi (gi M 16 38)), (5, vi (gi M 16 50))]) rfl ?_
      refine z_aload_n dX1_run_80 rfl rfl ?_
      refine z_getr dX1_run_81 fsX1_166_0 (show gr M 16 41 = some (59, 102, 24) from cw_at hw 27 rfl) ?_
      refine z_aload_n dX1_run_84 rfl rfl ?_
      refine z_geti dX1_run_85 fsX1_328_0 ?_
      refine z_iconst (v := 1) dX1_run_88 rfl ?_
      refine z_isub dX1_run_89 ?_
      obtain ⟨b_, k⟩ := k
      refine z_sald dX1_run_90 b_ ?_
      refine z_ist dX1_run_91 (by decide) (lv' := lvR M l1 (l2 + 1)) rfl ?_
      refine z_aload_n dX1_run_93 rfl rfl ?_
      refine z_iload dX1_run_94 rfl ?_
      exact z_callV (as := [vi (gi M 59 (((gi M 16 49) - (1 : Int32))).toNatClampNeg)]) (st := []) dX1_run_96 vsX1_454_0 (Nat.le_refl _) (Nat.le_of_ble_eq_true rfl) (Nat.le_of_ble_eq_true rfl) rfl k
theorem rX1_run_99 (M M' : zM) (l1 l2 : Int32) (hw : cw M') (k : Z E YX1_run (d + 1) M' [(0, zX16), (1, vi l1), (2, vi l2)] 37 [] Q) : Z E YX1_run (d + 1) M' (lvR M l1 l2) 99 [] Q := by
  refine Z.pick [0, 1, 2] rfl ?_
  exact sX1_run_99 M' _ _ hw k
/-- Thrown is caught: unwind -/
theorem rX1_run_thrown (M M' : zM) (l1 l2 : Int32) (hw : cw M') (k : Z E YX1_unwind d M' (zargs 0 [zX16]) 0 [] (zafter E YX1_run (d + 1) [(0, zX16), (1, vi l1), (2, vi l2)] 105 3 [] Q)) : ZT E YX1_run (d + 1) M' (lvR M l1 l2) 96 (52, 14, 0) Q := by
  refine ZT.catch (hp := 102) ?_ (by decide) ?_
  · exact .inr ⟨by decide, by decide, _, _, q690, rfl, .inl ⟨rfl, rfl⟩⟩
  · refine z_ast dX1_run_102 (by decide) (lv' := lvR M l1 l2 ++ [(7, vr (some (52, 14, 0)))]) rfl ?_
    refine z_aload_n dX1_run_104 rfl rfl ?_
    refine Z.pick [0, 1, 2] rfl ?_
    exact z_callV (as := []) (st := []) dX1_run_105 vsX1_457_0 (Nat.le_refl _) (Nat.le_of_ble_eq_true rfl) (Nat.le_of_ble_eq_true rfl) rfl k
theorem rX1_run_108 (M : zM) (l1 l2 : Int32) (k : Z E YX1_run (d + 1) M [(0, zX16), (1, vi l1), (2, vi l2)] 37 [] Q) : Z E YX1_run (d + 1) M [(0, zX16), (1, vi l1), (2, vi l2)] 108 [] Q := by
  refine z_goto (tgt := 149) dX1_run_108 rfl ?_
  refine z_goto (tgt := 37) dX1_run_149 rfl ?_
  exact k
/-- NoRoom is caught: all is put back -/
theorem rX1_run_noRoom (M M' : zM) (l1 l2 : Int32) (hw : cw M') (k : vp_in (gi M 16 49 - 1) 24 ∧ Z E YX1_run (d + 1) (si (si (si (si (si M' 16 51 4) 16 49 (gi M 16 49)) 16 38 (gi M 16 38)) 16 50 (gi M 16 50)) 59 (gi M 16 49 - 1).toNatClampNeg (vp_nar .short (gi M 59 (gi M 16 49 - 1).toNatClampNeg).toInt16.toInt32)) [(0, zX16), (1, vi l1), (2, vi l2)] 37 [] Q) : ZT E YX1_run (d + 1) M' (lvR M l1 l2) 96 (51, 13, 0) Q := by
  refine ZT.catch (hp := 111) ?_ (by decide) ?_
  · exact .inr ⟨by decide, by decide, _, _, q690, rfl, .inr ⟨by decide +kernel, .inr ⟨by decide, by decide, _, _, q622, rfl, .inl ⟨rfl, rfl⟩⟩⟩⟩
  · refine z_ast dX1_run_111 (by decide) (lv' := lvR M l1 l2 ++ [(7, vr (some (51, 13, 0)))]) rfl ?_
    refine z_aload_n dX1_run_113 rfl rfl ?_
    refine z_iconst (v := 4) dX1_run_114 rfl ?_
    refine z_puti (by decide) dX1_run_115 (zfwN.w fwX1_277_0) rfl ⟨rfl, rfl⟩ ?_
    refine z_aload_n dX1_run_118 rfl rfl ?_
    refine z_iload_n dX1_run_119 rfl rfl ?_
    refine z_puti (by decide) dX1_run_120 (zfwN.w fwX1_328_0) rfl ⟨rfl, rfl⟩ ?_
    refine z_aload_n dX1_run_123 rfl rfl ?_
    refine z_iload dX1_run_124 rfl ?_
    refine z_puti (by decide) dX1_run_126 (zfwN.w fwX1_440_0) rfl ⟨rfl, rfl⟩ ?_
    refine z_aload_n dX1_run_129 rfl rfl ?_
    refine z_iload dX1_run_130 rfl ?_
    refine z_puti (by decide) dX1_run_132 (zfwN.w fwX1_443_0) rfl ⟨rfl, rfl⟩ ?_
    refine z_aload_n dX1_run_135 rfl rfl ?_
    refine z_getr dX1_run_136 fsX1_166_0 (show gr M' 16 41 = some (59, 102, 24) from cw_at hw 27 rfl) ?_
    refine z_aload_n dX1_run_139 rfl rfl ?_
    refine z_geti dX1_run_140 fsX1_328_0 ?_
    refine z_iconst (v := 1) dX1_run_143 rfl ?_
    refine z_isub dX1_run_144 ?_
    refine z_iload dX1_run_145 rfl ?_
    refine z_i2s dX1_run_147 ?_
    obtain ⟨b_, k⟩ := k
    refine z_sast (by decide) dX1_run_148 b_ ?_
    refine z_goto (tgt := 37) dX1_run_149 rfl ?_
    exact Z.pick [0, 1, 2] rfl k
end
