/-! rows of Z: String constants (tag 111, serial j + 4), their bytes (tag 112, serial j + 9) -/
set_option maxRecDepth 100000
theorem zG.str {p : Program} {l : Launch} {R : Room} {s : State} {m : MethodId} {meth : Method} {c : Code} {E : zE} {Y : zY} {d : Nat} (hG : zG E Y d p l R s m meth c) : vk_S 5 zslen zsbyt (fun i => zex E (i + 4)) (fun i => zex E (i + 9)) (fun a => zba E ≤ a) s (zs0 E).heap := vk_S.moved hG.warm.alike hG.ok.2.2.2.2.2.2.2.2.2.1
theorem zrho_s (E : zE) {j : Nat} (h : j < 5) : zrho E (j + 4) = zex E (j + 4) := if_pos (by omega)
theorem zrho_b (E : zE) {j : Nat} (h : j < 5) : zrho E (j + 9) = zex E (j + 9) := if_pos (by omega)
def zsch (j k : Nat) : Int32 := (zsbyt.getD j []).getD k 0
theorem zsch_ok : ∀ j, j < 5 → ∀ k, k < zslen.getD j 0 → (((zsch j k &&& 255).toUInt32 % 65536).toInt32 = zsch j k ∧ narrow .char (.int (zsch j k)) = .int (zsch j k)) := by decide +kernel
theorem zslen_ok : ∀ j, j < 5 → (Int32.ofNat (zslen.getD j 0) >>> ((0 : Int32) &&& 31) = Int32.ofNat (zslen.getD j 0) ∧ zslen.getD j 0 < 300 ∧ (zsbyt.getD j []).length = zslen.getD j 0) := by decide +kernel
def zsW (own : String) (idx : Nat) (Y' : zY) (n : Nat) : Prop := zcode Y' ∧ Cond.instanceMethod (zYy Y') ∈ lw_all ∧ zNoMH (zYy Y') ∧ (parseMethodDescriptor (zYy Y').desc).map (fun d => d.parameters.length) = some n ∧ Cond.selects "java/lang/String" (zYy Y') (zYy Y') ∈ lw_all ∧ Cond.methodLink own idx (zYy Y') ∈ lw_all
section
variable {E : zE} {Y Y' : zY} {d d' : Nat} {M : zM} {lv : List (Nat × zV)} {idx pc n j : Nat} {st stk as : List zV} {Q : zO → zM → Prop}
theorem z_ldcs {i : Nat} {q : String × Nat × String × Nat} (hd : decode (zYc Y) pc = .ok (.ldc idx, 2)) (hq : zstr[i]? = some q) (ho : q.1 = (zYy Y).cls) (hi : q.2.1 = idx) (hj : q.2.2.2 = j) (kz : Z E Y d M lv (pc + 2) (vr (some (j + 4, 111, j)) :: st) Q) : Z E Y d M lv pc st Q := by
  subst hj
  refine Z.read (fun τ p l e R s m args below meth c hG H locs cells slots ls Qs hR hs kk => ?_) (fun τ H hR hs => zv_cons ?_ hs) kz
  · obtain ⟨h1, h2⟩ := hG.ok.2.2.2.2.2.2.2.2.2.2.1 i q hq
    have kk' : W p l e R s m args below meth c H locs cells slots Qs (F0 m (pc + 2) ls (.ref (zex E (q.2.2.2 + 4)) :: st.map (zcv E))) := by rw [← zrho_s E h1]; exact kk
    rw [ho, hi] at h2
    exact va_ldcS hG.1 hG.2.1 hG.own (h2.warm hG.warm) hd kk'
  · have h1 : q.2.2.2 < 5 := by
      match i, hq with
      | 0, hq => cases hq; decide
      | 1, hq => cases hq; decide
      | 2, hq => cases hq; decide
      | 3, hq => cases hq; decide
      | 4, hq => cases hq; decide
      | 5, hq => cases hq; decide
      | i + 6, hq => cases hq
    exact hR.1.2.2 _ _ (zxt_s E h1)
theorem z_ldcws {i : Nat} {q : String × Nat × String × Nat} (hd : decode (zYc Y) pc = .ok (.ldc_w idx, 3)) (hq : zstr[i]? = some q) (ho : q.1 = (zYy Y).cls) (hi : q.2.1 = idx) (hj : q.2.2.2 = j) (kz : Z E Y d M lv (pc + 3) (vr (some (j + 4, 111, j)) :: st) Q) : Z E Y d M lv pc st Q := by
  subst hj
  refine Z.read (fun τ p l e R s m args below meth c hG H locs cells slots ls Qs hR hs kk => ?_) (fun τ H hR hs => zv_cons ?_ hs) kz
  · obtain ⟨h1, h2⟩ := hG.ok.2.2.2.2.2.2.2.2.2.2.1 i q hq
    have kk' : W p l e R s m args below meth c H locs cells slots Qs (F0 m (pc + 3) ls (.ref (zex E (q.2.2.2 + 4)) :: st.map (zcv E))) := by rw [← zrho_s E h1]; exact kk
    rw [ho, hi] at h2
    have h3 := h2.warm hG.warm
    intro T hT X
    obtain ⟨t, a1, b1⟩ := kk' T hT X
    refine ⟨t, ?_, b1⟩
    obtain ⟨k, cf, i', a', hk, hcf, hcp, -, hr, hev'⟩ := Cond.stringRef_spec hG.own h3.1
    cases h3.2.symm.trans hev'
    obtain ⟨k', hk', he⟩ := X.warmed.alike.2.2 _ _ hk
    have hr' : k'.resolved[idx]? = some (some (.string (zex E (q.2.2.2 + 4)))) := by
      rcases X.warmed.entry hk hk' idx with h | ⟨h, -⟩
      · rw [h]; exact hr
      · rw [hr] at h; cases h
    have hdg : decode c.code (F0 m pc ls (st.map (zcv E))).pc = .ok (.ldc_w idx, 3) := by rw [hG.2.1]; exact hd
    jvm_step X.here [hG.1, hdg, ldc_w.wp_string (e := e) (s := T) (f := F0 m pc ls (st.map (zcv E))) X.here.top hk' (by rw [he]; exact hcf) hcp hr']
    exact a1
  · have h1 : q.2.2.2 < 5 := by
      match i, hq with
      | 0, hq => cases hq; decide
      | 1, hq => cases hq; decide
      | 2, hq => cases hq; decide
      | 3, hq => cases hq; decide
      | 4, hq => cases hq; decide
      | 5, hq => cases hq; decide
      | i + 6, hq => cases hq
    exact hR.1.2.2 _ _ (zxt_s E h1)
theorem z_compact (hd : decode (zYc Y) pc = .ok (.getstatic idx, 3)) (hl : Cond.fieldLink (zYy Y).cls idx "java/lang/String" "COMPACT_STRINGS" "Z" ∈ lw_all) (kz : Z E Y d M lv (pc + 3) (vi 1 :: st) Q) : Z E Y d M lv pc st Q := by
  refine Z.read (fun τ p l e R s m args below meth c hG H locs cells slots ls Qs hR hs kk => ?_) (fun τ H hR hs => by exact zv_cons trivial hs) kz
  obtain ⟨cf, kf, fi, f, a, cell, h1, h2, h3, h4, h5, h6, h7, h8⟩ := va_Z.moved hG.warm.alike hG.ok.2.2.2.2.2.2.2.2.2.2.2.1
  have h8' : a < zba E := Nat.not_le.mp h8
  exact W.gets hG.1 hG.2.1 hG.own (hG.words args _ hl) h1 h2 h3 h4 ((hR.1.2.1 a h8').trans h5) (fun e => by rw [e] at h6; cases h6) h7 rfl hd kk
theorem z_sval (hj : j < 5) (hd : decode (zYc Y) pc = .ok (.getfield idx, 3)) (hl : Cond.fieldLink (zYy Y).cls idx "java/lang/String" "value" "[B" ∈ lw_all) (kz : Z E Y d M lv (pc + 3) (vr (some (j + 9, 112, j)) :: st) Q) : Z E Y d M lv pc (vr (some (j + 4, 111, j)) :: st) Q := by
  refine Z.read (fun τ p l e R s m args below meth c hG H locs cells slots ls Qs hR hs kk => ?_) (fun τ H hR hs => by exact zv_cons (hR.1.2.2 _ _ (zxt_b E hj)) (zv_tl hs)) kz
  obtain ⟨cf, k, fi, f, cell, h1, h2, h3, h4, h5, h6⟩ := (hG.str.1 j hj).2.2.1
  have kk' : W p l e R s m args below meth c H locs cells slots Qs (F0 m (pc + 3) ls (.ref (zex E (j + 9)) :: st.map (zcv E))) := by rw [← zrho_b E hj]; exact kk
  have h9 : W p l e R s m args below meth c H locs cells slots Qs (F0 m pc ls (.ref (zex E (j + 4)) :: st.map (zcv E))) := W.getf hG.1 hG.2.1 hG.own (hG.words args _ hl) h1 h2 ((hR.1.2.1 _ (Nat.not_le.mp h6)).trans h3) h4 h5 rfl rfl hd kk'
  rw [← zrho_s E hj] at h9
  exact h9
theorem z_scod (hj : j < 5) (hd : decode (zYc Y) pc = .ok (.getfield idx, 3)) (hl : Cond.fieldLink (zYy Y).cls idx "java/lang/String" "coder" "B" ∈ lw_all) (kz : Z E Y d M lv (pc + 3) (vi 0 :: st) Q) : Z E Y d M lv pc (vr (some (j + 4, 111, j)) :: st) Q := by
  refine Z.read (fun τ p l e R s m args below meth c hG H locs cells slots ls Qs hR hs kk => ?_) (fun τ H hR hs => by exact zv_cons trivial (zv_tl hs)) kz
  obtain ⟨cf, k, fi, f, cell, h1, h2, h3, h4, h5, h6⟩ := (hG.str.1 j hj).2.1
  have h9 : W p l e R s m args below meth c H locs cells slots Qs (F0 m pc ls (.ref (zex E (j + 4)) :: st.map (zcv E))) := W.getf hG.1 hG.2.1 hG.own (hG.words args _ hl) h1 h2 ((hR.1.2.1 _ (Nat.not_le.mp h6)).trans h3) h4 h5 rfl rfl hd kk
  rw [← zrho_s E hj] at h9
  exact h9
theorem z_sblen (hj : j < 5) (hd : decode (zYc Y) pc = .ok (.arraylength, 1)) (kz : Z E Y d M lv (pc + 1) (vi (Int32.ofNat (zslen.getD j 0)) :: st) Q) : Z E Y d M lv pc (vr (some (j + 9, 112, j)) :: st) Q := by
  refine Z.read (fun τ p l e R s m args below meth c hG H locs cells slots ls Qs hR hs kk => ?_) (fun τ H hR hs => by exact zv_cons trivial (zv_tl hs)) kz
  obtain ⟨cell, h1, h2, h3, h4, h5, h6, h7⟩ := (hG.str.1 j hj).2.2.2
  have h9 : W p l e R s m args below meth c H locs cells slots Qs (F0 m pc ls (.ref (zex E (j + 9)) :: st.map (zcv E))) := W.alen (n := Int32.ofNat (zslen.getD j 0)) hG.1 hG.2.1 ((hR.1.2.1 _ (Nat.not_le.mp h7)).trans h1) h2 h5 rfl rfl hd kk
  rw [← zrho_b E hj] at h9
  exact h9
theorem z_sbald {i : Int32} (hj : j < 5) (hd : decode (zYc Y) pc = .ok (.baload, 1)) (hi : vp_in i (zslen.getD j 0)) (kz : Z E Y d M lv (pc + 1) (vi (zsch j i.toNatClampNeg) :: st) Q) : Z E Y d M lv pc (vi i :: vr (some (j + 9, 112, j)) :: st) Q := by
  refine Z.read (fun τ p l e R s m args below meth c hG H locs cells slots ls Qs hR hs kk => ?_) (fun τ H hR hs => by exact zv_cons trivial (zv_tl (zv_tl hs))) kz
  obtain ⟨cell, h1, h2, h3, h4, h5, h6, h7⟩ := (hG.str.1 j hj).2.2.2
  have hlt : i.toNatClampNeg < zslen.getD j 0 := zin_lt hi
  have h9 : W p l e R s m args below meth c H locs cells slots Qs (F0 m pc ls (.int i :: .ref (zex E (j + 9)) :: st.map (zcv E))) := W.bald hG.1 hG.2.1 ((hR.1.2.1 _ (Nat.not_le.mp h7)).trans h1) h2 h3 (fun q => by
      rcases q with q | q
      · exact hi (Or.inl q)
      · exact hi (Or.inr (by omega))) (h6 _ hlt) rfl rfl hd kk
  rw [← zrho_b E hj] at h9
  exact h9
/-- a call of String's own member on a String constant -/
theorem z_callW (hj : j < 5) (hd : decode (zYc Y) pc = .ok (.invokevirtual idx, 3)) (hs : zsW (zYy Y).cls idx Y' as.length) (hdd : d' + 1 ≤ d) (hw : zwords (vr (some (j + 4, 111, j)) :: as) ≤ zYl Y') (hst : (st.map zcat).sum + zYl Y' ≤ 29) (hk : as.reverse ++ vr (some (j + 4, 111, j)) :: st = stk)
    (k : Z E Y' d' M (zargs 0 (vr (some (j + 4, 111, j)) :: as)) 0 [] (zafter E Y d lv pc 3 st Q)) : Z E Y d M lv pc stk Q := by
  obtain ⟨hcd, hinst0, hno, hpar, hsel, hlink⟩ := hs
  refine Z.call hcd hdd hw hst hd (fun τ p l e R s m args below meth c hG H locs cells slots ls hR hav hsz T hT X mk hnamed => ?_) (fun τ h => by rw [← hk] at h; exact zvv_rev h) k
  obtain ⟨mk0, methk, ck, n0, n1, n2, n3, n4, n5, n6, n7, n8⟩ := hcd.spec hG.ok hG.warm
  obtain rfl : mk0 = mk := Option.some.inj (n0.symm.trans hnamed)
  obtain ⟨mkI, methI, i0, i1, i2, i3⟩ := Cond.instanceMethod_spec (hG.words args _ hinst0)
  obtain rfl : mk0 = mkI := Option.some.inj (n0.symm.trans i0)
  obtain rfl : methk = methI := Option.some.inj (n1.symm.trans i1)
  obtain ⟨cell, q1, q2, hcls, q4⟩ := (hG.str.1 j hj).1
  have hcell : T.heap[zrho E (j + 4)]? = some cell := by rw [hT, zrho_s E hj]; exact (hR.1.2.1 _ (Nat.not_le.mp q4)).trans q1
  have hobj : ∀ z, cell.vm ≠ .statics z := fun z h => by rw [h] at q2; cases q2
  have hstack : (F0 m pc ls (stk.map (zcv E))).stack = (as.map (zcv E)).reverse ++ Value.ref (zrho E (j + 4)) :: st.map (zcv E) := by
    show stk.map (zcv E) = _
    rw [← hk]; exact zmap_rev E (j + 4, 111, j) as st
  have hdg' : decode c.code (F0 m pc ls (stk.map (zcv E))).pc = .ok (.invokevirtual idx, 3) := by rw [hG.2.1]; exact hd
  obtain ⟨c2, r2, m2, g1, g2, g3, g4, kP, hkP, hkPi⟩ := Cond.selects_spec (hG.words args _ hsel)
  obtain rfl : cell.cls = c2 := Option.some.inj (hcls.symm.trans g1)
  obtain rfl : mk0 = r2 := Option.some.inj ((State.methodFound?_of_named n0 hno).symm.trans g2)
  obtain rfl : mk0 = m2 := Option.some.inj (n0.symm.trans g3)
  have hselP : selectMethod e.platform s.vm cell.cls mk0 = .method mk0 := by rw [Launch.admits_selectMethod X.admits]; exact g4
  have hlen : (as.map (zcv E)).length = methk.sig.parameters.length := by
    rw [n8] at hpar
    rw [List.length_map]
    exact (Option.some.inj hpar).symm
  obtain ⟨vm1, X1, hst1⟩ := X.invokevirtual hG.1 hG.own (hG.words args _ hlink) n0 n1 i2 hkP hkPi hno hcell hobj hselP n1 i3 hkP hkPi rfl hlen hstack hdg'
  exact ⟨vm1, X1, hst1⟩
end
theorem bJ6_length_0 : zdec cJ6_length 0 [(0, .aload_n 0, 1), (1, .getfield 9, 3), (4, .arraylength, 1), (5, .aload_n 0, 1), (6, .invokevirtual 335, 3), (9, .ishr, 1), (10, .ireturn, 1)] = true := by decide +kernel
theorem dJ6_length_0 : decode cJ6_length 0 = .ok (.aload_n 0, 1) := zdec_at bJ6_length_0 0 rfl
theorem dJ6_length_1 : decode cJ6_length 1 = .ok (.getfield 9, 3) := zdec_at bJ6_length_0 1 rfl
theorem dJ6_length_4 : decode cJ6_length 4 = .ok (.arraylength, 1) := zdec_at bJ6_length_0 2 rfl
theorem dJ6_length_5 : decode cJ6_length 5 = .ok (.aload_n 0, 1) := zdec_at bJ6_length_0 3 rfl
theorem dJ6_length_6 : decode cJ6_length 6 = .ok (.invokevirtual 335, 3) := zdec_at bJ6_length_0 4 rfl
theorem dJ6_length_9 : decode cJ6_length 9 = .ok (.ishr, 1) := zdec_at bJ6_length_0 5 rfl
theorem dJ6_length_10 : decode cJ6_length 10 = .ok (.ireturn, 1) := zdec_at bJ6_length_0 6 rfl
theorem bJ6_coder_0 : zdec cJ6_coder 0 [(0, .getstatic 38, 3), (3, .ifCond .eq 10, 3), (6, .aload_n 0, 1), (7, .getfield 15, 3), (10, .goto 4, 3), (13, .iconst 1, 1), (14, .ireturn, 1)] = true := by decide +kernel
theorem dJ6_coder_0 : decode cJ6_coder 0 = .ok (.getstatic 38, 3) := zdec_at bJ6_coder_0 0 rfl
theorem dJ6_coder_3 : decode cJ6_coder 3 = .ok (.ifCond .eq 10, 3) := zdec_at bJ6_coder_0 1 rfl
theorem dJ6_coder_6 : decode cJ6_coder 6 = .ok (.aload_n 0, 1) := zdec_at bJ6_coder_0 2 rfl
theorem dJ6_coder_7 : decode cJ6_coder 7 = .ok (.getfield 15, 3) := zdec_at bJ6_coder_0 3 rfl
theorem dJ6_coder_10 : decode cJ6_coder 10 = .ok (.goto 4, 3) := zdec_at bJ6_coder_0 4 rfl
theorem dJ6_coder_13 : decode cJ6_coder 13 = .ok (.iconst 1, 1) := zdec_at bJ6_coder_0 5 rfl
theorem dJ6_coder_14 : decode cJ6_coder 14 = .ok (.ireturn, 1) := zdec_at bJ6_coder_0 6 rfl
theorem bJ6_charAt_0 : zdec cJ6_charAt 0 [(0, .aload_n 0, 1), (1, .invokevirtual 492, 3), (4, .ifCond .eq 12, 3), (7, .aload_n 0, 1), (8, .getfield 9, 3), (11, .iload_n 1, 1), (12, .invokestatic 495, 3), (15, .ireturn, 1), (16, .aload_n 0, 1), (17, .getfield 9, 3), (20, .iload_n 1, 1), (21, .invokestatic 498, 3), (24, .ireturn, 1)] = true := by decide +kernel
theorem dJ6_charAt_0 : decode cJ6_charAt 0 = .ok (.aload_n 0, 1) := zdec_at bJ6_charAt_0 0 rfl
theorem dJ6_charAt_1 : decode cJ6_charAt 1 = .ok (.invokevirtual 492, 3) := zdec_at bJ6_charAt_0 1 rfl
theorem dJ6_charAt_4 : decode cJ6_charAt 4 = .ok (.ifCond .eq 12, 3) := zdec_at bJ6_charAt_0 2 rfl
theorem dJ6_charAt_7 : decode cJ6_charAt 7 = .ok (.aload_n 0, 1) := zdec_at bJ6_charAt_0 3 rfl
theorem dJ6_charAt_8 : decode cJ6_charAt 8 = .ok (.getfield 9, 3) := zdec_at bJ6_charAt_0 4 rfl
theorem dJ6_charAt_11 : decode cJ6_charAt 11 = .ok (.iload_n 1, 1) := zdec_at bJ6_charAt_0 5 rfl
theorem dJ6_charAt_12 : decode cJ6_charAt 12 = .ok (.invokestatic 495, 3) := zdec_at bJ6_charAt_0 6 rfl
theorem dJ6_charAt_15 : decode cJ6_charAt 15 = .ok (.ireturn, 1) := zdec_at bJ6_charAt_0 7 rfl
theorem dJ6_charAt_16 : decode cJ6_charAt 16 = .ok (.aload_n 0, 1) := zdec_at bJ6_charAt_0 8 rfl
theorem dJ6_charAt_17 : decode cJ6_charAt 17 = .ok (.getfield 9, 3) := zdec_at bJ6_charAt_0 9 rfl
theorem dJ6_charAt_20 : decode cJ6_charAt 20 = .ok (.iload_n 1, 1) := zdec_at bJ6_charAt_0 10 rfl
theorem dJ6_charAt_21 : decode cJ6_charAt 21 = .ok (.invokestatic 498, 3) := zdec_at bJ6_charAt_0 11 rfl
theorem dJ6_charAt_24 : decode cJ6_charAt 24 = .ok (.ireturn, 1) := zdec_at bJ6_charAt_0 12 rfl
theorem bJ6_isLatin1_0 : zdec cJ6_isLatin1 0 [(0, .getstatic 38, 3), (3, .ifCond .eq 14, 3), (6, .aload_n 0, 1), (7, .getfield 15, 3), (10, .ifCond .ne 7, 3), (13, .iconst 1, 1), (14, .goto 4, 3), (17, .iconst 0, 1), (18, .ireturn, 1)] = true := by decide +kernel
theorem dJ6_isLatin1_0 : decode cJ6_isLatin1 0 = .ok (.getstatic 38, 3) := zdec_at bJ6_isLatin1_0 0 rfl
theorem dJ6_isLatin1_3 : decode cJ6_isLatin1 3 = .ok (.ifCond .eq 14, 3) := zdec_at bJ6_isLatin1_0 1 rfl
theorem dJ6_isLatin1_6 : decode cJ6_isLatin1 6 = .ok (.aload_n 0, 1) := zdec_at bJ6_isLatin1_0 2 rfl
theorem dJ6_isLatin1_7 : decode cJ6_isLatin1 7 = .ok (.getfield 15, 3) := zdec_at bJ6_isLatin1_0 3 rfl
theorem dJ6_isLatin1_10 : decode cJ6_isLatin1 10 = .ok (.ifCond .ne 7, 3) := zdec_at bJ6_isLatin1_0 4 rfl
theorem dJ6_isLatin1_13 : decode cJ6_isLatin1 13 = .ok (.iconst 1, 1) := zdec_at bJ6_isLatin1_0 5 rfl
theorem dJ6_isLatin1_14 : decode cJ6_isLatin1 14 = .ok (.goto 4, 3) := zdec_at bJ6_isLatin1_0 6 rfl
theorem dJ6_isLatin1_17 : decode cJ6_isLatin1 17 = .ok (.iconst 0, 1) := zdec_at bJ6_isLatin1_0 7 rfl
theorem dJ6_isLatin1_18 : decode cJ6_isLatin1 18 = .ok (.ireturn, 1) := zdec_at bJ6_isLatin1_0 8 rfl
theorem bJ6_checkIndex_0 : zdec cJ6_checkIndex 0 [(0, .iload_n 0, 1), (1, .iload_n 1, 1), (2, .getstatic 1053, 3), (5, .invokestatic 1059, 3), (8, .pop, 1), (9, .return_, 1)] = true := by decide +kernel
theorem dJ6_checkIndex_0 : decode cJ6_checkIndex 0 = .ok (.iload_n 0, 1) := zdec_at bJ6_checkIndex_0 0 rfl
theorem dJ6_checkIndex_1 : decode cJ6_checkIndex 1 = .ok (.iload_n 1, 1) := zdec_at bJ6_checkIndex_0 1 rfl
theorem dJ6_checkIndex_2 : decode cJ6_checkIndex 2 = .ok (.getstatic 1053, 3) := zdec_at bJ6_checkIndex_0 2 rfl
theorem dJ6_checkIndex_5 : decode cJ6_checkIndex 5 = .ok (.invokestatic 1059, 3) := zdec_at bJ6_checkIndex_0 3 rfl
theorem dJ6_checkIndex_8 : decode cJ6_checkIndex 8 = .ok (.pop, 1) := zdec_at bJ6_checkIndex_0 4 rfl
theorem dJ6_checkIndex_9 : decode cJ6_checkIndex 9 = .ok (.return_, 1) := zdec_at bJ6_checkIndex_0 5 rfl
theorem bJ7_charAt_0 : zdec cJ7_charAt 0 [(0, .iload_n 1, 1), (1, .aload_n 0, 1), (2, .arraylength, 1), (3, .invokestatic 9, 3), (6, .aload_n 0, 1), (7, .iload_n 1, 1), (8, .baload, 1), (9, .sipush 255, 3), (12, .iand, 1), (13, .i2c, 1), (14, .ireturn, 1)] = true := by decide +kernel
theorem dJ7_charAt_0 : decode cJ7_charAt 0 = .ok (.iload_n 1, 1) := zdec_at bJ7_charAt_0 0 rfl
theorem dJ7_charAt_1 : decode cJ7_charAt 1 = .ok (.aload_n 0, 1) := zdec_at bJ7_charAt_0 1 rfl
theorem dJ7_charAt_2 : decode cJ7_charAt 2 = .ok (.arraylength, 1) := zdec_at bJ7_charAt_0 2 rfl
theorem dJ7_charAt_3 : decode cJ7_charAt 3 = .ok (.invokestatic 9, 3) := zdec_at bJ7_charAt_0 3 rfl
theorem dJ7_charAt_6 : decode cJ7_charAt 6 = .ok (.aload_n 0, 1) := zdec_at bJ7_charAt_0 4 rfl
theorem dJ7_charAt_7 : decode cJ7_charAt 7 = .ok (.iload_n 1, 1) := zdec_at bJ7_charAt_0 5 rfl
theorem dJ7_charAt_8 : decode cJ7_charAt 8 = .ok (.baload, 1) := zdec_at bJ7_charAt_0 6 rfl
theorem dJ7_charAt_9 : decode cJ7_charAt 9 = .ok (.sipush 255, 3) := zdec_at bJ7_charAt_0 7 rfl
theorem dJ7_charAt_12 : decode cJ7_charAt 12 = .ok (.iand, 1) := zdec_at bJ7_charAt_0 8 rfl
theorem dJ7_charAt_13 : decode cJ7_charAt 13 = .ok (.i2c, 1) := zdec_at bJ7_charAt_0 9 rfl
theorem dJ7_charAt_14 : decode cJ7_charAt 14 = .ok (.ireturn, 1) := zdec_at bJ7_charAt_0 10 rfl
theorem bJ8_checkIndex_0 : zdec cJ8_checkIndex 0 [(0, .iload_n 0, 1), (1, .ifCond .lt 8, 3), (4, .iload_n 0, 1), (5, .iload_n 1, 1), (6, .if_icmp .lt 10, 3), (9, .aload_n 2, 1), (10, .iload_n 0, 1), (11, .iload_n 1, 1), (12, .invokestatic 95, 3), (15, .athrow, 1), (16, .iload_n 0, 1), (17, .ireturn, 1)] = true := by decide +kernel
theorem dJ8_checkIndex_0 : decode cJ8_checkIndex 0 = .ok (.iload_n 0, 1) := zdec_at bJ8_checkIndex_0 0 rfl
theorem dJ8_checkIndex_1 : decode cJ8_checkIndex 1 = .ok (.ifCond .lt 8, 3) := zdec_at bJ8_checkIndex_0 1 rfl
theorem dJ8_checkIndex_4 : decode cJ8_checkIndex 4 = .ok (.iload_n 0, 1) := zdec_at bJ8_checkIndex_0 2 rfl
theorem dJ8_checkIndex_5 : decode cJ8_checkIndex 5 = .ok (.iload_n 1, 1) := zdec_at bJ8_checkIndex_0 3 rfl
theorem dJ8_checkIndex_6 : decode cJ8_checkIndex 6 = .ok (.if_icmp .lt 10, 3) := zdec_at bJ8_checkIndex_0 4 rfl
theorem dJ8_checkIndex_9 : decode cJ8_checkIndex 9 = .ok (.aload_n 2, 1) := zdec_at bJ8_checkIndex_0 5 rfl
theorem dJ8_checkIndex_10 : decode cJ8_checkIndex 10 = .ok (.iload_n 0, 1) := zdec_at bJ8_checkIndex_0 6 rfl
theorem dJ8_checkIndex_11 : decode cJ8_checkIndex 11 = .ok (.iload_n 1, 1) := zdec_at bJ8_checkIndex_0 7 rfl
theorem dJ8_checkIndex_12 : decode cJ8_checkIndex 12 = .ok (.invokestatic 95, 3) := zdec_at bJ8_checkIndex_0 8 rfl
theorem dJ8_checkIndex_15 : decode cJ8_checkIndex 15 = .ok (.athrow, 1) := zdec_at bJ8_checkIndex_0 9 rfl
theorem dJ8_checkIndex_16 : decode cJ8_checkIndex 16 = .ok (.iload_n 0, 1) := zdec_at bJ8_checkIndex_0 10 rfl
theorem dJ8_checkIndex_17 : decode cJ8_checkIndex 17 = .ok (.ireturn, 1) := zdec_at bJ8_checkIndex_0 11 rfl
section
variable {E : zE} {d : Nat} {M : zM} {Q : zO → zM → Prop} {j : Nat}
theorem zs_coder (hj : j < 5) (k : Q (.inl (some (vi 0))) M) : Z E YJ6_coder d M [(0, vr (some (j + 4, 111, j)))] 0 [] Q := by
  refine z_compact dJ6_coder_0 q773 ?_
  refine z_if_eq (tgt := 13) dJ6_coder_3 rfl (fun h => absurd h (by decide)) (fun _ => ?_)
  refine z_aload_n dJ6_coder_6 rfl rfl ?_
  refine z_scod hj dJ6_coder_7 q5276 ?_
  refine z_goto (tgt := 14) dJ6_coder_10 rfl ?_
  exact z_iret dJ6_coder_14 rfl (by decide) k
theorem zs_latin (hj : j < 5) (k : Q (.inl (some (vi 1))) M) : Z E YJ6_isLatin1 d M [(0, vr (some (j + 4, 111, j)))] 0 [] Q := by
  refine z_compact dJ6_isLatin1_0 q773 ?_
  refine z_if_eq (tgt := 17) dJ6_isLatin1_3 rfl (fun h => absurd h (by decide)) (fun _ => ?_)
  refine z_aload_n dJ6_isLatin1_6 rfl rfl ?_
  refine z_scod hj dJ6_isLatin1_7 q5276 ?_
  refine z_if_ne (tgt := 17) dJ6_isLatin1_10 rfl (fun h => absurd rfl h) (fun _ => ?_)
  refine z_iconst (v := 1) dJ6_isLatin1_13 rfl ?_
  refine z_goto (tgt := 18) dJ6_isLatin1_14 rfl ?_
  exact z_iret dJ6_isLatin1_18 rfl (by decide) k
theorem zs_length (hj : j < 5) (k : Q (.inl (some (vi (Int32.ofNat (zslen.getD j 0))))) M) : Z E YJ6_length (d + 1) M [(0, vr (some (j + 4, 111, j)))] 0 [] Q := by
  refine z_aload_n dJ6_length_0 rfl rfl ?_
  refine z_sval hj dJ6_length_1 q5275 ?_
  refine z_sblen hj dJ6_length_4 ?_
  refine z_aload_n dJ6_length_5 rfl rfl ?_
  refine z_callW (as := []) (st := [vi (Int32.ofNat (zslen.getD j 0))]) hj dJ6_length_6 (⟨kcJ6_coder, q770, nomhJ6 _ _, by decide +kernel, q771, q769⟩ : zsW "java/lang/String" 335 YJ6_coder 0) (Nat.le_refl _) (Nat.le_of_ble_eq_true rfl) (Nat.le_of_ble_eq_true rfl) rfl ?_
  refine zs_coder hj ?_
  show Z E YJ6_length (d + 1) M [(0, vr (some (j + 4, 111, j)))] 9 [vi 0, vi (Int32.ofNat (zslen.getD j 0))] Q
  refine z_ishr dJ6_length_9 ?_
  rw [(zslen_ok j hj).1]
  exact z_iret dJ6_length_10 rfl rfl k
/-- Preconditions.checkIndex of an index that is in -/
theorem zs_pre {i n : Int32} {r : Option zP} (h0 : ¬ i < 0) (h1 : i < n) (k : Q (.inl (some (vi i))) M) : Z E YJ8_checkIndex d M [(0, vi i), (1, vi n), (2, vr r)] 0 [] Q := by
  refine z_iload_n dJ8_checkIndex_0 rfl rfl ?_
  refine z_if_lt (tgt := 9) dJ8_checkIndex_1 rfl (fun h => absurd h h0) (fun _ => ?_)
  refine z_iload_n dJ8_checkIndex_4 rfl rfl ?_
  refine z_iload_n dJ8_checkIndex_5 rfl rfl ?_
  refine z_icmp_lt (tgt := 16) dJ8_checkIndex_6 rfl (fun _ => ?_) (fun h => absurd h1 h)
  refine z_iload_n dJ8_checkIndex_16 rfl rfl ?_
  exact z_iret dJ8_checkIndex_17 rfl rfl k
theorem zs_check {i n : Int32} (h0 : ¬ i < 0) (h1 : i < n) (k : Q (.inl none) M) : Z E YJ6_checkIndex (d + 1) M [(0, vi i), (1, vi n)] 0 [] Q := by
  refine z_iload_n dJ6_checkIndex_0 rfl rfl ?_
  refine z_iload_n dJ6_checkIndex_1 rfl rfl ?_
  refine z_gets (i := 3) dJ6_checkIndex_2 rfl q789 ?_
  refine z_callS (as := [vi i, vi n, vr (zsv E 14)]) (st := []) dJ6_checkIndex_5 ssJ6_1059 (Nat.le_refl _) (Nat.le_of_ble_eq_true rfl) (Nat.le_of_ble_eq_true rfl) rfl ?_
  refine zs_pre h0 h1 ?_
  show Z E YJ6_checkIndex (d + 1) M [(0, vi i), (1, vi n)] 8 [vi i] Q
  refine z_pop dJ6_checkIndex_8 rfl ?_
  exact z_vret dJ6_checkIndex_9 rfl k
theorem zs_in {i : Int32} {n : Nat} (hn : n < 2 ^ 31) (hi : vp_in i n) : ¬ i < 0 ∧ i < Int32.ofNat n := by
  have h0 : ¬ i < 0 := fun h => hi (Or.inl h)
  have h1 : i.toNatClampNeg < n := zin_lt hi
  refine ⟨h0, ?_⟩
  have h2 : i = Int32.ofNat i.toNatClampNeg := by
    have hz0 : (0 : Int) ≤ i.toInt := by
      have := Int32.not_lt.mp h0
      simpa using Int32.le_iff_toInt_le.mp this
    apply Int32.toInt.inj
    rw [Int32.toInt_ofNat_of_lt (by omega)]
    show i.toInt = ((i.toInt.toNat : Nat) : Int)
    omega
  rw [h2]
  rw [Int32.lt_iff_toInt_lt, Int32.toInt_ofNat_of_lt (by omega), Int32.toInt_ofNat_of_lt hn]
  omega
theorem zs_latchar {i : Int32} (hj : j < 5) (hi : vp_in i (zslen.getD j 0)) (k : Q (.inl (some (vi (zsch j i.toNatClampNeg)))) M) : Z E YJ7_charAt (d + 2) M [(0, vr (some (j + 9, 112, j))), (1, vi i)] 0 [] Q := by
  have hlt : i.toNatClampNeg < zslen.getD j 0 := zin_lt hi
  obtain ⟨h0, h1⟩ := zs_in (by have := (zslen_ok j hj).2.1; omega) hi
  refine z_iload_n dJ7_charAt_0 rfl rfl ?_
  refine z_aload_n dJ7_charAt_1 rfl rfl ?_
  refine z_sblen hj dJ7_charAt_2 ?_
  refine z_callS (d' := d + 1) (as := [vi i, vi (Int32.ofNat (zslen.getD j 0))]) (st := []) dJ7_charAt_3 ssJ7_9 (Nat.le_refl _) (Nat.le_of_ble_eq_true rfl) (Nat.le_of_ble_eq_true rfl) rfl ?_
  refine zs_check h0 h1 ?_
  show Z E YJ7_charAt (d + 2) M [(0, vr (some (j + 9, 112, j))), (1, vi i)] 6 [] Q
  refine z_aload_n dJ7_charAt_6 rfl rfl ?_
  refine z_iload_n dJ7_charAt_7 rfl rfl ?_
  refine z_sbald hj dJ7_charAt_8 hi ?_
  refine z_sipush (v := 255) dJ7_charAt_9 rfl ?_
  refine z_iand dJ7_charAt_12 ?_
  refine z_i2c dJ7_charAt_13 ?_
  rw [(zsch_ok j hj _ hlt).1]
  exact z_iret dJ7_charAt_14 rfl (zsch_ok j hj _ hlt).2 k
theorem zs_charAt {i : Int32} (hj : j < 5) (hi : vp_in i (zslen.getD j 0)) (k : Q (.inl (some (vi (zsch j i.toNatClampNeg)))) M) : Z E YJ6_charAt (d + 3) M [(0, vr (some (j + 4, 111, j))), (1, vi i)] 0 [] Q := by
  have hlt : i.toNatClampNeg < zslen.getD j 0 := zin_lt hi
  refine z_aload_n dJ6_charAt_0 rfl rfl ?_
  refine z_callW (d' := d + 2) (as := []) (st := []) hj dJ6_charAt_1 (⟨kcJ6_isLatin1, q780, nomhJ6 _ _, by decide +kernel, q781, q779⟩ : zsW "java/lang/String" 492 YJ6_isLatin1 0) (Nat.le_refl _) (Nat.le_of_ble_eq_true rfl) (Nat.le_of_ble_eq_true rfl) rfl ?_
  refine zs_latin hj ?_
  show Z E YJ6_charAt (d + 3) M [(0, vr (some (j + 4, 111, j))), (1, vi i)] 4 [vi 1] Q
  refine z_if_eq (tgt := 16) dJ6_charAt_4 rfl (fun h => absurd h (by decide)) (fun _ => ?_)
  refine z_aload_n dJ6_charAt_7 rfl rfl ?_
  refine z_sval hj dJ6_charAt_8 q5275 ?_
  refine z_iload_n dJ6_charAt_11 rfl rfl ?_
  refine z_callS (d' := d + 2) (as := [vr (some (j + 9, 112, j)), vi i]) (st := []) dJ6_charAt_12 ssJ6_495 (Nat.le_refl _) (Nat.le_of_ble_eq_true rfl) (Nat.le_of_ble_eq_true rfl) rfl ?_
  refine zs_latchar hj hi ?_
  show Z E YJ6_charAt (d + 3) M [(0, vr (some (j + 4, 111, j))), (1, vi i)] 15 [vi (zsch j i.toNatClampNeg)] Q
  exact z_iret dJ6_charAt_15 rfl (zsch_ok j hj _ hlt).2 k
end
section
variable {E : zE} {Y : zY} {d : Nat} {M : zM} {lv : List (Nat × zV)} {idx pc j : Nat} {st : List zV} {Q : zO → zM → Prop}
/-- length() of a String constant, in one step -/
theorem z_slen (hj : j < 5) (hd : decode (zYc Y) pc = .ok (.invokevirtual idx, 3)) (hl : Cond.methodLink (zYy Y).cls idx yJ6_length ∈ lw_all) (hdd : 4 ≤ d) (hst : (st.map zcat).sum ≤ 20) (kz : Z E Y d M lv (pc + 3) (vi (Int32.ofNat (zslen.getD j 0)) :: st) Q) : Z E Y d M lv pc (vr (some (j + 4, 111, j)) :: st) Q := by
  obtain ⟨d, rfl⟩ : ∃ d', d = d' + 4 := ⟨d - 4, by omega⟩
  refine z_callW (d' := d + 3) (as := []) (st := st) hj hd ⟨kcJ6_length, q766, nomhJ6 _ _, by decide +kernel, q767, hl⟩ (Nat.le_refl _) (Nat.le_of_ble_eq_true rfl) (by show _ + 1 ≤ 29; omega) rfl ?_
  exact zs_length hj kz
/-- charAt(i) of a String constant, in one step -/
theorem z_schar {i : Int32} (hj : j < 5) (hd : decode (zYc Y) pc = .ok (.invokevirtual idx, 3)) (hl : Cond.methodLink (zYy Y).cls idx yJ6_charAt ∈ lw_all) (hdd : 4 ≤ d) (hst : (st.map zcat).sum ≤ 20) (hi : vp_in i (zslen.getD j 0)) (kz : Z E Y d M lv (pc + 3) (vi (zsch j i.toNatClampNeg) :: st) Q) : Z E Y d M lv pc (vi i :: vr (some (j + 4, 111, j)) :: st) Q := by
  obtain ⟨d, rfl⟩ : ∃ d', d = d' + 4 := ⟨d - 4, by omega⟩
  refine z_callW (d' := d + 3) (as := [vi i]) (st := st) hj hd ⟨kcJ6_charAt, q776, nomhJ6 _ _, (by decide +kernel : (parseMethodDescriptor (zYy YJ6_charAt).desc).map (fun d => d.parameters.length) = some 1), q777, hl⟩ (Nat.le_refl _) (Nat.le_of_ble_eq_true rfl) (by show _ + 2 ≤ 29; omega) rfl ?_
  exact zs_charAt hj hi kz
end
