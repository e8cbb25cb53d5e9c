/-! THE TWIN's OWN MEMORY: T holds what the twin's object (97) and arrays (98..188) hold, and the five arrays that it may make anew (fields 61..65) under the serials 361..365, their length in cell 300 -/
/-- the serials that are the twin's in N -/
def ztr (N : zM) (a : Nat) : Prop := (97 ≤ a ∧ a ≤ 188) ∨ ∃ f n, 61 ≤ f ∧ f ≤ 65 ∧ gr N 97 f = some (a, 100, n)
/-- N holds T -/
def agr (N T : zM) : Prop :=
  (tw N ∧ ∀ a k, 97 ≤ a → a ≤ 188 → gi N a k = gi T a k ∧ gl N a k = gl T a k) ∧
    ∃ q : Nat → Nat, (∀ f, 61 ≤ f → f ≤ 65 → gr N 97 f = some (q f, 100, (gi T 300 0).toNatClampNeg) ∧ 189 < q f ∧ q f < zsz N ∧ ∀ k, gi N (q f) k = gi T (300 + f) k) ∧ ∀ f g, 61 ≤ f → f ≤ 65 → 61 ≤ g → g ≤ 65 → q f = q g → f = g
/-- nothing but the twin's cells is changed from N to B -/
def zkp (N B : zM) : Prop :=
  (∀ a, a < zsz N → ¬ ztr N a → ∀ k, gi B a k = gi N a k ∧ gl B a k = gl N a k ∧ gr B a k = gr N a k) ∧ (∀ a, ztr B a → ztr N a ∨ zsz N ≤ a) ∧ zsz N ≤ zsz B
theorem zkp.rf {N : zM} : zkp N N := ⟨fun _ _ _ _ => ⟨rfl, rfl, rfl⟩, fun _ h => .inl h, Nat.le_refl _⟩
theorem zkp.tr {N B C : zM} (h : zkp N B) (h' : zkp B C) : zkp N C := by
  refine ⟨fun a h1 h2 k => ?_, fun a h1 => ?_, Nat.le_trans h.2.2 h'.2.2⟩
  · have q1 := h.1 a h1 h2 k
    have q2 := h'.1 a (Nat.lt_of_lt_of_le h1 h.2.2) (fun q => (h.2.1 a q).elim h2 (fun z => by omega)) k
    exact ⟨q2.1.trans q1.1, q2.2.1.trans q1.2.1, q2.2.2.trans q1.2.2⟩
  · rcases h'.2.1 a h1 with q | q
    · exact h.2.1 a q
    · exact .inr (Nat.le_trans h.2.2 q)
theorem agr.gi {N T : zM} (h : agr N T) {a : Nat} (k : Nat) (h1 : 97 ≤ a) (h2 : a ≤ 188) : gi N a k = gi T a k := (h.1.2 a k h1 h2).1
theorem agr.gl {N T : zM} (h : agr N T) {a : Nat} (k : Nat) (h1 : 97 ≤ a) (h2 : a ≤ 188) : gl N a k = gl T a k := (h.1.2 a k h1 h2).2
theorem agr.si {N T : zM} (h : agr N T) {a k : Nat} {v : Int32} (h1 : 97 ≤ a) (h2 : a ≤ 188) : agr (si N a k v) (si T a k v) := by
  obtain ⟨⟨h3, h4⟩, q, h5, h6⟩ := h
  refine ⟨⟨h3, fun b j b1 b2 => ⟨?_, (h4 b j b1 b2).2⟩⟩, q, fun f f1 f2 => ?_, h6⟩
  · rw [gi_si, gi_si, (h4 b j b1 b2).1]
  · obtain ⟨g1, g2, g3, g4⟩ := h5 f f1 f2
    refine ⟨?_, g2, g3, fun k' => ?_⟩
    · rw [gr_si, gi_si, if_neg (by omega)]; exact g1
    · rw [gi_si, gi_si, if_neg (by omega), if_neg (by omega)]; exact g4 k'
theorem agr.sl {N T : zM} (h : agr N T) {a k : Nat} {v : Int64} (h1 : 97 ≤ a) (h2 : a ≤ 188) : agr (sl N a k v) (sl T a k v) := by
  obtain ⟨⟨h3, h4⟩, q, h5, h6⟩ := h
  refine ⟨⟨h3, fun b j b1 b2 => ⟨(h4 b j b1 b2).1, ?_⟩⟩, q, fun f f1 f2 => h5 f f1 f2, h6⟩
  rw [gl_sl, gl_sl, (h4 b j b1 b2).2]
theorem zkp.si {N : zM} {a k : Nat} {v : Int32} (h1 : 97 ≤ a) (h2 : a ≤ 188) : zkp N (si N a k v) :=
  ⟨fun b _ b2 j => ⟨by rw [gi_si, if_neg (fun e => b2 (.inl ⟨by omega, by omega⟩))], rfl, rfl⟩, fun _ q => .inl q, Nat.le_refl _⟩
theorem zkp.sl {N : zM} {a k : Nat} {v : Int64} (h1 : 97 ≤ a) (h2 : a ≤ 188) : zkp N (sl N a k v) :=
  ⟨fun b _ b2 j => ⟨rfl, by rw [gl_sl, if_neg (fun e => b2 (.inl ⟨by omega, by omega⟩))], rfl⟩, fun _ q => .inl q, Nat.le_refl _⟩
/-- what the twin's run from T to T' means for a whole memory N -/
def zmP (T T' N : zM) (o : zO) : zO → zM → Prop := fun o1 B => o1 = o ∧ agr B T' ∧ zkp N B ∧ zsz B + zsz T = zsz N + zsz T' ∧ zsu B + zsu T = zsu N + zsu T'
/-- THE TWIN's JUDGEMENT -/
def Zm (E : zE) (Y : zY) (d : Nat) (T : zM) (lv : List (Nat × zV)) (pc : Nat) (st : List zV) (Q : zO → zM → Prop) : Prop :=
  ∃ (o : zO) (T' : zM), zsz T ≤ zsz T' ∧ zsu T ≤ zsu T' ∧ Q o T' ∧ ∀ N, agr N T → Z E Y d N lv pc st (zmP T T' N o)
/-- behind a call of the twin -/
def zma (E : zE) (Y : zY) (d : Nat) (lv : List (Nat × zV)) (pc len : Nat) (st : List zV) (Q : zO → zM → Prop) : zO → zM → Prop
  | .inl v, M1 => Zm E Y d M1 lv (pc + len) (v.toList ++ st) Q
  | .inr _, _ => False
section
variable {E : zE} {Y Y' : zY} {d d' : Nat} {T T1 : zM} {lv lv1 lv2 : List (Nat × zV)} {idx pc pc1 pc2 : Nat} {st st1 st2 stk as : List zV} {Q : zO → zM → Prop}
theorem Zm.mono {Q' : zO → zM → Prop} (k : Zm E Y d T lv pc st Q) (h : ∀ o T', Q o T' → Q' o T') : Zm E Y d T lv pc st Q' := by
  obtain ⟨o, T', h1, h2, h3, h4⟩ := k
  exact ⟨o, T', h1, h2, h _ _ h3, h4⟩
/-- rows that leave the memory alone -/
theorem Zm.l (h : ∀ (N : zM) (Q' : zO → zM → Prop), Z E Y d N lv1 pc1 st1 Q' → Z E Y d N lv pc st Q') (k : Zm E Y d T lv1 pc1 st1 Q) : Zm E Y d T lv pc st Q := by
  obtain ⟨o, T', h1, h2, h3, h4⟩ := k
  exact ⟨o, T', h1, h2, h3, fun N hN => h N _ (h4 N hN)⟩
theorem Zm.br {c : Prop} (h : ∀ (N : zM) (Q' : zO → zM → Prop), (c → Z E Y d N lv1 pc1 st1 Q') → (¬ c → Z E Y d N lv2 pc2 st2 Q') → Z E Y d N lv pc st Q') (k1 : c → Zm E Y d T lv1 pc1 st1 Q) (k2 : ¬ c → Zm E Y d T lv2 pc2 st2 Q) : Zm E Y d T lv pc st Q := by
  by_cases hc : c
  · exact Zm.l (fun N Q' k => h N Q' (fun _ => k) (fun q => absurd hc q)) (k1 hc)
  · exact Zm.l (fun N Q' k => h N Q' (fun q => absurd q hc) (fun _ => k)) (k2 hc)
theorem Zm.brn {c : Prop} (h : ∀ (N : zM) (Q' : zO → zM → Prop), (¬ c → Z E Y d N lv1 pc1 st1 Q') → (c → Z E Y d N lv2 pc2 st2 Q') → Z E Y d N lv pc st Q') (k1 : ¬ c → Zm E Y d T lv1 pc1 st1 Q) (k2 : c → Zm E Y d T lv2 pc2 st2 Q) : Zm E Y d T lv pc st Q := by
  by_cases hc : c
  · exact Zm.l (fun N Q' k => h N Q' (fun q => absurd hc q) (fun _ => k)) (k2 hc)
  · exact Zm.l (fun N Q' k => h N Q' (fun _ => k) (fun q => absurd q hc)) (k1 hc)
/-- rows that read or write the twin's cells -/
theorem Zm.w (k : Zm E Y d T1 lv1 pc1 st1 Q) (hc : zsz T1 = zsz T ∧ zsu T1 = zsu T) (h : ∀ N, agr N T → ∃ N1, agr N1 T1 ∧ zkp N N1 ∧ (zsz N1 = zsz N ∧ zsu N1 = zsu N) ∧ ∀ Q' : zO → zM → Prop, Z E Y d N1 lv1 pc1 st1 Q' → Z E Y d N lv pc st Q') : Zm E Y d T lv pc st Q := by
  obtain ⟨o, T', h1, h2, h3, h4⟩ := k
  refine ⟨o, T', by omega, by omega, h3, fun N hN => ?_⟩
  obtain ⟨N1, g1, g2, g3, g4⟩ := h N hN
  refine g4 _ ((h4 N1 g1).mono fun o1 B q => ?_)
  obtain ⟨q1, q2, q3, q4, q5⟩ := q
  exact ⟨q1, q2, g2.tr q3, by omega, by omega⟩
theorem Zm.r (k : Zm E Y d T lv1 pc1 st1 Q) (h : ∀ N, agr N T → ∀ Q' : zO → zM → Prop, Z E Y d N lv1 pc1 st1 Q' → Z E Y d N lv pc st Q') : Zm E Y d T lv pc st Q :=
  Zm.w k ⟨rfl, rfl⟩ fun N hN => ⟨N, hN, zkp.rf, ⟨rfl, rfl⟩, h N hN⟩
theorem Zm.i {a j : Nat} {v : Int32} (h1 : 97 ≤ a) (h2 : a ≤ 188) (k : Zm E Y d (si T a j v) lv1 pc1 st1 Q) (h : ∀ (N : zM) (Q' : zO → zM → Prop), Z E Y d (si N a j v) lv1 pc1 st1 Q' → Z E Y d N lv pc st Q') : Zm E Y d T lv pc st Q :=
  Zm.w k ⟨rfl, rfl⟩ fun N hN => ⟨si N a j v, hN.si h1 h2, zkp.si h1 h2, ⟨rfl, rfl⟩, h N⟩
theorem Zm.j {a j : Nat} {v : Int64} (h1 : 97 ≤ a) (h2 : a ≤ 188) (k : Zm E Y d (sl T a j v) lv1 pc1 st1 Q) (h : ∀ (N : zM) (Q' : zO → zM → Prop), Z E Y d (sl N a j v) lv1 pc1 st1 Q' → Z E Y d N lv pc st Q') : Zm E Y d T lv pc st Q :=
  Zm.w k ⟨rfl, rfl⟩ fun N hN => ⟨sl N a j v, hN.sl h1 h2, zkp.sl h1 h2, ⟨rfl, rfl⟩, h N⟩
theorem Zm.pick (ks : List Nat) (h : ks.filterMap (fun k => lv[k]?) = lv1) (k : Zm E Y d T lv1 pc st Q) : Zm E Y d T lv pc st Q := Zm.l (fun _ _ kk => Z.pick ks h kk) k
variable {k a t n : Nat}
theorem zm_geti (hd : decode (zYc Y) pc = .ok (.getfield idx, 3)) (hf : zfs (zYy Y).cls idx t k 0) (h1 : 97 ≤ a) (h2 : a ≤ 188) (kz : Zm E Y d T lv (pc + 3) (vi (gi T a k) :: st) Q) : Zm E Y d T lv pc (vr (some (a, t, n)) :: st) Q :=
  Zm.r kz fun N hN Q' kk => z_geti hd hf (by rw [hN.gi k h1 h2]; exact kk)
theorem zm_getl (hd : decode (zYc Y) pc = .ok (.getfield idx, 3)) (hf : zfs (zYy Y).cls idx t k 1) (h1 : 97 ≤ a) (h2 : a ≤ 188) (kz : Zm E Y d T lv (pc + 3) (vl (gl T a k) :: st) Q) : Zm E Y d T lv pc (vr (some (a, t, n)) :: st) Q :=
  Zm.r kz fun N hN Q' kk => z_getl hd hf (by rw [hN.gl k h1 h2]; exact kk)
theorem zm_getr {p : zP} (i : Nat) (hd : decode (zYc Y) pc = .ok (.getfield idx, 3)) (hf : zfs (zYy Y).cls idx t k 2) (hi : twl[i]? = some (k, p)) (kz : Zm E Y d T lv (pc + 3) (vr (some p) :: st) Q) : Zm E Y d T lv pc (vr (some (97, t, n)) :: st) Q :=
  Zm.r kz fun N hN Q' kk => z_getr hd hf (tw_at hN.1.1 i hi) kk
theorem zm_puti {ty : FieldType} {x : Int32} (h1 : 97 ≤ a) (h2 : a ≤ 188) (hd : decode (zYc Y) pc = .ok (.putfield idx, 3)) (hf : zfw (zYy Y) idx t k ty) (hk : zkt ty = 0) (hx : zfit ty x) (kz : Zm E Y d (si T a k x) lv (pc + 3) st Q) : Zm E Y d T lv pc (vi x :: vr (some (a, t, n)) :: st) Q :=
  Zm.i h1 h2 kz fun N Q' kk => z_puti (by omega) hd hf hk hx kk
theorem zm_putl {x : Int64} (h1 : 97 ≤ a) (h2 : a ≤ 188) (hd : decode (zYc Y) pc = .ok (.putfield idx, 3)) (hf : zfw (zYy Y) idx t k .long) (kz : Zm E Y d (sl T a k x) lv (pc + 3) st Q) : Zm E Y d T lv pc (vl x :: vr (some (a, t, n)) :: st) Q :=
  Zm.j h1 h2 kz fun N Q' kk => z_putl (by omega) hd hf kk
theorem zm_iald {i : Int32} (hd : decode (zYc Y) pc = .ok (.iaload, 1)) (hi : vp_in i n) (h1 : 97 ≤ a) (h2 : a ≤ 188) (kz : Zm E Y d T lv (pc + 1) (vi (gi T a i.toNatClampNeg) :: st) Q) : Zm E Y d T lv pc (vi i :: vr (some (a, 100, n)) :: st) Q :=
  Zm.r kz fun N hN Q' kk => z_iald hd hi (by rw [hN.gi _ h1 h2]; exact kk)
theorem zm_bald {i : Int32} (hd : decode (zYc Y) pc = .ok (.baload, 1)) (hi : vp_in i n) (h1 : 97 ≤ a) (h2 : a ≤ 188) (kz : Zm E Y d T lv (pc + 1) (vi (gi T a i.toNatClampNeg) :: st) Q) : Zm E Y d T lv pc (vi i :: vr (some (a, 101, n)) :: st) Q :=
  Zm.r kz fun N hN Q' kk => z_bald hd hi (by rw [hN.gi _ h1 h2]; exact kk)
theorem zm_cald {i : Int32} (hd : decode (zYc Y) pc = .ok (.caload, 1)) (hi : vp_in i n) (h1 : 97 ≤ a) (h2 : a ≤ 188) (kz : Zm E Y d T lv (pc + 1) (vi (gi T a i.toNatClampNeg) :: st) Q) : Zm E Y d T lv pc (vi i :: vr (some (a, 103, n)) :: st) Q :=
  Zm.r kz fun N hN Q' kk => z_cald hd hi (by rw [hN.gi _ h1 h2]; exact kk)
theorem zm_zald {i : Int32} (hd : decode (zYc Y) pc = .ok (.baload, 1)) (hi : vp_in i n) (h1 : 97 ≤ a) (h2 : a ≤ 188) (kz : Zm E Y d T lv (pc + 1) (vi (gi T a i.toNatClampNeg) :: st) Q) : Zm E Y d T lv pc (vi i :: vr (some (a, 104, n)) :: st) Q :=
  Zm.r kz fun N hN Q' kk => z_zald hd hi (by rw [hN.gi _ h1 h2]; exact kk)
theorem zm_lald {i : Int32} (hd : decode (zYc Y) pc = .ok (.laload, 1)) (hi : vp_in i n) (h1 : 97 ≤ a) (h2 : a ≤ 188) (kz : Zm E Y d T lv (pc + 1) (vl (gl T a i.toNatClampNeg) :: st) Q) : Zm E Y d T lv pc (vi i :: vr (some (a, 105, n)) :: st) Q :=
  Zm.r kz fun N hN Q' kk => z_lald hd hi (by rw [hN.gl _ h1 h2]; exact kk)
theorem zm_iast {x i : Int32} (hd : decode (zYc Y) pc = .ok (.iastore, 1)) (hi : vp_in i n) (h1 : 97 ≤ a) (h2 : a ≤ 188) (kz : Zm E Y d (si T a i.toNatClampNeg x) lv (pc + 1) st Q) : Zm E Y d T lv pc (vi x :: vi i :: vr (some (a, 100, n)) :: st) Q :=
  Zm.i h1 h2 kz fun N Q' kk => z_iast (by omega) hd hi kk
theorem zm_bast {x i : Int32} (hd : decode (zYc Y) pc = .ok (.bastore, 1)) (hi : vp_in i n) (h1 : 97 ≤ a) (h2 : a ≤ 188) (kz : Zm E Y d (si T a i.toNatClampNeg (vp_nar .byte x)) lv (pc + 1) st Q) : Zm E Y d T lv pc (vi x :: vi i :: vr (some (a, 101, n)) :: st) Q :=
  Zm.i h1 h2 kz fun N Q' kk => z_bast (by omega) hd hi kk
theorem zm_cast {x i : Int32} (hd : decode (zYc Y) pc = .ok (.castore, 1)) (hi : vp_in i n) (h1 : 97 ≤ a) (h2 : a ≤ 188) (kz : Zm E Y d (si T a i.toNatClampNeg (vp_nar .char x)) lv (pc + 1) st Q) : Zm E Y d T lv pc (vi x :: vi i :: vr (some (a, 103, n)) :: st) Q :=
  Zm.i h1 h2 kz fun N Q' kk => z_cast (by omega) hd hi kk
theorem zm_zast {x i : Int32} (hd : decode (zYc Y) pc = .ok (.bastore, 1)) (hi : vp_in i n) (h1 : 97 ≤ a) (h2 : a ≤ 188) (kz : Zm E Y d (si T a i.toNatClampNeg (vp_nar .boolean x)) lv (pc + 1) st Q) : Zm E Y d T lv pc (vi x :: vi i :: vr (some (a, 104, n)) :: st) Q :=
  Zm.i h1 h2 kz fun N Q' kk => z_zast (by omega) hd hi kk
theorem zm_last {x : Int64} {i : Int32} (hd : decode (zYc Y) pc = .ok (.lastore, 1)) (hi : vp_in i n) (h1 : 97 ≤ a) (h2 : a ≤ 188) (kz : Zm E Y d (sl T a i.toNatClampNeg x) lv (pc + 1) st Q) : Zm E Y d T lv pc (vl x :: vi i :: vr (some (a, 105, n)) :: st) Q :=
  Zm.j h1 h2 kz fun N Q' kk => z_last (by omega) hd hi kk
theorem Zm.ret {o : zO} (hQ : Q o T) (h : ∀ (N : zM) (Q' : zO → zM → Prop), Q' o N → Z E Y d N lv pc st Q') : Zm E Y d T lv pc st Q :=
  ⟨o, T, Nat.le_refl _, Nat.le_refl _, hQ, fun N hN => h N _ ⟨rfl, hN, zkp.rf, rfl, rfl⟩⟩
theorem zm_iret {x : Int32} {ty : FieldType} (hd : decode (zYc Y) pc = .ok (.ireturn, 1)) (hr : zYr Y = some ty) (hx : narrow ty (.int x) = .int x) (hQ : Q (.inl (some (vi x))) T) : Zm E Y d T lv pc [vi x] Q :=
  Zm.ret hQ fun _ _ q => z_iret hd hr hx q
theorem zm_vret (hd : decode (zYc Y) pc = .ok (.return_, 1)) (hr : zYr Y = none) (hQ : Q (.inl none) T) : Zm E Y d T lv pc [] Q :=
  Zm.ret hQ fun _ _ q => z_vret hd hr q
theorem zm_lret {x : Int64} (hd : decode (zYc Y) pc = .ok (.lreturn, 1)) (hr : zYr Y = some .long) (hQ : Q (.inl (some (vl x))) T) : Zm E Y d T lv pc [vl x] Q :=
  Zm.ret hQ fun _ _ q => z_lret hd hr q
theorem Zm.call {av : List (Nat × zV)} {len : Nat} (k : Zm E Y' d' T av 0 [] (zma E Y d lv pc len st Q)) (h : ∀ (N : zM) (Q' : zO → zM → Prop), Z E Y' d' N av 0 [] (zafter E Y d lv pc len st Q') → Z E Y d N lv pc stk Q') : Zm E Y d T lv pc stk Q := by
  obtain ⟨o, T1, h1, h2, h3, h4⟩ := k
  cases o with
  | inr q => exact h3.elim
  | inl v =>
    obtain ⟨o2, T2, g1, g2, g3, g4⟩ := h3
    refine ⟨o2, T2, by omega, by omega, g3, fun N hN => h N _ ((h4 N hN).mono fun o1 B q => ?_)⟩
    obtain ⟨q1, q2, q3, q4, q5⟩ := q
    subst q1
    refine (g4 B q2).mono fun o3 C r => ?_
    obtain ⟨r1, r2, r3, r4, r5⟩ := r
    exact ⟨r1, r2, q3.tr r3, by omega, by omega⟩
theorem zm_callV (hd : decode (zYc Y) pc = .ok (.invokevirtual idx, 3)) (hs : zsV (zYy Y).cls idx t Y' as.length) (hdd : d' + 1 ≤ d) (hw : zwords (vr (some (a, t, n)) :: as) ≤ zYl Y') (hst : (st.map zcat).sum + zYl Y' ≤ 29) (hk : as.reverse ++ vr (some (a, t, n)) :: st = stk)
    (k : Zm E Y' d' T (zargs 0 (vr (some (a, t, n)) :: as)) 0 [] (zma E Y d lv pc 3 st Q)) : Zm E Y d T lv pc stk Q :=
  Zm.call k fun _ _ kk => z_callV hd hs hdd hw hst hk kk
theorem zm_callS (hd : decode (zYc Y) pc = .ok (.invokestatic idx, 3)) (hs : zsS (zYy Y).cls idx Y' as.length) (hdd : d' + 1 ≤ d) (hw : zwords as ≤ zYl Y') (hst : (st.map zcat).sum + zYl Y' ≤ 29) (hk : as.reverse ++ st = stk)
    (k : Zm E Y' d' T (zargs 0 as) 0 [] (zma E Y d lv pc 3 st Q)) : Zm E Y d T lv pc stk Q :=
  Zm.call k fun _ _ kk => z_callS hd hs hdd hw hst hk kk
/-- out of the twin's judgement: a run on the whole memory -/
theorem Zm.out {N : zM} (k : Zm E Y d T lv pc st Q) (hN : agr N T) : Z E Y d N lv pc st (fun o B => ∃ T', Q o T' ∧ agr B T' ∧ zkp N B ∧ zsz B + zsz T = zsz N + zsz T' ∧ zsu B + zsu T = zsu N + zsu T') := by
  obtain ⟨o, T', h1, h2, h3, h4⟩ := k
  refine (h4 N hN).mono fun o1 B q => ?_
  obtain ⟨q1, q2⟩ := q
  subst q1
  exact ⟨T', h3, q2⟩
end
