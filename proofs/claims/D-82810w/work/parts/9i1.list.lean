/-! LISTS: what grows, and java.util.ArrayList -/
/-- cells that were there change where P says alone; new ones may come -/
def fg (P : Nat → Nat → Prop) (M M' : zM) : Prop := (zsz M ≤ zsz M' ∧ zsu M ≤ zsu M') ∧ ∀ a k, a < zsz M → ¬ P a k → gi M' a k = gi M a k ∧ gl M' a k = gl M a k ∧ gr M' a k = gr M a k
theorem fg.rf {P : Nat → Nat → Prop} {M : zM} : fg P M M := ⟨⟨Nat.le_refl _, Nat.le_refl _⟩, fun _ _ _ _ => ⟨rfl, rfl, rfl⟩⟩
theorem fg.tr {P : Nat → Nat → Prop} {M M' M'' : zM} (h : fg P M M') (h' : fg P M' M'') : fg P M M'' :=
  ⟨⟨Nat.le_trans h.1.1 h'.1.1, Nat.le_trans h.1.2 h'.1.2⟩, fun a k ha q => by
    obtain ⟨a1, a2, a3⟩ := h.2 a k ha q
    obtain ⟨b1, b2, b3⟩ := h'.2 a k (Nat.lt_of_lt_of_le ha h.1.1) q
    exact ⟨b1.trans a1, b2.trans a2, b3.trans a3⟩⟩
theorem fg.mono {P P' : Nat → Nat → Prop} {M M' : zM} (h : fg P M M') (hp : ∀ a k, a < zsz M → P a k → P' a k) : fg P' M M' := ⟨h.1, fun a k ha q => h.2 a k ha fun z => q (hp a k ha z)⟩
theorem fr.fg {P : Nat → Nat → Prop} {M M' : zM} (h : fr P M M') : fg P M M' := ⟨⟨Nat.le_of_eq h.1.1.symm, Nat.le_of_eq h.1.2.symm⟩, fun a k _ q => h.2 a k q⟩
theorem fg.zn {P : Nat → Nat → Prop} {M : zM} {n : Nat} : fg P M (zn M n) := ⟨⟨Nat.le_succ _, Nat.le_add_right _ _⟩, fun a k ha _ => by rw [gi_zn, gl_zn, gr_zn, if_neg (by omega), if_neg (by omega), if_neg (by omega)]; exact ⟨rfl, rfl, rfl⟩⟩
theorem fg.tr2 {P : Nat → Nat → Prop} {M M' M'' : zM} (h : fg P M M') (h' : fg (fun a k => P a k ∨ zsz M ≤ a) M' M'') : fg P M M'' :=
  ⟨⟨Nat.le_trans h.1.1 h'.1.1, Nat.le_trans h.1.2 h'.1.2⟩, fun a k ha q => by
    obtain ⟨a1, a2, a3⟩ := h.2 a k ha q
    obtain ⟨b1, b2, b3⟩ := h'.2 a k (Nat.lt_of_lt_of_le ha h.1.1) (fun z => z.elim q (fun z => by omega))
    exact ⟨b1.trans a1, b2.trans a2, b3.trans a3⟩⟩
theorem fg.gi {P : Nat → Nat → Prop} {M M' : zM} (h : fg P M M') {a k : Nat} (ha : a < zsz M) (q : ¬ P a k) : gi M' a k = gi M a k := (h.2 a k ha q).1
theorem fg.gr {P : Nat → Nat → Prop} {M M' : zM} (h : fg P M M') {a k : Nat} (ha : a < zsz M) (q : ¬ P a k) : gr M' a k = gr M a k := (h.2 a k ha q).2.2
/-- a list's array: its serial, its length -/
def lA (M : zM) (l : Nat) : Nat := match gr M l 1 with | some p => p.1 | none => 0
def lC (M : zM) (l : Nat) : Nat := match gr M l 1 with | some p => p.2.2 | none => 0
/-- the list l holds es -/
def xLs (M : zM) (l : Nat) (es : List (Option zP)) : Prop :=
  (16 ≤ l ∧ l < zsz M) ∧ gi M l 2 = nI es.length ∧ es.length < 100000 ∧ (∀ p, some p ∈ es → zsto 6 p.2.1) ∧
  ((gr M l 1 = some (1, 110, 0) ∧ es = []) ∨ ∃ b m, gr M l 1 = some (b, 106, m) ∧ (16 ≤ b ∧ b < zsz M ∧ b ≠ l) ∧ (es.length ≤ m ∧ 10 ≤ m ∧ (m ≤ 10 ∨ m ≤ 2 * es.length)) ∧ ∀ k, k < es.length → gr M b k = es.getD k none)
theorem xLs_fg {P : Nat → Nat → Prop} {M M' : zM} {l : Nat} {es : List (Option zP)} (h : xLs M l es) (f : fg P M M') (h1 : ∀ k, ¬ P l k) (h2 : ∀ k, lA M l < 16 ∨ ¬ P (lA M l) k) : xLs M' l es := by
  obtain ⟨a0, a1, a2, a3, a4⟩ := h
  have hl := f.1.1
  refine ⟨⟨a0.1, by omega⟩, (f.gi a0.2 (h1 2)).trans a1, a2, a3, ?_⟩
  rcases a4 with ⟨e, z⟩ | ⟨b, m, e, hb, hm, hk⟩
  · exact .inl ⟨(f.gr a0.2 (h1 1)).trans e, z⟩
  · have eA : lA M l = b := by unfold lA; rw [e]
    refine .inr ⟨b, m, (f.gr a0.2 (h1 1)).trans e, ⟨hb.1, by omega, hb.2.2⟩, hm, fun k hk' => (f.gr hb.2.1 ?_).trans (hk k hk')⟩
    rw [eA] at h2
    exact (h2 k).resolve_left (by omega)
theorem lA_fg {P : Nat → Nat → Prop} {M M' : zM} {l : Nat} (hl : l < zsz M) (f : fg P M M') (h1 : ¬ P l 1) : lA M' l = lA M l ∧ lC M' l = lC M l := by
  unfold lA lC; rw [f.gr hl h1]; exact ⟨rfl, rfl⟩
/-- what adding to a list changes -/
def lP (M : zM) (l : Nat) (a _k : Nat) : Prop := a = l ∨ a = lA M l ∧ 16 ≤ a
/-- the list's cost -/
def lK (M M' : zM) (l : Nat) : Prop := zsz M' ≤ zsz M + 1 ∧ zsu M' + 4 * lC M l ≤ zsu M + 4 * lC M' l ∧ (lA M' l = lA M l ∨ zsz M ≤ lA M' l)
theorem lC_le {M : zM} {l : Nat} {es : List (Option zP)} (h : xLs M l es) : 4 * lC M l ≤ 40 + 8 * es.length := by
  obtain ⟨-, -, -, -, h⟩ := h
  unfold lC
  rcases h with ⟨e, -⟩ | ⟨b, m, e, -, hm, -⟩
  · rw [e]; show 4 * 0 ≤ _; omega
  · rw [e]; show 4 * m ≤ _; omega
section
variable {E : zE} {d : Nat} {Q : zO → zM → Prop}
theorem l_put (M : zM) (l b m : Nat) (r1 : Option zP) (l3 : Int32) (h16 : 16 ≤ l) (hb : 16 ≤ b) (hi : vp_in l3 m) (hr : ∀ p, r1 = some p → zsto 6 p.2.1) (k : Q (.inl none) (si (sr M b l3.toNatClampNeg r1) l 2 (l3 + 1))) : Z E YJ2_add_2 (d + 1) M [(0, vr (some (l, 11, 0))), (1, vr r1), (2, vr (some (b, 106, m))), (3, vi l3)] 11 [] Q := by
  cases r1 with
  | some p => obtain ⟨p1, p2, p3⟩ := p; exact sJ2_add_2_11 M l _ _ l3 ⟨b, m, rfl, p1, p2, p3, rfl, hb, hi, hr _ rfl, h16, k⟩
  | none =>
    refine z_aload_n dJ2_add_2_11 rfl rfl ?_
    refine z_iload_n dJ2_add_2_12 rfl rfl ?_
    refine z_aload_n dJ2_add_2_13 rfl rfl ?_
    refine z_aastN rfl hb dJ2_add_2_14 hi ?_
    refine z_aload_n dJ2_add_2_15 rfl rfl ?_
    refine z_iload_n dJ2_add_2_16 rfl rfl ?_
    refine z_iconst (v := 1) dJ2_add_2_17 rfl ?_
    refine z_iadd dJ2_add_2_18 ?_
    refine z_puti h16 dJ2_add_2_19 (zfwN.w fwJ2_48_11) rfl ⟨rfl, rfl⟩ ?_
    exact z_vret dJ2_add_2_22 rfl k
theorem l_end {M M1 : zM} {l b m : Nat} {es : List (Option zP)} {x : Option zP} (hl : 16 ≤ l ∧ l < zsz M) (hn : es.length + 1 < 100000) (hes : ∀ p, some p ∈ es → zsto 6 p.2.1) (hx : ∀ p, x = some p → zsto 6 p.2.1) (er : gr M1 l 1 = some (b, 106, m)) (hb : 16 ≤ b ∧ b < zsz M1 ∧ b ≠ l) (hm : es.length + 1 ≤ m ∧ 10 ≤ m ∧ (m ≤ 10 ∨ m ≤ 2 * (es.length + 1))) (hk : ∀ k, k < es.length → gr M1 b k = es.getD k none) (hs : zsz M ≤ zsz M1) :
    xLs (si (sr M1 b es.length x) l 2 (nI (es.length + 1))) l (es ++ [x]) := by
  refine ⟨⟨hl.1, Nat.lt_of_lt_of_le hl.2 hs⟩, ?_, by rw [List.length_append]; exact hn, fun p hp => ?_, .inr ⟨b, m, ?_, hb, ?_, fun k hk' => ?_⟩⟩
  · rw [gi_self, List.length_append]; rfl
  · rcases List.mem_append.mp hp with h | h
    · exact hes p h
    · exact hx p (List.mem_singleton.mp h).symm
  · rw [gr_si, gr_sr, if_neg (Ne.symm hb.2.2)]; exact er
  · rw [List.length_append]; exact hm
  · rw [gr_si, gr_sr, if_pos rfl]
    rw [List.length_append] at hk'
    by_cases h : k = es.length
    · rw [if_pos h, h, List.getD_eq_getElem?_getD, List.getElem?_append_right (Nat.le_refl _), Nat.sub_self]; rfl
    · have : k < es.length := by simp at hk'; omega
      rw [if_neg h, hk k this, List.getD_eq_getElem?_getD, List.getD_eq_getElem?_getD, List.getElem?_append_left this]
theorem nI_shr1 {m : Nat} (h : m < 2 ^ 31) : nI m >>> ((1 : Int32) &&& 31) = nI (m / 2) := by
  apply Int32.toBitVec_inj.mp
  rw [Int32.toBitVec_shiftRight, show ((1 : Int32) &&& 31).toBitVec.smod 32 = 1#32 from by decide]
  show (BitVec.ofNat 32 m).sshiftRight' 1#32 = BitVec.ofNat 32 (m / 2)
  have hm : (BitVec.ofNat 32 m).msb = false := by
    rw [BitVec.msb_eq_false_iff_two_mul_lt, BitVec.toNat_ofNat]; omega
  rw [BitVec.sshiftRight_eq', show (1#32).toNat = 1 from rfl, BitVec.sshiftRight_eq_of_msb_false hm]
  apply BitVec.eq_of_toNat_eq
  rw [BitVec.toNat_ushiftRight, BitVec.toNat_ofNat, BitVec.toNat_ofNat, Nat.shiftRight_eq_div_pow, Nat.mod_eq_of_lt (by omega), Nat.mod_eq_of_lt (by omega)]
/-- add: one more -/
theorem l_add {M : zM} {l : Nat} {es : List (Option zP)} {x : Option zP} (h : xLs M l es) (hn : es.length + 1 < 100000) (hx : ∀ p, x = some p → zsto 6 p.2.1)
    (hQ : ∀ M', xLs M' l (es ++ [x]) → fg (lP M l) M M' → lK M M' l → Q (.inl (some (vi 1))) M') : Z E YJ2_add (d + 6) M [(0, vr (some (l, 11, 0))), (1, vr x)] 0 [] Q := by
  obtain ⟨a0, a1, a2, a3, a4⟩ := h
  have fin : ∀ M', xLs M' l (es ++ [x]) → fg (lP M l) M M' → lK M M' l → zafter E YJ2_add (d + 5 + 1) [] 20 3 [] Q (.inl none) M' := fun M' h1 h2 h3 => by
    show Z E YJ2_add (d + 5 + 1) M' [] 23 [] Q
    exact sJ2_add_23 M' (hQ M' h1 h2 h3)
  refine sJ2_add_0 M l x ⟨a0.1, ?_⟩
  have g2 : gi (si M l 0 (gi M l 0 + 1)) l 2 = nI es.length := (gi_idx (by decide)).trans a1
  have e1 : ∀ b k, gr (si M l 0 (gi M l 0 + 1)) b k = gr M b k := fun _ _ => rfl
  have f0 : fr (lP M l) M (si M l 0 (gi M l 0 + 1)) := fr.si (.inl rfl)
  have s0 : zsz (si M l 0 (gi M l 0 + 1)) = zsz M := rfl
  have u0 : zsu (si M l 0 (gi M l 0 + 1)) = zsu M := rfl
  rw [g2]
  generalize si M l 0 (gi M l 0 + 1) = M1 at *
  have i1 : nI es.length + 1 = nI (es.length + 1) := nn_add es.length 1
  rcases a4 with ⟨e, rfl⟩ | ⟨b, m, e, hb, hm, hk⟩
  · -- the first
    rw [e]
    refine iJ2e_add_2_0 M1 l x (nI 0) ?_
    rw [if_pos (show nI 0 = 0 from rfl)]
    refine sJ2_grow_0 M1 l ?_
    rw [g2]
    show Z E YJ2_grow_2 (d + 2 + 1) M1 [(0, vr (some (l, 11, 0))), (1, vi 1)] 0 [] _
    refine iJ2e_grow_2_0 M1 l 1 ⟨(e1 l 1).trans e, ⟨fun p hp => ?_, fun p hp => ?_⟩, ?_⟩
    · rw [e1, e] at hp; cases hp; exact .inl rfl
    · cases hp; exact .inl rfl
    rw [e1, e, if_pos rfl, if_neg (by decide)]
    refine ⟨⟨by decide, by decide⟩, a0.1, ?_⟩
    rw [show ((10 : Int32)).toNatClampNeg = 10 from rfl, s0]
    show Z E YJ2_grow (d + 3 + 1) (sr (zn M1 10) l 1 (some (zsz M, 106, 10))) [] 10 [vr (some (zsz M, 106, 10))] _
    refine sJ2_grow_10 _ _ ?_
    show Z E YJ2_add_2 (d + 4 + 1) (sr (zn M1 10) l 1 (some (zsz M, 106, 10))) [(0, vr (some (l, 11, 0))), (1, vr x), (3, vi (nI 0))] 10 [vr (some (zsz M, 106, 10))] _
    refine sJ2e_add_2_10 _ l x (nI 0) _ ?_
    refine l_put _ l (zsz M) 10 x (nI 0) a0.1 (by omega) (nI_in (c := 0) (N := 10) (by decide) (by decide)) hx ?_
    rw [show (nI 0).toNatClampNeg = 0 from rfl, show nI 0 + 1 = nI 1 from rfl]
    have eq : gr (sr (zn M1 10) l 1 (some (zsz M, 106, 10))) l 1 = some (zsz M, 106, 10) := by rw [gr_sr, if_pos rfl, if_pos rfl]
    have f2 : fg (lP M l) M (si (sr (sr (zn M1 10) l 1 (some (zsz M, 106, 10))) (zsz M) 0 x) l 2 (nI 1)) :=
      (((f0.fg.tr fg.zn).tr2 (fr.sr (.inl (.inl rfl))).fg).tr2 (fr.sr (.inr (Nat.le_refl _))).fg).tr2 (fr.si (.inl (.inl rfl))).fg
    have c0 : lC M l = 0 := by unfold lC; rw [e]
    have eq2 : gr (si (sr (sr (zn M1 10) l 1 (some (zsz M, 106, 10))) (zsz M) 0 x) l 2 (nI 1)) l 1 = some (zsz M, 106, 10) := by rw [gr_si, gr_sr, if_neg (by omega), eq]
    have c1 : lC (si (sr (sr (zn M1 10) l 1 (some (zsz M, 106, 10))) (zsz M) 0 x) l 2 (nI 1)) l = 10 := by unfold lC; rw [eq2]
    have c2 : lA (si (sr (sr (zn M1 10) l 1 (some (zsz M, 106, 10))) (zsz M) 0 x) l 2 (nI 1)) l = zsz M := by unfold lA; rw [eq2]
    have z1 : zsz (si (sr (sr (zn M1 10) l 1 (some (zsz M, 106, 10))) (zsz M) 0 x) l 2 (nI 1)) = zsz M + 1 := by show zsz M1 + 1 = _; rw [s0]
    have z2 : zsu (si (sr (sr (zn M1 10) l 1 (some (zsz M, 106, 10))) (zsz M) 0 x) l 2 (nI 1)) = zsu M + 10 := by show zsu M1 + 10 = _; rw [u0]
    refine fin _ (l_end (es := []) (m := 10) (b := zsz M) (M := M) a0 (by decide) a3 hx eq ⟨by omega, ?_, by omega⟩ ⟨by decide, by decide, .inl (by decide)⟩ (fun k hk => absurd hk (Nat.not_lt_zero k)) ?_) f2 ⟨?_, ?_, ?_⟩
    · show zsz M < zsz M1 + 1; omega
    · show zsz M ≤ zsz M1 + 1; omega
    · rw [z1]; exact Nat.le_refl _
    · rw [c0, c1, z2]; omega
    · rw [c2]; exact .inr (Nat.le_refl _)
  · rw [e]
    have c0 : lC M l = m := by unfold lC; rw [e]
    have A0 : lA M l = b := by unfold lA; rw [e]
    refine sJ2_add_2_0 M1 l x _ (nI es.length) ⟨b, m, rfl, ?_⟩
    by_cases hf : es.length = m
    · rw [if_pos (show nI es.length = Int32.ofNat m by rw [hf]; rfl)]
      refine sJ2_grow_0 M1 l ?_
      rw [g2, i1]
      refine iJ2_grow_2_0 M1 l (nI (es.length + 1)) ⟨b, m, (e1 l 1).trans e, ?_⟩
      have hm31 : m < 100000 := by omega
      rw [if_pos (show (0 : Int32) < Int32.ofNat m from nI_lt (a := 0) (by omega) (by omega))]
      rw [show nI (es.length + 1) - Int32.ofNat m = nI 1 from by rw [show (Int32.ofNat m) = nI m from rfl, nn_sub (by omega)]; congr 1; omega, show Int32.ofNat m >>> ((1 : Int32) &&& 31) = nI (m / 2) from nI_shr1 (by omega)]
      refine iJ10_newLength_0 M1 (nI m) (nI 1) (nI (m / 2)) ?_
      rw [if_pos (nI_lt (by omega) (by omega)), nn_add, if_neg (show ¬ nI (m + m / 2) ≤ 0 from nI_ge (a := 0) (by omega) (by omega)), if_neg (show ¬ (2147483639 : Int32) < nI (m + m / 2) from nI_nlt (a := 2147483639) (by omega) (by decide))]
      show Z E YJ2_grow_2 (d + 2 + 1) M1 [(0, vr (some (l, 11, 0)))] 30 [vi (nI (m + m / 2))] _
      refine sJ2_grow_2_30 M1 l (nI (m + m / 2)) ?_
      rw [e1, e]
      refine l_copyOf (by omega) (by omega) (by omega) (fun i p hi hp => ?_) (by omega) ?_
      · rw [e1, hk i (by omega)] at hp
        refine a3 p ?_
        rw [← hp, List.getD_eq_getElem?_getD, List.getElem?_eq_getElem (by omega)]
        exact List.getElem_mem _
      rw [s0]
      show Z E YJ2_grow_2 (d + 2 + 1) (cpr (zn M1 (m + m / 2)) b 0 (zsz M) 0 m) [] 40 [vr (some (zsz M, 106, m + m / 2)), vr (some (l, 11, 0))] _
      refine sJ2_grow_2_40 _ _ l ⟨a0.1, ?_⟩
      show Z E YJ2_grow (d + 3 + 1) _ [] 10 [vr (some (zsz M, 106, m + m / 2))] _
      refine sJ2_grow_10 _ _ ?_
      have hC : ∀ c k, c ≠ zsz M → gi (cpr (zn M1 (m + m / 2)) b 0 (zsz M) 0 m) c k = gi (zn M1 (m + m / 2)) c k ∧ gl (cpr (zn M1 (m + m / 2)) b 0 (zsz M) 0 m) c k = gl (zn M1 (m + m / 2)) c k ∧ gr (cpr (zn M1 (m + m / 2)) b 0 (zsz M) 0 m) c k = gr (zn M1 (m + m / 2)) c k := fun c k hc => ⟨rfl, rfl, by rw [gr_cpr, if_neg hc]⟩
      have hN : ∀ k, k < es.length → gr (cpr (zn M1 (m + m / 2)) b 0 (zsz M) 0 m) (zsz M) k = es.getD k none := fun k hk' => by
        rw [gr_cpr, if_pos rfl]
        unfold va_cpy
        rw [if_pos (by omega), show 0 + (k - 0) = k by omega, gr_zn, if_neg (by omega), e1, hk k hk']
      have sC : zsz (cpr (zn M1 (m + m / 2)) b 0 (zsz M) 0 m) = zsz M + 1 := by show zsz M1 + 1 = _; rw [s0]
      have uC : zsu (cpr (zn M1 (m + m / 2)) b 0 (zsz M) 0 m) = zsu M + (m + m / 2) := by show zsu M1 + _ = _; rw [u0]
      have fC : fg (lP M l) M (cpr (zn M1 (m + m / 2)) b 0 (zsz M) 0 m) := (f0.fg.tr fg.zn).tr2 ⟨⟨Nat.le_refl _, Nat.le_refl _⟩, fun c k _ q => hC c k (fun z => q (.inr (Nat.le_of_eq z.symm)))⟩
      generalize cpr (zn M1 (m + m / 2)) b 0 (zsz M) 0 m = M2 at *
      show Z E YJ2_add_2 (d + 4 + 1) (sr M2 l 1 (some (zsz M, 106, m + m / 2))) [(0, vr (some (l, 11, 0))), (1, vr x), (3, vi (nI es.length))] 10 [vr (some (zsz M, 106, m + m / 2))] _
      refine sJ2_add_2_10 _ l x (nI es.length) _ ?_
      refine l_put _ l (zsz M) (m + m / 2) x (nI es.length) a0.1 (by omega) (nI_in (by omega) (by omega)) hx ?_
      rw [nI_clamp (by omega), i1]
      have eq : gr (sr M2 l 1 (some (zsz M, 106, m + m / 2))) l 1 = some (zsz M, 106, m + m / 2) := by rw [gr_sr, if_pos rfl, if_pos rfl]
      have f2 : fg (lP M l) M (si (sr (sr M2 l 1 (some (zsz M, 106, m + m / 2))) (zsz M) es.length x) l 2 (nI (es.length + 1))) :=
        ((fC.tr2 (fr.sr (.inl (.inl rfl))).fg).tr2 (fr.sr (.inr (Nat.le_refl _))).fg).tr2 (fr.si (.inl (.inl rfl))).fg
      have eq2 : gr (si (sr (sr M2 l 1 (some (zsz M, 106, m + m / 2))) (zsz M) es.length x) l 2 (nI (es.length + 1))) l 1 = some (zsz M, 106, m + m / 2) := by rw [gr_si, gr_sr, if_neg (by omega), eq]
      have c1 : lC (si (sr (sr M2 l 1 (some (zsz M, 106, m + m / 2))) (zsz M) es.length x) l 2 (nI (es.length + 1))) l = m + m / 2 := by unfold lC; rw [eq2]
      have c2 : lA (si (sr (sr M2 l 1 (some (zsz M, 106, m + m / 2))) (zsz M) es.length x) l 2 (nI (es.length + 1))) l = zsz M := by unfold lA; rw [eq2]
      refine fin _ (l_end (m := m + m / 2) (b := zsz M) (M := M) a0 hn a3 hx eq ⟨by omega, ?_, by omega⟩ ⟨by omega, by omega, .inr (by omega)⟩ (fun k hk' => ?_) ?_) f2 ⟨?_, ?_, ?_⟩
      · show zsz M < zsz M2; omega
      · rw [gr_sr, if_neg (by omega)]; exact hN k hk'
      · show zsz M ≤ zsz M2; omega
      · show zsz M2 ≤ _; omega
      · rw [c0, c1]; show zsu M2 + _ ≤ _; omega
      · rw [c2]; exact .inr (Nat.le_refl _)
    · rw [if_neg (show ¬ nI es.length = Int32.ofNat m from fun z => hf (nI_inj (by omega) (by omega) z))]
      refine l_put _ l b m x (nI es.length) a0.1 hb.1 (nI_in (by omega) (by omega)) hx ?_
      rw [nI_clamp (by omega), i1]
      have f2 : fg (lP M l) M (si (sr M1 b es.length x) l 2 (nI (es.length + 1))) :=
        (f0.fg.tr (fr.sr (.inr ⟨A0.symm, hb.1⟩)).fg).tr (fr.si (.inl rfl)).fg
      have eq2 : gr (si (sr M1 b es.length x) l 2 (nI (es.length + 1))) l 1 = some (b, 106, m) := by rw [gr_si, gr_sr, if_neg (Ne.symm hb.2.2), e1, e]
      have c1 : lC (si (sr M1 b es.length x) l 2 (nI (es.length + 1))) l = m := by unfold lC; rw [eq2]
      have c2 : lA (si (sr M1 b es.length x) l 2 (nI (es.length + 1))) l = b := by unfold lA; rw [eq2]
      refine fin _ (l_end (M := M) a0 hn a3 hx ((e1 l 1).trans e) ⟨hb.1, by omega, hb.2.2⟩ ⟨by omega, hm.2.1, by omega⟩ (fun k hk' => (e1 b k).trans (hk k hk')) (by omega)) f2 ⟨?_, ?_, ?_⟩
      · show zsz M1 ≤ _; omega
      · rw [c0, c1]; show zsu M1 + _ ≤ _; omega
      · rw [c2, A0]; exact .inl rfl
/-- size, isEmpty, get -/
theorem l_size {M : zM} {l : Nat} {es : List (Option zP)} (h : xLs M l es) (hQ : Q (.inl (some (vi (nI es.length)))) M) : Z E YJ2_size d M [(0, vr (some (l, 11, 0)))] 0 [] Q := by
  refine sJ2_size_0 M l ?_
  rw [h.2.1]
  exact hQ
theorem l_isEmpty {M : zM} {l : Nat} {es : List (Option zP)} (h : xLs M l es) (hQ : Q (.inl (some (vi (if es = [] then 1 else 0)))) M) : Z E YJ2_isEmpty d M [(0, vr (some (l, 11, 0)))] 0 [] Q := by
  refine sJ2_isEmpty_0 M l ?_
  have h3 := h.2.2.1
  rw [h.2.1]
  cases es with
  | nil => rw [if_pos (show nI ([] : List (Option zP)).length = 0 from rfl)]; rw [if_pos rfl] at hQ; exact hQ
  | cons x r => rw [if_neg (by rw [List.length_cons] at *; rw [nn_eql (by omega) (by decide)]; simp)]; rw [if_neg (by simp)] at hQ; exact hQ
theorem l_chk {M : zM} {x y : Int32} {r : Option zP} (h0 : ¬ x < 0) (h1 : x < y) (k : Q (.inl (some (vi x))) M) : Z E YJ8_checkIndex d M [(0, vi x), (1, vi y), (2, vr r)] 0 [] Q := by
  refine z_iload_n dJ8_checkIndex_0 rfl rfl ?_
  refine z_if_lt (tgt := 9) dJ8_checkIndex_1 rfl (fun h => absurd h h0) (fun _ => ?_)
  refine z_iload_n dJ8_checkIndex_4 rfl rfl ?_
  refine z_iload_n dJ8_checkIndex_5 rfl rfl ?_
  refine z_icmp_lt (tgt := 16) dJ8_checkIndex_6 rfl (fun _ => ?_) (fun h => absurd h1 h)
  refine z_iload_n dJ8_checkIndex_16 rfl rfl ?_
  exact z_iret dJ8_checkIndex_17 rfl rfl k
theorem l_get {M : zM} {l k : Nat} {es : List (Option zP)} (h : xLs M l es) (hk : k < es.length) (hQ : Q (.inl (some (vr (es.getD k none)))) M) : Z E YJ2_get (d + 3) M [(0, vr (some (l, 11, 0))), (1, vi (nI k))] 0 [] Q := by
  obtain ⟨a0, a1, a2, a3, a4⟩ := h
  refine sJ2_get_0 M l (nI k) ?_
  rw [a1]
  refine sJ13_checkIndex_0 M _ _ ?_
  refine l_chk (nI_nlt (b := 0) (Nat.zero_le _) (by omega)) (nI_lt hk (by omega)) ?_
  show Z E YJ13_checkIndex (d + 1 + 1) M [] 6 [vi (nI k)] _
  refine sJ13_checkIndex_6 M _ ?_
  show Z E YJ2_get (d + 2 + 1) M [(0, vr (some (l, 11, 0))), (1, vi (nI k))] 8 [vi (nI k)] Q
  rcases a4 with ⟨e, rfl⟩ | ⟨b, m, e, hb, hm, hk'⟩
  · exact absurd hk (Nat.not_lt_zero k)
  refine iJ2_get_8 M l (nI k) (nI k) ⟨b, m, e, nI_in (by omega) (by omega), ?_⟩
  rw [nI_clamp (by omega), hk' k hk]
  exact hQ
end
