/-! RUN of both machines -/
/-- the machine: status, heap, frames, lines, steps, what was uncaught -/
abbrev mS : Type := Nat × mA × List mF × List Nat × Nat × Int32 × Int32
def RX (C : mI) (G : mG) (M : zM) (S : mS) : Prop :=
  sX M S.2.1 ∧ xFs M S.2.2.1 ∧ xLn M S.2.2.2.1 ∧ xG M G ∧ kX M C ∧ gi M 16 51 = nI S.1 ∧ gi M 16 52 = nI S.2.2.2.2.1 ∧ (S.1 = 3 → gi M 16 54 = S.2.2.2.2.2.1 ∧ gi M 16 55 = S.2.2.2.2.2.2)
def RT (C : mI) (G : mG) (T : zM) (S : mS) : Prop :=
  sT T S.2.1 ∧ tFs T S.2.2.1 ∧ tLn T S.2.2.2.1 ∧ tG T G ∧ kT T C ∧ gi T 97 73 = nI S.1 ∧ gi T 97 74 = nI S.2.2.2.2.1 ∧ (S.1 = 3 → gi T 97 109 = S.2.2.2.2.2.1 ∧ gi T 97 110 = S.2.2.2.2.2.2) ∧ (S.1 = 1 → gi T 97 75 = 0)
def invS (C : mI) (G : mG) (par : Nat → Nat) (W : mW) (nm : Nat) (S : mS) : Prop :=
  iA S.2.1 ∧ (S.1 = 1 → J G par S.2.1 ∧ ∃ r F, S.2.2.1 = r :: F) ∧ frsOK S.2.1 G W S.2.2.1 ∧ (S.2.2.2.1.length ≤ 100 ∧ ∀ x ∈ S.2.2.2.1, x < (aL S.2.1).length) ∧ (nm ≤ (aL S.2.1).length ∧ nm < 400) ∧ 1 ≤ S.1 ∧ S.1 ≤ 4 ∧ (S.1 = 3 → mval S.2.1 S.2.2.2.2.2.1 S.2.2.2.2.2.2)
def cRX (a k : Nat) : Prop := cXP a k ∨ a = 16 ∧ (k = 51 ∨ k = 52 ∨ k = 54 ∨ k = 55)
def cRT (a k : Nat) : Prop := cTP a k ∨ a = 97 ∧ k = 74
theorem mts_pl (c : mC) (r : mF) (p : Nat) (F : List mF) : mts c (mFpl r p :: F) = mts c (r :: F) := by
  cases h : r.tr with
  | nil => rw [mts_nil (r := r) h, mts_nil (r := mFpl r p) h]
  | cons q tr => rw [mts_cons (r := r) h, mts_cons (r := mFpl r p) h]; rfl
theorem kX_fr {M M' : zM} {C : mI} {P : Nat → Nat → Prop} (h : kX M C) (f : fr P M M') (hP : ∀ a k, P a k → a ≠ 30 ∧ a ≠ 31 ∧ a ≠ 34) : kX M' C := fun k q hq => by
  obtain ⟨a, b, c⟩ := h k q hq
  exact ⟨(f.2 30 k (fun z => (hP _ _ z).1 rfl)).1.trans a, (f.2 31 k (fun z => (hP _ _ z).2.1 rfl)).1.trans b, (f.2 34 k (fun z => (hP _ _ z).2.2 rfl)).1.trans c⟩
theorem kT_fr {T T' : zM} {C : mI} {P : Nat → Nat → Prop} (h : kT T C) (f : fr P T T') (hP : ∀ a k, P a k → a ≠ 123 ∧ a ≠ 124 ∧ a ≠ 125) : kT T' C := fun k q hq => by
  obtain ⟨a, b, c⟩ := h k q hq
  exact ⟨(f.2 123 k (fun z => (hP _ _ z).1 rfl)).1.trans a, (f.2 124 k (fun z => (hP _ _ z).2.1 rfl)).1.trans b, (f.2 125 k (fun z => (hP _ _ z).2.2 rfl)).1.trans c⟩
theorem cRX_ok {a k : Nat} (q : cRX a k) : a < 190 ∧ a ≠ 28 ∧ ¬ (a = 16 ∧ k = 8) ∧ a ≠ 30 ∧ a ≠ 31 ∧ a ≠ 34 := by
  rcases q with (q | q) | q
  · have := cX_lt q; omega
  · omega
  · omega
theorem cRT_ok {a k : Nat} (q : cRT a k) : (¬ (a = 97 ∧ k = 32) ∧ a ≠ 127 ∧ a ≠ 130 ∧ a ≠ 117 ∧ a ≠ 129 ∧ a ≠ 115 ∧ a ≠ 114) ∧ a ≠ 123 ∧ a ≠ 124 ∧ a ≠ 125 := by
  rcases q with (q | q) | q
  · unfold cT hpT stT scr fUT fFT at q; omega
  · omega
  · omega
section
variable {C : mI} {G : mG} {par : Nat → Nat} {W : mW} {nm : Nat}
/-- after a step -/
def runO (C : mI) (G : mG) (S' : mS) (k n i : Nat) (S : mS) : Prop :=
  (∀ (E : zE) (d : Nat) (M : zM) (Q : zO → zM → Prop), RX C G M S → (∀ M', RX C G M' S' → fr cRX M M' → Q (.inl (some (vi (nI k)))) M') → Z E YX1_run (d + 8) M [(0, zX16), (1, vi (nI n)), (2, vi (nI i))] 37 [] Q) ∧
  ∀ (E : zE) (d : Nat) (T : zM) (Q : zO → zM → Prop), RT C G T S → (∀ T', RT C G T' S' → fr cRT T T' → Q (.inl (some (vi (nI k)))) T') → Zm E YX8_run (d + 801) T [(0, T97), (1, vi (nI n)), (2, vi (nI i))] 43 [] Q
theorem RX_mk {M1 M' : zM} {A : mA} {F : List mF} {P : List Nat} {st stp : Nat} {us uv : Int32} (s : sX M' A) (x : xFs M' F) (p : xLn M' P) (hG : xG M1 G) (hK : kX M1 C) (f : fr cRX M1 M') (h51 : gi M' 16 51 = nI st) (h52 : gi M' 16 52 = nI stp) (h3 : st = 3 → gi M' 16 54 = us ∧ gi M' 16 55 = uv) : RX C G M' (st, A, F, P, stp, us, uv) :=
  ⟨s, x, p, xG_fr hG f (fun a k q => by have := cRX_ok q; omega), kX_fr hK f (fun a k q => by have := cRX_ok q; omega), h51, h52, h3⟩
/-- the twin's end of a step -/
theorem RT_mk {T T' : zM} {A : mA} {F : List mF} {P : List Nat} {st stp : Nat} {us uv : Int32} (ok : mFok F) (s : sT T' A) (x : tFs T' F) (p : tLn T' P) (hG : tG T G) (hK : kT T C) (f : fr cRT T T') (h73 : gi T' 97 73 = nI st) (h74 : gi T' 97 74 = nI stp) (h3 : st = 3 → gi T' 97 109 = us ∧ gi T' 97 110 = uv) (h75 : st = 1 → gi T' 97 75 = 0) : RT C G (si T' 97 74 (gi T' 97 74 + 1)) (st, A, F, P, stp + 1, us, uv) ∧ fr cRT T (si T' 97 74 (gi T' 97 74 + 1)) := by
  have f2 : fr (fun a k => a = 97 ∧ k = 74) T' (si T' 97 74 (gi T' 97 74 + 1)) := fr.si ⟨rfl, rfl⟩
  have f3 : fr cRT T (si T' 97 74 (gi T' 97 74 + 1)) := f.tr (f2.mono fun a k q => .inr q)
  refine ⟨⟨sT_fr s f2 (fun a k q => by unfold hpT stT; omega), tFs_fr x ok f2 (fun a k q => by unfold fFT; omega), ⟨(f2.2 97 107 (by omega)).1.trans p.1, p.2.1, fun k y hk => (f2.2 164 k (by omega)).1.trans (p.2.2 k y hk)⟩, tG_fr hG f3 (fun a k q => (cRT_ok q).1), kT_fr hK f3 (fun a k q => (cRT_ok q).2), (f2.2 97 73 (by omega)).1.trans h73, ?_, fun e => ⟨(f2.2 97 109 (by omega)).1.trans (h3 e).1, (f2.2 97 110 (by omega)).1.trans (h3 e).2⟩, fun e => (f2.2 97 75 (by omega)).1.trans (h75 e)⟩, f3⟩
  rw [gi_self, h74]
  exact nn_add stp 1
theorem RT_4 {T T' : zM} {A : mA} {F : List mF} {P : List Nat} {stp : Nat} {us uv : Int32} (ok : mFok F) (s : sT T' A) (x : tFs T' F) (p : tLn T' P) (hG : tG T G) (hK : kT T C) (f : fr cRT T T') (h74 : gi T' 97 74 = nI stp) : RT C G (si (si T' 97 74 (gi T' 97 74 + 1)) 97 73 4) (4, A, F, P, stp + 1, us, uv) ∧ fr cRT T (si (si T' 97 74 (gi T' 97 74 + 1)) 97 73 4) := by
  have f2 : fr (fun a k => a = 97 ∧ (k = 74 ∨ k = 73)) T' (si (si T' 97 74 (gi T' 97 74 + 1)) 97 73 4) := (fr.si ⟨rfl, .inl rfl⟩).tr (fr.si ⟨rfl, .inr rfl⟩)
  have f3 : fr cRT T (si (si T' 97 74 (gi T' 97 74 + 1)) 97 73 4) := f.tr (f2.mono fun a k q => by
    unfold cRT cTP cT fUT
    rcases q with ⟨e, h | h⟩
    · exact .inr ⟨e, h⟩
    · exact .inl (.inl (.inr (.inr (.inr (.inl (.inr ⟨e, .inl h⟩))))))) 
  refine ⟨⟨sT_fr s f2 (fun a k q => by unfold hpT stT; omega), tFs_fr x ok f2 (fun a k q => by unfold fFT; omega), ⟨(f2.2 97 107 (by omega)).1.trans p.1, p.2.1, fun k y hk => (f2.2 164 k (by omega)).1.trans (p.2.2 k y hk)⟩, tG_fr hG f3 (fun a k q => (cRT_ok q).1), kT_fr hK f3 (fun a k q => (cRT_ok q).2), gi_self .., ?_, fun e => absurd (show (4 : Nat) = 3 from e) (by decide), fun e => absurd (show (4 : Nat) = 1 from e) (by decide)⟩, f3⟩
  rw [gi_idx (by decide), gi_self, h74]
  exact nn_add stp 1
theorem xLn_fr {M M' : zM} {P : List Nat} {R : Nat → Nat → Prop} (h : xLn M P) (f : fr R M M') (h1 : ¬ R 16 53) (h2 : ∀ k, ¬ R 67 k) : xLn M' P :=
  ⟨(f.2 16 53 h1).1.trans h.1, h.2.1, fun k x hk => (f.2 67 k (h2 k)).1.trans (h.2.2 k x hk)⟩
theorem cTP_74 : ¬ cTP 97 74 := fun q => by
  rcases q with q | q
  · unfold cT hpT stT scr fUT fFT at q; omega
  · omega
theorem cT_74 : ¬ cT 97 74 := fun q => cTP_74 (.inl q)
theorem cXP_5 {k : Nat} (h : k = 51 ∨ k = 52) : ¬ cXP 16 k := fun q => by
  rcases q with q | q
  · have := cX_lt q; omega
  · omega
theorem mTh_pl {r : mF} {F : List mF} {p : Nat} (h : mTh (r :: F)) : mTh (mFpl r p :: F) := fun q hq => by
  rcases List.mem_cons.mp hq with e | e
  · rw [e]; exact h r List.mem_cons_self
  · exact h q (List.mem_cons_of_mem _ e)
theorem mFok_nil : mFok [] := ⟨by simp, fun q hq => by cases hq⟩
theorem frs_mFok (w : wI C G par W nm) {A : mA} {F : List mF} (h : frsOK A G W F) : mFok F := by
  cases F with
  | nil => exact mFok_nil
  | cons r F => exact (frs_ok w h).1
theorem next_pair (w : wI C G par W nm) {A : mA} {r : mF} {F : List mF} {P : List Nat} {stp : Nat} {o : mO} (hfr : frsOK A G W (r :: F)) (hP : P.length ≤ 100 ∧ ∀ x ∈ P, x < (aL A).length) (hnm : nm ≤ (aL A).length ∧ nm < 400) (oi : invO G par W A o) : ∃ S1 : mS, invS C G par W nm S1 ∧
    (∀ (M1 : zM) (d : Nat) (E : zE) (Q : zO → zM → Prop) (l1 l2 : Int32) (M : zM), gi M 16 49 = nI (F.length + 1) → gi M 16 38 = nI (mtot (r :: F)) → gi M 16 50 = nI (mtt (r :: F)) → gi M 59 F.length = nI r.pl → gX M1 A (r :: F) → xLn M1 P → xG M1 G → kX M1 C → gi M1 16 51 = 1 → gi M1 16 52 = nI (stp + 1) → (∀ M', RX C G M' S1 → fr cRX M1 M' → Z E YX1_run (d + 8) M' [(0, zX16), (1, vi l1), (2, vi l2)] 37 [] Q) → ownX (zafter E YX1_run (d + 8) (lvR M l1 l2) 96 3 [] Q) M1 r F o) ∧
    ∀ (T : zM) (d : Nat) (E : zE) (Q : zO → zM → Prop) (l1 l2 : Int32), gT T A (r :: F) → tLn T P → tG T G → kT T C → gi T 97 74 = nI stp → (∀ T', RT C G T' S1 → fr cRT T T' → Zm E YX8_run (d + 801) T' [(0, T97), (1, vi l1), (2, vi (l2 + 1))] 43 [] Q) → ownT (zma E YX8_run (d + 801) [(0, T97), (1, vi l1), (2, vi l2)] 57 3 [] Q) T r F o := by
  obtain ⟨kd0, A', F', P', s, v⟩ := o
  obtain ⟨o1, o2, o3, o4, o5, o6, o7⟩ := oi
  dsimp only at o1 o2 o3 o4 o5 o6 o7
  have lenA : nm ≤ (aL A').length ∧ nm < 400 := ⟨Nat.le_trans hnm.1 o1.len, hnm.2⟩
  have hP' : P.length ≤ 100 ∧ ∀ x ∈ P, x < (aL A').length := ⟨hP.1, fun x hx => Nat.lt_of_lt_of_le (hP.2 x hx) o1.len⟩
  have fr' : frsOK A' G W (r :: F) := ⟨hfr.1, topOK_gro o1 hfr.2.1, fun q hq => watOK_gro o1 (hfr.2.2 q hq)⟩
  obtain ⟨okO, hhO, hpl⟩ := frs_ok w fr'
  have upT : ∀ {T T' : zM}, fr cT T T' → fr cRT T T' := fun f => f.mono fun a k q => .inl (.inl q)
  have upX : ∀ {M M' : zM}, fr cX M M' → fr cRX M M' := fun f => f.mono fun a k q => .inl (.inl q)
  match kd0, o3, o4, o5, o6 with
  | 0, o3, _, _, _ =>
    obtain ⟨j', f', r', F2, eF⟩ := o3 rfl
    have okF := frs_mFok w f'
    refine ⟨(1, A', F', P', stp + 1, 0, 0), ⟨o2, fun _ => ⟨j', r', F2, eF⟩, f', o7, lenA, by show 1 ≤ 1; omega, by show 1 ≤ 4; omega, fun e => absurd (show (1 : Nat) = 3 from e) (by decide)⟩, fun M1 d E Q l1 l2 M _ _ _ _ gm hp hG hK h51 h52 cont => ⟨fun _ M' g p f => ?_, fun e => absurd (show (0 : Nat) = 1 from e) (by decide), fun e => absurd (show (0 : Nat) = 2 from e) (by decide), fun e => absurd (show (0 : Nat) = 3 from e) (by decide)⟩, fun T d E Q l1 l2 gt hp hG hK h74 cont => ⟨fun _ T' g p f => ?_, fun e => absurd (show (0 : Nat) = 1 from e) (by decide), fun e => absurd (show (0 : Nat) = 2 from e) (by decide), fun e => absurd (show (0 : Nat) = 3 from e) (by decide)⟩⟩
    · have f2 : fr cRX M1 M' := f.mono fun a k q => .inl q
      show Z E YX1_run (d + 8) M' (lvR M l1 l2) 99 [] Q
      exact rX1_run_99 M M' _ _ g.1.1 (cont M' (RX_mk g.1 g.2 p hG hK f2 ((f.2 16 51 (cXP_5 (.inl rfl))).1.trans h51) ((f.2 16 52 (cXP_5 (.inr rfl))).1.trans h52) (fun e => absurd e (by decide))) f2)
    · show Zm E YX8_run (d + 801) T' [(0, T97), (1, vi l1), (2, vi l2)] 60 [] Q
      refine sX8_run_60 T' _ _ ?_
      rw [g.2.2.1, if_pos rfl]
      obtain ⟨a, b⟩ := RT_mk (us := 0) (uv := 0) (st := 1) okF g.1 g.2.1 p hG hK (f.mono fun a k q => .inl q) g.2.2.2 ((f.2 97 74 cTP_74).1.trans h74) (fun e => absurd e (by decide)) (fun _ => g.2.2.1)
      exact cont _ a b
  | 1, _, o4, _, _ =>
    obtain ⟨j', hv⟩ := o4 rfl
    obtain ⟨ks, eks, hks, -⟩ := id hv.1
    have thr : ∀ q ∈ r :: F, ∃ L t g, tokl W g L t ∧ frOK A' G q L t g := fun q hq => by
      rcases List.mem_cons.mp hq with e | e
      · rw [e]
        obtain ⟨L, t, g, hw, h⟩ := fr'.2.1
        exact ⟨L, t, g, (w.1 _ _ _ _ hw).2.2.2.2.1, h⟩
      · obtain ⟨L, t, g, -, h0, h⟩ := fr'.2.2 q e
        exact ⟨L, t, g, h0, h⟩
    have fm : frsOK A' G W (mts (s, v, 0, 0) (r :: F)) := mts_ok hv (r :: F) (by rw [List.length_cons]; have := fr'.1; omega) thr (fun q hq => fr'.2.2 q hq)
    have uw : ∀ (M1 M' : zM) (d : Nat) (E : zE) (Q : zO → zM → Prop) (l1 l2 : Int32) (M : zM), gX M' A' (mFpl r (r.pl + 1) :: F) → gi M' 16 57 = s → gi M' 16 58 = v → (∀ M2, mts (s, v, 0, 0) (r :: F) = [] → xFs M2 [] → gi M2 16 51 = 3 → gi M2 16 54 = s → gi M2 16 55 = v → fr fUX M' M2 → Z E YX1_run (d + 8) M2 [(0, zX16), (1, vi l1), (2, vi l2)] 37 [] Q) → (∀ M2 r2 F2, mts (s, v, 0, 0) (r :: F) = r2 :: F2 → xFs M2 (r2 :: F2) → fr fFX M' M2 → Z E YX1_run (d + 8) M2 [(0, zX16), (1, vi l1), (2, vi l2)] 37 [] Q) → ZT E YX1_run (d + 8) M' (lvR M l1 l2) 96 (52, 14, 0) Q := fun M1 M' d E Q l1 l2 M g e57 e58 k1 k2 => by
      refine rX1_run_thrown M M' l1 l2 g.1.1 ?_
      refine xm_unwind (d := d + 6) (ks := ks) (v := v) (by omega) (mFpl r (r.pl + 1) :: F) M' g.1.1 g.2.1.1 g.2.1.2.2 g.2.2 (mFok_pl okO hpl) (mTh_pl hhO) (e57.trans eks) e58 (fun M2 m x a b c f => ?_) (fun M2 r2 F2 m x f => ?_)
      · show Z E YX1_run (d + 8) M2 [(0, zX16), (1, vi l1), (2, vi l2)] 108 [] Q
        rw [← eks, mts_pl] at m
        exact rX1_run_108 M2 _ _ (k1 M2 m x a (by rw [b, eks]) c f)
      · show Z E YX1_run (d + 8) M2 [(0, zX16), (1, vi l1), (2, vi l2)] 108 [] Q
        rw [← eks, mts_pl] at m
        exact rX1_run_108 M2 _ _ (k2 M2 r2 F2 m x f)
    cases em : mts (s, v, 0, 0) (r :: F) with
    | nil =>
      refine ⟨(3, A', [], P, stp + 1, s, v), ⟨o2, fun e => absurd (show (3 : Nat) = 1 from e) (by decide), trivial, hP', lenA, by show 1 ≤ 3; omega, by show 3 ≤ 4; omega, fun _ => hv⟩, fun M1 d E Q l1 l2 M _ _ _ _ gm hp hG hK h51 h52 cont => ⟨fun e => absurd (show (1 : Nat) = 0 from e) (by decide), fun _ M' g e57 e58 f => ?_, fun e => absurd (show (1 : Nat) = 2 from e) (by decide), fun e => absurd (show (1 : Nat) = 3 from e) (by decide)⟩, fun T d E Q l1 l2 gt hp hG hK h74 cont => ⟨fun e => absurd (show (1 : Nat) = 0 from e) (by decide), fun _ => ⟨fun T' m s' t' e75 e73 e1 e2 f => ?_, fun T' r2 F2 m => ?_⟩, fun e => absurd (show (1 : Nat) = 2 from e) (by decide), fun e => absurd (show (1 : Nat) = 3 from e) (by decide)⟩⟩
      · show ZT E YX1_run (d + 8) M' (lvR M l1 l2) 96 (52, 14, 0) Q
        refine uw M1 M' d E Q l1 l2 M g e57 e58 (fun M2 m x a b c fu => ?_) (fun M2 r2 F2 m => by rw [em] at m; cases m)
        have f2 : fr cRX M1 M2 := (upX f).tr (fu.mono fun a k q => by
          unfold cRX cXP cX
          rcases q with q | q
          · exact .inl (.inl (.inr (.inr (.inr (.inl (.inl q))))))
          · exact .inr (by omega))
        refine cont M2 (RX_mk (sX_cg g.1 fu (fun a k q => .inr q)) x (xLn_fr (xLn_cX hp f) fu (by unfold fUX fFX; omega) (fun k => by unfold fUX fFX; omega)) hG hK f2 a ?_ (fun _ => ⟨b, c⟩)) f2
        exact (fu.2 16 52 (by unfold fUX fFX; omega)).1.trans ((f.2 16 52 (fun z => by have := cX_lt z; omega)).1.trans h52)
      · show Zm E YX8_run (d + 801) T' [(0, T97), (1, vi l1), (2, vi l2)] 60 [] Q
        refine sX8_run_60 T' _ _ ?_
        rw [e75, if_pos rfl]
        obtain ⟨a, b⟩ := RT_mk (us := s) (uv := v) (st := 3) mFok_nil s' t' (tLn_cT hp f) hG hK (upT f) e73 ((f.2 97 74 cT_74).1.trans h74) (fun _ => ⟨e1, e2⟩) (fun e => absurd e (by decide))
        exact cont _ a b
      · exact absurd (em.symm.trans m) (by simp)
    | cons r2 F2 =>
      rw [em] at fm
      obtain ⟨okm, -, -⟩ := frs_ok w fm
      refine ⟨(1, A', r2 :: F2, P, stp + 1, 0, 0), ⟨o2, fun _ => ⟨j', r2, F2, rfl⟩, fm, hP', lenA, by show 1 ≤ 1; omega, by show 1 ≤ 4; omega, fun e => absurd (show (1 : Nat) = 3 from e) (by decide)⟩, fun M1 d E Q l1 l2 M _ _ _ _ gm hp hG hK h51 h52 cont => ⟨fun e => absurd (show (1 : Nat) = 0 from e) (by decide), fun _ M' g e57 e58 f => ?_, fun e => absurd (show (1 : Nat) = 2 from e) (by decide), fun e => absurd (show (1 : Nat) = 3 from e) (by decide)⟩, fun T d E Q l1 l2 gt hp hG hK h74 cont => ⟨fun e => absurd (show (1 : Nat) = 0 from e) (by decide), fun _ => ⟨fun T' m => ?_, fun T' r3 F3 m g f => ?_⟩, fun e => absurd (show (1 : Nat) = 2 from e) (by decide), fun e => absurd (show (1 : Nat) = 3 from e) (by decide)⟩⟩
      · show ZT E YX1_run (d + 8) M' (lvR M l1 l2) 96 (52, 14, 0) Q
        refine uw M1 M' d E Q l1 l2 M g e57 e58 (fun M2 m => by rw [em] at m; cases m) (fun M2 r3 F3 m x fu => ?_)
        rw [em] at m
        obtain ⟨e1, e2⟩ := List.cons.inj m
        subst e1 e2
        have f2 : fr cRX M1 M2 := (upX f).tr (upX fu.cX3)
        have f3 : fr cX M1 M2 := f.tr fu.cX3
        refine cont M2 (RX_mk (sX_cg g.1 fu (fun a k q => .inr (.inl q))) x (xLn_cX hp f3) hG hK f2 ?_ ?_ (fun e => absurd e (by decide))) f2
        · exact (f3.2 16 51 (fun z => by have := cX_lt z; omega)).1.trans h51
        · exact (f3.2 16 52 (fun z => by have := cX_lt z; omega)).1.trans h52
      · exact absurd (em.symm.trans m) (by simp)
      · have m' : r2 :: F2 = r3 :: F3 := em.symm.trans m
        obtain ⟨e1, e2⟩ := List.cons.inj m'
        subst e1 e2
        show Zm E YX8_run (d + 801) T' [(0, T97), (1, vi l1), (2, vi l2)] 60 [] Q
        refine sX8_run_60 T' _ _ ?_
        rw [g.2.2.1, if_pos rfl]
        obtain ⟨a, b⟩ := RT_mk (us := 0) (uv := 0) (st := 1) okm g.1 g.2.1 (tLn_cT hp f) hG hK (upT f) g.2.2.2 ((f.2 97 74 cT_74).1.trans h74) (fun e => absurd e (by decide)) (fun _ => g.2.2.1)
        exact cont _ a b
  | 2, _, _, _, _ =>
    refine ⟨(4, A', r :: F, P, stp + 1, 0, 0), ⟨o2, fun e => absurd (show (4 : Nat) = 1 from e) (by decide), fr', hP', lenA, by show 1 ≤ 4; omega, by show 4 ≤ 4; omega, fun e => absurd (show (4 : Nat) = 3 from e) (by decide)⟩, fun M1 d E Q l1 l2 M m49 m38 m50 m59 gm hp hG hK h51 h52 cont => ⟨fun e => absurd (show (2 : Nat) = 0 from e) (by decide), fun e => absurd (show (2 : Nat) = 1 from e) (by decide), fun _ M' g f => ?_, fun e => absurd (show (2 : Nat) = 3 from e) (by decide)⟩, fun T d E Q l1 l2 gt hp hG hK h74 cont => ⟨fun e => absurd (show (2 : Nat) = 0 from e) (by decide), fun e => absurd (show (2 : Nat) = 1 from e) (by decide), fun _ T' x f => ?_, fun e => absurd (show (2 : Nat) = 3 from e) (by decide)⟩⟩
    · show ZT E YX1_run (d + 8) M' (lvR M l1 l2) 96 (51, 13, 0) Q
      refine rX1_run_noRoom M M' l1 l2 g.1.1 ?_
      have hl := fr'.1
      have e491 : nI (F.length + 1) - 1 = nI F.length := nn_sub (a := F.length + 1) (b := 1) (by omega)
      rw [m49, m38, m50, e491, nn_cl (n := F.length) (by omega), m59, nn_nss (by omega)]
      refine ⟨by rw [nn_in (by omega)]; omega, ?_⟩
      have f5 : fr (fun a k => a = 16 ∧ k = 51) M' (si M' 16 51 4) := fr.si ⟨rfl, rfl⟩
      have okp := mFok_pl okO hpl
      have s5 := sX_cg g.1 f5 (fun a k q => .inr (.inr (by omega)))
      have x5 : xFs (si M' 16 51 4) (mFpl r (r.pl + 1) :: F) := xFs_fr g.2 okp f5 (fun a k q => by unfold fFX; omega)
      have i49 : si (si M' 16 51 4) 16 49 (nI (F.length + 1)) = si M' 16 51 4 := by
        rw [show nI (F.length + 1) = gi (si M' 16 51 4) 16 49 from x5.1.1.symm]; exact si_id ..
      have i38 : si (si M' 16 51 4) 16 38 (nI (mtot (r :: F))) = si M' 16 51 4 := by
        rw [show nI (mtot (r :: F)) = gi (si M' 16 51 4) 16 38 from x5.1.2.1.symm]; exact si_id ..
      have i50 : si (si M' 16 51 4) 16 50 (nI (mtt (r :: F))) = si M' 16 51 4 := by
        rw [show nI (mtt (r :: F)) = gi (si M' 16 51 4) 16 50 from x5.1.2.2.symm]; exact si_id ..
      rw [i49, i38, i50]
      have x6 := xFs_pl x5 (mFok_tl okO) r.pl
      have f6 : fr fFX (si M' 16 51 4) (si (si M' 16 51 4) 59 F.length (nI r.pl)) := fr.si (fFX_i (by omega))
      have f7 : fr cRX M1 (si (si M' 16 51 4) 59 F.length (nI r.pl)) := ((upX f).tr (f5.mono fun a k q => .inr (by omega))).tr (upX f6.cX3)
      have p6 : xLn (si (si M' 16 51 4) 59 F.length (nI r.pl)) P := xLn_fr (xLn_fr (xLn_cX hp f) f5 (by omega) (fun k => by omega)) f6 (by unfold fFX; omega) (fun k => by unfold fFX; omega)
      refine cont _ (RX_mk (sX_cg s5 f6 (fun a k q => .inr (.inl q))) x6 p6 hG hK f7 ?_ ?_ (fun e => absurd e (by decide))) f7
      · rw [gi_oth (by decide)]; exact gi_self ..
      · rw [gi_oth (by decide), gi_idx (by decide)]
        exact (f.2 16 52 (fun z => by have := cX_lt z; omega)).1.trans h52
    · show Zm E YX8_run (d + 801) T' [(0, T97), (1, vi l1), (2, vi l2)] 60 [] Q
      refine sX8_run_60 T' _ _ ?_
      rw [x.2.2.1, if_neg (by decide)]
      obtain ⟨a, b⟩ := RT_4 (us := 0) (uv := 0) okO x.1 x.2.1 (tLn_cT hp f) hG hK (upT f) ((f.2 97 74 cT_74).1.trans h74)
      exact cont _ a b
  | 3, _, _, o5, _ =>
    refine ⟨(2, A', [], P, stp + 1, 0, 0), ⟨o2, fun e => absurd (show (2 : Nat) = 1 from e) (by decide), trivial, hP', lenA, by show 1 ≤ 2; omega, by show 2 ≤ 4; omega, fun e => absurd (show (2 : Nat) = 3 from e) (by decide)⟩, fun M1 d E Q l1 l2 M _ _ _ _ gm hp hG hK h51 h52 cont => ⟨fun e => absurd (show (3 : Nat) = 0 from e) (by decide), fun e => absurd (show (3 : Nat) = 1 from e) (by decide), fun e => absurd (show (3 : Nat) = 2 from e) (by decide), fun _ M' s' x' e51 f => ?_⟩, fun T d E Q l1 l2 gt hp hG hK h74 cont => ⟨fun e => absurd (show (3 : Nat) = 0 from e) (by decide), fun e => absurd (show (3 : Nat) = 1 from e) (by decide), fun e => absurd (show (3 : Nat) = 2 from e) (by decide), fun _ T' s' t' e75 e73 f => ?_⟩⟩
    · have f2 : fr cRX M1 M' := f.mono fun a k q => by
        rcases q with q | q
        · exact .inl (.inl q)
        · exact .inr (by omega)
      have n53 : ¬ cXr 16 53 := fun z => by
        rcases z with z | z
        · have := cX_lt z; omega
        · omega
      have n67 : ∀ k, ¬ cXr 67 k := fun k z => by
        rcases z with z | z
        · have := cX_lt z; omega
        · omega
      show Z E YX1_run (d + 8) M' (lvR M l1 l2) 99 [] Q
      refine rX1_run_99 M M' _ _ s'.1 (cont M' (RX_mk s' x' (xLn_fr hp f n53 n67) hG hK f2 e51 ?_ (fun e => absurd e (by decide))) f2)
      refine (f.2 16 52 (fun z => ?_)).1.trans h52
      rcases z with z | z
      · have := cX_lt z; omega
      · omega
    · show Zm E YX8_run (d + 801) T' [(0, T97), (1, vi l1), (2, vi l2)] 60 [] Q
      refine sX8_run_60 T' _ _ ?_
      rw [e75, if_pos rfl]
      obtain ⟨a, b⟩ := RT_mk (us := 0) (uv := 0) (st := 2) mFok_nil s' t' (tLn_cT hp f) hG hK (upT f) e73 ((f.2 97 74 cT_74).1.trans h74) (fun e => absurd e (by decide)) (fun e => absurd e (by decide))
      exact cont _ a b
  | k + 4, _, _, _, o6 => exact absurd o6 (by omega)
theorem run_pair (w : wI C G par W nm) : ∀ (m n i : Nat) (S : mS), n - i = m → i ≤ n → n ≤ 2000 → invS C G par W nm S → ∃ k S', invS C G par W nm S' ∧ k ≤ n ∧ runO C G S' k n i S
  | m, n, i, S, hm, hin, hn, hi => by
    by_cases hend : m = 0 ∨ ¬ S.1 = 1
    · -- nothing more
      refine ⟨i, S, hi, hin, fun E d M Q hM hQ => ?_, fun E d T Q hT hQ => ?_⟩
      · refine rX1_run_37 M _ _ hM.1.1 ?_
        by_cases h0 : n ≤ i
        · rw [if_pos (by rw [nn_le (by omega) (by omega)]; exact h0)]; exact hQ M hM fr.rf
        · rw [if_neg (by rw [nn_le (by omega) (by omega)]; exact h0)]
          have s1 : ¬ S.1 = 1 := hend.resolve_left (by omega)
          have := hi.2.2.2.2.2.2.1
          rw [if_neg (by rw [hM.2.2.2.2.2.1, nn_eql (by omega) (by omega)]; exact s1)]
          exact hQ M hM fr.rf
      · refine sX8_run_43 T _ _ ?_
        by_cases h0 : n ≤ i
        · rw [if_pos (by rw [nn_le (by omega) (by omega)]; exact h0)]; exact hQ T hT fr.rf
        · rw [if_neg (by rw [nn_le (by omega) (by omega)]; exact h0)]
          have s1 : ¬ S.1 = 1 := hend.resolve_left (by omega)
          have := hi.2.2.2.2.2.2.1
          rw [if_neg (by rw [hT.2.2.2.2.2.1, nn_eql (by omega) (by omega)]; exact s1)]
          exact hQ T hT fr.rf
    · have m0 : ¬ m = 0 := fun z => hend (.inl z)
      have s1 : S.1 = 1 := Classical.byContradiction fun z => hend (.inr z)
      obtain ⟨st, A, F0, P, stp, us, uv⟩ := S
      dsimp only at s1
      subst s1
      obtain ⟨i1, i2, i3, i4, i5, -, -, -⟩ := id hi
      obtain ⟨j, r, F, eF⟩ := i2 rfl
      dsimp only at eF i1 i3 i4 i5 j
      subst eF
      obtain ⟨ok, hh, hpl⟩ := frs_ok w i3
      obtain ⟨o, oi, oX, oT⟩ := step_pair (P := P) j i5 i4 w i3
      obtain ⟨S1, j1, nX, nT'⟩ := next_pair (stp := stp) w i3 i4 i5 oi
      obtain ⟨k, S', h1, h2, h3, h4⟩ := run_pair w (m - 1) n (i + 1) S1 (by omega) (by omega) hn j1
      refine ⟨k, S', h1, h2, fun E d M Q hM hQ => ?_, fun E d T Q hT hQ => ?_⟩
      · obtain ⟨hs, hx, hp, hG, hK, h51, h52, -⟩ := id hM
        dsimp only at hs hx hp h51 h52
        obtain ⟨n1, n2, n3, n4⟩ := xFs_nums hx
        obtain ⟨g0, g1, -⟩ := mFok_hd ok
        refine rX1_run_37 M _ _ hM.1.1 ?_
        rw [if_neg (by rw [nn_le (by omega) (by omega)]; omega), if_pos (show gi M 16 51 = 1 from h51), n1, nn_cl (n := F.length) (by omega), n2, h52, show nI stp + 1 = nI (stp + 1) from nn_add stp 1, show nI i + 1 = nI (i + 1) from nn_add i 1]
        refine ⟨by rw [nn_in (by omega)]; omega, ?_⟩
        have f1 : fr (fun a k => a = 16 ∧ k = 52) M (si M 16 52 (nI (stp + 1))) := fr.si ⟨rfl, rfl⟩
        have s1 : sX (si M 16 52 (nI (stp + 1))) A := sX_fr hs f1 (fun a k q => by
          unfold hpX
          refine ⟨by omega, by omega, by omega, by omega, by omega, fun e z hz => ?_⟩
          have c1 := cwl_ok z hz
          have c2 := cwl_num z hz
          omega)
        have x1 : xFs (si M 16 52 (nI (stp + 1))) (r :: F) := xFs_fr hx ok f1 (fun a k q => by unfold fFX; omega)
        have p1 := xLn_fr hp f1 (by omega) (fun k => by omega)
        have G1 := xG_fr hG f1 (fun a k q => by omega)
        have K1 := kX_fr hK f1 (fun a k q => by omega)
        refine oX E d _ _ ⟨s1, x1⟩ G1 p1 K1 (nX _ d E Q _ _ M hx.1.1 hx.1.2.1 hx.1.2.2 n2 ⟨s1, x1⟩ p1 G1 K1 ((gi_idx (by decide)).trans h51) (gi_self ..) (fun M' hM' f' => ?_))
        exact h3 E d M' Q hM' (fun M2 hM2 f2 => hQ M2 hM2 (((f1.mono fun a k q => .inr (by omega)).tr f').tr f2))
      · obtain ⟨hs, hx, hp, hG, hK, h73, h74, -, h75⟩ := id hT
        dsimp only at hs hx hp h73 h74 h75
        have g : gT T A (r :: F) := ⟨hs, hx, h75 rfl, h73⟩
        refine sX8_run_43 T _ _ ?_
        rw [if_neg (by rw [nn_le (by omega) (by omega)]; omega), if_pos (show gi T 97 73 = 1 from h73)]
        refine oT E d T _ g hG hp hK (nT' T d E Q _ _ g hp hG hK h74 (fun T' hT' f' => ?_))
        rw [show nI i + 1 = nI (i + 1) from nn_add i 1]
        exact h4 E d T' Q hT' (fun T2 hT2 f2 => hQ T2 hT2 (f'.tr f2))
  termination_by m => m
  decreasing_by omega
end
