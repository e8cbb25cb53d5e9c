/-! BEGIN of the component, whole; the first state -/
section
variable {E : zE} {d : Nat} {M T T0 : zM} {Q : zO → zM → Prop} {L : List (List Int32)} {G : mG}
theorem hp_cRX {a k : Nat} (h : hpX a k) : cRX a k := .inl (.inl (.inl h))
theorem fF_cRX {a k : Nat} (h : fFX a k) : cRX a k := .inl (.inl (.inr (.inr (.inr (.inl (.inl h))))))
theorem cwl_n6 : ∀ q ∈ cwl, q.1 = 16 → q.2.1 ≠ 38 ∧ q.2.1 ≠ 49 ∧ q.2.1 ≠ 50 ∧ q.2.1 ≠ 51 ∧ q.2.1 ≠ 52 ∧ q.2.1 ≠ 53 := by decide +kernel
theorem xb_begin {q : Nat × Nat × List Nat × Int32} (hw : cw M) (h10 : ¬ gi M 16 10 = 0) (hL : mLok L) (h1 : gi M 16 1 = nI L.length) (hx : xtx (si M 17 2 (nI L.length)) L) (hG : xG M G) (wg : wG G 32768) (hg : G[0]? = some q)
    (hQ : ∀ M', sX M' (nA T0 L 32) → xFs M' [((0, -1, 0, 0, -1), q.1, [], [])] → gi M' 16 51 = 1 → gi M' 16 52 = 0 → gi M' 16 53 = 0 → fr cRX M M' → Q (.inl none) M') : Z E YX1_begin (d + 4) M [(0, vr (some (16, 0, 0)))] 0 [] Q := by
  refine sX1_begin_0 M hw ?_
  rw [if_neg h10, h1]
  have hw1 : cw (si M 17 2 (nI L.length)) := fun q hq => hw q hq
  refine sX1_firstObjects_0 _ hw1 ?_
  obtain ⟨M2, e2⟩ : ∃ M2, M2 = si (si (si (si (si M 17 2 (nI L.length)) 16 26 0) 16 27 0) 16 28 (-1)) 16 29 0 := ⟨_, rfl⟩
  have hw2 : cw M2 := by rw [e2]; exact fun q hq => hw q hq
  have fa : fr (fun a k => hpX a k ∨ a = 17 ∧ k = 2) M M2 := by
    rw [e2]
    refine ((((fr.si (.inr ⟨rfl, rfl⟩)).tr (fr.si (.inl ?_))).tr (fr.si (.inl ?_))).tr (fr.si (.inl ?_))).tr (fr.si (.inl ?_)) <;> (unfold hpX; omega)
  have fb : fr hpX (si M 17 2 (nI L.length)) M2 := by
    rw [e2]
    refine (((fr.si ?_).tr (fr.si ?_)).tr (fr.si ?_)).tr (fr.si ?_) <;> (unfold hpX; omega)
  have v2 : gi M2 16 26 = nI 0 ∧ gi M2 16 27 = 0 ∧ gi M2 16 28 = -1 ∧ gi M2 16 29 = 0 := by
    rw [e2]; simp [gi_si]; rfl
  have xkeep : ∀ {Ma Mb : zM}, fr hpX Ma Mb → xtx Ma L → xtx Mb L := fun {Ma Mb} f hx => by
    obtain ⟨x1, x2, ⟨y1, y2, y3⟩, x4⟩ := hx
    exact ⟨(f.2 17 1 (by unfold hpX; omega)).2.2.trans x1, (f.2 17 0 (by unfold hpX; omega)).2.2.trans x2, ⟨(f.2 17 2 (by unfold hpX; omega)).1.trans y1, fun k hk => (f.2 18 k (by unfold hpX; omega)).1.trans (y2 k hk), fun j hj => (f.2 19 j (by unfold hpX; omega)).1.trans (y3 j hj)⟩, x4⟩
  have goal : Z E YX1_firstObjects (d + 3) M2 [(0, vr (some (16, 0, 0))), (1, vi (nI 0))] 22 [] (zafter E YX1_begin (d + 4) [(0, vr (some (16, 0, 0)))] 27 3 [] Q) := by
    refine xb_births' 23 0 M2 rfl hw2 ⟨v2.1, fun k hk => absurd hk (by omega)⟩ (fun M3 hw3 b3 f3 => ?_)
    have k3 : ∀ k, k = 27 ∨ k = 28 ∨ k = 29 → gi M3 16 k = gi M2 16 k := fun k hk => (f3.2 16 k (by omega)).1
    have f3' : fr hpX M2 M3 := f3.mono fun a k q => by unfold hpX; omega
    refine xb_sets (T0 := T0) (xb_sX hw3 b3 ((k3 27 (by omega)).trans v2.2.1) ((k3 28 (by omega)).trans v2.2.2.1) ((k3 29 (by omega)).trans v2.2.2.2) (xkeep f3' (xkeep fb hx))) hL (fun M4 s4 f4 => ?_)
    have s4' : sX M4 (nA T0 L 32) := sX_cells s4 (fun a k => by show gi (ov (aT (nA T0 L 32)) 23) a k = _; rw [ov_at, if_neg (by omega)])
    show Z E YX1_begin (d + 4) M4 [(0, vr (some (16, 0, 0)))] 30 [] Q
    refine sX1_begin_30 M4 s4'.1 ?_
    obtain ⟨M5, e5⟩ : ∃ M5, M5 = si (si (si (si (si (si M4 16 38 0) 16 50 0) 16 52 0) 16 53 0) 16 49 0) 16 51 1 := ⟨_, rfl⟩
    rw [← e5]
    have f5 : fr (fun a k => a = 16 ∧ (k = 38 ∨ k = 49 ∨ k = 50 ∨ k = 51 ∨ k = 52 ∨ k = 53)) M4 M5 := by
      rw [e5]
      refine (((((fr.si ?_).tr (fr.si ?_)).tr (fr.si ?_)).tr (fr.si ?_)).tr (fr.si ?_)).tr (fr.si ?_) <;> omega
    have v5 : gi M5 16 38 = 0 ∧ gi M5 16 50 = 0 ∧ gi M5 16 52 = 0 ∧ gi M5 16 53 = 0 ∧ gi M5 16 49 = 0 ∧ gi M5 16 51 = 1 := by
      rw [e5]; simp [gi_si]
    have s5 : sX M5 (nA T0 L 32) := sX_fr s4' f5 (fun a k z => by
      refine ⟨by unfold hpX; omega, by omega, by omega, by omega, by omega, fun ea q hq => ?_⟩
      have := cwl_n6 q hq
      omega)
    have f05 : fr cRX M M5 := by
      refine (fa.mono fun a k z => ?_).tr ((f3'.mono fun a k z => hp_cRX z).tr ((f4.mono fun a k z => hp_cRX z).tr (f5.mono fun a k z => ?_)))
      · rcases z with z | z
        · exact hp_cRX z
        · exact .inl (.inl (.inr (.inl (by unfold stX; omega))))
      · unfold cRX cXP cX fFX
        omega
    have hG5 : xG M5 G := xG_fr hG f05 (fun a k z => by have := cRX_ok z; omega)
    refine xm_comes (g := 0) (F := []) (sc := -1) (ts := 0) (tv := 0) (md := -1) s5.1 ⟨⟨v5.2.2.2.2.1, v5.1, v5.2.1⟩, trivial⟩ mFok_nil (by simp) hG5 wg hg rfl rfl rfl (fun M6 x6 f6 => ?_)
    show Z E YX1_begin (d + 4) M6 [] 69 [] Q
    have s6 : sX M6 (nA T0 L 32) := sX_cg s5 f6 (fun a k z => .inr (.inl z))
    refine sX1_begin_69 M6 s6.1 (hQ M6 s6 x6 ?_ ?_ ?_ (f05.tr (f6.mono fun a k z => fF_cRX z)))
    · exact (f6.2 16 51 (by unfold fFX; omega)).1.trans v5.2.2.2.2.2
    · exact (f6.2 16 52 (by unfold fFX; omega)).1.trans v5.2.2.1
    · exact (f6.2 16 53 (by unfold fFX; omega)).1.trans v5.2.2.2.1
  rw [e2] at goal
  exact goal
/-- the first state -/
def mS0 (T : zM) (L : List (List Int32)) (q : Nat × Nat × List Nat × Int32) : mS := (1, nA T L 32, [((0, -1, 0, 0, -1), q.1, [], [])], [], 0, 0, 0)
theorem inv_00 {A : mA} {C : mI} {par : Nat → Nat} {W : mW} {nm : Nat} {q : Nat × Nat × List Nat × Int32} (T : zM) (ok : nOK T L A) (h0 : L[0]? = some mlen) (wg : wG G L.length) (w : wI C G par W nm) (hg : G[0]? = some q) (hn : nm ≤ L.length) (hnm : nm < 400) : invS C G par W nm (1, A, [((0, -1, 0, 0, -1), q.1, [], [])], [], 0, 0, 0) := by
  obtain ⟨i, e1, e2, e3⟩ := ok
  have sort : ∀ o, o < 23 → gi (aT (A)) 141 o = if 9 ≤ o then 1 else 0 := fun o ho => by rw [e3 141 o (by omega), (bT_138 T ho).2.2.2.1]
  have no : ∀ o, o < 23 → ∀ c : Int32, c ≠ 0 → c ≠ 1 → ¬ gi (aT (A)) 141 o = c := fun o ho c c0 c1 z => by
    rw [sort o ho] at z
    by_cases c9 : 9 ≤ o
    · rw [if_pos c9] at z; exact c1 z.symm
    · rw [if_neg c9] at z; exact c0 z.symm
  refine ⟨i, fun _ => ⟨⟨i, fun o ho z => absurd z (no o (by rw [e2] at ho; exact ho) 2 (by decide) (by decide)), ⟨⟨by rw [e1]; exact h0, by rw [sort 0 (by omega)]; rfl⟩, by rw [e1]; exact wg⟩, ⟨by rw [e2]; omega, fun f hf z => .inl ?_⟩, fun f g hf z h23 => by rw [e2] at hf; omega, fun o g hs => absurd hs.2.1 (no o (by have := hs.1; rw [e2] at this; exact this) 3 (by decide) (by decide))⟩, _, _, rfl⟩, ⟨by simp, ⟨[], [], 0, w.2.1 0 q hg, rfl, .inl ⟨rfl, rfl⟩, ⟨⟨0, rfl, by omega, fun z => absurd z (by decide), fun z => absurd z (by decide)⟩, fun z => absurd (show (0 : Int32) = 7 from z) (by decide)⟩, .inl rfl, rfl, trivial⟩, fun q hq => absurd hq List.not_mem_nil⟩, ⟨by show (0 : Nat) ≤ 100; omega, fun x hx => absurd hx List.not_mem_nil⟩, ⟨by rw [e1]; exact hn, hnm⟩, by show 1 ≤ 1; omega, by show 1 ≤ 4; omega, fun z => absurd (show (1 : Nat) = 3 from z) (by decide)⟩
  rw [e2] at hf
  rw [sort f hf] at z
  refine ⟨?_, hf, ?_, ?_⟩
  · by_cases c9 : 9 ≤ f
    · exact c9
    · rw [if_neg c9] at z; exact absurd z (by decide)
  · rw [e3 142 f (by omega)]; exact (bT_138 T hf).2.2.2.2.1
  · rw [e3 138 f (by omega)]; exact (bT_138 T hf).1
theorem inv_0 {C : mI} {par : Nat → Nat} {W : mW} {nm : Nat} {q : Nat × Nat × List Nat × Int32} (T : zM) (hL : mLok L) (h0 : L[0]? = some mlen) (wg : wG G L.length) (w : wI C G par W nm) (hg : G[0]? = some q) (hn : nm ≤ L.length) (hnm : nm < 400) : invS C G par W nm (mS0 T L q) := inv_00 T (nA_ok T hL 32 (by omega)).1 h0 wg w hg hn hnm
end
