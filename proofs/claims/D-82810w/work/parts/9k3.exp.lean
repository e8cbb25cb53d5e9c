/-! THE COMPONENT's CODER: expressions -/
/-- the coder at work; δ: how far the count of instructions is from the spec's -/
def xCz (M : zM) (e : gN) (Γ : gK) (l : List Nat) (δ : Int) (st : gS) : Prop := ∃ m : Nat, (m : Int) = st.c.length + δ ∧ xCo M e Γ l m st
abbrev C29 : zV := vr (some (29, 3, 0))
/-- cells that are as they were -/
def agS (S : Nat → Prop) (M M' : zM) : Prop := ∀ a k, S a → gi M' a k = gi M a k ∧ gr M' a k = gr M a k
theorem agS.tr {S : Nat → Prop} {M M' M'' : zM} (h : agS S M M') (h' : agS S M' M'') : agS S M M'' := fun a k ha => ⟨(h' a k ha).1.trans (h a k ha).1, (h' a k ha).2.trans (h a k ha).2⟩
theorem agS.mono {S S' : Nat → Prop} {M M' : zM} (h : agS S M M') (hs : ∀ a, S' a → S a) : agS S' M M' := fun a k ha => h a k (hs a ha)
theorem fr.agS {S : Nat → Prop} {M M' : zM} (f : fr cdP M M') (hs : ∀ a, S a → 190 ≤ a) : agS S M M' := fun a k ha => by
  have h := hs a ha
  have := f.2 a k (by unfold cdP; omega)
  exact ⟨this.1, this.2.2⟩
/-- the node p codes g: in every memory that has its cells -/
def xE (S : Nat → Prop) (M : zM) (D : Nat) (p : zP) (g : gEx) : Prop :=
  (∀ a, S a → 190 ≤ a) ∧ p.2.2 = 0 ∧ (20 ≤ p.2.1 ∧ p.2.1 < 45) ∧ ∃ Y, vt_code p.2.1 = some Y ∧ ∀ (E : zE) (d : Nat) (Q : zO → zM → Prop) (M' : zM) (e : gN) (Γ : gK) (l : List Nat) (δ : Int) (L : List Bool) (st : gS), agS S M M' → xCz M' e Γ l δ st → ((g e Γ L st).c.length : Int) + δ < 100000000 → D ≤ d →
    (∀ M'', xCz M'' e Γ l δ (g e Γ L st) → fr cdP M' M'' → Q (.inl none) M'') → Z E Y d M' [(0, vr (some p)), (1, C29)] 0 [] Q
theorem xE_mono {S S' : Nat → Prop} {M M' : zM} {D D' : Nat} {p : zP} {g : gEx} (h : xE S M D p g) (hs : ∀ a, S a → S' a) (h190 : ∀ a, S' a → 190 ≤ a) (ha : agS S M M') (hD : D ≤ D') : xE S' M' D' p g := by
  obtain ⟨h1, h2, h3, Y, h4, h5⟩ := h
  exact ⟨h190, h2, h3, Y, h4, fun E d Q M'' e Γ l δ L st a c b dd k => h5 E d Q M'' e Γ l δ L st (ha.tr (a.mono hs)) c b (Nat.le_trans hD dd) k⟩
/-- one instruction alone goes to a mark; none does -/
def only (s : gS) (mm k : Nat) : Prop := (∀ q, s.c[k]? = some q → q.2.1 = some mm) ∧ ∀ j q, s.c[j]? = some q → q.2.1 = some mm → j = k
def noM (s : gS) (mm : Nat) : Prop := ∀ q ∈ s.c, ¬ q.2.1 = some mm
theorem wfS.no {s : gS} (h : wfS s) {mm : Nat} (hm : s.m ≤ mm) : noM s mm := fun q hq e => by have := h.1 q hq mm e; omega
theorem noM_gst {P : Nat → Prop} {s s' : gS} {mm : Nat} (h : noM s mm) (g : gst P s s') (hp : ¬ P mm) (hm : mm < s.m) : noM s' mm := fun q hq e => by
  obtain ⟨⟨n, a1, a2⟩, -⟩ := g
  rw [a1] at hq
  rcases List.mem_append.mp hq with z | z
  · exact h q z e
  · rcases a2 q z mm e with y | y
    · exact hp y
    · omega
theorem noM_em {s : gS} {mm : Nat} (h : noM s mm) (e : gN) (Γ : gK) (L : List Bool) (op a b : Int32) {mk : Option Nat} (hk : ¬ mk = some mm) : noM (em e Γ L op a b mk s) mm := fun q hq z => by
  rcases List.mem_append.mp (show q ∈ s.c ++ [_] from hq) with y | y
  · exact h q y z
  · rw [List.mem_singleton.mp y] at z; exact hk z
theorem noM_only {s : gS} {mm : Nat} (h : noM s mm) (e : gN) (Γ : gK) (L : List Bool) (op a b : Int32) : only (em e Γ L op a b (some mm) s) mm s.c.length := by
  constructor
  · intro q hq
    rcases get_app (show (s.c ++ [_])[s.c.length]? = some q from hq) with ⟨z, -⟩ | ⟨-, rfl⟩
    · omega
    · rfl
  · intro j q hq hm
    rcases get_app (show (s.c ++ [_])[j]? = some q from hq) with ⟨-, z⟩ | ⟨z, -⟩
    · exact (h q (List.mem_of_getElem? z) hm).elim
    · exact z
theorem only_gst {P : Nat → Prop} {s s' : gS} {mm k : Nat} (h : only s mm k) (hk : k < s.c.length) (g : gst P s s') (hp : ¬ P mm) (hm : mm < s.m) : only s' mm k := by
  obtain ⟨⟨n, a1, a2⟩, -⟩ := g
  constructor
  · intro q hq
    rw [a1, List.getElem?_append_left hk] at hq
    exact h.1 q hq
  · intro j q hq e
    rw [a1] at hq
    by_cases hj : j < s.c.length
    · rw [List.getElem?_append_left hj] at hq; exact h.2 j q hq e
    · rw [List.getElem?_append_right (by omega)] at hq
      exfalso
      rcases a2 q (List.mem_of_getElem? hq) mm e with y | y
      · exact hp y
      · omega
theorem only_em {s : gS} {mm k : Nat} (h : only s mm k) (hk : k < s.c.length) (e : gN) (Γ : gK) (L : List Bool) (op a b : Int32) {mk : Option Nat} (hmk : ¬ mk = some mm) : only (em e Γ L op a b mk s) mm k := by
  constructor
  · intro q hq
    rcases get_app (show (s.c ++ [_])[k]? = some q from hq) with ⟨-, z⟩ | ⟨z, -⟩
    · exact h.1 q z
    · omega
  · intro j q hq hm
    rcases get_app (show (s.c ++ [_])[j]? = some q from hq) with ⟨-, z⟩ | ⟨-, z⟩
    · exact h.2 j q z hm
    · rw [z] at hm; exact (hmk hm).elim
section
variable {E : zE} {d : Nat} {Q : zO → zM → Prop} {M : zM} {e : gN} {Γ : gK} {l : List Nat} {δ : Int} {st : gS} {L : List Bool}
theorem y_putZ {op av a b : Int32} {mk : Option Nat} (h : xCz M e Γ l δ st) (hb : ((em e Γ L op a b mk st).c.length : Int) + δ < 100000000) (ho : op.toInt8.toInt32 = op) (hs : av.toInt16.toInt32 = av) (ha : mk = none → av = a) (hb' : ∀ mm p, mk = some mm → st.at mm = some p → av = nI p) (hk : ∀ mm, mk = some mm → mm < st.m)
    (hQ : ∀ (M' : zM) (m : Nat), (m : Int) = st.c.length + δ → m < 100000000 → xCz M' e Γ l δ (em e Γ L op a b mk st) → fr cdP M M' → Q (.inl (some (vi (nI m)))) M') : Z E YX3_put (d + 1) M [(0, C29), (1, vi op), (2, vi av), (3, vi b)] 0 [] Q := by
  obtain ⟨m, hm, h⟩ := h
  rw [em_len] at hb
  refine y_put (L := L) h (by omega) ho hs ha hb' hk (fun M' k f => hQ M' m hm (by omega) ⟨m + 1, by rw [em_len]; omega, k⟩ f)
theorem y_putn {op a b : Int32} (h : xCz M e Γ l δ st) (hb : ((em e Γ L op a b none st).c.length : Int) + δ < 100000000) (ho : op.toInt8.toInt32 = op) (hs : a.toInt16.toInt32 = a)
    (hQ : ∀ M' v, xCz M' e Γ l δ (em e Γ L op a b none st) → fr cdP M M' → Q (.inl (some (vi v))) M') : Z E YX3_put (d + 1) M [(0, C29), (1, vi op), (2, vi a), (3, vi b)] 0 [] Q :=
  y_putZ h hb ho hs (fun _ => rfl) (fun _ _ z => by cases z) (fun _ z => by cases z) (fun M' m _ _ k f => hQ M' _ k f)
theorem xCz_mkm (h : xCz M e Γ l δ st) : xCz M e Γ l δ (mkm st) := by
  obtain ⟨m, hm, h1, ⟨c1, c2, c3, c4, c5, c6, c7⟩, h3⟩ := h
  exact ⟨m, hm, h1, ⟨c1, c2, c3, c4, c5, c6, ⟨fun q hq mm hmm => Nat.lt_succ_of_lt (c7.1 q hq mm hmm), fun k hk => c7.2 k (Nat.le_of_succ_le hk)⟩⟩, h3⟩
theorem xCz_wf (h : xCz M e Γ l δ st) : wfS st := by
  obtain ⟨m, hm, h1, ⟨c1, c2, c3, c4, c5, c6, c7⟩, h3⟩ := h
  exact c7
/-- goal of a jump that was put at k: its mark is nowhere else -/
theorem y_goalZ {k k0 mm : Nat} (h : xCz M e Γ l δ st) (hk : (k : Int) = k0 + δ) (hkb : k < 100000000) (hmm : mm < st.m) (hu : only st mm k0)
    (hQ : ∀ M', xCz M' e Γ l δ (hre mm st) → fr cdP M M' → Q (.inl none) M') : Z E YX3_goal (d + 1) M [(0, C29), (1, vi (nI k))] 0 [] Q := by
  obtain ⟨m, hm, h⟩ := h
  have hz : m ≤ 600 → k = k0 := fun z => by have := h.2.1.2.2.1 z; omega
  exact y_goal h (fun z q hq => hu.1 q (by rw [← hz z]; exact hq)) (fun z j q hq hm => (hu.2 j q hq hm).trans (hz z).symm) hkb hmm (fun M' k f => hQ M' ⟨m, hm, k⟩ f)
/-- a node's code is called -/
theorem y_sub {S : Nat → Prop} {M0 : zM} {D : Nat} {p : zP} {g : gEx} (hp : xE S M0 D p g) (ha : agS S M0 M) (h : xCz M e Γ l δ st) (hb : ((g e Γ L st).c.length : Int) + δ < 100000000) (hd : D ≤ d)
    (hQ : ∀ M', xCz M' e Γ l δ (g e Γ L st) → fr cdP M M' → Q (.inl none) M') : ∃ b t, some p = some (b, t, 0) ∧ ∃ Y, vt_code t = some Y ∧ Z E Y d M (zargs 0 [vr (some (b, t, 0)), C29]) 0 [] Q := by
  obtain ⟨h1, h2, h3, Y, h4, h5⟩ := hp
  obtain ⟨b, t, n⟩ := p
  have h2 : n = 0 := h2
  subst h2
  exact ⟨b, t, rfl, Y, h4, h5 E d Q M e Γ l δ L st ha h hb hd hQ⟩
theorem y_subL {S : Nat → Prop} {M0 : zM} {D : Nat} {p : zP} {g : gEx} (hp : xE S M0 D p g) (ha : agS S M0 M) (h : xCz M e Γ l δ st) (hb : ((g e Γ L st).c.length : Int) + δ < 100000000) (hd : D ≤ d)
    (hQ : ∀ M', xCz M' e Γ l δ (g e Γ L st) → fr cdP M M' → Q (.inl none) M') : ∃ b t, some p = some (b, t, 0) ∧ ((20 ≤ t ∧ t < 45) ∧ ∃ Y, vt_code t = some Y ∧ Z E Y d M (zargs 0 [vr (some (b, t, 0)), C29]) 0 [] Q) := by
  have ht := hp.2.2.1
  obtain ⟨b, t, h1, Y, h2, h3⟩ := y_sub hp ha h hb hd hQ
  cases h1
  exact ⟨b, t, rfl, ht, Y, h2, h3⟩
end
/-! the nodes -/
section
variable {S : Nat → Prop} {M : zM} {D : Nat}
theorem xe_Lit {b : Nat} {s v : Int32} (hS : ∀ a, S a → 190 ≤ a) (hb : S b) (e0 : gi M b 0 = s) (e1 : gi M b 1 = v) (hs : s.toInt16.toInt32 = s) (hD : 3 ≤ D) : xE S M D (b, 24, 0) (gCo s v) := by
  refine ⟨hS, rfl, (show 20 ≤ 24 ∧ 24 < 45 by decide), _, rfl, fun E d Q M' e Γ l δ L st ha h hl hd hQ => ?_⟩
  obtain ⟨d, rfl⟩ : ∃ d', d = d' + 2 := ⟨d - 2, by omega⟩
  refine sX18_code_0 M' b _ ⟨29, rfl, ?_⟩
  rw [(ha b 0 hb).1, (ha b 1 hb).1, e0, e1]
  refine y_putn (L := L) h hl rfl hs (fun M2 v' h2 f => ?_)
  show Z E YX18_code (d + 1 + 1) M2 [] 13 [vi v'] Q
  exact sX18_code_13 M2 _ (hQ M2 h2 f)
theorem xe_This {b : Nat} (hS : ∀ a, S a → 190 ≤ a) (hD : 3 ≤ D) : xE S M D (b, 25, 0) gTh := by
  refine ⟨hS, rfl, (show 20 ≤ 25 ∧ 25 < 45 by decide), _, rfl, fun E d Q M' e Γ l δ L st ha h hl hd hQ => ?_⟩
  obtain ⟨d, rfl⟩ : ∃ d', d = d' + 2 := ⟨d - 2, by omega⟩
  refine sX19_code_0 M' b _ ⟨29, rfl, ?_⟩
  refine y_putn (L := L) h hl rfl rfl (fun M2 v' h2 f => ?_)
  show Z E YX19_code (d + 1 + 1) M2 [] 8 [vi v'] Q
  exact sX19_code_8 M2 _ (hQ M2 h2 f)
theorem xe_Made {b f : Nat} (hS : ∀ a, S a → 190 ≤ a) (hb : S b) (e0 : gi M b 0 = nI f) (hf : f < 32768) (hD : 3 ≤ D) : xE S M D (b, 26, 0) (gMd f) := by
  refine ⟨hS, rfl, (show 20 ≤ 26 ∧ 26 < 45 by decide), _, rfl, fun E d Q M' e Γ l δ L st ha h hl hd hQ => ?_⟩
  obtain ⟨d, rfl⟩ : ∃ d', d = d' + 2 := ⟨d - 2, by omega⟩
  refine sX20_code_0 M' b _ ⟨29, rfl, ?_⟩
  rw [(ha b 0 hb).1, e0]
  refine y_putn (L := L) h hl rfl (nn_ns2 hf) (fun M2 v' h2 f => ?_)
  show Z E YX20_code (d + 1 + 1) M2 [] 11 [vi v'] Q
  exact sX20_code_11 M2 _ (hQ M2 h2 f)
theorem gGet_len (x : Nat) (e : gN) (Γ : gK) (L : List Bool) (st : gS) : (gGet x e Γ L st).c.length = st.c.length + 1 := by unfold gGet; split <;> exact em_len ..
theorem gSet_len (x : Nat) (e : gN) (Γ : gK) (L : List Bool) (st : gS) : (gSet x e Γ L st).c.length = st.c.length + 1 := by unfold gSet; split <;> exact em_len ..
theorem y_getZ {E : zE} {d x : Nat} {Q : zO → zM → Prop} {e : gN} {Γ : gK} {l : List Nat} {δ : Int} {st : gS} {L : List Bool} (h : xCz M e Γ l δ st) (hb : ((gGet x e Γ L st).c.length : Int) + δ < 100000000) (hx : x < 100000) (hQ : ∀ M', xCz M' e Γ l δ (gGet x e Γ L st) → fr cdP M M' → Q (.inl none) M') : Z E YX3_get (d + 2) M [(0, C29), (1, vi (nI x))] 0 [] Q := by
  obtain ⟨m, hm, h⟩ := h
  rw [gGet_len] at hb
  exact y_get (L := L) h (by omega) hx (fun M' k f => hQ M' ⟨m + 1, by rw [gGet_len]; omega, k⟩ f)
theorem y_setZ {E : zE} {d x : Nat} {Q : zO → zM → Prop} {e : gN} {Γ : gK} {l : List Nat} {δ : Int} {st : gS} {L : List Bool} (h : xCz M e Γ l δ st) (hb : ((gSet x e Γ L st).c.length : Int) + δ < 100000000) (hx : x < 100000) (hQ : ∀ M', xCz M' e Γ l δ (gSet x e Γ L st) → fr cdP M M' → Q (.inl none) M') : Z E YX3_set (d + 2) M [(0, C29), (1, vi (nI x))] 0 [] Q := by
  obtain ⟨m, hm, h⟩ := h
  rw [gSet_len] at hb
  exact y_set (L := L) h (by omega) hx (fun M' k f => hQ M' ⟨m + 1, by rw [gSet_len]; omega, k⟩ f)
theorem xe_Name {b x : Nat} (hS : ∀ a, S a → 190 ≤ a) (hb : S b) (e0 : gi M b 0 = nI x) (hx : x < 100000) (hD : 4 ≤ D) : xE S M D (b, 23, 0) (gGet x) := by
  refine ⟨hS, rfl, (show 20 ≤ 23 ∧ 23 < 45 by decide), _, rfl, fun E d Q M' e Γ l δ L st ha h hl hd hQ => ?_⟩
  obtain ⟨d, rfl⟩ : ∃ d', d = d' + 3 := ⟨d - 3, by omega⟩
  refine sX17_code_0 M' b _ ⟨29, rfl, ?_⟩
  rw [(ha b 0 hb).1, e0]
  refine y_getZ (L := L) h hl hx (fun M2 h2 f => ?_)
  show Z E YX17_code (d + 2 + 1) M2 [] 8 [] Q
  exact sX17_code_8 M2 (hQ M2 h2 f)
theorem xe_Brk {b : Nat} {p : zP} {g : gEx} (hb : S b) (e0 : gr M b 0 = some p) (hp : xE S M D p g) : xE S M (D + 1) (b, 27, 0) g := by
  refine ⟨hp.1, rfl, (show 20 ≤ 27 ∧ 27 < 45 by decide), _, rfl, fun E d Q M' e Γ l δ L st ha h hl hd hQ => ?_⟩
  obtain ⟨d, rfl⟩ : ∃ d', d = d' + 1 := ⟨d - 1, by omega⟩
  refine sX21_code_0 M' b _ ?_
  rw [(ha b 0 hb).2, e0]
  refine y_sub (L := L) hp ha h hl (by omega) (fun M2 h2 f => ?_)
  show Z E YX21_code (d + 1) M2 [] 8 [] Q
  exact sX21_code_8 M2 (hQ M2 h2 f)
theorem xe_Choice {b : Nat} {p1 p2 p3 : zP} {x y z : gEx} (hb : S b) (e0 : gr M b 0 = some p1) (e1 : gr M b 1 = some p2) (e2 : gr M b 2 = some p3) (h1 : xE S M D p1 x) (h2 : xE S M D p2 y) (h3 : xE S M D p3 z) (hx : gok x) (hy : gok y) (hz : gok z) (hD : 3 ≤ D) : xE S M (D + 1) (b, 36, 0) (gChoice x y z) := by
  refine ⟨h1.1, rfl, (show 20 ≤ 36 ∧ 36 < 45 by decide), _, rfl, fun E d Q M' e Γ l δ L st ha h hl hd hQ => ?_⟩
  obtain ⟨d, rfl⟩ : ∃ d', d = d' + 2 := ⟨d - 2, by omega⟩
  have hS := h1.1
  have w0 := xCz_wf h
  have m0 : (mkm (mkm st)).m = st.m + 2 := rfl
  have l0 : (mkm (mkm st)).c.length = st.c.length := rfl
  have c1 := xCz_mkm (xCz_mkm h)
  have g1 := hx e Γ L (mkm (mkm st))
  have k0 : noM (x e Γ L (mkm (mkm st))) st.m := noM_gst (s := mkm (mkm st)) (fun q hq => w0.no (Nat.le_refl _) q hq) g1 (fun z => z) (by omega)
  have k1 : noM (x e Γ L (mkm (mkm st))) (st.m + 1) := noM_gst (s := mkm (mkm st)) (fun q hq => w0.no (Nat.le_succ _) q hq) g1 (fun z => z) (by omega)
  have a0 : (x e Γ L (mkm (mkm st))).at st.m = none ∧ (x e Γ L (mkm (mkm st))).at (st.m + 1) = none := ⟨(g1.2.2.1 _ (by omega)).trans (w0.2 _ (Nat.le_refl _)), (g1.2.2.1 _ (by omega)).trans (w0.2 _ (Nat.le_succ _))⟩
  have l6 := g1.len
  have m1 : st.m + 2 ≤ (x e Γ L (mkm (mkm st))).m := g1.2.1
  have hs0 : gChoice x y z e Γ L st = hre (st.m + 1) (z e Γ L (hre st.m (em e Γ (psh 1 L) 21 0 0 (some (st.m + 1)) (y e Γ L (em e Γ (psh 1 L) 22 0 0 (some st.m) (x e Γ L (mkm (mkm st)))))))) := rfl
  rw [hs0] at hl hQ
  generalize hs1 : x e Γ L (mkm (mkm st)) = s1 at *
  have u0 := noM_only k0 e Γ (psh 1 L) 22 0 0
  have k1 := noM_em k1 e Γ (psh 1 L) 22 0 0 (mk := some st.m) (fun z => by have := Option.some.inj z; omega)
  have l1 := em_len e Γ (psh 1 L) 22 0 0 (some st.m) s1
  have m2 : st.m + 2 ≤ (em e Γ (psh 1 L) 22 0 0 (some st.m) s1).m := m1
  have a1 : (em e Γ (psh 1 L) 22 0 0 (some st.m) s1).at (st.m + 1) = none := a0.2
  generalize hs2 : em e Γ (psh 1 L) 22 0 0 (some st.m) s1 = s2 at *
  have g2 := hy e Γ L s2
  have u0 := only_gst u0 (by omega) g2 (fun z => z) (by omega)
  have k1 := noM_gst k1 g2 (fun z => z) (by omega)
  have a2 : (y e Γ L s2).at (st.m + 1) = none := (g2.2.2.1 _ (by omega)).trans a1
  have l2 := g2.len
  have m3 : st.m + 2 ≤ (y e Γ L s2).m := Nat.le_trans m2 g2.2.1
  generalize hs3 : y e Γ L s2 = s3 at *
  have u1 := noM_only k1 e Γ (psh 1 L) 21 0 0
  have u0 := only_em u0 (by omega) e Γ (psh 1 L) 21 0 0 (mk := some (st.m + 1)) (fun z => by have := Option.some.inj z; omega)
  have l3 := em_len e Γ (psh 1 L) 21 0 0 (some (st.m + 1)) s3
  have m4 : st.m + 2 ≤ (em e Γ (psh 1 L) 21 0 0 (some (st.m + 1)) s3).m := m3
  generalize hs4 : em e Γ (psh 1 L) 21 0 0 (some (st.m + 1)) s3 = s4 at *
  have g3 := hz e Γ L (hre st.m s4)
  have l4 : s4.c.length ≤ (z e Γ L (hre st.m s4)).c.length := g3.len
  have u1 : only (z e Γ L (hre st.m s4)) (st.m + 1) s3.c.length := only_gst (s := hre st.m s4) u1 (by show _ < s4.c.length; omega) g3 (fun z => z) (by show _ < s4.m; omega)
  have m5 : st.m + 2 ≤ (z e Γ L (hre st.m s4)).m := Nat.le_trans m4 g3.2.1
  have l5 : (hre (st.m + 1) (z e Γ L (hre st.m s4))).c.length = (z e Γ L (hre st.m s4)).c.length := rfl
  rw [l5] at hl
  refine sX31_code_0 M' b _ ?_
  rw [(ha b 0 hb).2, e0]
  refine y_sub (L := L) h1 ha c1 (by rw [hs1]; omega) (by omega) (fun M1 c2 f1 => ?_)
  rw [hs1] at c2
  have q1 := ha.tr (f1.agS hS)
  show Z E YX31_code (d + 1 + 1) M1 [(0, vr (some (b, 36, 0))), (1, C29)] 8 [] Q
  refine sX31_code_8 M1 b _ ⟨29, rfl, ?_⟩
  refine y_putZ (L := psh 1 L) (a := 0) (mk := some st.m) c2 (by rw [hs2]; omega) rfl rfl (fun z => by cases z) (fun mm p z1 z2 => by rw [← Option.some.inj z1, a0.1] at z2; cases z2) (fun mm z1 => by have := Option.some.inj z1; omega) (fun M2 i0 hi0 hb0 c3 f2 => ?_)
  rw [hs2] at c3
  have q2 := q1.tr (f2.agS hS)
  show Z E YX31_code (d + 1 + 1) M2 [(0, vr (some (b, 36, 0))), (1, C29)] 16 [vi (nI i0)] Q
  refine sX31_code_16 M2 b 29 _ ?_
  rw [(q2 b 1 hb).2, e1]
  refine y_sub (L := L) h2 q2 c3 (by rw [hs3]; omega) (by omega) (fun M3 c4 f3 => ?_)
  rw [hs3] at c4
  have q3 := q2.tr (f3.agS hS)
  show Z E YX31_code (d + 1 + 1) M3 [(0, vr (some (b, 36, 0))), (1, C29), (2, vi (nI i0))] 25 [] Q
  refine sX31_code_25 M3 b 29 _ ?_
  refine y_putZ (L := psh 1 L) (a := 0) (mk := some (st.m + 1)) c4 (by rw [hs4]; omega) rfl rfl (fun z => by cases z) (fun mm p z1 z2 => by rw [← Option.some.inj z1, a2] at z2; cases z2) (fun mm z1 => by have := Option.some.inj z1; omega) (fun M4 i1 hi1 hb1 c5 f4 => ?_)
  rw [hs4] at c5
  have q4 := q3.tr (f4.agS hS)
  show Z E YX31_code (d + 1 + 1) M4 [(0, vr (some (b, 36, 0))), (1, C29), (2, vi (nI i0))] 33 [vi (nI i1)] Q
  refine sX31_code_33 M4 b 29 _ _ ?_
  refine y_goalZ (k0 := s1.c.length) c5 hi0 hb0 (by omega) u0 (fun M5 c6 f5 => ?_)
  have q5 := q4.tr (f5.agS hS)
  show Z E YX31_code (d + 1 + 1) M5 [(0, vr (some (b, 36, 0))), (1, C29), (3, vi (nI i1))] 39 [] Q
  refine sX31_code_39 M5 b 29 _ ?_
  rw [(q5 b 2 hb).2, e2]
  refine y_sub (L := L) h3 q5 c6 (by omega) (by omega) (fun M6 c7 f6 => ?_)
  show Z E YX31_code (d + 1 + 1) M6 [(1, C29), (3, vi (nI i1))] 47 [] Q
  refine sX31_code_47 M6 29 _ ?_
  refine y_goalZ (k0 := s3.c.length) c7 hi1 hb1 (by omega) u1 (fun M7 c8 f7 => ?_)
  show Z E YX31_code (d + 1 + 1) M7 [] 52 [] Q
  exact sX31_code_52 M7 (hQ M7 c8 ((((((f1.tr f2).tr f3).tr f4).tr f5).tr f6).tr f7))
end
