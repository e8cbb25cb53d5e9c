/-! FRAMES of the machine: purely, top first -/
/-- what lies on a stack: its sort, its number; of a list what was given, the last one there is -/
abbrev mC : Type := Int32 × Int32 × Int32 × Int32
/-- a frame: function, scope, this's sort and number, what NEW made; its place; tries (place, height); its stack; top first -/
abbrev mF : Type := (Int32 × Int32 × Int32 × Int32 × Int32) × Nat × List (Nat × Nat) × List mC
abbrev mF.fx (r : mF) : Int32 × Int32 × Int32 × Int32 × Int32 := r.1
abbrev mF.pl (r : mF) : Nat := r.2.1
abbrev mF.tr (r : mF) : List (Nat × Nat) := r.2.2.1
abbrev mF.st (r : mF) : List mC := r.2.2.2
def stk {α : Type} (P : Nat → α → Prop) : List α → Prop
  | [] => True
  | c :: l => P l.length c ∧ stk P l
theorem stk_cg {α : Type} {P P' : Nat → α → Prop} : ∀ {l : List α}, (∀ j c, j < l.length → P j c → P' j c) → stk P l → stk P' l
  | [], _, _ => trivial
  | c :: l, h, q => ⟨h _ _ (by simp) q.1, stk_cg (fun j c hj => h j c (by rw [List.length_cons]; omega)) q.2⟩
theorem stk_drop {α : Type} {P : Nat → α → Prop} : ∀ {n : Nat} {l : List α}, stk P l → stk P (l.drop n)
  | 0, _, h => h
  | _ + 1, [], h => h
  | n + 1, _ :: l, h => stk_drop (n := n) (l := l) h.2
theorem stk_at {α : Type} {P : Nat → α → Prop} : ∀ {l : List α} {i : Nat} {c : α}, stk P l → l[i]? = some c → P (l.length - 1 - i) c
  | [], _, _, _, h => by cases h
  | c :: l, 0, _, h, e => by cases e; simpa using h.1
  | c :: l, i + 1, _, h, e => by
    have := stk_at (l := l) (i := i) h.2 (by simpa using e)
    rwa [show (c :: l).length - 1 - (i + 1) = l.length - 1 - i by simp; omega]
def cellT (T : zM) (k : Nat) (c : mC) : Prop := gi T 160 k = c.1 ∧ gi T 161 k = c.2.1 ∧ (c.1 = 8 → gi T 162 k = c.2.2.1 ∧ gi T 163 k = c.2.2.2)
def cellX (M : zM) (k : Nat) (c : mC) : Prop := gi M 53 k = c.1 ∧ gi M 54 k = c.2.1 ∧ (c.1 = 8 → gi M 56 k = c.2.2.1 ∧ gi M 55 k = c.2.2.2)
/-- frame number n of the twin's -/
def tf1 (T : zM) (n : Nat) (r : mF) : Prop :=
  (gi T 150 n = r.1.1 ∧ gi T 151 n = r.1.2.1 ∧ gi T 152 n = r.1.2.2.1 ∧ gi T 153 n = r.1.2.2.2.1 ∧ gi T 156 n = r.1.2.2.2.2) ∧ gi T 154 n = nI r.pl ∧ (gi T 157 n = nI r.tr.length ∧ stk (fun j c => gi T 158 (40 * n + j) = nI c.1 ∧ gi T 159 (40 * n + j) = nI c.2) r.tr) ∧ (gi T 155 n = nI r.st.length ∧ stk (fun j c => cellT T (400 * n + j) c) r.st)
def xf1 (M : zM) (n b t : Nat) (r : mF) : Prop :=
  (gi M 57 n = r.1.1 ∧ gi M 58 n = r.1.2.1 ∧ gi M 63 n = r.1.2.2.1 ∧ gi M 64 n = r.1.2.2.2.1 ∧ gi M 61 n = r.1.2.2.2.2) ∧ gi M 59 n = nI r.pl ∧ (gi M 62 n = nI t ∧ stk (fun j c => gi M 65 (t + j) = nI c.1 ∧ gi M 66 (t + j) = nI c.2) r.tr) ∧ (gi M 60 n = nI b ∧ stk (fun j c => cellX M (b + j) c) r.st)
/-- heights and tries of all frames -/
def mtot (F : List mF) : Nat := (F.map fun r => r.st.length).sum
def mtt (F : List mF) : Nat := (F.map fun r => r.tr.length).sum
theorem mtot_c (r : mF) (F : List mF) : mtot (r :: F) = r.st.length + mtot F := rfl
theorem mtt_c (r : mF) (F : List mF) : mtt (r :: F) = r.tr.length + mtt F := rfl
def tFr (T : zM) : List mF → Prop
  | [] => True
  | r :: F => tf1 T F.length r ∧ tFr T F
def xFr (M : zM) : List mF → Prop
  | [] => True
  | r :: F => xf1 M F.length (mtot F) (mtt F) r ∧ xFr M F
/-- sizes that there is room for -/
def mFok (F : List mF) : Prop := F.length ≤ 24 ∧ ∀ r ∈ F, r.pl < 600 ∧ r.tr.length ≤ 40 ∧ r.st.length ≤ 390 ∧ (∀ c ∈ r.tr, c.1 < 600 ∧ c.2 ≤ 390)
theorem mFok_tl {r : mF} {F : List mF} (h : mFok (r :: F)) : mFok F := ⟨by have := h.1; simp at this; omega, fun q hq => h.2 q (List.mem_cons_of_mem _ hq)⟩
theorem mFok_hd {r : mF} {F : List mF} (h : mFok (r :: F)) : F.length < 24 ∧ r.pl < 600 ∧ r.tr.length ≤ 40 ∧ r.st.length ≤ 390 ∧ (∀ c ∈ r.tr, c.1 < 600 ∧ c.2 ≤ 390) := ⟨by have := h.1; simp at this; omega, h.2 r List.mem_cons_self⟩
theorem mtot_le : ∀ {F : List mF}, mFok F → mtot F ≤ 390 * F.length ∧ mtt F ≤ 40 * F.length
  | [], _ => ⟨by simp [mtot], by simp [mtt]⟩
  | r :: F, h => by
    obtain ⟨h1, h2⟩ := mtot_le (mFok_tl h)
    obtain ⟨-, -, g2, g3, -⟩ := mFok_hd h
    rw [mtot_c, mtt_c, List.length_cons]
    omega
/-- cells of frames below n -/
def loT (n a k : Nat) : Prop := (150 ≤ a ∧ a ≤ 157 ∧ k < n) ∨ (158 ≤ a ∧ a ≤ 159 ∧ k < 40 * n) ∨ (160 ≤ a ∧ a ≤ 163 ∧ k < 400 * n)
def loX (n b t a k : Nat) : Prop := (57 ≤ a ∧ a ≤ 64 ∧ k < n) ∨ (65 ≤ a ∧ a ≤ 66 ∧ k < t) ∨ (53 ≤ a ∧ a ≤ 56 ∧ k < b)
theorem tf1_cg {T T' : zM} {n m : Nat} {r : mF} (hn : n < m) (h1 : r.tr.length ≤ 40) (h2 : r.st.length ≤ 400) (e : ∀ a k, loT m a k → gi T' a k = gi T a k) (h : tf1 T n r) : tf1 T' n r := by
  obtain ⟨⟨a1, a2, a3, a4, a5⟩, b, ⟨c1, c2⟩, d1, d2⟩ := h
  have f : ∀ a, 150 ≤ a → a ≤ 157 → gi T' a n = gi T a n := fun a q1 q2 => e a n (.inl ⟨q1, q2, hn⟩)
  refine ⟨⟨(f _ (by omega) (by omega)).trans a1, (f _ (by omega) (by omega)).trans a2, (f _ (by omega) (by omega)).trans a3, (f _ (by omega) (by omega)).trans a4, (f _ (by omega) (by omega)).trans a5⟩, (f _ (by omega) (by omega)).trans b, ⟨(f _ (by omega) (by omega)).trans c1, stk_cg (fun j c hj q => ?_) c2⟩, (f _ (by omega) (by omega)).trans d1, stk_cg (fun j c hj q => ?_) d2⟩
  · rw [e 158 _ (.inr (.inl ⟨by omega, by omega, by omega⟩)), e 159 _ (.inr (.inl ⟨by omega, by omega, by omega⟩))]; exact q
  · unfold cellT
    rw [e 160 _ (.inr (.inr ⟨by omega, by omega, by omega⟩)), e 161 _ (.inr (.inr ⟨by omega, by omega, by omega⟩)), e 162 _ (.inr (.inr ⟨by omega, by omega, by omega⟩)), e 163 _ (.inr (.inr ⟨by omega, by omega, by omega⟩))]; exact q
theorem xf1_cg {M M' : zM} {n b t m b' t' : Nat} {r : mF} (hn : n < m) (h1 : t + r.tr.length ≤ t') (h2 : b + r.st.length ≤ b') (e : ∀ a k, loX m b' t' a k → gi M' a k = gi M a k) (h : xf1 M n b t r) : xf1 M' n b t r := by
  obtain ⟨⟨a1, a2, a3, a4, a5⟩, p, ⟨c1, c2⟩, d1, d2⟩ := h
  have f : ∀ a, 57 ≤ a → a ≤ 64 → gi M' a n = gi M a n := fun a q1 q2 => e a n (.inl ⟨q1, q2, hn⟩)
  refine ⟨⟨(f _ (by omega) (by omega)).trans a1, (f _ (by omega) (by omega)).trans a2, (f _ (by omega) (by omega)).trans a3, (f _ (by omega) (by omega)).trans a4, (f _ (by omega) (by omega)).trans a5⟩, (f _ (by omega) (by omega)).trans p, ⟨(f _ (by omega) (by omega)).trans c1, stk_cg (fun j c hj q => ?_) c2⟩, (f _ (by omega) (by omega)).trans d1, stk_cg (fun j c hj q => ?_) d2⟩
  · rw [e 65 _ (.inr (.inl ⟨by omega, by omega, by omega⟩)), e 66 _ (.inr (.inl ⟨by omega, by omega, by omega⟩))]; exact q
  · unfold cellX
    rw [e 53 _ (.inr (.inr ⟨by omega, by omega, by omega⟩)), e 54 _ (.inr (.inr ⟨by omega, by omega, by omega⟩)), e 55 _ (.inr (.inr ⟨by omega, by omega, by omega⟩)), e 56 _ (.inr (.inr ⟨by omega, by omega, by omega⟩))]; exact q
theorem tFr_lo {T T' : zM} : ∀ {F : List mF}, mFok F → (∀ a k, loT F.length a k → gi T' a k = gi T a k) → tFr T F → tFr T' F
  | [], _, _, _ => trivial
  | r :: F, ok, e, h => by
    obtain ⟨g0, g1, g2, g3, -⟩ := mFok_hd ok
    exact ⟨tf1_cg (m := F.length + 1) (by omega) g2 (by omega) e h.1, tFr_lo (mFok_tl ok) (fun a k q => e a k (by unfold loT at q ⊢; rw [List.length_cons]; omega)) h.2⟩
theorem xFr_lo {M M' : zM} : ∀ {F : List mF}, mFok F → (∀ a k, loX F.length (mtot F) (mtt F) a k → gi M' a k = gi M a k) → xFr M F → xFr M' F
  | [], _, _, _ => trivial
  | r :: F, ok, e, h => by
    obtain ⟨g0, g1, g2, g3, -⟩ := mFok_hd ok
    exact ⟨xf1_cg (m := F.length + 1) (b' := mtot (r :: F)) (t' := mtt (r :: F)) (by omega) (by rw [mtt_c]; omega) (by rw [mtot_c]; omega) e h.1, xFr_lo (mFok_tl ok) (fun a k q => e a k (by unfold loX at q ⊢; rw [List.length_cons, mtot_c, mtt_c]; omega)) h.2⟩
/-- the twin's and the component's frames -/
def tFs (T : zM) (F : List mF) : Prop := gi T 97 92 = nI F.length ∧ tFr T F
def xFs (M : zM) (F : List mF) : Prop := (gi M 16 49 = nI F.length ∧ gi M 16 38 = nI (mtot F) ∧ gi M 16 50 = nI (mtt F)) ∧ xFr M F
/-- cells of the frames -/
def fFT (a k : Nat) : Prop := 150 ≤ a ∧ a ≤ 163 ∨ a = 97 ∧ k = 92
def fFX (a k : Nat) : Prop := 53 ≤ a ∧ a ≤ 66 ∨ a = 16 ∧ (k = 49 ∨ k = 38 ∨ k = 50)
theorem tFs_fr {T T' : zM} {F : List mF} {P : Nat → Nat → Prop} (h : tFs T F) (ok : mFok F) (f : fr P T T') (hP : ∀ a k, P a k → ¬ fFT a k) : tFs T' F :=
  ⟨(f.2 97 92 (fun q => hP _ _ q (by unfold fFT; omega))).1.trans h.1, tFr_lo ok (fun a k q => (f.2 a k (fun z => hP a k z (by unfold loT at q; unfold fFT; omega))).1) h.2⟩
theorem xFs_fr {M M' : zM} {F : List mF} {P : Nat → Nat → Prop} (h : xFs M F) (ok : mFok F) (f : fr P M M') (hP : ∀ a k, P a k → ¬ fFX a k) : xFs M' F :=
  ⟨⟨(f.2 16 49 (fun q => hP _ _ q (by unfold fFX; omega))).1.trans h.1.1, (f.2 16 38 (fun q => hP _ _ q (by unfold fFX; omega))).1.trans h.1.2.1, (f.2 16 50 (fun q => hP _ _ q (by unfold fFX; omega))).1.trans h.1.2.2⟩, xFr_lo ok (fun a k q => (f.2 a k (fun z => hP a k z (by unfold loX at q; unfold fFX; omega))).1) h.2⟩
/-- a new top frame over the same ones below -/
theorem tFs_top {T T' : zM} {r r' : mF} {F : List mF} (h : tFs T (r :: F)) (ok : mFok F) (e : ∀ a k, loT F.length a k → gi T' a k = gi T a k) (e92 : gi T' 97 92 = gi T 97 92) (h1 : tf1 T' F.length r') : tFs T' (r' :: F) :=
  ⟨e92.trans h.1, h1, tFr_lo ok e h.2.2⟩
theorem xFs_top {M M' : zM} {r r' : mF} {F : List mF} (h : xFs M (r :: F)) (ok : mFok F) (e : ∀ a k, loX F.length (mtot F) (mtt F) a k → gi M' a k = gi M a k) (e49 : gi M' 16 49 = gi M 16 49) (e38 : gi M' 16 38 = nI (r'.st.length + mtot F)) (e50 : gi M' 16 50 = nI (r'.tr.length + mtt F)) (h1 : xf1 M' F.length (mtot F) (mtt F) r') : xFs M' (r' :: F) :=
  ⟨⟨e49.trans h.1.1, e38, e50⟩, h1, xFr_lo ok e h.2.2⟩
