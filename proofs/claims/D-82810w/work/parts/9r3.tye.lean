/-! TYPES OF CODE: expressions -/
def eok (θ : tH) (f : Nat) (e : gN) : Prop := e.1 = f ∧ ∀ x h, e.2 x = some h → θ.2.1 f h x
def cx (P : Nat → Prop) (μ : Nat → tyP) (s : gS) (g : Nat) (L : List Bool) (t : List (Nat × Nat)) : Prop := tkm μ s.m g L t ∧ ∀ x ∈ t, x.1 < s.m ∧ P x.1
def tyE (θ : tH) (f : Nat) (g : gEx) : Prop := ∀ e Γ L s μ P, eok θ f e → cx P μ s e.1 L (trs Γ) → tyS θ μ P s (L, trs Γ, e.1) → ∃ μ', tyR θ P μ s (L, trs Γ, e.1) μ' (g e Γ L s) (false :: L, trs Γ, e.1)
/-- within an expression -/
def tJ (θ : tH) (P : Nat → Prop) (μ0 : Nat → tyP) (s0 : gS) (F0 : tyP) (e : gN) (Γ : gK) (B : List Bool) (s : gS) (L : List Bool) : Prop := ∃ μ, tyR θ P μ0 s0 F0 μ s (L, trs Γ, e.1) ∧ cx P μ s e.1 B (trs Γ)
theorem psh_add (n m : Nat) (B : List Bool) : psh (n + m) B = psh n (psh m B) := by
  show List.replicate (n + m) false ++ B = List.replicate n false ++ (List.replicate m false ++ B)
  rw [← List.append_assoc, List.replicate_append_replicate]
section
variable {θ : tH} {f : Nat} {P : Nat → Prop} {μ μ' μ0 : Nat → tyP} {s s' s0 : gS} {F F' F0 : tyP} {e : gN} {Γ : gK} {B L : List Bool} {g : Nat} {t : List (Nat × Nat)}
theorem cx.mv (h : cx P μ s g L t) (r : tyR θ P μ s F μ' s' F') : cx P μ' s' g L t := ⟨h.1.mono r.2.2.1 r.2.1, fun x hx => ⟨Nat.lt_of_lt_of_le (h.2 x hx).1 r.2.1, (h.2 x hx).2⟩⟩
theorem cx.ps (n : Nat) (h : cx P μ s g L t) : cx P μ s g (psh n L) t := ⟨h.1.app _, h.2⟩
theorem cx.pn (h : cx P μ s g L t) : ∀ x ∈ t, pnd P s x.1 := fun x hx => ⟨(h.2 x hx).1, fun _ => (h.2 x hx).2⟩
theorem tJ.rf (h : tyS θ μ P s (L, trs Γ, e.1)) (hc : cx P μ s e.1 L (trs Γ)) : tJ θ P μ s (L, trs Γ, e.1) e Γ L s L := ⟨μ, tyR.rf h, hc⟩
theorem tJ.nd {L' : List Bool} (h : tJ θ P μ0 s0 F0 e Γ B s L') : ∃ μ', tyR θ P μ0 s0 F0 μ' s (L', trs Γ, e.1) := ⟨h.choose, h.choose_spec.1⟩
theorem tJ.ex {x : gEx} (n : Nat) (h : tJ θ P μ0 s0 F0 e Γ B s (psh n B)) (he : eok θ f e) (hx : tyE θ f x) : tJ θ P μ0 s0 F0 e Γ B (x e Γ (psh n B) s) (psh (n + 1) B) := by
  obtain ⟨μ, h1, h2⟩ := h
  obtain ⟨μ', h3⟩ := hx e Γ (psh n B) s μ P he (h2.ps n) h1.1
  exact ⟨μ', h1.tr h3, h2.mv h3⟩
theorem tJ.em {op a b : Int32} {L' : List Bool} (n : Nat) (h : tJ θ P μ0 s0 F0 e Γ B s (psh n B)) (ho : ∀ μ, tkm μ s.m e.1 B (trs Γ) → opF θ s.si (psh n B) (trs Γ) e.1 (fun x => (L', trs Γ, e.1) = x) (fun m x => μ m = x) (fun L => tkm μ s.m e.1 L (trs Γ)) op a b none) : tJ θ P μ0 s0 F0 e Γ B (em e Γ (psh n B) op a b none s) L' := by
  obtain ⟨μ, h1, h2⟩ := h
  have := ty_em (F' := (L', trs Γ, e.1)) h1.1 (ho μ h2.1) (h2.ps n).1 (fun _ z => by cases z) h2.pn
  exact ⟨μ, h1.tr this, h2.mv this⟩
theorem tJ.sit {L' : List Bool} (h : tJ θ P μ0 s0 F0 e Γ B s L') : tJ θ P μ0 s0 F0 e Γ B (sit s) L' := by
  obtain ⟨μ, h1, h2⟩ := h
  have := ty_sit h1.1
  exact ⟨μ, h1.tr this, h2.mv this⟩
theorem tJ.get {x : Nat} (n : Nat) (h : tJ θ P μ0 s0 F0 e Γ B s (psh n B)) (he : eok θ f e) : tJ θ P μ0 s0 F0 e Γ B (gGet x e Γ (psh n B) s) (psh (n + 1) B) := by
  unfold gGet
  split
  · exact h.em n fun μ _ => .ld (by have := he.2 x _ ‹_›; rw [he.1]; exact this) rfl
  · exact h.em n fun μ _ => .gl rfl
theorem tJ.set {x : Nat} (n : Nat) (h : tJ θ P μ0 s0 F0 e Γ B s (psh (n + 1) B)) (he : eok θ f e) (hx : x < θ.1) : tJ θ P μ0 s0 F0 e Γ B (gSet x e Γ (psh (n + 1) B) s) (psh (n + 1) B) := by
  unfold gSet
  split
  · exact h.em (n + 1) fun μ _ => .st (L' := psh n B) (by have := he.2 x _ ‹_›; rw [he.1]; exact this) rfl rfl
  · exact h.em (n + 1) fun μ _ => .sg (L' := psh n B) hx rfl rfl
theorem tJ.arg (he : eok θ f e) : ∀ {as : List gEx} (n : Nat) {s : gS}, (∀ a ∈ as, tyE θ f a) → tJ θ P μ0 s0 F0 e Γ B s (psh n B) → tJ θ P μ0 s0 F0 e Γ B (gArg as e Γ (psh n B) s) (psh (n + as.length) B)
  | [], n, s, _, h => h
  | a :: as, n, s, ha, h => by
    have := tJ.arg he (as := as) (n + 1) (fun b hb => ha b (List.mem_cons_of_mem _ hb)) (h.ex n he (ha a List.mem_cons_self))
    rw [List.length_cons, show n + (as.length + 1) = n + 1 + as.length by omega]
    exact this
theorem tJ.its (he : eok θ f e) : ∀ {r : List (Int32 × Int32 × gEx)} {s : gS}, (∀ q ∈ r, coK θ.1 q.1 q.2.1 ∧ tyE θ f q.2.2) → tJ θ P μ0 s0 F0 e Γ B s (psh 1 B) → tJ θ P μ0 s0 F0 e Γ B (gIts r e Γ B s) (psh 1 B)
  | [], s, _, h => h
  | (c, v, x) :: r, s, hr, h => by
    have a := hr _ List.mem_cons_self
    have h1 := h.em (L' := psh 2 B) (op := 18) (a := 0) (b := 0) 1 fun μ _ => .cp (L' := B) rfl rfl
    have h2 := (h1.em (L' := psh 3 B) (op := 0) (a := c) (b := v) 2 fun μ _ => .co a.1 rfl).ex 3 he a.2
    have h3 := h2.em (L' := psh 2 B) (op := 11) (a := 0) (b := 0) 4 fun μ _ => .pt (L' := psh 1 B) rfl rfl
    have h4 := h3.em (L' := psh 1 B) (op := 17) (a := 0) (b := 0) 2 fun μ _ => .dr (c := false) (L' := psh 1 B) rfl rfl
    exact tJ.its (r := r) he (fun q hq => hr q (List.mem_cons_of_mem _ hq)) h4
/-- a mark's own place: from here on it waits -/
theorem ty_cls {N : Nat} {Φ : Nat → Prop} (hN : N ≤ θ.1) (hΦ : ∀ k, Φ k → θ.2.2 f k) {n : Nat} {g : gEx} (h : cEx N Φ n g) : tyE θ f g := by
  induction h using cEx.ind with
  | mono _ _ ih => exact ih
  | co h => exact fun e Γ L s μ P he hc ht => ((tJ.rf ht hc).em (L' := psh 1 L) 0 fun μ _ => .co (h.mono hN) rfl).nd
  | th => exact fun e Γ L s μ P he hc ht => ((tJ.rf ht hc).em (L' := psh 1 L) 0 fun μ _ => .th rfl).nd
  | get h => exact fun e Γ L s μ P he hc ht => ((tJ.rf ht hc).get 0 he).nd
  | md h => exact fun e Γ L s μ P he hc ht => ((tJ.rf ht hc).em (L' := psh 1 L) 0 fun μ _ => .md (by rw [he.1]; exact hΦ _ h) rfl).nd
  | mem _ _ i1 i2 => exact fun e Γ L s μ P he hc ht => ((((tJ.rf ht hc).ex 0 he i1).ex 1 he i2).em (L' := psh 1 L) 2 fun μ _ => .b2 (L' := L) (.inl rfl) rfl rfl).nd
  | @call n f' as _ _ _ i1 i2 =>
    intro e Γ L s μ P he hc ht
    have h1 := ((((tJ.rf ht hc).em (L' := psh 1 L) (op := 0) (a := 0) (b := 0) 0 fun μ _ => .co ⟨0, by decide, rfl, fun z => by cases z⟩ rfl).ex 1 he i1).arg he 2 i2)
    rw [Nat.add_comm 2] at h1
    exact (h1.em (L' := psh 1 L) (as.length + 2) fun μ hk => .cl (L' := L) (psh_add as.length 2 L) hk rfl).nd
  | @callM n o k as _ _ _ _ i1 i2 i3 =>
    intro e Γ L s μ P he hc ht
    have h1 := (((tJ.rf ht hc).ex 0 he i1).em (L' := psh 2 L) (op := 18) (a := 0) (b := 0) 1 fun μ _ => .cp (L' := L) rfl rfl).ex 2 he i2
    have h2 := (h1.em (L' := psh 2 L) (op := 10) (a := 0) (b := 0) 3 fun μ _ => .b2 (L' := psh 1 L) (.inl rfl) rfl rfl).arg he 2 i3
    rw [Nat.add_comm 2] at h2
    exact (h2.em (L' := psh 1 L) (as.length + 2) fun μ hk => .cl (L' := L) (psh_add as.length 2 L) hk rfl).nd
  | @new n f' as _ _ _ i1 i2 =>
    intro e Γ L s μ P he hc ht
    have h1 := ((tJ.rf ht hc).ex 0 he i1).arg he 1 i2
    rw [Nat.add_comm 1] at h1
    exact (h1.sit.em (L' := psh 1 L) (as.length + 1) fun μ hk => .ne (L' := L) (Nat.lt_succ_self _) (psh_add as.length 1 L) hk rfl).nd
  | @itm n op r h1 h2 _ i =>
    intro e Γ L s μ P he hc ht
    exact (((tJ.rf ht hc).sit.em (op := op) (a := Int32.ofNat s.si) (b := 0) (L' := psh 1 L) 0 fun μ _ => .nw h1 (Nat.lt_succ_self _) rfl).its he fun q hq => ⟨(h2 q hq).mono hN, i q hq⟩).nd
  | un h _ i => exact fun e Γ L s μ P he hc ht => (((tJ.rf ht hc).ex 0 he i).em (L' := psh 1 L) 1 fun μ _ => .un (L' := L) h rfl rfl).nd
  | void _ i => exact fun e Γ L s μ P he hc ht => ((((tJ.rf ht hc).ex 0 he i).em (L' := psh 0 L) 1 fun μ _ => .dr (c := false) (L' := L) rfl rfl).em (L' := psh 1 L) 0 fun μ _ => .co ⟨0, by decide, rfl, fun z => by cases z⟩ rfl).nd
  | del _ _ i1 i2 => exact fun e Γ L s μ P he hc ht => ((((tJ.rf ht hc).ex 0 he i1).ex 1 he i2).em (L' := psh 1 L) 2 fun μ _ => .b2 (L' := L) (.inr rfl) rfl rfl).nd
  | @typ n x h =>
    intro e Γ L s μ P he hc ht
    unfold gTyp
    split
    · exact (((tJ.rf ht hc).em (L' := psh 1 L) 0 fun μ _ => .ld (by have := he.2 x _ ‹_›; rw [he.1]; exact this) rfl).em (L' := psh 1 L) 1 fun μ _ => .un (h := 4) (L' := L) (by decide) rfl rfl).nd
    · exact ((tJ.rf ht hc).em (L' := psh 1 L) 0 fun μ _ => .tg rfl).nd
  | bin h _ _ i1 i2 => exact fun e Γ L s μ P he hc ht => ((((tJ.rf ht hc).ex 0 he i1).ex 1 he i2).em (L' := psh 1 L) 2 fun μ _ => .bi (L' := L) h rfl rfl).nd
  | @and n op x y h _ _ i1 i2 =>
    intro e Γ L s μ P he hc ht
    obtain ⟨μ1, r1, c1⟩ := (tJ.rf ht hc).ex 0 he i1
    have r2 := ty_mkm (P := fun k => P k ∨ k = (x e Γ L s).m) (psh 1 L, trs Γ, e.1) (r1.1.mono fun _ z => .inl z)
    have c2 : cx (fun k => P k ∨ k = (x e Γ L s).m) μ1 (x e Γ L s) e.1 L (trs Γ) := ⟨c1.1, fun z hz => ⟨(c1.2 z hz).1, .inl (c1.2 z hz).2⟩⟩
    have c3 := c2.mv r2
    have r4 := ty_em (F' := (L, trs Γ, e.1)) (op := op) (a := 0) (b := 0) (mk := some (x e Γ L s).m) r2.1 (.ao (L' := L) h rfl (if_pos rfl) rfl) (c3.ps 1).1 (fun m z => by cases z; exact ⟨Nat.lt_succ_self _, fun _ => .inr rfl⟩) c3.pn
    obtain ⟨μ5, r5⟩ := i2 e Γ L _ _ _ he (c3.mv r4) r4.1
    have e5 : μ5 (x e Γ L s).m = (psh 1 L, trs Γ, e.1) := (r5.2.2.1 _ (Nat.lt_succ_self _)).trans (if_pos rfl)
    have r6 := ty_hre (m := (x e Γ L s).m) r5.1 (Nat.lt_of_lt_of_le (Nat.lt_succ_self _) r5.2.1) e5.symm
    exact ⟨μ5, (((r1.tr r2).tr r4).tr r5).tr r6⟩
  | @choice n x y z _ _ _ i1 i2 i3 =>
    intro e Γ L s μ P he hc ht
    have r1 := ty_mkm (P := fun k => (P k ∨ k = s.m + 1) ∨ k = s.m) (L, trs Γ, e.1) (ht.mono fun _ z => .inl (.inl z))
    have r2 := ty_mkm (P := fun k => (P k ∨ k = s.m + 1) ∨ k = s.m) (psh 1 L, trs Γ, e.1) r1.1
    have c0 : cx (fun k => (P k ∨ k = s.m + 1) ∨ k = s.m) μ s e.1 L (trs Γ) := ⟨hc.1, fun z hz => ⟨(hc.2 z hz).1, .inl (.inl (hc.2 z hz).2)⟩⟩
    have c2 := (c0.mv r1).mv r2
    obtain ⟨μ3, r3⟩ := i1 e Γ L _ _ _ he c2 r2.1
    have l3 : s.m + 1 < (x e Γ L (mkm (mkm s))).m := Nat.lt_of_lt_of_le (Nat.lt_succ_self _) r3.2.1
    have e3 : μ3 s.m = (L, trs Γ, e.1) := (r3.2.2.1 s.m (show s.m < s.m + 1 + 1 by omega)).trans ((if_neg (show ¬ s.m = s.m + 1 by omega)).trans (if_pos rfl))
    have f3 : μ3 (s.m + 1) = (psh 1 L, trs Γ, e.1) := (r3.2.2.1 (s.m + 1) (show s.m + 1 < s.m + 1 + 1 by omega)).trans (if_pos rfl)
    have c3 := c2.mv r3
    have r4 := ty_em (F' := (L, trs Γ, e.1)) (op := 22) (a := 0) (b := 0) (mk := some s.m) r3.1 (.ul (L' := L) rfl e3 rfl) (c3.ps 1).1 (fun m z => by cases z; exact ⟨by omega, fun _ => .inr rfl⟩) c3.pn
    have c4 := c3.mv r4
    obtain ⟨μ5, r5⟩ := i2 e Γ L _ _ _ he c4 r4.1
    have c5 := c4.mv r5
    have l5 := r5.2.1
    have l5 : (x e Γ L (mkm (mkm s))).m ≤ (y e Γ L (em e Γ (psh 1 L) 22 0 0 (some s.m) (x e Γ L (mkm (mkm s))))).m := l5
    have e5 : μ5 s.m = (L, trs Γ, e.1) := (r5.2.2.1 s.m (show s.m < (x e Γ L (mkm (mkm s))).m by omega)).trans e3
    have f5 : μ5 (s.m + 1) = (psh 1 L, trs Γ, e.1) := (r5.2.2.1 (s.m + 1) l3).trans f3
    have r6 := ty_em (F' := (L, trs Γ, e.1)) (op := 21) (a := 0) (b := 0) (mk := some (s.m + 1)) r5.1 (.jm f5) (c5.ps 1).1 (fun m z => by cases z; exact ⟨Nat.lt_of_lt_of_le l3 l5, fun _ => .inl (.inr rfl)⟩) c5.pn
    have r7 := ty_hre (P := fun k => P k ∨ k = s.m + 1) (m := s.m) r6.1 (show s.m < (y e Γ L (em e Γ (psh 1 L) 22 0 0 (some s.m) (x e Γ L (mkm (mkm s))))).m by omega) e5.symm
    have c7 : cx (fun k => P k ∨ k = s.m + 1) μ s e.1 L (trs Γ) := ⟨hc.1, fun z hz => ⟨(hc.2 z hz).1, .inl (hc.2 z hz).2⟩⟩
    have r07 := (((((r1.tr r2).tr r3).tr r4).tr r5).tr r6).tr r7
    obtain ⟨μ8, r8⟩ := i3 e Γ L _ _ _ he (c7.mv r07) r7.1
    have l8 := r8.2.1
    have l8 : (y e Γ L (em e Γ (psh 1 L) 22 0 0 (some s.m) (x e Γ L (mkm (mkm s))))).m ≤ _ := l8
    have f8 : μ8 (s.m + 1) = (psh 1 L, trs Γ, e.1) := (r8.2.2.1 (s.m + 1) (show s.m + 1 < (y e Γ L (em e Γ (psh 1 L) 22 0 0 (some s.m) (x e Γ L (mkm (mkm s))))).m by omega)).trans f5
    have r9 := ty_hre (P := P) (m := s.m + 1) r8.1 (Nat.lt_of_lt_of_le (show s.m + 1 < (y e Γ L (em e Γ (psh 1 L) 22 0 0 (some s.m) (x e Γ L (mkm (mkm s))))).m by omega) l8) f8.symm
    exact ⟨μ8, (r07.tr r8).tr r9⟩
  | com _ _ i1 i2 => exact fun e Γ L s μ P he hc ht => ((((tJ.rf ht hc).ex 0 he i1).em (L' := psh 0 L) 1 fun μ _ => .dr (c := false) (L' := L) rfl rfl).ex 0 he i2).nd
  | gvn0 h _ i => exact fun e Γ L s μ P he hc ht => (((tJ.rf ht hc).ex 0 he i).set 0 he (by omega)).nd
  | gvn1 h h2 _ i => exact fun e Γ L s μ P he hc ht => (((((tJ.rf ht hc).get 0 he).ex 1 he i).em (L' := psh 1 L) 2 fun μ _ => .bi (L' := L) h2 rfl rfl).set 0 he (by omega)).nd
  | gvm0 _ _ _ i1 i2 i3 => exact fun e Γ L s μ P he hc ht => (((((tJ.rf ht hc).ex 0 he i1).ex 1 he i2).ex 2 he i3).em (L' := psh 1 L) 3 fun μ _ => .pt (L' := L) rfl rfl).nd
  | gvm1 h _ _ _ i1 i2 i3 =>
    intro e Γ L s μ P he hc ht
    have h1 := ((((tJ.rf ht hc).ex 0 he i1).ex 1 he i2).em (L' := psh 4 L) (op := 19) (a := 0) (b := 0) 2 fun μ _ => .c2 (L' := L) rfl rfl).em (L' := psh 3 L) (op := 10) (a := 0) (b := 0) 4 fun μ _ => .b2 (L' := psh 2 L) (.inl rfl) rfl rfl
    exact (((h1.ex 3 he i3).em (L' := psh 3 L) 4 fun μ _ => .bi (L' := psh 2 L) h rfl rfl).em (L' := psh 1 L) 3 fun μ _ => .pt (L' := L) rfl rfl).nd
  | @bfn n x k h1 h2 =>
    intro e Γ L s μ P he hc ht
    have k1 := (((tJ.rf ht hc).get (x := x) 0 he).em (L' := psh 1 L) (op := 13) (a := 0) (b := 0) 1 fun μ _ => .un (h := 0) (L' := L) (by decide) rfl rfl).em (L' := psh 2 L) (op := 0) (a := 5) (b := 1) 1 fun μ _ => .co ⟨5, by decide, rfl, fun z => by cases z⟩ rfl
    exact ((k1.em (L' := psh 1 L) 2 fun μ _ => .bi (L' := L) h2 rfl rfl).set 0 he (by omega)).nd
  | @bhn n x k h1 h2 =>
    intro e Γ L s μ P he hc ht
    have k1 := ((((tJ.rf ht hc).get (x := x) 0 he).em (L' := psh 1 L) (op := 13) (a := 0) (b := 0) 1 fun μ _ => .un (h := 0) (L' := L) (by decide) rfl rfl).em (L' := psh 2 L) (op := 18) (a := 0) (b := 0) 1 fun μ _ => .cp (L' := L) rfl rfl).em (L' := psh 3 L) (op := 0) (a := 5) (b := 1) 2 fun μ _ => .co ⟨5, by decide, rfl, fun z => by cases z⟩ rfl
    exact (((k1.em (L' := psh 2 L) 3 fun μ _ => .bi (L' := psh 1 L) h2 rfl rfl).set 1 he (by omega)).em (L' := psh 1 L) 2 fun μ _ => .dr (c := false) (L' := psh 1 L) rfl rfl).nd
  | bfm h _ _ i1 i2 =>
    intro e Γ L s μ P he hc ht
    have k1 := ((((tJ.rf ht hc).ex 0 he i1).ex 1 he i2).em (L' := psh 4 L) (op := 19) (a := 0) (b := 0) 2 fun μ _ => .c2 (L' := L) rfl rfl).em (L' := psh 3 L) (op := 10) (a := 0) (b := 0) 4 fun μ _ => .b2 (L' := psh 2 L) (.inl rfl) rfl rfl
    have k2 := (k1.em (L' := psh 3 L) (op := 13) (a := 0) (b := 0) 3 fun μ _ => .un (h := 0) (L' := psh 2 L) (by decide) rfl rfl).em (L' := psh 4 L) (op := 0) (a := 5) (b := 1) 3 fun μ _ => .co ⟨5, by decide, rfl, fun z => by cases z⟩ rfl
    exact ((k2.em (L' := psh 3 L) 4 fun μ _ => .bi (L' := psh 2 L) h rfl rfl).em (L' := psh 1 L) 3 fun μ _ => .pt (L' := L) rfl rfl).nd
  | bhm h _ _ i1 i2 =>
    intro e Γ L s μ P he hc ht
    have k1 := ((((tJ.rf ht hc).ex 0 he i1).ex 1 he i2).em (L' := psh 4 L) (op := 19) (a := 0) (b := 0) 2 fun μ _ => .c2 (L' := L) rfl rfl).em (L' := psh 3 L) (op := 10) (a := 0) (b := 0) 4 fun μ _ => .b2 (L' := psh 2 L) (.inl rfl) rfl rfl
    have k2 := ((k1.em (L' := psh 3 L) (op := 13) (a := 0) (b := 0) 3 fun μ _ => .un (h := 0) (L' := psh 2 L) (by decide) rfl rfl).em (L' := psh 4 L) (op := 20) (a := 0) (b := 0) 3 fun μ _ => .c3 (L' := L) rfl rfl).em (L' := psh 5 L) (op := 0) (a := 5) (b := 1) 4 fun μ _ => .co ⟨5, by decide, rfl, fun z => by cases z⟩ rfl
    exact (((k2.em (L' := psh 4 L) 5 fun μ _ => .bi (L' := psh 3 L) h rfl rfl).em (L' := psh 2 L) 4 fun μ _ => .pt (L' := psh 1 L) rfl rfl).em (L' := psh 1 L) 2 fun μ _ => .dr (c := false) (L' := psh 1 L) rfl rfl).nd
end
