/-! A STEP of both machines: the moves -/
section
variable {A A' : mA} {G : mG} {W : mW} {par : Nat → Nat} {C : mI} {nm : Nat} {r : mF} {F : List mF} {L : List Bool} {t : List (Nat × Nat)} {g : Nat} {P : List Nat}
theorem pair_w {r' : mF} (j : J G par A) (hP : P.length ≤ 100 ∧ ∀ x ∈ P, x < (aL A).length) (h : frsOK A G W (r :: F)) (ht : topOK A G W r')
    (hX : ∀ (E : zE) (d : Nat) (M : zM) (Q : zO → zM → Prop), gX M A (r :: F) → kX M C → wX Q M A (r' :: F) → Z E YX1_step (d + 7) M [(0, zX16), (1, vi (nI r.pl))] 0 [] Q)
    (hT : ∀ (E : zE) (d : Nat) (T : zM) (Q : zO → zM → Prop), gT T A (r :: F) → kT T C → wT Q T A (r' :: F) → Zm E YX8_step_2 (d + 800) T [(0, T97)] 0 [] Q) : pairO C G par W A P r F := by
  refine ⟨(0, A, r' :: F, P, 0, 0), ⟨gro.rf, j.1, fun _ => ⟨j, ⟨h.1, ht, h.2.2⟩, _, _, rfl⟩, fun e => absurd (show (0 : Nat) = 1 from e) (by decide), fun e => absurd (show (0 : Nat) = 3 from e) (by decide), Nat.zero_le _, hP⟩, fun E d M Q a b c e f => hX E d M Q a e (fun M' g' f' => f.1 rfl M' g' (xLn_cX c f') (f'.mono fun a k q => .inl q)), fun E d T Q a b c e f => hT E d T Q a e (fun T' g' f' => f.1 rfl T' g' (tLn_cT c f') (f'.mono fun a k q => .inl q))⟩
theorem p_drop {q : Int32 × Int32 × Int32} (b : base C G par W nm A P r F L t g q) (e : q.1 = 17) (hx : ∃ c L', L = c :: L' ∧ nxt W (r.pl + 1) L' t g) : pairO C G par W A P r F := by
  obtain ⟨j, hnm, hP, h, w, hw, hf, hq⟩ := b
  obtain ⟨ok, hh, hpl⟩ := frs_ok w h
  obtain ⟨c, L', rfl, hx⟩ := hx
  obtain ⟨f1, f2, f3, f4, f5, f6⟩ := hf
  cases est : r.st with
  | nil => rw [est] at f6; exact f6.elim
  | cons c1 st =>
    rw [est] at f6
    exact pair_w (r' := mFst (mFpl r (r.pl + 1)) st) j hP h ⟨_, _, _, hx.2, f1, f2, f3, f4, f5, f6.2⟩ (fun E d M Q gm km v => xs_drop (d := d + 5) gm ok ((km _ _ hq).1.trans e) (km _ _ hq).2.1 est v) (fun E d T Q gt kt v => ts_drop (d := d + 797) gt ok ((kt _ _ hq).1.trans e) (kt _ _ hq).2.1 est v)
theorem p_copy {q : Int32 × Int32 × Int32} (b : base C G par W nm A P r F L t g q) (e : q.1 = 18) (hx : ∃ L', L = false :: L' ∧ nxt W (r.pl + 1) (false :: L) t g) : pairO C G par W A P r F := by
  obtain ⟨j, hnm, hP, h, w, hw, hf, hq⟩ := b
  obtain ⟨ok, hh, hpl⟩ := frs_ok w h
  obtain ⟨L', rfl, hx⟩ := hx
  obtain ⟨f1, f2, f3, f4, f5, f6⟩ := hf
  obtain ⟨c1, st1, e1, v1, hst⟩ := st_f f6
  exact pair_w (r' := mFst (mFpl r (r.pl + 1)) ((c1.1, c1.2.1, 0, 0) :: r.st)) j hP h ⟨_, _, _, hx.2, f1, f2, f3, f4, f5, v1, f6⟩ (fun E d M Q gm km v => xs_copy (d := d + 5) gm ok ((km _ _ hq).1.trans e) (km _ _ hq).2.1 e1 v1 v) (fun E d T Q gt kt v => ts_copy (d := d + 797) gt ok ((kt _ _ hq).1.trans e) (kt _ _ hq).2.1 e1 v1 v)
theorem p_copy2 {q : Int32 × Int32 × Int32} (b : base C G par W nm A P r F L t g q) (e : q.1 = 19) (hx : ∃ L', L = false :: false :: L' ∧ nxt W (r.pl + 1) (false :: false :: L) t g) : pairO C G par W A P r F := by
  obtain ⟨j, hnm, hP, h, w, hw, hf, hq⟩ := b
  obtain ⟨ok, hh, hpl⟩ := frs_ok w h
  obtain ⟨L', rfl, hx⟩ := hx
  have hsz := (w.1 _ _ _ _ hw).2.1
  obtain ⟨f1, f2, f3, f4, f5, f6⟩ := hf
  have hl := stOK_len f6
  obtain ⟨c1, st1, e1, v1, hst⟩ := st_f f6
  obtain ⟨c2, st2, e2, v2, hst⟩ := st_f hst
  have est : r.st = c1 :: c2 :: st2 := by rw [← e2]; exact e1
  exact pair_w (r' := mFst (mFpl r (r.pl + 1)) ((c1.1, c1.2.1, 0, 0) :: (c2.1, c2.2.1, 0, 0) :: r.st)) j hP h ⟨_, _, _, hx.2, f1, f2, f3, f4, f5, v1, v2, f6⟩ (fun E d M Q gm km v => xs_copy2 (d := d + 5) gm ok (by omega) ((km _ _ hq).1.trans e) (km _ _ hq).2.1 est v1 v2 v) (fun E d T Q gt kt v => ts_copy2 (d := d + 796) gt ok (by omega) ((kt _ _ hq).1.trans e) (kt _ _ hq).2.1 est v1 v2 v)
theorem p_under {q : Int32 × Int32 × Int32} (b : base C G par W nm A P r F L t g q) (e : q.1 = 20) (hx : ∃ L', L = false :: false :: false :: L' ∧ nxt W (r.pl + 1) (false :: L) t g) : pairO C G par W A P r F := by
  obtain ⟨j, hnm, hP, h, w, hw, hf, hq⟩ := b
  obtain ⟨ok, hh, hpl⟩ := frs_ok w h
  obtain ⟨L', rfl, hx⟩ := hx
  obtain ⟨f1, f2, f3, f4, f5, f6⟩ := hf
  obtain ⟨c1, st1, e1, v1, hst⟩ := st_f f6
  obtain ⟨c2, st2, e2, v2, hst⟩ := st_f hst
  obtain ⟨c3, st3, e3, v3, hst⟩ := st_f hst
  have est : r.st = c1 :: c2 :: c3 :: st3 := by rw [← e3, ← e2]; exact e1
  exact pair_w (r' := mFst (mFpl r (r.pl + 1)) ((c1.1, c1.2.1, 0, 0) :: (c2.1, c2.2.1, 0, 0) :: (c3.1, c3.2.1, 0, 0) :: (c1.1, c1.2.1, 0, 0) :: st3)) j hP h ⟨_, _, _, hx.2, f1, f2, f3, f4, f5, v1, v2, v3, v1, hst⟩ (fun E d M Q gm km v => xs_under (d := d + 5) gm ok ((km _ _ hq).1.trans e) (km _ _ hq).2.1 est v1 v2 v3 v) (fun E d T Q gt kt v => ts_under (d := d + 796) gt ok ((kt _ _ hq).1.trans e) (kt _ _ hq).2.1 est v1 v2 v3 v)
theorem p_jump {q : Int32 × Int32 × Int32} (b : base C G par W nm A P r F L t g q) (e : q.1 = 21) (hx : ∃ p, q.2.1 = nI p ∧ nxt W p L t g) : pairO C G par W A P r F := by
  obtain ⟨j, hnm, hP, h, w, hw, hf, hq⟩ := b
  obtain ⟨ok, hh, hpl⟩ := frs_ok w h
  obtain ⟨p, ea, hx⟩ := hx
  exact pair_w (r' := mFpl r p) j hP h ⟨_, _, _, hx.2, hf⟩ (fun E d M Q gm km v => xs_jump (d := d + 6) gm ok hx.1 ((km _ _ hq).1.trans e) ((km _ _ hq).2.1.trans ea) v) (fun E d T Q gt kt v => ts_jump (d := d + 798) gt ok ((kt _ _ hq).1.trans e) ((kt _ _ hq).2.1.trans ea) v)
theorem p_unless {q : Int32 × Int32 × Int32} (b : base C G par W nm A P r F L t g q) (e : q.1 = 22) (hx : ∃ p L', q.2.1 = nI p ∧ L = false :: L' ∧ nxt W p L' t g ∧ nxt W (r.pl + 1) L' t g) : pairO C G par W A P r F := by
  obtain ⟨j, hnm, hP, h, w, hw, hf, hq⟩ := b
  obtain ⟨ok, hh, hpl⟩ := frs_ok w h
  obtain ⟨p, L', ea, rfl, hx1, hx2⟩ := hx
  obtain ⟨f1, f2, f3, f4, f5, f6⟩ := hf
  obtain ⟨c1, st1, e1, v1, hst⟩ := st_f f6
  refine pair_w (r' := mFpl (mFst r st1) (if mtr (aL A) c1.1 c1.2.1 = true then r.pl + 1 else p)) j hP h ?_ (fun E d M Q gm km v => xs_unless (d := d + 4) gm ok ((km _ _ hq).1.trans e) ((km _ _ hq).2.1.trans ea) hx1.1 e1 v1 v) (fun E d T Q gt kt v => ts_unless (d := d + 797) gt ok ((kt _ _ hq).1.trans e) ((kt _ _ hq).2.1.trans ea) e1 v1 v)
  by_cases hb : mtr (aL A) c1.1 c1.2.1 = true
  · rw [if_pos hb]; exact ⟨_, _, _, hx2.2, f1, f2, f3, f4, f5, hst⟩
  · rw [if_neg hb]; exact ⟨_, _, _, hx1.2, f1, f2, f3, f4, f5, hst⟩
theorem p_andor {q : Int32 × Int32 × Int32} (b : base C G par W nm A P r F L t g q) (e : q.1 = 23 ∨ q.1 = 24) (hx : ∃ p L', q.2.1 = nI p ∧ L = false :: L' ∧ nxt W p L t g ∧ nxt W (r.pl + 1) L' t g) : pairO C G par W A P r F := by
  obtain ⟨j, hnm, hP, h, w, hw, hf, hq⟩ := b
  obtain ⟨ok, hh, hpl⟩ := frs_ok w h
  obtain ⟨p, L', ea, rfl, hx1, hx2⟩ := hx
  obtain ⟨o, eo⟩ : ∃ o : Bool, q.1 = if o = true then 24 else 23 := by
    rcases e with e | e
    · exact ⟨false, e⟩
    · exact ⟨true, e⟩
  have hf' := hf
  obtain ⟨f1, f2, f3, f4, f5, f6⟩ := hf
  obtain ⟨c1, st1, e1, v1, hst⟩ := st_f f6
  refine pair_w (r' := if mtr (aL A) c1.1 c1.2.1 = o then mFpl r p else mFst (mFpl r (r.pl + 1)) st1) j hP h ?_ (fun E d M Q gm km v => xs_andor (d := d + 4) gm ok ((km _ _ hq).1.trans eo) ((km _ _ hq).2.1.trans ea) hx1.1 e1 v1 v) (fun E d T Q gt kt v => ts_andor (d := d + 797) gt ok ((kt _ _ hq).1.trans eo) ((kt _ _ hq).2.1.trans ea) e1 v1 v)
  by_cases hb : mtr (aL A) c1.1 c1.2.1 = o
  · rw [if_pos hb]; exact ⟨_, _, _, hx1.2, hf'⟩
  · rw [if_neg hb]; exact ⟨_, _, _, hx2.2, f1, f2, f3, f4, f5, hst⟩
theorem p_try {q : Int32 × Int32 × Int32} (b : base C G par W nm A P r F L t g q) (e : q.1 = 27) (hx : ∃ p, q.2.1 = nI p ∧ p < 600 ∧ nxt W (r.pl + 1) L ((p, L.length) :: t) g) : pairO C G par W A P r F := by
  obtain ⟨j, hnm, hP, h, w, hw, hf, hq⟩ := b
  obtain ⟨ok, hh, hpl⟩ := frs_ok w h
  obtain ⟨p, ea, hp6, hx⟩ := hx
  have hsz := (w.1 _ _ _ _ hx.2).2.2.1
  obtain ⟨f1, f2, f3, f4, f5, f6⟩ := hf
  have hl := stOK_len f6
  have ht40 : r.tr.length < 40 := by rw [f5]; rw [List.length_cons] at hsz; omega
  refine pair_w (r' := mFtr (mFpl r (r.pl + 1)) ((p, r.st.length) :: r.tr)) j hP h ⟨_, _, _, hx.2, f1, f2, f3, f4, ?_, f6⟩ (fun E d M Q gm km v => xs_try (d := d + 5) gm ok ((km _ _ hq).1.trans e) ((km _ _ hq).2.1.trans ea) hp6 ht40 v) (fun E d T Q gt kt v => ts_try (d := d + 797) gt ok ((kt _ _ hq).1.trans e) ((kt _ _ hq).2.1.trans ea) ht40 v)
  show (p, r.st.length) :: r.tr = (p, L.length) :: t
  rw [hl, f5]
theorem p_leave {q : Int32 × Int32 × Int32} (b : base C G par W nm A P r F L t g q) (e : q.1 = 28) (hx : ∃ q0 t', t = q0 :: t' ∧ nxt W (r.pl + 1) L t' g) : pairO C G par W A P r F := by
  obtain ⟨j, hnm, hP, h, w, hw, hf, hq⟩ := b
  obtain ⟨ok, hh, hpl⟩ := frs_ok w h
  obtain ⟨q0, t', rfl, hx⟩ := hx
  obtain ⟨f1, f2, f3, f4, f5, f6⟩ := hf
  exact pair_w (r' := mFtr (mFpl r (r.pl + 1)) t') j hP h ⟨_, _, _, hx.2, f1, f2, f3, f4, rfl, f6⟩ (fun E d M Q gm km v => xs_leave (d := d + 5) gm ok ((km _ _ hq).1.trans e) (km _ _ hq).2.1 f5 v) (fun E d T Q gt kt v => ts_leave (d := d + 797) gt ok ((kt _ _ hq).1.trans e) (kt _ _ hq).2.1 f5 v)
theorem p_names {q : Int32 × Int32 × Int32} (b : base C G par W nm A P r F L t g q) (e : q.1 = 29) (hx : ∃ L', L = false :: L' ∧ nxt W (r.pl + 1) (true :: L') t g) : pairO C G par W A P r F := by
  obtain ⟨j, hnm, hP, h, w, hw, hf, hq⟩ := b
  obtain ⟨ok, hh, hpl⟩ := frs_ok w h
  obtain ⟨L', rfl, hx⟩ := hx
  obtain ⟨f1, f2, f3, f4, f5, f6⟩ := hf
  obtain ⟨c1, st1, e1, v1, hst⟩ := st_f f6
  refine pair_w (r' := mFst (mFpl r (r.pl + 1)) (m_lst A c1 :: st1)) j hP h ⟨_, _, _, hx.2, f1, f2, f3, f4, f5, ⟨rfl, ?_⟩, hst⟩ (fun E d M Q gm km v => xs_names (d := d + 5) gm ok ((km _ _ hq).1.trans e) (km _ _ hq).2.1 e1 v) (fun E d T Q gt kt v => ts_names (d := d + 797) gt ok ((kt _ _ hq).1.trans e) (kt _ _ hq).2.1 e1 v)
  show (if c1.1 = 7 then c1.2.1 else -1) = -1 ∨ ∃ o, (if c1.1 = 7 then c1.2.1 else -1) = nI o ∧ o < aO A
  by_cases c7 : c1.1 = 7
  · rw [if_pos c7]
    obtain ⟨o, eo, ho, -⟩ := mval_j v1 c7
    exact .inr ⟨o, eo, ho⟩
  · rw [if_neg c7]; exact .inl rfl
theorem p_next {q : Int32 × Int32 × Int32} (b : base C G par W nm A P r F L t g q) (e : q.1 = 30) (hx : ∃ p L', q.2.1 = nI p ∧ L = true :: L' ∧ nxt W p L' t g ∧ nxt W (r.pl + 1) (false :: L) t g) : pairO C G par W A P r F := by
  obtain ⟨j, hnm, hP, h, w, hw, hf, hq⟩ := b
  obtain ⟨ok, hh, hpl⟩ := frs_ok w h
  obtain ⟨p, L', ea, rfl, hx1, hx2⟩ := hx
  obtain ⟨f1, f2, f3, f4, f5, f6⟩ := hf
  obtain ⟨c1, st1, e1, v1, hst⟩ := st_t f6
  refine pair_w (r' := m_nf A r c1 st1 p) j hP h ?_ (fun E d M Q gm km v => xs_next (d := d + 5) gm j.1 ok ((km _ _ hq).1.trans e) ((km _ _ hq).2.1.trans ea) hx1.1 e1 v1 v) (fun E d T Q gt kt v => ts_next (d := d + 796) gt j.1 ok ((kt _ _ hq).1.trans e) ((kt _ _ hq).2.1.trans ea) e1 v1 v)
  unfold m_nf
  rcases m_nxt_or j.1 v1 with e0 | ⟨o, z, eo, ho, hz, hz3, e0⟩
  · rw [if_pos e0]; exact ⟨_, _, _, hx1.2, f1, f2, f3, f4, f5, hst⟩
  · rw [if_neg (by rw [e0, nn_m1 (by omega)]; exact fun z => z), e0, nn_cl (by omega)]
    obtain ⟨i, ei, hi⟩ := (j.1.2.2.1 o ho z hz).2.2
    refine ⟨_, _, _, hx2.2, f1, f2, f3, f4, f5, ?_, ⟨rfl, v1.2⟩, hst⟩
    show mval A 6 (gi (aT A) 145 z)
    rw [ei]; exact mval_6 hi
theorem p_throw {q : Int32 × Int32 × Int32} (b : base C G par W nm A P r F L t g q) (e : q.1 = 26) (hx : ∃ L', L = false :: L') : pairO C G par W A P r F := by
  obtain ⟨j, hnm, hP, h, w, hw, hf, hq⟩ := b
  obtain ⟨ok, hh, hpl⟩ := frs_ok w h
  obtain ⟨L', rfl⟩ := hx
  obtain ⟨c1, st1, e1, v1, hst⟩ := st_f hf.2.2.2.2.2
  refine ⟨(1, A, r :: F, P, c1.1, c1.2.1), ⟨gro.rf, j.1, fun e => absurd (show (1 : Nat) = 0 from e) (by decide), fun _ => ⟨j, v1⟩, fun e => absurd (show (1 : Nat) = 3 from e) (by decide), by show (1 : Nat) ≤ 3; omega, hP⟩, fun E d M Q a b' c km f => ?_, fun E d T Q a b' c kt f => ?_⟩
  · exact xs_throw (d := d + 5) a ok hpl ((km _ _ hq).1.trans e) (km _ _ hq).2.1 e1 ⟨fun e => absurd (show (1 : Nat) = 0 from e) (by decide), fun _ M' g x y f' => f.2.1 rfl M' g x y f', fun e => absurd (show (1 : Nat) = 2 from e) (by decide)⟩
  · exact ts_throw (d := d + 796) a ok hh ((kt _ _ hq).1.trans e) (kt _ _ hq).2.1 e1 v1 ⟨fun e => absurd (show (1 : Nat) = 0 from e) (by decide), fun _ => f.2.1 rfl, fun e => absurd (show (1 : Nat) = 2 from e) (by decide)⟩
theorem p_ret {q : Int32 × Int32 × Int32} (b : base C G par W nm A P r F L t g q) (e : q.1 = 25) (hx : ∃ L', L = false :: L') : pairO C G par W A P r F := by
  obtain ⟨j, hnm, hP, h, w, hw, hf, hq⟩ := b
  obtain ⟨ok, hh, hpl⟩ := frs_ok w h
  obtain ⟨L', rfl⟩ := hx
  obtain ⟨c1, st1, e1, v1, hst⟩ := st_f hf.2.2.2.2.2
  cases F with
  | nil =>
    refine ⟨(3, A, [], P, 0, 0), ⟨gro.rf, j.1, fun e => absurd (show (3 : Nat) = 0 from e) (by decide), fun e => absurd (show (3 : Nat) = 1 from e) (by decide), fun _ => j, by show (3 : Nat) ≤ 3; omega, hP⟩, fun E d M Q a b' c km f => ?_, fun E d T Q a b' c kt f => ?_⟩
    · exact xs_ret (d := d + 4) a ok ((km _ _ hq).1.trans e) (km _ _ hq).2.1 e1 v1 (fun _ M' s x y f' => f.2.2.2 rfl M' s x y f') (fun r2 F2 e => by cases e)
    · exact ts_ret (d := d + 796) a ok ((kt _ _ hq).1.trans e) (kt _ _ hq).2.1 e1 v1 (fun _ T' s x y z f' => f.2.2.2 rfl T' s x y z f') (fun r2 F2 e => by cases e)
  | cons r2 F2 =>
    have hr : ∃ s v, m_ret c1 r.1.2.2.2.2 = (s, v, 0, 0) ∧ mval A s v := by
      unfold m_ret
      by_cases h1 : r.1.2.2.2.2 = -1
      · rw [if_pos h1]; exact ⟨_, _, rfl, v1⟩
      · rw [if_neg h1]
        by_cases h7 : c1.1 = 7
        · rw [if_pos h7]; exact ⟨_, _, rfl, v1⟩
        · rw [if_neg h7]
          obtain ⟨o, eo, ho, h3⟩ := hf.2.2.2.1.resolve_left h1
          exact ⟨_, _, rfl, by rw [eo]; exact mval_7 ho h3⟩
    obtain ⟨s, v, er, hv⟩ := hr
    obtain ⟨L2, t2, g2, k1, k2, f1, f2, f3, f4, f5, f6⟩ := h.2.2 r2 List.mem_cons_self
    have hlen : F2.length < 24 := by have := h.1; rw [List.length_cons] at this; omega
    refine ⟨(0, A, mFst r2 ((s, v, 0, 0) :: r2.st) :: F2, P, 0, 0), ⟨gro.rf, j.1, fun _ => ⟨j, ⟨hlen, ⟨_, _, _, k1, f1, f2, f3, f4, f5, hv, f6⟩, fun q hq => h.2.2 q (List.mem_cons_of_mem _ hq)⟩, _, _, rfl⟩, fun e => absurd (show (0 : Nat) = 1 from e) (by decide), fun e => absurd (show (0 : Nat) = 3 from e) (by decide), Nat.zero_le _, hP⟩, fun E d M Q a b' c km f => ?_, fun E d T Q a b' c kt f => ?_⟩
    · exact xs_ret (d := d + 4) a ok ((km _ _ hq).1.trans e) (km _ _ hq).2.1 e1 v1 (fun e => by cases e) (fun r2' F2' ee => by
        cases ee
        rw [er]
        exact fun M' g' f' => f.1 rfl M' g' (xLn_cX c f') (f'.mono fun a k q => .inl q))
    · exact ts_ret (d := d + 796) a ok ((kt _ _ hq).1.trans e) (kt _ _ hq).2.1 e1 v1 (fun e => by cases e) (fun r2' F2' ee => by
        cases ee
        rw [er]
        exact fun T' g' f' => f.1 rfl T' g' (tLn_cT c f') (f'.mono fun a k q => .inl q))
end
