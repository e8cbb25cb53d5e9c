/-! A STEP of both machines: operation by operation -/
section
variable {A A' : mA} {G : mG} {W : mW} {par : Nat → Nat} {C : mI} {nm : Nat} {r : mF} {F : List mF} {L : List Bool} {t : List (Nat × Nat)} {g : Nat} {P : List Nat}
theorem st_f {st : List mC} {L : List Bool} (h : stOK A st (false :: L)) : ∃ c st', st = c :: st' ∧ mval A c.1 c.2.1 ∧ stOK A st' L := by
  cases st with
  | nil => exact h.elim
  | cons c st => exact ⟨c, st, rfl, h.1, h.2⟩
theorem st_t {st : List mC} {L : List Bool} (h : stOK A st (true :: L)) : ∃ c st', st = c :: st' ∧ mlist A c ∧ stOK A st' L := by
  cases st with
  | nil => exact h.elim
  | cons c st => exact ⟨c, st, rfl, h.1, h.2⟩
theorem sc_chain {s : Int32} {h : Nat} (j : J G par A) (hl : lkOK A G s g) (ha : ∀ k, k ≤ h → 1 ≤ anc par g k) : ∀ k, k ≤ h → ∃ o, scA A s k = nI o ∧ isSc A G o (anc par g k)
  | 0, _ => by
    rcases hl with ⟨e, -⟩ | ⟨-, o, e, hs⟩
    · have := ha 0 (Nat.zero_le _); have : 1 ≤ g := this; omega
    · exact ⟨o, e, hs⟩
  | k + 1, hk => by
    have hob := j.1.1.1.2
    obtain ⟨o, e, hs⟩ := sc_chain j hl ha k (by omega)
    have ho := hs.1
    rcases (j.2.2.2.2.2 o _ hs).2 with ⟨e', -⟩ | ⟨-, o', e', hs'⟩
    · have h1 : 1 ≤ par (anc par g k) := ha (k + 1) hk; omega
    · refine ⟨o', ?_, hs'⟩
      show gi (aT A) 140 (scA A s k).toNatClampNeg = _
      rw [e, nn_cl (by omega)]; exact e'
/-- what all cases have -/
def base (C : mI) (G : mG) (par : Nat → Nat) (W : mW) (nm : Nat) (A : mA) (P : List Nat) (r : mF) (F : List mF) (L : List Bool) (t : List (Nat × Nat)) (g : Nat) (q : Int32 × Int32 × Int32) : Prop :=
  J G par A ∧ (nm ≤ (aL A).length ∧ nm < 400) ∧ (P.length ≤ 100 ∧ ∀ x ∈ P, x < (aL A).length) ∧ frsOK A G W (r :: F) ∧ wI C G par W nm ∧ W r.pl = some (L, t, g) ∧ frOK A G r L t g ∧ C[r.pl]? = some q
theorem p_const {q : Int32 × Int32 × Int32} (b : base C G par W nm A P r F L t g q) (e : q.1 = 0) (ha : ∃ s, q.2.1 = nI s ∧ s < 7 ∧ (s = 6 → ∃ j, q.2.2 = nI j ∧ j < nm)) (hx : nxt W (r.pl + 1) (false :: L) t g) : pairO C G par W A P r F := by
  obtain ⟨j, hnm, hP, h, w, hw, hf, hq⟩ := b
  obtain ⟨ok, hh, hpl⟩ := frs_ok w h
  obtain ⟨s, ea, hs, h6⟩ := ha
  refine pair_v (p := (0, A, nI s, q.2.2)) (n := 0) hP h hw hf rfl hx (jv_id j ?_) (fun E d M Q gm xg km v => xs_const (d := d + 6) gm ok hpl ((km _ _ hq).1.trans e) ((km _ _ hq).2.1.trans ea) (km _ _ hq).2.2 (by omega) v) (fun E d T Q gt tg kt v => ts_const (d := d + 797) gt ok ((kt _ _ hq).1.trans e) ((kt _ _ hq).2.1.trans ea) (kt _ _ hq).2.2 (by rw [nn_eql (by omega) (by omega)]; omega) v)
  by_cases s6 : s = 6
  · obtain ⟨i, ei, hi⟩ := h6 s6
    rw [ei, s6]; exact mval_6 (by omega)
  · exact mval_lt (by omega)
theorem p_load {q : Int32 × Int32 × Int32} (b : base C G par W nm A P r F L t g q) (e : q.1 = 1) (ha : varOK G par g q.2.1 q.2.2) (hx : nxt W (r.pl + 1) (false :: L) t g) : pairO C G par W A P r F := by
  obtain ⟨j, hnm, hP, h, w, hw, hf, hq⟩ := b
  obtain ⟨ok, hh, hpl⟩ := frs_ok w h
  obtain ⟨hp, x, qg, ea, eb, hh6, hx4, hanc, hqg, hxm⟩ := ha
  have ch := sc_chain j hf.2.1 hanc
  obtain ⟨o, eo, hs⟩ := ch hp (Nat.le_refl _)
  have has := (j.2.2.2.2.2 o _ hs).1 qg hqg x hxm
  obtain ⟨p, ep, hpm, hp3⟩ := has_own j.1 hs.1 has
  have chs : ∀ k, k < hp → ∃ o, scA A r.1.2.1 k = nI o ∧ o < aO A := fun k hk => by
    obtain ⟨o, a, b⟩ := ch k (by omega); exact ⟨o, a, b.1⟩
  exact pair_v (p := m_val A (nI p)) (n := 0) hP h hw hf rfl hx (jv_prop j hs.1 hpm) (fun E d M Q gm xg km v => xs_load (d := d + 5) gm j.1 ok hpl ((km _ _ hq).1.trans e) ((km _ _ hq).2.1.trans ea) ((km _ _ hq).2.2.trans eb) hh6 chs eo hs.1 ep hpm v) (fun E d T Q gt tg kt v => ts_load (d := d + 797) gt j.1 ok ((kt _ _ hq).1.trans e) ((kt _ _ hq).2.1.trans ea) ((kt _ _ hq).2.2.trans eb) hh6 chs eo hs.1 ep hpm v)
theorem a_set_has {o : Nat} {x s v : Int32} (i : iA A) (ho : o < aO A) (h : has A o x) : ∃ A', a_set A o x s v = (true, A') := by
  obtain ⟨p, ep, -, hp3⟩ := has_own i ho h
  unfold a_set
  rw [if_neg (show ¬ fnd (gi (aT A) 145) x (aP A o) = -1 from by rw [show fnd (gi (aT A) 145) x (aP A o) = nI p from ep, nn_m1 (by omega)]; exact fun z => z)]
  exact ⟨_, rfl⟩
theorem p_store {q : Int32 × Int32 × Int32} (b : base C G par W nm A P r F L t g q) (e : q.1 = 2) (ha : varOK G par g q.2.1 q.2.2) (hL : ∃ L', L = false :: L') (hx : nxt W (r.pl + 1) L t g) : pairO C G par W A P r F := by
  obtain ⟨j, hnm, hP, h, w, hw, hf, hq⟩ := b
  obtain ⟨ok, hh, hpl⟩ := frs_ok w h
  obtain ⟨hp, x, qg, ea, eb, hh6, hx4, hanc, hqg, hxm⟩ := ha
  obtain ⟨L', rfl⟩ := hL
  obtain ⟨c, st, est, hv, hst⟩ := st_f hf.2.2.2.2.2
  have ch := sc_chain j hf.2.1 hanc
  obtain ⟨o, eo, hs⟩ := ch hp (Nat.le_refl _)
  have has := (j.2.2.2.2.2 o _ hs).1 qg hqg x hxm
  have hxl := (j.2.2.1.2.2.2 qg (List.mem_of_getElem? hqg)).2.2.2 x hxm
  obtain ⟨A', ea'⟩ := a_set_has (s := c.1) (v := c.2.1) j.1 hs.1 has
  obtain ⟨j', g', -⟩ := J_set j hs.1 hxl hv (.inr (by rw [hs.2.1]; decide)) ea'
  have chs : ∀ k, k < hp → ∃ o, scA A r.1.2.1 k = nI o ∧ o < aO A := fun k hk => by
    obtain ⟨o, a, b⟩ := ch k (by omega); exact ⟨o, a, b.1⟩
  exact pair_v (p := (0, A', c.1, c.2.1)) (n := 1) (L' := L') hP h hw hf rfl hx (jv_to g' j' (g'.val hv)) (fun E d M Q gm xg km v => xs_store (d := d + 5) gm j.1 ok hpl ((km _ _ hq).1.trans e) ((km _ _ hq).2.1.trans ea) ((km _ _ hq).2.2.trans eb) (by omega) hh6 chs eo hs.1 est hv ea' v) (fun E d T Q gt tg kt v => ts_store (d := d + 797) gt j.1 ok ((kt _ _ hq).1.trans e) ((kt _ _ hq).2.1.trans ea) ((kt _ _ hq).2.2.trans eb) hh6 chs eo hs.1 est hv ea' v)
theorem p_glob {q : Int32 × Int32 × Int32} (b : base C G par W nm A P r F L t g q) (e : q.1 = 3) (hx : nxt W (r.pl + 1) (false :: L) t g) : pairO C G par W A P r F := by
  obtain ⟨j, hnm, hP, h, w, hw, hf, hq⟩ := b
  obtain ⟨ok, hh, hpl⟩ := frs_ok w h
  have h23 := j.2.2.2.1.1
  exact pair_v (p := m_glob A q.2.2) (n := 0) hP h hw hf rfl hx (jv_glob j) (fun E d M Q gm xg km v => xs_glob (d := d + 5) gm j.1 (by omega) ok hpl ((km _ _ hq).1.trans e) (km _ _ hq).2.2 v) (fun E d T Q gt tg kt v => ts_glob (d := d + 795) gt j.1 (by omega) ok hh ((kt _ _ hq).1.trans e) (kt _ _ hq).2.2 v)
theorem p_tglob {q : Int32 × Int32 × Int32} (b : base C G par W nm A P r F L t g q) (e : q.1 = 5) (hx : nxt W (r.pl + 1) (false :: L) t g) : pairO C G par W A P r F := by
  obtain ⟨j, hnm, hP, h, w, hw, hf, hq⟩ := b
  obtain ⟨ok, hh, hpl⟩ := frs_ok w h
  have h23 := j.2.2.2.1.1
  exact pair_v (p := m_tglob A q.2.2) (n := 0) hP h hw hf rfl hx (jv_tglob j) (fun E d M Q gm xg km v => xs_tglob (d := d + 5) gm j.1 (by omega) ok hpl ((km _ _ hq).1.trans e) (km _ _ hq).2.2 v) (fun E d T Q gt tg kt v => ts_tglob (d := d + 795) gt j.1 (by omega) ok hh ((kt _ _ hq).1.trans e) (kt _ _ hq).2.2 v)
theorem p_setg {q : Int32 × Int32 × Int32} (b : base C G par W nm A P r F L t g q) (e : q.1 = 4) (hb : ∃ x, q.2.2 = nI x ∧ x < nm) (hL : ∃ L', L = false :: L') (hx : nxt W (r.pl + 1) L t g) : pairO C G par W A P r F := by
  obtain ⟨j, hnm, hP, h, w, hw, hf, hq⟩ := b
  obtain ⟨ok, hh, hpl⟩ := frs_ok w h
  have h23 := j.2.2.2.1.1
  obtain ⟨x, eb, hxn⟩ := hb
  obtain ⟨L', rfl⟩ := hL
  obtain ⟨c, st, est, hv, hst⟩ := st_f hf.2.2.2.2.2
  exact pair_v (p := m_setg A (nI x) c.1 c.2.1) (n := 1) (L' := L') hP h hw hf rfl hx (jv_set1 j (by omega) (by rw [j.2.2.1.1.2]; decide) (by omega) hv) (fun E d M Q gm xg km v => xs_setg (d := d + 5) gm j.1 (by omega) ok hpl ((km _ _ hq).1.trans e) ((km _ _ hq).2.2.trans eb) (by omega) est hv v) (fun E d T Q gt tg kt v => ts_setg (d := d + 797) gt j.1 (by omega) ok ((kt _ _ hq).1.trans e) ((kt _ _ hq).2.2.trans eb) est hv v)
theorem p_this {q : Int32 × Int32 × Int32} (b : base C G par W nm A P r F L t g q) (e : q.1 = 6) (hx : nxt W (r.pl + 1) (false :: L) t g) : pairO C G par W A P r F := by
  obtain ⟨j, hnm, hP, h, w, hw, hf, hq⟩ := b
  obtain ⟨ok, hh, hpl⟩ := frs_ok w h
  have hv := hf.2.2.1
  obtain ⟨ks, ek, hks, -⟩ := id hv.1
  have hv' : mval A (nI ks) r.1.2.2.2.1 := by rw [← ek]; exact hv
  exact pair_v (p := (0, A, nI ks, r.1.2.2.2.1)) (n := 0) hP h hw hf rfl hx (jv_id j hv') (fun E d M Q gm xg km v => xs_this (d := d + 6) gm ok hpl ((km _ _ hq).1.trans e) ek rfl (by omega) v) (fun E d T Q gt tg kt v => ts_this (d := d + 797) gt ok ((kt _ _ hq).1.trans e) ek rfl (by rw [nn_eql (by omega) (by omega)]; omega) v)
theorem p_obj {q : Int32 × Int32 × Int32} (b : base C G par W nm A P r F L t g q) (e : q.1 = 7) (ha : ∃ s, q.2.1 = nI s ∧ siteOK G s) (hx : nxt W (r.pl + 1) (false :: L) t g) : pairO C G par W A P r F := by
  obtain ⟨j, hnm, hP, h, w, hw, hf, hq⟩ := b
  obtain ⟨ok, hh, hpl⟩ := frs_ok w h
  obtain ⟨s, ea, hs⟩ := ha
  obtain ⟨w1, w2, w3⟩ := j.2.2.1.2
  unfold siteOK at hs
  exact pair_v (p := m_obj A (29 + 6 * (G.length - 1) + 2 * s)) (n := 0) hP h hw hf rfl hx (jv_obj j hs (fun _ => by omega)) (fun E d M Q gm xg km v => xs_obj (d := d + 5) gm j.1 ok hpl ((km _ _ hq).1.trans e) ((km _ _ hq).2.1.trans ea) xg.1 xg.2.1 w1 hs v) (fun E d T Q gt tg kt v => ts_obj (d := d + 797) gt j.1 ok ((kt _ _ hq).1.trans e) ((kt _ _ hq).2.1.trans ea) tg.1 w1 hs v)
theorem p_arr {q : Int32 × Int32 × Int32} (b : base C G par W nm A P r F L t g q) (e : q.1 = 8) (ha : ∃ s, q.2.1 = nI s ∧ siteOK G s) (hx : nxt W (r.pl + 1) (false :: L) t g) : pairO C G par W A P r F := by
  obtain ⟨j, hnm, hP, h, w, hw, hf, hq⟩ := b
  obtain ⟨ok, hh, hpl⟩ := frs_ok w h
  have h23 := j.2.2.2.1.1
  obtain ⟨s, ea, hs⟩ := ha
  obtain ⟨w1, w2, w3⟩ := j.2.2.1.2
  unfold siteOK at hs
  exact pair_v (p := m_arr A (29 + 6 * (G.length - 1) + 2 * s)) (n := 0) hP h hw hf rfl hx (jv_arr j hs (fun _ => by omega)) (fun E d M Q gm xg km v => xs_arr (d := d + 4) gm j.1 (by omega) ok hpl ((km _ _ hq).1.trans e) ((km _ _ hq).2.1.trans ea) xg.1 xg.2.1 w1 hs v) (fun E d T Q gt tg kt v => ts_arr (d := d + 797) gt j.1 (by omega) ok ((kt _ _ hq).1.trans e) ((kt _ _ hq).2.1.trans ea) tg.1 w1 hs v)
theorem p_fun {q : Int32 × Int32 × Int32} (b : base C G par W nm A P r F L t g q) (e : q.1 = 9) (ha : ∃ g', q.2.1 = nI g' ∧ 1 ≤ g' ∧ g' < G.length ∧ par g' = g) (hx : nxt W (r.pl + 1) (false :: L) t g) : pairO C G par W A P r F := by
  obtain ⟨j, hnm, hP, h, w, hw, hf, hq⟩ := b
  obtain ⟨ok, hh, hpl⟩ := frs_ok w h
  have h23 := j.2.2.2.1.1
  obtain ⟨g', ea, hg1, hgl, hpar⟩ := ha
  have hpp := w.2.2 g' hg1 hgl
  have hlk := hf.2.1
  rw [← hpar] at hlk
  exact pair_v (p := m_fun A g' r.1.2.1) (n := 0) hP h hw hf rfl hx (jv_fun j hg1 (List.getElem?_eq_getElem hgl) hpp hlk) (fun E d M Q gm xg km v => xs_fun (d := d + 4) gm j.1 (by omega) ok hpl ((km _ _ hq).1.trans e) ((km _ _ hq).2.1.trans ea) hg1 hpp (lkOK_sh j.1 hlk) v) (fun E d T Q gt tg kt v => ts_fun (d := d + 796) gt j.1 (by omega) ok ((kt _ _ hq).1.trans e) ((kt _ _ hq).2.1.trans ea) hg1 hpp v)
theorem p_get {q : Int32 × Int32 × Int32} (b : base C G par W nm A P r F L t g q) (e : q.1 = 10) (hx : ∃ L', L = false :: false :: L' ∧ nxt W (r.pl + 1) (false :: L') t g) : pairO C G par W A P r F := by
  obtain ⟨j, hnm, hP, h, w, hw, hf, hq⟩ := b
  obtain ⟨ok, hh, hpl⟩ := frs_ok w h
  have h23 := j.2.2.2.1.1
  obtain ⟨L', rfl, hx⟩ := hx
  obtain ⟨c1, st1, e1, v1, hst⟩ := st_f hf.2.2.2.2.2
  obtain ⟨c2, st2, e2, v2, hst⟩ := st_f hst
  have est : r.st = c1 :: c2 :: st2 := by rw [← e2]; exact e1
  exact pair_v (p := m_get A c2.1 c2.2.1 c1.1 c1.2.1) (n := 2) (L' := L') hP h hw hf rfl hx (jv_get j v2 v1) (fun E d M Q gm xg km v => xs_get (d := d + 2) gm j.1 (by omega) ok hpl ((km _ _ hq).1.trans e) est v1 v2 v) (fun E d T Q gt tg kt v => ts_get (d := d + 794) gt j.1 (by omega) ok hh ((kt _ _ hq).1.trans e) est v1 v2 v)
theorem p_put {q : Int32 × Int32 × Int32} (b : base C G par W nm A P r F L t g q) (e : q.1 = 11) (hx : ∃ L', L = false :: false :: false :: L' ∧ nxt W (r.pl + 1) (false :: L') t g) : pairO C G par W A P r F := by
  obtain ⟨j, hnm, hP, h, w, hw, hf, hq⟩ := b
  obtain ⟨ok, hh, hpl⟩ := frs_ok w h
  obtain ⟨L', rfl, hx⟩ := hx
  obtain ⟨c1, st1, e1, v1, hst⟩ := st_f hf.2.2.2.2.2
  obtain ⟨c2, st2, e2, v2, hst⟩ := st_f hst
  obtain ⟨c3, st3, e3, v3, hst⟩ := st_f hst
  have est : r.st = c1 :: c2 :: c3 :: st3 := by rw [← e3, ← e2]; exact e1
  exact pair_v (p := m_put3 A c3.1 c3.2.1 c2.1 c2.2.1 c1.1 c1.2.1) (n := 3) (L' := L') hP h hw hf rfl hx (jv_put j v3 v2 v1) (fun E d M Q gm xg km v => xs_put (d := d + 2) gm j.1 j.2.1 ok hpl ((km _ _ hq).1.trans e) est v1 v2 v3 v) (fun E d T Q gt tg kt v => ts_put (d := d + 794) gt j.1 j.2.1 ok hh ((kt _ _ hq).1.trans e) est v1 v2 v3 v)
theorem p_del {q : Int32 × Int32 × Int32} (b : base C G par W nm A P r F L t g q) (e : q.1 = 12) (hx : ∃ L', L = false :: false :: L' ∧ nxt W (r.pl + 1) (false :: L') t g) : pairO C G par W A P r F := by
  obtain ⟨j, hnm, hP, h, w, hw, hf, hq⟩ := b
  obtain ⟨ok, hh, hpl⟩ := frs_ok w h
  obtain ⟨L', rfl, hx⟩ := hx
  obtain ⟨c1, st1, e1, v1, hst⟩ := st_f hf.2.2.2.2.2
  obtain ⟨c2, st2, e2, v2, hst⟩ := st_f hst
  have est : r.st = c1 :: c2 :: st2 := by rw [← e2]; exact e1
  exact pair_v (p := m_del A c2.1 c2.2.1 c1.1 c1.2.1) (n := 2) (L' := L') hP h hw hf rfl hx (jv_del j v2 v1) (fun E d M Q gm xg km v => xs_del (d := d + 2) gm j.1 ok hpl ((km _ _ hq).1.trans e) est v1 v2 v) (fun E d T Q gt tg kt v => ts_del (d := d + 794) gt j.1 ok hh ((kt _ _ hq).1.trans e) est v1 v2 v)
theorem p_un {q : Int32 × Int32 × Int32} (b : base C G par W nm A P r F L t g q) (e : q.1 = 13) (ha : ∃ h, q.2.1 = nI h ∧ h < 5) (hx : ∃ L', L = false :: L' ∧ nxt W (r.pl + 1) (false :: L') t g) : pairO C G par W A P r F := by
  obtain ⟨j, hnm, hP, h, w, hw, hf, hq⟩ := b
  obtain ⟨ok, hh, hpl⟩ := frs_ok w h
  obtain ⟨hw', ea, h5⟩ := ha
  obtain ⟨L', rfl, hx⟩ := hx
  obtain ⟨c1, st1, e1, v1, hst⟩ := st_f hf.2.2.2.2.2
  exact pair_v (p := m_un A (nI hw') c1.1 c1.2.1) (n := 1) (L' := L') hP h hw hf rfl hx (jv_un j) (fun E d M Q gm xg km v => xs_un (d := d + 2) gm j.1 ok hpl ((km _ _ hq).1.trans e) ((km _ _ hq).2.1.trans ea) h5 e1 v1 v) (fun E d T Q gt tg kt v => ts_un (d := d + 793) gt j.1 ok ((kt _ _ hq).1.trans e) ((kt _ _ hq).2.1.trans ea) h5 e1 v1 v)
theorem p_bin {q : Int32 × Int32 × Int32} (b : base C G par W nm A P r F L t g q) (e : q.1 = 14) (ha : ∃ h, q.2.1 = nI h ∧ h < 21) (hx : ∃ L', L = false :: false :: L' ∧ nxt W (r.pl + 1) (false :: L') t g) : pairO C G par W A P r F := by
  obtain ⟨j, hnm, hP, h, w, hw, hf, hq⟩ := b
  obtain ⟨ok, hh, hpl⟩ := frs_ok w h
  obtain ⟨hw', ea, h5⟩ := ha
  obtain ⟨L', rfl, hx⟩ := hx
  obtain ⟨c1, st1, e1, v1, hst⟩ := st_f hf.2.2.2.2.2
  obtain ⟨c2, st2, e2, v2, hst⟩ := st_f hst
  have est : r.st = c1 :: c2 :: st2 := by rw [← e2]; exact e1
  exact pair_v (p := m_bin A (nI hw') c2.1 c2.2.1 c1.1 c1.2.1) (n := 2) (L' := L') hP h hw hf rfl hx (jv_bin j v2 v1) (fun E d M Q gm xg km v => xs_bin (d := d + 2) gm j.1 ok hpl ((km _ _ hq).1.trans e) ((km _ _ hq).2.1.trans ea) h5 est v1 v2 v) (fun E d T Q gt tg kt v => ts_bin (d := d + 793) gt j.1 ok hh ((kt _ _ hq).1.trans e) ((kt _ _ hq).2.1.trans ea) h5 est v1 v2 v)
end
