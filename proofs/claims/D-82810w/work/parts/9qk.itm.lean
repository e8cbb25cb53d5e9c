/-! THE COMPONENT's PARSER: items -/
/-- items of both kinds at once; arrays: no keys -/
def pItm (z : pZ) (ob : Bool) (r : pT) (c : pC) : Nat → List (Nat × gEx) → pS → pR (List (Nat × gEx))
  | 0, _, _ => .error (99, 0)
  | f + 1, acc, s => if isS z (if ob then 25 else 29) s then bnd (nxt' z s) fun _ s => prt acc s
    else bnd (if acc = [] then prt () s else if !isS z 32 s || acc.length == 16 then flt z 2 s else nxt' z s) fun _ s => bnd (if ob then bnd (pKey z s) fun x s => bnd (nedS z 46 s) fun _ s => prt x s else prt 0 s) fun x s => bnd (r.asg true c s) fun v s => pItm z ob r c f (acc ++ [(x, v.1)]) s
theorem bnd_as {α β γ : Type} (x : pR α) (f : α → pS → pR β) (g : β → pS → pR γ) : bnd (bnd x f) g = bnd x fun a s => bnd (f a s) g := by
  cases x with
  | error w => rfl
  | ok p => rfl
theorem bnd_cg {α β : Type} {x : pR α} {f g : α → pS → pR β} (h : ∀ a s, f a s = g a s) : bnd x f = bnd x g := by
  cases x with
  | error w => rfl
  | ok p => exact h p.1 p.2
theorem pObj_eq (z : pZ) (r : pT) (c : pC) : ∀ (f : Nat) (acc : List (Nat × gEx)) (s : pS), pObj z r c f acc s = pItm z true r c f acc s
  | 0, _, _ => rfl
  | f + 1, acc, s => by
    rw [pObj, pItm, if_pos rfl]
    split
    · rfl
    · refine bnd_cg fun _ s => ?_
      rw [if_pos rfl, bnd_as]
      refine bnd_cg fun x s => ?_
      rw [bnd_as]
      refine bnd_cg fun _ s => ?_
      exact bnd_cg fun v s => pObj_eq z r c f _ s
theorem pArr_eq (z : pZ) (r : pT) (c : pC) : ∀ (f : Nat) (acc : List (Nat × gEx)) (s : pS), pArr z r c f (acc.map (·.2)) s = bnd (pItm z false r c f acc s) fun l s => prt (l.map (·.2)) s
  | 0, _, _ => rfl
  | f + 1, acc, s => by
    rw [pArr, pItm, if_neg (by decide : ¬ false = true)]
    split
    · rw [bnd_as]; rfl
    · rw [bnd_as]
      have e : (acc.map (·.2) = []) = (acc = []) := propext List.map_eq_nil_iff
      simp only [e, List.length_map]
      refine bnd_cg fun _ s => ?_
      rw [if_neg (by decide : ¬ false = true)]
      show _ = bnd (bnd (r.asg true c s) _) _
      rw [bnd_as]
      refine bnd_cg fun v s => ?_
      rw [← pArr_eq z r c f _ s, List.map_append]
      rfl
/-- the keys that have been read -/
def kyS (ob : Bool) (lo : Nat) (M : zM) (τ : Nat → Nat) (b kb l : Nat) (ks : List Nat) : Prop := ob = true → gr M b 2 = some (kb, 100, 16) ∧ (lo ≤ kb ∧ kb < zsz M ∧ τ kb = 1 ∧ kb ≠ b ∧ kb ≠ l ∧ kb ≠ lA M l) ∧ ∀ (i x : Nat), ks[i]? = some x → gi M kb i = nI x
theorem kyS.k {ob : Bool} {lo b kb l : Nat} {M M' : zM} {τ τ' : Nat → Nat} {ks : List Nat} (h : kyS ob lo M τ b kb l ks) (hz : zsz M ≤ zsz M') (ht : ∀ x, x < zsz M → τ x = 1 → τ' x = 1) (hb : gr M' b 2 = gr M b 2) (hk : lo ≤ kb → kb < zsz M → τ kb = 1 → kb ≠ l → kb ≠ lA M l → ∀ k, gi M' kb k = gi M kb k) (hl : lA M' l = lA M l ∨ zsz M ≤ lA M' l) : kyS ob lo M' τ' b kb l ks := fun e => by
  obtain ⟨h1, ⟨h2, h3, h4, h5, h6, h7⟩, h8⟩ := h e
  refine ⟨hb.trans h1, ⟨h2, by omega, ht _ h3 h4, h5, h6, ?_⟩, fun i x hx => (hk h2 h3 h4 h6 h7 i).trans (h8 i x hx)⟩
  rcases hl with y | y
  · rw [y]; exact h7
  · omega
theorem ar_j {Ub PU s2 s s4 s1 r w c2 c5 : Nat} (h : Ub + 300 + 100 * r ≤ PU + 400 * (s1 - s) + 4 * c2) (hw : w + 4 * c2 = 4 * c5) (h1 : s ≤ s1) (h0 : s1 ≤ s2) (h2 : s2 < s4) : Ub + 400 * (s4 - s2) - 200 + w + 300 + 100 * (r + 1) ≤ PU + 400 * (s4 - s) + 4 * c5 := by omega
section
variable {E : zE} {pp a lf n : Nat} {c : Nat → Int32} {K o : Nat}
theorem key_fs {z : pZ} {s s' : pS} {x : Nat} (h : pKey z s = .ok (x, s')) : s'.2.2 = s.2.2 := by
  have : sat (pKey z s) fun _ s' => s'.2.2 = s.2.2 := by
    unfold pKey
    exact sat_ite (fun _ => sat_tak fun w => rfl) (fun _ => sat_ite (fun _ => sat_bnd (sat_nx (sat_prt rfl))) (fun _ => sat_flt))
  exact this x s' h
theorem y_its {ob : Bool} {r : pT} {DA dA d : Nat} {C : pC} {Q : zO → zM → Prop} {M0 : zM} {τ0 : Nat → Nat} {fs0 : List Nat} {s0 : pS} (hA : cVm E pp a lf n c YX9_assignment [(1, vi 1)] dA o DA (r.asg true)) (hr : okT r) (hd : dA ≤ d + 14) (z190 : 190 ≤ zsz M0) :
    ∀ (f : Nat) (M : zM) (τ : Nat → Nat) (fs : List Nat) (s : pS) (Zb Ub b l kb : Nat) (es : List (Option zP)) (acc : List (Nat × gEx)), 1300 ≤ f + s.1 →
    (∀ l' s', pItm (zOf n c mdi) ob r C f acc s = .ok (l', s') → ∀ M' τ' fs' Z' U' es', rn pp a lf n c M0 τ0 fs0 s0 C.1 C o M' τ' fs' s' Z' U' → (zsz M0 ≤ b ∧ b < zsz M' ∧ τ' b = 1) → gi M' b 0 = (if ob then 0 else 1) → gr M' b 1 = some (l, 11, 0) → wL (zsz M0) M' τ' l es' → wE (zsz M0) M' τ' DA es' (l'.map (·.2)) → kyS ob (zsz M0) M' τ' b kb l (l'.map (·.1)) → l'.length ≤ 16 → Z' + 10 ≤ zsz M0 + 20 * (s'.1 - s0.1) → U' + 200 ≤ pu M0 lf fs0 + 400 * (s'.1 - s0.1) → Q (.inl (some (vr (some (b, 29, 0))))) M') →
    (∀ w, pItm (zOf n c mdi) ob r C f acc s = .error w → ∀ ou M', pEr lf 10 200 τ0 fs0 M0 s0 w ou M' → Q ou M') →
    rn pp a lf n c M0 τ0 fs0 s0 C.1 C o M τ fs s Zb Ub → (zsz M0 ≤ b ∧ b < zsz M ∧ τ b = 1 ∧ b ≠ l ∧ b ≠ lA M l) → gi M b 0 = (if ob then 0 else 1) → gr M b 1 = some (l, 11, 0) → wL (zsz M0) M τ l es → wE (zsz M0) M τ DA es (acc.map (·.2)) → kyS ob (zsz M0) M τ b kb l (acc.map (·.1)) → acc.length ≤ 16 →
    Zb + 15 + 8 * acc.length ≤ zsz M0 + 20 * (s.1 - s0.1) → Ub + 300 + 100 * acc.length ≤ pu M0 lf fs0 + 400 * (s.1 - s0.1) + 4 * lC M l →
    Z E YX9_items (d + 14 + 1) M [(0, vr (some (pp, 8, 0))), (1, vi (if ob then 0 else 1)), (2, vr (some (b, 29, 0))), (3, vi (if ob then 1 else 5))] 26 [] Q := by
  intro f
  induction f with
  | zero =>
    intro M τ fs s Zb Ub b l kb es acc hf _ _ R
    have := R.ps.tz.t_le
    omega
  | succ f ih =>
    intro M τ fs s Zb Ub b l kb es acc hf hy hn R hb e0 e1 W We Ky h16 hZ hU
    have lc := lC_le W.1
    have el := We.1
    rw [List.length_map] at el
    have s0s := R.av.1
    have zzM := R.2.1.2.1.1.1
    have t0 := R.ps.tz.t_le
    have hp := R.ps.pz
    have az := R.ps.az
    have e8 : sgX (nI 32) = 8 := by decide +kernel
    have e35 : sgX (nI 46) = 35 := by decide +kernel
    have ecl : sgX (nI (if ob then 25 else 29)) = (if ob then 1 else 5) := by cases ob <;> decide +kernel
    have icl : nI (if ob then 25 else 29) = (if ob then 25 else 29) := by cases ob <;> rfl
    have h47 : (if ob then 25 else 29 : Nat) < 48 := by cases ob <;> decide
    -- the value, one more
    have val : ∀ (M2 : zM) (s2 : pS) (x : Nat) (τ2 : Nat → Nat), (∀ y, y < zsz M → τ2 y = τ y) → s.1 ≤ s2.1 → rn pp a lf n c M0 τ0 fs0 s0 C.1 C o M2 τ2 fs s2 Zb Ub → mvr τ M τ2 M2 → zsz M2 = zsz M → gi M2 b 0 = (if ob then 0 else 1) → gr M2 b 1 = some (l, 11, 0) → wL (zsz M0) M2 τ2 l es → lA M2 l = lA M l → lC M2 l = lC M l → kyS ob (zsz M0) M2 τ2 b kb l (acc.map (·.1) ++ [x]) → acc.length < 16 →
        pItm (zOf n c mdi) ob r C (f + 1) acc s = bnd (r.asg true C s2) (fun v s => pItm (zOf n c mdi) ob r C f (acc ++ [(x, v.1)]) s) →
        Z E YX9_items (d + 14 + 1) M2 [(0, vr (some (pp, 8, 0))), (1, vi (if ob then 0 else 1)), (2, vr (some (b, 29, 0))), (3, vi (if ob then 1 else 5))] 116 [] Q := fun M2 s2 x τ2 ht hs2 R2 m02 z2 g0 g1 W2 la2 lc2 Ky2 hlt pe => by
      rw [pe] at hy hn
      refine sX9_items_116 M2 pp _ b _ ?_
      rw [g1]
      have tb : τ2 b = 1 := (ht b hb.2.1).trans hb.2.2.1
      refine hA (d + 14) _ M2 τ2 fs s2 C hd R2.ps (fun v3 s3 ev M3 τ3 fs3 p3 pe3 vn3 => ?_) (fun w ev ou M' pe' => ?_)
      · have o3 := hr.asg true C _ v3 s3 ev
        have l3 := o3.2.1
        have R3 := R2.cl pe3 o3.1
        have W3 := W2.pe z190 pe3
        have m3 := pe3.mvr
        have z3 := m3.1.1.1
        have kb3 := fun k => k1_pe pe3 (x := b) ⟨by omega, by omega, tb⟩ k
        have Ky3 : kyS ob (zsz M0) M3 τ3 b kb l (acc.map (·.1) ++ [x]) := Ky2.k z3 (fun x hx h1 => (pe3.2.2.1 x hx).trans h1) (kb3 2).2 (fun h1 h2 h3 _ _ k => (k1_pe pe3 ⟨by omega, h2, h3⟩ k).1) (.inl W3.2.1)
        obtain ⟨b3, t3, k3⟩ := p3
        have k0 : k3 = 0 := vn3.1.1
        subst k0
        show Z E YX9_items (d + 14 + 1) M3 [(0, vr (some (pp, 8, 0))), (1, vi (if ob then 0 else 1)), (2, vr (some (b, 29, 0))), (3, vi (if ob then 1 else 5))] 125 [vr (some (b3, t3, 0)), vr (some (l, 11, 0))] Q
        refine sX9_items_125 M3 pp _ b _ _ _ ⟨l, rfl, ?_⟩
        refine y_ladd (d := d + 8) R3 W3.1 (by omega) (sto_n (by have := vn3.1.2.1; dsimp only at this ⊢; omega) (by have := vn3.1.2.2; dsimp only at this ⊢; omega)) (fun M4 τ4 w R4 W4 m34 ag4 f4 lw la => ?_)
        have z4 := f4.1.1
        have bl : b ≠ lA M3 l := by rw [W3.2.1, la2]; exact hb.2.2.2.2
        have We4 := ((We.mv (m02.tr m3) z190).mv m34 z190).app (p := (b3, t3, 0)) (g := v3.1) (vn3.mv (lo' := zsz M0) m34 z190 (by omega) (Nat.le_refl _)).2.1 o3.2.2.1.1
        have ln : (acc ++ [(x, v3.1)]).length = acc.length + 1 := by rw [List.length_append]; rfl
        have Ky4 : kyS ob (zsz M0) M4 τ4 b kb l (acc.map (·.1) ++ [x]) := Ky3.k z4 (fun x hx h1 => (ag4 x hx).trans h1) (f4.gr (by omega) (nl_P hb.2.2.2.1 bl)) (fun h1 h2 h3 h5 h6 k => f4.gi h2 (nl_P h5 h6)) la
        show Z E YX9_items (d + 14 + 1) M4 [(0, vr (some (pp, 8, 0))), (1, vi (if ob then 0 else 1)), (2, vr (some (b, 29, 0))), (3, vi (if ob then 1 else 5))] 128 [vi 1] Q
        refine sX9_items_128 M4 pp _ b _ _ ?_
        refine ih M4 τ4 fs3 s3 _ _ b l kb (es ++ [some (b3, t3, 0)]) (acc ++ [(x, v3.1)]) (by omega) (fun l' s' ev' => hy l' s' ((bnd_ok ev).trans ev')) (fun w ev' => hn w ((bnd_ok ev).trans ev')) R4 ⟨hb.1, by omega, (ag4 b (by omega)).trans ((pe3.2.2.1 b (by omega)).trans tb), hb.2.2.2.1, by rcases la with y | y; rw [y]; exact bl; omega⟩ ((f4.gi (by omega) (nl_P hb.2.2.2.1 bl)).trans ((kb3 0).1.trans g0)) ((f4.gr (by omega) (nl_P hb.2.2.2.1 bl)).trans ((kb3 1).2.trans g1)) W4 (by rw [List.map_append]; exact We4) (by rw [List.map_append]; exact Ky4) (by omega) (by rw [ln]; omega) ?_
        rw [ln]
        exact ar_j hU (show w + 4 * lC M l = 4 * lC M4 l by rw [← lc2, ← W3.2.2]; exact lw) s0s hs2 l3
      · obtain ⟨q, rfl⟩ := fO_inr pe'.1
        show ZT E YX9_items (d + 14 + 1) M' _ 122 (q, 12, 0) Q
        exact ZT.out (nohand rfl) (hn w (bnd_er ev) _ M' (R2.er pe' (by omega) (by omega)))
    -- from 87 on
    have at87 : ∀ (M1 : zM) (s1 : pS), s.1 ≤ s1.1 → rn pp a lf n c M0 τ0 fs0 s0 C.1 C o M1 τ fs s1 Zb Ub → fr (tkP a) M M1 → acc.length < 16 →
        pItm (zOf n c mdi) ob r C (f + 1) acc s = bnd (if ob then bnd (pKey (zOf n c mdi) s1) fun x s => bnd (nedS (zOf n c mdi) 46 s) fun _ s => prt x s else prt 0 s1) (fun x s => bnd (r.asg true C s) fun v s => pItm (zOf n c mdi) ob r C f (acc ++ [(x, v.1)]) s) →
        Z E YX9_items (d + 14 + 1) M1 [(0, vr (some (pp, 8, 0))), (1, vi (if ob then 0 else 1)), (2, vr (some (b, 29, 0))), (3, vi (if ob then 1 else 5))] 87 [] Q := fun M1 s1 hs1 R1 f1 hlt pe => by
      have R1' := R1
      have az1 := R1.ps.az
      have hp1 := R1.ps.pz
      have W1 := W.tk z190 R.ps f1
      have m1 := mvr_tk R.ps f1
      have ntb : ∀ k, ¬ tkP a b k := fun k => nt_tk (by omega) (fun e => by rw [← e] at az; omega)
      have g0 : gi M1 b 0 = (if ob then 0 else 1) := (f1.2 b 0 (ntb 0)).1.trans e0
      have g1 : gr M1 b 1 = some (l, 11, 0) := (f1.2 b 1 (ntb 1)).2.2.trans e1
      have Ky1 : kyS ob (zsz M0) M1 τ b kb l (acc.map (·.1)) := Ky.k (by rw [f1.1.1]; omega) (fun x _ h => h) (f1.2 b 2 (ntb 2)).2.2 (fun h1 h2 h3 _ _ k => (f1.2 kb k (nt_tk (by omega) (fun e => by rw [← e] at az; omega))).1) (.inl W1.2.1)
      by_cases ho : ob = true
      · have l0 : (if ob then 0 else 1 : Int32) = 0 := if_pos ho
        rw [if_pos ho, bnd_as] at pe
        refine iX9_items_87 M1 pp _ b _ ?_
        rw [if_pos l0]
        refine ⟨l, g1, ?_⟩
        obtain ⟨q1, q2, q3⟩ := Ky1 ho
        rw [W1.1.1.2.1, q1]
        refine y_ikey (d := d + 3) R1.ps.tz R1.ps.2.1.2.1 R1.ps.pt hp1.1 (fun e => by rw [e] at hp1; omega) (fun x s2 ek hx M2 f2 x2 => ?_) (fun w ek ou M' f' => ?_)
        · have ok := ok_key (z := zOf n c mdi) (c := C) (s := s1) x s2 ek
          have lk := ok.2
          have R2 := R1.tk f2 x2 (key_fs ek) ok.1
          have W2 := W1.1.tk z190 R1.ps f2
          have m2 := m1.tr (mvr_tk R1.ps f2)
          have ntk : ∀ k, ¬ tkP a kb k := fun k => nt_tk (by omega) (fun e => by rw [← e] at az; omega)
          show Z E YX9_items (d + 14 + 1) M2 [(0, vr (some (pp, 8, 0))), (1, vi (if ob then 0 else 1)), (2, vr (some (b, 29, 0))), (3, vi (if ob then 1 else 5))] 106 [vi (nI x), vi (nI es.length), vr (some (kb, 100, 16))] Q
          have sz2 := f2.1.1
          have sz1 := f1.1.1
          have f3 : fg (fun x _ => zsz M0 ≤ x ∧ τ x = 1) M2 (si M2 kb acc.length (nI x)) := (fr.si ⟨q2.1, q2.2.2.1⟩).fg
          have fk : fr (fun x _ => x = kb) M2 (si M2 kb acc.length (nI x)) := fr.si (P := fun x _ => x = kb) rfl
          have gk : gi (si M2 kb acc.length (nI x)) kb acc.length = nI x := gi_self _ _ _ _
          have gk' : ∀ i, i ≠ acc.length → gi (si M2 kb acc.length (nI x)) kb i = gi M2 kb i := fun i hi => gi_idx hi
          obtain ⟨τ3, R3, ag3, on3, m23⟩ := R2.lc1 (v := 0) (w := 0) f3 (Nat.le_refl _) (Nat.le_refl _)
          refine sX9_items_106 M2 pp _ b _ _ _ _ ⟨kb, 16, rfl, by omega, by rw [el]; simp (disch := omega) only [nn_add, nn_addl, nn_ladd, nn_mul, nn_lmul, nn_mull, nn_sub, nn_subl, nn_lsub, nn_lt, nn_le, nn_eq, nn_ltl, nn_llt, nn_lel, nn_lle, nn_eql, nn_leq, nn_m1, nn_1m, nn_ltm, nn_mlt, nn_mle, nn_lem, nn_cl, nn_in, nn_ns, nn_ns2, nn_nb, nn_nb2, nn_s1, nn_s2, nn_b1, nn_b2]; exact hlt, a, R2.ps.pt, ?_⟩
          rw [el, nn_cl (by omega)]
          generalize si M2 kb acc.length (nI x) = M3 at *
          have W3 := W2.1.k2 (τ' := τ3) fk.fg (fun k z => q2.2.2.2.2.1 z.symm) (fun k => .inr fun z => q2.2.2.2.2.2 (by rw [← W2.2.1]; exact z.symm)) ag3
          have ntb3 : ∀ k, gi M3 b k = gi M1 b k ∧ gr M3 b k = gr M1 b k := fun k => ⟨(fk.2 b k (fun z => q2.2.2.2.1 z.symm)).1.trans (f2.2 b k (ntb k)).1, (fk.2 b k (fun z => q2.2.2.2.1 z.symm)).2.2.trans (f2.2 b k (ntb k)).2.2⟩
          have sz3 := fk.1.1
          rw [← e35]
          refine y_need (dg := mdi) (j := 46) (by decide) R3.ps.tz (fun s4 e4 M4 f4 x4 => ?_) (fun w e4 ou M' f' => ?_)
          · have es4 := ne_eq e4
            subst es4
            have R4 := R3.tk f4 x4 rfl (adv_nx s2)
            have W4 := W3.1.tk z190 R3.ps f4
            have sz4 := f4.1.1
            have t3b : τ3 b = 1 := (ag3 b (by omega)).trans hb.2.2.1
            show Z E YX9_items (d + 14 + 1) M4 [(0, vr (some (pp, 8, 0))), (1, vi (if ob then 0 else 1)), (2, vr (some (b, 29, 0))), (3, vi (if ob then 1 else 5))] 116 [] Q
            refine val M4 (s2.1 + 1, s2.2) x τ3 (fun y hy' => ag3 y (by omega)) (by dsimp only; omega) R4 ((m2.tr m23).tr (mvr_tk R3.ps f4)) (by omega) ((f4.2 b 0 (ntb 0)).1.trans ((ntb3 0).1.trans g0)) ((f4.2 b 1 (ntb 1)).2.2.trans ((ntb3 1).2.trans g1)) W4.1 (W4.2.1.trans (W3.2.1.trans (W2.2.1.trans W1.2.1))) (W4.2.2.trans (W3.2.2.trans (W2.2.2.trans W1.2.2))) (fun _ => ⟨(f4.2 b 2 (ntb 2)).2.2.trans ((ntb3 2).2.trans q1), ⟨q2.1, by omega, (ag3 kb (by omega)).trans q2.2.2.1, q2.2.2.2.1, q2.2.2.2.2.1, by rw [W4.2.1, W3.2.1, W2.2.1]; exact q2.2.2.2.2.2⟩, fun i y hi => ?_⟩) hlt ?_
            · rw [(f4.2 kb i (ntk i)).1]
              by_cases zi : i < (acc.map (·.1)).length
              · rw [List.getElem?_append_left zi] at hi
                rw [List.length_map] at zi
                rw [gk' i (by omega), (f2.2 kb i (ntk i)).1]
                exact q3 i y hi
              · have hl' := (List.getElem?_eq_some_iff.mp hi).1
                rw [List.length_append, List.length_map] at hl'
                rw [List.length_map] at zi
                have hl' : i < acc.length + 1 := hl'
                have ei : i = acc.length := by omega
                rw [ei] at hi ⊢
                rw [List.getElem?_append_right (by rw [List.length_map]; omega), List.length_map, Nat.sub_self] at hi
                cases hi
                exact gk
            · exact pe.trans ((bnd_ok ek).trans ((bnd_as _ _ _).trans ((bnd_ok e4).trans rfl)))
          · obtain ⟨q, rfl⟩ := fO_inr f'.1
            show ZT E YX9_items (d + 14 + 1) M' _ 113 (q, 12, 0) Q
            exact ZT.out (nohand rfl) (hn w (pe.trans ((bnd_ok ek).trans ((bnd_as _ _ _).trans (bnd_er e4)))) _ M' (R3.er (ft_er R3.ps f') (by omega) (by omega)))
        · obtain ⟨q, rfl⟩ := fO_inr f'.1
          show ZT E YX9_items (d + 14 + 1) M' _ 103 (q, 12, 0) Q
          exact ZT.out (nohand rfl) (hn w (pe.trans (bnd_er ek)) _ M' (R1.er (ft_er R1.ps f') (by omega) (by omega)))
      · have l0 : ¬ (if ob then 0 else 1 : Int32) = 0 := by rw [if_neg ho]; decide
        rw [if_neg ho] at pe
        refine sX9_items_87 M1 pp _ b _ ?_
        rw [if_neg l0]
        exact val M1 s1 0 τ (fun _ _ => rfl) hs1 R1 m1 f1.1.1 g0 g1 W1.1 W1.2.1 W1.2.2 (fun e => absurd e ho) hlt pe
    have hn0 := hn
    refine sX9_items_26 M pp _ b _ ⟨a, R.ps.pt, ?_⟩
    refine y_is (dg := mdi) (j := if ob then 25 else 29) h47 ecl R.ps.tz ?_
    rw [icl]
    show Z E YX9_items (d + 14 + 1) M [(0, vr (some (pp, 8, 0))), (1, vi (if ob then 0 else 1)), (2, vr (some (b, 29, 0))), (3, vi (if ob then 1 else 5))] 34 [vi (if isS (zOf n c mdi) (if ob then 25 else 29) s then 1 else 0)] Q
    refine sX9_items_34 M pp _ b _ _ ?_
    cases hcl : isS (zOf n c mdi) (if ob then 25 else 29) s with
    | true =>
      rw [if_pos rfl, if_neg (by decide)]
      have pe : pItm (zOf n c mdi) ob r C (f + 1) acc s = bnd (nxt' (zOf n c mdi) s) fun _ s => prt acc s := by rw [pItm, if_pos hcl]
      rw [pe] at hy hn
      refine ⟨a, R.ps.pt, ?_⟩
      have k5 := isS_k hcl
      refine y_nxt (dg := mdi) R.ps.tz (tkg5 k5).1 (tkg5 k5).2 (fun s1 en M1 f1 x1 => ?_) (fun w en ou M' f' => ?_)
      · have es1 := nx_eq en
        subst es1
        have R1 := R.tk f1 x1 rfl (adv_nx s)
        have W1 := W.tk z190 R.ps f1
        have m1 := mvr_tk R.ps f1
        have sz1 := f1.1.1
        have ntb : ∀ k, ¬ tkP a b k := fun k => nt_tk (by omega) (fun e => by rw [← e] at az; omega)
        show Z E YX9_items (d + 14 + 1) M1 [(2, vr (some (b, 29, 0)))] 139 [] Q
        refine sX9_items_139 M1 b ?_
        exact hy acc _ ((bnd_ok en).trans rfl) M1 τ fs _ _ es R1 ⟨hb.1, by omega, hb.2.2.1⟩ ((f1.2 b 0 (ntb 0)).1.trans e0) ((f1.2 b 1 (ntb 1)).2.2.trans e1) W1.1 (We.mv m1 z190) (Ky.k (by omega) (fun x _ h => h) (f1.2 b 2 (ntb 2)).2.2 (fun h1 h2 h3 _ _ k => (f1.2 kb k (nt_tk (by omega) (fun e => by rw [← e] at az; omega))).1) (.inl W1.2.1)) h16 (by dsimp only; omega) (by dsimp only; omega)
      · obtain ⟨q, rfl⟩ := fO_inr f'.1
        show ZT E YX9_items (d + 14 + 1) M' _ 136 (q, 12, 0) Q
        exact ZT.out (nohand rfl) (hn w (bnd_er en) _ M' (R.er (ft_er R.ps f') (by omega) (by omega)))
    | false =>
      rw [if_neg (by decide : ¬ false = true), if_pos rfl]
      have pe : pItm (zOf n c mdi) ob r C (f + 1) acc s = bnd (if acc = [] then prt () s else if !isS (zOf n c mdi) 32 s || acc.length == 16 then flt (zOf n c mdi) 2 s else nxt' (zOf n c mdi) s) fun _ s => bnd (if ob then bnd (pKey (zOf n c mdi) s) fun x s => bnd (nedS (zOf n c mdi) 46 s) fun _ s => prt x s else prt 0 s) fun x s => bnd (r.asg true C s) fun v s => pItm (zOf n c mdi) ob r C f (acc ++ [(x, v.1)]) s := by rw [pItm, if_neg (by rw [hcl]; decide)]
      have fault : (isS (zOf n c mdi) 32 s = false ∨ acc.length = 16) → acc ≠ [] → Z E YX10_fault (d + 14) M (zargs 0 [vr (some (a, 9, 0)), vi 2]) 0 [] (zafter E YX9_items (d + 14 + 1) [] 76 3 [] Q) := fun hc hne => by
        obtain ⟨⟨lp, hk, -⟩, -⟩ := id R.ps.tz
        have z5 := R.ps.z190
        refine x_fault (d := d + 8) (k := 2) (by omega) az.2.1 hk.2.2.1 (fun M' f' g1 g2 g3 => ?_)
        show Z E YX9_items (d + 14 + 1) M' [] 79 [vr (some (zsz M, 12, 0))] Q
        refine sX9_items_79 M' _ ⟨zsz M, rfl, ?_⟩
        refine hn (2, (tkn n c s.1).2.2.2.2) ?_ _ M' (R.er (ft_er R.ps ⟨⟨zsz M, rfl, g1, ⟨Nat.le_refl _, by omega⟩, f'.mono fun _ _ _ z => z.elim⟩, g2, g3⟩) (by omega) (by omega))
        rw [pe, if_neg hne, if_pos ?_]
        · rfl
        · rcases hc with y | y
          · rw [y]; rfl
          · rw [y]; cases isS (zOf n c mdi) 32 s <;> rfl
      refine ⟨l, e1, ?_⟩
      refine l_size W.1 ?_
      show Z E YX9_items (d + 14 + 1) M [(0, vr (some (pp, 8, 0))), (1, vi (if ob then 0 else 1)), (2, vr (some (b, 29, 0))), (3, vi (if ob then 1 else 5))] 44 [vi (nI es.length)] Q
      refine sX9_items_44 M pp _ b _ _ ?_
      rw [el]
      by_cases hz : acc = []
      · rw [if_pos (show nI acc.length ≤ 0 by rw [hz]; decide)]
        rw [if_pos hz] at pe
        exact at87 M s (Nat.le_refl _) R fr.rf (by rw [hz]; decide) (pe.trans rfl)
      · have hl0 : 0 < acc.length := List.length_pos_iff.mpr hz
        rw [if_neg (show ¬ nI acc.length ≤ 0 from nI_ge (b := acc.length) (a := 0) hl0 (by omega))]
        refine ⟨a, R.ps.pt, ?_⟩
        refine y_is (dg := mdi) (j := 32) (by decide) e8 R.ps.tz ?_
        show Z E YX9_items (d + 14 + 1) M [(0, vr (some (pp, 8, 0))), (1, vi (if ob then 0 else 1)), (2, vr (some (b, 29, 0))), (3, vi (if ob then 1 else 5))] 56 [vi (if isS (zOf n c mdi) 32 s then 1 else 0)] Q
        refine sX9_items_56 M pp _ b _ _ ?_
        cases h32 : isS (zOf n c mdi) 32 s with
        | false =>
          rw [if_neg (by decide : ¬ false = true), if_pos rfl]
          exact ⟨a, R.ps.pt, fault (.inl h32) hz⟩
        | true =>
          rw [if_pos rfl, if_neg (by decide)]
          refine ⟨l, e1, ?_⟩
          refine l_size W.1 ?_
          show Z E YX9_items (d + 14 + 1) M [(0, vr (some (pp, 8, 0))), (1, vi (if ob then 0 else 1)), (2, vr (some (b, 29, 0))), (3, vi (if ob then 1 else 5))] 66 [vi (nI es.length)] Q
          refine sX9_items_66 M pp _ b _ _ ?_
          rw [el]
          by_cases z16 : acc.length = 16
          · rw [if_pos (show nI acc.length = 16 by rw [z16]; rfl)]
            exact ⟨a, R.ps.pt, fault (.inr z16) hz⟩
          · rw [if_neg (show ¬ nI acc.length = 16 from fun y => z16 (nI_inj (b := 16) (by omega) (by omega) y))]
            rw [if_neg hz, if_neg (by rw [h32]; show ¬ (acc.length == 16) = true; exact fun y => z16 (beq_iff_eq.mp y))] at pe
            refine ⟨a, R.ps.pt, ?_⟩
            have k5 := isS_k h32
            refine y_nxt (dg := mdi) R.ps.tz (tkg5 k5).1 (tkg5 k5).2 (fun s1 en M1 f1 x1 => ?_) (fun w en ou M' f' => ?_)
            · have es1 := nx_eq en
              subst es1
              have R1 := R.tk f1 x1 rfl (adv_nx s)
              show Z E YX9_items (d + 14 + 1) M1 [(0, vr (some (pp, 8, 0))), (1, vi (if ob then 0 else 1)), (2, vr (some (b, 29, 0))), (3, vi (if ob then 1 else 5))] 87 [] Q
              exact at87 M1 (s.1 + 1, s.2) (by dsimp only; omega) R1 f1 (by omega) (pe.trans (bnd_ok en))
            · obtain ⟨q, rfl⟩ := fO_inr f'.1
              show ZT E YX9_items (d + 14 + 1) M' _ 84 (q, 12, 0) Q
              exact ZT.out (nohand rfl) (hn w (pe.trans (bnd_er en)) _ M' (R.er (ft_er R.ps f') (by omega) (by omega)))
/-- what items make -/
def itG (ob : Bool) (l : List (Nat × gEx)) : gEx := if ob then gItm 7 (l.map fun q => ((6 : Int32), Int32.ofNat q.1, q.2)) else gItm 8 (numb 0 (l.map (·.2)))
theorem numb_at : ∀ (l : List gEx) (k i : Nat) (q : Int32 × Int32 × gEx), (numb k l)[i]? = some q → q.1 = 5 ∧ q.2.1 = nI (k + i)
  | [], _, _, _, h => by cases h
  | x :: r, k, 0, q, h => by cases h; exact ⟨rfl, rfl⟩
  | x :: r, k, i + 1, q, h => by
    have := numb_at r (k + 1) i q h
    rw [show k + (i + 1) = k + 1 + i by omega]
    exact this
/-- items at o: behind what opens them -/
def cIm (E : zE) (pp a lf n : Nat) (c : Nat → Int32) (dm o D : Nat) (ob : Bool) (f : pC → pS → pR gV) : Prop :=
  ∀ (d : Nat) (Q : zO → zM → Prop) (M : zM) (τ : Nat → Nat) (fs : List Nat) (s : pS) (C : pC), dm ≤ d → (tkn n c s.1).1 = 5 → xPs M τ pp a lf n c fs s C o →
    (∀ v s', f C s = .ok (v, s') → ∀ M' τ' fs' p, pEnd pp a lf n c 10 200 M τ fs s C o M' τ' fs' s' → vNd (zsz M) M' τ' D p v → Q (.inl (some (vr (some p)))) M') →
    (∀ w, f C s = .error w → ∀ ou M', pEr lf 10 200 τ fs M s w ou M' → Q ou M') → Z E YX9_items d M [(0, vr (some (pp, 8, 0))), (1, vi (if ob then 0 else 1))] 0 [] Q
theorem y_items {ob : Bool} {r : pT} {DA dA dm : Nat} (hA : cVm E pp a lf n c YX9_assignment [(1, vi 1)] dA o DA (r.asg true)) (hr : okT r) (hK : 1300 ≤ K) (h3 : 3 ≤ DA) (hdm : dA + 1 ≤ dm ∧ 30 ≤ dm) : cIm E pp a lf n c dm o (DA + 1) ob (fun C s => bnd (nxt' (zOf n c mdi) s) fun _ s => bnd (pItm (zOf n c mdi) ob r C K [] s) fun l s => prt (vOf (itG ob l)) s) := by
  intro d Q M τ fs s C hd k5 h hy hn
  obtain ⟨d, rfl⟩ : ∃ d', d = d' + 15 := ⟨d - 15, by omega⟩
  have R := rn_st h C.1
  have z190 := h.z190
  have t0 := h.tz.t_le
  -- the start
  have start : ∀ (M1 : zM) (kb : Nat), fg (fun x _ => zsz M ≤ x ∧ τ x = 1) M M1 → zsz M + 2 ≤ zsz M1 → zsz M1 ≤ zsz M + 3 → zsu M1 ≤ zsu M + 22 → gi M1 (zsz M) 0 = (if ob then 0 else 1) → gr M1 (zsz M) 1 = some (zsz M + 1, 11, 0) → gr M1 (zsz M + 1) 1 = some (1, 110, 0) → gi M1 (zsz M + 1) 2 = 0 → (ob = true → kb = zsz M + 2 ∧ zsz M1 = zsz M + 3 ∧ gr M1 (zsz M) 2 = some (kb, 100, 16)) →
      Z E YX10_next (d + 14) M1 (zargs 0 [vr (some (a, 9, 0))]) 0 [] (zafter E YX9_items (d + 14 + 1) [(0, vr (some (pp, 8, 0))), (1, vi (if ob then 0 else 1)), (2, vr (some (zsz M, 29, 0))), (3, vi (if ob then 1 else 5))] 23 3 [] Q) := fun M1 kb f1 z1 z1' su g0 g1 g2 g3 hkb => by
    obtain ⟨τ1, R1, ag1, on1, m01⟩ := R.lc1 (v := 3) (w := 22) f1 (by omega) (by omega)
    have W1 : wL (zsz M) M1 τ1 (zsz M + 1) [] := wL_mk g3 g2 ⟨by omega, by omega⟩ ⟨by omega, on1 _ (by omega) (by omega)⟩
    have lA1 : lA M1 (zsz M + 1) = 1 ∧ lC M1 (zsz M + 1) = 0 := by unfold lA lC; rw [g2]; exact ⟨rfl, rfl⟩
    have tb : τ1 (zsz M) = 1 := on1 _ (Nat.le_refl _) (by omega)
    have Ky1 : kyS ob (zsz M) M1 τ1 (zsz M) kb (zsz M + 1) [] := fun e => by
      obtain ⟨k1, k2, k3⟩ := hkb e
      exact ⟨k3, ⟨by omega, by omega, on1 _ (by omega) (by omega), by omega, by omega, by rw [lA1.1]; omega⟩, fun i x hx => by cases hx⟩
    refine y_nxt (dg := mdi) R1.ps.tz (tkg5 k5).1 (tkg5 k5).2 (fun s2 en M2 f2 x2 => ?_) (fun w en ou M' f' => ?_)
    · have es2 := nx_eq en
      subst es2
      have R2 := R1.tk f2 x2 rfl (adv_nx s)
      have W2 := W1.tk z190 R1.ps f2
      have sz2 := f2.1.1
      have az := R1.ps.az
      have nt : ∀ x k, 190 ≤ x → τ1 x = 1 → ¬ tkP a x k := fun x k hx h1 => nt_tk hx (fun e => by rw [← e] at az; omega)
      have ntb : ∀ k, ¬ tkP a (zsz M) k := fun k => nt _ k z190 tb
      show Z E YX9_items (d + 14 + 1) M2 [(0, vr (some (pp, 8, 0))), (1, vi (if ob then 0 else 1)), (2, vr (some (zsz M, 29, 0))), (3, vi (if ob then 1 else 5))] 26 [] Q
      refine y_its hA hr (by omega) z190 K M2 τ1 fs _ _ _ (zsz M) (zsz M + 1) kb [] [] (by dsimp only; omega) (fun l' s' el M' τ' fs' Z' U' es' R' hb' q0 q1 W' We' Ky' h16 hZ hU => ?_) (fun w ew ou M' pe => hn w ((bnd_ok en).trans (bnd_er ew)) ou M' pe) R2 ⟨Nat.le_refl _, by omega, tb, by omega, by rw [W2.2.1, lA1.1]; omega⟩ ((f2.2 _ 0 (ntb 0)).1.trans g0) ((f2.2 _ 1 (ntb 1)).2.2.trans g1) W2.1 ⟨rfl, fun i g hi => by cases hi⟩ (Ky1.k (by omega) (fun x _ h => h) (f2.2 _ 2 (ntb 2)).2.2 (fun h1 h2 h3 _ _ k => (f2.2 kb k (nt _ k (by omega) h3)).1) (.inl W2.2.1)) (by show 0 ≤ 16; decide) ?_ ?_
      · have Wf := We'.mv (fin_mvr (lo := zsz M)) z190
        refine hy _ s' ((bnd_ok en).trans ((bnd_ok el).trans rfl)) M' _ fs' _ (R'.nd hZ hU) ⟨tgv _ 29 (by decide), ?_, .inl ⟨rfl, (by show 29 ≠ 23; decide), fun e => absurd e (show ¬ 29 = 30 by decide)⟩⟩
        show xE _ M' _ _ (itG ob l')
        have hl' := W'.el Wf
        by_cases ho : ob = true
        · unfold itG
          rw [if_pos ho]
          rw [if_pos ho] at q0
          obtain ⟨y1, y2, y3⟩ := Ky' ho
          refine xe_Items (nS_190 z190) (fin_1 hb'.1 hb'.2.1 hb'.2.2) q1 (.inl ⟨q0, rfl, kb, 16, y1, fin_1 y2.1 y2.2.1 y2.2.2.1, ⟨by rw [List.length_map]; exact h16, by decide⟩, fun i q hq => ?_⟩) (by rw [List.map_map]; exact hl') h3
          rw [List.getElem?_map] at hq
          cases hx : l'[i]? with
          | none => rw [hx] at hq; cases hq
          | some u =>
            rw [hx] at hq
            cases hq
            exact ⟨rfl, y3 i u.1 (by rw [List.getElem?_map, hx]; rfl)⟩
        · unfold itG
          rw [if_neg ho]
          rw [if_neg ho] at q0
          exact xe_Items (nS_190 z190) (fin_1 hb'.1 hb'.2.1 hb'.2.2) q1 (.inr ⟨q0, rfl, fun i q hq => by have := numb_at _ 0 i q hq; rw [Nat.zero_add] at this; exact this⟩) (by rw [(numb_map _ 0).1]; exact hl') h3
      · show _ + 15 + 8 * 0 ≤ _
        dsimp only
        omega
      · show _ + 300 + 100 * 0 ≤ _
        dsimp only
        omega
    · obtain ⟨q, rfl⟩ := fO_inr f'.1
      show ZT E YX9_items (d + 14 + 1) M' _ 23 (q, 12, 0) Q
      exact ZT.out (nohand rfl) (hn w (bnd_er en) _ M' (R1.er (ft_er R1.ps f') (by omega) (by omega)))
  have hp := h.pz
  refine iX9_items_0 (d := d + 10) M pp _ ⟨by show 16 ≤ zsz M + 1; omega, by omega, by cases ob <;> exact ⟨rfl, rfl⟩, ?_⟩
  have sN : zsz (zn M 3) = zsz M + 1 := rfl
  have sN2 : zsz (sr (si (zn (zn M 3) 3) (zsz M + 1) 0 0) (zsz M + 1) 1 (some (1, 110, 0))) = zsz M + 2 := rfl
  rw [sN, sN2]
  by_cases ho : ob = true
  · have l0 : (if ob then 0 else 1 : Int32) = 0 := if_pos ho
    have l1 : (if ob then 1 else 5 : Int32) = 1 := if_pos ho
    rw [if_pos l0]
    have f1 : fg (fun x _ => zsz M ≤ x ∧ τ x = 1) M (sr (zn (si (sr (sr (si (zn (zn M 3) 3) (zsz M + 1) 0 0) (zsz M + 1) 1 (some (1, 110, 0))) (zsz M) 1 (some (zsz M + 1, 11, 0))) (zsz M) 0 (if ob then 0 else 1)) 16) (zsz M) 2 (some (zsz M + 2, 100, 16))) := ((((fg.zn (n := 3)).tr (fg.zn (n := 3))).tr2 ((((fr.si (.inr (by omega))).tr (fr.sr (.inr (by omega)))).tr (fr.sr (.inr (Nat.le_refl _)))).tr (fr.si (.inr (Nat.le_refl _)))).fg).tr (fg.zn (n := 16))).tr2 (fr.sr (.inr (Nat.le_refl _))).fg
    have g0 : gi (sr (zn (si (sr (sr (si (zn (zn M 3) 3) (zsz M + 1) 0 0) (zsz M + 1) 1 (some (1, 110, 0))) (zsz M) 1 (some (zsz M + 1, 11, 0))) (zsz M) 0 (if ob then 0 else 1)) 16) (zsz M) 2 (some (zsz M + 2, 100, 16))) (zsz M) 0 = (if ob then 0 else 1) := by
      show gi (zn (si (sr (sr (si (zn (zn M 3) 3) (zsz M + 1) 0 0) (zsz M + 1) 1 (some (1, 110, 0))) (zsz M) 1 (some (zsz M + 1, 11, 0))) (zsz M) 0 (if ob then 0 else 1)) 16) (zsz M) 0 = _
      rw [gi_zn]
      exact (if_neg (show ¬ zsz M = zsz M + 2 by omega)).trans (gi_self _ _ _ _)
    have g1 : gr (sr (zn (si (sr (sr (si (zn (zn M 3) 3) (zsz M + 1) 0 0) (zsz M + 1) 1 (some (1, 110, 0))) (zsz M) 1 (some (zsz M + 1, 11, 0))) (zsz M) 0 (if ob then 0 else 1)) 16) (zsz M) 2 (some (zsz M + 2, 100, 16))) (zsz M) 1 = some (zsz M + 1, 11, 0) := by
      rw [gr_sr, if_pos rfl, if_neg (by decide), gr_zn]
      exact (if_neg (show ¬ zsz M = zsz M + 2 by omega)).trans (by show gr (sr (sr (si (zn (zn M 3) 3) (zsz M + 1) 0 0) (zsz M + 1) 1 (some (1, 110, 0))) (zsz M) 1 (some (zsz M + 1, 11, 0))) (zsz M) 1 = _; rw [gr_sr, if_pos rfl, if_pos rfl])
    have g2 : gr (sr (zn (si (sr (sr (si (zn (zn M 3) 3) (zsz M + 1) 0 0) (zsz M + 1) 1 (some (1, 110, 0))) (zsz M) 1 (some (zsz M + 1, 11, 0))) (zsz M) 0 (if ob then 0 else 1)) 16) (zsz M) 2 (some (zsz M + 2, 100, 16))) (zsz M + 1) 1 = some (1, 110, 0) := by
      rw [gr_sr, if_neg (by omega), gr_zn]
      exact (if_neg (show ¬ zsz M + 1 = zsz M + 2 by omega)).trans (by show gr (sr (sr (si (zn (zn M 3) 3) (zsz M + 1) 0 0) (zsz M + 1) 1 (some (1, 110, 0))) (zsz M) 1 (some (zsz M + 1, 11, 0))) (zsz M + 1) 1 = _; rw [gr_sr, if_neg (by omega), gr_sr, if_pos rfl, if_pos rfl])
    have g3 : gi (sr (zn (si (sr (sr (si (zn (zn M 3) 3) (zsz M + 1) 0 0) (zsz M + 1) 1 (some (1, 110, 0))) (zsz M) 1 (some (zsz M + 1, 11, 0))) (zsz M) 0 (if ob then 0 else 1)) 16) (zsz M) 2 (some (zsz M + 2, 100, 16))) (zsz M + 1) 2 = 0 := by
      show gi (zn (si (sr (sr (si (zn (zn M 3) 3) (zsz M + 1) 0 0) (zsz M + 1) 1 (some (1, 110, 0))) (zsz M) 1 (some (zsz M + 1, 11, 0))) (zsz M) 0 (if ob then 0 else 1)) 16) (zsz M + 1) 2 = _
      rw [gi_zn]
      refine (if_neg (show ¬ zsz M + 1 = zsz M + 2 by omega)).trans ?_
      rw [gi_oth (by omega)]
      show gi (si (zn (zn M 3) 3) (zsz M + 1) 0 0) (zsz M + 1) 2 = 0
      rw [gi_idx (by decide), gi_zn, if_pos (show zsz M + 1 = zsz (zn M 3) from rfl)]
    have gk : gr (sr (zn (si (sr (sr (si (zn (zn M 3) 3) (zsz M + 1) 0 0) (zsz M + 1) 1 (some (1, 110, 0))) (zsz M) 1 (some (zsz M + 1, 11, 0))) (zsz M) 0 (if ob then 0 else 1)) 16) (zsz M) 2 (some (zsz M + 2, 100, 16))) (zsz M) 2 = some (zsz M + 2, 100, 16) := by rw [gr_sr, if_pos rfl, if_pos rfl]
    have st := start _ (zsz M + 2) f1 (show zsz M + 2 ≤ zsz M + 3 by omega) (Nat.le_refl _) (Nat.le_refl _) g0 g1 g2 g3 (fun _ => ⟨rfl, rfl, gk⟩)
    rw [l1] at st
    exact ⟨a, (f1.gr hp.2.1 (by omega)).trans h.pt, st⟩
  · have l0 : ¬ (if ob then 0 else 1 : Int32) = 0 := by rw [if_neg ho]; decide
    have l1 : (if ob then 1 else 5 : Int32) = 5 := if_neg ho
    rw [if_neg l0, ← l1]
    have f1 : fg (fun x _ => zsz M ≤ x ∧ τ x = 1) M (sr (si (sr (sr (si (zn (zn M 3) 3) (zsz M + 1) 0 0) (zsz M + 1) 1 (some (1, 110, 0))) (zsz M) 1 (some (zsz M + 1, 11, 0))) (zsz M) 0 (if ob then 0 else 1)) (zsz M) 2 none) := (((fg.zn (n := 3)).tr (fg.zn (n := 3))).tr2 ((((fr.si (.inr (by omega))).tr (fr.sr (.inr (by omega)))).tr (fr.sr (.inr (Nat.le_refl _)))).tr (fr.si (.inr (Nat.le_refl _)))).fg).tr2 (fr.sr (.inr (Nat.le_refl _))).fg
    have g0 : gi (sr (si (sr (sr (si (zn (zn M 3) 3) (zsz M + 1) 0 0) (zsz M + 1) 1 (some (1, 110, 0))) (zsz M) 1 (some (zsz M + 1, 11, 0))) (zsz M) 0 (if ob then 0 else 1)) (zsz M) 2 none) (zsz M) 0 = (if ob then 0 else 1) := gi_self _ _ _ _
    have g1 : gr (sr (si (sr (sr (si (zn (zn M 3) 3) (zsz M + 1) 0 0) (zsz M + 1) 1 (some (1, 110, 0))) (zsz M) 1 (some (zsz M + 1, 11, 0))) (zsz M) 0 (if ob then 0 else 1)) (zsz M) 2 none) (zsz M) 1 = some (zsz M + 1, 11, 0) := by
      rw [gr_sr, if_pos rfl, if_neg (by decide)]
      show gr (sr (sr (si (zn (zn M 3) 3) (zsz M + 1) 0 0) (zsz M + 1) 1 (some (1, 110, 0))) (zsz M) 1 (some (zsz M + 1, 11, 0))) (zsz M) 1 = _
      rw [gr_sr, if_pos rfl, if_pos rfl]
    have g2 : gr (sr (si (sr (sr (si (zn (zn M 3) 3) (zsz M + 1) 0 0) (zsz M + 1) 1 (some (1, 110, 0))) (zsz M) 1 (some (zsz M + 1, 11, 0))) (zsz M) 0 (if ob then 0 else 1)) (zsz M) 2 none) (zsz M + 1) 1 = some (1, 110, 0) := by
      rw [gr_sr, if_neg (by omega)]
      show gr (sr (sr (si (zn (zn M 3) 3) (zsz M + 1) 0 0) (zsz M + 1) 1 (some (1, 110, 0))) (zsz M) 1 (some (zsz M + 1, 11, 0))) (zsz M + 1) 1 = _
      rw [gr_sr, if_neg (by omega), gr_sr, if_pos rfl, if_pos rfl]
    have g3 : gi (sr (si (sr (sr (si (zn (zn M 3) 3) (zsz M + 1) 0 0) (zsz M + 1) 1 (some (1, 110, 0))) (zsz M) 1 (some (zsz M + 1, 11, 0))) (zsz M) 0 (if ob then 0 else 1)) (zsz M) 2 none) (zsz M + 1) 2 = 0 := by
      show gi (si (sr (sr (si (zn (zn M 3) 3) (zsz M + 1) 0 0) (zsz M + 1) 1 (some (1, 110, 0))) (zsz M) 1 (some (zsz M + 1, 11, 0))) (zsz M) 0 (if ob then 0 else 1)) (zsz M + 1) 2 = _
      rw [gi_oth (by omega)]
      show gi (si (zn (zn M 3) 3) (zsz M + 1) 0 0) (zsz M + 1) 2 = 0
      rw [gi_idx (by decide), gi_zn, if_pos (show zsz M + 1 = zsz (zn M 3) from rfl)]
    exact ⟨a, (f1.gr hp.2.1 (by omega)).trans h.pt, start _ 0 f1 (Nat.le_refl _) (show zsz M + 2 ≤ zsz M + 3 by omega) (show zsu M + 3 + 3 ≤ zsu M + 22 by omega) g0 g1 g2 g3 (fun e => absurd e ho)⟩
end
