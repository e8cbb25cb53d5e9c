/-! THE COMPONENT's CODER: loops -/
/-- the jumps to a mark lie in P -/
def mkS (s : gS) (mm : Nat) (P : Nat → Prop) : Prop := ∀ k q, s.c[k]? = some q → q.2.1 = some mm → P k
theorem noM.mkS {s : gS} {mm : Nat} {P : Nat → Prop} (h : noM s mm) : mkS s mm P := fun _ q hq hm => (h q (List.mem_of_getElem? hq) hm).elim
theorem mkS.mono {s : gS} {mm : Nat} {P P' : Nat → Prop} (h : mkS s mm P) (hp : ∀ k, P k → P' k) : mkS s mm P' := fun k q h1 h2 => hp k (h k q h1 h2)
theorem mkS_gst {P P' : Nat → Prop} {s s' : gS} {mm : Nat} (h : mkS s mm P) (g : gst P' s s') (hp : ¬ P' mm) (hm : mm < s.m) : mkS s' mm P := fun k q hq hk => by
  obtain ⟨⟨n, a1, a2⟩, -⟩ := g
  rw [a1] at hq
  by_cases hkl : k < s.c.length
  · rw [List.getElem?_append_left hkl] at hq; exact h k q hq hk
  · rw [List.getElem?_append_right (by omega)] at hq
    rcases a2 q (List.mem_of_getElem? hq) mm hk with y | y
    · exact (hp y).elim
    · omega
theorem mkS_em {P : Nat → Prop} {s : gS} {mm : Nat} (h : mkS s mm P) (e : gN) (Γ : gK) (L : List Bool) (op a b : Int32) {mk : Option Nat} (hk : ¬ mk = some mm) : mkS (em e Γ L op a b mk s) mm P := fun k q hq hm => by
  rcases get_app (show (s.c ++ [_])[k]? = some q from hq) with ⟨-, z⟩ | ⟨-, rfl⟩
  · exact h k q z hm
  · exact (hk hm).elim
theorem mkS_emm {P : Nat → Prop} {s : gS} {mm : Nat} (h : mkS s mm P) (e : gN) (Γ : gK) (L : List Bool) (op a b : Int32) : mkS (em e Γ L op a b (some mm) s) mm (fun k => P k ∨ k = s.c.length) := fun k q hq hm => by
  rcases get_app (show (s.c ++ [_])[k]? = some q from hq) with ⟨-, z⟩ | ⟨z, -⟩
  · exact .inl (h k q z hm)
  · exact .inr z
theorem mkS_body {P P' : Nat → Prop} {s s' : gS} {mm : Nat} {ks : List Nat} (h : mkS s mm P) (g : gst P' s s') (j : jmK s' s.c.length ks mm) : mkS s' mm (fun k => k ∈ ks ∨ P k) := fun k q hq hm => by
  by_cases hk : k < s.c.length
  · obtain ⟨⟨n, a1, a2⟩, -⟩ := g
    rw [a1, List.getElem?_append_left hk] at hq
    exact .inr (h k q hq hm)
  · exact .inl (j.1 k q (by omega) hq hm)
theorem wfS_hre {s : gS} {n : Nat} (h : wfS s) (hn : n < s.m) : wfS (hre n s) := ⟨h.1, fun k hk => (show (if k = n then _ else s.at k) = none by have : s.m ≤ k := hk; rw [if_neg (by omega)]; exact h.2 k hk)⟩
theorem wfS_hrp {s : gS} {n p : Nat} (h : wfS s) (hn : n < s.m) : wfS (hrp n p s) := ⟨h.1, fun k hk => (show (if k = n then _ else s.at k) = none by have : s.m ≤ k := hk; rw [if_neg (by omega)]; exact h.2 k hk)⟩
theorem wOK_lp (n c : Nat) : wOK (lpW n c) := ⟨(show (0 : Nat) ≤ 4 by decide), fun z => absurd z (show ¬ (0 : Nat) = 4 by decide), fun _ => rfl, (show (0 : Nat) < 100000 by decide), (show (0 : Nat) < 32768 by decide)⟩
/-- the last goals of a loop or a switch -/
theorem fin_31 {M1 M3 : zM} {w : gW} {Γ : gK} {m n : Nat} {s : gS} {o : Option Nat} {k1 : List Nat} (hc : xCd M1 (mkP (w :: Γ)) m s) (hw : ∀ mm, wmk w mm → mm = n) (h31 : ∀ i, gi M3 31 i = if (i ∈ k1 ∨ o = some i) ∧ i < 600 then (nI m).toInt16.toInt32 else gi M1 31 i) (hk : m ≤ 600 → mkS s n (fun k => k ∈ k1 ∨ o = some k)) (hk1 : m ≤ 600 → ∀ k, k ∈ k1 ∨ o = some k → ∃ q, s.c[k]? = some q ∧ q.2.1 = some n) :
    m ≤ 600 → ∀ k q, s.c[k]? = some q → (q.2.1 = none → gi M3 31 k = gi M1 31 k) ∧ ∀ mm p, q.2.1 = some mm → (hre n s).at mm = some p → ¬ mkP Γ mm → gi M3 31 k = nI p := by
  intro h6 k q hq
  have hlen := hc.2.2.1 h6
  have hkl := (List.getElem?_eq_some_iff.mp hq).1
  have no : ¬ q.2.1 = some n → gi M3 31 k = gi M1 31 k := fun hne => by
    rw [h31, if_neg (fun z => by obtain ⟨q', y1, y2⟩ := hk1 h6 k z.1; rw [hq] at y1; cases y1; exact hne y2)]
  refine ⟨fun z => no (by rw [z]; exact fun y => by cases y), fun mm p z1 z2 z3 => ?_⟩
  have z2' : (if mm = n then some s.c.length else s.at mm) = some p := z2
  by_cases hmn : mm = n
  · rw [if_pos hmn] at z2'
    have e0 := Option.some.inj z2'
    rw [h31, if_pos ⟨hk h6 k q hq (by rw [z1, hmn]), by omega⟩, nn_ns2 (by omega), hlen, e0]
  · rw [if_neg hmn] at z2'
    rw [no (by rw [z1]; exact fun y => hmn (Option.some.inj y))]
    exact ((hc.2.2.2.2.1 h6).2.2.1 k q hq).2.2.1 mm p z1 z2' (fun y => (mkP_cons y).elim (fun y => hmn (hw mm y)) z3)
/-- the goals of a loop's continues -/
theorem rel_31 {M M' : zM} {w w' : gW} {Γ : gK} {m c tv : Nat} {s s' : gS} {k2 : List Nat} (hc : xCd M (mkP (w :: Γ)) m s) (hw : ∀ mm, wmk w mm → mm = c ∨ wmk w' mm) (h31 : ∀ i, gi M' 31 i = if i ∈ k2 ∧ i < 600 then (nI tv).toInt16.toInt32 else gi M 31 i) (hk : m ≤ 600 → mkS s c (fun k => k ∈ k2)) (hk2 : m ≤ 600 → ∀ k ∈ k2, ∃ q, s.c[k]? = some q ∧ q.2.1 = some c) (hat : ∀ mm, mm ≠ c → s'.at mm = s.at mm) (hv : m ≤ 600 → tv < 32768 ∧ ∀ p, s'.at c = some p → tv = p) :
    m ≤ 600 → ∀ k q, s.c[k]? = some q → (q.2.1 = none → gi M' 31 k = gi M 31 k) ∧ ∀ mm p, q.2.1 = some mm → s'.at mm = some p → ¬ mkP (w' :: Γ) mm → gi M' 31 k = nI p := by
  intro h6 k q hq
  have hlen := hc.2.2.1 h6
  have hkl := (List.getElem?_eq_some_iff.mp hq).1
  have no : ¬ q.2.1 = some c → gi M' 31 k = gi M 31 k := fun hne => by
    rw [h31, if_neg (fun z => by obtain ⟨q', y1, y2⟩ := hk2 h6 k z.1; rw [hq] at y1; cases y1; exact hne y2)]
  refine ⟨fun z => no (by rw [z]; exact fun y => by cases y), fun mm p z1 z2 z3 => ?_⟩
  by_cases hmn : mm = c
  · rw [hmn] at z2
    rw [h31, if_pos ⟨hk h6 k q hq (by rw [z1, hmn]), by omega⟩, nn_ns2 (hv h6).1, (hv h6).2 p z2]
  · rw [hat mm hmn] at z2
    rw [no (by rw [z1]; exact fun y => hmn (Option.some.inj y))]
    exact ((hc.2.2.2.2.1 h6).2.2.1 k q hq).2.2.1 mm p z1 z2 (fun y => z3 ((mkP_cons y).elim (fun y => ((hw mm y).resolve_left hmn) |> fun y => ⟨w', List.mem_cons_self, y⟩) mkP_tl))
section
variable {E : zE} {d : Nat} {Q : zO → zM → Prop} {M : zM} {e : gN} {w : gW} {Γ : gK} {a : Nat} {l bs : List Nat} {ps : List (Option zP)} {ρ : Nat → Nat} {A : List Nat} {u m : Nat} {s : gS} {L : List Bool} {j1 j2 : Nat} {k1 k2 : List Nat}
theorem lp_end {t n tv : Nat} {o : Option Nat} (h : xLp M e w Γ (a :: l) none (u + 1) a l bs ps ρ A u m s j1 j2 k1 k2) (hw : ∀ mm, wmk w mm → mm = n) (hw0 : w.1 ≠ 2 ∧ w.2.1 = []) (hb : m + 1 < 100000000) (hn : n < s.m) (hnΓ : ¬ mkP Γ n) (ht : t < s.m) (htΓ : ¬ mkP Γ t) (hnt : t ≠ n) (hv : m < 600 → tv < 32768 ∧ ∀ p, s.at t = some p → tv = p) (hk : m ≤ 600 → mkS s n (fun k => k ∈ k1 ∨ o = some k)) (hk1 : m ≤ 600 → ∀ k, k ∈ k1 ∨ o = some k → ∃ q, s.c[k]? = some q ∧ q.2.1 = some n) (ho : ∀ k, o = some k → k < 100000000)
    (hQ : ∀ M', xSt M' e Γ l bs ps ρ A u (m + 1) (hre n (em e Γ L 21 0 0 (some t) s)) → fr loP M M' → Q (.inl none) M') :
    Z E YX3_put (d + 1) M [(0, C29), (1, vi 21), (2, vi (nI tv)), (3, vi 0)] 0 [] (zafter E YX33_code (d + 1 + 1) [(1, C29), (2, vr (some (a, 17, 0))), (4, vi (oN o))] 139 3 [] Q) := by
  have ha := h.a190
  refine lp_pu (L := L) (mk := some t) (a' := 0) (b' := 0) h hb (fun z => ⟨rfl, nn_ns2 (hv z).1, (fun y => by cases y), (fun mm p z1 z2 z3 => by cases z1; rw [(hv z).2 p z2]), rfl⟩) (fun mm z => by cases z; exact ht) (fun mm z => by cases z; exact htΓ) (fun M1 h1 f1 => ?_)
  rw [em_cx (smC_lp hw0.1 hw0.2)] at h1
  have n1 : n < (em e Γ L 21 0 0 (some t) s).m := hn
  have K : m + 1 ≤ 600 → mkS (em e Γ L 21 0 0 (some t) s) n (fun k => k ∈ k1 ∨ o = some k) := fun z => mkS_em (hk (by omega)) _ _ _ _ _ _ (fun y => hnt (Option.some.inj y))
  have K1 : m + 1 ≤ 600 → ∀ k, k ∈ k1 ∨ o = some k → ∃ q, (em e Γ L 21 0 0 (some t) s).c[k]? = some q ∧ q.2.1 = some n := fun z k hk => by
    obtain ⟨q, q1, q2⟩ := hk1 (by omega) k hk
    exact ⟨q, (gst_emm (P := fun x => x = t) e Γ L 21 0 0 s rfl).get q1, q2⟩
  generalize em e Γ L 21 0 0 (some t) s = s1 at *
  show Z E YX33_code (d + 1 + 1) M1 [(1, C29), (2, vr (some (a, 17, 0))), (4, vi (oN o))] 142 [vi (nI m)] Q
  refine sX33_code_142 M1 29 a _ _ ?_
  refine y_goal31 (m := m + 1) h1.1.1 h1.1.2.1.1 ho (fun M2 f2 v2 => ?_)
  show Z E YX33_code (d + 1 + 1) M2 [(1, C29), (2, vr (some (a, 17, 0)))] 149 [] Q
  refine sX33_code_149 M2 29 a ?_
  have cw2 : cw M2 := f2.cw (by decide +kernel) h1.1.1
  refine sX3_place_0 M2 cw2 ?_
  show Z E YX33_code (d + 1 + 1) M2 [(1, C29), (2, vr (some (a, 17, 0)))] 158 [vi (gi M2 29 7), C29, vr (gr M2 a 1)] Q
  obtain ⟨h11, h12, h13, h14, h15, h16, h17, h18, ⟨d1, d2, d3, d4⟩, ⟨x1, x2⟩, h19⟩ := id h1
  rw [show gi M2 29 7 = nI (m + 1) from (f2.2 29 7 (by decide)).1.trans h11.2.1.1, show gr M2 a 1 = some (j1, 18, 0) from (f2.2 a 1 (by omega)).2.2.trans d3]
  refine sX33_code_158 M2 29 a _ 29 _ ⟨j1, rfl, ?_⟩
  have x1' : xJp M2 j1 k1 := xJp_fg x1 f2.fg (fun z => by have := x1.2.1.1; omega) (fun z => by have := x1.2.1.1; omega) (fun i z => by have := x1.2.2.1.1; omega)
  refine y_goAll cw2 x1' (fun M3 f3 v3 => ?_)
  show Z E YX33_code (d + 1 + 1) M3 [(1, C29), (2, vr (some (a, 17, 0)))] 161 [] Q
  refine sX33_code_161 M3 29 a ?_
  have cw3 : cw M3 := f3.cw (by decide +kernel) cw2
  refine sX3_leave_0 M3 _ cw3 ⟨a, rfl, ?_⟩
  have f13 := f2.tr f3
  have v13 : ∀ i, gi M3 31 i = if (i ∈ k1 ∨ o = some i) ∧ i < 600 then (nI (m + 1)).toInt16.toInt32 else gi M1 31 i := fun i => by
    rw [v3 i, v2 i]
    by_cases z6 : i < 600
    · by_cases y1 : i ∈ k1
      · rw [if_pos ⟨y1, z6⟩, if_pos ⟨.inl y1, z6⟩]
      · rw [if_neg (fun z => y1 z.1)]
        by_cases y2 : o = some i
        · rw [if_pos ⟨y2, z6⟩, if_pos ⟨.inr y2, z6⟩]
        · rw [if_neg (fun z => y2 z.1), if_neg (fun z => z.1.elim y1 y2)]
    · rw [if_neg (fun z => z6 z.2), if_neg (fun z => z6 z.2), if_neg (fun z => z6 z.2)]
  have H := fin_31 h11.2.1 hw v13 K K1
  have wf : wfS (hre n s1) := wfS_hre h11.2.1.2.2.2.2.2.2 n1
  have hatn : ∀ mm, mkP Γ mm → (hre n s1).at mm = s1.at mm := fun mm z => (show (if mm = n then _ else s1.at mm) = s1.at mm by rw [if_neg (fun y => hnΓ (by rw [← y]; exact z))])
  have hL := xLp_31 (w' := w) (st' := hre n s1) h1 f13 rfl (Nat.le_refl _) rfl wf ⟨rfl, rfl, rfl⟩ hatn (fun h6 k q hq => ⟨(H h6 k q hq).1, fun mm p z1 z2 z3 => (H h6 k q hq).2 mm p z1 z2 (fun y => z3 (mkP_tl y))⟩)
  have hC := xCd_31 (P' := mkP Γ) (st' := hre n s1) h11.2.1 (fun x k _ hx => (f13.2 x k hx).1) rfl rfl wf H
  have hS := lv_xSt hL hC rfl (Nat.le_refl _) (fun _ _ => rfl)
  show Z E YX33_code (d + 1 + 1) (si (sr M3 29 9 (gr M3 a 4)) 29 11 (gi M3 a 0)) [] 166 [] Q
  refine sX33_code_166 _ ?_
  exact hQ _ hS.1 (((f1.mono fun _ _ z => .inl z).tr (f13.mono fun x k z => .inl (.inl (by omega)))).tr hS.2)
end
