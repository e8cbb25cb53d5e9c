/-! CALLS: the arguments, functions' codes, what a call comes to -/
section
variable {E : zE} {d : Nat} {T M : zM} {Q : zO → zM → Prop} {A : mA} {r : mF} {F : List mF} {G : mG}
theorem rev_at {as l : List mC} {k : Nat} {c : mC} (h : as[k]? = some c) : (as.reverse ++ l)[as.length - 1 - k]? = some c := by
  have hk : k < as.length := (List.getElem?_eq_some_iff.mp h).1
  rw [List.getElem?_append_left (by rw [List.length_reverse]; omega), List.getElem?_reverse (by omega), show as.length - 1 - (as.length - 1 - k) = k by omega]
  exact h
theorem rev_after {as l : List mC} {j : Nat} : (as.reverse ++ l)[as.length + j]? = l[j]? := by
  rw [List.getElem?_append_right (by rw [List.length_reverse]; omega), List.length_reverse, show as.length + j - as.length = j by omega]
/-- values on the stack below the arguments: n of them, from the top -/
theorem x_args {as l : List mC} (h : xFs M (r :: F)) (hr : r.st = as.reverse ++ l) : (∀ j c, l[j]? = some c → gi M 53 (mtot F + (l.length - 1 - j)) = c.1 ∧ gi M 54 (mtot F + (l.length - 1 - j)) = c.2.1) ∧ ∀ k c, as[k]? = some c → gi M 53 (mtot F + l.length + k) = c.1 ∧ gi M 54 (mtot F + l.length + k) = c.2.1 := by
  have hl : r.st.length = as.length + l.length := by rw [hr, List.length_append, List.length_reverse]
  refine ⟨fun j c hj => ?_, fun k c hk => ?_⟩
  · have hjl : j < l.length := (List.getElem?_eq_some_iff.mp hj).1
    have := xFs_cell h (i := as.length + j) (c := c) (by rw [hr, rev_after]; exact hj)
    rw [show r.st.length - 1 - (as.length + j) = l.length - 1 - j by omega] at this
    exact ⟨this.1, this.2.1⟩
  · have hkl : k < as.length := (List.getElem?_eq_some_iff.mp hk).1
    have := xFs_cell h (i := as.length - 1 - k) (c := c) (by rw [hr]; exact rev_at hk)
    rw [show mtot F + (r.st.length - 1 - (as.length - 1 - k)) = mtot F + l.length + k by omega] at this
    exact ⟨this.1, this.2.1⟩
theorem t_args {as l : List mC} (h : tFs T (r :: F)) (hr : r.st = as.reverse ++ l) : (∀ j c, l[j]? = some c → gi T 160 (400 * F.length + (l.length - 1 - j)) = c.1 ∧ gi T 161 (400 * F.length + (l.length - 1 - j)) = c.2.1) ∧ ∀ k c, as[k]? = some c → gi T 160 (400 * F.length + l.length + k) = c.1 ∧ gi T 161 (400 * F.length + l.length + k) = c.2.1 := by
  have hl : r.st.length = as.length + l.length := by rw [hr, List.length_append, List.length_reverse]
  refine ⟨fun j c hj => ?_, fun k c hk => ?_⟩
  · have hjl : j < l.length := (List.getElem?_eq_some_iff.mp hj).1
    have := tFs_cell h (i := as.length + j) (c := c) (by rw [hr, rev_after]; exact hj)
    rw [show r.st.length - 1 - (as.length + j) = l.length - 1 - j by omega] at this
    exact ⟨this.1, this.2.1⟩
  · have hkl : k < as.length := (List.getElem?_eq_some_iff.mp hk).1
    have := tFs_cell h (i := as.length - 1 - k) (c := c) (by rw [hr]; exact rev_at hk)
    rw [show 400 * F.length + (r.st.length - 1 - (as.length - 1 - k)) = 400 * F.length + l.length + k by omega] at this
    exact ⟨this.1, this.2.1⟩
/-- functions of the heap: natives and closures -/
def iC (A : mA) (G : mG) : Prop := 23 ≤ aO A ∧ ∀ f, f < aO A → gi (aT A) 141 f = 1 →
  (9 ≤ f ∧ f < 23 ∧ gi (aT A) 142 f = 0 ∧ gi (aT A) 138 f = nI f) ∨
  (23 ≤ f ∧ f < 299 ∧ (∃ g q, G[g]? = some q ∧ 1 ≤ g ∧ gi (aT A) 142 f = nI g) ∧ (∃ lb : Nat, gi (aT A) 138 f = nI lb ∧ 29 ≤ lb ∧ lb < 200) ∧ vp_nar .short (gi (aT A) 140 f).toInt16.toInt32 = gi (aT A) 140 f)
theorem x_code {f : Nat} (s : sX M A) (i : iA A) (c : iC A G) (hf : f < aO A) (h1 : gi (aT A) 141 f = 1) : (9 ≤ f ∧ f < 23 ∧ gi (aT A) 142 f = 0 ∧ gi M 39 f = - nI f) ∨ (23 ≤ f ∧ (∃ g q, G[g]? = some q ∧ 1 ≤ g ∧ gi (aT A) 142 f = nI g ∧ gi M 39 f = nI g) ∧ vp_nar .short (gi (aT A) 140 f).toInt16.toInt32 = gi (aT A) 140 f) := by
  have hob := i.1.1.2
  obtain ⟨pr, r1, r2, r3, r4, r5⟩ := s.2.2.1 f hf
  rcases c.2 f hf h1 with ⟨c1, c2, c3, c4⟩ | ⟨c1, c2, ⟨g, q, hg, hg1, c3⟩, ⟨lb, c4, c5, c6⟩, c7⟩
  · left
    have hp : pr < 29 := by
      by_cases hp : pr < 29
      · exact hp
      · rw [c4, if_neg hp] at r4
        by_cases h2 : gi M 45 pr = nI f
        · rw [if_pos h2, nn_eq (by omega) (by omega)] at r4; omega
        · rw [if_neg h2, nn_eq (by omega) (by omega)] at r4; omega
    exact ⟨c1, c2, c3, by rw [r5 (by omega), if_pos ⟨hp, h1⟩]⟩
  · right
    have hp : ¬ pr < 29 := fun hp => by
      rw [c4, if_pos hp, nn_eq (by omega) (by omega)] at r4; omega
    exact ⟨c1, ⟨g, q, hg, hg1, c3, by rw [r5 c2, if_neg (fun z => hp z.1)]; exact c3⟩, c7⟩
theorem n_neg : ∀ f : Nat, f < 23 → 9 ≤ f → ((- nI f = -20) ↔ f = 20) ∧ - nI f ≤ 0 ∧ - (- nI f) = nI f := by decide +kernel
theorem n_neg2 : ∀ f : Nat, f < 23 → 9 ≤ f → ¬ (0 ≤ - nI f) ∧ ((- nI f = -10) ↔ f = 10) ∧ ((- nI f = -11) ↔ f = 11) ∧ ((- nI f = -12) ↔ f = 12) ∧ ((-14 < - nI f) ↔ f < 14) ∧ ((-17 ≤ - nI f) ↔ f ≤ 17) := by decide +kernel
/-- what is called in the end, and with what; none: nothing that can be called -/
def m_cl (A : mA) : List mC → Nat → Int32 → Int32 → Option (Nat × Int32 × Int32 × List mC)
  | [], f, ts, tv => if f = 20 then (if ts = 7 ∧ gi (aT A) 141 tv.toNatClampNeg = 1 then (if tv.toNatClampNeg = 20 then none else some (tv.toNatClampNeg, 0, 0, [])) else none) else some (f, ts, tv, [])
  | c :: as, f, ts, tv => if f = 20 then (if ts = 7 ∧ gi (aT A) 141 tv.toNatClampNeg = 1 then m_cl A as tv.toNatClampNeg c.1 c.2.1 else none) else some (f, ts, tv, c :: as)
noncomputable def m_nat (A : mA) (f : Nat) (ts tv : Int32) (as : List mC) : mE :=
  if f = 10 then m_obj A 23 else if f = 11 then m_arr A 24 else if f = 12 then (if as.length = 0 then (0, A, 6, 30) else m_tx A (m_a0 as).1 (m_a0 as).2) else if f = 13 then m_nan A (m_a0 as).1 (m_a0 as).2 else if f = 18 then m_psh A ts tv (m_a0 as).1 (m_a0 as).2 else if f = 19 then m_pop A ts tv else if f = 21 then m_has A ts tv (m_a0 as).1 (m_a0 as).2 else if f = 22 then m_chr A ts tv (m_a0 as).1 (m_a0 as).2 else m_erm A f as
theorem xm_nat {f src : Nat} {ts tv : Int32} {as : List mC} (h : gX M A (r :: F)) (i : iA A) (hiL : iL A) (h0 : m_l0 A) (h23 : 23 ≤ aO A) (ok : mFok (r :: F)) (hf1 : 10 ≤ f) (hf2 : f < 23) (hf3 : ¬ f = 20) (hs : src + as.length ≤ 14500) (hl : as.length ≤ 400) (ha : ∀ k c, as[k]? = some c → gi M 53 (src + k) = c.1 ∧ gi M 54 (src + k) = c.2.1) (hv : ∀ c ∈ as, mval A c.1 c.2.1) (ht : mval A ts tv) (hQ : rX Q M (m_nat A f ts tv as) r F) :
    Z E YX1_carryOut (d + 5) M [(0, zX16), (1, vi (nI f)), (2, vi ts), (3, vi tv), (4, vi (nI src)), (5, vi (nI as.length))] 0 [] Q := by
  have hv0 := m_a0_ok hv
  refine xn_0 h.1.1 hs ha ?_
  unfold m_nat at hQ
  by_cases e10 : f = 10
  · subst e10; exact xn_10 (d := d + 4) h i ok (by rw [if_pos rfl] at hQ; exact hQ)
  rw [if_neg e10] at hQ
  by_cases e11 : f = 11
  · subst e11; exact xn_11 (d := d + 2) h i (by omega) ok (by rw [if_pos rfl] at hQ; exact hQ)
  rw [if_neg e11] at hQ
  by_cases e12 : f = 12
  · subst e12; exact xn_12 (d := d + 1) h i ok hl hv0 (by rw [if_pos (show (12 : Nat) = 12 from rfl)] at hQ; exact hQ)
  rw [if_neg e12] at hQ
  by_cases e13 : f = 13
  · subst e13; exact xn_13 (d := d + 2) h ok hv0 (by rw [if_pos rfl] at hQ; exact hQ)
  rw [if_neg e13] at hQ
  by_cases e18 : f = 18
  · subst e18; exact xn_18 h i hiL h0 ok hv0 ht (by rw [if_pos rfl] at hQ; exact hQ)
  rw [if_neg e18] at hQ
  by_cases e19 : f = 19
  · subst e19; exact xn_19 h i hiL h0 ok ht (by rw [if_pos rfl] at hQ; exact hQ)
  rw [if_neg e19] at hQ
  by_cases e21 : f = 21
  · subst e21; exact xn_21 (d := d + 1) h i ok hv0 ht (by rw [if_pos rfl] at hQ; exact hQ)
  rw [if_neg e21] at hQ
  by_cases e22 : f = 22
  · subst e22; exact xn_22 (d := d + 1) h i ok hv0 ht (by rw [if_pos rfl] at hQ; exact hQ)
  rw [if_neg e22] at hQ
  exact xn_erm (d := d + 1) h i (by omega) ok hl hv0 (by omega) (by omega) hQ
theorem tm_nat {f n src : Nat} {ts tv : Int32} {as : List mC} (g : gT T A (r :: F)) (i : iA A) (hiL : iL A) (h0 : m_l0 A) (h23 : 23 ≤ aO A) (ok : mFok (r :: F)) (hh : mTh (r :: F)) (hn : n ≤ r.st.length) (hf1 : 10 ≤ f) (hf2 : f < 23) (hf3 : ¬ f = 20) (e114 : gi T 97 114 = nI src) (e115 : gi T 97 115 = nI as.length) (hs : src + as.length ≤ 9600) (hl : as.length ≤ 400) (ha : ∀ k c, as[k]? = some c → gi T 160 (src + k) = c.1 ∧ gi T 161 (src + k) = c.2.1) (hv : ∀ c ∈ as, mval A c.1 c.2.1) (ht : mval A ts tv) (hQ : vT Q T (m_nat A f ts tv as) n r F) :
    Zm E YX8_nativeOf (d + 6) T [(0, T97), (1, vi (nI f)), (2, vi ts), (3, vi tv), (4, vi (nI n))] 0 [] Q := by
  have hv0 := m_a0_ok hv
  refine tn_0 e114 e115 hs ha ?_
  unfold m_nat at hQ
  by_cases e10 : f = 10
  · subst e10; exact tn_10 (d := d + 3) g i ok hn (by rw [if_pos rfl] at hQ; exact hQ)
  rw [if_neg e10] at hQ
  by_cases e11 : f = 11
  · subst e11; exact tn_11 (d := d + 3) g i (by omega) ok hn (by rw [if_pos rfl] at hQ; exact hQ)
  rw [if_neg e11] at hQ
  by_cases e12 : f = 12
  · subst e12; exact tn_12 (d := d + 2) g i ok hn hl e115 hv0 (by rw [if_pos (show (12 : Nat) = 12 from rfl)] at hQ; exact hQ)
  rw [if_neg e12] at hQ
  by_cases e13 : f = 13
  · subst e13; exact tn_13 (d := d + 3) g ok hn hv0 (by rw [if_pos rfl] at hQ; exact hQ)
  rw [if_neg e13] at hQ
  by_cases e18 : f = 18
  · subst e18; exact tn_18 g i hiL h0 ok hh hn hv0 ht (by rw [if_pos rfl] at hQ; exact hQ)
  rw [if_neg e18] at hQ
  by_cases e19 : f = 19
  · subst e19; exact tn_19 g i hiL h0 ok hh hn ht (by rw [if_pos rfl] at hQ; exact hQ)
  rw [if_neg e19] at hQ
  by_cases e21 : f = 21
  · subst e21; exact tn_21 g i ok hh hn hv0 ht (by rw [if_pos rfl] at hQ; exact hQ)
  rw [if_neg e21] at hQ
  by_cases e22 : f = 22
  · subst e22; exact tn_22 g i ok hh hn hv0 ht (by rw [if_pos rfl] at hQ; exact hQ)
  rw [if_neg e22] at hQ
  exact tn_erm (d := d + 2) g i (by omega) ok hn hl e115 hv0 (by omega) (by omega) hQ
end
