/-! more rows: locals in order, Object's constructor, switches -/
def zins : List (Nat × zV) → Nat → zV → List (Nat × zV)
  | [], i, v => [(i, v)]
  | q :: l, i, v => if q.1 < i then q :: zins l i v else (i, v) :: q :: l
theorem zins_mem : ∀ (l : List (Nat × zV)) (i : Nat) (v : zV) (q : Nat × zV), q ∈ zins l i v → q = (i, v) ∨ q ∈ l
  | [], i, v, q, h => by
    rcases List.mem_cons.mp h with e | e
    · exact Or.inl e
    · cases e
  | r :: l, i, v, q, h => by
    unfold zins at h
    split at h
    · rcases List.mem_cons.mp h with e | e
      · exact Or.inr (by rw [e]; exact List.mem_cons_self)
      · rcases zins_mem l i v q e with e | e
        · exact Or.inl e
        · exact Or.inr (List.mem_cons_of_mem _ e)
    · rcases List.mem_cons.mp h with e | e
      · exact Or.inl e
      · exact Or.inr e
def zset1 (lv : List (Nat × zV)) (i : Nat) (v : zV) : List (Nat × zV) := zins (lv.filter (fun q => !(q.1 == i) && !(q.1 + 1 == i && zcat q.2 == 2))) i v
def zset2 (lv : List (Nat × zV)) (i : Nat) (v : zV) : List (Nat × zV) := zins (lv.filter (fun q => !(q.1 == i) && (!(q.1 == i + 1) && !(q.1 + 1 == i && zcat q.2 == 2)))) i v
theorem zset1_sub (lv : List (Nat × zV)) (i : Nat) (v : zV) : ∀ q ∈ zset1 lv i v, q ∈ zst1 lv i v := fun q h => by
  rcases zins_mem _ _ _ _ h with e | e
  · rw [e]; exact List.mem_cons_self
  · exact List.mem_cons_of_mem _ e
theorem zset2_sub (lv : List (Nat × zV)) (i : Nat) (v : zV) : ∀ q ∈ zset2 lv i v, q ∈ zst2 lv i v := fun q h => by
  rcases zins_mem _ _ _ _ h with e | e
  · rw [e]; exact List.mem_cons_self
  · exact List.mem_cons_of_mem _ e
section
variable {E : zE} {Y : zY} {d : Nat} {M : zM} {lv lv' : List (Nat × zV)} {idx pc : Nat} {st : List zV} {Q : zO → zM → Prop}
theorem Z.sub (h : ∀ q ∈ lv', q ∈ lv) (k : Z E Y d M lv' pc st Q) : Z E Y d M lv pc st Q := by
  obtain ⟨o, M', h1, h2, h3, hr⟩ := k
  refine ⟨o, M', h1, h2, h3, fun τ p l e R s m args below meth c hG H locs cells slots ls hR hl hs hL hc hn hh => hr τ p l e R s m args below meth c hG H locs cells slots ls hR (fun q hq => hl q (h q hq)) hs hL hc hn ⟨hh.1, hh.2.1, fun q hq => ?_⟩⟩
  obtain ⟨r, hr1, hr2⟩ := List.mem_map.mp hq
  exact hh.2.2 q (List.mem_map.mpr ⟨r, h r hr1, hr2⟩)
theorem Z.ZTsub {q : zP} (h : ∀ q ∈ lv', q ∈ lv) (k : ZT E Y d M lv' pc q Q) : ZT E Y d M lv pc q Q := by
  obtain ⟨o, M', h1, h2, h3, hr⟩ := k
  refine ⟨o, M', h1, h2, h3, fun τ p l e R s m args below meth c hG H locs cells slots ls hR hl hs hL hc hn hh => hr τ p l e R s m args below meth c hG H locs cells slots ls hR (fun q hq => hl q (h q hq)) hs hL hc hn ⟨hh.1, hh.2.1, fun q hq => ?_⟩⟩
  obtain ⟨r, hr1, hr2⟩ := List.mem_map.mp hq
  exact hh.2.2 q (List.mem_map.mpr ⟨r, h r hr1, hr2⟩)
/-- some of the locals, by their places -/
theorem Z.pick (ks : List Nat) (h : ks.filterMap (fun k => lv[k]?) = lv') (k : Z E Y d M lv' pc st Q) : Z E Y d M lv pc st Q := by
  refine Z.sub (fun q hq => ?_) k
  rw [← h] at hq
  obtain ⟨i, -, hi⟩ := List.mem_filterMap.mp hq
  exact List.mem_of_getElem? hi
theorem z_ist_n {k : Fin 4} {i : Nat} {x : Int32} (hd : decode (zYc Y) pc = .ok (.istore_n k, 1)) (hi : (k : Nat) = i) (hn : i < zYl Y) (he : zset1 lv i (vi x) = lv') (kz : Z E Y d M lv' (pc + 1) st Q) : Z E Y d M lv pc (vi x :: st) Q := z_istore_n hd hi hn rfl (Z.sub (by rw [← he]; exact zset1_sub lv i _) kz)
theorem z_ist {i : Nat} {x : Int32} (hd : decode (zYc Y) pc = .ok (.istore i, 2)) (hn : i < zYl Y) (he : zset1 lv i (vi x) = lv') (kz : Z E Y d M lv' (pc + 2) st Q) : Z E Y d M lv pc (vi x :: st) Q := z_istore hd hn rfl (Z.sub (by rw [← he]; exact zset1_sub lv i _) kz)
theorem z_lst_n {k : Fin 4} {i : Nat} {x : Int64} (hd : decode (zYc Y) pc = .ok (.lstore_n k, 1)) (hi : (k : Nat) = i) (hn : i + 1 < zYl Y) (he : zset2 lv i (vl x) = lv') (kz : Z E Y d M lv' (pc + 1) st Q) : Z E Y d M lv pc (vl x :: st) Q := z_lstore_n hd hi hn rfl (Z.sub (by rw [← he]; exact zset2_sub lv i _) kz)
theorem z_lst {i : Nat} {x : Int64} (hd : decode (zYc Y) pc = .ok (.lstore i, 2)) (hn : i + 1 < zYl Y) (he : zset2 lv i (vl x) = lv') (kz : Z E Y d M lv' (pc + 2) st Q) : Z E Y d M lv pc (vl x :: st) Q := z_lstore hd hn rfl (Z.sub (by rw [← he]; exact zset2_sub lv i _) kz)
theorem z_ast_n {k : Fin 4} {i : Nat} {r : Option zP} (hd : decode (zYc Y) pc = .ok (.astore_n k, 1)) (hi : (k : Nat) = i) (hn : i < zYl Y) (he : zset1 lv i (vr r) = lv') (kz : Z E Y d M lv' (pc + 1) st Q) : Z E Y d M lv pc (vr r :: st) Q := z_astore_n hd hi hn rfl (Z.sub (by rw [← he]; exact zset1_sub lv i _) kz)
theorem z_ast {i : Nat} {r : Option zP} (hd : decode (zYc Y) pc = .ok (.astore i, 2)) (hn : i < zYl Y) (he : zset1 lv i (vr r) = lv') (kz : Z E Y d M lv' (pc + 2) st Q) : Z E Y d M lv pc (vr r :: st) Q := z_astore hd hn rfl (Z.sub (by rw [← he]; exact zset1_sub lv i _) kz)
theorem z_inc {i : Nat} {n : Int} {x v : Int32} (hd : decode (zYc Y) pc = .ok (.iinc i n, 3)) (h : lv.lookup i = some (vi x)) (hv : x + Int32.ofInt n = v) (hn : i < zYl Y) (he : zset1 lv i (vi v) = lv') (kz : Z E Y d M lv' (pc + 3) st Q) : Z E Y d M lv pc st Q := z_iinc hd h hv hn rfl (Z.sub (by rw [← he]; exact zset1_sub lv i _) kz)
theorem z_objInit {a : zP} (hd : decode (zYc Y) pc = .ok (.invokespecial idx, 3)) (hs : zsO (zYy Y).cls idx) (hdd : 1 ≤ d) (hst : (st.map zcat).sum ≤ 29) (k : Z E Y d M lv (pc + 3) st Q) : Z E Y d M lv pc (vr (some a) :: st) Q := by
  obtain ⟨o, M', h1, h2, h3, hr⟩ := k
  refine ⟨o, M', h1, h2, h3, fun τ p l e R s m args below meth c hG H locs cells slots ls hR hl hs' hL hc hn hh => ?_⟩
  have hfr : d ≤ R.frames := hG.2.2.2.2.2.2.2.2.2.1
  have hlo : 41 * d ≤ R.locals := hG.2.2.2.2.2.2.2.2.2.2.1
  have hsum : ((st.map (zcv E)).map fun v => v.category).sum = (st.map zcat).sum := by
    rw [List.map_map]
    congr 1
    exact List.map_congr_left fun v _ => zcat_cv E v
  refine W.objInit hG.1 hG.2.1 hG.own (hG.words args _ hs) (hG.words args _ q515) (hG.words args _ q516) (g := F0 m pc ls ((vr (some a) :: st).map (zcv E))) rfl (hh.1.trans hG.2.2.1.symm) rfl hd (by omega) (by rw [hsum]; show 2 * 0 + _ + 12 ≤ _; omega) ?_
  exact hr τ p l e R s m args below meth c hG H locs cells slots ls hR hl (zv_tl hs') hL hc hn hh
theorem zall_0 {P : Int32 → Prop} : ∀ k ∈ ([] : List Int32), P k := fun k h => by cases h
theorem zall_1 {P : Int32 → Prop} {a : Int32} {l : List Int32} (h : P a) (h' : ∀ k ∈ l, P k) : ∀ k ∈ a :: l, P k := fun k hk => by
  rcases List.mem_cons.mp hk with e | e
  · rw [e]; exact h
  · exact h' k e
theorem z_tout {dflt lo hi : Int} {offs : Array Int} {len : Nat} {x : Int32} {tgt : Nat} (l : List Int32) (hl : ∀ j, j < (hi + 1 - lo).toNat → ∃ k ∈ l, k.toInt = lo + (j : Int)) (hd : decode (zYc Y) pc = .ok (.tableswitch dflt lo hi offs, len)) (h : ∀ k ∈ l, ¬ x = k) (ht : (pc : Int) + dflt = (tgt : Int)) (k : Z E Y d M lv tgt st Q) : Z E Y d M lv pc (vi x :: st) Q := by
  refine z_tableOut hd ?_ ht k
  rcases Int.lt_or_le x.toInt lo with h1 | h1
  · exact Or.inl h1
  · rcases Int.lt_or_le hi x.toInt with h2 | h2
    · exact Or.inr h2
    · obtain ⟨k, hk, e⟩ := hl (x.toInt - lo).toNat (by omega)
      exact absurd (Int32.toInt_inj.mp (by rw [e]; omega)) (h k hk)
end
