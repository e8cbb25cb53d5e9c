/-! THE COMPONENT's PARSER: expressions of one level -/
/-- what the methods of one level do for P's functions r; j levels are left -/
def cLv (E : zE) (pp a lf n : Nat) (c : Nat → Int32) (j o : Nat) (r : pT) : Prop :=
  (cVm E pp a lf n c YX9_primary [] (20 * j + 32) o (17 * j + 8) r.prim ∧ cMr E pp a lf n c mdi (20 * j + 32) o (17 * j + 8) r ∧ cAm E pp a lf n c mdi (20 * j + 32) o (17 * j + 8) r.args ∧ cNm E pp a lf n c mdi (20 * j + 32) o (17 * j + 8) r.made) ∧
  cVm E pp a lf n c YX9_unit [] (20 * j + 35) o (17 * j + 12) r.unit ∧
  (∀ i, cVm E pp a lf n c YX9_assignment [(1, vi (boI i))] (20 * j + 48) o (17 * j + 23) (r.asg i)) ∧
  (∀ i, cVm E pp a lf n c YX9_expression [(1, vi (boI i))] (20 * j + 49) o (17 * j + 24) (r.expr i)) ∧
  ∀ i, cVm E pp a lf n c YX9_within [(1, vi (boI i))] (20 * j + 32) o (17 * j + 22) (r.wth i)
section
variable {E : zE} {pp a lf n : Nat} {c : Nat → Int32} {K o j : Nat}
theorem cAm.up {dg : Int32 → List Int32} {dm dm' D D' : Nat} {f : pC → pS → pR (List gEx)} (h : cAm E pp a lf n c dg dm o D f) (h1 : dm ≤ dm') (h2 : D ≤ D') : cAm E pp a lf n c dg dm' o D' f := fun d Q M τ fs s C hd hs hx hy hn => h d Q M τ fs s C (by omega) hs hx (fun v s' e M' τ' fs' p pe xl l8 => hy v s' e M' τ' fs' p pe (xEl_mono xl (fun _ z => z) (nS_190 hx.z190) (fun _ _ _ => ⟨rfl, rfl⟩) h2) l8) hn
theorem cMm.up {dg : Int32 → List Int32} {dm dm' D D' : Nat} {f : pC → pS → pR gEx} (h : cMm E pp a lf n c dg dm o D f) (h1 : dm ≤ dm') (h2 : D ≤ D') : cMm E pp a lf n c dg dm' o D' f := fun d Q M τ fs s C hd hs hx hy hn => h d Q M τ fs s C (by omega) hs hx (fun v s' e gk M' τ' fs' p pe xl => hy v s' e gk M' τ' fs' p pe (xSf_mono xl (fun _ z => z) (nS_190 hx.z190) (fun _ _ _ => ⟨rfl, rfl⟩) h2)) hn
theorem cNm.up {dg : Int32 → List Int32} {dm dm' D D' : Nat} {f : pC → pS → pR gV} (h : cNm E pp a lf n c dg dm o D f) (h1 : dm ≤ dm') (h2 : D ≤ D') : cNm E pp a lf n c dg dm' o D' f := fun d Q M τ fs s C hd hs hx hy hn => h d Q M τ fs s C (by omega) hs hx (fun v s' e M' τ' fs' p pe vn => hy v s' e M' τ' fs' p pe (vn.up hx.z190 h2)) hn
theorem lvO.im {ro : Option pT} {P P' : Nat → pT → Prop} (h : lvO o ro P) (hP : ∀ o r, ro = some r → P o r → P' o r) : lvO o ro P' := by
  rcases h with z | ⟨r, z1, z2, z3, z4⟩
  · exact .inl z
  · exact .inr ⟨r, z1, z2, z3, hP _ r z1 z4⟩
/-- one level out of the next -/
theorem y_lev {ro : Option pT} (hro : lvO o ro fun o r => ∃ j', j = j' + 1 ∧ cLv E pp a lf n c j' o r ∧ cFw E pp a lf n c (20 * j' + 49) o (r.func false)) (hk : ∀ r, ro = some r → ∀ C s, (sat (r.made C s) fun v _ => v.2.1 ≠ 2) ∧ sat (r.prim C s) fun v _ => v.2.1 ≠ 2) (hK : 1300 ≤ K) : cLv E pp a lf n c j o (pMk (zOf n c mdi) K ro) := by
  have hr : okO ro := fun r' e => by
    rcases hro with ⟨z, -⟩ | ⟨r, z1, z2, z3, z4⟩
    · rw [z] at e; cases e
    · rw [z1] at e; cases e; exact z3
  have hE : ∀ i, lvO o ro fun o r => cVm E pp a lf n c YX9_expression [(1, vi (boI i))] (20 * j + 30) o (17 * j + 7) (r.expr i) := fun i => hro.im fun o r _ ⟨j', ej, z, _⟩ => (z.2.2.2.1 i).up (by omega) (by omega)
  have hA : ∀ i, lvO o ro fun o r => cVm E pp a lf n c YX9_assignment [(1, vi (boI i))] (20 * j + 30) o (17 * j + 7) (r.asg i) := fun i => hro.im fun o r _ ⟨j', ej, z, _⟩ => (z.2.2.1 i).up (by omega) (by omega)
  have hP : cVm E pp a lf n c YX9_primary [] (20 * j + 32) o (17 * j + 8) (pPrim (zOf n c mdi) K ro) := y_prim (DE := 17 * j + 7) (dE := 20 * j + 30) (hro.im fun o r _ ⟨j', ej, z, zf⟩ => ⟨(z.2.2.2.1 true).up (by omega) (by omega), (z.2.2.1 true).up (by omega) (by omega), fun d Q M τ fs s C hd => zf d Q M τ fs s C (by omega)⟩) hK (by omega) (by omega)
  have hM : cMm E pp a lf n c mdi (20 * j + 32) o (17 * j + 8) (pKm (zOf n c mdi) ro) := (y_mem (dg := mdi) (dm := 20 * j + 32) (hE true) (by omega)).up (Nat.le_refl _) (by omega)
  have hG : cAm E pp a lf n c mdi (20 * j + 32) o (17 * j + 8) (pArgs (zOf n c mdi) K ro) := (y_args (dg := mdi) (dm := 20 * j + 32) (hA true) hK (by omega)).up (Nat.le_refl _) (by omega)
  have hN : cNm E pp a lf n c mdi (20 * j + 32) o (17 * j + 8) (pMade (zOf n c mdi) K ro) := by
    refine (y_made (DL := 17 * j + 4) (dP := 20 * j + 12) (dm := 20 * j + 32) (hro.im fun o r _ ⟨j', ej, z, _⟩ => ?_) hk hK (by omega) (by omega)).up (Nat.le_refl _) (Nat.le_refl _)
    exact ⟨z.1.2.2.2.up (by omega) (by omega), z.1.1.up (by omega) (by omega), z.1.2.2.1.up (by omega) (by omega), by obtain ⟨f, f1, f2⟩ := z.1.2.1; exact ⟨f, f1.up (by omega) (by omega), f2⟩⟩
  have hL : cVm E pp a lf n c YX9_left [] (20 * j + 33) o (17 * j + 11) (pLeft (zOf n c mdi) K ro) := y_left hP hN hG hM hr hK (by omega) (by omega)
  have hC : cVm E pp a lf n c YX9_counted [] (20 * j + 34) o (17 * j + 12) (pPost (zOf n c mdi) K ro) := y_cnt hL hr (by omega) (by omega)
  have hU : cVm E pp a lf n c YX9_unit [] (20 * j + 35) o (17 * j + 12) (pUnit (zOf n c mdi) K ro) := y_unit (DU := 17 * j + 11) (dU := 20 * j + 34) hC (hro.im fun o r _ ⟨j', ej, z, _⟩ => z.2.1.up (by omega) (by omega)) (by omega) (by omega)
  have hB : ∀ i, cVm E pp a lf n c YX9_binary [(1, vi 0), (2, vi (boI i))] (20 * j + 46) o (17 * j + 22) (fun C s => pBin (zOf n c mdi) K ro i C 10 s) := fun i => y_bin hU hr hK (by omega) (by omega) 10 (Nat.le_refl _)
  have hW : ∀ i, cVm E pp a lf n c YX9_within [(1, vi (boI i))] (20 * j + 32) o (17 * j + 7) (pWth (zOf n c mdi) ro i) := fun i => y_wth (hA i) (by omega)
  have hS : ∀ i, cVm E pp a lf n c YX9_assignment [(1, vi (boI i))] (20 * j + 48) o (17 * j + 23) (pAsg (zOf n c mdi) K ro i) := fun i => y_asg (hB i) (hW i) hr (by omega) (by omega) (by omega)
  exact ⟨⟨hP, ⟨pKm (zOf n c mdi) ro, hM, fun e C s => pMem_eq _ _ _ _ _⟩, hG, hN⟩, hU, hS, fun i => y_expr (hS i) hr hK (by omega) (by omega), fun i => (hW i).up (Nat.le_refl _) (by omega)⟩
end
