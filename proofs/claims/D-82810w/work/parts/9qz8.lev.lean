/-! THE COMPONENT's PARSER: function expressions; all levels -/
section
variable {E : zE} {pp a lf n : Nat} {c : Nat → Int32} {K o dI dm : Nat}
theorem y_cfw {ro : Option pT} (hI : cFi E pp a lf n c mdi K dI o ro) (hdm : dI + 1 ≤ dm ∧ 30 ≤ dm) : cFw E pp a lf n c dm o (pFun (zOf n c mdi) K ro false) := by
  intro d Q M τ fs s C hd hl h hy hn
  obtain ⟨d, rfl⟩ : ∃ d', d = d' + 1 := ⟨d - 1, by omega⟩
  have z190 := h.z190
  have e8 := h.2.2.2.2.1
  have R := (rk_st h 0).dn (Dn' := fun k => geN s.2.2.length k ∧ k ≠ s.2.2.length) (fun k y => y.1)
  have pe0 := pFun_eq (zOf n c mdi) K ro false C s
  have pe0 : pFun (zOf n c mdi) K ro false C s = bnd (if tkd (zOf n c mdi) s.1 = 1 then bnd (takN (zOf n c mdi) (s.1, s.2.1, s.2.2 ++ [([], 0, none, C.1, [], gNo)])) fun x s' => prt x (setF s.2.2.length (fun q => (q.1, q.2.1, some x, q.2.2.2)) s') else prt 0 (s.1, s.2.1, s.2.2 ++ [([], 0, none, C.1, [], gNo)])) fun x s' => pFi (zOf n c mdi) K ro s.2.2.length x s' := pe0
  refine sX9_wordAlone_179 M pp ?_
  refine R.begun (cz' := 95) (cu' := 1900) hl (fun y => y.2 rfl) (by omega) (by omega) (by omega) (fun M1 τ1 R1 k1 W1 A1 g1 => ?_)
  show Z E YX9_wordAlone (d + 1) M1 [(0, vr (some (pp, 8, 0)))] 183 [vr (some (zsz M, 10, 0))] Q
  refine iX9_wordAlone_183 M1 pp _ ⟨a, R1.ps.pt, ?_⟩
  have gk : (fs ++ [zsz M])[s.2.2.length]? = some (zsz M) := by rw [← e8, List.getElem?_append_right (Nat.le_refl _), Nat.sub_self]; rfl
  have hq1 : (s.2.2 ++ [(([], 0, none, C.1, [], gNo) : gF)])[s.2.2.length]? = some ([], 0, none, C.1, [], gNo) := by rw [List.getElem?_append_right (Nat.le_refl _), Nat.sub_self]; rfl
  have kl : 0 < s.2.2.length := by
    obtain ⟨⟨fc, hfc, -⟩, -⟩ := h.2.2.1
    have := (List.getElem?_eq_some_iff.mp hfc).1
    omega
  -- the text
  have txt : ∀ (M2 : zM) (s2 : pS) (x : Nat) (own : Option Nat) (cz cu : Nat), rk pp a lf n c M τ fs s (fun k => geN s.2.2.length k ∧ k ≠ s.2.2.length) C o M2 τ1 (fs ++ [zsz M]) s2 cz cu → 60 ≤ cz → 1600 ≤ cu → wF (zsz M) M2 τ1 (zsz M) (zsz M + 1) (zsz M + 2) [] [] → (lA M2 (zsz M + 1) = 1 ∧ lA M2 (zsz M + 2) = 1 ∧ lC M2 (zsz M + 1) = 0 ∧ lC M2 (zsz M + 2) = 0) → s2.2.2[s.2.2.length]? = some ([], 0, own, C.1, [], gNo) → gi M2 (zsz M) 6 = 0 → ownI (gi M2 (zsz M) 8) own → (∀ y, own = some y → y < 100000) → pFun (zOf n c mdi) K ro false C s = pFi (zOf n c mdi) K ro s.2.2.length x s2 → Z E YX9_inside d M2 (zargs 0 [vr (some (pp, 8, 0)), vr (some (zsz M, 10, 0))]) 0 [] (zafter E YX9_wordAlone (d + 1) [(0, vr (some (pp, 8, 0))), (2, vr (some (zsz M, 10, 0)))] 208 3 [] Q) := fun M2 s2 x own cz cu R2 hz hu W2 A2 hq2 h6 h8 ho pe2 => by
    refine hI d _ M τ fs s _ C M2 τ1 (fs ++ [zsz M]) s2 cz cu (zsz M) (zsz M + 1) (zsz M + 2) s.2.2.length x own (by omega) R2 hz (by omega) W2 A2 ⟨gk, fun y => y.2 rfl, kl, hq2, h6, h8⟩ ho (fun s3 e3 M3 τ3 fs3 q3 pf3 l3 R3 k3 hq3 fd3 => ?_) (fun w e q M' er => ZT.out (nohand rfl) (hn w (pe2.trans e) _ M' er))
    have f3k : fs3[s.2.2.length]? = some (zsz M) := pre_get pf3 gk
    have R4 := R3.dx (Dn' := geN s.2.2.length) (fun k f' q y1 y2 y3 y4 => by
      have ek : k = s.2.2.length := by
        by_cases y : k = s.2.2.length
        · exact y
        · exact absurd ⟨y1, y⟩ y2
      subst ek
      rw [f3k] at y3
      cases y3
      rw [hq3] at y4
      cases y4
      exact fd3)
    show Z E YX9_wordAlone (d + 1) M3 [(0, vr (some (pp, 8, 0))), (2, vr (some (zsz M, 10, 0)))] 211 [] Q
    exact hy _ s3 (pe2.trans e3) M3 _ fs3 (zsz M) (R4.ndg (tz := 10) (tu := 200) (by omega) (by omega)) f3k
  have kd := tk_kd (dg := mdi) R1.ps.tz
  by_cases h1 : gi M1 a 3 = 1
  · rw [if_pos h1]
    have k1' : tkd (zOf n c mdi) s.1 = 1 := kd.symm.trans h1
    have en : nedN (zOf n c mdi) (s.1, s.2.1, s.2.2 ++ [([], 0, none, C.1, [], gNo)]) = takN (zOf n c mdi) (s.1, s.2.1, s.2.2 ++ [([], 0, none, C.1, [], gNo)]) := by unfold nedN; rw [if_pos k1']
    have pe1 : pFun (zOf n c mdi) K ro false C s = bnd (nedN (zOf n c mdi) (s.1, s.2.1, s.2.2 ++ [([], 0, none, C.1, [], gNo)])) fun x s' => pFi (zOf n c mdi) K ro s.2.2.length x (setF s.2.2.length (fun q => (q.1, q.2.1, some x, q.2.2.2)) s') := by
      rw [pe0, if_pos k1', bnd_as, en]
      rfl
    refine R1.needNg (tz := 10) (tu := 200) (dg := mdi) (by omega) (by omega) (by omega) (fun x s2 e2 ex hx2 M2 R2 k2 => ?_) (fun w e q M' er => ZT.out (nohand rfl) (hn w (pe1.trans (bnd_er e)) _ M' er))
    show Z E YX9_wordAlone (d + 1) M2 [(0, vr (some (pp, 8, 0))), (2, vr (some (zsz M, 10, 0)))] 203 [vi (nI x), vr (some (zsz M, 10, 0))] Q
    refine sX9_wordAlone_203 M2 pp _ _ _ ⟨zsz M, rfl, by omega, ?_⟩
    have V2 := W1.k k2 z190
    have b2 := (k2.wl W1.2.2.1 z190).2
    have d2 := (k2.wl W1.2.2.2.1 z190).2
    have hf2 : zsz M ≤ zsz M ∧ zsz M < zsz M2 ∧ τ1 (zsz M) = 3 := V2.1.1
    have hs2 : s2.2.2 = s.2.2 ++ [([], 0, none, C.1, [], gNo)] := hx2.2.2.1
    have hq2 : s2.2.2[s.2.2.length]? = some ([], 0, none, C.1, [], gNo) := by rw [hs2]; exact hq1
    have X3 := ndX.c6 (v := nI x) (j := 8) R2.ps R2.2.2.2.2.1 ⟨by omega, hf2.2⟩ (.inr rfl) gk (fun y => y.2 rfl)
    have R3 := R2.cd6 (v := nI x) (j := 8) hf2 (by decide) X3
    have R4 := R3.set (g := fun q => (q.1, q.2.1, some x, q.2.2.2)) (fun y => y.2 rfl) hq2 ⟨rfl, rfl⟩
    have ff3 : fg (fun x k => x = zsz M ∧ k = 8) M2 (si M2 (zsz M) 8 (nI x)) := (fr.si ⟨rfl, rfl⟩).fg
    have V3 := V2.1.fr (τ' := τ1) ff3 R2.ps.z190 ⟨by omega, by omega⟩ (fun k => ⟨by omega, by omega⟩) (fun k => ⟨.inl (by rw [b2.1, A1.2.2.1]; decide), .inl (by rw [d2.1, A1.2.2.2]; decide)⟩) (fun _ _ => rfl)
    refine txt _ _ x (some x) _ _ R4 (by omega) (by omega) V3.1 ⟨V3.2.2.1.trans (b2.1.trans A1.2.2.1), V3.2.2.2.trans (d2.1.trans A1.2.2.2), V3.2.1.1.trans (b2.2.trans A1.1), V3.2.1.2.trans (d2.2.trans A1.2.1)⟩ ?_ ?_ ⟨gi_self _ _ _ _, hx2.1⟩ (fun y e => by cases e; exact hx2.1) (pe1.trans (bnd_ok e2))
    · rw [setF_at hq2]
      exact List.getElem?_set_self (List.getElem?_eq_some_iff.mp hq2).1
    · exact (gi_idx (by decide)).trans ((k2.mvr.cd ⟨by omega, W1.1.2⟩ (by decide) (by decide)).1.trans g1.1)
  · rw [if_neg h1]
    have k1' : ¬ tkd (zOf n c mdi) s.1 = 1 := fun y => h1 (kd.trans y)
    refine txt M1 _ 0 none _ _ R1 (by omega) (by omega) W1 ⟨A1.2.2.1, A1.2.2.2, A1.1, A1.2.1⟩ hq1 g1.1 g1.2.1 (fun y e => by cases e) ?_
    rw [pe0, if_neg k1']
    rfl
end
