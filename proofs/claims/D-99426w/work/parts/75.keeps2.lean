/-! what can be undone is kept: what holds holds still -/
set_option maxRecDepth 100000
theorem keeps_inv {A A' : hA} {R R' : sMem} {S S' : hS} {g : Nat → Nat} {b L : Nat} {xs : Nat → Int32} (h : hInv A R S g b L xs) (hg : hG A') (hc : hCl A' R') (hR : sub2 R R') (hx : hX A' = hX A) (eF : ∀ k, k ≠ 28 → S'.1 k = S.1 k) (e1 : S'.2.1 = S.2.1) (e0 : S'.2.2.2.1 0 = S.2.2.2.1 0) (e2 : S'.2.2.2.1 2 = S.2.2.2.1 2) (eh : S'.2.2.2.2.1 0 = S.2.2.2.2.1 0) {s' : mSt} (m1 : ∀ j, j ≠ 2 → s'.2 j = S.2.2.2.2.2.2 j) (m2 : ∀ k, k ≠ 4 → k ≠ 27 → s'.1 k = S.2.2.2.2.2.1 k) (hC : iC A' (hM S' s')) : hInv A' R' (hM S' s') g b L xs := by
  obtain ⟨⟨a1, a2, a3, a4, a5, a6, a7⟩, hB, -, hD, hE⟩ := h
  have f1 : (hM S' s').1 = S'.1 := rfl
  have f2 : (hM S' s').2.2.2.1 = S'.2.2.2.1 := rfl
  have f3 : (hM S' s').2.2.2.2.1 = S'.2.2.2.2.1 := rfl
  have f4 : (hM S' s').2.1 = S'.2.1 := rfl
  have f5 : (hM S' s').2.2.2.2.2 = s' := rfl
  refine ⟨⟨hg, hc, by rw [f3, eh]; exact a3, by rw [f2, f5, e0, m1 0 (by omega)]; exact a4, by rw [f2, e0]; exact a5, by rw [f2, e0]; exact a6, ?_⟩, hB.fr (by rw [f1, eF 1 (by omega), eF 14 (by omega), eF 15 (by omega)]; exact ⟨rfl, rfl, rfl⟩) (by rw [f4, e1]) (by rw [f5, m1 7 (by omega)]) (by rw [f5, m2 16 (by omega) (by omega), m2 23 (by omega) (by omega), m2 25 (by omega) (by omega)]; exact ⟨rfl, rfl, rfl⟩), hC, hD.fr hR (fun k hk => by rw [f1, eF k (by omega)]) (by rw [f5, m2 5 (by omega) (by omega)]) (by rw [f5, m1 1 (by omega)]) (by rw [f2, e2]), hE.fr hR hx (fun k hk => by rw [f1, eF k (by omega)])⟩
  have := a7.ex hR
  show hReps R' (hM S' s').1 16 18 19 20 29 31 34 35 ((hM S' s').2.2.2.1 0)
  rw [f1, f2, e0]
  unfold hReps at this ⊢
  rw [eF 16 (by omega), eF 18 (by omega), eF 19 (by omega), eF 20 (by omega), eF 29 (by omega), eF 31 (by omega), eF 34 (by omega), eF 35 (by omega)]
  exact this
theorem keeps_inv2 {A A' : hA} {R R' : sMem} {S S' : hS} {s1 : mSt} {g : Nat → Nat} {b L : Nat} {xs : Nat → Int32} (h : hInv A R (hM S s1) g b L xs) (hg : hG A') (hc : hCl A' R') (hR : sub2 R R') (hx : hX A' = hX A) (eF : ∀ k, k ≠ 28 → S'.1 k = S.1 k) (e1 : S'.2.1 = S.2.1) (e0 : S'.2.2.2.1 0 = S.2.2.2.1 0) (e2 : S'.2.2.2.1 2 = S.2.2.2.1 2) (eh : S'.2.2.2.2.1 0 = S.2.2.2.2.1 0) {s' : mSt} (m1 : ∀ j, j ≠ 2 → s'.2 j = s1.2 j) (m2 : ∀ k, k ≠ 4 → k ≠ 27 → s'.1 k = s1.1 k) (hC : iC A' (hM S' s')) : hInv A' R' (hM S' s') g b L xs := keeps_inv (S := hM S s1) h hg hc hR hx eF e1 e0 e2 eh m1 m2 hC
/-- both sides remember -/
theorem j_keeps {A : hA} {R : sMem} {S : hS} {s1 : mSt} {g : Nat → Nat} {b L : Nat} {xs : Nat → Int32} (h : hInv A R (hM S s1) g b L xs) (m : Nat) : ∃ (A' : hA) (R' : sMem) (S' : hS) (s' : mSt), f_X0_keepsAhead (hX A) (hMem A R S) = some (.inl none, hMem A' R' S') ∧ p_X3_remembers m s1 = some (none, s') ∧ hInv A' R' (hM S' s') g b L xs ∧ S'.2.2.2.2.2 = S.2.2.2.2.2 ∧ A'.1 = A.1 ∧ hX A' = hX A ∧ A'.2.1 9 = A.2.1 9 ∧ hEx 8 600 R R' ∧ S'.2.2.2.1 0 = S.2.2.2.1 0 ∧ s'.2 0 = s1.2 0 ∧ s'.1 27 = 1 := by
  have hg := h.1.1
  have hc := h.1.2.1
  have h3 := hg.2.2.2
  have ht : s1.2 0 = S.2.2.2.1 0 := h.t0
  have hw : wAct (S.2.2.2.1 0) := h.act
  obtain ⟨u, c, x, u6, c6, uc, eA, e28, e4, hx, hinj, hnone, hold⟩ := h.2.2.1
  have e28 : S.1 28 = .int (nI u) := e28
  have e4 : s1.1 4 = nI u := e4
  have hx : ∀ k, k < c → 3 ≤ x k ∧ x k < A.2.2 ∧ S.2.2.1 k = some (hTa A (x k)) := hx
  have hnone : ∀ k, c ≤ k → k < 6 → S.2.2.1 k = none := hnone
  have hold : ∀ k, k < u → wAl (S.2.2.2.1 0) (S.2.2.2.1 (x k)) ∧ wAct (S.2.2.2.1 (x k)) ∧ ∀ p, p < 571 → S.2.2.2.1 (x k) p = s1.2 2 (571 * k + p) := hold
  obtain ⟨s', r1, r2, r3, r4, r5, r6, r7⟩ := px_rem m s1 u6 e4
  by_cases hu : u = 6
  · -- the eldest goes
    subst hu
    have c66 : c = 6 := by omega
    subst c66
    obtain ⟨a1, a2, a3⟩ := hx 0 (by omega)
    have cpy := ah_cp hg R S (fun k hk => ⟨x k, (hx k hk).2.1, (hx k hk).2.2⟩)
    have st := ah_st hg R (hF (hAh S (va_cpy S.2.2.1 S.2.2.1 1 0 5)) 28 (.int (nI 5))) (p := 5) (by omega) a2
    have st' : sAst (hMem A R (hF (hAh S (va_cpy S.2.2.1 S.2.2.1 1 0 5)) 28 (.int (nI 5)))) (hRa A 5) (nI 5) (hTa A (x 0)) = some (hMem A R (hAh (hF (hAh S (va_cpy S.2.2.1 S.2.2.1 1 0 5)) 28 (.int (nI 5))) (va_up (va_cpy S.2.2.1 S.2.2.1 1 0 5) 5 (some (hTa A (x 0)))))) := st
    generalize hSr : hAh (hF (hAh S (va_cpy S.2.2.1 S.2.2.1 1 0 5)) 28 (.int (nI 5))) (va_up (va_cpy S.2.2.1 S.2.2.1 1 0 5) 5 (some (hTa A (x 0)))) = Sr at st'
    have s28 : Sr.1 28 = .int (nI 5) := by rw [← hSr, hAh_1, hF_same]
    have sah : Sr.2.2.1 = va_up (va_cpy S.2.2.1 S.2.2.1 1 0 5) 5 (some (hTa A (x 0))) := by rw [← hSr, hAh_3]
    have sT : Sr.2.2.2 = S.2.2.2 := by rw [← hSr]; rfl
    have sF : ∀ k, k ≠ 28 → Sr.1 k = S.1 k := fun k hk => by rw [← hSr, hAh_1, hF_ne _ _ hk]; rfl
    have sR : Sr.2.1 = S.2.1 := by rw [← hSr]; rfl
    have j50 := f_J50_old hg R Sr (u := 5) (i := x 0) (by omega) s28 a2 a1 (by rw [sah, va_up_self])
    rw [sT] at j50
    have n6 : nI 6 = 6 := rfl
    have n61 : (6 : Int32) - 1 = nI 5 := by decide
    have ld0 := ah_ldn hg R S (p := 0) (by omega) a3
    have ld0' : sAldN (hMem A R S) (hRa A 5) 0 = some (hTa A (x 0)) := ld0
    have e28' : (hAh S (va_cpy S.2.2.1 S.2.2.1 1 0 5)).1 28 = .int (nI 6) := e28
    refine ⟨A, R, hF (hT Sr (x 0) (S.2.2.2.1 0)) 28 (.int (nI (5 + 1))), s', ?_, r1, ?_, ?_, rfl, rfl, rfl, (hEx.refl R).le (by omega) (by omega), ?_, r2 0 (by omega), r4⟩
    · rw [← j50]
      simp (disch := omega) only [f_X0_keepsAhead, xgI_28 hg, e28, hvI_int, eq_self, ↓reduceIte, hcI, hcN, hcV, obS, if_true, if_false, n6, xgN_27 hg, ld0', cpy, e28', n61, xp_28 hg, hF_same, st']
    · refine keeps_inv2 h hg hc (fun _ _ h => h) rfl (fun k hk => by rw [hF_ne _ _ hk, hT_1, sF k hk]) (by rw [hF_2, hT_2, sR]) ?_ ?_ ?_ r2 r5 ?_
      · rw [hF_2, hT_ne _ _ (by omega), sT]
      · rw [hF_2, hT_ne _ _ (by omega), sT]
      · rw [hF_2, hT_5, sT]
      · refine ⟨6, 6, fun k => if k < 5 then x (k + 1) else x 0, by omega, by omega, by omega, eA, ?_, r3, fun k hk => ?_, fun j k hj hk e => ?_, fun k h1 h2 => by omega, fun k hk => ?_⟩
        · show (hF (hT Sr (x 0) (S.2.2.2.1 0)) 28 (.int (nI (5 + 1)))).1 28 = _
          rw [hF_same]
        · show _ ∧ _ ∧ (hF (hT Sr (x 0) (S.2.2.2.1 0)) 28 (.int (nI (5 + 1)))).2.2.1 k = _
          rw [hF_2, hT_3, sah]
          dsimp only
          by_cases k5 : k < 5
          · rw [if_pos k5]
            obtain ⟨b1, b2, b3⟩ := hx (k + 1) (by omega)
            refine ⟨b1, b2, ?_⟩
            unfold va_up va_cpy
            rw [if_neg (by omega), if_pos ⟨by omega, by omega⟩, show 1 + (k - 0) = k + 1 by omega]
            exact b3
          · rw [if_neg k5]
            have : k = 5 := by omega
            subst this
            exact ⟨a1, a2, by unfold va_up; rw [if_pos rfl]⟩
        · dsimp only at e
          by_cases j5 : j < 5
          · by_cases k5 : k < 5
            · rw [if_pos j5, if_pos k5] at e
              have := hinj _ _ (by omega) (by omega) e
              omega
            · rw [if_pos j5, if_neg k5] at e
              have := hinj _ _ (by omega) (by omega) e
              omega
          · by_cases k5 : k < 5
            · rw [if_neg j5, if_pos k5] at e
              have := hinj _ _ (by omega) (by omega) e
              omega
            · omega
        · show wAl ((hF (hT Sr (x 0) (S.2.2.2.1 0)) 28 (.int (nI (5 + 1)))).2.2.2.1 0) _ ∧ wAct _ ∧ _
          have T0 : (hF (hT Sr (x 0) (S.2.2.2.1 0)) 28 (.int (nI (5 + 1)))).2.2.2.1 0 = S.2.2.2.1 0 := by rw [hF_2, hT_ne _ _ (by omega), sT]
          rw [T0]
          by_cases k5 : k < 5
          · have hne : x (k + 1) ≠ x 0 := fun e => by
              have := hinj _ _ (by omega) (by omega) e
              omega
            obtain ⟨b1, b2, b3⟩ := hold (k + 1) (by omega)
            have Tk : (hF (hT Sr (x 0) (S.2.2.2.1 0)) 28 (.int (nI (5 + 1)))).2.2.2.1 (x (k + 1)) = S.2.2.2.1 (x (k + 1)) := by rw [hF_2, hT_ne _ _ hne, sT]
            dsimp only
            rw [if_pos k5]
            show wAl _ ((hF (hT Sr (x 0) (S.2.2.2.1 0)) 28 (.int (nI (5 + 1)))).2.2.2.1 (x (k + 1))) ∧ wAct ((hF (hT Sr (x 0) (S.2.2.2.1 0)) 28 (.int (nI (5 + 1)))).2.2.2.1 (x (k + 1))) ∧ ∀ p, p < 571 → (hF (hT Sr (x 0) (S.2.2.2.1 0)) 28 (.int (nI (5 + 1)))).2.2.2.1 (x (k + 1)) p = s'.2 2 (571 * k + p)
            rw [Tk]
            refine ⟨b1, b2, fun p hp => ?_⟩
            rw [r7 k p (by omega) hp, if_pos rfl]
            exact b3 p hp
          · have k55 : k = 5 := by omega
            subst k55
            have Tk : (hF (hT Sr (x 0) (S.2.2.2.1 0)) 28 (.int (nI (5 + 1)))).2.2.2.1 (x 0) = S.2.2.2.1 0 := by rw [hF_2, hT_same]
            dsimp only
            rw [if_neg (by omega)]
            show wAl _ ((hF (hT Sr (x 0) (S.2.2.2.1 0)) 28 (.int (nI (5 + 1)))).2.2.2.1 (x 0)) ∧ wAct ((hF (hT Sr (x 0) (S.2.2.2.1 0)) 28 (.int (nI (5 + 1)))).2.2.2.1 (x 0)) ∧ ∀ p, p < 571 → (hF (hT Sr (x 0) (S.2.2.2.1 0)) 28 (.int (nI (5 + 1)))).2.2.2.1 (x 0) p = s'.2 2 (571 * 5 + p)
            rw [Tk]
            refine ⟨wAl.refl _, hw, fun p hp => ?_⟩
            rw [← ht]
            exact (r6 p hp).symm
    · rw [hF_2, hT_5, sT]
    · rw [hF_2, hT_ne _ _ (by omega), sT]
  · have em : min u 5 = u := by omega
    have n6 : ¬ nI u = 6 := fun e => hu ((nI_eq (b := 6) (by omega) (by omega)).mp e)
    rw [em] at r3 r6 r7
    have pre : ∀ o, f_X0_keepsAhead_J50 (hX A) (hMem A R S) = o → f_X0_keepsAhead (hX A) (hMem A R S) = o := fun o e => by
      rw [← e]
      unfold f_X0_keepsAhead
      rw [xgI_28 hg, e28, hvI_int, obS, if_neg n6]
    by_cases huc : u < c
    · obtain ⟨a1, a2, a3⟩ := hx u huc
      have j50 := f_J50_old hg R S (u := u) (i := x u) (by omega) e28 a2 a1 a3
      refine ⟨A, R, hF (hT S (x u) (S.2.2.2.1 0)) 28 (.int (nI (u + 1))), s', pre _ j50, r1, ?_, rfl, rfl, rfl, rfl, (hEx.refl R).le (by omega) (by omega), ?_, r2 0 (by omega), r4⟩
      · refine keeps_inv2 h hg hc (fun _ _ h => h) rfl (fun k hk => by rw [hF_ne _ _ hk, hT_1]) (by rw [hF_2, hT_2]) ?_ ?_ ?_ r2 r5 ?_
        · rw [hF_2, hT_ne _ _ (by omega)]
        · rw [hF_2, hT_ne _ _ (by omega)]
        · rw [hF_2, hT_5]
        · refine ⟨u + 1, c, x, by omega, c6, by omega, eA, ?_, r3, fun k hk => ?_, hinj, fun k h1 h2 => ?_, fun k hk => ?_⟩
          · show (hF (hT S (x u) (S.2.2.2.1 0)) 28 (.int (nI (u + 1)))).1 28 = _
            rw [hF_same]
          · exact hx k hk
          · exact hnone k h1 h2
          · show wAl ((hF (hT S (x u) (S.2.2.2.1 0)) 28 (.int (nI (u + 1)))).2.2.2.1 0) ((hF (hT S (x u) (S.2.2.2.1 0)) 28 (.int (nI (u + 1)))).2.2.2.1 (x k)) ∧ wAct ((hF (hT S (x u) (S.2.2.2.1 0)) 28 (.int (nI (u + 1)))).2.2.2.1 (x k)) ∧ ∀ p, p < 571 → (hF (hT S (x u) (S.2.2.2.1 0)) 28 (.int (nI (u + 1)))).2.2.2.1 (x k) p = s'.2 2 (571 * k + p)
            rw [hF_2, hT_ne S (j := 0) _ (by omega)]
            by_cases ku : k = u
            · subst ku
              rw [hT_same]
              refine ⟨wAl.refl _, hw, fun p hp => ?_⟩
              rw [← ht]
              exact (r6 p hp).symm
            · have hne : x k ≠ x u := fun e => ku (hinj _ _ (by omega) huc e)
              rw [hT_ne _ _ hne]
              obtain ⟨b1, b2, b3⟩ := hold k (by omega)
              refine ⟨b1, b2, fun p hp => ?_⟩
              rw [r7 k p (by omega) hp, if_neg hu]
              exact b3 p hp
      · rw [hF_2, hT_ne _ _ (by omega)]
    · have huc2 : u = c := by omega
      subst huc2
      obtain ⟨R', j50, hg', hc', ex⟩ := f_J50_new hg hc S (u := u) (by omega) e28 (hnone u (by omega) (by omega))
      generalize hS2 : hAh (hTh S A.2.2 0) (va_up S.2.2.1 u (some (hTa (hAx A R.2.1) A.2.2))) = S2 at j50
      have sF : S2.1 = S.1 := by rw [← hS2]; rfl
      have sR : S2.2.1 = S.2.1 := by rw [← hS2]; rfl
      have sah : S2.2.2.1 = va_up S.2.2.1 u (some (hTa (hAx A R.2.1) A.2.2)) := by rw [← hS2]; rfl
      have sT : S2.2.2.2.1 = S.2.2.2.1 := by rw [← hS2]; rfl
      have sTh : S2.2.2.2.2.1 0 = S.2.2.2.2.1 0 := by
        rw [← hS2]
        show (if 0 = A.2.2 then _ else _) = _
        rw [if_neg (by omega)]
      have sM : S2.2.2.2.2.2 = S.2.2.2.2.2 := by rw [← hS2]; rfl
      have tad : ∀ i, i < A.2.2 → hTa (hAx A R.2.1) i = hTa A i := fun i hi => hAx_old A _ (by unfold hK; omega)
      refine ⟨hAx A R.2.1, R', hF (hT S2 A.2.2 (S.2.2.2.1 0)) 28 (.int (nI (u + 1))), s', pre _ j50, r1, ?_, sM, rfl, hAx_old A _ (hG.k A hg (by omega)), hAx_old A _ (hG.k A hg (by omega)), ex, ?_, r2 0 (by omega), r4⟩
      · refine keeps_inv2 h hg' hc' ex.1 (hAx_old A _ (hG.k A hg (by omega))) (fun k hk => by rw [hF_ne _ _ hk, hT_1, sF]) (by rw [hF_2, hT_2, sR]) ?_ ?_ ?_ r2 r5 ?_
        · rw [hF_2, hT_ne _ _ (by omega), sT]
        · rw [hF_2, hT_ne _ _ (by omega), sT]
        · rw [hF_2, hT_5, sTh]
        · refine ⟨u + 1, u + 1, fun k => if k = u then A.2.2 else x k, by omega, by omega, by omega, by show A.2.2 + 1 = _; omega, ?_, r3, fun k hk => ?_, fun j k hj hk e => ?_, fun k h1 h2 => ?_, fun k hk => ?_⟩
          · show (hF (hT S2 A.2.2 (S.2.2.2.1 0)) 28 (.int (nI (u + 1)))).1 28 = _
            rw [hF_same]
          · show 3 ≤ (if k = u then A.2.2 else x k) ∧ (if k = u then A.2.2 else x k) < A.2.2 + 1 ∧ (hF (hT S2 A.2.2 (S.2.2.2.1 0)) 28 (.int (nI (u + 1)))).2.2.1 k = some (hTa (hAx A R.2.1) (if k = u then A.2.2 else x k))
            rw [hF_2, hT_3, sah]
            by_cases ku : k = u
            · subst ku
              rw [if_pos rfl, va_up_self]
              exact ⟨h3, by omega, rfl⟩
            · rw [if_neg ku]
              obtain ⟨b1, b2, b3⟩ := hx k (by omega)
              refine ⟨b1, by omega, ?_⟩
              unfold va_up
              rw [if_neg ku, b3, tad _ b2]
          · dsimp only at e
            by_cases j5 : j = u
            · by_cases k5 : k = u
              · omega
              · rw [if_pos j5, if_neg k5] at e
                have := (hx k (by omega)).2.1
                omega
            · by_cases k5 : k = u
              · rw [if_neg j5, if_pos k5] at e
                have := (hx j (by omega)).2.1
                omega
              · rw [if_neg j5, if_neg k5] at e
                exact hinj _ _ (by omega) (by omega) e
          · show (hF (hT S2 A.2.2 (S.2.2.2.1 0)) 28 (.int (nI (u + 1)))).2.2.1 k = none
            rw [hF_2, hT_3, sah]
            unfold va_up
            rw [if_neg (by omega)]
            exact hnone k (by omega) h2
          · show wAl ((hF (hT S2 A.2.2 (S.2.2.2.1 0)) 28 (.int (nI (u + 1)))).2.2.2.1 0) ((hF (hT S2 A.2.2 (S.2.2.2.1 0)) 28 (.int (nI (u + 1)))).2.2.2.1 (if k = u then A.2.2 else x k)) ∧ wAct ((hF (hT S2 A.2.2 (S.2.2.2.1 0)) 28 (.int (nI (u + 1)))).2.2.2.1 (if k = u then A.2.2 else x k)) ∧ ∀ p, p < 571 → (hF (hT S2 A.2.2 (S.2.2.2.1 0)) 28 (.int (nI (u + 1)))).2.2.2.1 (if k = u then A.2.2 else x k) p = s'.2 2 (571 * k + p)
            rw [hF_2, hT_ne S2 (j := 0) _ (by omega), sT]
            by_cases ku : k = u
            · subst ku
              rw [if_pos rfl, hT_same]
              refine ⟨wAl.refl _, hw, fun p hp => ?_⟩
              rw [← ht]
              exact (r6 p hp).symm
            · rw [if_neg ku, hT_ne _ _ (by have := (hx k (by omega)).2.1; omega), sT]
              obtain ⟨b1, b2, b3⟩ := hold k (by omega)
              refine ⟨b1, b2, fun p hp => ?_⟩
              rw [r7 k p (by omega) hp, if_neg hu]
              exact b3 p hp
      · rw [hF_2, hT_ne _ _ (by omega), sT]
