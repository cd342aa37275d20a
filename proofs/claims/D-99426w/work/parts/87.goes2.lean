/-! thinking days ahead: both sides -/
set_option maxRecDepth 100000
theorem j_goes {A : hA} {R : sMem} {S : hS} {g : Nat → Nat} {b L : Nat} {xs : Nat → Int32} (h : hInv A R S g b L xs) (v w : Int32) : hOp A R S g b L xs (f_X0_goes (hX A) v w) (f_X3_goes (A.2.1 9) v w) := by
  have hg := h.1.1
  have hc := h.1.2.1
  have h0 : 0 < A.2.2 := by have := hg.2.2.2; omega
  have h1 : 1 < A.2.2 := by have := hg.2.2.2; omega
  have ht := h.t0
  have hw := h.act
  have hq : ∀ (R : sMem), R.1 ≤ A.2.1 9 → ∀ s : mSt, f_X3_goes (A.2.1 9) v w (mPut R (A.2.1 9) s) = lft R (A.2.1 9) (p_X3_goes (A.2.1 9) v w s) := fun R hR s => q_X3_goes R _ hR v w s
  cases hv : inB v 1 99 with
  | false =>
    refine hOp.read0 h hq (v := -1) ?_ ?_
    · simp only [f_X0_goes, fx_isIn, hv, eq_self, ↓reduceIte, hcI, hcN, hcV, obS, if_true, if_false, b01_f]
    · simp only [p_X3_goes, px_isIn, hv, pcI, b01_f, ↓reduceIte]
  | true =>
    cases hw2 : inB w 0 3 with
    | false =>
      refine hOp.read0 h hq (v := -1) ?_ ?_
      · simp only [f_X0_goes, fx_isIn, hv, hw2, eq_self, ↓reduceIte, hcI, hcN, hcV, obS, if_true, if_false, b01_f, b01_t]
      · simp only [p_X3_goes, px_isIn, hv, hw2, pcI, b01_f, b01_t, ↓reduceIte]
    | true =>
      obtain ⟨n, n1, n9, rfl⟩ := inB_lo (l := 1) (k := 99) (by omega) (by omega) hv
      have hw4 : w = 0 ∨ w = 1 ∨ w = 2 ∨ w = 3 := by
        obtain ⟨k, hk, rfl⟩ := inB_lit (k := 3) (by omega) hw2
        have : k = 0 ∨ k = 1 ∨ k = 2 ∨ k = 3 := by omega
        rcases this with rfl | rfl | rfl | rfl
        · exact Or.inl rfl
        · exact Or.inr (Or.inl rfl)
        · exact Or.inr (Or.inr (Or.inl rfl))
        · exact Or.inr (Or.inr (Or.inr rfl))
      have bec := f_become hg R S (i := 1) (j := 0) h1 h0 (by omega) (t' := S.2.2.2.1 0) (fun p _ => rfl) (fun e => by omega) (fun e => by omega)
      have pt := ht_put17 hg R (hT S 1 (S.2.2.2.1 0)) h1 1
      generalize hS1 : hTh (hT S 1 (S.2.2.2.1 0)) 1 1 = S1 at pt
      have sT1 : S1.2.2.2.1 1 = S.2.2.2.1 0 := by rw [← hS1, hTh_4, hT_same]
      have sTn : ∀ k, k ≠ 1 → S1.2.2.2.1 k = S.2.2.2.1 k := fun k hk => by rw [← hS1, hTh_4, hT_ne _ _ hk]
      have sH1 : S1.2.2.2.2.1 1 = 1 := by rw [← hS1]; simp [hTh]
      have sHn : S1.2.2.2.2.1 0 = S.2.2.2.2.1 0 := by rw [← hS1]; simp [hTh, hT]
      have sM : S1.2.2.2.2.2 = S.2.2.2.2.2 := by rw [← hS1]; rfl
      have sF : S1.1 = S.1 := by rw [← hS1]; rfl
      have sR : S1.2.1 = S.2.1 := by rw [← hS1]; rfl
      have sA : S1.2.2.1 = S.2.2.1 := by rw [← hS1]; rfl
      have hsv := px_save (A.2.1 9) (nI n) w S.2.2.2.2.2
      generalize es : mSet (mRowSet S.2.2.2.2.2 3 (fun p => if p < 571 then S.2.2.2.2.2.2 0 p else S.2.2.2.2.2.2 3 p)) 27 0 = s1 at hsv
      have m0 : s1.2 0 = S.2.2.2.1 0 := by rw [← es, ms_2, mrs_ne _ _ (by omega), ht]
      have m3 : ∀ p, p < 571 → s1.2 3 p = S.2.2.2.1 0 p := fun p hp => by
        rw [← es, ms_2, mrs_same, ← ht]
        exact if_pos hp
      have mn : ∀ k, k ≠ 3 → s1.2 k = S.2.2.2.2.2.2 k := fun k hk => by rw [← es, ms_2, mrs_ne _ _ hk]
      have m27 : s1.1 27 = 0 := by rw [← es, ms_same]
      have mk : ∀ k, k ≠ 27 → s1.1 k = S.2.2.2.2.2.1 k := fun k hk => by rw [← es, ms_ne _ _ hk, mrs_1]
      obtain ⟨R', S', s', x, e1, e2, c1, c2, c3, c4, c5, c6, c7, c8, c9, c10, c11⟩ := goes_loop hg (A.2.1 9) n n9 hw4 n sFuel sFuel 0 R S1 s1 (S.2.2.2.1 0) (by omega) (by have : 100 < sFuel := (by decide); omega) (by have : 100 < sFuel := (by decide); omega) hc hw sT1 m0 sH1 m27 (by rw [sTn 0 (by omega)]) (fun i hi => by rw [sTn 0 (by omega)]) (by rw [sF]; exact h.1.2.2.2.2.2.2)
      have e1' : f_X0_goes_L36 (hX A) (nI n) w (hTa A 1) sFuel 0 (hMem A R S1) = some (.inl (some (.int x)), hMem A R' S') := e1
      have e2' : p_X3_goes_L55 (A.2.1 9) (nI n) w sFuel 0 s1 = some (some (.int x), s') := e2
      refine hOp.write2 (A' := A) rfl rfl rfl hq (v := x) (R' := R') (S1 := S') (s' := s') ?_ (by rw [c7, sM]) (c2.le (by omega) (by omega)) ?_ ?_
      · simp only [f_X0_goes, f_X2_thinks, fx_isIn, hv, hw2, eq_self, ↓reduceIte, hcI, hcN, hcV, obS, if_true, if_false, b01_t, xgN_24 hg, xgN_23 hg, ht_chk hg R S h1, bec, pt, e1']
      · simp only [p_X3_goes, px_isIn, hv, hw2, pcI, b01_t, ↓reduceIte]
        exact hsv.trans e2'
      · refine h.think c2.1 c1 (c3.trans sF) (by rw [c4, sR]) (c5.trans sA) (fun k hk => (c6 k hk).trans (sTn k hk)) (by rw [c7]; exact sHn) (fun k hk => by rw [c8]; exact mk k hk) (fun k hk hk3 => ?_)
        by_cases k0 : k = 0
        · subst k0
          rw [ht]
          funext p
          by_cases hp : p < 571
          · rw [c9 p hp, m3 p hp]
          · exact c10 p (by omega)
        · rw [c11 k (by omega) hk, mn k hk3]
