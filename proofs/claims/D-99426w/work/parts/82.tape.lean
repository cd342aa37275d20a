/-! the tape -/
set_option maxRecDepth 100000
theorem hInv.tape {A : hA} {R : sMem} {S S1 : hS} {s' : mSt} {g : Nat → Nat} {b L : Nat} {xs : Nat → Int32} (h : hInv A R S g b L xs) {n : Nat} (n4 : n ≤ 400) (eF : ∀ k, k ≠ 1 → S1.1 k = S.1 k) (e1 : S1.1 1 = .int (nI n)) (eR : S1.2.2 = S.2.2) (row : ∀ k, k < n → S1.2.1 1 k &&& 255 = s'.2 7 k) (m16 : s'.1 16 = nI n) (m1 : ∀ k, k ≠ 16 → s'.1 k = S.2.2.2.2.2.1 k) (m2 : ∀ k, k ≠ 7 → s'.2 k = S.2.2.2.2.2.2 k) : hInv A R (hM S1 s') g b L xs := by
  have T : (hM S1 s').2.2.2.1 = S.2.2.2.1 := by
    show S1.2.2.2.1 = _
    rw [eR]
  have H : (hM S1 s').2.2.2.2.1 = S.2.2.2.2.1 := by
    show S1.2.2.2.2.1 = _
    rw [eR]
  have Ah : (hM S1 s').2.2.1 = S.2.2.1 := by
    show S1.2.2.1 = _
    rw [eR]
  have F : ∀ k, k ≠ 1 → (hM S1 s').1 k = S.1 k := eF
  obtain ⟨h1, h2, h3, h4, h5⟩ := h
  refine ⟨h1.fr (fun _ _ h => h) h1.2.1 (by rw [H]) ?_ (by rw [T]; exact wAl.refl _) (by rw [T]; exact h1.2.2.2.2.1) (fun k hk => F k (by omega)), ?_, h3.fr (F 28 (by omega)) (m1 4 (by omega)) (m2 2 (by omega)) Ah (fun k hk => by rw [T]) (by rw [T]; exact wAl.refl _), h4.fr (fun _ _ h => h) (fun k hk => F k (by omega)) (m1 5 (by omega)) (m2 1 (by omega)) (by rw [T]), h5.fr (fun _ _ h => h) rfl (fun k hk => F k (by omega))⟩
  · rw [T]
    show _ = s'.2 0
    rw [m2 0 (by omega)]
    exact h1.2.2.2.1
  · obtain ⟨n0, a1, a2, a3, a4, a5, a6⟩ := h2
    refine ⟨n, n4, e1, m16, row, ?_, ?_⟩
    · rw [F 14 (by omega)]
      show _ = Value.int (s'.1 23)
      rw [m1 23 (by omega)]
      exact a5
    · rw [F 15 (by omega)]
      show _ = Value.int (s'.1 25)
      rw [m1 25 (by omega)]
      exact a6
theorem j_end {A : hA} {R : sMem} {S : hS} {g : Nat → Nat} {b L : Nat} {xs : Nat → Int32} (h : hInv A R S g b L xs) (v : Int32) : hOp A R S g b L xs (f_X0_end (hX A) v) (f_X3_end (A.2.1 9) v) := by
  have hg := h.1.1
  have hq : ∀ (R : sMem), R.1 ≤ A.2.1 9 → ∀ s : mSt, f_X3_end (A.2.1 9) v (mPut R (A.2.1 9) s) = lft R (A.2.1 9) (p_X3_end (A.2.1 9) v s) := fun R hR s => q_X3_end R _ hR v s
  obtain ⟨n, n4, e1, m16, row, -, -⟩ := h.2.1
  cases hv : inB v 0 (nI n) with
  | false =>
    refine hOp.read0 h hq (v := 0) ?_ ?_
    · simp only [f_X0_end, xgI_1 hg, e1, hvI_int, eq_self, ↓reduceIte, hcI, hcN, hcV, obS, if_true, if_false, fx_isIn, hv, b01_f]
    · simp only [p_X3_end, qg, obS, m16, px_isIn, hv, pcI, b01_f, ↓reduceIte]
  | true =>
    obtain ⟨i, hi, rfl⟩ := inB_lit (by omega) hv
    refine hOp.write h hq (v := 1) (S1 := hF S 1 (.int (nI i))) (R' := R) (s' := mSet S.2.2.2.2.2 16 (nI i)) ?_ rfl ((hEx.refl R).le (by omega) (by omega)) ?_ ?_
    · simp only [f_X0_end, xgI_1 hg, e1, hvI_int, eq_self, ↓reduceIte, hcI, hcN, hcV, obS, if_true, if_false, fx_isIn, hv, b01_t, xp_1 hg]
    · simp only [p_X3_end, qg, obS, m16, px_isIn, hv, pcI, b01_t, ↓reduceIte, qp]
    · exact h.tape (n := i) (by omega) (fun k hk => hF_ne _ _ hk) (hF_same _ _ _) rfl (fun k hk => by rw [ms_2]; exact row k (by omega)) (ms_same _ _ _) (fun k hk => ms_ne _ _ hk) (fun k _ => by rw [ms_2])
