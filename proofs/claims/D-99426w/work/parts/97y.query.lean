/-! queries: both sides -/
set_option maxRecDepth 100000
/-- how many facts, for both -/
def FcB (A : hA) (R : sMem) (S : hS) (s : mSt) (F : Nat) : Prop := F ≤ 10 ∧ (∃ q, S.1 18 = .ref q ∧ ∃ f, R.2.2.2 q = some (sArq 5 F f)) ∧ s.2 0 572 = nI F
theorem inB_f (v F : Nat) (hv : v ≤ 9999) (hF : F ≤ 10) : inB (nI v) 0 (nI F - 1) = decide (v < F) := by
  unfold inB
  have e0 : ¬ nI v < 0 := nI_pos (by omega)
  rw [decide_eq_false e0]
  by_cases c : F = 0
  · subst c
    have e1 : nI 0 - 1 < nI v := by
      have h1 : (nI 0 - 1 : Int32) < nI 0 := by decide
      by_cases z : v = 0
      · subst z
        exact h1
      · refine Int32.lt_trans h1 ?_
        rw [nI_ltI (by omega) (by omega)]
        omega
    rw [decide_eq_true e1]
    simp
  · have e1 : nI F - 1 = nI (F - 1) := by
      show nI F - nI 1 = _
      exact nI_mn (by omega)
    rw [e1]
    by_cases d : v < F
    · have : ¬ nI (F - 1) < nI v := by
        rw [nI_ltI (by omega) (by omega)]
        omega
      rw [decide_eq_false this, decide_eq_true d]
      rfl
    · have : nI (F - 1) < nI v := by
        rw [nI_ltI (by omega) (by omega)]
        omega
      rw [decide_eq_true this, decide_eq_false d]
      rfl
/-- one more fact's number -/
theorem more_both {A : hA} {R : sMem} {S : hS} {s : mSt} {g : Nat → Nat} {rd n : Nat} {u : Nat → Int32} (m : Nat) (h : PS A R S s g rd n u) {F : Nat} (hF : F ≤ 10) (h572 : s.2 0 572 = nI F) : (∃ v S' s', v < F ∧ f_X0_number g (hX A) 0 (nI F - 1) (hMem A R S) = some (.inl (some (.int (nI v))), hMem A R S') ∧ p_X3_oneMore m s = some (some (.int 1), s') ∧ PS A R S' s' g rd n u ∧ SF S S' ∧ S'.1 13 = S.1 13 ∧ s'.2 = s.2 ∧ (∀ q, (q < 17 ∨ 20 < q) → q ≠ 26 → s'.1 q = s.1 q) ∧ s'.1 26 = (s.1 26 ||| ((1 : Int32) <<< (nI v &&& 31))) ∧ tAt s + 1 ≤ tAt s') ∨ FAIL A R S s (f_X0_number g (hX A) 0 (nI F - 1) (hMem A R S)) (p_X3_oneMore m s) := by
  obtain ⟨w, vc, n9, n12, n11, w3, w0, wv, -⟩ := h.num
  have q572 : qAld s 0 572 = some (s.2 0 572) := qld_0 s (p := 572) (by omega)
  by_cases c2 : s.1 18 = 2
  · have n12 := n12 (kd_2 c2)
    obtain ⟨v, hv, ev, e20⟩ := wv c2
    have m1 : f_X0_must (hX A) 1 (hMem A R S) = some (.inl none, hMem A R S) := must_1 _ (R := R) (S := S) rfl (by decide)
    have ib := inB_f v F hv hF
    have pf : p_X3_isFact m (nI v) s = some (some (.int (b01 (inB (nI v) 0 (nI F - 1)))), s) := by
      simp only [p_X3_isFact, mRow_0, obS, q572, h572, px_isIn, pcI]
      cases inB (nI v) 0 (nI F - 1) <;> simp [pBool, b01]
    by_cases c : v < F
    · left
      rw [decide_eq_true c] at ib
      have hr : PS A R S (mSet s 26 (s.1 26 ||| ((1 : Int32) <<< (nI v &&& 31)))) g rd n u := h.ex (fun _ _ q => q) h.2.1 rfl (fun q hq => ms_ne _ _ (by omega))
      obtain ⟨S', s', p1, p2, p3, p4, p5, p6, p7, p8, p9⟩ := hr.next m
      have t26 : tAt (mSet s 26 (s.1 26 ||| ((1 : Int32) <<< (nI v &&& 31)))) = tAt s := congrArg cv (ms_ne s _ (by omega))
      have t1 := p9 (by rw [ms_ne _ _ (by omega), c2]; decide)
      rw [t26] at t1
      refine ⟨v, S', s', c, ?_, ?_, p3, SF.of p4 p5, p5 _ (by omega), p6, fun q hq h26 => (p7 q hq).trans (ms_ne s _ h26), (p7 26 (by omega)).trans (ms_same s _ _), t1⟩
      · simp only [f_X0_number, xgN_9 h.1, n9, hvN_ref, obS, hx_chk h.1, if_pos (w3.mpr c2), sCallV, m1, hcV, xgI_12 h.1, n12, hvI_int, ev, fx_isIn, sCallI, hcI, ib, if_neg b01_1, p1]
      · simp only [p_X3_oneMore, qg, qp, obS, c2, if_true, e20, pf, ib, pcI, if_neg b01_1, p2, pcV]
    · right
      rw [decide_eq_false c] at ib
      obtain ⟨R', i1, i2, i3⟩ := FAIL.here h 2
      have nOf : ∀ K, sNewO (hMem A R S) 4 [.null, .null, .null, .null, .null, .int 0, .int 0, .int 0] 8 K = K R.2.1 (hMem A (sNew R (sObj 4 [.null, .null, .null, .null, .null, .int 0, .int 0, .int 0]) 8) S) := fun K => hNewO h.2.1 S 4 _ 8 K
      have e1 : f_X0_number g (hX A) 0 (nI F - 1) (hMem A R S) = some (.inr R.2.1, hMem A R' S) := by
        simp only [f_X0_number, xgN_9 h.1, n9, hvN_ref, obS, hx_chk h.1, if_pos (w3.mpr c2), sCallV, m1, hcV, xgI_12 h.1, n12, hvI_int, ev, fx_isIn, sCallI, hcI, ib, b01_z, if_true, nOf, xgI_11 h.1, n11, i1, i2]
      have e2 : p_X3_oneMore m s = some (some (.int 0), mSet (mSet s 21 2) 22 (s.1 19)) := by
        simp only [p_X3_oneMore, qg, qp, obS, c2, if_true, e20, pf, ib, pcI, b01_z, bad_m, bool0]
      rw [e1, e2]
      exact i3
  · right
    obtain ⟨R', i1, i2⟩ := must_0 h
    have w3n : ¬ w = g 3 := fun q => c2 (w3.mp q)
    have e1 : f_X0_number g (hX A) 0 (nI F - 1) (hMem A R S) = some (.inr R.2.1, hMem A R' S) := by
      simp only [f_X0_number, xgN_9 h.1, n9, hvN_ref, obS, hx_chk h.1, if_neg w3n, sCallV, i1, hcX]
    have e2 : p_X3_oneMore m s = some (some (.int 0), mSet (mSet s 21 1) 22 (s.1 19)) := by
      simp only [p_X3_oneMore, qg, obS, if_neg c2, bad_m, pcI, bool0]
    rw [e1, e2]
    exact i2
