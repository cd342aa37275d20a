/-! undoing, looking -/
set_option maxRecDepth 100000
theorem j_undo {A : hA} {R : sMem} {S : hS} {g : Nat → Nat} {b L : Nat} {xs : Nat → Int32} (h : hInv A R S g b L xs) : hOp A R S g b L xs (f_X0_undo (hX A)) (f_X3_undo (A.2.1 9)) := by
  have hg := h.1.1
  have h3 : 0 < A.2.2 := by have := hg.2.2.2; omega
  have ht := h.t0
  have hw := h.act
  have hn := hw.n
  have hq : ∀ (R : sMem), R.1 ≤ A.2.1 9 → ∀ s : mSt, f_X3_undo (A.2.1 9) (mPut R (A.2.1 9) s) = lft R (A.2.1 9) (p_X3_undo (A.2.1 9) s) := fun R hR s => q_X3_undo R _ hR s
  obtain ⟨u, c, x, u6, c6, uc, eA, e28, e4, hx, hinj, hnone, hold⟩ := h.2.2.1
  cases u with
  | zero =>
    refine hOp.read0 h hq (v := 0) ?_ ?_
    · simp only [f_X0_undo, xgI_28 hg, e28, hvI_int, eq_self, ↓reduceIte, hcI, hcN, hcV, obS, if_true, if_false, nI_0]
    · simp only [p_X3_undo, qg, obS, e4, nI_0, ↓reduceIte]
  | succ v =>
    obtain ⟨a1, a2, a3⟩ := hx v (by omega)
    obtain ⟨al, wj, eq⟩ := hold v (by omega)
    have hne : ¬ nI (v + 1) = 0 := fun e => by
      have := (nI_eq (a := v + 1) (b := 0) (by omega) (by omega)).mp e
      omega
    have hpr : nI (v + 1) - 1 = nI v := nI_pred v
    generalize et : (fun p => if p < 571 then S.2.2.2.1 (x v) p else S.2.2.2.1 0 p) = t'
    have lo : ∀ p, p < 571 → t' p = S.2.2.2.1 (x v) p := fun p hp => by rw [← et]; exact if_pos hp
    have hi : ∀ p, 571 ≤ p → t' p = S.2.2.2.1 0 p := fun p hp => by rw [← et]; exact if_neg (by omega)
    have wt : wAct t' := wAct_safe wj (fun p hp => by rw [hi p (by omega), al p (by omega)]) (fun p hp => by
      by_cases hp5 : p < 571
      · exact lo p hp5
      · have : p = 571 := by have := wj.n; omega
        rw [hi p (by omega), al p (by omega)])
    have al' : wAl (S.2.2.2.1 0) t' := fun p hp => hi p (by omega)
    have ld := ah_ldn hg R (hF S 28 (.int (nI v))) (p := v) (by omega) a3
    have bec := f_become hg R (hF S 28 (.int (nI v))) (i := 0) (j := x v) h3 a2 (by omega) (t' := t') (fun p hp => by
      show t' p = S.2.2.2.1 (x v) p
      by_cases hp5 : p < 571
      · exact lo p hp5
      · rw [hi p (by omega), al p (by omega)]) (fun _ => al 571 (by omega)) (fun _ p hp => hi p (by omega))
    have und := px_undo (A.2.1 9) S.2.2.2.2.2 (u := v) (by omega)
    have erow : (fun p => if p < 571 then S.2.2.2.2.2.2 2 (571 * v + p) else S.2.2.2.2.2.2 0 p) = t' := by
      rw [← et]
      funext p
      by_cases hp : p < 571
      · rw [if_pos hp, if_pos hp, eq p hp]
      · rw [if_neg hp, if_neg hp, ht]
    rw [erow] at und
    have T0 : (hM (hT (hF S 28 (.int (nI v))) 0 t') (mRowSet (mSet S.2.2.2.2.2 4 (nI v)) 0 t')).2.2.2.1 0 = t' := by
      show (hT (hF S 28 (.int (nI v))) 0 t').2.2.2.1 0 = t'
      rw [hT_same]
    have T2 : ∀ k, k ≠ 0 → (hM (hT (hF S 28 (.int (nI v))) 0 t') (mRowSet (mSet S.2.2.2.2.2 4 (nI v)) 0 t')).2.2.2.1 k = S.2.2.2.1 k := fun k hk => by
      show (hT (hF S 28 (.int (nI v))) 0 t').2.2.2.1 k = S.2.2.2.1 k
      rw [hT_ne _ _ hk]
      rfl
    have F : ∀ k, k ≠ 28 → (hM (hT (hF S 28 (.int (nI v))) 0 t') (mRowSet (mSet S.2.2.2.2.2 4 (nI v)) 0 t')).1 k = S.1 k := fun k hk => by
      show (hF S 28 (.int (nI v))).1 k = _
      exact hF_ne _ _ hk
    have m1 : ∀ k, k ≠ 4 → (mRowSet (mSet S.2.2.2.2.2 4 (nI v)) 0 t').1 k = S.2.2.2.2.2.1 k := fun k hk => by
      rw [mrs_1, ms_ne _ _ hk]
    have m2 : ∀ k, k ≠ 0 → (mRowSet (mSet S.2.2.2.2.2 4 (nI v)) 0 t').2 k = S.2.2.2.2.2.2 k := fun k hk => by
      rw [mrs_ne _ _ hk, ms_2]
    refine hOp.write h hq (v := 1) (S1 := hT (hF S 28 (.int (nI v))) 0 t') (R' := R) (s' := mRowSet (mSet S.2.2.2.2.2 4 (nI v)) 0 t') ?_ rfl ((hEx.refl R).le (by omega) (by omega)) ?_ ?_
    · simp (disch := omega) only [f_X0_undo, xgI_28 hg, e28, hvI_int, eq_self, ↓reduceIte, hcI, hcN, hcV, obS, if_true, if_false, hne, hpr, xp_28 hg, xgN_23 hg, xgN_27 hg, hF_same, ld, ht_chk hg, bec]
    · simp only [p_X3_undo, qg, obS, e4, hne, ↓reduceIte, qp, hpr]
      exact und
    · obtain ⟨h1, h2, h3', h4, h5⟩ := h
      refine ⟨h1.fr (fun _ _ h => h) h1.2.1 rfl ?_ (by rw [T0]; exact al') (by rw [T0]; exact wt) (fun k hk => F k (by omega)), h2.fr ⟨F 1 (by omega), F 14 (by omega), F 15 (by omega)⟩ rfl (m2 7 (by omega)) ⟨m1 16 (by omega), m1 23 (by omega), m1 25 (by omega)⟩, ?_, h4.fr (fun _ _ h => h) (fun k hk => F k (by omega)) (m1 5 (by omega)) (m2 1 (by omega)) (T2 2 (by omega)), h5.fr (fun _ _ h => h) rfl (fun k hk => F k (by omega))⟩
      · rw [T0]
        show t' = (mRowSet (mSet S.2.2.2.2.2 4 (nI v)) 0 t').2 0
        rw [mrs_same]
      · refine ⟨v, c, x, by omega, c6, by omega, eA, ?_, ?_, hx, hinj, hnone, fun k hk => ?_⟩
        · show (hF S 28 (.int (nI v))).1 28 = _
          rw [hF_same]
        · show (mRowSet (mSet S.2.2.2.2.2 4 (nI v)) 0 t').1 4 = _
          rw [mrs_1, ms_same]
        · obtain ⟨b1, b2, b3⟩ := hold k (by omega)
          have c1 := hx k (by omega)
          rw [T0, T2 (x k) (by omega)]
          refine ⟨fun p hp => by rw [hi p (by omega), b1 p hp], b2, fun p hp => ?_⟩
          rw [b3 p hp]
          show _ = (mRowSet (mSet S.2.2.2.2.2 4 (nI v)) 0 t').2 2 _
          rw [m2 2 (by omega)]
