/-! the image taken: both sides -/
set_option maxRecDepth 100000
theorem j_image1 {A : hA} {R : sMem} {S : hS} {g : Nat → Nat} {b L : Nat} {xs : Nat → Int32} (h : hInv A R S g b L xs) {v : Int32} (hv : ¬ v = 0) : hOp A R S g b L xs (f_X0_image (hX A) v) (f_X3_image (A.2.1 9) v) := by
  have hg := h.1.1
  have ht := h.t0
  have hq : ∀ (R : sMem), R.1 ≤ A.2.1 9 → ∀ s : mSt, f_X3_image (A.2.1 9) v (mPut R (A.2.1 9) s) = lft R (A.2.1 9) (p_X3_image (A.2.1 9) v s) := fun R hR s => q_X3_image R _ hR v s
  obtain ⟨⟨q0, r0, b0⟩, ⟨q1, r1, b1⟩, ⟨q2, r2, b2⟩, ⟨q3, r3, b3⟩, ⟨q4, r4, b4⟩, ⟨q5, r5, b5⟩, ⟨q6, r6, b6⟩, q7, r7, b7⟩ := h.1.2.2.2.2.2.2
  have tk := f_takes hg R S r0 r1 r2 r3 r4 r5 r6 r7 (u := S.2.2.2.1 0) (fun p _ => rfl)
  have pk := px_take (A.2.1 9) hv S.2.2.2.2.2
  have eu : imW (S.2.2.2.2.2.2 0) (S.2.2.2.2.2.2 1) = S.2.2.2.1 0 := by
    funext p
    unfold imW
    by_cases hp : p < 2355
    · rw [if_pos hp, ht]
    · rw [if_neg hp, h.1.2.2.2.2.2.1 p (by omega)]
      exact h.2.2.2.1.1 p (by omega)
  rw [eu] at pk
  generalize hS1 : hF (hF (hF (hF (hF (hF (hF (hF (hF (hT S 2 (S.2.2.2.1 0)) 38 (.int (S.2.2.2.1 0 571))) 39 (.ref q1)) 40 (.ref q2)) 41 (.ref q4)) 42 (.ref q3)) 43 (.ref q5)) 44 (.ref q6)) 45 (.ref q7)) 46 (.ref q0) = S1 at tk
  have F : ∀ k, k < 38 → S1.1 k = S.1 k := fun k hk => by
    rw [← hS1]
    simp (disch := omega) only [hF_ne, hT_1]
  have G : S1.1 38 = .int (S.2.2.2.1 0 571) ∧ S1.1 39 = .ref q1 ∧ S1.1 40 = .ref q2 ∧ S1.1 41 = .ref q4 ∧ S1.1 42 = .ref q3 ∧ S1.1 43 = .ref q5 ∧ S1.1 44 = .ref q6 ∧ S1.1 45 = .ref q7 ∧ S1.1 46 = .ref q0 := by
    rw [← hS1]
    simp (disch := omega) only [hF_ne, hF_same, and_self]
  obtain ⟨g38, g39, g40, g41, g42, g43, g44, g45, g46⟩ := G
  have T2 : S1.2.2.2.1 2 = S.2.2.2.1 0 := by
    rw [← hS1]
    show (hT S 2 _).2.2.2.1 2 = _
    rw [hT_same]
  have Tn : ∀ k, k ≠ 2 → S1.2.2.2.1 k = S.2.2.2.1 k := fun k hk => by
    rw [← hS1]
    show (hT S 2 _).2.2.2.1 k = _
    rw [hT_ne _ _ hk]
  have sM : S1.2.2.2.2 = S.2.2.2.2 := by rw [← hS1]; rfl
  have sR : S1.2.1 = S.2.1 := by rw [← hS1]; rfl
  have sA : S1.2.2.1 = S.2.2.1 := by rw [← hS1]; rfl
  have m1 : ∀ k, k ≠ 5 → (mSet (mRowSet S.2.2.2.2.2 1 (S.2.2.2.1 0)) 5 1).1 k = S.2.2.2.2.2.1 k := fun k hk => by rw [ms_ne _ _ hk, mrs_1]
  have m2 : ∀ k, k ≠ 1 → (mSet (mRowSet S.2.2.2.2.2 1 (S.2.2.2.1 0)) 5 1).2 k = S.2.2.2.2.2.2 k := fun k hk => by rw [ms_2, mrs_ne _ _ hk]
  refine hOp.write h hq (v := 1) (S1 := S1) (R' := R) (s' := mSet (mRowSet S.2.2.2.2.2 1 (S.2.2.2.1 0)) 5 1) ?_ (by rw [sM]) ((hEx.refl R).le (by omega) (by omega)) ?_ ?_
  · simp only [f_X0_image, f_X0_image_J13, if_neg hv, hx_chk hg, tk, eq_self, ↓reduceIte, hcI, hcN, hcV, obS, if_true, if_false]
  · simp only [p_X3_image, if_neg hv]
    exact pk
  · obtain ⟨h1, h2, h3, h4, h5⟩ := h
    refine ⟨h1.fr (fun _ _ h => h) h1.2.1 (by show S1.2.2.2.2.1 0 = _; rw [sM]) ?_ (by show wAl _ (S1.2.2.2.1 0); rw [Tn 0 (by omega)]; exact wAl.refl _) (by show wAct (S1.2.2.2.1 0); rw [Tn 0 (by omega)]; exact h1.2.2.2.2.1) (fun k hk => F k (by omega)), h2.fr ⟨F 1 (by omega), F 14 (by omega), F 15 (by omega)⟩ (congrFun sR 1) (m2 7 (by omega)) ⟨m1 16 (by omega), m1 23 (by omega), m1 25 (by omega)⟩, h3.fr (F 28 (by omega)) (m1 4 (by omega)) (m2 2 (by omega)) sA (fun k hk => Tn k (by omega)) (by show wAl _ (S1.2.2.2.1 0); rw [Tn 0 (by omega)]; exact wAl.refl _), ⟨fun p hp => ?_, Or.inr ⟨?_, ?_, ?_, ?_, ?_⟩⟩, h5.fr (fun _ _ h => h) rfl (fun k hk => F k (by omega))⟩
    · show S1.2.2.2.1 0 = (mSet (mRowSet S.2.2.2.2.2 1 (S.2.2.2.1 0)) 5 1).2 0
      rw [Tn 0 (by omega), m2 0 (by omega), ht]
    · show (mSet (mRowSet S.2.2.2.2.2 1 (S.2.2.2.1 0)) 5 1).2 1 p = 0
      rw [ms_2, mrs_same]
      exact h1.2.2.2.2.2.1 p hp
    · exact ms_same _ _ _
    · show S1.2.2.2.1 2 = (mSet (mRowSet S.2.2.2.2.2 1 (S.2.2.2.1 0)) 5 1).2 1
      rw [T2, ms_2, mrs_same]
    · show wAct (S1.2.2.2.1 2)
      rw [T2]
      exact h1.2.2.2.2.1
    · show S1.1 38 = .int (S1.2.2.2.1 2 571)
      rw [T2]
      exact g38
    · show hReps R S1.1 46 39 40 42 41 43 44 45 (S1.2.2.2.1 2)
      rw [T2]
      exact ⟨⟨q0, g46, b0⟩, ⟨q1, g39, b1⟩, ⟨q2, g40, b2⟩, ⟨q3, g42, b3⟩, ⟨q4, g41, b4⟩, ⟨q5, g43, b5⟩, ⟨q6, g44, b6⟩, q7, g45, b7⟩
