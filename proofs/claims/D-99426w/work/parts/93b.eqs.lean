/-! scarf, knot, own -/
set_option maxRecDepth 100000
/-- what is told of the world is told of another that differs only here -/
theorem wStat_of {t w : Nat → Int32} (h : wStat t) (hw : ∀ p, (p < 577 ∨ 581 ≤ p ∧ p < 775 ∨ 871 ≤ p) → w p = t p) (r : wRea w) (k : wKno w) (s : wSca w) (o : wOwn w) : wStat w := by
  obtain ⟨g1, g2, g3, g4, g5, g6, g7, g8, g9⟩ := h
  have b2 : hFc t ≤ 10 := g2.1.2
  have b3 : hMe t ≤ 16 := g3.1.2
  have b9 : hLn t ≤ 16 := g9.1.2
  have b1 : hN t ≤ 12 := g1.1.2
  have n1 : hN w = hN t := hN_eq (hw _ (by omega))
  have n2 : hFc w = hFc t := congrArg cv (hw _ (by omega))
  have n3 : hMe w = hMe t := congrArg cv (hw _ (by omega))
  have n9 : hLn w = hLn t := congrArg cv (hw _ (by omega))
  refine ⟨⟨wSm_al (hw _ (by omega)) g1.1, fun i hi => ?_⟩, ⟨wSm_al (hw _ (by omega)) g2.1, fun f hf => ?_⟩, ⟨wSm_al (hw _ (by omega)) g3.1, fun k hk => ?_⟩, wSm_al (hw _ (by omega)) g4, r, k, s, o, ⟨wSm_al (hw _ (by omega)) g9.1, fun l hl => ?_⟩⟩
  · rw [n1] at hi
    exact wSm_al (hw _ (by omega)) (g1.2 i hi)
  · rw [n2] at hf
    obtain ⟨a1, a2, a3, a4, a5⟩ := g2.2 f hf
    have nm : hMc w f = hMc t f := congrArg cv (hw _ (by omega))
    have : hMc t f ≤ 6 := a1.2
    refine ⟨wSm_al (hw _ (by omega)) a1, by rw [nm]; exact a2, wSm_al (hw _ (by omega)) a3, wSm_al (hw _ (by omega)) a4, fun j hj => ?_⟩
    rw [nm] at hj
    exact wSm_al (hw _ (by omega)) (a5 j hj)
  · rw [n3] at hk
    rw [n1, n2, hw _ (by omega), hw _ (by omega), hw _ (by omega)]
    exact g3.2 k hk
  · rw [n9] at hl
    obtain ⟨a1, a2, a3⟩ := g9.2 l hl
    exact ⟨wSm_al (hw _ (by omega)) a1, wSm_al (hw _ (by omega)) a2, wSm_al (hw _ (by omega)) a3⟩
theorem wRea_eq {t w : Nat → Int32} (h : wRea t) (e : ∀ p, p = 577 ∨ 775 ≤ p ∧ p < 799 → w p = t p) : wRea w := by
  have b : hRc t ≤ 12 := h.1.2
  have n : hRc w = hRc t := congrArg cv (e _ (by omega))
  refine ⟨wSm_al (e _ (by omega)) h.1, fun k hk => ?_⟩
  rw [n] at hk
  exact wSm_al (e _ (by omega)) (h.2 k hk)
theorem wKno_eq {t w : Nat → Int32} (h : wKno t) (e : ∀ p, p = 578 ∨ 799 ≤ p ∧ p < 823 → w p = t p) : wKno w := by
  have b : hKc t ≤ 12 := h.1.2
  have n : hKc w = hKc t := congrArg cv (e _ (by omega))
  refine ⟨wSm_al (e _ (by omega)) h.1, fun k hk => ?_⟩
  rw [n] at hk
  exact ⟨wSm_al (e _ (by omega)) (h.2 k hk).1, wSm_al (e _ (by omega)) (h.2 k hk).2⟩
theorem wOwn_eq {t w : Nat → Int32} (h : wOwn t) (e : ∀ p, p = 580 ∨ 839 ≤ p ∧ p < 871 → w p = t p) : wOwn w := by
  have b : hOc t ≤ 16 := h.1.2
  have n : hOc w = hOc t := congrArg cv (e _ (by omega))
  refine ⟨wSm_al (e _ (by omega)) h.1, fun k hk => ?_⟩
  rw [n] at hk
  exact ⟨wSm_al (e _ (by omega)) (h.2 k hk).1, wSm_al (e _ (by omega)) (h.2 k hk).2⟩
theorem hReads_eq {R : sMem} {q : Nat} {t w : Nat → Int32} (hw : wRea t) (h : hReads R q t) (e : ∀ p, p = 577 ∨ 775 ≤ p ∧ p < 799 → w p = t p) : hReads R q w := by
  have b : hRc t ≤ 12 := hw.1.2
  have n : hRc w = hRc t := congrArg cv (e _ (by omega))
  obtain ⟨fo, ao, h1, h2⟩ := h
  refine ⟨fo, ao, by rw [n]; exact h1, fun f hf => ?_⟩
  rw [n] at hf
  rw [e _ (by omega), e _ (by omega)]
  exact h2 f hf
theorem hKnots_eq {R : sMem} {q : Nat} {t w : Nat → Int32} (hw : wKno t) (h : hKnots R q t) (e : ∀ p, p = 578 ∨ 799 ≤ p ∧ p < 823 → w p = t p) : hKnots R q w := by
  have b : hKc t ≤ 12 := hw.1.2
  exact hIntsOf_eq h (congrArg cv (e _ (by omega))) (fun k hk => by rw [e _ (by omega), e _ (by omega)])
theorem hScarf_eq {R : sMem} {q : Nat} {t w : Nat → Int32} (hw : wSca t) (h : hScarf R q t) (e : ∀ p, p = 579 ∨ 823 ≤ p ∧ p < 839 → w p = t p) : hScarf R q w := by
  have b : hSc t ≤ 16 := hw.2
  exact hIntsOf_eq h (congrArg cv (e _ (by omega))) (fun k hk => e _ (by omega))
theorem hOwns_eq {R : sMem} {q : Nat} {t w : Nat → Int32} (hw : wOwn t) (h : hOwns R q t) (e : ∀ p, p = 580 ∨ 839 ≤ p ∧ p < 871 → w p = t p) : hOwns R q w := by
  have b : hOc t ≤ 16 := hw.1.2
  exact hIntsOf_eq h (congrArg cv (e _ (by omega))) (fun k hk => by rw [e _ (by omega), e _ (by omega)])
/-- the first four, which stay -/
theorem reps4 {A : hA} {R R' : sMem} {S : hS} {F : Nat → Value} {w : Nat → Int32} (h : rA A R S) (hst : wStat (S.2.2.2.1 0)) (hR : sub2 R R') (hw : ∀ p, (p < 577 ∨ 581 ≤ p ∧ p < 775 ∨ 871 ≤ p) → w p = S.2.2.2.1 0 p) (eF : ∀ k, k = 16 ∨ k = 18 ∨ k = 19 ∨ k = 20 → F k = S.1 k) (r : ∃ q, F 29 = .ref q ∧ hReads R' q w) (kn : ∃ q, F 31 = .ref q ∧ hKnots R' q w) (sc : ∃ q, F 34 = .ref q ∧ hScarf R' q w) (ow : ∃ q, F 35 = .ref q ∧ hOwns R' q w) : hReps R' F 16 18 19 20 29 31 34 35 w := by
  obtain ⟨⟨q0, a0, b0⟩, ⟨q1, a1, b1⟩, ⟨q2, a2, b2⟩, ⟨q3, a3, b3⟩, -⟩ := (h.ex hR)
  obtain ⟨w1, w2, w3, w4, w5, w6, w7, w8, w9⟩ := hst
  have l2 : hFc (S.2.2.2.1 0) ≤ 10 := w2.1.2
  have l3 : hMe (S.2.2.2.1 0) ≤ 16 := w3.1.2
  have l4 : hQc (S.2.2.2.1 0) ≤ 16 := w4.2
  have al : ∀ p, (p = 572 ∨ 574 ≤ p ∧ p < 577 ∨ 605 ≤ p ∧ p < 775 ∨ 1471 ≤ p) → w p = S.2.2.2.1 0 p := fun p hp => hw p (by omega)
  generalize S.2.2.2.1 0 = t at *
  refine ⟨⟨q0, (eF 16 (by omega)).trans a0, ?_⟩, ⟨q1, (eF 18 (by omega)).trans a1, ?_⟩, ⟨q2, (eF 19 (by omega)).trans a2, ?_⟩, ⟨q3, (eF 20 (by omega)).trans a3, hIntsOf_eq b3 (congrArg cv (hw _ (by omega))) (fun k hk => hw _ (by omega))⟩, r, kn, sc, ow⟩
  · exact hLaw_al4 al w9 b0
  · exact hFacts_al4 al w2 b1
  · exact hMeals_al4 al w3 b2
theorem fx_len0 {A : hA} {R : sMem} (hc : hCl A R) (S : hS) {q n : Nat} {g : Nat → Int32} (h : hIntsOf R q n g) : sLen (hMem A R S) q = some (nI n) := by
  obtain ⟨f, h1, -⟩ := h
  exact hR_len hc S h1
