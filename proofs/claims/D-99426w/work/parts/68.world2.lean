/-! changes of the world beyond acts and days -/
set_option maxRecDepth 100000
/-- what the immutables tell of is as before -/
def wAl2 (t t' : Nat → Int32) : Prop := ∀ p, (p = 572 ∨ 574 ≤ p ∧ p < 581 ∨ 605 ≤ p ∧ p < 871 ∨ 1471 ≤ p) → t' p = t p
def wAl3 (t t' : Nat → Int32) : Prop := ∀ p, (571 ≤ p ∧ p < 573 ∨ 574 ≤ p ∧ p < 593 ∨ 605 ≤ p ∧ p < 871 ∨ 1471 ≤ p) → t' p = t p
theorem wAl.two {t t' : Nat → Int32} (h : wAl t t') : wAl2 t t' := fun p hp => h p (by omega)
theorem wAl3.two {t t' : Nat → Int32} (h : wAl3 t t') : wAl2 t t' := fun p hp => h p (by omega)
theorem wAl.three {t t' : Nat → Int32} (h : wAl t t') : wAl3 t t' := fun p hp => h p (by omega)
theorem hTrA_al2 {R : sMem} {t t' : Nat → Int32} (h : wAl2 t t') : ∀ d q a b, hTrA R t d q a b → hTrA R t' d q a b
  | 0, _, _, _, g => g
  | d + 1, q, a, b, g => by
    unfold hTrA at g ⊢
    rcases g with ⟨v, hq, hb, h0, hv⟩ | ⟨k, hk, hq, hb, h0⟩ | ⟨sg, co, q1, q2, c, e, hsg, hq, h1, h2, hb, h0⟩ | ⟨q1, q2, v, e, hq, h1, hq2, hv0, hb, h0, hv⟩
    · exact Or.inl ⟨v, hq, hb, by rw [h _ (by omega)]; exact h0, by rw [h _ (by omega)]; exact hv⟩
    · exact Or.inr (Or.inl ⟨k, hk, hq, hb, by rw [h _ (by omega)]; exact h0⟩)
    · exact Or.inr (Or.inr (Or.inl ⟨sg, co, q1, q2, c, e, hsg, hq, hTrA_al2 h d _ _ _ h1, hTrA_al2 h d _ _ _ h2, hb, by rw [h _ (by omega)]; exact h0⟩))
    · exact Or.inr (Or.inr (Or.inr ⟨q1, q2, v, e, hq, hTrA_al2 h d _ _ _ h1, hq2, hv0, hb, by rw [h _ (by omega)]; exact h0, by rw [h _ (by omega)]; exact hv⟩))
theorem hTrB_al2 {R : sMem} {t t' : Nat → Int32} (h : wAl2 t t') : ∀ d q a b, hTrB R t d q a b → hTrB R t' d q a b
  | 0, _, _, _, g => g
  | d + 1, q, a, b, g => by
    unfold hTrB at g ⊢
    rcases g with ⟨sg, co, q1, q2, c, e, hsg, hq, h1, h2, hb, h0⟩ | ⟨sg, co, q1, q2, c, e, hsg, hq, h1, h2, hb, h0⟩ | ⟨q1, e, hq, h1, hb, h0⟩
    · exact Or.inl ⟨sg, co, q1, q2, c, e, hsg, hq, hTrA_al2 h d _ _ _ h1, hTrA_al2 h d _ _ _ h2, hb, by rw [h _ (by omega)]; exact h0⟩
    · exact Or.inr (Or.inl ⟨sg, co, q1, q2, c, e, hsg, hq, hTrB_al2 h d _ _ _ h1, hTrB_al2 h d _ _ _ h2, hb, by rw [h _ (by omega)]; exact h0⟩)
    · exact Or.inr (Or.inr ⟨q1, e, hq, hTrB_al2 h d _ _ _ h1, hb, by rw [h _ (by omega)]; exact h0⟩)
theorem hLaw_al2 {R : sMem} {q : Nat} {t t' : Nat → Int32} (h : wAl2 t t') (hw : wLaw t) (g : hLaw R q t) : hLaw R q t' := by
  have hl : hLn t ≤ 16 := hw.1.2
  have e574 : hLn t' = hLn t := congrArg cv (h 574 (by omega))
  obtain ⟨wa, oa, na, wf, of, nf, h1, h2, h3, h4, hall⟩ := g
  refine ⟨wa, oa, na, wf, of, nf, by rw [e574]; exact h1, h2, h3, h4, fun l hl' => ?_⟩
  rw [e574] at hl'
  obtain ⟨a1, a2, ⟨o, ho, a3⟩, a4⟩ := hall l hl'
  have e1 : hFr t' l = hFr t l := congrArg cv (h _ (by omega))
  have e2 : hMi t' l = hMi t l := congrArg cv (h _ (by omega))
  have e3 : hTo t' l = hTo t l := congrArg cv (h _ (by omega))
  rw [e1, e2, e3]
  refine ⟨by rw [h _ (by omega)]; exact a1, a2, ⟨o, ho, hTrA_al2 h _ _ _ _ a3⟩, ?_⟩
  rcases a4 with a4 | ⟨o2, ho2, a4⟩
  · exact Or.inl a4
  · exact Or.inr ⟨o2, ho2, hTrB_al2 h _ _ _ _ a4⟩
theorem hFacts_al2 {R : sMem} {q : Nat} {t t' : Nat → Int32} (h : wAl2 t t') (hw : wFac t) (g : hFacts R q t) : hFacts R q t' := by
  have h10 : hFc t ≤ 10 := hw.1.2
  have e1 : hFc t' = hFc t := congrArg cv (h 572 (by omega))
  obtain ⟨fo, ao, ma, mf, h1, h2⟩ := g
  refine ⟨fo, ao, ma, mf, by rw [e1]; exact h1, fun f hf => ?_⟩
  rw [e1] at hf
  have l1 : hMc t f ≤ 6 := (hw.2 f hf).1.2
  obtain ⟨a1, a2, a3, a4⟩ := h2 f hf
  have e2 : hMc t' f = hMc t f := congrArg cv (h _ (by omega))
  refine ⟨a1, by rw [h _ (by omega), h _ (by omega)]; exact a2, by rw [e2]; exact a3, fun j hj => ?_⟩
  rw [e2] at hj
  rw [h _ (by omega)]
  exact a4 j hj
theorem hMeals_al2 {R : sMem} {q : Nat} {t t' : Nat → Int32} (h : wAl2 t t') (hw : wMea t) (g : hMeals R q t) : hMeals R q t' := by
  have h10 : hMe t ≤ 16 := hw.1.2
  have e1 : hMe t' = hMe t := congrArg cv (h _ (by omega))
  obtain ⟨fo, ao, h1, h2⟩ := g
  refine ⟨fo, ao, by rw [e1]; exact h1, fun f hf => ?_⟩
  rw [e1] at hf
  obtain ⟨a1, a2⟩ := h2 f hf
  exact ⟨a1, by rw [h _ (by omega), h _ (by omega), h _ (by omega), h _ (by omega)]; exact a2⟩
theorem hReps.al2 {R : sMem} {F : Nat → Value} {k0 k1 k2 k3 k4 k5 k6 k7 : Nat} {t t' : Nat → Int32} (h : hReps R F k0 k1 k2 k3 k4 k5 k6 k7 t) (hw : wStat t) (g : wAl2 t t') : hReps R F k0 k1 k2 k3 k4 k5 k6 k7 t' := by
  obtain ⟨⟨q0, a0, b0⟩, ⟨q1, a1, b1⟩, ⟨q2, a2, b2⟩, ⟨q3, a3, b3⟩, ⟨q4, a4, b4⟩, ⟨q5, a5, b5⟩, ⟨q6, a6, b6⟩, q7, a7, b7⟩ := h
  obtain ⟨w1, w2, w3, w4, w5, w6, w7, w8, w9⟩ := hw
  have l4 : hQc t ≤ 16 := w4.2
  have l5 : hRc t ≤ 12 := w5.1.2
  have l6 : hKc t ≤ 12 := w6.1.2
  have l7 : hSc t ≤ 16 := w7.2
  have l8 : hOc t ≤ 16 := w8.1.2
  have n4 : hQc t' = hQc t := congrArg cv (g _ (by omega))
  have n5 : hRc t' = hRc t := congrArg cv (g _ (by omega))
  have n6 : hKc t' = hKc t := congrArg cv (g _ (by omega))
  have n7 : hSc t' = hSc t := congrArg cv (g _ (by omega))
  have n8 : hOc t' = hOc t := congrArg cv (g _ (by omega))
  refine ⟨⟨q0, a0, hLaw_al2 g w9 b0⟩, ⟨q1, a1, hFacts_al2 g w2 b1⟩, ⟨q2, a2, hMeals_al2 g w3 b2⟩, ⟨q3, a3, hIntsOf_eq b3 n4 (fun k hk => g _ (by omega))⟩, ⟨q4, a4, ?_⟩, ⟨q5, a5, hIntsOf_eq b5 n6 (fun k hk => by rw [g _ (by omega), g _ (by omega)])⟩, ⟨q6, a6, hIntsOf_eq b6 n7 (fun k hk => g _ (by omega))⟩, q7, a7, hIntsOf_eq b7 n8 (fun k hk => by rw [g _ (by omega), g _ (by omega)])⟩
  obtain ⟨fo, ao, h1, h2⟩ := b4
  refine ⟨fo, ao, by rw [n5]; exact h1, fun f hf => ?_⟩
  rw [n5] at hf
  rw [g _ (by omega), g _ (by omega)]
  exact h2 f hf
theorem wStat_al3 {t t' : Nat → Int32} (h : wAl3 t t') (g : wStat t) : wStat t' := by
  obtain ⟨g1, g2, g3, g4, g5, g6, g7, g8, g9⟩ := g
  have E : ∀ p, (571 ≤ p ∧ p < 573 ∨ 574 ≤ p ∧ p < 593 ∨ 605 ≤ p ∧ p < 871 ∨ 1471 ≤ p) → t' p = t p := h
  have b2 : hFc t ≤ 10 := g2.1.2
  have b3 : hMe t ≤ 16 := g3.1.2
  have b5 : hRc t ≤ 12 := g5.1.2
  have b6 : hKc t ≤ 12 := g6.1.2
  have b8 : hOc t ≤ 16 := g8.1.2
  have b9 : hLn t ≤ 16 := g9.1.2
  have n1 : hN t' = hN t := by unfold hN; rw [E _ (by omega)]
  have n2 : hFc t' = hFc t := congrArg cv (E _ (by omega))
  have n3 : hMe t' = hMe t := congrArg cv (E _ (by omega))
  have n5 : hRc t' = hRc t := congrArg cv (E _ (by omega))
  have n6 : hKc t' = hKc t := congrArg cv (E _ (by omega))
  have n8 : hOc t' = hOc t := congrArg cv (E _ (by omega))
  have n9 : hLn t' = hLn t := congrArg cv (E _ (by omega))
  have b1' : hN t ≤ 12 := g1.1.2
  refine ⟨⟨wSm_al (E _ (by omega)) g1.1, fun i hi => ?_⟩, ⟨wSm_al (E _ (by omega)) g2.1, fun f hf => ?_⟩, ⟨wSm_al (E _ (by omega)) g3.1, fun k hk => ?_⟩, wSm_al (E _ (by omega)) g4, ⟨wSm_al (E _ (by omega)) g5.1, fun k hk => ?_⟩, ⟨wSm_al (E _ (by omega)) g6.1, fun k hk => ?_⟩, wSm_al (E _ (by omega)) g7, ⟨wSm_al (E _ (by omega)) g8.1, fun k hk => ?_⟩, ⟨wSm_al (E _ (by omega)) g9.1, fun l hl => ?_⟩⟩
  · rw [n1] at hi
    exact wSm_al (E _ (by omega)) (g1.2 i hi)
  · rw [n2] at hf
    obtain ⟨a1, a2, a3, a4, a5⟩ := g2.2 f hf
    have nm : hMc t' f = hMc t f := congrArg cv (E _ (by omega))
    have : hMc t f ≤ 6 := a1.2
    refine ⟨wSm_al (E _ (by omega)) a1, by rw [nm]; exact a2, wSm_al (E _ (by omega)) a3, wSm_al (E _ (by omega)) a4, fun j hj => ?_⟩
    rw [nm] at hj
    exact wSm_al (E _ (by omega)) (a5 j hj)
  · rw [n3] at hk
    rw [n1, n2, E _ (by omega), E _ (by omega), E _ (by omega)]
    exact g3.2 k hk
  · rw [n5] at hk
    exact wSm_al (E _ (by omega)) (g5.2 k hk)
  · rw [n6] at hk
    exact ⟨wSm_al (E _ (by omega)) (g6.2 k hk).1, wSm_al (E _ (by omega)) (g6.2 k hk).2⟩
  · rw [n8] at hk
    exact ⟨wSm_al (E _ (by omega)) (g8.2 k hk).1, wSm_al (E _ (by omega)) (g8.2 k hk).2⟩
  · rw [n9] at hl
    obtain ⟨a1, a2, a3⟩ := g9.2 l hl
    exact ⟨wSm_al (E _ (by omega)) a1, wSm_al (E _ (by omega)) a2, wSm_al (E _ (by omega)) a3⟩
/-- a new world, and nothing to undo -/
theorem hInv.forget {A : hA} {R R' : sMem} {S S' : hS} {g : Nat → Nat} {b L : Nat} {xs : Nat → Int32} (h : hInv A R S g b L xs) {t' : Nat → Int32} (hR : sub2 R R') (hc : hCl A R') (eT : S'.2.2.2.1 0 = t') (hw : wAct t') (hz : ∀ p, 2355 ≤ p → t' p = 0) (hrep : hReps R' S'.1 16 18 19 20 29 31 34 35 t') (e2 : S'.2.2.2.1 2 = S.2.2.2.1 2) (eh : S'.2.2.2.2.1 0 = 0) (eA : S'.2.2.1 = S.2.2.1) (e1 : S'.2.1 1 = S.2.1 1) (e28 : S'.1 28 = .int 0) (eF : ∀ k, k = 1 ∨ k = 2 ∨ k = 3 ∨ k = 4 ∨ k = 5 ∨ k = 14 ∨ k = 15 ∨ k = 32 ∨ k = 33 ∨ 38 ≤ k → S'.1 k = S.1 k) {s' : mSt} (eS : S'.2.2.2.2.2 = s') (m0 : s'.2 0 = t') (mr : ∀ j, j = 1 ∨ j = 7 → s'.2 j = S.2.2.2.2.2.2 j) (m4 : s'.1 4 = 0) (mf : ∀ k, k = 5 ∨ k = 16 ∨ k = 23 ∨ k = 25 → s'.1 k = S.2.2.2.2.2.1 k) : hInv A R' S' g b L xs := by
  obtain ⟨⟨a1, a2, a3, a4, a5, a6, a7⟩, hB, hC, hD, hE⟩ := h
  subst eS
  refine ⟨⟨a1, hc, eh, by rw [eT, m0], by rw [eT]; exact hw, by rw [eT]; exact hz, by show hReps R' S'.1 16 18 19 20 29 31 34 35 (S'.2.2.2.1 0); rw [eT]; exact hrep⟩, hB.fr ⟨eF _ (by omega), eF _ (by omega), eF _ (by omega)⟩ e1 (mr 7 (by omega)) ⟨mf _ (by omega), mf _ (by omega), mf _ (by omega)⟩, hC.no e28 m4 eA, hD.fr hR (fun k hk => eF k (by omega)) (mf 5 (by omega)) (mr 1 (by omega)) e2, hE.fr hR rfl (fun k hk => eF k (by omega))⟩
theorem hx_put21 {A : hA} (h : hG A) (R : sMem) (S : hS) {n : Nat} (hn : n < 12) (h5 : S.2.2.2.1 0 571 = nI n) : sPut (hMem A R S) 0 21 (hX A) (.int (nI (n + 1))) = some (hMem A R (hT S 0 (upd (upd (S.2.2.2.1 0) (43 + n) (-1)) 571 (nI (n + 1))))) := by
  have hl : (hXs A S).length = 47 := by simp [hXs]
  have hN0 : hN (S.2.2.2.1 0) = n := by unfold hN; rw [h5, nI_clamp (by omega)]
  have hN1 : hN (upd (upd (S.2.2.2.1 0) (43 + n) (-1)) 571 (nI (n + 1))) = n + 1 := by unfold hN; rw [upd_same, nI_clamp (by omega)]
  have off : ∀ p, p ≠ 571 → p ≠ 43 + n → upd (upd (S.2.2.2.1 0) (43 + n) (-1)) 571 (nI (n + 1)) p = S.2.2.2.1 0 p := fun p h1 h2 => by rw [upd_ne _ _ h1, upd_ne _ _ h2]
  have sl : ∀ m o, (o + m ≤ 571 ∨ 572 ≤ o) → (o + m ≤ 43 ∨ 55 ≤ o) → hSl m o (upd (upd (S.2.2.2.1 0) (43 + n) (-1)) 571 (nI (n + 1))) = hSl m o (S.2.2.2.1 0) := fun m o h1 h2 => by
    rw [hSl_off _ _ (by omega), hSl_off _ _ (by omega)]
  unfold sPut
  have hf : sFs (hMem A R S) 0 (hX A) = some (hXs A S) := by simp [sFs, hMem_x h, sObj]
  rw [hf]
  have hb : (hMem A R S).1 ≤ hX A := h.2.1 0 (hG.k A h (by decide))
  simp only []
  rw [if_pos ⟨hb, by rw [hl]; omega⟩]
  refine congrArg some (hMem_up h R S _ (k := 0) (hG.k A h (by decide)) ?_ ?_)
  · show sObj 0 (hXs A _) = _
    refine congrArg (sObj 0) ?_
    apply List.ext_getElem?
    intro i
    rw [List.getElem?_set]
    by_cases hi : 21 = i
    · subst hi
      rw [if_pos rfl, if_pos (by rw [hl]; omega)]
      simp [hXs, hXf, hT, upd]
    · rw [if_neg hi]
      by_cases h9 : i < 47
      · simp only [hXs, List.getElem?_map, List.getElem?_range h9, Option.map_some, Option.some.injEq]
        unfold hXf
        split <;> first | rfl | (exact absurd rfl hi)
      · rw [List.getElem?_eq_none (by simp [hXs]; omega), List.getElem?_eq_none (by rw [hl]; omega)]
  · intro j hj hne
    rcases hId j with h0 | ⟨m, hm, rfl⟩ | ⟨i, m, hm, rfl⟩
    · have : j = 1 ∨ j = 2 ∨ j = 3 ∨ j = 4 ∨ j = 5 ∨ j = 6 ∨ j = 7 ∨ j = 8 ∨ j = 9 := by omega
      rcases this with rfl | rfl | rfl | rfl | rfl | rfl | rfl | rfl | rfl
      · rfl
      · rfl
      · show sArr 0 12 (hSl 12 581 (upd (upd (S.2.2.2.1 0) (43 + n) (-1)) 571 (nI (n + 1)))) = sArr 0 12 (hSl 12 581 (S.2.2.2.1 0))
        rw [sl 12 581 (by omega) (by omega)]
      · show sArr 0 600 (hSl 600 871 (upd (upd (S.2.2.2.1 0) (43 + n) (-1)) 571 (nI (n + 1)))) = sArr 0 600 (hSl 600 871 (S.2.2.2.1 0))
        rw [sl 600 871 (by omega) (by omega)]
      · rfl
      · rfl
      · rfl
      · rfl
      · rfl
    · rw [hCell_mod A _ hm, hCell_mod A _ hm]
      rfl
    · rw [hCell_tray A _ hm, hCell_tray A _ hm]
      by_cases hi : i = 0
      · subst hi
        cases m with
        | zero =>
          show sObj 2 (hTs A _ 0) = sObj 2 (hTs A S 0)
          refine congrArg (sObj 2) ?_
          unfold hTs
          apply List.map_congr_left
          intro j _
          unfold hTf
          split <;> simp only [hT, if_true] <;> first | rfl | (rw [hBits_off _ _ (by omega), hBits_off _ _ (by omega)]) | (rw [off _ (by omega) (by omega)])
        | succ r =>
          show sArr 0 (hTl r) (hRow r (upd (upd (S.2.2.2.1 0) (43 + n) (-1)) 571 (nI (n + 1)))) = sArr 0 (hTl r) (hRow r (S.2.2.2.1 0))
          have hr : r = 0 ∨ r = 1 ∨ r = 2 ∨ r = 3 ∨ r = 4 ∨ r = 5 ∨ r = 6 := by omega
          refine congrArg (sArr 0 (hTl r)) ?_
          rcases hr with rfl | rfl | rfl | rfl | rfl | rfl | rfl
          · exact sl 12 593 (by omega) (by omega)
          · exact sl 12 7 (by omega) (by omega)
          · exact sl 12 79 (by omega) (by omega)
          · exact sl 12 31 (by omega) (by omega)
          · show hCo _ = hCo _
            funext p
            unfold hCo
            rw [hN0, hN1]
            by_cases hp : p < 12
            · by_cases hpn : p = n
              · subst hpn
                rw [if_pos ⟨hp, by omega⟩, if_neg (by omega), upd_ne _ _ (by omega), upd_same]
                decide
              · by_cases hlt : p < n
                · rw [if_pos ⟨hp, by omega⟩, if_pos ⟨hp, hlt⟩, off _ (by omega) (by omega)]
                · rw [if_neg (by omega), if_neg (by omega)]
            · rw [if_neg (by omega), if_neg (by omega)]
          · exact sl 12 19 (by omega) (by omega)
          · exact sl 480 91 (by omega) (by omega)
      · cases m with
        | zero =>
          show sObj 2 (hTs A _ i) = sObj 2 (hTs A S i)
          refine congrArg (sObj 2) ?_
          unfold hTs
          apply List.map_congr_left
          intro j _
          unfold hTf
          simp only [hT, if_neg hi]
        | succ r =>
          show sArr 0 (hTl r) (hRow r ((hT S 0 (upd (upd (S.2.2.2.1 0) (43 + n) (-1)) 571 (nI (n + 1)))).2.2.2.1 i)) = sArr 0 (hTl r) (hRow r (S.2.2.2.1 i))
          rw [hT_ne _ _ hi]
