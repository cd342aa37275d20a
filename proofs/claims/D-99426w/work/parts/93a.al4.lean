/-! the law, facts and meals of a world: only what they read -/
set_option maxRecDepth 100000
def wAl4 (t t' : Nat → Int32) : Prop := ∀ p, (p = 572 ∨ 574 ≤ p ∧ p < 577 ∨ 605 ≤ p ∧ p < 775 ∨ 1471 ≤ p) → t' p = t p
theorem hTrA_al4 {R : sMem} {t t' : Nat → Int32} (h : wAl4 t t') : ∀ d q a b, hTrA R t d q a b → hTrA R t' d q a b
  | 0, _, _, _, g => g
  | d + 1, q, a, b, g => by
    unfold hTrA at g ⊢
    rcases g with ⟨v, hq, hb, h0, hv⟩ | ⟨k, hk, hq, hb, h0⟩ | ⟨sg, co, q1, q2, c, e, hsg, hq, h1, h2, hb, h0⟩ | ⟨q1, q2, v, e, hq, h1, hq2, hv0, hb, h0, hv⟩
    · exact Or.inl ⟨v, hq, hb, by rw [h _ (by omega)]; exact h0, by rw [h _ (by omega)]; exact hv⟩
    · exact Or.inr (Or.inl ⟨k, hk, hq, hb, by rw [h _ (by omega)]; exact h0⟩)
    · exact Or.inr (Or.inr (Or.inl ⟨sg, co, q1, q2, c, e, hsg, hq, hTrA_al4 h d _ _ _ h1, hTrA_al4 h d _ _ _ h2, hb, by rw [h _ (by omega)]; exact h0⟩))
    · exact Or.inr (Or.inr (Or.inr ⟨q1, q2, v, e, hq, hTrA_al4 h d _ _ _ h1, hq2, hv0, hb, by rw [h _ (by omega)]; exact h0, by rw [h _ (by omega)]; exact hv⟩))
theorem hTrB_al4 {R : sMem} {t t' : Nat → Int32} (h : wAl4 t t') : ∀ d q a b, hTrB R t d q a b → hTrB R t' d q a b
  | 0, _, _, _, g => g
  | d + 1, q, a, b, g => by
    unfold hTrB at g ⊢
    rcases g with ⟨sg, co, q1, q2, c, e, hsg, hq, h1, h2, hb, h0⟩ | ⟨sg, co, q1, q2, c, e, hsg, hq, h1, h2, hb, h0⟩ | ⟨q1, e, hq, h1, hb, h0⟩
    · exact Or.inl ⟨sg, co, q1, q2, c, e, hsg, hq, hTrA_al4 h d _ _ _ h1, hTrA_al4 h d _ _ _ h2, hb, by rw [h _ (by omega)]; exact h0⟩
    · exact Or.inr (Or.inl ⟨sg, co, q1, q2, c, e, hsg, hq, hTrB_al4 h d _ _ _ h1, hTrB_al4 h d _ _ _ h2, hb, by rw [h _ (by omega)]; exact h0⟩)
    · exact Or.inr (Or.inr ⟨q1, e, hq, hTrB_al4 h d _ _ _ h1, hb, by rw [h _ (by omega)]; exact h0⟩)
theorem hLaw_al4 {R : sMem} {q : Nat} {t t' : Nat → Int32} (h : wAl4 t t') (hw : wLaw t) (g : hLaw R q t) : hLaw R q t' := by
  have hl : hLn t ≤ 16 := hw.1.2
  have e574 : hLn t' = hLn t := congrArg cv (h 574 (by omega))
  obtain ⟨wa, oa, na, wf, of, nf, h1, h2, h3, h4, hall⟩ := g
  refine ⟨wa, oa, na, wf, of, nf, by rw [e574]; exact h1, h2, h3, h4, fun l hl' => ?_⟩
  rw [e574] at hl'
  obtain ⟨a1, a2, ⟨o, ho, a3⟩, a4⟩ := hall l hl'
  have e1 : hFr t' l = hFr t l := congrArg cv (h _ (by omega))
  have e2 : hMi t' l = hMi t l := congrArg cv (h _ (by omega))
  have e3 : hTo t' l = hTo t l := congrArg cv (h _ (by omega))
  rw [e1, e2, e3]
  refine ⟨by rw [h _ (by omega)]; exact a1, a2, ⟨o, ho, hTrA_al4 h _ _ _ _ a3⟩, ?_⟩
  rcases a4 with a4 | ⟨o2, ho2, a4⟩
  · exact Or.inl a4
  · exact Or.inr ⟨o2, ho2, hTrB_al4 h _ _ _ _ a4⟩
theorem hFacts_al4 {R : sMem} {q : Nat} {t t' : Nat → Int32} (h : wAl4 t t') (hw : wFac t) (g : hFacts R q t) : hFacts R q t' := by
  have h10 : hFc t ≤ 10 := hw.1.2
  have e1 : hFc t' = hFc t := congrArg cv (h 572 (by omega))
  obtain ⟨fo, ao, ma, mf, h1, h2⟩ := g
  refine ⟨fo, ao, ma, mf, by rw [e1]; exact h1, fun f hf => ?_⟩
  rw [e1] at hf
  have l1 : hMc t f ≤ 6 := (hw.2 f hf).1.2
  obtain ⟨a1, a2, a3, a4⟩ := h2 f hf
  have e2 : hMc t' f = hMc t f := congrArg cv (h _ (by omega))
  refine ⟨a1, by rw [h _ (by omega), h _ (by omega)]; exact a2, by rw [e2]; exact a3, fun j hj => ?_⟩
  rw [e2] at hj
  rw [h _ (by omega)]
  exact a4 j hj
theorem hMeals_al4 {R : sMem} {q : Nat} {t t' : Nat → Int32} (h : wAl4 t t') (hw : wMea t) (g : hMeals R q t) : hMeals R q t' := by
  have h10 : hMe t ≤ 16 := hw.1.2
  have e1 : hMe t' = hMe t := congrArg cv (h _ (by omega))
  obtain ⟨fo, ao, h1, h2⟩ := g
  refine ⟨fo, ao, by rw [e1]; exact h1, fun f hf => ?_⟩
  rw [e1] at hf
  obtain ⟨a1, a2⟩ := h2 f hf
  exact ⟨a1, by rw [h _ (by omega), h _ (by omega), h _ (by omega), h _ (by omega)]; exact a2⟩
