/-! acts and days: the component's side, what is asked -/
set_option maxRecDepth 100000
/-- law, facts and meals of the component tell of the world t -/
def hTel (R : sMem) (S : hS) (t : Nat → Int32) : Prop := (∃ q, S.1 16 = .ref q ∧ hLaw R q t) ∧ (∃ q, S.1 18 = .ref q ∧ hFacts R q t) ∧ ∃ q, S.1 19 = .ref q ∧ hMeals R q t
theorem hFacts_al {R : sMem} {q : Nat} {t t' : Nat → Int32} (h : wAl t t') (hw : wFac t) (g : hFacts R q t) : hFacts R q t' := by
  have h10 : hFc t ≤ 10 := hw.1.2
  have e1 : hFc t' = hFc t := hFc_al h
  obtain ⟨fo, ao, ma, mf, h1, h2⟩ := g
  refine ⟨fo, ao, ma, mf, by rw [e1]; exact h1, fun f hf => ?_⟩
  rw [e1] at hf
  have l1 : hMc t f ≤ 6 := (hw.2 f hf).1.2
  obtain ⟨a1, a2, a3, a4⟩ := h2 f hf
  have e2 : hMc t' f = hMc t f := congrArg cv (h _ (by omega))
  refine ⟨a1, by rw [h _ (by omega), h _ (by omega)]; exact a2, by rw [e2]; exact a3, fun j hj => ?_⟩
  rw [e2] at hj
  rw [h _ (by omega)]
  exact a4 j hj
theorem hMeals_al {R : sMem} {q : Nat} {t t' : Nat → Int32} (h : wAl t t') (hw : wMea t) (g : hMeals R q t) : hMeals R q t' := by
  have h10 : hMe t ≤ 16 := hw.1.2
  have e1 : hMe t' = hMe t := congrArg cv (h _ (by omega))
  obtain ⟨fo, ao, h1, h2⟩ := g
  refine ⟨fo, ao, by rw [e1]; exact h1, fun f hf => ?_⟩
  rw [e1] at hf
  obtain ⟨a1, a2⟩ := h2 f hf
  exact ⟨a1, by rw [h _ (by omega), h _ (by omega), h _ (by omega), h _ (by omega)]; exact a2⟩
theorem hTel.al {R : sMem} {S : hS} {t t' : Nat → Int32} (h : hTel R S t) (hw : wStat t) (g : wAl t t') : hTel R S t' := by
  obtain ⟨⟨q1, a1, b1⟩, ⟨q2, a2, b2⟩, q3, a3, b3⟩ := h
  exact ⟨⟨q1, a1, hLaw_al g hw.2.2.2.2.2.2.2.2 b1⟩, ⟨q2, a2, hFacts_al g hw.2.1 b2⟩, q3, a3, hMeals_al g hw.2.2.1 b3⟩
theorem hTel.S {R : sMem} {S S' : hS} {t : Nat → Int32} (h : hTel R S t) (e : S'.1 = S.1) : hTel R S' t := by
  unfold hTel
  rw [e]
  exact h
theorem hTrA_ex {R R' : sMem} (hR : ∀ a e, R.2.2.2 a = some e → R'.2.2.2 a = some e) {t : Nat → Int32} : ∀ d q a b, hTrA R t d q a b → hTrA R' t d q a b
  | 0, _, _, _, g => g
  | d + 1, q, a, b, g => by
    unfold hTrA at g ⊢
    rcases g with ⟨v, hq, hb, h0, hv⟩ | ⟨k, hk, hq, hb, h0⟩ | ⟨sg, co, q1, q2, c, e, hsg, hq, h1, h2, hb, h0⟩ | ⟨q1, q2, v, e, hq, h1, hq2, hv0, hb, h0, hv⟩
    · exact Or.inl ⟨v, hR _ _ hq, hb, h0, hv⟩
    · exact Or.inr (Or.inl ⟨k, hk, hR _ _ hq, hb, h0⟩)
    · exact Or.inr (Or.inr (Or.inl ⟨sg, co, q1, q2, c, e, hsg, hR _ _ hq, hTrA_ex hR d _ _ _ h1, hTrA_ex hR d _ _ _ h2, hb, h0⟩))
    · exact Or.inr (Or.inr (Or.inr ⟨q1, q2, v, e, hR _ _ hq, hTrA_ex hR d _ _ _ h1, hR _ _ hq2, hv0, hb, h0, hv⟩))
theorem hTrB_ex {R R' : sMem} (hR : ∀ a e, R.2.2.2 a = some e → R'.2.2.2 a = some e) {t : Nat → Int32} : ∀ d q a b, hTrB R t d q a b → hTrB R' t d q a b
  | 0, _, _, _, g => g
  | d + 1, q, a, b, g => by
    unfold hTrB at g ⊢
    rcases g with ⟨sg, co, q1, q2, c, e, hsg, hq, h1, h2, hb, h0⟩ | ⟨sg, co, q1, q2, c, e, hsg, hq, h1, h2, hb, h0⟩ | ⟨q1, e, hq, h1, hb, h0⟩
    · exact Or.inl ⟨sg, co, q1, q2, c, e, hsg, hR _ _ hq, hTrA_ex hR d _ _ _ h1, hTrA_ex hR d _ _ _ h2, hb, h0⟩
    · exact Or.inr (Or.inl ⟨sg, co, q1, q2, c, e, hsg, hR _ _ hq, hTrB_ex hR d _ _ _ h1, hTrB_ex hR d _ _ _ h2, hb, h0⟩)
    · exact Or.inr (Or.inr ⟨q1, e, hR _ _ hq, hTrB_ex hR d _ _ _ h1, hb, h0⟩)
theorem hLaw_ex {R R' : sMem} (hR : ∀ a e, R.2.2.2 a = some e → R'.2.2.2 a = some e) {q : Nat} {t : Nat → Int32} (g : hLaw R q t) : hLaw R' q t := by
  obtain ⟨wa, oa, na, wf, of, nf, h1, h2, h3, h4, hall⟩ := g
  refine ⟨wa, oa, na, wf, of, nf, hR _ _ h1, hR _ _ h2, hR _ _ h3, hR _ _ h4, fun l hl => ?_⟩
  obtain ⟨a1, a2, ⟨o, ho, a3⟩, a4⟩ := hall l hl
  refine ⟨a1, a2, ⟨o, ho, hTrA_ex hR _ _ _ _ a3⟩, ?_⟩
  rcases a4 with a4 | ⟨o2, ho2, a4⟩
  · exact Or.inl a4
  · exact Or.inr ⟨o2, ho2, hTrB_ex hR _ _ _ _ a4⟩
theorem hFacts_ex {R R' : sMem} (hR : ∀ a e, R.2.2.2 a = some e → R'.2.2.2 a = some e) {q : Nat} {t : Nat → Int32} (g : hFacts R q t) : hFacts R' q t := by
  obtain ⟨fo, ao, ma, mf, h1, h2⟩ := g
  exact ⟨fo, ao, ma, mf, hR _ _ h1, fun f hf => ⟨(h2 f hf).1, hR _ _ (h2 f hf).2.1, hR _ _ (h2 f hf).2.2.1, (h2 f hf).2.2.2⟩⟩
theorem hMeals_ex {R R' : sMem} (hR : ∀ a e, R.2.2.2 a = some e → R'.2.2.2 a = some e) {q : Nat} {t : Nat → Int32} (g : hMeals R q t) : hMeals R' q t := by
  obtain ⟨fo, ao, h1, h2⟩ := g
  exact ⟨fo, ao, hR _ _ h1, fun f hf => ⟨(h2 f hf).1, hR _ _ (h2 f hf).2⟩⟩
theorem hTel.ex {R R' : sMem} {S : hS} {t : Nat → Int32} (h : hTel R S t) (hR : ∀ a e, R.2.2.2 a = some e → R'.2.2.2 a = some e) : hTel R' S t := by
  obtain ⟨⟨q1, a1, b1⟩, ⟨q2, a2, b2⟩, q3, a3, b3⟩ := h
  exact ⟨⟨q1, a1, hLaw_ex hR b1⟩, ⟨q2, a2, hFacts_ex hR b2⟩, q3, a3, hMeals_ex hR b3⟩
theorem fx_has (A : hA) (R : sMem) (S : hS) (t : Nat → Int32) {o w : Nat} (hw : w < 12) : f_X0_has (hBits t o) (nI w) (hMem A R S) = some (.inl (some (.int (if t (o + w) = 1 then 1 else 0))), hMem A R S) := by
  have e : hBits t o >>> (nI w &&& 31) &&& (1 : Int32) = if t (o + w) = 1 then 1 else 0 := hBits_has t hw
  unfold f_X0_has
  rw [e]
  by_cases h : t (o + w) = 1
  · simp [h, sBool]
  · simp [h, sBool]
theorem f_leaf {A : hA} {R : sMem} {S : hS} (hg : hG A) (hc : hCl A R) {k : Nat} (hk : k < A.2.2) {t : Nat → Int32} (hT : hTel R S t) (hw : wFac t) {a : Nat} {b : Option Nat} (ha : a < hFc t) (hb : okB t b) : f_X2_leafOf (hTa A k) (nI a) (bI b) (hMem A R S) = some (.inl (some (.int (wLeaf t a b))), hMem A R S) := by
  have h10 : hFc t ≤ 10 := hw.1.2
  obtain ⟨-, ⟨q, hq, fo, ao, ma, mf, h1, h2⟩, -⟩ := hT
  have L : ∀ f, f < hFc t → sAldN (hMem A R S) q (nI f) = some (ao f) ∧ (∀ o, sChk (hMem A R S) 5 (ao f) o = o) ∧ f_X5_leaf (ao f) (hMem A R S) = some (.inl (some (.int (t (605 + 9 * f + 1)))), hMem A R S) := fun f hf => by
    obtain ⟨a1, a2, -⟩ := h2 f hf
    refine ⟨hR_ldn hc S h1 (by omega) hf (by omega) a1, fun o => hR_chk hc S a2 o, ?_⟩
    unfold f_X5_leaf
    rw [hR_I hc S a2 (k := 1) rfl]
    rfl
  obtain ⟨l1, l2, l3⟩ := L a ha
  cases b with
  | none =>
    simp (disch := omega) only [f_X2_leafOf, tgN_18 hg, xgN_18 hg, hq, hvN_ref, eq_self, hcI, hcN, hcV, obS, if_true, if_false, l1, l2, l3, bI_none, wLeaf]
  | some b =>
    obtain ⟨m1, m2, m3⟩ := L b (hb b rfl)
    have := hb b rfl
    simp (disch := omega) only [f_X2_leafOf, tgN_18 hg, xgN_18 hg, hq, hvN_ref, eq_self, hcI, hcN, hcV, obS, if_true, if_false, l1, l2, l3, m1, m2, m3, bI_some, nI_m1F, nI_n1F, wLeaf]
theorem f_eats {A : hA} {R : sMem} {S : hS} (hg : hG A) (hc : hCl A R) {k : Nat} (hk : k < A.2.2) {t : Nat → Int32} (ht : S.2.2.2.1 k = t) (hT : hTel R S t) (hw : wLaw t) {i : Nat} (hi : i < 12) (htr : S.2.2.2.1 0 (581 + i) = t (581 + i)) : ∃ f, f_X2_eatsOf (hTa A k) (nI i) (hMem A R S) = some (.inl (some (.int (wEats t i))), hMem A R (hRw S 2 f)) := by
  obtain ⟨f, e1, h1⟩ := f_asks (R := R) hg hk hi 0 0 (by rw [ht]; exact htr)
  rw [ht] at h1
  obtain ⟨⟨q, hq, hL⟩, -⟩ := hT
  have e2 := f_tells (S := hRw S 2 f) hg hc (by rw [hRw_1]; exact hq) hL hw (w := 0) (i := i) (by omega) 0 0 3 3 (fun j hj => by rw [hRw_same]; exact h1 j hj)
  refine ⟨f, ?_⟩
  have e2' : f_X0_tells (hX A) 0 3 3 (hMem A R (hRw S 2 f)) = some (.inl (some (.int (wEats t i))), hMem A R (hRw S 2 f)) := e2
  simp (disch := omega) only [f_X2_eatsOf, ht_chk hg, e1, eq_self, hcI, hcN, hcV, obS, if_true, if_false, tgN_18 hg, hx_chk hg, e2']
theorem f_slips {A : hA} {R : sMem} {S : hS} (hg : hG A) (hc : hCl A R) {k : Nat} (hk : k < A.2.2) {t : Nat → Int32} (ht : S.2.2.2.1 k = t) (hT : hTel R S t) (hw : wLaw t) {i : Nat} (hi : i < 12) (htr : S.2.2.2.1 0 (581 + i) = t (581 + i)) (mark place : Int32) : ∃ f, f_X2_slipsOf (hTa A k) (nI i) mark place (hMem A R S) = some (.inl (some (.int (wSlips t i mark place))), hMem A R (hRw S 2 f)) := by
  obtain ⟨f, e1, h1⟩ := f_asks (R := R) hg hk hi mark place (by rw [ht]; exact htr)
  rw [ht] at h1
  obtain ⟨⟨q, hq, hL⟩, -⟩ := hT
  have e2 := f_tells (S := hRw S 2 f) hg hc (by rw [hRw_1]; exact hq) hL hw (w := 1) (i := i) (by omega) mark place (25 + 20 * t 573) 1000 (fun j hj => by rw [hRw_same]; exact h1 j hj)
  refine ⟨f, ?_⟩
  have e2' : f_X0_tells (hX A) 1 (25 + 20 * t 573) 1000 (hMem A R (hRw S 2 f)) = some (.inl (some (.int (wSlips t i mark place))), hMem A R (hRw S 2 f)) := e2
  have e3 : (hRw S 2 f).2.2.2.1 k = t := by rw [hRw_3]; exact ht
  simp (disch := omega) only [f_X2_slipsOf, ht_chk hg, e1, eq_self, hcI, hcN, hcV, obS, if_true, if_false, tgN_18 hg, tgI_10 hg, hx_chk hg, e3, e2']
theorem f_strong {A : hA} {R : sMem} {S : hS} (hg : hG A) (hc : hCl A R) {k : Nat} (hk : k < A.2.2) {t : Nat → Int32} (ht : S.2.2.2.1 k = t) (hT : hTel R S t) (hw : wLaw t) {i : Nat} (hi : i < 12) (htr : S.2.2.2.1 0 (581 + i) = t (581 + i)) : ∃ f, f_X2_strongOf (hTa A k) (nI i) (hMem A R S) = some (.inl (some (.int (wStrong t i))), hMem A R (hRw S 2 f)) := by
  obtain ⟨f, e1, h1⟩ := f_asks (R := R) hg hk hi 0 0 (by rw [ht]; exact htr)
  rw [ht] at h1
  obtain ⟨⟨q, hq, hL⟩, -⟩ := hT
  have e2 := f_tells (S := hRw S 2 f) hg hc (by rw [hRw_1]; exact hq) hL hw (w := 2) (i := i) (by omega) 0 0 (9 - t (593 + i)) 20 (fun j hj => by rw [hRw_same]; exact h1 j hj)
  refine ⟨f, ?_⟩
  have e2' : f_X0_tells (hX A) 2 (9 - t (593 + i)) 20 (hMem A R (hRw S 2 f)) = some (.inl (some (.int (wStrong t i))), hMem A R (hRw S 2 f)) := e2
  have e3 : (hRw S 2 f).2.2.2.1 k = t := by rw [hRw_3]; exact ht
  simp (disch := omega) only [f_X2_strongOf, ht_chk hg, e1, eq_self, hcI, hcN, hcV, obS, if_true, if_false, tgN_18 hg, tgN_0 hg, trl_0 hg, hx_chk hg, e3, e2']
theorem hCo_at {t : Nat → Int32} (h : wDyn t) (hn : hN t ≤ 12) {i : Nat} (hi : i < hN t) : ∃ c, c ≤ 10000 ∧ hCo t i = nI c ∧ t (43 + i) + 1 = nI c ∧ (t (43 + i) = -1 ↔ c = 0) := by
  obtain ⟨c, hc, e⟩ := (h.1 i hi).2.1
  refine ⟨c, hc, ?_, e, ?_⟩
  · unfold hCo
    rw [if_pos ⟨by omega, hi⟩, e]
  · have e1 : t (43 + i) = -1 ↔ t (43 + i) + 1 = 0 := by
      have : (0 : Int32) = -1 + 1 := by decide
      rw [this]
      exact (Int32.add_left_inj 1).symm
    rw [e1, e]
    exact nI_eq (b := 0) (by omega) (by omega)
theorem f_can {A : hA} {R : sMem} {S : hS} (hg : hG A) (hc : hCl A R) {k : Nat} (hk : k < A.2.2) {t : Nat → Int32} (ht : S.2.2.2.1 k = t) (hT : hTel R S t) (hw : wAct t) {i a : Nat} {b : Option Nat} (hi : i < hN t) (ha : a < hFc t) (hb : okB t b) (htr : S.2.2.2.1 0 (581 + i) = t (581 + i)) : ∃ f, f_X2_canFeed (hTa A k) (nI i) (nI a) (bI b) (hMem A R S) = some (.inl (some (.int (b01 (wCan t i a b)))), hMem A R (hRw S 2 f)) := by
  have hn := hw.n
  obtain ⟨f, e1⟩ := f_eats hg hc hk ht hT hw.1.2.2.2.2.2.2.2.2 (i := i) (by omega) htr
  have e2 := f_leaf (S := hRw S 2 f) hg hc hk (hT.S (hRw_1 _ _ _)) hw.1.2.1 ha hb
  obtain ⟨c, hc1, hc2, hc3, hc4⟩ := hCo_at hw.2 hn hi
  have e3 := fx_has A R S t (o := 67) (w := i) (by omega)
  have e4 : (hRw S 2 f).2.2.2.1 k = t := by rw [hRw_3]; exact ht
  have l4 := hr_ld4 hg R S hk (p := i) (by omega)
  rw [ht, hc2] at l4
  have h10 : ¬ (1 : Int32) = 0 := by decide
  unfold wCan
  by_cases c1 : t (43 + i) = -1
  · have hc0 : c = 0 := hc4.mp c1
    subst hc0
    have n0 : ¬ (0 : Int32) < nI 0 := by decide
    by_cases c2 : t (67 + i) = 1
    · refine ⟨S.2.1 2, ?_⟩
      rw [hRw_self]
      rw [if_pos c2] at e3
      simp (disch := omega) only [f_X2_canFeed, tgN_4 hg, l4, eq_self, hcI, hcN, hcV, obS, if_true, if_false, n0, tgI_8 hg, ht, e3, h10]
      simp [c2, b01]
    · rw [if_neg c2] at e3
      by_cases c3 : t (7 + i) + (if bI b = -1 then 1 else 2) ≤ 9
      · refine ⟨f, ?_⟩
        by_cases c4 : wEats t i ≤ t (79 + i)
        · simp (disch := omega) only [f_X2_canFeed, tgN_4 hg, l4, eq_self, hcI, hcN, hcV, obS, if_true, if_false, n0, tgI_8 hg, ht, e3, tgN_1 hg, trl_1 hg, c3, tgN_2 hg, trl_2 hg, ht_chk hg, e1, c4]
          simp [c1, c2, c3, c4, b01]
        · by_cases c5 : t 1 < wLeaf t a b
          · simp (disch := omega) only [f_X2_canFeed, tgN_4 hg, l4, eq_self, hcI, hcN, hcV, obS, if_true, if_false, n0, tgI_8 hg, ht, e3, tgN_1 hg, trl_1 hg, c3, tgN_2 hg, trl_2 hg, ht_chk hg, e1, c4, tgI_9 hg, e4, e2, c5]
            simp [c1, c2, c3, c4, c5, b01]
          · simp (disch := omega) only [f_X2_canFeed, tgN_4 hg, l4, eq_self, hcI, hcN, hcV, obS, if_true, if_false, n0, tgI_8 hg, ht, e3, tgN_1 hg, trl_1 hg, c3, tgN_2 hg, trl_2 hg, ht_chk hg, e1, c4, tgI_9 hg, e4, e2, c5]
            simp [c1, c2, c3, c4, c5, b01]
      · refine ⟨S.2.1 2, ?_⟩
        rw [hRw_self]
        simp (disch := omega) only [f_X2_canFeed, tgN_4 hg, l4, eq_self, hcI, hcN, hcV, obS, if_true, if_false, n0, tgI_8 hg, ht, e3, tgN_1 hg, trl_1 hg, c3]
        simp [c1, c2, c3, b01]
  · refine ⟨S.2.1 2, ?_⟩
    rw [hRw_self]
    have hcp : (0 : Int32) < nI c := nI_lt (a := 0) (by have : c ≠ 0 := fun e => c1 (hc4.mpr e); omega) (by omega)
    simp (disch := omega) only [f_X2_canFeed, tgN_4 hg, l4, eq_self, hcI, hcN, hcV, obS, if_true, if_false, hcp]
    simp [c1, b01]
