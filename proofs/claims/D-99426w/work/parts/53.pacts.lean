/-! acts and days: the model's side -/
set_option maxRecDepth 100000
/-- the law and the world's numbers beyond acts and days -/
def wGo (R : sMem) (q : Nat) (t : Nat → Int32) : Prop := hLaw R q t ∧ wStat t
def wAl (t t' : Nat → Int32) : Prop := ∀ p, (571 ≤ p ∧ p < 871 ∨ 1471 ≤ p) → t' p = t p
theorem wAl.refl (t : Nat → Int32) : wAl t t := fun _ _ => rfl
theorem wAl.trans {t t' u : Nat → Int32} (h : wAl t t') (g : wAl t' u) : wAl t u := fun p hp => (g p hp).trans (h p hp)
theorem wAl.upd {t u : Nat → Int32} (h : wAl t u) {p : Nat} (v : Int32) (hp : p < 571 ∨ 871 ≤ p ∧ p < 1471) : wAl t (upd u p v) := fun r hr => by
  rw [upd_ne _ _ (by omega)]
  exact h r hr
theorem hTrA_al {R : sMem} {t t' : Nat → Int32} (h : wAl t t') : ∀ d q a b, hTrA R t d q a b → hTrA R t' d q a b
  | 0, _, _, _, g => g
  | d + 1, q, a, b, g => by
    unfold hTrA at g ⊢
    rcases g with ⟨v, hq, hb, h0, hv⟩ | ⟨k, hk, hq, hb, h0⟩ | ⟨sg, co, q1, q2, c, e, hsg, hq, h1, h2, hb, h0⟩ | ⟨q1, q2, v, e, hq, h1, hq2, hv0, hb, h0, hv⟩
    · exact Or.inl ⟨v, hq, hb, by rw [h _ (by omega)]; exact h0, by rw [h _ (by omega)]; exact hv⟩
    · exact Or.inr (Or.inl ⟨k, hk, hq, hb, by rw [h _ (by omega)]; exact h0⟩)
    · exact Or.inr (Or.inr (Or.inl ⟨sg, co, q1, q2, c, e, hsg, hq, hTrA_al h d _ _ _ h1, hTrA_al h d _ _ _ h2, hb, by rw [h _ (by omega)]; exact h0⟩))
    · exact Or.inr (Or.inr (Or.inr ⟨q1, q2, v, e, hq, hTrA_al h d _ _ _ h1, hq2, hv0, hb, by rw [h _ (by omega)]; exact h0, by rw [h _ (by omega)]; exact hv⟩))
theorem hTrB_al {R : sMem} {t t' : Nat → Int32} (h : wAl t t') : ∀ d q a b, hTrB R t d q a b → hTrB R t' d q a b
  | 0, _, _, _, g => g
  | d + 1, q, a, b, g => by
    unfold hTrB at g ⊢
    rcases g with ⟨sg, co, q1, q2, c, e, hsg, hq, h1, h2, hb, h0⟩ | ⟨sg, co, q1, q2, c, e, hsg, hq, h1, h2, hb, h0⟩ | ⟨q1, e, hq, h1, hb, h0⟩
    · exact Or.inl ⟨sg, co, q1, q2, c, e, hsg, hq, hTrA_al h d _ _ _ h1, hTrA_al h d _ _ _ h2, hb, by rw [h _ (by omega)]; exact h0⟩
    · exact Or.inr (Or.inl ⟨sg, co, q1, q2, c, e, hsg, hq, hTrB_al h d _ _ _ h1, hTrB_al h d _ _ _ h2, hb, by rw [h _ (by omega)]; exact h0⟩)
    · exact Or.inr (Or.inr ⟨q1, e, hq, hTrB_al h d _ _ _ h1, hb, by rw [h _ (by omega)]; exact h0⟩)
theorem wSm_al {t t' : Nat → Int32} {p b : Nat} (e : t' p = t p) (h : wSm t p b) : wSm t' p b := by
  unfold wSm
  rw [e]
  exact h
theorem hLaw_al {R : sMem} {q : Nat} {t t' : Nat → Int32} (h : wAl t t') (hw : wLaw t) (g : hLaw R q t) : hLaw R q t' := by
  have hl : hLn t ≤ 16 := hw.1.2
  have e574 : hLn t' = hLn t := congrArg cv (h 574 (by omega))
  obtain ⟨wa, oa, na, wf, of, nf, h1, h2, h3, h4, hall⟩ := g
  refine ⟨wa, oa, na, wf, of, nf, by rw [e574]; exact h1, h2, h3, h4, fun l hl' => ?_⟩
  rw [e574] at hl'
  obtain ⟨a1, a2, ⟨o, ho, a3⟩, a4⟩ := hall l hl'
  have e1 : hFr t' l = hFr t l := congrArg cv (h _ (by omega))
  have e2 : hMi t' l = hMi t l := congrArg cv (h _ (by omega))
  have e3 : hTo t' l = hTo t l := congrArg cv (h _ (by omega))
  rw [e1, e2, e3]
  refine ⟨by rw [h _ (by omega)]; exact a1, a2, ⟨o, ho, hTrA_al h _ _ _ _ a3⟩, ?_⟩
  rcases a4 with a4 | ⟨o2, ho2, a4⟩
  · exact Or.inl a4
  · exact Or.inr ⟨o2, ho2, hTrB_al h _ _ _ _ a4⟩
theorem wStat_al {t t' : Nat → Int32} (h : wAl t t') (g : wStat t) : wStat t' := by
  obtain ⟨g1, g2, g3, g4, g5, g6, g7, g8, g9⟩ := g
  have E : ∀ p, (571 ≤ p ∧ p < 871 ∨ 1471 ≤ p) → t' p = t p := h
  have b2 : hFc t ≤ 10 := g2.1.2
  have b3 : hMe t ≤ 16 := g3.1.2
  have b5 : hRc t ≤ 12 := g5.1.2
  have b6 : hKc t ≤ 12 := g6.1.2
  have b8 : hOc t ≤ 16 := g8.1.2
  have b9 : hLn t ≤ 16 := g9.1.2
  have n1 : hN t' = hN t := by unfold hN; rw [E _ (by omega)]
  have n2 : hFc t' = hFc t := congrArg cv (E _ (by omega))
  have n3 : hMe t' = hMe t := congrArg cv (E _ (by omega))
  have n5 : hRc t' = hRc t := congrArg cv (E _ (by omega))
  have n6 : hKc t' = hKc t := congrArg cv (E _ (by omega))
  have n8 : hOc t' = hOc t := congrArg cv (E _ (by omega))
  have n9 : hLn t' = hLn t := congrArg cv (E _ (by omega))
  have b1' : hN t ≤ 12 := g1.1.2
  refine ⟨⟨wSm_al (E _ (by omega)) g1.1, fun i hi => ?_⟩, ⟨wSm_al (E _ (by omega)) g2.1, fun f hf => ?_⟩, ⟨wSm_al (E _ (by omega)) g3.1, fun k hk => ?_⟩, wSm_al (E _ (by omega)) g4, ⟨wSm_al (E _ (by omega)) g5.1, fun k hk => ?_⟩, ⟨wSm_al (E _ (by omega)) g6.1, fun k hk => ?_⟩, wSm_al (E _ (by omega)) g7, ⟨wSm_al (E _ (by omega)) g8.1, fun k hk => ?_⟩, ⟨wSm_al (E _ (by omega)) g9.1, fun l hl => ?_⟩⟩
  · rw [n1] at hi
    exact wSm_al (E _ (by omega)) (g1.2 i hi)
  · rw [n2] at hf
    obtain ⟨a1, a2, a3, a4, a5⟩ := g2.2 f hf
    have nm : hMc t' f = hMc t f := congrArg cv (E _ (by omega))
    have : hMc t f ≤ 6 := a1.2
    refine ⟨wSm_al (E _ (by omega)) a1, by rw [nm]; exact a2, wSm_al (E _ (by omega)) a3, wSm_al (E _ (by omega)) a4, fun j hj => ?_⟩
    rw [nm] at hj
    exact wSm_al (E _ (by omega)) (a5 j hj)
  · rw [n3] at hk
    rw [n1, n2, E _ (by omega), E _ (by omega), E _ (by omega)]
    exact g3.2 k hk
  · rw [n5] at hk
    exact wSm_al (E _ (by omega)) (g5.2 k hk)
  · rw [n6] at hk
    exact ⟨wSm_al (E _ (by omega)) (g6.2 k hk).1, wSm_al (E _ (by omega)) (g6.2 k hk).2⟩
  · rw [n8] at hk
    exact ⟨wSm_al (E _ (by omega)) (g8.2 k hk).1, wSm_al (E _ (by omega)) (g8.2 k hk).2⟩
  · rw [n9] at hl
    obtain ⟨a1, a2, a3⟩ := g9.2 l hl
    exact ⟨wSm_al (E _ (by omega)) a1, wSm_al (E _ (by omega)) a2, wSm_al (E _ (by omega)) a3⟩
theorem wGo.al {R : sMem} {q : Nat} {t t' : Nat → Int32} (h : wGo R q t) (g : wAl t t') : wGo R q t' := ⟨hLaw_al g h.2.2.2.2.2.2.2.2.2 h.1, wStat_al g h.2⟩
theorem wGo.law {R : sMem} {q : Nat} {t : Nat → Int32} (h : wGo R q t) : wLaw t := h.2.2.2.2.2.2.2.2.2
/-- a fact, or none -/
def okB (t : Nat → Int32) (b : Option Nat) : Prop := ∀ k, b = some k → k < hFc t
theorem pBool_if (c : Prop) [Decidable c] (s : mSt) : pBool (if c then nI 1 else nI 0) s = some (some (.int (if c then 1 else 0)), s) := by
  unfold pBool
  split <;> rfl
theorem pBool_if' (c : Prop) [Decidable c] (s : mSt) : pBool (if c then nI 0 else nI 1) s = some (some (.int (if c then 0 else 1)), s) := by
  unfold pBool
  split <;> rfl
theorem px_flown (m : Nat) (s : mSt) {i : Nat} (hi : i < 12) : p_X3_isFlown m (nI i) s = some (some (.int (if s.2 0 (67 + i) = 1 then 1 else 0)), s) := by
  simp (disch := omega) only [p_X3_isFlown, li_0, li_1, li_2, li_3, li_4, li_5, li_6, li_7, li_8, li_9, li_10, li_11, li_12, li_13, li_14, li_15, li_16, li_17, li_19, li_20, li_21, li_22, li_23, li_24, li_25, li_26, li_27, li_28, li_29, li_30, li_31, li_32, li_38, li_40, li_41, li_42, li_43, li_44, li_45, li_46, li_47, li_48, li_49, li_50, li_55, li_57, li_59, li_60, li_61, li_62, li_63, li_64, li_65, li_67, li_70, li_79, li_90, li_91, li_97, li_99, li_100, li_122, li_124, li_140, li_141, li_142, li_143, li_145, li_147, li_150, li_159, li_160, li_161, li_162, li_200, li_255, li_300, li_400, li_420, li_480, li_571, li_572, li_573, li_574, li_575, li_576, li_577, li_578, li_579, li_580, li_581, li_593, li_600, li_605, li_695, li_700, li_759, li_775, li_799, li_820, li_823, li_839, li_871, li_975, li_999, li_1000, li_1023, li_1024, li_1471, li_1487, li_1503, li_1519, li_1535, li_1681, li_2355, li_2855, li_3426, li_4096, li_9999, li_10000, li_49152, li_99999, li_1000000, mRow_0, mRow_1, mRow_2, mRow_3, mRow_6, mRow_7, mRow_8, mRow_9, mRow_10, mRow_11, mRow_28, mRow_29, mRow_30, mRow_31, mRow_32, qld_0, qst_0, qld_1, qst_1, qld_2, qst_2, qld_3, qst_3, qld_4, qst_4, qld_5, qst_5, qld_6, qst_6, qld_7, qst_7, qld_8, qst_8, qld_9, qst_9, qld_10, qst_10, qld_11, qst_11, qld_12, qst_12, qld_13, qst_13, qld_14, qst_14, eq_self, qg, qp, mrs_1, mrs_same, ms_2, pcI, pcV, obS, mrs_mrs, nI_add, pk_mul, Nat.mul_zero, Nat.add_zero, Nat.zero_add, Nat.reduceAdd, Nat.reduceMul, Nat.reduceSub, nI_leI, nI_ltI, nI_eq, Nat.reduceEqDiff, Nat.reduceLeDiff, nI_n1F, nI_n1F', pBool_if]
theorem px_spun (m : Nat) (s : mSt) {i : Nat} (hi : i < 12) : p_X3_isSpun m (nI i) s = some (some (.int (if s.2 0 (43 + i) = -1 then 0 else 1)), s) := by
  simp (disch := omega) only [p_X3_isSpun, li_0, li_1, li_2, li_3, li_4, li_5, li_6, li_7, li_8, li_9, li_10, li_11, li_12, li_13, li_14, li_15, li_16, li_17, li_19, li_20, li_21, li_22, li_23, li_24, li_25, li_26, li_27, li_28, li_29, li_30, li_31, li_32, li_38, li_40, li_41, li_42, li_43, li_44, li_45, li_46, li_47, li_48, li_49, li_50, li_55, li_57, li_59, li_60, li_61, li_62, li_63, li_64, li_65, li_67, li_70, li_79, li_90, li_91, li_97, li_99, li_100, li_122, li_124, li_140, li_141, li_142, li_143, li_145, li_147, li_150, li_159, li_160, li_161, li_162, li_200, li_255, li_300, li_400, li_420, li_480, li_571, li_572, li_573, li_574, li_575, li_576, li_577, li_578, li_579, li_580, li_581, li_593, li_600, li_605, li_695, li_700, li_759, li_775, li_799, li_820, li_823, li_839, li_871, li_975, li_999, li_1000, li_1023, li_1024, li_1471, li_1487, li_1503, li_1519, li_1535, li_1681, li_2355, li_2855, li_3426, li_4096, li_9999, li_10000, li_49152, li_99999, li_1000000, mRow_0, mRow_1, mRow_2, mRow_3, mRow_6, mRow_7, mRow_8, mRow_9, mRow_10, mRow_11, mRow_28, mRow_29, mRow_30, mRow_31, mRow_32, qld_0, qst_0, qld_1, qst_1, qld_2, qst_2, qld_3, qst_3, qld_4, qst_4, qld_5, qst_5, qld_6, qst_6, qld_7, qst_7, qld_8, qst_8, qld_9, qst_9, qld_10, qst_10, qld_11, qst_11, qld_12, qst_12, qld_13, qst_13, qld_14, qst_14, eq_self, qg, qp, mrs_1, mrs_same, ms_2, pcI, pcV, obS, mrs_mrs, nI_add, pk_mul, Nat.mul_zero, Nat.add_zero, Nat.zero_add, Nat.reduceAdd, Nat.reduceMul, Nat.reduceSub, nI_leI, nI_ltI, nI_eq, Nat.reduceEqDiff, Nat.reduceLeDiff, nI_n1F, nI_n1F', pBool_if']
theorem px_fact (m : Nat) (s : mSt) {f k : Nat} (hf : f < 10) (hk : k < 9) : p_X3_factOf m (nI f) (nI k) s = some (some (.int (s.2 0 (605 + 9 * f + k))), s) := by
  simp (disch := omega) only [p_X3_factOf, li_0, li_1, li_2, li_3, li_4, li_5, li_6, li_7, li_8, li_9, li_10, li_11, li_12, li_13, li_14, li_15, li_16, li_17, li_19, li_20, li_21, li_22, li_23, li_24, li_25, li_26, li_27, li_28, li_29, li_30, li_31, li_32, li_38, li_40, li_41, li_42, li_43, li_44, li_45, li_46, li_47, li_48, li_49, li_50, li_55, li_57, li_59, li_60, li_61, li_62, li_63, li_64, li_65, li_67, li_70, li_79, li_90, li_91, li_97, li_99, li_100, li_122, li_124, li_140, li_141, li_142, li_143, li_145, li_147, li_150, li_159, li_160, li_161, li_162, li_200, li_255, li_300, li_400, li_420, li_480, li_571, li_572, li_573, li_574, li_575, li_576, li_577, li_578, li_579, li_580, li_581, li_593, li_600, li_605, li_695, li_700, li_759, li_775, li_799, li_820, li_823, li_839, li_871, li_975, li_999, li_1000, li_1023, li_1024, li_1471, li_1487, li_1503, li_1519, li_1535, li_1681, li_2355, li_2855, li_3426, li_4096, li_9999, li_10000, li_49152, li_99999, li_1000000, mRow_0, mRow_1, mRow_2, mRow_3, mRow_6, mRow_7, mRow_8, mRow_9, mRow_10, mRow_11, mRow_28, mRow_29, mRow_30, mRow_31, mRow_32, qld_0, qst_0, qld_1, qst_1, qld_2, qst_2, qld_3, qst_3, qld_4, qst_4, qld_5, qst_5, qld_6, qst_6, qld_7, qst_7, qld_8, qst_8, qld_9, qst_9, qld_10, qst_10, qld_11, qst_11, qld_12, qst_12, qld_13, qst_13, qld_14, qst_14, eq_self, qg, qp, mrs_1, mrs_same, ms_2, pcI, pcV, obS, mrs_mrs, nI_add, pk_mul, Nat.mul_zero, Nat.add_zero, Nat.zero_add, Nat.reduceAdd, Nat.reduceMul, Nat.reduceSub, nI_leI, nI_ltI, nI_eq, Nat.reduceEqDiff, Nat.reduceLeDiff, nI_n1F, nI_n1F']
theorem bI_none : bI none = -1 := rfl
theorem bI_some (b : Nat) : bI (some b) = nI b := rfl
theorem px_leaf (m : Nat) (s : mSt) {a : Nat} {b : Option Nat} (ha : a < 10) (hb : ∀ k, b = some k → k < 10) : p_X3_leafOf m (nI a) (bI b) s = some (some (.int (wLeaf (s.2 0) a b)), s) := by
  cases b with
  | none => 
    simp (disch := omega) only [p_X3_leafOf, li_0, li_1, li_2, li_3, li_4, li_5, li_6, li_7, li_8, li_9, li_10, li_11, li_12, li_13, li_14, li_15, li_16, li_17, li_19, li_20, li_21, li_22, li_23, li_24, li_25, li_26, li_27, li_28, li_29, li_30, li_31, li_32, li_38, li_40, li_41, li_42, li_43, li_44, li_45, li_46, li_47, li_48, li_49, li_50, li_55, li_57, li_59, li_60, li_61, li_62, li_63, li_64, li_65, li_67, li_70, li_79, li_90, li_91, li_97, li_99, li_100, li_122, li_124, li_140, li_141, li_142, li_143, li_145, li_147, li_150, li_159, li_160, li_161, li_162, li_200, li_255, li_300, li_400, li_420, li_480, li_571, li_572, li_573, li_574, li_575, li_576, li_577, li_578, li_579, li_580, li_581, li_593, li_600, li_605, li_695, li_700, li_759, li_775, li_799, li_820, li_823, li_839, li_871, li_975, li_999, li_1000, li_1023, li_1024, li_1471, li_1487, li_1503, li_1519, li_1535, li_1681, li_2355, li_2855, li_3426, li_4096, li_9999, li_10000, li_49152, li_99999, li_1000000, eq_self, qg, qp, mrs_1, mrs_same, ms_2, pcI, pcV, obS, mrs_mrs, px_fact, bI_none, if_true, wLeaf]
  | some b =>
    have := hb b rfl
    simp (disch := omega) only [p_X3_leafOf, li_0, li_1, li_2, li_3, li_4, li_5, li_6, li_7, li_8, li_9, li_10, li_11, li_12, li_13, li_14, li_15, li_16, li_17, li_19, li_20, li_21, li_22, li_23, li_24, li_25, li_26, li_27, li_28, li_29, li_30, li_31, li_32, li_38, li_40, li_41, li_42, li_43, li_44, li_45, li_46, li_47, li_48, li_49, li_50, li_55, li_57, li_59, li_60, li_61, li_62, li_63, li_64, li_65, li_67, li_70, li_79, li_90, li_91, li_97, li_99, li_100, li_122, li_124, li_140, li_141, li_142, li_143, li_145, li_147, li_150, li_159, li_160, li_161, li_162, li_200, li_255, li_300, li_400, li_420, li_480, li_571, li_572, li_573, li_574, li_575, li_576, li_577, li_578, li_579, li_580, li_581, li_593, li_600, li_605, li_695, li_700, li_759, li_775, li_799, li_820, li_823, li_839, li_871, li_975, li_999, li_1000, li_1023, li_1024, li_1471, li_1487, li_1503, li_1519, li_1535, li_1681, li_2355, li_2855, li_3426, li_4096, li_9999, li_10000, li_49152, li_99999, li_1000000, eq_self, qg, qp, mrs_1, mrs_same, ms_2, pcI, pcV, obS, mrs_mrs, px_fact, bI_some, nI_m1F, nI_n1F, if_false, wLeaf]
theorem px_many (m : Nat) (s : mSt) {a : Nat} {b : Option Nat} (hw : wFac (s.2 0)) (ha : a < hFc (s.2 0)) (hb : okB (s.2 0) b) : p_X3_spunMany m (nI a) (bI b) s = some (some (.int (nI (wMany (s.2 0) a b))), s) := by
  have h10 : hFc (s.2 0) ≤ 10 := hw.1.2
  have e : s.2 0 (605 + 9 * a) = nI (hMc (s.2 0) a) := (hw.2 a ha).1.1
  cases b with
  | none => 
    simp (disch := omega) only [p_X3_spunMany, li_0, li_1, li_2, li_3, li_4, li_5, li_6, li_7, li_8, li_9, li_10, li_11, li_12, li_13, li_14, li_15, li_16, li_17, li_19, li_20, li_21, li_22, li_23, li_24, li_25, li_26, li_27, li_28, li_29, li_30, li_31, li_32, li_38, li_40, li_41, li_42, li_43, li_44, li_45, li_46, li_47, li_48, li_49, li_50, li_55, li_57, li_59, li_60, li_61, li_62, li_63, li_64, li_65, li_67, li_70, li_79, li_90, li_91, li_97, li_99, li_100, li_122, li_124, li_140, li_141, li_142, li_143, li_145, li_147, li_150, li_159, li_160, li_161, li_162, li_200, li_255, li_300, li_400, li_420, li_480, li_571, li_572, li_573, li_574, li_575, li_576, li_577, li_578, li_579, li_580, li_581, li_593, li_600, li_605, li_695, li_700, li_759, li_775, li_799, li_820, li_823, li_839, li_871, li_975, li_999, li_1000, li_1023, li_1024, li_1471, li_1487, li_1503, li_1519, li_1535, li_1681, li_2355, li_2855, li_3426, li_4096, li_9999, li_10000, li_49152, li_99999, li_1000000, eq_self, qg, qp, mrs_1, mrs_same, ms_2, pcI, pcV, obS, mrs_mrs, px_fact, bI_none, if_true, wMany, Nat.add_zero, e, nI_add]
  | some b =>
    have hb' := hb b rfl
    have e2 : s.2 0 (605 + 9 * b) = nI (hMc (s.2 0) b) := (hw.2 b hb').1.1
    simp (disch := omega) only [p_X3_spunMany, li_0, li_1, li_2, li_3, li_4, li_5, li_6, li_7, li_8, li_9, li_10, li_11, li_12, li_13, li_14, li_15, li_16, li_17, li_19, li_20, li_21, li_22, li_23, li_24, li_25, li_26, li_27, li_28, li_29, li_30, li_31, li_32, li_38, li_40, li_41, li_42, li_43, li_44, li_45, li_46, li_47, li_48, li_49, li_50, li_55, li_57, li_59, li_60, li_61, li_62, li_63, li_64, li_65, li_67, li_70, li_79, li_90, li_91, li_97, li_99, li_100, li_122, li_124, li_140, li_141, li_142, li_143, li_145, li_147, li_150, li_159, li_160, li_161, li_162, li_200, li_255, li_300, li_400, li_420, li_480, li_571, li_572, li_573, li_574, li_575, li_576, li_577, li_578, li_579, li_580, li_581, li_593, li_600, li_605, li_695, li_700, li_759, li_775, li_799, li_820, li_823, li_839, li_871, li_975, li_999, li_1000, li_1023, li_1024, li_1471, li_1487, li_1503, li_1519, li_1535, li_1681, li_2355, li_2855, li_3426, li_4096, li_9999, li_10000, li_49152, li_99999, li_1000000, eq_self, qg, qp, mrs_1, mrs_same, ms_2, pcI, pcV, obS, mrs_mrs, px_fact, bI_some, nI_m1F, nI_n1F, if_false, wMany, Nat.add_zero, e, e2, nI_add]
theorem px_mark (m : Nat) (s : mSt) {a i : Nat} {b : Option Nat} (hw : wFac (s.2 0)) (ha : a < hFc (s.2 0)) (hb : okB (s.2 0) b) (hi : i < 1000) : p_X3_spunMark m (nI a) (bI b) (nI i) s = some (some (.int (wMark (s.2 0) a b i)), s) := by
  have h10 : hFc (s.2 0) ≤ 10 := hw.1.2
  have e : s.2 0 (605 + 9 * a) = nI (hMc (s.2 0) a) := (hw.2 a ha).1.1
  have l1 : hMc (s.2 0) a ≤ 6 := (hw.2 a ha).1.2
  have hm := px_many m s hw ha hb
  unfold wMark
  cases b with
  | none =>
    have hle : wMany (s.2 0) a none ≤ 6 := by simpa [wMany] using l1
    have hm' : p_X3_spunMany m (nI a) (-nI 1) s = some (some (.int (nI (wMany (s.2 0) a none))), s) := hm
    have ev : 605 + 9 * a + (3 + i) = 605 + 9 * a + 3 + i := by omega
    by_cases h : i < wMany (s.2 0) a none
    · simp (disch := omega) only [p_X3_spunMark, hm', li_0, li_1, li_2, li_3, li_4, li_5, li_6, li_7, li_8, li_9, li_10, li_11, li_12, li_13, li_14, li_15, li_16, li_17, li_19, li_20, li_21, li_22, li_23, li_24, li_25, li_26, li_27, li_28, li_29, li_30, li_31, li_32, li_38, li_40, li_41, li_42, li_43, li_44, li_45, li_46, li_47, li_48, li_49, li_50, li_55, li_57, li_59, li_60, li_61, li_62, li_63, li_64, li_65, li_67, li_70, li_79, li_90, li_91, li_97, li_99, li_100, li_122, li_124, li_140, li_141, li_142, li_143, li_145, li_147, li_150, li_159, li_160, li_161, li_162, li_200, li_255, li_300, li_400, li_420, li_480, li_571, li_572, li_573, li_574, li_575, li_576, li_577, li_578, li_579, li_580, li_581, li_593, li_600, li_605, li_695, li_700, li_759, li_775, li_799, li_820, li_823, li_839, li_871, li_975, li_999, li_1000, li_1023, li_1024, li_1471, li_1487, li_1503, li_1519, li_1535, li_1681, li_2355, li_2855, li_3426, li_4096, li_9999, li_10000, li_49152, li_99999, li_1000000, eq_self, qg, qp, mrs_1, mrs_same, ms_2, pcI, pcV, obS, mrs_mrs, nI_add, pk_mul, Nat.mul_zero, Nat.add_zero, Nat.zero_add, Nat.reduceAdd, Nat.reduceMul, Nat.reduceSub, nI_leI, nI_ltI, nI_eq, Nat.reduceEqDiff, Nat.reduceLeDiff, nI_n1F, nI_n1F', px_fact, bI_none, if_true, h, ev]
    · simp (disch := omega) only [p_X3_spunMark, hm', li_0, li_1, li_2, li_3, li_4, li_5, li_6, li_7, li_8, li_9, li_10, li_11, li_12, li_13, li_14, li_15, li_16, li_17, li_19, li_20, li_21, li_22, li_23, li_24, li_25, li_26, li_27, li_28, li_29, li_30, li_31, li_32, li_38, li_40, li_41, li_42, li_43, li_44, li_45, li_46, li_47, li_48, li_49, li_50, li_55, li_57, li_59, li_60, li_61, li_62, li_63, li_64, li_65, li_67, li_70, li_79, li_90, li_91, li_97, li_99, li_100, li_122, li_124, li_140, li_141, li_142, li_143, li_145, li_147, li_150, li_159, li_160, li_161, li_162, li_200, li_255, li_300, li_400, li_420, li_480, li_571, li_572, li_573, li_574, li_575, li_576, li_577, li_578, li_579, li_580, li_581, li_593, li_600, li_605, li_695, li_700, li_759, li_775, li_799, li_820, li_823, li_839, li_871, li_975, li_999, li_1000, li_1023, li_1024, li_1471, li_1487, li_1503, li_1519, li_1535, li_1681, li_2355, li_2855, li_3426, li_4096, li_9999, li_10000, li_49152, li_99999, li_1000000, eq_self, qg, qp, mrs_1, mrs_same, ms_2, pcI, pcV, obS, mrs_mrs, nI_add, pk_mul, Nat.mul_zero, Nat.add_zero, Nat.zero_add, Nat.reduceAdd, Nat.reduceMul, Nat.reduceSub, nI_leI, nI_ltI, nI_eq, Nat.reduceEqDiff, Nat.reduceLeDiff, nI_n1F, nI_n1F', bI_none, if_false, h]
  | some b =>
    dsimp only
    have hb' := hb b rfl
    have e2 : s.2 0 (605 + 9 * b) = nI (hMc (s.2 0) b) := (hw.2 b hb').1.1
    have l2 : hMc (s.2 0) b ≤ 6 := (hw.2 b hb').1.2
    have hle : wMany (s.2 0) a (some b) ≤ 12 := by
      show hMc (s.2 0) a + hMc (s.2 0) b ≤ 12
      omega
    have hm' : p_X3_spunMany m (nI a) (nI b) s = some (some (.int (nI (wMany (s.2 0) a (some b)))), s) := hm
    by_cases h : i < wMany (s.2 0) a (some b)
    · have hi2 : i < hMc (s.2 0) a + hMc (s.2 0) b := h
      have emin : (if hMc (s.2 0) b ≤ hMc (s.2 0) a then nI (hMc (s.2 0) b) else nI (hMc (s.2 0) a)) = nI (min (hMc (s.2 0) a) (hMc (s.2 0) b)) := by
        by_cases g : hMc (s.2 0) b ≤ hMc (s.2 0) a
        · rw [if_pos g, Nat.min_eq_right g]
        · rw [if_neg g, Nat.min_eq_left (by omega)]
      have r1 : min (hMc (s.2 0) a) (hMc (s.2 0) b) ≤ 6 := by omega
      by_cases h2 : 2 * min (hMc (s.2 0) a) (hMc (s.2 0) b) ≤ i
      · have r2 : min (hMc (s.2 0) a) (hMc (s.2 0) b) ≤ 3 + i := by omega
        by_cases h3 : hMc (s.2 0) a ≤ min (hMc (s.2 0) a) (hMc (s.2 0) b)
        · have ev : 605 + 9 * b + (3 + i - min (hMc (s.2 0) a) (hMc (s.2 0) b)) = 605 + 9 * b + 3 + (i - min (hMc (s.2 0) a) (hMc (s.2 0) b)) := by omega
          generalize hmn : min (hMc (s.2 0) a) (hMc (s.2 0) b) = mn at *
          simp (disch := omega) only [p_X3_spunMark, hm', li_0, li_1, li_2, li_3, li_4, li_5, li_6, li_7, li_8, li_9, li_10, li_11, li_12, li_13, li_14, li_15, li_16, li_17, li_19, li_20, li_21, li_22, li_23, li_24, li_25, li_26, li_27, li_28, li_29, li_30, li_31, li_32, li_38, li_40, li_41, li_42, li_43, li_44, li_45, li_46, li_47, li_48, li_49, li_50, li_55, li_57, li_59, li_60, li_61, li_62, li_63, li_64, li_65, li_67, li_70, li_79, li_90, li_91, li_97, li_99, li_100, li_122, li_124, li_140, li_141, li_142, li_143, li_145, li_147, li_150, li_159, li_160, li_161, li_162, li_200, li_255, li_300, li_400, li_420, li_480, li_571, li_572, li_573, li_574, li_575, li_576, li_577, li_578, li_579, li_580, li_581, li_593, li_600, li_605, li_695, li_700, li_759, li_775, li_799, li_820, li_823, li_839, li_871, li_975, li_999, li_1000, li_1023, li_1024, li_1471, li_1487, li_1503, li_1519, li_1535, li_1681, li_2355, li_2855, li_3426, li_4096, li_9999, li_10000, li_49152, li_99999, li_1000000, eq_self, qg, qp, mrs_1, mrs_same, ms_2, pcI, pcV, obS, mrs_mrs, nI_add, pk_mul, Nat.mul_zero, Nat.add_zero, Nat.zero_add, Nat.reduceAdd, Nat.reduceMul, Nat.reduceSub, nI_leI, nI_ltI, nI_eq, Nat.reduceEqDiff, Nat.reduceLeDiff, nI_n1F, nI_n1F', px_fact, bI_some, if_true, if_false, h, e, e2, px_lesser, emin, h2, h3, pk_sub, ev]
        · have ev : 605 + 9 * a + (3 + i - min (hMc (s.2 0) a) (hMc (s.2 0) b)) = 605 + 9 * a + 3 + (i - min (hMc (s.2 0) a) (hMc (s.2 0) b)) := by omega
          generalize hmn : min (hMc (s.2 0) a) (hMc (s.2 0) b) = mn at *
          simp (disch := omega) only [p_X3_spunMark, hm', li_0, li_1, li_2, li_3, li_4, li_5, li_6, li_7, li_8, li_9, li_10, li_11, li_12, li_13, li_14, li_15, li_16, li_17, li_19, li_20, li_21, li_22, li_23, li_24, li_25, li_26, li_27, li_28, li_29, li_30, li_31, li_32, li_38, li_40, li_41, li_42, li_43, li_44, li_45, li_46, li_47, li_48, li_49, li_50, li_55, li_57, li_59, li_60, li_61, li_62, li_63, li_64, li_65, li_67, li_70, li_79, li_90, li_91, li_97, li_99, li_100, li_122, li_124, li_140, li_141, li_142, li_143, li_145, li_147, li_150, li_159, li_160, li_161, li_162, li_200, li_255, li_300, li_400, li_420, li_480, li_571, li_572, li_573, li_574, li_575, li_576, li_577, li_578, li_579, li_580, li_581, li_593, li_600, li_605, li_695, li_700, li_759, li_775, li_799, li_820, li_823, li_839, li_871, li_975, li_999, li_1000, li_1023, li_1024, li_1471, li_1487, li_1503, li_1519, li_1535, li_1681, li_2355, li_2855, li_3426, li_4096, li_9999, li_10000, li_49152, li_99999, li_1000000, eq_self, qg, qp, mrs_1, mrs_same, ms_2, pcI, pcV, obS, mrs_mrs, nI_add, pk_mul, Nat.mul_zero, Nat.add_zero, Nat.zero_add, Nat.reduceAdd, Nat.reduceMul, Nat.reduceSub, nI_leI, nI_ltI, nI_eq, Nat.reduceEqDiff, Nat.reduceLeDiff, nI_n1F, nI_n1F', px_fact, bI_some, if_true, if_false, h, e, e2, px_lesser, emin, h2, h3, pk_sub, ev]
      · have eq1 : nI i - nI (i / 2 * 2) = nI (i % 2) := by
          rw [pk_sub (by omega)]
          congr 1
          omega
        have eq2 : nI i / nI 2 = nI (i / 2) := pk_div (by omega) (by omega) (by omega)
        by_cases h3 : i % 2 = 0
        · have ev : 605 + 9 * a + (3 + i / 2) = 605 + 9 * a + 3 + i / 2 := by omega
          generalize hmn : min (hMc (s.2 0) a) (hMc (s.2 0) b) = mn at *
          simp (disch := omega) only [p_X3_spunMark, hm', li_0, li_1, li_2, li_3, li_4, li_5, li_6, li_7, li_8, li_9, li_10, li_11, li_12, li_13, li_14, li_15, li_16, li_17, li_19, li_20, li_21, li_22, li_23, li_24, li_25, li_26, li_27, li_28, li_29, li_30, li_31, li_32, li_38, li_40, li_41, li_42, li_43, li_44, li_45, li_46, li_47, li_48, li_49, li_50, li_55, li_57, li_59, li_60, li_61, li_62, li_63, li_64, li_65, li_67, li_70, li_79, li_90, li_91, li_97, li_99, li_100, li_122, li_124, li_140, li_141, li_142, li_143, li_145, li_147, li_150, li_159, li_160, li_161, li_162, li_200, li_255, li_300, li_400, li_420, li_480, li_571, li_572, li_573, li_574, li_575, li_576, li_577, li_578, li_579, li_580, li_581, li_593, li_600, li_605, li_695, li_700, li_759, li_775, li_799, li_820, li_823, li_839, li_871, li_975, li_999, li_1000, li_1023, li_1024, li_1471, li_1487, li_1503, li_1519, li_1535, li_1681, li_2355, li_2855, li_3426, li_4096, li_9999, li_10000, li_49152, li_99999, li_1000000, eq_self, qg, qp, mrs_1, mrs_same, ms_2, pcI, pcV, obS, mrs_mrs, nI_add, eq2, eq1, nI_leI, nI_ltI, nI_eq, Nat.reduceEqDiff, Nat.reduceLeDiff, nI_n1F, nI_n1F', px_fact, bI_some, if_true, if_false, h, e, e2, px_lesser, emin, h2, h3, ev, pk_mul, Nat.add_zero]
        · have ev : 605 + 9 * b + (3 + i / 2) = 605 + 9 * b + 3 + i / 2 := by omega
          generalize hmn : min (hMc (s.2 0) a) (hMc (s.2 0) b) = mn at *
          simp (disch := omega) only [p_X3_spunMark, hm', li_0, li_1, li_2, li_3, li_4, li_5, li_6, li_7, li_8, li_9, li_10, li_11, li_12, li_13, li_14, li_15, li_16, li_17, li_19, li_20, li_21, li_22, li_23, li_24, li_25, li_26, li_27, li_28, li_29, li_30, li_31, li_32, li_38, li_40, li_41, li_42, li_43, li_44, li_45, li_46, li_47, li_48, li_49, li_50, li_55, li_57, li_59, li_60, li_61, li_62, li_63, li_64, li_65, li_67, li_70, li_79, li_90, li_91, li_97, li_99, li_100, li_122, li_124, li_140, li_141, li_142, li_143, li_145, li_147, li_150, li_159, li_160, li_161, li_162, li_200, li_255, li_300, li_400, li_420, li_480, li_571, li_572, li_573, li_574, li_575, li_576, li_577, li_578, li_579, li_580, li_581, li_593, li_600, li_605, li_695, li_700, li_759, li_775, li_799, li_820, li_823, li_839, li_871, li_975, li_999, li_1000, li_1023, li_1024, li_1471, li_1487, li_1503, li_1519, li_1535, li_1681, li_2355, li_2855, li_3426, li_4096, li_9999, li_10000, li_49152, li_99999, li_1000000, eq_self, qg, qp, mrs_1, mrs_same, ms_2, pcI, pcV, obS, mrs_mrs, nI_add, eq2, eq1, nI_leI, nI_ltI, nI_eq, Nat.reduceEqDiff, Nat.reduceLeDiff, nI_n1F, nI_n1F', px_fact, bI_some, if_true, if_false, h, e, e2, px_lesser, emin, h2, h3, ev, pk_mul, Nat.add_zero]
    · simp (disch := omega) only [p_X3_spunMark, hm', li_0, li_1, li_2, li_3, li_4, li_5, li_6, li_7, li_8, li_9, li_10, li_11, li_12, li_13, li_14, li_15, li_16, li_17, li_19, li_20, li_21, li_22, li_23, li_24, li_25, li_26, li_27, li_28, li_29, li_30, li_31, li_32, li_38, li_40, li_41, li_42, li_43, li_44, li_45, li_46, li_47, li_48, li_49, li_50, li_55, li_57, li_59, li_60, li_61, li_62, li_63, li_64, li_65, li_67, li_70, li_79, li_90, li_91, li_97, li_99, li_100, li_122, li_124, li_140, li_141, li_142, li_143, li_145, li_147, li_150, li_159, li_160, li_161, li_162, li_200, li_255, li_300, li_400, li_420, li_480, li_571, li_572, li_573, li_574, li_575, li_576, li_577, li_578, li_579, li_580, li_581, li_593, li_600, li_605, li_695, li_700, li_759, li_775, li_799, li_820, li_823, li_839, li_871, li_975, li_999, li_1000, li_1023, li_1024, li_1471, li_1487, li_1503, li_1519, li_1535, li_1681, li_2355, li_2855, li_3426, li_4096, li_9999, li_10000, li_49152, li_99999, li_1000000, eq_self, qg, qp, mrs_1, mrs_same, ms_2, pcI, pcV, obS, mrs_mrs, nI_add, pk_mul, Nat.mul_zero, Nat.add_zero, Nat.zero_add, Nat.reduceAdd, Nat.reduceMul, Nat.reduceSub, nI_leI, nI_ltI, nI_eq, Nat.reduceEqDiff, Nat.reduceLeDiff, nI_n1F, nI_n1F', bI_some, if_false, h]
