/-! acts and days: the model's side, what moves -/
set_option maxRecDepth 100000
theorem px_eats {R : sMem} {q : Nat} (m : Nat) (s : mSt) (hw : wGo R q (s.2 0)) {i : Nat} (hi : i < 12) : ∃ s', p_X3_eatsOf m (nI i) s = some (some (.int (wEats (s.2 0) i)), s') ∧ Sw s (s.2 0) s' := by
  obtain ⟨s', e, h⟩ := p_says hw.1 hw.law m s rfl 20 hi 0 0 3 3
  refine ⟨s', ?_, h⟩
  unfold p_X3_eatsOf
  rw [e]
  simp only [pcI]
  rfl
theorem px_slips {R : sMem} {q : Nat} (m : Nat) (s : mSt) (hw : wGo R q (s.2 0)) {i : Nat} (hi : i < 12) (mark place : Int32) : ∃ s', p_X3_slipsOf m (nI i) mark place s = some (some (.int (wSlips (s.2 0) i mark place)), s') ∧ Sw s (s.2 0) s' := by
  obtain ⟨s', e, h⟩ := p_says hw.1 hw.law m s rfl 21 hi mark place (25 + 20 * s.2 0 573) 1000
  refine ⟨s', ?_, h⟩
  unfold p_X3_slipsOf
  rw [mRow_0]
  simp only [obS]
  rw [li_573, qld_0 s (by decide)]
  simp only [obS]
  rw [e]
  simp only [pcI]
  rfl
theorem px_strong {R : sMem} {q : Nat} (m : Nat) (s : mSt) (hw : wGo R q (s.2 0)) {i : Nat} (hi : i < 12) : ∃ s', p_X3_strongOf m (nI i) s = some (some (.int (wStrong (s.2 0) i)), s') ∧ Sw s (s.2 0) s' := by
  obtain ⟨s', e, h⟩ := p_says hw.1 hw.law m s rfl 22 hi 0 0 (9 - s.2 0 (593 + i)) 20
  refine ⟨s', ?_, h⟩
  unfold p_X3_strongOf
  rw [mRow_0]
  simp only [obS]
  rw [li_593, nI_add, qld_0 s (by omega)]
  simp only [obS]
  rw [e]
  simp only [pcI]
  rfl
theorem px_can {R : sMem} {q : Nat} (m : Nat) (s : mSt) (hw : wGo R q (s.2 0)) {i a : Nat} {b : Option Nat} (hi : i < 12) (ha : a < 10) (hb : ∀ k, b = some k → k < 10) : ∃ s', p_X3_canFeed m (nI i) (nI a) (bI b) s = some (some (.int (b01 (wCan (s.2 0) i a b))), s') ∧ Sw s (s.2 0) s' := by
  obtain ⟨s1, e1, h1⟩ := px_eats m s hw hi
  have e0 : s1.2 0 = s.2 0 := h1.2.1
  have e2 := px_leaf m s1 ha hb
  rw [e0] at e2
  have d1 : qAld s1 0 1 = some (s1.2 0 1) := qld_0 s1 (p := 1) (by omega)
  unfold wCan
  by_cases c1 : s.2 0 (43 + i) = -1
  · by_cases c2 : s.2 0 (67 + i) = 1
    · refine ⟨s, ?_, Sw.refl s⟩
      have h10 : ¬ (1 : Int32) = 0 := by decide
      simp (disch := omega) only [p_X3_canFeed, px_spun, px_flown, c1, c2, if_true, if_false, eq_self, pcI, h10]
      simp [c2, b01]
    · by_cases c3 : s.2 0 (7 + i) + (if bI b = -1 then 1 else 2) ≤ 9
      · refine ⟨s1, ?_, h1⟩
        simp (disch := omega) only [p_X3_canFeed, px_spun, px_flown, c1, c2, if_true, if_false, eq_self, pcI, mRow_0, obS, li_7, nI_add, qld_0, c3, e1, li_79, e0]
        by_cases c4 : wEats (s.2 0) i ≤ s.2 0 (79 + i)
        · simp (disch := omega) only [c4, if_true]
          simp [c2, b01]
        · by_cases c5 : s.2 0 1 < wLeaf (s.2 0) a b
          · simp (disch := omega) only [c4, if_false, d1, obS, e0, e2, pcI, c5, if_true]
            simp [c2, c5, b01]
          · simp (disch := omega) only [c4, if_false, d1, obS, e0, e2, pcI, c5]
            simp [c2, c5, b01]
      · refine ⟨s, ?_, Sw.refl s⟩
        simp (disch := omega) only [p_X3_canFeed, px_spun, px_flown, c1, c2, if_true, if_false, eq_self, pcI, mRow_0, obS, li_7, nI_add, qld_0, c3]
        simp [c2, c3, b01]
  · refine ⟨s, ?_, Sw.refl s⟩
    have h10 : ¬ (1 : Int32) = 0 := by decide
    simp (disch := omega) only [p_X3_canFeed, px_spun, c1, if_false, eq_self, pcI, h10]
    simp [c1, b01]
theorem px_note (m : Nat) (s : mSt) {tr : Bool} (htr : s.1 27 = b01 tr) (hb : wSm (s.2 0) 6 150) (what which : Int32) (i : Nat) : p_X3_notes m what (nI i) which s = some (none, mRowSet s 0 (wNote tr what i which (s.2 0))) := by
  have e6 := hb.1
  have l6 := hb.2
  cases tr with
  | false =>
    have h0 : s.1 27 = 0 := htr
    have : wNote false what i which (s.2 0) = s.2 0 := by simp [wNote]
    rw [this, mrs_self]
    simp (disch := omega) only [p_X3_notes, eq_self, qg, qp, mrs_1, mrs_same, ms_2, pcI, pcV, obS, mrs_mrs, h0, if_true]
  | true =>
    have h1 : s.1 27 = 1 := htr
    have h10 : ¬ (1 : Int32) = 0 := by decide
    by_cases c : s.2 0 6 = 150
    · have : wNote true what i which (s.2 0) = s.2 0 := by simp [wNote, c]
      rw [this, mrs_self]
      have c' : s.2 0 6 = nI 150 := c
      simp (disch := omega) only [p_X3_notes, li_0, li_1, li_2, li_3, li_4, li_5, li_6, li_7, li_8, li_9, li_10, li_11, li_12, li_13, li_14, li_15, li_16, li_17, li_19, li_20, li_21, li_22, li_23, li_24, li_25, li_26, li_27, li_28, li_29, li_30, li_31, li_32, li_38, li_40, li_41, li_42, li_43, li_44, li_45, li_46, li_47, li_48, li_49, li_50, li_55, li_57, li_59, li_60, li_61, li_62, li_63, li_64, li_65, li_67, li_70, li_79, li_90, li_91, li_97, li_99, li_100, li_122, li_124, li_140, li_141, li_142, li_143, li_145, li_147, li_150, li_159, li_160, li_161, li_162, li_200, li_255, li_300, li_400, li_420, li_480, li_571, li_572, li_573, li_574, li_575, li_576, li_577, li_578, li_579, li_580, li_581, li_593, li_600, li_605, li_695, li_700, li_759, li_775, li_799, li_820, li_823, li_839, li_871, li_975, li_999, li_1000, li_1023, li_1024, li_1471, li_1487, li_1503, li_1519, li_1535, li_1681, li_2355, li_2855, li_3426, li_4096, li_9999, li_10000, li_49152, li_99999, li_1000000, mRow_0, mRow_1, mRow_2, mRow_3, mRow_6, mRow_7, mRow_8, mRow_9, mRow_10, mRow_11, mRow_28, mRow_29, mRow_30, mRow_31, mRow_32, qld_0, qst_0, qld_1, qst_1, qld_2, qst_2, qld_3, qst_3, qld_4, qst_4, qld_5, qst_5, qld_6, qst_6, qld_7, qst_7, qld_8, qst_8, qld_9, qst_9, qld_10, qst_10, qld_11, qst_11, qld_12, qst_12, qld_13, qst_13, qld_14, qst_14, eq_self, qg, qp, mrs_1, mrs_same, ms_2, pcI, pcV, obS, mrs_mrs, nI_add, pk_mul, Nat.mul_zero, Nat.add_zero, Nat.zero_add, Nat.reduceAdd, Nat.reduceMul, Nat.reduceSub, nI_leI, nI_ltI, nI_eq, Nat.reduceEqDiff, Nat.reduceLeDiff, nI_n1F, nI_n1F', h1, h10, if_true, if_false, c']
    · have : wNote true what i which (s.2 0) = upd (upd (upd (upd (upd (s.2 0) (871 + 4 * cv (s.2 0 6)) (s.2 0 0)) (871 + 4 * cv (s.2 0 6) + 1) what) (871 + 4 * cv (s.2 0 6) + 2) (nI i)) (871 + 4 * cv (s.2 0 6) + 3) which) 6 (s.2 0 6 + 1) := by simp [wNote, c]
      rw [this]
      have c' : ¬ cv (s.2 0 6) = 150 := fun h => c (by rw [e6, h]; rfl)
      have hlt : cv (s.2 0 6) < 150 := by omega
      generalize hn : cv (s.2 0 6) = n at *
      simp (disch := omega) only [p_X3_notes, li_0, li_1, li_2, li_3, li_4, li_5, li_6, li_7, li_8, li_9, li_10, li_11, li_12, li_13, li_14, li_15, li_16, li_17, li_19, li_20, li_21, li_22, li_23, li_24, li_25, li_26, li_27, li_28, li_29, li_30, li_31, li_32, li_38, li_40, li_41, li_42, li_43, li_44, li_45, li_46, li_47, li_48, li_49, li_50, li_55, li_57, li_59, li_60, li_61, li_62, li_63, li_64, li_65, li_67, li_70, li_79, li_90, li_91, li_97, li_99, li_100, li_122, li_124, li_140, li_141, li_142, li_143, li_145, li_147, li_150, li_159, li_160, li_161, li_162, li_200, li_255, li_300, li_400, li_420, li_480, li_571, li_572, li_573, li_574, li_575, li_576, li_577, li_578, li_579, li_580, li_581, li_593, li_600, li_605, li_695, li_700, li_759, li_775, li_799, li_820, li_823, li_839, li_871, li_975, li_999, li_1000, li_1023, li_1024, li_1471, li_1487, li_1503, li_1519, li_1535, li_1681, li_2355, li_2855, li_3426, li_4096, li_9999, li_10000, li_49152, li_99999, li_1000000, mRow_0, mRow_1, mRow_2, mRow_3, mRow_6, mRow_7, mRow_8, mRow_9, mRow_10, mRow_11, mRow_28, mRow_29, mRow_30, mRow_31, mRow_32, qld_0, qst_0, qld_1, qst_1, qld_2, qst_2, qld_3, qst_3, qld_4, qst_4, qld_5, qst_5, qld_6, qst_6, qld_7, qst_7, qld_8, qst_8, qld_9, qst_9, qld_10, qst_10, qld_11, qst_11, qld_12, qst_12, qld_13, qst_13, qld_14, qst_14, eq_self, qg, qp, mrs_1, mrs_same, ms_2, pcI, pcV, obS, mrs_mrs, nI_add, pk_mul, Nat.mul_zero, Nat.add_zero, Nat.zero_add, Nat.reduceAdd, Nat.reduceMul, Nat.reduceSub, nI_leI, nI_ltI, nI_eq, Nat.reduceEqDiff, Nat.reduceLeDiff, nI_n1F, nI_n1F', h1, h10, if_true, if_false, e6, c', upd_ne]
theorem px_hide (m : Nat) (s : mSt) {tr : Bool} (htr : s.1 27 = b01 tr) (hb : wSm (s.2 0) 6 150) {i : Nat} (hi : i < 12) : p_X3_cocoons m (nI i) s = some (none, mRowSet s 0 (wHide tr i (s.2 0))) := by
  have hb1 : wSm (upd (s.2 0) (43 + i) 0) 6 150 := wSm_al (upd_ne _ _ (by omega)) hb
  have e := px_note m (mRowSet s 0 (upd (s.2 0) (43 + i) 0)) (tr := tr) (by rw [mrs_1]; exact htr) (by rw [mrs_same]; exact hb1) 2 (s.2 0 (19 + i)) i
  rw [mrs_same, mrs_mrs] at e
  have e' : p_X3_notes m (nI 2) (nI i) (s.2 0 (19 + i)) (mRowSet s 0 (upd (s.2 0) (43 + i) (nI 0))) = _ := e
  simp (disch := omega) only [p_X3_cocoons, li_0, li_1, li_2, li_3, li_4, li_5, li_6, li_7, li_8, li_9, li_10, li_11, li_12, li_13, li_14, li_15, li_16, li_17, li_19, li_20, li_21, li_22, li_23, li_24, li_25, li_26, li_27, li_28, li_29, li_30, li_31, li_32, li_38, li_40, li_41, li_42, li_43, li_44, li_45, li_46, li_47, li_48, li_49, li_50, li_55, li_57, li_59, li_60, li_61, li_62, li_63, li_64, li_65, li_67, li_70, li_79, li_90, li_91, li_97, li_99, li_100, li_122, li_124, li_140, li_141, li_142, li_143, li_145, li_147, li_150, li_159, li_160, li_161, li_162, li_200, li_255, li_300, li_400, li_420, li_480, li_571, li_572, li_573, li_574, li_575, li_576, li_577, li_578, li_579, li_580, li_581, li_593, li_600, li_605, li_695, li_700, li_759, li_775, li_799, li_820, li_823, li_839, li_871, li_975, li_999, li_1000, li_1023, li_1024, li_1471, li_1487, li_1503, li_1519, li_1535, li_1681, li_2355, li_2855, li_3426, li_4096, li_9999, li_10000, li_49152, li_99999, li_1000000, mRow_0, mRow_1, mRow_2, mRow_3, mRow_6, mRow_7, mRow_8, mRow_9, mRow_10, mRow_11, mRow_28, mRow_29, mRow_30, mRow_31, mRow_32, qld_0, qst_0, qld_1, qst_1, qld_2, qst_2, qld_3, qst_3, qld_4, qst_4, qld_5, qst_5, qld_6, qst_6, qld_7, qst_7, qld_8, qst_8, qld_9, qst_9, qld_10, qst_10, qld_11, qst_11, qld_12, qst_12, qld_13, qst_13, qld_14, qst_14, eq_self, qg, qp, mrs_1, mrs_same, ms_2, pcI, pcV, obS, mrs_mrs, nI_add, pk_mul, Nat.mul_zero, Nat.add_zero, Nat.zero_add, Nat.reduceAdd, Nat.reduceMul, Nat.reduceSub, nI_leI, nI_ltI, nI_eq, Nat.reduceEqDiff, Nat.reduceLeDiff, nI_n1F, nI_n1F', upd_ne, e', wHide, pcV]
theorem px_draw (m : Nat) (s : mSt) : p_X3_draw m 1000 s = some (some (.int (wDrawn (wDraw (s.2 0) 5))), mRowSet s 0 (wDraw (s.2 0))) := by
  have h : ¬ (1000 : Int32) = 0 := by decide
  have e5 : qAld s 0 5 = some (s.2 0 5) := qld_0 s (p := 5) (by omega)
  have s5 : ∀ x, qAst s 0 5 x = some (mRowSet s 0 (upd (s.2 0) 5 x)) := fun x => qst_0 s (p := 5) (by omega) x
  have f5 : ∀ f, qAld (mRowSet s 0 f) 0 5 = some (f 5) := fun f => by
    have := qld_0 (mRowSet s 0 f) (p := 5) (by omega)
    rwa [mrs_same] at this
  simp only [p_X3_draw, mRow_0, obS, e5, s5, f5, h, if_false]
  rfl
