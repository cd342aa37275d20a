/-! what the law says, on both sides -/
set_option maxRecDepth 100000
theorem px_lesser (a b : Int32) (s : mSt) : p_X3_lesser a b s = some (some (.int (if b ≤ a then b else a)), s) := by simp [p_X3_lesser]
theorem px_greater (a b : Int32) (s : mSt) : p_X3_greater a b s = some (some (.int (if a ≤ b then b else a)), s) := by simp [p_X3_greater]
theorem i0 : (0 : Int32).toInt = 0 := by decide
theorem wMx_held (v most : Int32) : (if 0 < (if v < most then v else most) then (if v < most then v else most) else 0) = wMx most v := by
  unfold wMx
  have e : (if v < most then v else most) = if v ≤ most then v else most := by
    by_cases h1 : v < most
    · have h2 : v ≤ most := by
        rw [Int32.lt_iff_toInt_lt] at h1
        rw [Int32.le_iff_toInt_le]
        omega
      rw [if_pos h1, if_pos h2]
    · by_cases h2 : v ≤ most
      · rw [if_neg h1, if_pos h2]
        rw [Int32.lt_iff_toInt_lt] at h1
        rw [Int32.le_iff_toInt_le] at h2
        exact Int32.toInt_inj.mp (by omega)
      · rw [if_neg h1, if_neg h2]
  rw [e]
  generalize (if v ≤ most then v else most) = x
  by_cases h1 : 0 < x
  · have h2 : 0 ≤ x := by
      rw [Int32.lt_iff_toInt_lt] at h1
      rw [Int32.le_iff_toInt_le]
      omega
    rw [if_pos h1, if_pos h2]
  · by_cases h2 : 0 ≤ x
    · rw [if_neg h1, if_pos h2]
      rw [Int32.lt_iff_toInt_lt] at h1
      rw [Int32.le_iff_toInt_le] at h2
      exact Int32.toInt_inj.mp (by omega)
    · rw [if_neg h1, if_neg h2]
/-- the law's lines, once more: what each comes to, for answers F -/
theorem law_line {R : sMem} {t : Nat → Int32} (hw : wLaw t) {l : Nat} (hl : l < hLn t) (F : Nat → Int32) {o : Nat} (hA : hTrA R t 500 o (hFr t l) (hMi t l)) : evC R F 500 o (hEv t F (hFr t l) (hMi t l)) ∧ hFr t l < hMi t l ∧ evM t F (hFr t l) (hMi t l) (hEv t F (hFr t l) (hMi t l)) := by
  have hb := hw.2 l hl
  obtain ⟨h1, v, hc, hm⟩ := ev_A R t F 500 o _ _ hA hb.2.1.2
  rw [evM_ev hm h1 hb.2.1.2]
  exact ⟨hc, h1, hm⟩
theorem law_when {R : sMem} {t : Nat → Int32} (hw : wLaw t) {l : Nat} (hl : l < hLn t) (F : Nat → Int32) {o : Nat} (hB : hTrB R t 550 o (hMi t l) (hTo t l)) : evC R F 550 o (hEv t F (hMi t l) (hTo t l)) ∧ hMi t l < hTo t l ∧ evM t F (hMi t l) (hTo t l) (hEv t F (hMi t l) (hTo t l)) ∧ (hEv t F (hMi t l) (hTo t l) = 0 ∨ hEv t F (hMi t l) (hTo t l) = 1) := by
  have hb := hw.2 l hl
  obtain ⟨h1, v, hc, hm, h01⟩ := ev_B R t F 550 o _ _ hB hb.2.2.2
  rw [evM_ev hm h1 hb.2.2.2]
  exact ⟨hc, h1, hm, h01⟩
def b01 (b : Bool) : Int32 := if b = true then 1 else 0
theorem p_isSo {R : sMem} {q : Nat} {t F : Nat → Int32} (hL : hLaw R q t) (hw : wLaw t) {l : Nat} (hl : l < hLn t) (m : Nat) (s : mSt) (hs : s.2 0 = t) (hF : ∀ k, k < 10 → s.2 9 (k + 1) = F (k + 1)) : ∃ pl, p_X3_isSo m (nI l) s = some (some (.int (b01 (wSo t F l))), mRowSet s 8 pl) := by
  obtain ⟨wa, oa, na, wf, of, nf, -, -, -, -, hall⟩ := hL
  obtain ⟨-, -, -, hB⟩ := hall l hl
  have hb := hw.2 l hl
  have hln : hLn t ≤ 16 := hw.1.2
  have e1 : t (1487 + l) = nI (hMi t l) := hb.2.1.1
  have e2 : t (1503 + l) = nI (hTo t l) := hb.2.2.1
  have b1 : hMi t l ≤ 410 := hb.2.1.2
  have b2 : hTo t l ≤ 410 := hb.2.2.2
  rcases hB with ⟨-, h⟩ | ⟨o, -, hB⟩
  · refine ⟨s.2 8, ?_⟩
    rw [mrs_self]
    have e : t (1503 + l) = t (1487 + l) := by rw [e1, e2]; exact congrArg nI h.symm
    have hso : wSo t F l = true := by simp [wSo, e]
    simp (disch := omega) only [p_X3_isSo, li_0, li_1, li_2, li_3, li_4, li_5, li_6, li_7, li_8, li_9, li_10, li_11, li_12, li_13, li_14, li_15, li_16, li_17, li_19, li_20, li_21, li_22, li_23, li_24, li_25, li_26, li_27, li_28, li_29, li_30, li_31, li_32, li_38, li_40, li_41, li_42, li_43, li_44, li_45, li_46, li_47, li_48, li_49, li_50, li_55, li_57, li_59, li_60, li_61, li_62, li_63, li_64, li_65, li_67, li_70, li_79, li_90, li_91, li_97, li_99, li_100, li_122, li_124, li_140, li_141, li_142, li_143, li_145, li_147, li_150, li_159, li_160, li_161, li_162, li_200, li_255, li_300, li_400, li_420, li_480, li_571, li_572, li_573, li_574, li_575, li_576, li_577, li_578, li_579, li_580, li_581, li_593, li_600, li_605, li_695, li_700, li_759, li_775, li_799, li_820, li_823, li_839, li_871, li_975, li_999, li_1000, li_1023, li_1024, li_1471, li_1487, li_1503, li_1519, li_1535, li_1681, li_2355, li_2855, li_3426, li_4096, li_9999, li_10000, li_49152, li_99999, li_1000000, mRow_0, mRow_1, mRow_2, mRow_3, mRow_6, mRow_7, mRow_8, mRow_9, mRow_10, mRow_11, mRow_28, mRow_29, mRow_30, mRow_31, mRow_32, qld_0, qst_0, qld_1, qst_1, qld_2, qst_2, qld_3, qst_3, qld_4, qst_4, qld_5, qst_5, qld_6, qst_6, qld_7, qst_7, qld_8, qst_8, qld_9, qst_9, qld_10, qst_10, qld_11, qst_11, qld_12, qst_12, qld_13, qst_13, qld_14, qst_14, eq_self, qg, qp, mrs_1, mrs_same, ms_2, pcI, pcV, obS, mrs_mrs, nI_add, pk_mul, Nat.mul_zero, Nat.add_zero, Nat.zero_add, Nat.reduceAdd, Nat.reduceMul, Nat.reduceSub, nI_leI, nI_ltI, nI_eq, Nat.reduceEqDiff, Nat.reduceLeDiff, nI_n1F, nI_n1F', hs, e, if_true, hso, b01]
  · obtain ⟨-, hlt, hm, h01⟩ := law_when hw hl F hB
    obtain ⟨pl, hr⟩ := ev_run hm hlt b2 m s hs hF
    have hne : ¬ t (1503 + l) = t (1487 + l) := by
      rw [e1, e2, nI_eq (by omega) (by omega)]
      have : hMi t l < hTo t l := hlt
      omega
    refine ⟨pl, ?_⟩
    have e3 : p_X3_comesTo m 0 (t (1487 + l)) (t (1503 + l)) s = some (some (.int (hEv t F (hMi t l) (hTo t l))), mRowSet s 8 pl) := by
      rw [e1, e2]
      exact hr
    have e4 : p_X3_comesTo m (nI 0) (t (1487 + l)) (t (1503 + l)) s = _ := e3
    have hne' : ¬ t (1503 + l) = t (1487 + l) := hne
    simp (disch := omega) only [p_X3_isSo, li_0, li_1, li_2, li_3, li_4, li_5, li_6, li_7, li_8, li_9, li_10, li_11, li_12, li_13, li_14, li_15, li_16, li_17, li_19, li_20, li_21, li_22, li_23, li_24, li_25, li_26, li_27, li_28, li_29, li_30, li_31, li_32, li_38, li_40, li_41, li_42, li_43, li_44, li_45, li_46, li_47, li_48, li_49, li_50, li_55, li_57, li_59, li_60, li_61, li_62, li_63, li_64, li_65, li_67, li_70, li_79, li_90, li_91, li_97, li_99, li_100, li_122, li_124, li_140, li_141, li_142, li_143, li_145, li_147, li_150, li_159, li_160, li_161, li_162, li_200, li_255, li_300, li_400, li_420, li_480, li_571, li_572, li_573, li_574, li_575, li_576, li_577, li_578, li_579, li_580, li_581, li_593, li_600, li_605, li_695, li_700, li_759, li_775, li_799, li_820, li_823, li_839, li_871, li_975, li_999, li_1000, li_1023, li_1024, li_1471, li_1487, li_1503, li_1519, li_1535, li_1681, li_2355, li_2855, li_3426, li_4096, li_9999, li_10000, li_49152, li_99999, li_1000000, mRow_0, mRow_1, mRow_2, mRow_3, mRow_6, mRow_7, mRow_8, mRow_9, mRow_10, mRow_11, mRow_28, mRow_29, mRow_30, mRow_31, mRow_32, qld_0, qst_0, qld_1, qst_1, qld_2, qst_2, qld_3, qst_3, qld_4, qst_4, qld_5, qst_5, qld_6, qst_6, qld_7, qst_7, qld_8, qst_8, qld_9, qst_9, qld_10, qst_10, qld_11, qst_11, qld_12, qst_12, qld_13, qst_13, qld_14, qst_14, eq_self, qg, qp, mrs_1, mrs_same, ms_2, pcI, pcV, obS, mrs_mrs, nI_add, pk_mul, Nat.mul_zero, Nat.add_zero, Nat.zero_add, Nat.reduceAdd, Nat.reduceMul, Nat.reduceSub, nI_leI, nI_ltI, nI_eq, Nat.reduceEqDiff, Nat.reduceLeDiff, nI_n1F, nI_n1F', hs, hne', if_false, e4]
    rcases h01 with h | h
    · have hso : wSo t F l = false := by
        unfold wSo
        rw [h]
        simp [hne]
      rw [h, hso]
      rfl
    · have hso : wSo t F l = true := by
        unfold wSo
        rw [h]
        simp
      rw [h, hso]
      rfl
theorem wFa_set {t : Nat → Int32} {i : Nat} {mark place : Int32} (f : Nat → Int32) : ∀ k, k < 10 → (upd (upd (upd (upd (upd (upd (upd (upd (upd (upd f 1 (nI i)) 2 (t (581 + i))) 3 (t (593 + i))) 4 (t (7 + i))) 5 (t (19 + i))) 6 (t 573)) 7 (t 1)) 8 mark) 9 place) 10 (t 0)) (k + 1) = wFa t i mark place (k + 1) := by
  intro k hk
  have : k = 0 ∨ k = 1 ∨ k = 2 ∨ k = 3 ∨ k = 4 ∨ k = 5 ∨ k = 6 ∨ k = 7 ∨ k = 8 ∨ k = 9 := by omega
  rcases this with rfl | rfl | rfl | rfl | rfl | rfl | rfl | rfl | rfl | rfl <;> simp [upd, wFa]
theorem p_says {R : sMem} {q : Nat} {t : Nat → Int32} (hL : hLaw R q t) (hw : wLaw t) (m : Nat) (s : mSt) (hs : s.2 0 = t) (word : Int32) {i : Nat} (hi : i < 12) (mark place wo mo : Int32) : ∃ s', p_X3_says m word (nI i) mark place wo mo s = some (some (.int (wSays t word i mark place wo mo)), s') ∧ Sw s t s' := by
  have hln : hLn t ≤ 16 := hw.1.2
  have e0 : p_X3_says m word (nI i) mark place wo mo s = p_X3_says_L130 m word wo mo sFuel (nI 0) (mRowSet s 9 (upd (upd (upd (upd (upd (upd (upd (upd (upd (upd (s.2 9) 1 (nI i)) 2 (t (581 + i))) 3 (t (593 + i))) 4 (t (7 + i))) 5 (t (19 + i))) 6 (t 573)) 7 (t 1)) 8 mark) 9 place) 10 (t 0))) := by
    simp (disch := omega) only [p_X3_says, li_0, li_1, li_2, li_3, li_4, li_5, li_6, li_7, li_8, li_9, li_10, li_11, li_12, li_13, li_14, li_15, li_16, li_17, li_19, li_20, li_21, li_22, li_23, li_24, li_25, li_26, li_27, li_28, li_29, li_30, li_31, li_32, li_38, li_40, li_41, li_42, li_43, li_44, li_45, li_46, li_47, li_48, li_49, li_50, li_55, li_57, li_59, li_60, li_61, li_62, li_63, li_64, li_65, li_67, li_70, li_79, li_90, li_91, li_97, li_99, li_100, li_122, li_124, li_140, li_141, li_142, li_143, li_145, li_147, li_150, li_159, li_160, li_161, li_162, li_200, li_255, li_300, li_400, li_420, li_480, li_571, li_572, li_573, li_574, li_575, li_576, li_577, li_578, li_579, li_580, li_581, li_593, li_600, li_605, li_695, li_700, li_759, li_775, li_799, li_820, li_823, li_839, li_871, li_975, li_999, li_1000, li_1023, li_1024, li_1471, li_1487, li_1503, li_1519, li_1535, li_1681, li_2355, li_2855, li_3426, li_4096, li_9999, li_10000, li_49152, li_99999, li_1000000, mRow_0, mRow_1, mRow_2, mRow_3, mRow_6, mRow_7, mRow_8, mRow_9, mRow_10, mRow_11, mRow_28, mRow_29, mRow_30, mRow_31, mRow_32, qld_0, qst_0, qld_1, qst_1, qld_2, qst_2, qld_3, qst_3, qld_4, qst_4, qld_5, qst_5, qld_6, qst_6, qld_7, qst_7, qld_8, qst_8, qld_9, qst_9, qld_10, qst_10, qld_11, qst_11, qld_12, qst_12, qld_13, qst_13, qld_14, qst_14, eq_self, qg, qp, mrs_1, mrs_same, ms_2, pcI, pcV, obS, mrs_mrs, nI_add, pk_mul, Nat.mul_zero, Nat.add_zero, Nat.zero_add, Nat.reduceAdd, Nat.reduceMul, Nat.reduceSub, nI_leI, nI_ltI, nI_eq, Nat.reduceEqDiff, Nat.reduceLeDiff, nI_n1F, nI_n1F', hs, mrs_ne]
  rw [e0]
  generalize hs1 : mRowSet s 9 _ = s1
  have h10 : s1.2 0 = t := by rw [← hs1, mrs_ne _ _ (by omega)]; exact hs
  have hF1 : ∀ k, k < 10 → s1.2 9 (k + 1) = wFa t i mark place (k + 1) := by
    rw [← hs1, mrs_same]
    exact wFa_set _
  have hS1 : ∀ pl, Sw s t (mRowSet s1 8 pl) := fun pl => by
    have := (Sw.refl s).row (j := 9) (s1.2 9) (by omega)
    rw [hs] at this
    rw [← hs1] at this ⊢
    rw [mrs_same] at this
    exact Sw.row this _ (by omega)
  refine lp_S (fun f k (s : mSt) => p_X3_says_L130 m word wo mo f (nI k) s) (hLn t) (fun k s2 => (∃ pl, s2 = mRowSet s1 8 pl) ∧ ∀ j, j < k → (decide (t (1519 + j) = word) && wSo t (wFa t i mark place) j) = false) (fun o => ∃ s', o = some (some (.int (wSays t word i mark place wo mo)), s') ∧ Sw s t s') ?_ ?_ sFuel (by have : 16 < sFuel := (by decide); omega) s1 ⟨⟨s1.2 8, (mrs_self _ _).symm⟩, fun j hj => by omega⟩
  · rintro f k s2 hk ⟨⟨pl, rfl⟩, hno⟩
    have h20 : (mRowSet s1 8 pl).2 0 = t := by rw [mrs_ne _ _ (by omega)]; exact h10
    have hF2 : ∀ k, k < 10 → (mRowSet s1 8 pl).2 9 (k + 1) = wFa t i mark place (k + 1) := fun k hk => by rw [mrs_ne _ _ (by omega)]; exact hF1 k hk
    have eln : t 574 = nI (hLn t) := hw.1.1
    have hk' : ¬ hLn t ≤ k := by omega
    by_cases hwd : t (1519 + k) = word
    · obtain ⟨pl2, hso⟩ := p_isSo hL hw hk m (mRowSet s1 8 pl) h20 hF2
      rw [mrs_mrs] at hso
      cases hb : wSo t (wFa t i mark place) k with
      | false =>
        left
        refine ⟨mRowSet s1 8 pl2, ⟨⟨pl2, rfl⟩, fun j hj => ?_⟩, ?_⟩
        · rcases Nat.lt_succ_iff_lt_or_eq.mp hj with h | h
          · exact hno j h
          · rw [h, hb]; simp
        · rw [hb] at hso
          simp (disch := omega) only [p_X3_says_L130, li_0, li_1, li_2, li_3, li_4, li_5, li_6, li_7, li_8, li_9, li_10, li_11, li_12, li_13, li_14, li_15, li_16, li_17, li_19, li_20, li_21, li_22, li_23, li_24, li_25, li_26, li_27, li_28, li_29, li_30, li_31, li_32, li_38, li_40, li_41, li_42, li_43, li_44, li_45, li_46, li_47, li_48, li_49, li_50, li_55, li_57, li_59, li_60, li_61, li_62, li_63, li_64, li_65, li_67, li_70, li_79, li_90, li_91, li_97, li_99, li_100, li_122, li_124, li_140, li_141, li_142, li_143, li_145, li_147, li_150, li_159, li_160, li_161, li_162, li_200, li_255, li_300, li_400, li_420, li_480, li_571, li_572, li_573, li_574, li_575, li_576, li_577, li_578, li_579, li_580, li_581, li_593, li_600, li_605, li_695, li_700, li_759, li_775, li_799, li_820, li_823, li_839, li_871, li_975, li_999, li_1000, li_1023, li_1024, li_1471, li_1487, li_1503, li_1519, li_1535, li_1681, li_2355, li_2855, li_3426, li_4096, li_9999, li_10000, li_49152, li_99999, li_1000000, mRow_0, mRow_1, mRow_2, mRow_3, mRow_6, mRow_7, mRow_8, mRow_9, mRow_10, mRow_11, mRow_28, mRow_29, mRow_30, mRow_31, mRow_32, qld_0, qst_0, qld_1, qst_1, qld_2, qst_2, qld_3, qst_3, qld_4, qst_4, qld_5, qst_5, qld_6, qst_6, qld_7, qst_7, qld_8, qst_8, qld_9, qst_9, qld_10, qst_10, qld_11, qst_11, qld_12, qst_12, qld_13, qst_13, qld_14, qst_14, eq_self, qg, qp, mrs_1, mrs_same, ms_2, pcI, pcV, obS, mrs_mrs, nI_add, pk_mul, Nat.mul_zero, Nat.add_zero, Nat.zero_add, Nat.reduceAdd, Nat.reduceMul, Nat.reduceSub, nI_leI, nI_ltI, nI_eq, Nat.reduceEqDiff, Nat.reduceLeDiff, nI_n1F, nI_n1F', h20, eln, hk', if_false, hwd, if_true, hso, b01]
          rfl
      | true =>
        right
        rw [hb] at hso
        obtain ⟨wa, oa, na, wf, of, nf, -, -, -, -, hall⟩ := hL
        obtain ⟨-, -, ⟨o, -, hA⟩, -⟩ := hall k hk
        obtain ⟨-, hlt, hm⟩ := law_line hw hk (wFa t i mark place) hA
        have hb9 := hw.2 k hk
        obtain ⟨pl3, hr⟩ := ev_run hm hlt hb9.2.1.2 m (mRowSet s1 8 pl2) (by rw [mrs_ne _ _ (by omega)]; exact h10) (fun k hk => by rw [mrs_ne _ _ (by omega)]; exact hF1 k hk)
        rw [mrs_mrs] at hr
        have hr' : p_X3_comesTo m (nI 0) (t (1471 + k)) (t (1487 + k)) (mRowSet s1 8 pl2) = some (some (.int (hEv t (wFa t i mark place) (hFr t k) (hMi t k))), mRowSet s1 8 pl3) := by
          rw [hb9.1.1, hb9.2.1.1]
          exact hr
        have hres : wSays t word i mark place wo mo = wMx mo (hEv t (wFa t i mark place) (hFr t k) (hMi t k)) := by
          unfold wSays
          rw [fstN_of (k := k) hk (by rw [hb]; simp [hwd]) hno]
        refine ⟨mRowSet s1 8 pl3, ?_, hS1 _⟩
        rw [hres]
        simp (disch := omega) only [p_X3_says_L130, li_0, li_1, li_2, li_3, li_4, li_5, li_6, li_7, li_8, li_9, li_10, li_11, li_12, li_13, li_14, li_15, li_16, li_17, li_19, li_20, li_21, li_22, li_23, li_24, li_25, li_26, li_27, li_28, li_29, li_30, li_31, li_32, li_38, li_40, li_41, li_42, li_43, li_44, li_45, li_46, li_47, li_48, li_49, li_50, li_55, li_57, li_59, li_60, li_61, li_62, li_63, li_64, li_65, li_67, li_70, li_79, li_90, li_91, li_97, li_99, li_100, li_122, li_124, li_140, li_141, li_142, li_143, li_145, li_147, li_150, li_159, li_160, li_161, li_162, li_200, li_255, li_300, li_400, li_420, li_480, li_571, li_572, li_573, li_574, li_575, li_576, li_577, li_578, li_579, li_580, li_581, li_593, li_600, li_605, li_695, li_700, li_759, li_775, li_799, li_820, li_823, li_839, li_871, li_975, li_999, li_1000, li_1023, li_1024, li_1471, li_1487, li_1503, li_1519, li_1535, li_1681, li_2355, li_2855, li_3426, li_4096, li_9999, li_10000, li_49152, li_99999, li_1000000, mRow_0, mRow_1, mRow_2, mRow_3, mRow_6, mRow_7, mRow_8, mRow_9, mRow_10, mRow_11, mRow_28, mRow_29, mRow_30, mRow_31, mRow_32, qld_0, qst_0, qld_1, qst_1, qld_2, qst_2, qld_3, qst_3, qld_4, qst_4, qld_5, qst_5, qld_6, qst_6, qld_7, qst_7, qld_8, qst_8, qld_9, qst_9, qld_10, qst_10, qld_11, qst_11, qld_12, qst_12, qld_13, qst_13, qld_14, qst_14, eq_self, qg, qp, mrs_1, mrs_same, ms_2, pcI, pcV, obS, mrs_mrs, nI_add, pk_mul, Nat.mul_zero, Nat.add_zero, Nat.zero_add, Nat.reduceAdd, Nat.reduceMul, Nat.reduceSub, nI_leI, nI_ltI, nI_eq, Nat.reduceEqDiff, Nat.reduceLeDiff, nI_n1F, nI_n1F', h20, eln, hk', if_false, hwd, if_true, hso, b01]
        simp (disch := omega) only [eq_self, qg, qp, mrs_1, mrs_same, ms_2, pcI, pcV, obS, mrs_mrs, mrs_ne, h10, hr', px_lesser, px_greater]
        rfl
    · left
      refine ⟨mRowSet s1 8 pl, ⟨⟨pl, rfl⟩, fun j hj => ?_⟩, ?_⟩
      · rcases Nat.lt_succ_iff_lt_or_eq.mp hj with h | h
        · exact hno j h
        · rw [h]; simp [hwd]
      · simp (disch := omega) only [p_X3_says_L130, li_0, li_1, li_2, li_3, li_4, li_5, li_6, li_7, li_8, li_9, li_10, li_11, li_12, li_13, li_14, li_15, li_16, li_17, li_19, li_20, li_21, li_22, li_23, li_24, li_25, li_26, li_27, li_28, li_29, li_30, li_31, li_32, li_38, li_40, li_41, li_42, li_43, li_44, li_45, li_46, li_47, li_48, li_49, li_50, li_55, li_57, li_59, li_60, li_61, li_62, li_63, li_64, li_65, li_67, li_70, li_79, li_90, li_91, li_97, li_99, li_100, li_122, li_124, li_140, li_141, li_142, li_143, li_145, li_147, li_150, li_159, li_160, li_161, li_162, li_200, li_255, li_300, li_400, li_420, li_480, li_571, li_572, li_573, li_574, li_575, li_576, li_577, li_578, li_579, li_580, li_581, li_593, li_600, li_605, li_695, li_700, li_759, li_775, li_799, li_820, li_823, li_839, li_871, li_975, li_999, li_1000, li_1023, li_1024, li_1471, li_1487, li_1503, li_1519, li_1535, li_1681, li_2355, li_2855, li_3426, li_4096, li_9999, li_10000, li_49152, li_99999, li_1000000, mRow_0, mRow_1, mRow_2, mRow_3, mRow_6, mRow_7, mRow_8, mRow_9, mRow_10, mRow_11, mRow_28, mRow_29, mRow_30, mRow_31, mRow_32, qld_0, qst_0, qld_1, qst_1, qld_2, qst_2, qld_3, qst_3, qld_4, qst_4, qld_5, qst_5, qld_6, qst_6, qld_7, qst_7, qld_8, qst_8, qld_9, qst_9, qld_10, qst_10, qld_11, qst_11, qld_12, qst_12, qld_13, qst_13, qld_14, qst_14, eq_self, qg, qp, mrs_1, mrs_same, ms_2, pcI, pcV, obS, mrs_mrs, nI_add, pk_mul, Nat.mul_zero, Nat.add_zero, Nat.zero_add, Nat.reduceAdd, Nat.reduceMul, Nat.reduceSub, nI_leI, nI_ltI, nI_eq, Nat.reduceEqDiff, Nat.reduceLeDiff, nI_n1F, nI_n1F', h20, eln, hk', if_false, hwd]
  · rintro f s2 ⟨⟨pl, rfl⟩, hno⟩
    have h20 : (mRowSet s1 8 pl).2 0 = t := by rw [mrs_ne _ _ (by omega)]; exact h10
    have eln : t 574 = nI (hLn t) := hw.1.1
    have hk' : hLn t ≤ hLn t := Nat.le_refl _
    refine ⟨_, ?_, hS1 pl⟩
    have hres : wSays t word i mark place wo mo = wMx mo wo := by
      unfold wSays
      rw [fstN_no hno]
    rw [hres]
    simp (disch := omega) only [p_X3_says_L130, li_0, li_1, li_2, li_3, li_4, li_5, li_6, li_7, li_8, li_9, li_10, li_11, li_12, li_13, li_14, li_15, li_16, li_17, li_19, li_20, li_21, li_22, li_23, li_24, li_25, li_26, li_27, li_28, li_29, li_30, li_31, li_32, li_38, li_40, li_41, li_42, li_43, li_44, li_45, li_46, li_47, li_48, li_49, li_50, li_55, li_57, li_59, li_60, li_61, li_62, li_63, li_64, li_65, li_67, li_70, li_79, li_90, li_91, li_97, li_99, li_100, li_122, li_124, li_140, li_141, li_142, li_143, li_145, li_147, li_150, li_159, li_160, li_161, li_162, li_200, li_255, li_300, li_400, li_420, li_480, li_571, li_572, li_573, li_574, li_575, li_576, li_577, li_578, li_579, li_580, li_581, li_593, li_600, li_605, li_695, li_700, li_759, li_775, li_799, li_820, li_823, li_839, li_871, li_975, li_999, li_1000, li_1023, li_1024, li_1471, li_1487, li_1503, li_1519, li_1535, li_1681, li_2355, li_2855, li_3426, li_4096, li_9999, li_10000, li_49152, li_99999, li_1000000, mRow_0, mRow_1, mRow_2, mRow_3, mRow_6, mRow_7, mRow_8, mRow_9, mRow_10, mRow_11, mRow_28, mRow_29, mRow_30, mRow_31, mRow_32, qld_0, qst_0, qld_1, qst_1, qld_2, qst_2, qld_3, qst_3, qld_4, qst_4, qld_5, qst_5, qld_6, qst_6, qld_7, qst_7, qld_8, qst_8, qld_9, qst_9, qld_10, qst_10, qld_11, qst_11, qld_12, qst_12, qld_13, qst_13, qld_14, qst_14, eq_self, qg, qp, mrs_1, mrs_same, ms_2, pcI, pcV, obS, mrs_mrs, nI_add, pk_mul, Nat.mul_zero, Nat.add_zero, Nat.zero_add, Nat.reduceAdd, Nat.reduceMul, Nat.reduceSub, nI_leI, nI_ltI, nI_eq, Nat.reduceEqDiff, Nat.reduceLeDiff, nI_n1F, nI_n1F', h20, eln, hk', if_true, px_lesser, px_greater]
    rfl
