/-! what can be undone is kept: both sides -/
set_option maxRecDepth 100000
def bkC (n u : Nat) (w old : Nat → Int32) : Nat → Int32 := fun p => if 571 * u ≤ p ∧ p < 571 * u + n then w (p - 571 * u) else old p
def bkS (n : Nat) (old : Nat → Int32) : Nat → Int32 := fun p => if p < n then old (p + 571) else old p
theorem px_copy (m : Nat) (s : mSt) {u : Nat} (hu : u < 6) (e4 : s.1 4 = nI u) : p_X3_remembers_L52 m sFuel 0 s = some (none, mSet (mSet (mRowSet s 2 (bkC 571 u (s.2 0) (s.2 2))) 4 (nI (u + 1))) 27 1) := by
  have := lp_F (fun f k => p_X3_remembers_L52 m f (nI k) (mRowSet s 2 (bkC k u (s.2 0) (s.2 2)))) 571 (some (none, mSet (mSet (mRowSet s 2 (bkC 571 u (s.2 0) (s.2 2))) 4 (nI (u + 1))) 27 1)) ?_ ?_ sFuel (by decide)
  · have e0 : bkC 0 u (s.2 0) (s.2 2) = s.2 2 := by
      funext p
      unfold bkC
      rw [if_neg (by omega)]
    have h2 : p_X3_remembers_L52 m sFuel (nI 0) (mRowSet s 2 (bkC 0 u (s.2 0) (s.2 2))) = _ := this
    rw [e0, mrs_self] at h2
    exact h2
  · intro f k hk
    have hk' : ¬ 571 ≤ k := by omega
    have eu : upd (bkC k u (s.2 0) (s.2 2)) (571 * u + k) (s.2 0 k) = bkC (k + 1) u (s.2 0) (s.2 2) := by
      funext p
      unfold upd bkC
      by_cases h1 : p = 571 * u + k
      · rw [if_pos h1, if_pos (by omega)]
        exact congrArg (s.2 0) (by omega)
      · rw [if_neg h1]
        by_cases h2 : 571 * u ≤ p ∧ p < 571 * u + k
        · rw [if_pos h2, if_pos (by omega)]
        · rw [if_neg h2, if_neg (by omega)]
    simp (disch := omega) only [p_X3_remembers_L52, li_0, li_1, li_2, li_3, li_4, li_5, li_6, li_7, li_8, li_9, li_10, li_11, li_12, li_13, li_14, li_15, li_16, li_17, li_19, li_20, li_21, li_22, li_23, li_24, li_25, li_26, li_27, li_28, li_29, li_30, li_31, li_32, li_38, li_40, li_41, li_42, li_43, li_44, li_45, li_46, li_47, li_48, li_49, li_50, li_55, li_57, li_59, li_60, li_61, li_62, li_63, li_64, li_65, li_67, li_70, li_79, li_90, li_91, li_97, li_99, li_100, li_122, li_124, li_140, li_141, li_142, li_143, li_145, li_147, li_150, li_159, li_160, li_161, li_162, li_200, li_255, li_300, li_400, li_420, li_480, li_571, li_572, li_573, li_574, li_575, li_576, li_577, li_578, li_579, li_580, li_581, li_593, li_600, li_605, li_695, li_700, li_759, li_775, li_799, li_820, li_823, li_839, li_871, li_975, li_999, li_1000, li_1023, li_1024, li_1471, li_1487, li_1503, li_1519, li_1535, li_1681, li_2355, li_2855, li_3426, li_4096, li_9999, li_10000, li_49152, li_99999, li_1000000, mRow_0, mRow_1, mRow_2, mRow_3, mRow_6, mRow_7, mRow_8, mRow_9, mRow_10, mRow_11, mRow_28, mRow_29, mRow_30, mRow_31, mRow_32, qld_0, qst_0, qld_1, qst_1, qld_2, qst_2, qld_3, qst_3, qld_4, qst_4, qld_5, qst_5, qld_6, qst_6, qld_7, qst_7, qld_8, qst_8, qld_9, qst_9, qld_10, qst_10, qld_11, qst_11, qld_12, qst_12, qld_13, qst_13, qld_14, qst_14, eq_self, ↓reduceIte, qg, qp, mrs_1, mrs_same, ms_2, pcI, pcV, obS, mrs_mrs, nI_add, pk_mul, Nat.mul_zero, Nat.add_zero, Nat.zero_add, Nat.reduceAdd, Nat.reduceMul, Nat.reduceSub, nI_leI, nI_ltI, nI_eq, Nat.reduceEqDiff, Nat.reduceLeDiff, nI_n1F, nI_n1F', hk', mrs_ne, e4, eu]
  · intro f
    have hk' : (571 : Nat) ≤ 571 := Nat.le_refl _
    simp (disch := omega) only [p_X3_remembers_L52, li_0, li_1, li_2, li_3, li_4, li_5, li_6, li_7, li_8, li_9, li_10, li_11, li_12, li_13, li_14, li_15, li_16, li_17, li_19, li_20, li_21, li_22, li_23, li_24, li_25, li_26, li_27, li_28, li_29, li_30, li_31, li_32, li_38, li_40, li_41, li_42, li_43, li_44, li_45, li_46, li_47, li_48, li_49, li_50, li_55, li_57, li_59, li_60, li_61, li_62, li_63, li_64, li_65, li_67, li_70, li_79, li_90, li_91, li_97, li_99, li_100, li_122, li_124, li_140, li_141, li_142, li_143, li_145, li_147, li_150, li_159, li_160, li_161, li_162, li_200, li_255, li_300, li_400, li_420, li_480, li_571, li_572, li_573, li_574, li_575, li_576, li_577, li_578, li_579, li_580, li_581, li_593, li_600, li_605, li_695, li_700, li_759, li_775, li_799, li_820, li_823, li_839, li_871, li_975, li_999, li_1000, li_1023, li_1024, li_1471, li_1487, li_1503, li_1519, li_1535, li_1681, li_2355, li_2855, li_3426, li_4096, li_9999, li_10000, li_49152, li_99999, li_1000000, mRow_0, mRow_1, mRow_2, mRow_3, mRow_6, mRow_7, mRow_8, mRow_9, mRow_10, mRow_11, mRow_28, mRow_29, mRow_30, mRow_31, mRow_32, qld_0, qst_0, qld_1, qst_1, qld_2, qst_2, qld_3, qst_3, qld_4, qst_4, qld_5, qst_5, qld_6, qst_6, qld_7, qst_7, qld_8, qst_8, qld_9, qst_9, qld_10, qst_10, qld_11, qst_11, qld_12, qst_12, qld_13, qst_13, qld_14, qst_14, eq_self, ↓reduceIte, qg, qp, mrs_1, mrs_same, ms_2, pcI, pcV, obS, mrs_mrs, nI_add, pk_mul, Nat.mul_zero, Nat.add_zero, Nat.zero_add, Nat.reduceAdd, Nat.reduceMul, Nat.reduceSub, nI_leI, nI_ltI, nI_eq, Nat.reduceEqDiff, Nat.reduceLeDiff, nI_n1F, nI_n1F', hk', e4]
theorem px_shift (m : Nat) (s : mSt) (e4 : s.1 4 = nI 6) : p_X3_remembers_L11 m sFuel 0 s = p_X3_remembers_L52 m sFuel 0 (mSet (mRowSet s 2 (bkS 2855 (s.2 2))) 4 (nI 5)) := by
  have := lp_F (fun f k => p_X3_remembers_L11 m f (nI k) (mRowSet s 2 (bkS k (s.2 2)))) 2855 (p_X3_remembers_L52 m sFuel 0 (mSet (mRowSet s 2 (bkS 2855 (s.2 2))) 4 (nI 5))) ?_ ?_ sFuel (by decide)
  · have e0 : bkS 0 (s.2 2) = s.2 2 := by
      funext p
      unfold bkS
      rw [if_neg (by omega)]
    have h2 : p_X3_remembers_L11 m sFuel (nI 0) (mRowSet s 2 (bkS 0 (s.2 2))) = _ := this
    rw [e0, mrs_self] at h2
    exact h2
  · intro f k hk
    have hk' : ¬ 2855 ≤ k := by omega
    have er : bkS k (s.2 2) (k + 571) = s.2 2 (k + 571) := by
      unfold bkS
      rw [if_neg (by omega)]
    have eu : upd (bkS k (s.2 2)) k (s.2 2 (k + 571)) = bkS (k + 1) (s.2 2) := by
      funext p
      unfold upd bkS
      by_cases h1 : p = k
      · rw [if_pos h1, if_pos (by omega), h1]
      · rw [if_neg h1]
        by_cases h2 : p < k
        · rw [if_pos h2, if_pos (by omega)]
        · rw [if_neg h2, if_neg (by omega)]
    simp (disch := omega) only [p_X3_remembers_L11, li_0, li_1, li_2, li_3, li_4, li_5, li_6, li_7, li_8, li_9, li_10, li_11, li_12, li_13, li_14, li_15, li_16, li_17, li_19, li_20, li_21, li_22, li_23, li_24, li_25, li_26, li_27, li_28, li_29, li_30, li_31, li_32, li_38, li_40, li_41, li_42, li_43, li_44, li_45, li_46, li_47, li_48, li_49, li_50, li_55, li_57, li_59, li_60, li_61, li_62, li_63, li_64, li_65, li_67, li_70, li_79, li_90, li_91, li_97, li_99, li_100, li_122, li_124, li_140, li_141, li_142, li_143, li_145, li_147, li_150, li_159, li_160, li_161, li_162, li_200, li_255, li_300, li_400, li_420, li_480, li_571, li_572, li_573, li_574, li_575, li_576, li_577, li_578, li_579, li_580, li_581, li_593, li_600, li_605, li_695, li_700, li_759, li_775, li_799, li_820, li_823, li_839, li_871, li_975, li_999, li_1000, li_1023, li_1024, li_1471, li_1487, li_1503, li_1519, li_1535, li_1681, li_2355, li_2855, li_3426, li_4096, li_9999, li_10000, li_49152, li_99999, li_1000000, mRow_0, mRow_1, mRow_2, mRow_3, mRow_6, mRow_7, mRow_8, mRow_9, mRow_10, mRow_11, mRow_28, mRow_29, mRow_30, mRow_31, mRow_32, qld_0, qst_0, qld_1, qst_1, qld_2, qst_2, qld_3, qst_3, qld_4, qst_4, qld_5, qst_5, qld_6, qst_6, qld_7, qst_7, qld_8, qst_8, qld_9, qst_9, qld_10, qst_10, qld_11, qst_11, qld_12, qst_12, qld_13, qst_13, qld_14, qst_14, eq_self, ↓reduceIte, qg, qp, mrs_1, mrs_same, ms_2, pcI, pcV, obS, mrs_mrs, nI_add, pk_mul, Nat.mul_zero, Nat.add_zero, Nat.zero_add, Nat.reduceAdd, Nat.reduceMul, Nat.reduceSub, nI_leI, nI_ltI, nI_eq, Nat.reduceEqDiff, Nat.reduceLeDiff, nI_n1F, nI_n1F', hk', er, eu]
  · intro f
    have hk' : (2855 : Nat) ≤ 2855 := Nat.le_refl _
    have e5 : nI 6 - nI 1 = nI 5 := by decide
    have e0 : (0 : Int32) = nI 0 := rfl
    simp (disch := omega) only [p_X3_remembers_L11, li_0, li_1, li_2, li_3, li_4, li_5, li_6, li_7, li_8, li_9, li_10, li_11, li_12, li_13, li_14, li_15, li_16, li_17, li_19, li_20, li_21, li_22, li_23, li_24, li_25, li_26, li_27, li_28, li_29, li_30, li_31, li_32, li_38, li_40, li_41, li_42, li_43, li_44, li_45, li_46, li_47, li_48, li_49, li_50, li_55, li_57, li_59, li_60, li_61, li_62, li_63, li_64, li_65, li_67, li_70, li_79, li_90, li_91, li_97, li_99, li_100, li_122, li_124, li_140, li_141, li_142, li_143, li_145, li_147, li_150, li_159, li_160, li_161, li_162, li_200, li_255, li_300, li_400, li_420, li_480, li_571, li_572, li_573, li_574, li_575, li_576, li_577, li_578, li_579, li_580, li_581, li_593, li_600, li_605, li_695, li_700, li_759, li_775, li_799, li_820, li_823, li_839, li_871, li_975, li_999, li_1000, li_1023, li_1024, li_1471, li_1487, li_1503, li_1519, li_1535, li_1681, li_2355, li_2855, li_3426, li_4096, li_9999, li_10000, li_49152, li_99999, li_1000000, mRow_0, mRow_1, mRow_2, mRow_3, mRow_6, mRow_7, mRow_8, mRow_9, mRow_10, mRow_11, mRow_28, mRow_29, mRow_30, mRow_31, mRow_32, qld_0, qst_0, qld_1, qst_1, qld_2, qst_2, qld_3, qst_3, qld_4, qst_4, qld_5, qst_5, qld_6, qst_6, qld_7, qst_7, qld_8, qst_8, qld_9, qst_9, qld_10, qst_10, qld_11, qst_11, qld_12, qst_12, qld_13, qst_13, qld_14, qst_14, eq_self, ↓reduceIte, qg, qp, mrs_1, mrs_same, ms_2, pcI, pcV, obS, mrs_mrs, nI_add, pk_mul, Nat.mul_zero, Nat.add_zero, Nat.zero_add, Nat.reduceAdd, Nat.reduceMul, Nat.reduceSub, nI_leI, nI_ltI, nI_eq, Nat.reduceEqDiff, Nat.reduceLeDiff, nI_n1F, nI_n1F', hk', e4, e5]
theorem px_rem (m : Nat) (s : mSt) {u : Nat} (hu : u ≤ 6) (e4 : s.1 4 = nI u) : ∃ s', p_X3_remembers m s = some (none, s') ∧ (∀ j, j ≠ 2 → s'.2 j = s.2 j) ∧ s'.1 4 = nI (min u 5 + 1) ∧ s'.1 27 = 1 ∧ (∀ k, k ≠ 4 → k ≠ 27 → s'.1 k = s.1 k) ∧ (∀ p, p < 571 → s'.2 2 (571 * min u 5 + p) = s.2 0 p) ∧ ∀ k p, k < min u 5 → p < 571 → s'.2 2 (571 * k + p) = s.2 2 (571 * (if u = 6 then k + 1 else k) + p) := by
  by_cases h6 : u = 6
  · subst h6
    have e1 := px_shift m s e4
    have e2 := px_copy m (mSet (mRowSet s 2 (bkS 2855 (s.2 2))) 4 (nI 5)) (u := 5) (by omega) (ms_same _ _ _)
    have e6 : s.1 4 = 6 := e4
    refine ⟨mSet (mSet (mRowSet (mSet (mRowSet s 2 (bkS 2855 (s.2 2))) 4 (nI 5)) 2 (bkC 571 5 ((mSet (mRowSet s 2 (bkS 2855 (s.2 2))) 4 (nI 5)).2 0) ((mSet (mRowSet s 2 (bkS 2855 (s.2 2))) 4 (nI 5)).2 2))) 4 (nI (5 + 1))) 27 1, ?_, ?_, ?_, ?_, ?_, ?_, ?_⟩
    rotate_left
    · exact fun j hj => by rw [ms_2, ms_2, mrs_ne _ _ hj, ms_2, mrs_ne _ _ hj]
    · rw [ms_ne _ _ (by omega), ms_same]; rfl
    · rw [ms_same]
    · intro k h1 h2
      rw [ms_ne _ _ h2, ms_ne _ _ h1, mrs_1, ms_ne _ _ h1, mrs_1]
    · intro p hp
      rw [ms_2, ms_2, mrs_same, ms_2, mrs_ne _ _ (by omega)]
      unfold bkC
      rw [if_pos (by omega)]
      exact congrArg (s.2 0) (by omega)
    · intro k p hk hp
      have hk5 : k < 5 := by omega
      rw [ms_2, ms_2, mrs_same, ms_2, mrs_same]
      unfold bkC
      rw [if_neg (by omega)]
      unfold bkS
      rw [if_pos (by omega), if_pos rfl]
      exact congrArg (s.2 2) (by omega)
    · unfold p_X3_remembers
      rw [qg, obS, if_pos e6]
      exact e1.trans e2
  · have e2 := px_copy m s (u := u) (by omega) e4
    have e6 : ¬ s.1 4 = 6 := fun e => h6 (by
      rw [e4] at e
      exact (nI_eq (b := 6) (by omega) (by omega)).mp e)
    have em : min u 5 = u := by omega
    refine ⟨mSet (mSet (mRowSet s 2 (bkC 571 u (s.2 0) (s.2 2))) 4 (nI (u + 1))) 27 1, ?_, ?_, ?_, ?_, ?_, ?_, ?_⟩
    rotate_left
    · exact fun j hj => by rw [ms_2, ms_2, mrs_ne _ _ hj]
    · rw [ms_ne _ _ (by omega), ms_same, em]
    · rw [ms_same]
    · intro k h1 h2
      rw [ms_ne _ _ h2, ms_ne _ _ h1, mrs_1]
    · intro p hp
      rw [ms_2, ms_2, mrs_same, em]
      unfold bkC
      rw [if_pos (by omega)]
      exact congrArg (s.2 0) (by omega)
    · intro k p hk hp
      rw [ms_2, ms_2, mrs_same, if_neg h6]
      unfold bkC
      rw [if_neg (by omega)]
    · unfold p_X3_remembers
      rw [qg, obS, if_neg e6]
      exact e2
/-! the component's ahead -/
theorem hAh_cell (A : hA) (S : hS) (f : Nat → Option Nat) {k : Nat} (hk : k ≠ 5) : hCell A (hAh S f) k = hCell A S k := by
  rcases hId k with h0 | ⟨m, hm, rfl⟩ | ⟨i, m, hm, rfl⟩
  · have : k = 0 ∨ k = 1 ∨ k = 2 ∨ k = 3 ∨ k = 4 ∨ k = 6 ∨ k = 7 ∨ k = 8 ∨ k = 9 := by omega
    rcases this with rfl | rfl | rfl | rfl | rfl | rfl | rfl | rfl | rfl <;> rfl
  · rw [hCell_mod A _ hm, hCell_mod A _ hm]
    rfl
  · rw [hCell_tray A _ hm, hCell_tray A _ hm]
    rfl
theorem ah_at {A : hA} (hg : hG A) (R : sMem) (S : hS) : (hMem A R S).2.2.2 (hRa A 5) = some (sArq 7 6 S.2.2.1) := hRa_at hg R S (by omega)
theorem ah_refs {A : hA} (hg : hG A) (R : sMem) (S : hS) : sRfs (hMem A R S) (hRa A 5) = some (7, 6, S.2.2.1) := by
  simp [sRfs, ah_at hg, sArq]
theorem ah_ld {A : hA} (hg : hG A) (R : sMem) (S : hS) {p : Nat} (hp : p < 6) : sAldR (hMem A R S) (hRa A 5) (nI p) = some (S.2.2.1 p) := by
  unfold sAldR
  rw [ah_refs hg]
  simp only [Option.bind_some]
  rw [if_neg (nI_in hp (by decide)), nI_clamp (by omega)]
theorem ah_ldn {A : hA} (hg : hG A) (R : sMem) (S : hS) {p q : Nat} (hp : p < 6) (hq : S.2.2.1 p = some q) : sAldN (hMem A R S) (hRa A 5) (nI p) = some q := by
  unfold sAldN
  rw [ah_ld hg R S hp, hq]
  rfl
theorem ah_st {A : hA} (hg : hG A) (R : sMem) (S : hS) {p i : Nat} (hp : p < 6) (hi : i < A.2.2) : sAst (hMem A R S) (hRa A 5) (nI p) (hTa A i) = some (hMem A R (hAh S (va_up S.2.2.1 p (some (hTa A i))))) := by
  unfold sAst
  rw [ah_refs hg, hMem_t hg R S hi]
  simp only []
  rw [if_pos ⟨rfl, hg.2.1 _ (hG.k A hg (by omega)), nI_in hp (by decide)⟩, nI_clamp (by omega)]
  exact congrArg some (hMem_up hg R S _ (k := 5) (hG.k A hg (by omega)) rfl (fun k _ hk => hAh_cell A S _ hk))
theorem ah_cp {A : hA} (hg : hG A) (R : sMem) (S : hS) (hall : ∀ k, k < 6 → ∃ i, i < A.2.2 ∧ S.2.2.1 k = some (hTa A i)) : sCpQ (hMem A R S) (hRa A 5) 1 (hRa A 5) 0 5 = some (hMem A R (hAh S (va_cpy S.2.2.1 S.2.2.1 1 0 5))) := by
  unfold sCpQ
  rw [ah_at hg]
  have c1 : (1 : Int32).toNatClampNeg = 1 := by decide
  have c0 : (0 : Int32).toNatClampNeg = 0 := by decide
  have c5 : (5 : Int32).toNatClampNeg = 5 := by decide
  have n1 : ¬ (1 : Int32) < 0 := by decide
  have n0 : ¬ (0 : Int32) < 0 := by decide
  have n5 : ¬ (5 : Int32) < 0 := by decide
  have hall' : (List.range 5).all (fun i => match S.2.2.1 (1 + i) with | none => true | some y => (sFs (hMem A R S) 2 y).isSome) = true := by
    rw [List.all_eq_true]
    intro k hk
    have hk5 : k < 5 := by simpa using hk
    obtain ⟨i, hi, e⟩ := hall (1 + k) (by omega)
    rw [e]
    simp [sFs, hMem_t hg R S hi, sObj]
  simp only [sArq]
  rw [c1, c0, c5, if_pos ⟨hg.2.1 _ (hG.k A hg (by omega)), n1, n0, n5, by omega, by omega, hall'⟩]
  exact congrArg some (hMem_up hg R S _ (k := 5) (hG.k A hg (by omega)) rfl (fun k _ hk => hAh_cell A S _ hk))
/-- the trays now, kept at a place ahead that stands there -/
theorem f_J79 {A : hA} (hg : hG A) (R : sMem) (S : hS) {u i : Nat} (hu : u < 6) (e28 : S.1 28 = .int (nI u)) (hi : i < A.2.2) (hi3 : 3 ≤ i) (ha : S.2.2.1 u = some (hTa A i)) : f_X0_keepsAhead_J79 (hX A) (hMem A R S) = some (.inl none, hMem A R (hF (hT S i (S.2.2.2.1 0)) 28 (.int (nI (u + 1))))) := by
  have h0 : 0 < A.2.2 := by omega
  have b := f_become hg R S hi h0 (by omega) (t' := S.2.2.2.1 0) (fun p _ => rfl) (fun e => by omega) (fun e => by omega)
  have a1 := ah_ldn hg R S hu ha
  have e28' : (hT S i (S.2.2.2.1 0)).1 28 = .int (nI u) := e28
  simp (disch := omega) only [f_X0_keepsAhead_J79, xgN_27 hg, xgI_28 hg, e28, hvI_int, eq_self, ↓reduceIte, hcI, hcN, hcV, obS, if_true, if_false, a1, xgN_23 hg, ht_chk hg, b, e28', xp_28 hg, nI_1]
theorem f_J50_old {A : hA} (hg : hG A) (R : sMem) (S : hS) {u i : Nat} (hu : u < 6) (e28 : S.1 28 = .int (nI u)) (hi : i < A.2.2) (hi3 : 3 ≤ i) (ha : S.2.2.1 u = some (hTa A i)) : f_X0_keepsAhead_J50 (hX A) (hMem A R S) = some (.inl none, hMem A R (hF (hT S i (S.2.2.2.1 0)) 28 (.int (nI (u + 1))))) := by
  unfold f_X0_keepsAhead_J50
  rw [xgN_27 hg, obS, xgI_28 hg, e28, hvI_int, obS, ah_ld hg R S hu, ha, obS]
  exact f_J79 hg R S hu e28 hi hi3 ha
theorem f_J50_new {A : hA} {R : sMem} (hg : hG A) (hc : hCl A R) (S : hS) {u : Nat} (hu : u < 6) (e28 : S.1 28 = .int (nI u)) (ha : S.2.2.1 u = none) : ∃ R', f_X0_keepsAhead_J50 (hX A) (hMem A R S) = some (.inl none, hMem (hAx A R.2.1) R' (hF (hT (hAh (hTh S A.2.2 0) (va_up S.2.2.1 u (some (hTa (hAx A R.2.1) A.2.2)))) A.2.2 (S.2.2.2.1 0)) 28 (.int (nI (u + 1))))) ∧ hG (hAx A R.2.1) ∧ hCl (hAx A R.2.1) R' ∧ hEx 8 600 R R' := by
  obtain ⟨R1, n1, c1, x1, z1, v0, v1, v2⟩ := f_newTrays hg hc S
  have hb := hCl.base hg hc
  have hr : ∀ k, k < hK A → A.2.1 k < R.2.1 := fun k hk => (hc.1 k hk).2
  have h3 := hg.2.2.2
  -- the state with the new one
  have tz : ∀ o, t100 (o + 7) = 0 := fun o => by unfold t100; rw [if_neg (by omega)]
  have bz : ∀ o, 2 ≤ o → hBits t100 o = 0 := fun o ho => by
    have : ∀ n, hBn t100 o n = 0 := by
      intro n
      induction n with
      | zero => rfl
      | succ n ih =>
        unfold hBn
        rw [ih, if_neg]
        unfold t100
        rw [if_neg (by omega)]
        decide
    unfold hBits
    rw [this]
    rfl
  have cells : ∀ j, j < 8 → R1.2.2.2 (R.2.1 + j) = some (hCell (hAx A R.2.1) (hT (hTh S A.2.2 0) A.2.2 t100) (hK A + j)) := by
    intro j hj
    have ek : hK A + j = 25 + 8 * A.2.2 + j := rfl
    rw [ek, hCell_tray _ _ hj]
    have at_ : ∀ r, hTr (hAx A R.2.1) A.2.2 r = R.2.1 + (r + 1) := fun r => by
      have e : 26 + 8 * A.2.2 + r = hK A + (r + 1) := by unfold hK; omega
      unfold hTr
      rw [e]
      exact hAx_new A R.2.1 (r + 1)
    have hx : hX (hAx A R.2.1) = hX A := hAx_old A _ (hG.k A hg (by omega))
    cases j with
    | zero =>
      rw [Nat.add_zero, v0]
      show some (sObj 2 _) = some (sObj 2 (hTs _ _ _))
      refine congrArg (fun x => some (sObj 2 x)) ?_
      have ts : ∀ (A : hA) (S : hS) i, hTs A S i = [.ref (hTr A i 0), .ref (hTr A i 1), .ref (hTr A i 2), .ref (hTr A i 3), .ref (hTr A i 4), .ref (hTr A i 5), .ref (hTr A i 6), .int (hBits (S.2.2.2.1 i) 55), .int (hBits (S.2.2.2.1 i) 67), .int (S.2.2.2.1 i 1), .int (S.2.2.2.1 i 573), .int (S.2.2.2.1 i 0), .int (S.2.2.2.1 i 2), .int (S.2.2.2.1 i 3), .int (S.2.2.2.1 i 4), .int (S.2.2.2.1 i 5), .int (S.2.2.2.1 i 6), .int (S.2.2.2.2.1 i), .ref (hX A)] := fun A S i => rfl
      rw [ts, at_, at_, at_, at_, at_, at_, at_, hT_same, hT_5, hTh_same, bz 55 (by omega), bz 67 (by omega), hx]
      rfl
    | succ r =>
      have hrow : ∀ r, r < 7 → hRow r t100 = fun _ => 0 := fun r hr => by
        funext p
        unfold hRow
        by_cases h4 : r = 4
        · rw [if_pos h4]
          unfold hCo
          have : hN t100 = 0 := by unfold hN t100; decide
          rw [if_neg (by omega)]
        · rw [if_neg h4]
          unfold hSl
          split
          · have : hOf r ≠ 1 ∧ 2 ≤ hOf r := by
              have hr' : r = 0 ∨ r = 1 ∨ r = 2 ∨ r = 3 ∨ r = 5 ∨ r = 6 := by omega
              rcases hr' with rfl | rfl | rfl | rfl | rfl | rfl <;> decide
            unfold t100
            rw [if_neg (by omega)]
          · rfl
      show _ = some (sArr 0 (hTl r) (hRow r ((hT (hTh S A.2.2 0) A.2.2 t100).2.2.2.1 A.2.2)))
      rw [hT_same, hrow r (by omega)]
      by_cases h6 : r = 6
      · subst h6
        exact v2
      · have := v1 r (by omega)
        have e : R.2.1 + (r + 1) = R.2.1 + 1 + r := by omega
        rw [e, this]
        have hr' : r = 0 ∨ r = 1 ∨ r = 2 ∨ r = 3 ∨ r = 4 ∨ r = 5 := by omega
        rcases hr' with rfl | rfl | rfl | rfl | rfl | rfl <;> rfl
  have old : ∀ k, k < hK A → hCell (hAx A R.2.1) (hT (hTh S A.2.2 0) A.2.2 t100) k = hCell A S k := by
    intro k hk
    have ad : ∀ k, k < 49 → (hAx A R.2.1).2.1 k = A.2.1 k := fun k hk => hAx_old A _ (hG.k A hg hk)
    have T : ∀ i, i < A.2.2 → (hT (hTh S A.2.2 0) A.2.2 t100).2.2.2.1 i = S.2.2.2.1 i := fun i hi => by
      rw [hT_ne _ _ (by omega)]
      rfl
    rcases hId k with hk10 | ⟨m, hm, rfl⟩ | ⟨i, m, hm, rfl⟩
    · have : k = 0 ∨ k = 1 ∨ k = 2 ∨ k = 3 ∨ k = 4 ∨ k = 5 ∨ k = 6 ∨ k = 7 ∨ k = 8 ∨ k = 9 := by omega
      rcases this with rfl | rfl | rfl | rfl | rfl | rfl | rfl | rfl | rfl | rfl
      · show sObj 0 (hXs _ _) = sObj 0 (hXs A S)
        refine congrArg (sObj 0) ?_
        unfold hXs
        apply List.map_congr_left
        intro j _
        unfold hXf
        split <;> first | rfl | (unfold hRa; rw [ad _ (by omega)]) | (unfold hTa; rw [ad _ (by omega)]) | (rw [T 0 (by omega)])
      · rfl
      · rfl
      · show sArr 0 12 (hSl 12 581 ((hT (hTh S A.2.2 0) A.2.2 t100).2.2.2.1 0)) = sArr 0 12 (hSl 12 581 (S.2.2.2.1 0))
        rw [T 0 (by omega)]
      · show sArr 0 600 (hSl 600 871 ((hT (hTh S A.2.2 0) A.2.2 t100).2.2.2.1 0)) = sArr 0 600 (hSl 600 871 (S.2.2.2.1 0))
        rw [T 0 (by omega)]
      · rfl
      · rfl
      · show sArr 0 12 (hSl 12 581 ((hT (hTh S A.2.2 0) A.2.2 t100).2.2.2.1 2)) = sArr 0 12 (hSl 12 581 (S.2.2.2.1 2))
        rw [T 2 (by omega)]
      · show sArr 0 600 (hSl 600 871 ((hT (hTh S A.2.2 0) A.2.2 t100).2.2.2.1 2)) = sArr 0 600 (hSl 600 871 (S.2.2.2.1 2))
        rw [T 2 (by omega)]
      · show sObj 3 (mFs ((hAx A R.2.1).2.1 9) _) = sObj 3 (mFs (A.2.1 9) _)
        rw [ad 9 (by omega)]
        rfl
    · rw [hCell_mod _ _ hm, hCell_mod _ _ hm]
      rfl
    · have hi : i < A.2.2 := by
        unfold hK at hk
        omega
      rw [hCell_tray _ _ hm, hCell_tray _ _ hm]
      cases m with
      | zero =>
        show sObj 2 (hTs _ _ i) = sObj 2 (hTs A S i)
        refine congrArg (sObj 2) ?_
        have ts : ∀ (A : hA) (S : hS) i, hTs A S i = [.ref (hTr A i 0), .ref (hTr A i 1), .ref (hTr A i 2), .ref (hTr A i 3), .ref (hTr A i 4), .ref (hTr A i 5), .ref (hTr A i 6), .int (hBits (S.2.2.2.1 i) 55), .int (hBits (S.2.2.2.1 i) 67), .int (S.2.2.2.1 i 1), .int (S.2.2.2.1 i 573), .int (S.2.2.2.1 i 0), .int (S.2.2.2.1 i 2), .int (S.2.2.2.1 i 3), .int (S.2.2.2.1 i 4), .int (S.2.2.2.1 i 5), .int (S.2.2.2.1 i 6), .int (S.2.2.2.2.1 i), .ref (hX A)] := fun A S i => rfl
        have tr : ∀ r, r < 7 → hTr (hAx A R.2.1) i r = hTr A i r := fun r hr => hAx_old A _ (by unfold hK; omega)
        have hx : hX (hAx A R.2.1) = hX A := ad 0 (by omega)
        have th : (hT (hTh S A.2.2 0) A.2.2 t100).2.2.2.2.1 i = S.2.2.2.2.1 i := by
          rw [hT_5]
          show (if i = A.2.2 then _ else _) = _
          rw [if_neg (by omega)]
        rw [ts, ts, T i hi, th, hx, tr 0 (by omega), tr 1 (by omega), tr 2 (by omega), tr 3 (by omega), tr 4 (by omega), tr 5 (by omega), tr 6 (by omega)]
      | succ r =>
        show sArr 0 (hTl r) (hRow r ((hT (hTh S A.2.2 0) A.2.2 t100).2.2.2.1 i)) = sArr 0 (hTl r) (hRow r (S.2.2.2.1 i))
        rw [T i hi]
  obtain ⟨e1, g', c'⟩ := hAbs (S' := hT (hTh S A.2.2 0) A.2.2 t100) (r := R.2.1) hg c1 hr hb (by omega) cells old
  have hKt : 25 + 8 * A.2.2 = hK A := rfl
  have er : hTa (hAx A R.2.1) A.2.2 = R.2.1 := by
    unfold hTa
    rw [hKt]
    exact hAx_new A R.2.1 0
  have hx : hX (hAx A R.2.1) = hX A := hAx_old A _ (hG.k A hg (by omega))
  have h5 : hRa (hAx A R.2.1) 5 = hRa A 5 := hAx_old A _ (hG.k A hg (by omega))
  have i' : A.2.2 < (hAx A R.2.1).2.2 := Nat.lt_succ_self _
  refine ⟨hEr R1 R.2.1 8, ?_, g', c', ?_⟩
  · unfold f_X0_keepsAhead_J50
    rw [xgN_27 hg, obS, xgI_28 hg, e28, hvI_int, obS, ah_ld hg R S hu, ha, obS]
    dsimp only
    rw [obS, obS, hNewO hc]
    dsimp only [sCallV]
    rw [n1, hcV, e1]
    have st := ah_st g' (hEr R1 R.2.1 8) (hT (hTh S A.2.2 0) A.2.2 t100) hu i'
    rw [h5, er] at st
    rw [st, obS, ← hx]
    have j := f_J79 g' (hEr R1 R.2.1 8) (hAh (hT (hTh S A.2.2 0) A.2.2 t100) (va_up (hT (hTh S A.2.2 0) A.2.2 t100).2.2.1 u (some R.2.1))) (u := u) (i := A.2.2) hu e28 i' h3 (by rw [hAh_3, va_up_self, er])
    rw [j]
    have et : (hAh (hT (hTh S A.2.2 0) A.2.2 t100) (va_up (hT (hTh S A.2.2 0) A.2.2 t100).2.2.1 u (some R.2.1))).2.2.2.1 0 = S.2.2.2.1 0 := by
      rw [hAh_4, hT_ne _ _ (by omega)]
      rfl
    rw [et, er]
    have es : hT (hAh (hT (hTh S A.2.2 0) A.2.2 t100) (va_up (hT (hTh S A.2.2 0) A.2.2 t100).2.2.1 u (some R.2.1))) A.2.2 (S.2.2.2.1 0) = hT (hAh (hTh S A.2.2 0) (va_up S.2.2.1 u (some R.2.1))) A.2.2 (S.2.2.2.1 0) := by
      have : hAh (hT (hTh S A.2.2 0) A.2.2 t100) (va_up (hT (hTh S A.2.2 0) A.2.2 t100).2.2.1 u (some R.2.1)) = hT (hAh (hTh S A.2.2 0) (va_up S.2.2.1 u (some R.2.1))) A.2.2 t100 := rfl
      rw [this, hT_hT]
    rw [es]
  · refine ⟨fun a e h => ?_, by show R.2.1 ≤ R1.2.1; omega, by show R1.2.1 ≤ R.2.1 + 8; omega, x1.2.2.2.1, x1.2.2.2.2⟩
    have hl := hc.lt h
    show (if R.2.1 ≤ a ∧ a < R.2.1 + 8 then none else R1.2.2.2 a) = some e
    rw [if_neg (by omega)]
    exact x1.1 a e h
