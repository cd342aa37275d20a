/-! terms and steps: both come to the same -/
set_option maxRecDepth 100000
theorem mo_num {m n i e top : Nat} {s : mSt} {t : Nat → Int32} (hs : s.2 0 = t) (hi : i < e) (he : e ≤ 410) (ht : top < 420) (h0 : t (1535 + 2 * i) = nI 0) : p_X3_comesTo_L6 m 0 (nI e) (n + 1) (nI top) (nI i) s = p_X3_comesTo_L6 m 0 (nI e) n (nI (top + 1)) (nI (i + 1)) (mRowSet s 8 (upd (s.2 8) top (t (1535 + 2 * i + 1)))) := by
  have h1 : ¬ e ≤ i := by omega
  have h2 : ¬ (23 : Nat) ≤ 0 := by omega
  simp (disch := omega) only [p_X3_comesTo_L6, p_X3_comesTo_J86, li_0, li_1, li_2, li_3, li_4, li_5, li_6, li_7, li_8, li_9, li_10, li_11, li_12, li_13, li_14, li_15, li_16, li_17, li_19, li_20, li_21, li_22, li_23, li_24, li_25, li_26, li_27, li_28, li_29, li_30, li_31, li_32, li_38, li_40, li_41, li_42, li_43, li_44, li_45, li_46, li_47, li_48, li_49, li_50, li_55, li_57, li_59, li_60, li_61, li_62, li_63, li_64, li_65, li_67, li_70, li_79, li_90, li_91, li_97, li_99, li_100, li_122, li_124, li_140, li_141, li_142, li_143, li_145, li_147, li_150, li_159, li_160, li_161, li_162, li_200, li_255, li_300, li_400, li_420, li_480, li_571, li_572, li_573, li_574, li_575, li_576, li_577, li_578, li_579, li_580, li_581, li_593, li_600, li_605, li_695, li_700, li_759, li_775, li_799, li_820, li_823, li_839, li_871, li_975, li_999, li_1000, li_1023, li_1024, li_1471, li_1487, li_1503, li_1519, li_1535, li_1681, li_2355, li_2855, li_3426, li_4096, li_9999, li_10000, li_49152, li_99999, li_1000000, mRow_0, mRow_1, mRow_2, mRow_3, mRow_6, mRow_7, mRow_8, mRow_9, mRow_10, mRow_11, mRow_28, mRow_29, mRow_30, mRow_31, mRow_32, qld_0, qst_0, qld_1, qst_1, qld_2, qst_2, qld_3, qst_3, qld_4, qst_4, qld_5, qst_5, qld_6, qst_6, qld_7, qst_7, qld_8, qst_8, qld_9, qst_9, qld_10, qst_10, qld_11, qst_11, qld_12, qst_12, qld_13, qst_13, qld_14, qst_14, eq_self, qg, qp, mrs_1, mrs_same, ms_2, pcI, pcV, obS, mrs_mrs, nI_add, pk_mul, Nat.mul_zero, Nat.add_zero, Nat.zero_add, Nat.reduceAdd, Nat.reduceMul, Nat.reduceSub, nI_leI, nI_ltI, nI_eq, Nat.reduceEqDiff, Nat.reduceLeDiff, nI_n1F, nI_n1F', hs, h0, h1, h2, if_false, if_true]
theorem mo_word {m n i e top k : Nat} {s : mSt} {t : Nat → Int32} (hs : s.2 0 = t) (hi : i < e) (he : e ≤ 410) (ht : top < 420) (hk : k < 10) (h0 : t (1535 + 2 * i) = nI (k + 1)) : p_X3_comesTo_L6 m 0 (nI e) (n + 1) (nI top) (nI i) s = p_X3_comesTo_L6 m 0 (nI e) n (nI (top + 1)) (nI (i + 1)) (mRowSet s 8 (upd (s.2 8) top (s.2 9 (k + 1)))) := by
  have h1 : ¬ e ≤ i := by omega
  have h2 : ¬ (23 : Nat) ≤ k + 1 := by omega
  have h3 : ¬ k + 1 = 0 := by omega
  simp (disch := omega) only [p_X3_comesTo_L6, p_X3_comesTo_J86, li_0, li_1, li_2, li_3, li_4, li_5, li_6, li_7, li_8, li_9, li_10, li_11, li_12, li_13, li_14, li_15, li_16, li_17, li_19, li_20, li_21, li_22, li_23, li_24, li_25, li_26, li_27, li_28, li_29, li_30, li_31, li_32, li_38, li_40, li_41, li_42, li_43, li_44, li_45, li_46, li_47, li_48, li_49, li_50, li_55, li_57, li_59, li_60, li_61, li_62, li_63, li_64, li_65, li_67, li_70, li_79, li_90, li_91, li_97, li_99, li_100, li_122, li_124, li_140, li_141, li_142, li_143, li_145, li_147, li_150, li_159, li_160, li_161, li_162, li_200, li_255, li_300, li_400, li_420, li_480, li_571, li_572, li_573, li_574, li_575, li_576, li_577, li_578, li_579, li_580, li_581, li_593, li_600, li_605, li_695, li_700, li_759, li_775, li_799, li_820, li_823, li_839, li_871, li_975, li_999, li_1000, li_1023, li_1024, li_1471, li_1487, li_1503, li_1519, li_1535, li_1681, li_2355, li_2855, li_3426, li_4096, li_9999, li_10000, li_49152, li_99999, li_1000000, mRow_0, mRow_1, mRow_2, mRow_3, mRow_6, mRow_7, mRow_8, mRow_9, mRow_10, mRow_11, mRow_28, mRow_29, mRow_30, mRow_31, mRow_32, qld_0, qst_0, qld_1, qst_1, qld_2, qst_2, qld_3, qst_3, qld_4, qst_4, qld_5, qst_5, qld_6, qst_6, qld_7, qst_7, qld_8, qst_8, qld_9, qst_9, qld_10, qst_10, qld_11, qst_11, qld_12, qst_12, qld_13, qst_13, qld_14, qst_14, eq_self, qg, qp, mrs_1, mrs_same, ms_2, pcI, pcV, obS, mrs_mrs, nI_add, pk_mul, Nat.mul_zero, Nat.add_zero, Nat.zero_add, Nat.reduceAdd, Nat.reduceMul, Nat.reduceSub, nI_leI, nI_ltI, nI_eq, Nat.reduceEqDiff, Nat.reduceLeDiff, nI_n1F, nI_n1F', hs, h0, h1, h2, h3, if_false, if_true]
theorem mo_part {m n i e top : Nat} {s : mSt} {t : Nat → Int32} (hs : s.2 0 = t) (hi : i < e) (he : e ≤ 410) (ht : top < 419) (h0 : t (1535 + 2 * i) = nI 26) (hv : t (1535 + 2 * i + 1) ≠ nI 0) : p_X3_comesTo_L6 m 0 (nI e) (n + 1) (nI (top + 1)) (nI i) s = p_X3_comesTo_L6 m 0 (nI e) n (nI (top + 1)) (nI (i + 1)) (mRowSet s 8 (upd (s.2 8) top (s.2 8 top / t (1535 + 2 * i + 1)))) := by
  have h1 : ¬ e ≤ i := by omega
  have h2 : (23 : Nat) ≤ 26 := by omega
  simp (disch := omega) only [p_X3_comesTo_L6, li_0, li_1, li_2, li_3, li_4, li_5, li_6, li_7, li_8, li_9, li_10, li_11, li_12, li_13, li_14, li_15, li_16, li_17, li_19, li_20, li_21, li_22, li_23, li_24, li_25, li_26, li_27, li_28, li_29, li_30, li_31, li_32, li_38, li_40, li_41, li_42, li_43, li_44, li_45, li_46, li_47, li_48, li_49, li_50, li_55, li_57, li_59, li_60, li_61, li_62, li_63, li_64, li_65, li_67, li_70, li_79, li_90, li_91, li_97, li_99, li_100, li_122, li_124, li_140, li_141, li_142, li_143, li_145, li_147, li_150, li_159, li_160, li_161, li_162, li_200, li_255, li_300, li_400, li_420, li_480, li_571, li_572, li_573, li_574, li_575, li_576, li_577, li_578, li_579, li_580, li_581, li_593, li_600, li_605, li_695, li_700, li_759, li_775, li_799, li_820, li_823, li_839, li_871, li_975, li_999, li_1000, li_1023, li_1024, li_1471, li_1487, li_1503, li_1519, li_1535, li_1681, li_2355, li_2855, li_3426, li_4096, li_9999, li_10000, li_49152, li_99999, li_1000000, mRow_0, mRow_1, mRow_2, mRow_3, mRow_6, mRow_7, mRow_8, mRow_9, mRow_10, mRow_11, mRow_28, mRow_29, mRow_30, mRow_31, mRow_32, qld_0, qst_0, qld_1, qst_1, qld_2, qst_2, qld_3, qst_3, qld_4, qst_4, qld_5, qst_5, qld_6, qst_6, qld_7, qst_7, qld_8, qst_8, qld_9, qst_9, qld_10, qst_10, qld_11, qst_11, qld_12, qst_12, qld_13, qst_13, qld_14, qst_14, eq_self, qg, qp, mrs_1, mrs_same, ms_2, pcI, pcV, obS, mrs_mrs, nI_add, pk_mul, Nat.mul_zero, Nat.add_zero, Nat.zero_add, Nat.reduceAdd, Nat.reduceMul, Nat.reduceSub, nI_leI, nI_ltI, nI_eq, Nat.reduceEqDiff, Nat.reduceLeDiff, nI_n1F, nI_n1F', hs, h0, h1, h2, hv, if_false, if_true, pk_sub, Nat.add_sub_cancel]
theorem mo_not {m n i e top : Nat} {s : mSt} {t : Nat → Int32} (hs : s.2 0 = t) (hi : i < e) (he : e ≤ 410) (ht : top < 419) (h0 : t (1535 + 2 * i) = nI 30) : p_X3_comesTo_L6 m 0 (nI e) (n + 1) (nI (top + 1)) (nI i) s = p_X3_comesTo_L6 m 0 (nI e) n (nI (top + 1)) (nI (i + 1)) (mRowSet s 8 (upd (s.2 8) top (nI 1 - s.2 8 top))) := by
  have h1 : ¬ e ≤ i := by omega
  have h2 : (23 : Nat) ≤ 30 := by omega
  have h3 : ¬ (30 : Nat) = 26 := by omega
  simp (disch := omega) only [p_X3_comesTo_L6, li_0, li_1, li_2, li_3, li_4, li_5, li_6, li_7, li_8, li_9, li_10, li_11, li_12, li_13, li_14, li_15, li_16, li_17, li_19, li_20, li_21, li_22, li_23, li_24, li_25, li_26, li_27, li_28, li_29, li_30, li_31, li_32, li_38, li_40, li_41, li_42, li_43, li_44, li_45, li_46, li_47, li_48, li_49, li_50, li_55, li_57, li_59, li_60, li_61, li_62, li_63, li_64, li_65, li_67, li_70, li_79, li_90, li_91, li_97, li_99, li_100, li_122, li_124, li_140, li_141, li_142, li_143, li_145, li_147, li_150, li_159, li_160, li_161, li_162, li_200, li_255, li_300, li_400, li_420, li_480, li_571, li_572, li_573, li_574, li_575, li_576, li_577, li_578, li_579, li_580, li_581, li_593, li_600, li_605, li_695, li_700, li_759, li_775, li_799, li_820, li_823, li_839, li_871, li_975, li_999, li_1000, li_1023, li_1024, li_1471, li_1487, li_1503, li_1519, li_1535, li_1681, li_2355, li_2855, li_3426, li_4096, li_9999, li_10000, li_49152, li_99999, li_1000000, mRow_0, mRow_1, mRow_2, mRow_3, mRow_6, mRow_7, mRow_8, mRow_9, mRow_10, mRow_11, mRow_28, mRow_29, mRow_30, mRow_31, mRow_32, qld_0, qst_0, qld_1, qst_1, qld_2, qst_2, qld_3, qst_3, qld_4, qst_4, qld_5, qst_5, qld_6, qst_6, qld_7, qst_7, qld_8, qst_8, qld_9, qst_9, qld_10, qst_10, qld_11, qst_11, qld_12, qst_12, qld_13, qst_13, qld_14, qst_14, eq_self, qg, qp, mrs_1, mrs_same, ms_2, pcI, pcV, obS, mrs_mrs, nI_add, pk_mul, Nat.mul_zero, Nat.add_zero, Nat.zero_add, Nat.reduceAdd, Nat.reduceMul, Nat.reduceSub, nI_leI, nI_ltI, nI_eq, Nat.reduceEqDiff, Nat.reduceLeDiff, nI_n1F, nI_n1F', hs, h0, h1, h2, h3, if_false, if_true, pk_sub, Nat.add_sub_cancel]
/-- what two come to -/
def hJo (k : Nat) (a b : Int32) : Int32 := match k with
  | 23 => a + b
  | 24 => a - b
  | 25 => a * b
  | 27 => if b ≤ a then 0 else 1
  | 28 => if a = b then 1 else 0
  | 29 => if a ≤ b then 0 else 1
  | 31 => a &&& b
  | _ => a ||| b
theorem mo_joined {k : Nat} (hk : k = 23 ∨ k = 24 ∨ k = 25 ∨ k = 27 ∨ k = 28 ∨ k = 29 ∨ k = 31 ∨ k = 32) (a b : Int32) (s : mSt) : p_X3_joined (nI k) a b s = some (some (.int (hJo k a b)), s) := by
  rcases hk with rfl | rfl | rfl | rfl | rfl | rfl | rfl | rfl <;> rfl
theorem mo_two {m n i e top k : Nat} {s : mSt} {t : Nat → Int32} (hs : s.2 0 = t) (hi : i < e) (he : e ≤ 410) (ht : top < 418) (hk : k = 23 ∨ k = 24 ∨ k = 25 ∨ k = 27 ∨ k = 28 ∨ k = 29 ∨ k = 31 ∨ k = 32) (h0 : t (1535 + 2 * i) = nI k) : p_X3_comesTo_L6 m 0 (nI e) (n + 1) (nI (top + 2)) (nI i) s = p_X3_comesTo_L6 m 0 (nI e) n (nI (top + 1)) (nI (i + 1)) (mRowSet s 8 (upd (s.2 8) top (hJo k (s.2 8 top) (s.2 8 (top + 1))))) := by
  have h1 : ¬ e ≤ i := by omega
  have h2 : (23 : Nat) ≤ k := by omega
  have h3 : ¬ k = 26 := by omega
  have h4 : ¬ k = 30 := by omega
  have e1 : nI (top + 2) + -nI 1 = nI (top + 1) := pk_m1 (top + 1)
  simp (disch := omega) only [p_X3_comesTo_L6, li_0, li_1, li_2, li_3, li_4, li_5, li_6, li_7, li_8, li_9, li_10, li_11, li_12, li_13, li_14, li_15, li_16, li_17, li_19, li_20, li_21, li_22, li_23, li_24, li_25, li_26, li_27, li_28, li_29, li_30, li_31, li_32, li_38, li_40, li_41, li_42, li_43, li_44, li_45, li_46, li_47, li_48, li_49, li_50, li_55, li_57, li_59, li_60, li_61, li_62, li_63, li_64, li_65, li_67, li_70, li_79, li_90, li_91, li_97, li_99, li_100, li_122, li_124, li_140, li_141, li_142, li_143, li_145, li_147, li_150, li_159, li_160, li_161, li_162, li_200, li_255, li_300, li_400, li_420, li_480, li_571, li_572, li_573, li_574, li_575, li_576, li_577, li_578, li_579, li_580, li_581, li_593, li_600, li_605, li_695, li_700, li_759, li_775, li_799, li_820, li_823, li_839, li_871, li_975, li_999, li_1000, li_1023, li_1024, li_1471, li_1487, li_1503, li_1519, li_1535, li_1681, li_2355, li_2855, li_3426, li_4096, li_9999, li_10000, li_49152, li_99999, li_1000000, mRow_0, mRow_1, mRow_2, mRow_3, mRow_6, mRow_7, mRow_8, mRow_9, mRow_10, mRow_11, mRow_28, mRow_29, mRow_30, mRow_31, mRow_32, qld_0, qst_0, qld_1, qst_1, qld_2, qst_2, qld_3, qst_3, qld_4, qst_4, qld_5, qst_5, qld_6, qst_6, qld_7, qst_7, qld_8, qst_8, qld_9, qst_9, qld_10, qst_10, qld_11, qst_11, qld_12, qst_12, qld_13, qst_13, qld_14, qst_14, eq_self, qg, qp, mrs_1, mrs_same, ms_2, pcI, pcV, obS, mrs_mrs, nI_add, pk_mul, Nat.mul_zero, Nat.add_zero, Nat.zero_add, Nat.reduceAdd, Nat.reduceMul, Nat.reduceSub, nI_leI, nI_ltI, nI_eq, Nat.reduceEqDiff, Nat.reduceLeDiff, nI_n1F, nI_n1F', hs, h0, h1, h2, h3, h4, if_false, if_true, pk_sub, e1, Nat.add_sub_cancel, mo_joined hk]
theorem tm_num {M : sMem} {q ha n : Nat} {v : Int32} (h : M.2.2.2 q = some (sObj 6 [.int v])) : f_term (n + 1) q ha M = some (.inl (some (.int v)), M) := by
  simp [f_term, h, sObj, f_X7_of, sGetI, sGet, sFs]
theorem tm_word {M : sMem} {q ha n : Nat} {k x : Int32} (h : M.2.2.2 q = some (sObj 7 [.int k])) (hx : sXld M 0 ha k = some x) : f_term (n + 1) q ha M = some (.inl (some (.int x)), M) := by
  simp [f_term, h, sObj, f_X8_of, sGetI, sGet, sFs, hx]
theorem tm_not {M : sMem} {q q1 ha n : Nat} {x : Int32} (h : M.2.2.2 q = some (sObj 9 [.ref q1])) (h1 : f_term n q1 ha M = some (.inl (some (.int x)), M)) : f_term (n + 1) q ha M = some (.inl (some (.int (1 - x))), M) := by
  simp [f_term, h, sObj, f_X10_ofB, sGetN, sGet, sFs, h1, hcI]
theorem tm_two {M : sMem} {q q1 q2 ha n sg k : Nat} {x y : Int32} (hk : (sg, k) ∈ [(43, 23), (45, 24), (42, 25), (60, 27), (61, 28), (62, 29), (38, 31), (124, 32)]) (h : M.2.2.2 q = some (sObj 8 [.int (nI sg), .ref q1, .ref q2])) (h1 : f_term n q1 ha M = some (.inl (some (.int x)), M)) (h2 : f_term n q2 ha M = some (.inl (some (.int y)), M)) : f_term (n + 1) q ha M = some (.inl (some (.int (hJo k x y))), M) := by
  have e : f_term (n + 1) q ha M = f_X9_ofB (f_term n) q ha M := by simp [f_term, h, sObj]
  rw [e]
  unfold f_X9_ofB
  simp only [List.mem_cons, Prod.mk.injEq, List.mem_nil_iff, or_false] at hk
  have g1 : sGetN M 8 1 q = some q1 := by simp [sGetN, sGet, sFs, h, sObj]
  have g2 : sGetN M 8 2 q = some q2 := by simp [sGetN, sGet, sFs, h, sObj]
  have g0 : sGetI M 8 0 q = some (nI sg) := by simp [sGetI, sGet, sFs, h, sObj]
  simp only [g1, g2, g0, obS, h1, h2, hcI]
  rcases hk with ⟨rfl, rfl⟩ | ⟨rfl, rfl⟩ | ⟨rfl, rfl⟩ | ⟨rfl, rfl⟩ | ⟨rfl, rfl⟩ | ⟨rfl, rfl⟩ | ⟨rfl, rfl⟩ | ⟨rfl, rfl⟩ <;> rfl
theorem tm_part {M : sMem} {q q1 q2 ha n : Nat} {x y : Int32} (h : M.2.2.2 q = some (sObj 8 [.int 47, .ref q1, .ref q2])) (h1 : f_term n q1 ha M = some (.inl (some (.int x)), M)) (h2 : f_term n q2 ha M = some (.inl (some (.int y)), M)) (hy : y ≠ 0) : f_term (n + 1) q ha M = some (.inl (some (.int (x / y))), M) := by
  have e : f_term (n + 1) q ha M = f_X9_ofB (f_term n) q ha M := by simp [f_term, h, sObj]
  rw [e]
  unfold f_X9_ofB
  have g1 : sGetN M 8 1 q = some q1 := by simp [sGetN, sGet, sFs, h, sObj]
  have g2 : sGetN M 8 2 q = some q2 := by simp [sGetN, sGet, sFs, h, sObj]
  have g0 : sGetI M 8 0 q = some 47 := by simp [sGetI, sGet, sFs, h, sObj]
  simp only [g1, g2, g0, obS, h1, h2, hcI]
  rw [if_neg (by decide), if_neg (by decide), if_neg (by decide), if_neg (by decide), if_pos trivial, if_neg hy]
/-- what both do with the steps from a to b, for the answers F -/
def evC (R : sMem) (F : Nat → Int32) (d q : Nat) (v : Int32) : Prop := ∀ (M : sMem) (ha n : Nat), (∀ x e, R.2.2.2 x = some e → M.2.2.2 x = some e) → (∀ k, k < 10 → sXld M 0 ha (nI k) = some (F (k + 1))) → d ≤ n → f_term n q ha M = some (.inl (some (.int v)), M)
theorem evM_two {t F : Nat → Int32} {a c b k : Nat} {x y : Int32} (hac : a < c) (hcb : c < b) (hk : k = 23 ∨ k = 24 ∨ k = 25 ∨ k = 27 ∨ k = 28 ∨ k = 29 ∨ k = 31 ∨ k = 32) (h0 : t (1535 + 2 * b) = nI k) (h1 : evM t F a c x) (h2 : evM t F c b y) : evM t F a (b + 1) (hJo k x y) := by
  intro m s top e n hs hF htop hbe he
  obtain ⟨p1, e1, v1, o1⟩ := h1 m s top e (n + 1 + (b - c)) hs hF (by omega) (by omega) he
  have hs1 : (mRowSet s 8 p1).2 0 = t := by rw [mrs_ne _ _ (by omega)]; exact hs
  have hF1 : ∀ k, k < 10 → (mRowSet s 8 p1).2 9 (k + 1) = F (k + 1) := fun k hk => by rw [mrs_ne _ _ (by omega)]; exact hF k hk
  obtain ⟨p2, e2, v2, o2⟩ := h2 m (mRowSet s 8 p1) (top + 1) e (n + 1) hs1 hF1 (by omega) (by omega) he
  rw [mrs_mrs] at e2
  have hs2 : (mRowSet s 8 p2).2 0 = t := by rw [mrs_ne _ _ (by omega)]; exact hs
  have e3 := mo_two (m := m) (n := n) (i := b) (e := e) (top := top) (s := mRowSet s 8 p2) hs2 (by omega) he (by omega) hk h0
  rw [mrs_mrs, mrs_same] at e3
  rw [mrs_same] at o2
  refine ⟨upd p2 top (hJo k (p2 top) (p2 (top + 1))), ?_, ?_, fun j hj => ?_⟩
  · rw [show n + (b + 1 - a) = n + 1 + (b - c) + (c - a) by omega, e1, e2]
    exact e3
  · rw [upd_same, o2 top (by omega), v1, v2]
  · rw [upd_ne _ _ (by omega), o2 j (by omega), o1 j hj]
theorem hSg_mem {sg co : Nat} (h : hSg sg = some co) : (sg, co) ∈ [(43, 23), (45, 24), (42, 25), (60, 27), (61, 28), (62, 29), (38, 31), (124, 32)] ∧ (co = 23 ∨ co = 24 ∨ co = 25 ∨ co = 27 ∨ co = 28 ∨ co = 29 ∨ co = 31 ∨ co = 32) := by
  unfold hSg at h
  split at h <;> cases h <;> simp
theorem hSc2_mem {sg co : Nat} (h : hSc2 sg = some co) : (sg, co) ∈ [(43, 23), (45, 24), (42, 25), (60, 27), (61, 28), (62, 29), (38, 31), (124, 32)] ∧ (co = 23 ∨ co = 24 ∨ co = 25 ∨ co = 27 ∨ co = 28 ∨ co = 29 ∨ co = 31 ∨ co = 32) := by
  unfold hSc2 at h
  split at h <;> cases h <;> simp
theorem hSb_mem {sg co : Nat} (h : hSb sg = some co) : (sg, co) ∈ [(43, 23), (45, 24), (42, 25), (60, 27), (61, 28), (62, 29), (38, 31), (124, 32)] ∧ (co = 23 ∨ co = 24 ∨ co = 25 ∨ co = 27 ∨ co = 28 ∨ co = 29 ∨ co = 31 ∨ co = 32) := by
  unfold hSb at h
  split at h <;> cases h <;> simp
theorem ev_A (R : sMem) (t F : Nat → Int32) : ∀ d q a b, hTrA R t d q a b → b ≤ 410 → a < b ∧ ∃ v, evC R F d q v ∧ evM t F a b v
  | 0, q, a, b, h, _ => by cases h
  | d + 1, q, a, b, h, hb => by
    unfold hTrA at h
    rcases h with ⟨v, hq, rfl, h0, hv⟩ | ⟨k, hk, hq, rfl, h0⟩ | ⟨sg, co, q1, q2, c, e, hsg, hq, h1, h2, rfl, h0⟩ | ⟨q1, q2, v, e, hq, h1, hq2, hv0, rfl, h0, hv⟩
    · refine ⟨by omega, v, fun M ha n hR _ hn => ?_, fun m s top e n hs hF htop hbe he => ?_⟩
      · obtain ⟨n', rfl⟩ : ∃ n', n = n' + 1 := ⟨n - 1, by omega⟩
        exact tm_num (hR _ _ hq)
      · refine ⟨upd (s.2 8) top (t (1535 + 2 * a + 1)), ?_, ?_, ?_⟩
        · rw [show a + 1 - a = 1 by omega]
          exact mo_num hs (by omega) he (by omega) h0
        · rw [upd_same, hv]
        · intro j hj
          rw [upd_ne _ _ (by omega)]
    · refine ⟨by omega, F (k + 1), fun M ha n hR hx hn => ?_, fun m s top e n hs hF htop hbe he => ?_⟩
      · obtain ⟨n', rfl⟩ : ∃ n', n = n' + 1 := ⟨n - 1, by omega⟩
        exact tm_word (hR _ _ hq) (hx k hk)
      · refine ⟨upd (s.2 8) top (s.2 9 (k + 1)), ?_, ?_, ?_⟩
        · rw [show a + 1 - a = 1 by omega]
          exact mo_word hs (by omega) he (by omega) hk h0
        · rw [upd_same, hF k hk]
        · intro j hj
          rw [upd_ne _ _ (by omega)]
    · obtain ⟨l2, v2, c2, m2⟩ := ev_A R t F d q2 c e h2 (by omega)
      obtain ⟨l1, v1, c1, m1⟩ := ev_A R t F d q1 a c h1 (by omega)
      refine ⟨by omega, hJo co v1 v2, fun M ha n hR hx hn => ?_, evM_two l1 l2 (hSg_mem hsg).2 h0 m1 m2⟩
      obtain ⟨n', rfl⟩ : ∃ n', n = n' + 1 := ⟨n - 1, by omega⟩
      exact tm_two (hSg_mem hsg).1 (hR _ _ hq) (c1 M ha n' hR hx (by omega)) (c2 M ha n' hR hx (by omega))
    · obtain ⟨l1, v1, c1, m1⟩ := ev_A R t F d q1 a e h1 (by omega)
      refine ⟨by omega, v1 / v, fun M ha n hR hx hn => ?_, fun m s top z n hs hF htop hbe he => ?_⟩
      · obtain ⟨n', rfl⟩ : ∃ n', n = n' + 1 := ⟨n - 1, by omega⟩
        have hd : 0 < n' := by
          rcases Nat.eq_zero_or_pos d with g | g
          · subst g; cases h1
          · omega
        obtain ⟨n2, rfl⟩ : ∃ n2, n' = n2 + 1 := ⟨n' - 1, by omega⟩
        exact tm_part (hR _ _ hq) (c1 M ha _ hR hx (by omega)) (tm_num (hR _ _ hq2)) hv0
      · obtain ⟨p1, e1, w1, o1⟩ := m1 m s top z (n + 1) hs hF (by omega) (by omega) he
        have hs1 : (mRowSet s 8 p1).2 0 = t := by rw [mrs_ne _ _ (by omega)]; exact hs
        have e3 := mo_part (m := m) (n := n) (i := e) (e := z) (top := top) (s := mRowSet s 8 p1) hs1 (by omega) he (by omega) h0 (by rw [hv]; exact hv0)
        rw [mrs_mrs, mrs_same, hv] at e3
        refine ⟨upd p1 top (p1 top / v), ?_, ?_, fun j hj => ?_⟩
        · rw [show n + (e + 1 - a) = n + 1 + (e - a) by omega, e1]
          exact e3
        · rw [upd_same, w1]
        · rw [upd_ne _ _ (by omega), o1 j hj]
theorem hJo_01 {k : Nat} {x y : Int32} (hk : k = 27 ∨ k = 28 ∨ k = 29) : hJo k x y = 0 ∨ hJo k x y = 1 := by
  rcases hk with rfl | rfl | rfl <;> simp only [hJo] <;> split <;> simp
theorem ev_B (R : sMem) (t F : Nat → Int32) : ∀ d q a b, hTrB R t d q a b → b ≤ 410 → a < b ∧ ∃ v, evC R F d q v ∧ evM t F a b v ∧ (v = 0 ∨ v = 1)
  | 0, q, a, b, h, _ => by cases h
  | d + 1, q, a, b, h, hb => by
    unfold hTrB at h
    rcases h with ⟨sg, co, q1, q2, c, e, hsg, hq, h1, h2, rfl, h0⟩ | ⟨sg, co, q1, q2, c, e, hsg, hq, h1, h2, rfl, h0⟩ | ⟨q1, e, hq, h1, rfl, h0⟩
    · obtain ⟨l2, v2, c2, m2⟩ := ev_A R t F d q2 c e h2 (by omega)
      obtain ⟨l1, v1, c1, m1⟩ := ev_A R t F d q1 a c h1 (by omega)
      refine ⟨by omega, hJo co v1 v2, fun M ha n hR hx hn => ?_, evM_two l1 l2 (hSc2_mem hsg).2 h0 m1 m2, hJo_01 ?_⟩
      · obtain ⟨n', rfl⟩ : ∃ n', n = n' + 1 := ⟨n - 1, by omega⟩
        exact tm_two (hSc2_mem hsg).1 (hR _ _ hq) (c1 M ha n' hR hx (by omega)) (c2 M ha n' hR hx (by omega))
      · unfold hSc2 at hsg
        split at hsg <;> cases hsg <;> simp
    · obtain ⟨l2, v2, c2, m2, b2⟩ := ev_B R t F d q2 c e h2 (by omega)
      obtain ⟨l1, v1, c1, m1, b1⟩ := ev_B R t F d q1 a c h1 (by omega)
      refine ⟨by omega, hJo co v1 v2, fun M ha n hR hx hn => ?_, evM_two l1 l2 (hSb_mem hsg).2 h0 m1 m2, ?_⟩
      · obtain ⟨n', rfl⟩ : ∃ n', n = n' + 1 := ⟨n - 1, by omega⟩
        exact tm_two (hSb_mem hsg).1 (hR _ _ hq) (c1 M ha n' hR hx (by omega)) (c2 M ha n' hR hx (by omega))
      · unfold hSb at hsg
        split at hsg <;> cases hsg <;> rcases b1 with rfl | rfl <;> rcases b2 with rfl | rfl <;> decide
    · obtain ⟨l1, v1, c1, m1, b1⟩ := ev_B R t F d q1 a e h1 (by omega)
      refine ⟨by omega, 1 - v1, fun M ha n hR hx hn => ?_, fun m s top z n hs hF htop hbe he => ?_, by rcases b1 with rfl | rfl <;> decide⟩
      · obtain ⟨n', rfl⟩ : ∃ n', n = n' + 1 := ⟨n - 1, by omega⟩
        exact tm_not (hR _ _ hq) (c1 M ha n' hR hx (by omega))
      · obtain ⟨p1, e1, w1, o1⟩ := m1 m s top z (n + 1) hs hF (by omega) (by omega) he
        have hs1 : (mRowSet s 8 p1).2 0 = t := by rw [mrs_ne _ _ (by omega)]; exact hs
        have e3 := mo_not (m := m) (n := n) (i := e) (e := z) (top := top) (s := mRowSet s 8 p1) hs1 (by omega) he (by omega) h0
        rw [mrs_mrs, mrs_same] at e3
        refine ⟨upd p1 top (nI 1 - p1 top), ?_, ?_, fun j hj => ?_⟩
        · rw [show n + (e + 1 - a) = n + 1 + (e - a) by omega, e1]
          exact e3
        · rw [upd_same, w1]
          rfl
        · rw [upd_ne _ _ (by omega), o1 j hj]
/-- the steps from a to b, run whole -/
theorem ev_run {t F : Nat → Int32} {a b : Nat} {v : Int32} (h : evM t F a b v) (hab : a < b) (hb : b ≤ 410) (m : Nat) (s : mSt) (hs : s.2 0 = t) (hF : ∀ k, k < 10 → s.2 9 (k + 1) = F (k + 1)) : ∃ pl, p_X3_comesTo m 0 (nI a) (nI b) s = some (some (.int v), mRowSet s 8 pl) := by
  obtain ⟨pl, e, hv, -⟩ := h m s 0 b (sFuel - (b - a)) hs hF (by omega) (Nat.le_refl _) hb
  refine ⟨pl, ?_⟩
  unfold p_X3_comesTo
  have hf : sFuel = sFuel - (b - a) + (b - a) := by
    have : 410 < sFuel := by decide
    omega
  obtain ⟨n, hn⟩ : ∃ n, sFuel - (b - a) = n + 1 := ⟨sFuel - (b - a) - 1, by
    have : 410 < sFuel := by decide
    omega⟩
  rw [hf]
  refine e.trans ?_
  rw [hn]
  have h1 : b ≤ b := Nat.le_refl _
  simp (disch := omega) only [p_X3_comesTo_L6, li_0, li_1, li_2, li_3, li_4, li_5, li_6, li_7, li_8, li_9, li_10, li_11, li_12, li_13, li_14, li_15, li_16, li_17, li_19, li_20, li_21, li_22, li_23, li_24, li_25, li_26, li_27, li_28, li_29, li_30, li_31, li_32, li_38, li_40, li_41, li_42, li_43, li_44, li_45, li_46, li_47, li_48, li_49, li_50, li_55, li_57, li_59, li_60, li_61, li_62, li_63, li_64, li_65, li_67, li_70, li_79, li_90, li_91, li_97, li_99, li_100, li_122, li_124, li_140, li_141, li_142, li_143, li_145, li_147, li_150, li_159, li_160, li_161, li_162, li_200, li_255, li_300, li_400, li_420, li_480, li_571, li_572, li_573, li_574, li_575, li_576, li_577, li_578, li_579, li_580, li_581, li_593, li_600, li_605, li_695, li_700, li_759, li_775, li_799, li_820, li_823, li_839, li_871, li_975, li_999, li_1000, li_1023, li_1024, li_1471, li_1487, li_1503, li_1519, li_1535, li_1681, li_2355, li_2855, li_3426, li_4096, li_9999, li_10000, li_49152, li_99999, li_1000000, mRow_0, mRow_1, mRow_2, mRow_3, mRow_6, mRow_7, mRow_8, mRow_9, mRow_10, mRow_11, mRow_28, mRow_29, mRow_30, mRow_31, mRow_32, qld_0, qst_0, qld_1, qst_1, qld_2, qst_2, qld_3, qst_3, qld_4, qst_4, qld_5, qst_5, qld_6, qst_6, qld_7, qst_7, qld_8, qst_8, qld_9, qst_9, qld_10, qst_10, qld_11, qst_11, qld_12, qst_12, qld_13, qst_13, qld_14, qst_14, eq_self, qg, qp, mrs_1, mrs_same, ms_2, pcI, pcV, obS, mrs_mrs, nI_add, pk_mul, Nat.mul_zero, Nat.add_zero, Nat.zero_add, Nat.reduceAdd, Nat.reduceMul, Nat.reduceSub, nI_leI, nI_ltI, nI_eq, Nat.reduceEqDiff, Nat.reduceLeDiff, nI_n1F, nI_n1F', h1, if_true, hv]
theorem evM_ev {t F : Nat → Int32} {a b : Nat} {v : Int32} (h : evM t F a b v) (hab : a < b) (hb : b ≤ 410) : hEv t F a b = v := by
  have ex : ∃ v, evM t F a b v := ⟨v, h⟩
  have e0 : hEv t F a b = ex.choose := by
    unfold hEv
    exact dif_pos ex
  obtain ⟨p1, e1⟩ := ev_run ex.choose_spec hab hb 0 (fun _ => 0, fun j => if j = 0 then t else if j = 9 then F else fun _ => 0) (by simp) (fun k _ => by simp)
  obtain ⟨p2, e2⟩ := ev_run h hab hb 0 (fun _ => 0, fun j => if j = 0 then t else if j = 9 then F else fun _ => 0) (by simp) (fun k _ => by simp)
  rw [e1] at e2
  rw [e0]
  simp only [Option.some.injEq, Prod.mk.injEq, Value.int.injEq] at e2
  exact e2.1
