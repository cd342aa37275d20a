/-! what the law says: the component's side -/
set_option maxRecDepth 100000
theorem fx_held (v lo hi : Int32) (M : sMem) : f_X0_held v lo hi M = some (.inl (some (.int (if lo < (if v < hi then v else hi) then (if v < hi then v else hi) else lo))), M) := by simp [f_X0_held]
/-- the component's state holds these answers for the law -/
def hAsk (S : hS) (F : Nat → Int32) : Prop := ∀ k, k < 10 → S.2.1 2 k = F (k + 1)
theorem f_tells {A : hA} {R : sMem} {S : hS} {q : Nat} {t : Nat → Int32} (hg : hG A) (hc : hCl A R) (hq : S.1 16 = .ref q) (hL : hLaw R q t) (hw : wLaw t) {w i : Nat} (hw3 : w < 3) (mark place wo mo : Int32) (hF : hAsk S (wFa t i mark place)) : f_X0_tells (hX A) (nI w) wo mo (hMem A R S) = some (.inl (some (.int (wSays t (nI w + 20) i mark place wo mo))), hMem A R S) := by
  have hln : hLn t ≤ 16 := hw.1.2
  obtain ⟨wa, oa, na, wf, of, nf, hq0, hwa, hoa, hna, hall⟩ := hL
  have g1 : sGetI (hMem A R S) 1 3 q = some (nI (hLn t)) := hR_I hc S hq0 (by simp)
  have g2 : sGetN (hMem A R S) 1 0 q = some wa := hR_N hc S hq0 (by simp)
  have g3 : sGetN (hMem A R S) 1 1 q = some oa := hR_N hc S hq0 (by simp)
  have g4 : sGetN (hMem A R S) 1 2 q = some na := hR_N hc S hq0 (by simp)
  have g0 : sGetN (hMem A R S) 0 16 (hX A) = some q := by rw [xgN_16 hg, hq, hvN_ref]
  have gh : sGetN (hMem A R S) 0 17 (hX A) = some (hRa A 2) := xgN_17 hg R S
  have hev : ∀ x e, R.2.2.2 x = some e → (hMem A R S).2.2.2 x = some e := fun x e h => hR_at hc S h
  have hask : ∀ k, k < 10 → sXld (hMem A R S) 0 (hRa A 2) (nI k) = some (wFa t i mark place (k + 1)) := fun k hk => by rw [hq_ld2 hg R S hk, hF k hk]
  have key : ∀ k, k < hLn t → decide (t (1519 + k) = nI w + 20) = decide (wf k = nI w) := fun k hk => by
    rw [(hall k hk).1]
    apply decide_eq_decide.mpr
    exact ⟨fun h => (Int32.add_left_inj 20).mp h, fun h => by rw [h]⟩
  unfold f_X0_tells
  have := lp_E (fun f k => f_X0_tells_L3 (hX A) (nI w) wo mo f (nI k) (hMem A R S)) (hLn t) (fun l => decide (t (1519 + l) = nI w + 20) && wSo t (wFa t i mark place) l) (fun l => some (.inl (some (.int (wMx mo (hEv t (wFa t i mark place) (hFr t l) (hMi t l))))), hMem A R S)) (some (.inl (some (.int (wMx mo wo))), hMem A R S)) ?_ ?_ ?_ sFuel (by have : 16 < sFuel := (by decide); omega)
  · refine Eq.trans this ?_
    unfold wSays
    cases fstN (fun l => decide (t (1519 + l) = nI w + 20) && wSo t (wFa t i mark place) l) (hLn t) <;> rfl
  · intro f k hk hno
    simp only [key k hk] at hno
    have hk' : ¬ hLn t ≤ k := by omega
    have l1 : sXld (hMem A R S) 0 wa (nI k) = some (wf k) := hR_ld hc S hwa (by omega) (by decide)
    by_cases hwd : wf k = nI w
    · have hso : wSo t (wFa t i mark place) k = false := by simpa [hwd] using hno
      obtain ⟨-, -, -, hB⟩ := hall k hk
      rcases hB with ⟨-, h⟩ | ⟨o, ho, hB⟩
      · have hb := hw.2 k hk
        have : wSo t (wFa t i mark place) k = true := by
          unfold wSo
          rw [hb.2.1.1, hb.2.2.1, show cv (t (1487 + k)) = cv (t (1503 + k)) from h]
          simp
        rw [this] at hso
        cases hso
      · obtain ⟨hcv, hlt, -, h01⟩ := law_when hw hk (wFa t i mark place) hB
        have l2 : sAldR (hMem A R S) na (nI k) = some (some o) := by rw [hR_ldq hc S hna (by omega) (by omega) (by decide), ho]
        have l3 : sAldN (hMem A R S) na (nI k) = some o := hR_ldn hc S hna (by omega) (by omega) (by decide) ho
        have l4 := hcv (hMem A R S) (hRa A 2) 600 hev hask (by omega)
        have hv0 : hEv t (wFa t i mark place) (hMi t k) (hTo t k) = 0 := by
          rcases h01 with h | h
          · exact h
          · unfold wSo at hso
            rw [h] at hso
            simp at hso
        rw [hv0] at l4
        simp (disch := omega) only [f_X0_tells_L3, li_0, li_1, li_2, li_3, li_4, li_5, li_6, li_7, li_8, li_9, li_10, li_11, li_12, li_13, li_14, li_15, li_16, li_17, li_19, li_20, li_21, li_22, li_23, li_24, li_25, li_26, li_27, li_28, li_29, li_30, li_31, li_32, li_38, li_40, li_41, li_42, li_43, li_44, li_45, li_46, li_47, li_48, li_49, li_50, li_55, li_57, li_59, li_60, li_61, li_62, li_63, li_64, li_65, li_67, li_70, li_79, li_90, li_91, li_97, li_99, li_100, li_122, li_124, li_140, li_141, li_142, li_143, li_145, li_147, li_150, li_159, li_160, li_161, li_162, li_200, li_255, li_300, li_400, li_420, li_480, li_571, li_572, li_573, li_574, li_575, li_576, li_577, li_578, li_579, li_580, li_581, li_593, li_600, li_605, li_695, li_700, li_759, li_775, li_799, li_820, li_823, li_839, li_871, li_975, li_999, li_1000, li_1023, li_1024, li_1471, li_1487, li_1503, li_1519, li_1535, li_1681, li_2355, li_2855, li_3426, li_4096, li_9999, li_10000, li_49152, li_99999, li_1000000, nI_add, pk_mul, Nat.mul_zero, Nat.add_zero, Nat.zero_add, Nat.reduceAdd, Nat.reduceMul, Nat.reduceSub, nI_leI, nI_ltI, nI_eq, Nat.reduceEqDiff, Nat.reduceLeDiff, nI_n1F, nI_n1F', eq_self, hcI, hcN, hcV, obS, if_true, if_false, g0, g1, g2, g3, g4, gh, hk', l1, hwd, l2, l3, l4, if0]
    · simp (disch := omega) only [f_X0_tells_L3, li_0, li_1, li_2, li_3, li_4, li_5, li_6, li_7, li_8, li_9, li_10, li_11, li_12, li_13, li_14, li_15, li_16, li_17, li_19, li_20, li_21, li_22, li_23, li_24, li_25, li_26, li_27, li_28, li_29, li_30, li_31, li_32, li_38, li_40, li_41, li_42, li_43, li_44, li_45, li_46, li_47, li_48, li_49, li_50, li_55, li_57, li_59, li_60, li_61, li_62, li_63, li_64, li_65, li_67, li_70, li_79, li_90, li_91, li_97, li_99, li_100, li_122, li_124, li_140, li_141, li_142, li_143, li_145, li_147, li_150, li_159, li_160, li_161, li_162, li_200, li_255, li_300, li_400, li_420, li_480, li_571, li_572, li_573, li_574, li_575, li_576, li_577, li_578, li_579, li_580, li_581, li_593, li_600, li_605, li_695, li_700, li_759, li_775, li_799, li_820, li_823, li_839, li_871, li_975, li_999, li_1000, li_1023, li_1024, li_1471, li_1487, li_1503, li_1519, li_1535, li_1681, li_2355, li_2855, li_3426, li_4096, li_9999, li_10000, li_49152, li_99999, li_1000000, nI_add, pk_mul, Nat.mul_zero, Nat.add_zero, Nat.zero_add, Nat.reduceAdd, Nat.reduceMul, Nat.reduceSub, nI_leI, nI_ltI, nI_eq, Nat.reduceEqDiff, Nat.reduceLeDiff, nI_n1F, nI_n1F', eq_self, hcI, hcN, hcV, obS, if_true, if_false, g0, g1, g2, hk', l1, hwd]
  · intro f k hk hyes
    simp only [key k hk] at hyes
    have hk' : ¬ hLn t ≤ k := by omega
    have hkn : ¬ k = hLn t := by omega
    have hwd : wf k = nI w := by
      have := (Bool.and_eq_true_iff.mp hyes).1
      simpa using this
    have hso := (Bool.and_eq_true_iff.mp hyes).2
    obtain ⟨-, -, ⟨o1, ho1, hA⟩, hB⟩ := hall k hk
    obtain ⟨hcA, -, -⟩ := law_line hw hk (wFa t i mark place) hA
    have l1 : sXld (hMem A R S) 0 wa (nI k) = some (wf k) := hR_ld hc S hwa (by omega) (by decide)
    have l5 : sAldN (hMem A R S) oa (nI k) = some o1 := hR_ldn hc S hoa (by omega) (by omega) (by decide) ho1
    have l6 := hcA (hMem A R S) (hRa A 2) 600 hev hask (by omega)
    have j68 : f_X0_tells_J68 (hX A) wo mo (nI k) (hMem A R S) = some (.inl (some (.int (wMx mo (hEv t (wFa t i mark place) (hFr t k) (hMi t k))))), hMem A R S) := by
      simp (disch := omega) only [f_X0_tells_J68, f_X0_tells_J101, nI_add, pk_mul, Nat.mul_zero, Nat.add_zero, Nat.zero_add, Nat.reduceAdd, Nat.reduceMul, Nat.reduceSub, nI_leI, nI_ltI, nI_eq, Nat.reduceEqDiff, Nat.reduceLeDiff, nI_n1F, nI_n1F', eq_self, hcI, hcN, hcV, obS, if_true, if_false, g0, g1, g3, gh, hkn, l5, l6, fx_held]
      rw [wMx_held]
    rcases hB with ⟨hn, -⟩ | ⟨o, ho, hB⟩
    · have l2 : sAldR (hMem A R S) na (nI k) = some none := by rw [hR_ldq hc S hna (by omega) (by omega) (by decide), hn]
      simp (disch := omega) only [f_X0_tells_L3, li_0, li_1, li_2, li_3, li_4, li_5, li_6, li_7, li_8, li_9, li_10, li_11, li_12, li_13, li_14, li_15, li_16, li_17, li_19, li_20, li_21, li_22, li_23, li_24, li_25, li_26, li_27, li_28, li_29, li_30, li_31, li_32, li_38, li_40, li_41, li_42, li_43, li_44, li_45, li_46, li_47, li_48, li_49, li_50, li_55, li_57, li_59, li_60, li_61, li_62, li_63, li_64, li_65, li_67, li_70, li_79, li_90, li_91, li_97, li_99, li_100, li_122, li_124, li_140, li_141, li_142, li_143, li_145, li_147, li_150, li_159, li_160, li_161, li_162, li_200, li_255, li_300, li_400, li_420, li_480, li_571, li_572, li_573, li_574, li_575, li_576, li_577, li_578, li_579, li_580, li_581, li_593, li_600, li_605, li_695, li_700, li_759, li_775, li_799, li_820, li_823, li_839, li_871, li_975, li_999, li_1000, li_1023, li_1024, li_1471, li_1487, li_1503, li_1519, li_1535, li_1681, li_2355, li_2855, li_3426, li_4096, li_9999, li_10000, li_49152, li_99999, li_1000000, nI_add, pk_mul, Nat.mul_zero, Nat.add_zero, Nat.zero_add, Nat.reduceAdd, Nat.reduceMul, Nat.reduceSub, nI_leI, nI_ltI, nI_eq, Nat.reduceEqDiff, Nat.reduceLeDiff, nI_n1F, nI_n1F', eq_self, hcI, hcN, hcV, obS, if_true, if_false, g0, g1, g2, g3, g4, gh, hk', l1, hwd, l2, j68]
    · obtain ⟨hcv, hlt, -, h01⟩ := law_when hw hk (wFa t i mark place) hB
      have l2 : sAldR (hMem A R S) na (nI k) = some (some o) := by rw [hR_ldq hc S hna (by omega) (by omega) (by decide), ho]
      have l3 : sAldN (hMem A R S) na (nI k) = some o := hR_ldn hc S hna (by omega) (by omega) (by decide) ho
      have l4 := hcv (hMem A R S) (hRa A 2) 600 hev hask (by omega)
      have hv1 : hEv t (wFa t i mark place) (hMi t k) (hTo t k) = 1 := by
        have hb := hw.2 k hk
        have hne : ¬ t (1503 + k) = t (1487 + k) := by
          rw [hb.2.1.1, hb.2.2.1, nI_eq (by have := hb.2.2.2; omega) (by have := hb.2.1.2; omega)]
          have : cv (t (1487 + k)) < cv (t (1503 + k)) := hlt
          omega
        unfold wSo at hso
        simpa [hne] using hso
      rw [hv1] at l4
      have h10 : ¬ (1 : Int32) = 0 := by decide
      simp (disch := omega) only [f_X0_tells_L3, nI_add, pk_mul, Nat.mul_zero, Nat.add_zero, Nat.zero_add, Nat.reduceAdd, Nat.reduceMul, Nat.reduceSub, nI_leI, nI_ltI, nI_eq, Nat.reduceEqDiff, Nat.reduceLeDiff, nI_n1F, nI_n1F', eq_self, hcI, hcN, hcV, obS, if_true, if_false, g0, g1, g2, g3, g4, gh, hk', l1, hwd, l2, l3, l4, j68, h10]
  · intro f
    have hk' : hLn t ≤ hLn t := Nat.le_refl _
    have hk2 : hLn t = hLn t := rfl
    simp (disch := omega) only [f_X0_tells_L3, f_X0_tells_J68, f_X0_tells_J101, nI_add, pk_mul, Nat.mul_zero, Nat.add_zero, Nat.zero_add, Nat.reduceAdd, Nat.reduceMul, Nat.reduceSub, nI_leI, nI_ltI, nI_eq, Nat.reduceEqDiff, Nat.reduceLeDiff, nI_n1F, nI_n1F', eq_self, hcI, hcN, hcV, obS, if_true, if_false, g0, g1, hk', hk2, fx_held]
    rw [wMx_held]
theorem f_asks {A : hA} {R : sMem} {S : hS} (hg : hG A) {k i : Nat} (hk : k < A.2.2) (hi : i < 12) (mark place : Int32) (htr : S.2.2.2.1 0 (581 + i) = S.2.2.2.1 k (581 + i)) : ∃ f, f_X2_asks (hTa A k) (nI i) mark place (hMem A R S) = some (.inl none, hMem A R (hRw S 2 f)) ∧ ∀ j, j < 10 → f j = wFa (S.2.2.2.1 k) i mark place (j + 1) := by
  refine ⟨upd (upd (upd (upd (upd (upd (upd (upd (upd (upd (S.2.1 2) 0 (nI i)) 1 (S.2.2.2.1 k (581 + i))) 2 (S.2.2.2.1 k (593 + i))) 3 (S.2.2.2.1 k (7 + i))) 4 (S.2.2.2.1 k (19 + i))) 5 (S.2.2.2.1 k 573)) 6 (S.2.2.2.1 k 1)) 7 mark) 8 place) 9 (S.2.2.2.1 k 0), ?_, ?_⟩
  · simp (disch := omega) only [f_X2_asks, li_0, li_1, li_2, li_3, li_4, li_5, li_6, li_7, li_8, li_9, li_10, li_11, li_12, li_13, li_14, li_15, li_16, li_17, li_19, li_20, li_21, li_22, li_23, li_24, li_25, li_26, li_27, li_28, li_29, li_30, li_31, li_32, li_38, li_40, li_41, li_42, li_43, li_44, li_45, li_46, li_47, li_48, li_49, li_50, li_55, li_57, li_59, li_60, li_61, li_62, li_63, li_64, li_65, li_67, li_70, li_79, li_90, li_91, li_97, li_99, li_100, li_122, li_124, li_140, li_141, li_142, li_143, li_145, li_147, li_150, li_159, li_160, li_161, li_162, li_200, li_255, li_300, li_400, li_420, li_480, li_571, li_572, li_573, li_574, li_575, li_576, li_577, li_578, li_579, li_580, li_581, li_593, li_600, li_605, li_695, li_700, li_759, li_775, li_799, li_820, li_823, li_839, li_871, li_975, li_999, li_1000, li_1023, li_1024, li_1471, li_1487, li_1503, li_1519, li_1535, li_1681, li_2355, li_2855, li_3426, li_4096, li_9999, li_10000, li_49152, li_99999, li_1000000, xgN_0 hg, xgN_17 hg, xgN_22 hg, xgN_23 hg, xgN_24 hg, xgN_25 hg, xgN_26 hg, xgN_27 hg, xgN_30 hg, xgN_36 hg, xgN_37 hg, xgI_21 hg, xgI_1 hg, xgI_10 hg, xgI_11 hg, xgI_12 hg, xgI_13 hg, xgI_14 hg, xgI_15 hg, xgI_28 hg, xgI_38 hg, xgN_2 hg, xgN_3 hg, xgN_4 hg, xgN_5 hg, xgN_6 hg, xgN_7 hg, xgN_8 hg, xgN_9 hg, xgN_16 hg, xgN_18 hg, xgN_19 hg, xgN_20 hg, xgN_29 hg, xgN_31 hg, xgN_32 hg, xgN_33 hg, xgN_34 hg, xgN_35 hg, xgN_39 hg, xgN_40 hg, xgN_41 hg, xgN_42 hg, xgN_43 hg, xgN_44 hg, xgN_45 hg, xgN_46 hg, xgR_46 hg, xp_1 hg, xp_2 hg, xp_3 hg, xp_4 hg, xp_5 hg, xp_6 hg, xp_7 hg, xp_8 hg, xp_9 hg, xp_10 hg, xp_11 hg, xp_12 hg, xp_13 hg, xp_14 hg, xp_15 hg, xp_16 hg, xp_18 hg, xp_19 hg, xp_20 hg, xp_28 hg, xp_29 hg, xp_31 hg, xp_32 hg, xp_33 hg, xp_34 hg, xp_35 hg, xp_38 hg, xp_39 hg, xp_40 hg, xp_41 hg, xp_42 hg, xp_43 hg, xp_44 hg, xp_45 hg, xp_46 hg, hx_chk hg, hq_ld1 hg, hq_st1 hg, hq_ld2 hg, hq_st2 hg, hq_ld3 hg, hq_st3 hg, hq_ld4 hg, hq_st4 hg, hq_ld6 hg, hq_st6 hg, tgN_0 hg, trl_0 hg, trs_0 hg, trn_0 hg, tgN_1 hg, trl_1 hg, trs_1 hg, trn_1 hg, tgN_2 hg, trl_2 hg, trs_2 hg, trn_2 hg, tgN_3 hg, trl_3 hg, trs_3 hg, trn_3 hg, tgN_4 hg, trn_4 hg, tgN_5 hg, trl_5 hg, trs_5 hg, trn_5 hg, tgN_6 hg, trl_6 hg, trs_6 hg, trn_6 hg, hr_ld4 hg, tgN_18 hg, tgI_7 hg, tgI_8 hg, tgI_9 hg, tgI_10 hg, tgI_11 hg, tgI_12 hg, tgI_13 hg, tgI_14 hg, tgI_15 hg, tgI_16 hg, tgI_17 hg, tp_9 hg, tp_10 hg, tp_11 hg, tp_12 hg, tp_13 hg, tp_14 hg, tp_15 hg, tp_16 hg, ht_put17 hg, ht_chk hg, hF_same, hF_2, hT_1, hT_2, hT_3, hT_same, hT_5, hRw_1, hRw_same, hRw_3, hTh_1, hTh_2, hTh_4, hTh_same, hAh_1, hAh_2, hAh_3, hAh_4, hvI_int, hvN_ref, hvR_ref, hvR_null, upd_same, eq_self, hcI, hcN, hcV, obS, if_true, if_false, hRw_hRw, htr]
  · intro j hj
    have : j = 0 ∨ j = 1 ∨ j = 2 ∨ j = 3 ∨ j = 4 ∨ j = 5 ∨ j = 6 ∨ j = 7 ∨ j = 8 ∨ j = 9 := by omega
    rcases this with rfl | rfl | rfl | rfl | rfl | rfl | rfl | rfl | rfl | rfl <;> simp [upd, wFa]
