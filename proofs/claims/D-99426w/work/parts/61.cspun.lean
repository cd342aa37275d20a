/-! the component's side: what is spun, notes, drawing -/
set_option maxRecDepth 100000
theorem sUp_sUp (R : sMem) (a : Nat) (e x : sCell) : sUp (sUp R a e) a x = sUp R a x := by
  unfold sUp
  congr 3
  funext q
  by_cases h : q = a <;> simp [h]
theorem sUp_self (R : sMem) {a : Nat} {e : sCell} (h : R.2.2.2 a = some e) : sUp R a e = R := by
  unfold sUp
  refine Prod.ext rfl (Prod.ext rfl (Prod.ext rfl ?_))
  funext q
  by_cases hq : q = a
  · simp [hq, h]
  · simp [hq]
/-- the array that is being spun, at i -/
def hSpn (t : Nat → Int32) (a b : Nat) (i : Nat) : Nat → Int32 := fun j => if j < min i (hMc t a) + min i (hMc t b) then wMark t a (some b) j else 0
theorem wMark_a {t : Nat → Int32} {a b i : Nat} (hi : i < hMc t a) : wMark t a (some b) (min i (hMc t a) + min i (hMc t b)) = t (605 + 9 * a + 3 + i) := by
  unfold wMark
  have e : wMany t a (some b) = hMc t a + hMc t b := rfl
  rw [if_pos (by omega)]
  simp only []
  by_cases h : i < hMc t b
  · rw [if_neg (by omega), if_pos (by omega)]
    congr 1
    omega
  · rw [if_pos (by omega), if_neg (by omega)]
    congr 1
    omega
theorem wMark_b {t : Nat → Int32} {a b i : Nat} (hi : i < hMc t b) : wMark t a (some b) (min (i + 1) (hMc t a) + min i (hMc t b)) = t (605 + 9 * b + 3 + i) := by
  unfold wMark
  have e : wMany t a (some b) = hMc t a + hMc t b := rfl
  rw [if_pos (by omega)]
  simp only []
  by_cases h : i < hMc t a
  · rw [if_neg (by omega), if_neg (by omega)]
    congr 1
    omega
  · rw [if_pos (by omega), if_pos (by omega)]
    congr 1
    omega
theorem f_spunOf {A : hA} {R : sMem} {S : hS} (hg : hG A) (hc : hCl A R) {t : Nat → Int32} (hT : ∃ q, S.1 18 = .ref q ∧ hFacts R q t) (hw : wFac t) {a : Nat} {b : Option Nat} (ha : a < hFc t) (hb : okB t b) : ∃ R' r f, f_X0_spunOf (hX A) (nI a) (bI b) (hMem A R S) = some (.inl (some (.ref r)), hMem A R' S) ∧ hEx 1 12 R R' ∧ hCl A R' ∧ R'.2.2.2 r = some (sArr 0 (wMany t a b) f) ∧ ∀ j, j < wMany t a b → f j = wMark t a b j := by
  have h10 : hFc t ≤ 10 := hw.1.2
  obtain ⟨q, hq, fo, ao, ma, mf, h1, h2⟩ := hT
  have L : ∀ f, f < hFc t → sAldN (hMem A R S) q (nI f) = some (ao f) ∧ (∀ o, sChk (hMem A R S) 5 (ao f) o = o) ∧ f_X5_marks (ao f) (hMem A R S) = some (.inl (some (.ref (ma f))), hMem A R S) ∧ sLen (hMem A R S) (ma f) = some (nI (hMc t f)) ∧ hMc t f ≤ 6 := fun f hf => by
    obtain ⟨a1, a2, a3, -⟩ := h2 f hf
    refine ⟨hR_ldn hc S h1 (by omega) hf (by omega) a1, fun o => hR_chk hc S a2 o, ?_, hR_len hc S a3, (hw.2 f hf).1.2⟩
    unfold f_X5_marks
    rw [hR_N hc S a2 (k := 0) rfl]
    rfl
  obtain ⟨l1, l2, l3, l4, l5⟩ := L a ha
  cases b with
  | none =>
    refine ⟨R, ma a, mf a, ?_, (hEx.refl R).le (by omega) (by omega), hc, (h2 a ha).2.2.1, fun j hj => ?_⟩
    · simp (disch := omega) only [f_X0_spunOf, xgN_18 hg, hq, hvN_ref, eq_self, hcI, hcN, hcV, obS, if_true, if_false, l1, l2, l3, bI_none]
    · rw [(h2 a ha).2.2.2 j hj]
      unfold wMark
      rw [if_pos hj]
  | some b =>
    obtain ⟨m1, m2, m3, m4, m5⟩ := L b (hb b rfl)
    have hbb := hb b rfl
    have hA1 := hCl.base hg hc
    have hN : wMany t a (some b) = hMc t a + hMc t b := rfl
    have key := lp_F (fun f i => f_X0_spunOf_L44 (ma a) (ma b) R.2.1 f (nI (min i (hMc t a) + min i (hMc t b))) (nI i) (hMem A (sUp (sNew R (sArr 0 (hMc t a + hMc t b) (fun _ => 0)) (hMc t a + hMc t b)) R.2.1 (sArr 0 (hMc t a + hMc t b) (hSpn t a b i))) S)) 6 (some (.inl (some (.ref R.2.1)), hMem A (sUp (sNew R (sArr 0 (hMc t a + hMc t b) (fun _ => 0)) (hMc t a + hMc t b)) R.2.1 (sArr 0 (hMc t a + hMc t b) (hSpn t a b 6))) S)) ?_ ?_ sFuel (by decide)
    · refine ⟨sUp (sNew R (sArr 0 (hMc t a + hMc t b) (fun _ => 0)) (hMc t a + hMc t b)) R.2.1 (sArr 0 (hMc t a + hMc t b) (hSpn t a b 6)), R.2.1, hSpn t a b 6, ?_, ?_, ?_, sUp_at _ _ _, fun j hj => ?_⟩
      · rw [← key]
        have e0 : hSpn t a b 0 = fun _ => 0 := by
          funext j
          unfold hSpn
          rw [if_neg (by omega)]
        rw [e0, sUp_self _ (sNew_at _ _ _)]
        have ee : (nI (min 0 (hMc t a) + min 0 (hMc t b))) = nI 0 := by simp
        rw [ee]
        simp (disch := omega) only [f_X0_spunOf, xgN_18 hg, hq, hvN_ref, eq_self, hcI, hcN, hcV, obS, if_true, if_false, l1, l2, l3, m1, m2, m3, bI_some, nI_m1F, nI_n1F, l4, m4, nI_add, hNewA hc, li_0]
      · exact ((hEx.new hc _ _).le (by omega) (by omega)).up hc (Nat.le_refl _) _
      · exact (hc.new _ _).up (sNew_at _ _ _)
      · unfold hSpn
        rw [if_pos (by omega)]
    · intro f i hi
      -- cells at this turn
      generalize hR1 : sNew R (sArr 0 (hMc t a + hMc t b) (fun _ => 0)) (hMc t a + hMc t b) = R1
      have c1 : hCl A R1 := by rw [← hR1]; exact hc.new _ _
      have x1 : R1.2.2.2 R.2.1 = some (sArr 0 (hMc t a + hMc t b) (fun _ => 0)) := by rw [← hR1]; exact sNew_at _ _ _
      have keep : ∀ g x e, R.2.2.2 x = some e → (sUp R1 R.2.1 (sArr 0 (hMc t a + hMc t b) g)).2.2.2 x = some e := fun g x e h => by
        have hl := hc.lt h
        rw [sUp_ne _ _ (by omega), ← hR1]
        exact (hEx.new hc _ _).1 x e h
      have cg : ∀ g, hCl A (sUp R1 R.2.1 (sArr 0 (hMc t a + hMc t b) g)) := fun g => c1.up x1
      have La : ∀ g, sLen (hMem A (sUp R1 R.2.1 (sArr 0 (hMc t a + hMc t b) g)) S) (ma a) = some (nI (hMc t a)) := fun g => hR_len (cg g) S (keep g _ _ (h2 a ha).2.2.1)
      have Lb : ∀ g, sLen (hMem A (sUp R1 R.2.1 (sArr 0 (hMc t a + hMc t b) g)) S) (ma b) = some (nI (hMc t b)) := fun g => hR_len (cg g) S (keep g _ _ (h2 b hbb).2.2.1)
      have Da : ∀ g, i < hMc t a → sXld (hMem A (sUp R1 R.2.1 (sArr 0 (hMc t a + hMc t b) g)) S) 0 (ma a) (nI i) = some (t (605 + 9 * a + 3 + i)) := fun g h => by
        rw [hR_ld (cg g) S (keep g _ _ (h2 a ha).2.2.1) h (by omega), (h2 a ha).2.2.2 i h]
      have Db : ∀ g, i < hMc t b → sXld (hMem A (sUp R1 R.2.1 (sArr 0 (hMc t a + hMc t b) g)) S) 0 (ma b) (nI i) = some (t (605 + 9 * b + 3 + i)) := fun g h => by
        rw [hR_ld (cg g) S (keep g _ _ (h2 b hbb).2.2.1) h (by omega), (h2 b hbb).2.2.2 i h]
      have St : ∀ g p x, p < hMc t a + hMc t b → sXst (hMem A (sUp R1 R.2.1 (sArr 0 (hMc t a + hMc t b) g)) S) 0 R.2.1 (nI p) x = some (hMem A (sUp R1 R.2.1 (sArr 0 (hMc t a + hMc t b) (upd g p x))) S) := fun g p x hp => by
        rw [hR_st hg (cg g) S (sUp_at _ _ _) hA1 hp (by omega), sUp_sUp]
      have i6 : ¬ 6 ≤ i := by omega
      by_cases ca : i < hMc t a
      · have ca' : ¬ hMc t a ≤ i := by omega
        have ea : min (i + 1) (hMc t a) = min i (hMc t a) + 1 := by omega
        by_cases cb : i < hMc t b
        · have cb' : ¬ hMc t b ≤ i := by omega
          have eb : min (i + 1) (hMc t b) = min i (hMc t b) + 1 := by omega
          have e2 : upd (upd (hSpn t a b i) (min i (hMc t a) + min i (hMc t b)) (t (605 + 9 * a + 3 + i))) (min i (hMc t a) + min i (hMc t b) + 1) (t (605 + 9 * b + 3 + i)) = hSpn t a b (i + 1) := by
            funext j
            have w1 := wMark_a (b := b) ca
            have w2 := wMark_b (a := a) cb
            unfold hSpn upd
            by_cases j1 : j = min i (hMc t a) + min i (hMc t b) + 1
            · rw [if_pos j1, if_pos (by omega), ← w2, j1]
              congr 1
              omega
            · rw [if_neg j1]
              by_cases j2 : j = min i (hMc t a) + min i (hMc t b)
              · rw [if_pos j2, if_pos (by omega), ← w1, j2]
              · rw [if_neg j2]
                dsimp only
                by_cases j3 : j < min i (hMc t a) + min i (hMc t b)
                · rw [if_pos j3, if_pos (by omega)]
                · rw [if_neg j3, if_neg (by omega)]
          have en : min (i + 1) (hMc t a) + min (i + 1) (hMc t b) = min i (hMc t a) + min i (hMc t b) + 1 + 1 := by omega
          rw [en]
          simp (disch := omega) only [f_X0_spunOf_L44, f_X0_spunOf_J70, li_0, li_1, li_2, li_3, li_4, li_5, li_6, li_7, li_8, li_9, li_10, li_11, li_12, li_13, li_14, li_15, li_16, li_17, li_19, li_20, li_21, li_22, li_23, li_24, li_25, li_26, li_27, li_28, li_29, li_30, li_31, li_32, li_38, li_40, li_41, li_42, li_43, li_44, li_45, li_46, li_47, li_48, li_49, li_50, li_55, li_57, li_59, li_60, li_61, li_62, li_63, li_64, li_65, li_67, li_70, li_79, li_90, li_91, li_97, li_99, li_100, li_122, li_124, li_140, li_141, li_142, li_143, li_145, li_147, li_150, li_159, li_160, li_161, li_162, li_200, li_255, li_300, li_400, li_420, li_480, li_571, li_572, li_573, li_574, li_575, li_576, li_577, li_578, li_579, li_580, li_581, li_593, li_600, li_605, li_695, li_700, li_759, li_775, li_799, li_820, li_823, li_839, li_871, li_975, li_999, li_1000, li_1023, li_1024, li_1471, li_1487, li_1503, li_1519, li_1535, li_1681, li_2355, li_2855, li_3426, li_4096, li_9999, li_10000, li_49152, li_99999, li_1000000, nI_add, pk_mul, Nat.mul_zero, Nat.add_zero, Nat.zero_add, Nat.reduceAdd, Nat.reduceMul, Nat.reduceSub, nI_leI, nI_ltI, nI_eq, Nat.reduceEqDiff, Nat.reduceLeDiff, nI_n1F, nI_n1F', eq_self, hcI, hcN, hcV, obS, if_true, if_false, i6, La, Lb, ca', cb', Da, Db, St, e2]
        · have cb' : hMc t b ≤ i := by omega
          have e2 : upd (hSpn t a b i) (min i (hMc t a) + min i (hMc t b)) (t (605 + 9 * a + 3 + i)) = hSpn t a b (i + 1) := by
            funext j
            have w1 := wMark_a (b := b) ca
            unfold hSpn upd
            by_cases j2 : j = min i (hMc t a) + min i (hMc t b)
            · rw [if_pos j2, if_pos (by omega), ← w1, j2]
            · rw [if_neg j2]
              dsimp only
              by_cases j3 : j < min i (hMc t a) + min i (hMc t b)
              · rw [if_pos j3, if_pos (by omega)]
              · rw [if_neg j3, if_neg (by omega)]
          have en : min (i + 1) (hMc t a) + min (i + 1) (hMc t b) = min i (hMc t a) + min i (hMc t b) + 1 := by omega
          rw [en]
          simp (disch := omega) only [f_X0_spunOf_L44, f_X0_spunOf_J70, li_0, li_1, li_2, li_3, li_4, li_5, li_6, li_7, li_8, li_9, li_10, li_11, li_12, li_13, li_14, li_15, li_16, li_17, li_19, li_20, li_21, li_22, li_23, li_24, li_25, li_26, li_27, li_28, li_29, li_30, li_31, li_32, li_38, li_40, li_41, li_42, li_43, li_44, li_45, li_46, li_47, li_48, li_49, li_50, li_55, li_57, li_59, li_60, li_61, li_62, li_63, li_64, li_65, li_67, li_70, li_79, li_90, li_91, li_97, li_99, li_100, li_122, li_124, li_140, li_141, li_142, li_143, li_145, li_147, li_150, li_159, li_160, li_161, li_162, li_200, li_255, li_300, li_400, li_420, li_480, li_571, li_572, li_573, li_574, li_575, li_576, li_577, li_578, li_579, li_580, li_581, li_593, li_600, li_605, li_695, li_700, li_759, li_775, li_799, li_820, li_823, li_839, li_871, li_975, li_999, li_1000, li_1023, li_1024, li_1471, li_1487, li_1503, li_1519, li_1535, li_1681, li_2355, li_2855, li_3426, li_4096, li_9999, li_10000, li_49152, li_99999, li_1000000, nI_add, pk_mul, Nat.mul_zero, Nat.add_zero, Nat.zero_add, Nat.reduceAdd, Nat.reduceMul, Nat.reduceSub, nI_leI, nI_ltI, nI_eq, Nat.reduceEqDiff, Nat.reduceLeDiff, nI_n1F, nI_n1F', eq_self, hcI, hcN, hcV, obS, if_true, if_false, i6, La, Lb, ca', cb', Da, St, e2]
      · have ca' : hMc t a ≤ i := by omega
        by_cases cb : i < hMc t b
        · have cb' : ¬ hMc t b ≤ i := by omega
          have e2 : upd (hSpn t a b i) (min i (hMc t a) + min i (hMc t b)) (t (605 + 9 * b + 3 + i)) = hSpn t a b (i + 1) := by
            funext j
            have w2 := wMark_b (a := a) cb
            unfold hSpn upd
            by_cases j2 : j = min i (hMc t a) + min i (hMc t b)
            · rw [if_pos j2, if_pos (by omega), ← w2, j2]
              congr 1
              omega
            · rw [if_neg j2]
              dsimp only
              by_cases j3 : j < min i (hMc t a) + min i (hMc t b)
              · rw [if_pos j3, if_pos (by omega)]
              · rw [if_neg j3, if_neg (by omega)]
          have en : min (i + 1) (hMc t a) + min (i + 1) (hMc t b) = min i (hMc t a) + min i (hMc t b) + 1 := by omega
          rw [en]
          simp (disch := omega) only [f_X0_spunOf_L44, f_X0_spunOf_J70, li_0, li_1, li_2, li_3, li_4, li_5, li_6, li_7, li_8, li_9, li_10, li_11, li_12, li_13, li_14, li_15, li_16, li_17, li_19, li_20, li_21, li_22, li_23, li_24, li_25, li_26, li_27, li_28, li_29, li_30, li_31, li_32, li_38, li_40, li_41, li_42, li_43, li_44, li_45, li_46, li_47, li_48, li_49, li_50, li_55, li_57, li_59, li_60, li_61, li_62, li_63, li_64, li_65, li_67, li_70, li_79, li_90, li_91, li_97, li_99, li_100, li_122, li_124, li_140, li_141, li_142, li_143, li_145, li_147, li_150, li_159, li_160, li_161, li_162, li_200, li_255, li_300, li_400, li_420, li_480, li_571, li_572, li_573, li_574, li_575, li_576, li_577, li_578, li_579, li_580, li_581, li_593, li_600, li_605, li_695, li_700, li_759, li_775, li_799, li_820, li_823, li_839, li_871, li_975, li_999, li_1000, li_1023, li_1024, li_1471, li_1487, li_1503, li_1519, li_1535, li_1681, li_2355, li_2855, li_3426, li_4096, li_9999, li_10000, li_49152, li_99999, li_1000000, nI_add, pk_mul, Nat.mul_zero, Nat.add_zero, Nat.zero_add, Nat.reduceAdd, Nat.reduceMul, Nat.reduceSub, nI_leI, nI_ltI, nI_eq, Nat.reduceEqDiff, Nat.reduceLeDiff, nI_n1F, nI_n1F', eq_self, hcI, hcN, hcV, obS, if_true, if_false, i6, La, Lb, ca', cb', Db, St, e2]
        · have cb' : hMc t b ≤ i := by omega
          have e2 : hSpn t a b i = hSpn t a b (i + 1) := by
            funext j
            unfold hSpn
            by_cases j3 : j < min i (hMc t a) + min i (hMc t b)
            · rw [if_pos j3, if_pos (by omega)]
            · rw [if_neg j3, if_neg (by omega)]
          have en : min (i + 1) (hMc t a) + min (i + 1) (hMc t b) = min i (hMc t a) + min i (hMc t b) := by omega
          rw [en, ← e2]
          simp (disch := omega) only [f_X0_spunOf_L44, f_X0_spunOf_J70, li_0, li_1, li_2, li_3, li_4, li_5, li_6, li_7, li_8, li_9, li_10, li_11, li_12, li_13, li_14, li_15, li_16, li_17, li_19, li_20, li_21, li_22, li_23, li_24, li_25, li_26, li_27, li_28, li_29, li_30, li_31, li_32, li_38, li_40, li_41, li_42, li_43, li_44, li_45, li_46, li_47, li_48, li_49, li_50, li_55, li_57, li_59, li_60, li_61, li_62, li_63, li_64, li_65, li_67, li_70, li_79, li_90, li_91, li_97, li_99, li_100, li_122, li_124, li_140, li_141, li_142, li_143, li_145, li_147, li_150, li_159, li_160, li_161, li_162, li_200, li_255, li_300, li_400, li_420, li_480, li_571, li_572, li_573, li_574, li_575, li_576, li_577, li_578, li_579, li_580, li_581, li_593, li_600, li_605, li_695, li_700, li_759, li_775, li_799, li_820, li_823, li_839, li_871, li_975, li_999, li_1000, li_1023, li_1024, li_1471, li_1487, li_1503, li_1519, li_1535, li_1681, li_2355, li_2855, li_3426, li_4096, li_9999, li_10000, li_49152, li_99999, li_1000000, nI_add, pk_mul, Nat.mul_zero, Nat.add_zero, Nat.zero_add, Nat.reduceAdd, Nat.reduceMul, Nat.reduceSub, nI_leI, nI_ltI, nI_eq, Nat.reduceEqDiff, Nat.reduceLeDiff, nI_n1F, nI_n1F', eq_self, hcI, hcN, hcV, obS, if_true, if_false, i6, La, Lb, ca', cb']
    · intro f
      have i6 : (6 : Nat) ≤ 6 := Nat.le_refl _
      simp (disch := omega) only [f_X0_spunOf_L44, li_0, li_1, li_2, li_3, li_4, li_5, li_6, li_7, li_8, li_9, li_10, li_11, li_12, li_13, li_14, li_15, li_16, li_17, li_19, li_20, li_21, li_22, li_23, li_24, li_25, li_26, li_27, li_28, li_29, li_30, li_31, li_32, li_38, li_40, li_41, li_42, li_43, li_44, li_45, li_46, li_47, li_48, li_49, li_50, li_55, li_57, li_59, li_60, li_61, li_62, li_63, li_64, li_65, li_67, li_70, li_79, li_90, li_91, li_97, li_99, li_100, li_122, li_124, li_140, li_141, li_142, li_143, li_145, li_147, li_150, li_159, li_160, li_161, li_162, li_200, li_255, li_300, li_400, li_420, li_480, li_571, li_572, li_573, li_574, li_575, li_576, li_577, li_578, li_579, li_580, li_581, li_593, li_600, li_605, li_695, li_700, li_759, li_775, li_799, li_820, li_823, li_839, li_871, li_975, li_999, li_1000, li_1023, li_1024, li_1471, li_1487, li_1503, li_1519, li_1535, li_1681, li_2355, li_2855, li_3426, li_4096, li_9999, li_10000, li_49152, li_99999, li_1000000, nI_add, pk_mul, Nat.mul_zero, Nat.add_zero, Nat.zero_add, Nat.reduceAdd, Nat.reduceMul, Nat.reduceSub, nI_leI, nI_ltI, nI_eq, Nat.reduceEqDiff, Nat.reduceLeDiff, nI_n1F, nI_n1F', eq_self, hcI, hcN, hcV, obS, if_true, if_false, i6]
/-- the trays now, or trays in thought -/
def hMode (S : hS) (k : Nat) (tr : Bool) : Prop := (tr = true ∧ k = 0 ∧ S.2.2.2.2.1 0 = 0) ∨ (tr = false ∧ S.2.2.2.2.1 k = 1)
theorem f_note {A : hA} {R : sMem} {S : hS} (hg : hG A) {k : Nat} (hk : k < A.2.2) {t : Nat → Int32} (ht : S.2.2.2.1 k = t) {tr : Bool} (hm : hMode S k tr) (h6 : wSm t 6 150) (what which : Int32) (i : Nat) : f_X2_notes (hTa A k) what (nI i) which (hMem A R S) = some (.inl none, hMem A R (hT S k (wNote tr what i which t))) := by
  have h0 : 0 < A.2.2 := by omega
  have h10 : ¬ (1 : Int32) = 0 := by decide
  rcases hm with ⟨rfl, rfl, hm⟩ | ⟨rfl, hm⟩
  · have e6 : t 6 = nI (cv (t 6)) := h6.1
    have l6 := h6.2
    by_cases c : t 6 = 150
    · have : wNote true what i which t = t := by simp [wNote, c]
      rw [this, ← ht, hT_self]
      have c' : S.2.2.2.1 0 6 = 150 := by rw [ht]; exact c
      simp (disch := omega) only [f_X2_notes, f_X0_writes, tgI_17 hg, hm, tgN_18 hg, hx_chk hg, eq_self, hcI, hcN, hcV, obS, if_true, if_false, xgN_23 hg, tgI_16 hg, c']
    · have : wNote true what i which t = upd (upd (upd (upd (upd t (871 + 4 * cv (t 6)) (t 0)) (871 + 4 * cv (t 6) + 1) what) (871 + 4 * cv (t 6) + 2) (nI i)) (871 + 4 * cv (t 6) + 3) which) 6 (t 6 + 1) := by simp [wNote, c]
      rw [this]
      have c' : ¬ cv (t 6) = 150 := fun h => c (by rw [e6, h]; rfl)
      generalize hn : cv (t 6) = n at *
      simp (disch := omega) only [f_X2_notes, f_X0_writes, tgI_17 hg, hm, tgN_18 hg, hx_chk hg, eq_self, hcI, hcN, hcV, obS, if_true, if_false, xgN_23 hg, tgI_16 hg, tgI_11 hg, tp_16 hg, ht, e6, li_0, li_1, li_2, li_3, li_4, li_5, li_6, li_7, li_8, li_9, li_10, li_11, li_12, li_13, li_14, li_15, li_16, li_17, li_19, li_20, li_21, li_22, li_23, li_24, li_25, li_26, li_27, li_28, li_29, li_30, li_31, li_32, li_38, li_40, li_41, li_42, li_43, li_44, li_45, li_46, li_47, li_48, li_49, li_50, li_55, li_57, li_59, li_60, li_61, li_62, li_63, li_64, li_65, li_67, li_70, li_79, li_90, li_91, li_97, li_99, li_100, li_122, li_124, li_140, li_141, li_142, li_143, li_145, li_147, li_150, li_159, li_160, li_161, li_162, li_200, li_255, li_300, li_400, li_420, li_480, li_571, li_572, li_573, li_574, li_575, li_576, li_577, li_578, li_579, li_580, li_581, li_593, li_600, li_605, li_695, li_700, li_759, li_775, li_799, li_820, li_823, li_839, li_871, li_975, li_999, li_1000, li_1023, li_1024, li_1471, li_1487, li_1503, li_1519, li_1535, li_1681, li_2355, li_2855, li_3426, li_4096, li_9999, li_10000, li_49152, li_99999, li_1000000, nI_add, pk_mul, Nat.mul_zero, Nat.add_zero, Nat.zero_add, Nat.reduceAdd, Nat.reduceMul, Nat.reduceSub, nI_leI, nI_ltI, nI_eq, Nat.reduceEqDiff, Nat.reduceLeDiff, nI_n1F, nI_n1F', c', xgN_26 hg, hq_st4 hg, hT_same, hT_hT, upd_ne, Nat.add_assoc]
  · have : wNote false what i which t = t := by simp [wNote]
    rw [this, ← ht, hT_self]
    simp (disch := omega) only [f_X2_notes, tgI_17 hg, hm, h10, eq_self, hcI, hcN, hcV, obS, if_true, if_false]
theorem hMode.T {S : hS} {k : Nat} {tr : Bool} (h : hMode S k tr) (j : Nat) (u : Nat → Int32) : hMode (hT S j u) k tr := by
  unfold hMode
  rw [hT_5]
  exact h
theorem hMode.Rw {S : hS} {k : Nat} {tr : Bool} (h : hMode S k tr) (j : Nat) (u : Nat → Int32) : hMode (hRw S j u) k tr := by
  unfold hMode
  rw [hRw_3]
  exact h
theorem f_hide {A : hA} {R : sMem} {S : hS} (hg : hG A) {k : Nat} (hk : k < A.2.2) {t : Nat → Int32} (ht : S.2.2.2.1 k = t) {tr : Bool} (hm : hMode S k tr) (h6 : wSm t 6 150) {i : Nat} (hi : i < hN t) (hn : hN t ≤ 12) : f_X2_hides (hTa A k) (nI i) (hMem A R S) = some (.inl none, hMem A R (hT S k (wHide tr i t))) := by
  have e1 := hr_st4 hg R S hk (p := i) (by omega) (by rw [ht]; exact hi) 0 1 (by decide)
  rw [ht] at e1
  have h61 : wSm (upd t (43 + i) 0) 6 150 := wSm_al (upd_ne _ _ (by omega)) h6
  have e2 := f_note (R := R) (S := hT S k (upd t (43 + i) 0)) hg hk (hT_same _ _ _) (hm.T _ _) h61 2 (t (19 + i)) i
  rw [hT_hT] at e2
  simp (disch := omega) only [f_X2_hides, tgN_4 hg, e1, eq_self, hcI, hcN, hcV, obS, if_true, if_false, tgN_5 hg, trl_5 hg, hT_same, upd_ne, ht_chk hg, e2]
  rfl
theorem f_draw {A : hA} {R : sMem} {S : hS} (hg : hG A) {k : Nat} (hk : k < A.2.2) {t : Nat → Int32} (ht : S.2.2.2.1 k = t) : f_X2_draw (hTa A k) 1000 (hMem A R S) = some (.inl (some (.int (wDrawn (wDraw t 5)))), hMem A R (hT S k (wDraw t))) := by
  have h : ¬ (1000 : Int32) = 0 := by decide
  simp (disch := omega) only [f_X2_draw, tgI_15 hg, tp_15 hg, ht, eq_self, hcI, hcN, hcV, obS, if_true, if_false, hT_same, h]
  rfl
