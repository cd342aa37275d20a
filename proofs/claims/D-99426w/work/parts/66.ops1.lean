/-! calls that look: of, fact, book, would, fault, look -/
set_option maxRecDepth 100000
theorem kI (v : Int32) (M : sMem) (K : Int32 → sMem → Option (sRes × sMem)) : sCallI (some (.inl (some (.int v)), M)) K = K v M := by simp [sCall, sCI]
theorem kN (v : Nat) (M : sMem) (K : Nat → sMem → Option (sRes × sMem)) : sCallN (some (.inl (some (.ref v)), M)) K = K v M := by simp [sCall, sCN]
theorem kV (M : sMem) (K : sMem → Option (sRes × sMem)) : sCallV (some (.inl none, M)) K = K M := by simp [sCall, sCV]
/-- facts of the component, all at once -/
theorem fact_get {A : hA} {R : sMem} {S : hS} (hg : hG A) (hc : hCl A R) {t : Nat → Int32} (hT : ∃ q, S.1 18 = .ref q ∧ hFacts R q t) (hw : wFac t) : ∃ (q : Nat) (ao ma : Nat → Nat), sGetN (hMem A R S) 0 18 (hX A) = some q ∧ sLen (hMem A R S) q = some (nI (hFc t)) ∧ ∀ f, f < hFc t → sAldN (hMem A R S) q (nI f) = some (ao f) ∧ (∀ o, sChk (hMem A R S) 5 (ao f) o = o) ∧ f_X5_marks (ao f) (hMem A R S) = some (.inl (some (.ref (ma f))), hMem A R S) ∧ f_X5_leaf (ao f) (hMem A R S) = some (.inl (some (.int (t (605 + 9 * f + 1)))), hMem A R S) ∧ f_X5_worth (ao f) (hMem A R S) = some (.inl (some (.int (t (605 + 9 * f + 2)))), hMem A R S) ∧ sLen (hMem A R S) (ma f) = some (nI (hMc t f)) ∧ ∀ j, j < hMc t f → sXld (hMem A R S) 0 (ma f) (nI j) = some (t (605 + 9 * f + 3 + j)) := by
  have h10 : hFc t ≤ 10 := hw.1.2
  obtain ⟨q, hq, fo, ao, ma, mf, h1, h2⟩ := hT
  refine ⟨q, ao, ma, by rw [xgN_18 hg, hq, hvN_ref], hR_lenq hc S h1, fun f hf => ?_⟩
  obtain ⟨a1, a2, a3, a4⟩ := h2 f hf
  have l6 : hMc t f ≤ 6 := (hw.2 f hf).1.2
  refine ⟨hR_ldn hc S h1 (by omega) hf (by omega) a1, fun o => hR_chk hc S a2 o, ?_, ?_, ?_, hR_len hc S a3, fun j hj => by rw [hR_ld hc S a3 hj (by omega), a4 j hj]⟩
  · unfold f_X5_marks
    rw [hR_N hc S a2 (k := 0) rfl]
    rfl
  · unfold f_X5_leaf
    rw [hR_I hc S a2 (k := 1) rfl]
    rfl
  · unfold f_X5_worth
    rw [hR_I hc S a2 (k := 2) rfl]
    rfl
theorem hInv.tel {A : hA} {R : sMem} {S : hS} {g : Nat → Nat} {b L : Nat} {xs : Nat → Int32} (h : hInv A R S g b L xs) : hTel R S (S.2.2.2.1 0) := by
  obtain ⟨q0, q1, q2, -⟩ := h.1.2.2.2.2.2.2
  exact ⟨q0, q1, q2⟩
theorem hInv.fa {A : hA} {R : sMem} {S : hS} {g : Nat → Nat} {b L : Nat} {xs : Nat → Int32} (h : hInv A R S g b L xs) : ∃ q, S.1 18 = .ref q ∧ hFacts R q (S.2.2.2.1 0) := h.tel.2.1
theorem hInv.t0 {A : hA} {R : sMem} {S : hS} {g : Nat → Nat} {b L : Nat} {xs : Nat → Int32} (h : hInv A R S g b L xs) : S.2.2.2.2.2.2 0 = S.2.2.2.1 0 := h.1.2.2.2.1.symm
theorem hInv.act {A : hA} {R : sMem} {S : hS} {g : Nat → Nat} {b L : Nat} {xs : Nat → Int32} (h : hInv A R S g b L xs) : wAct (S.2.2.2.1 0) := h.1.2.2.2.2.1
theorem hInv.go {A : hA} {R : sMem} {S : hS} {g : Nat → Nat} {b L : Nat} {xs : Nat → Int32} (h : hInv A R S g b L xs) : ∃ q, wGo R q (S.2.2.2.2.2.2 0) := by
  obtain ⟨q, -, hL⟩ := h.tel.1
  rw [h.t0]
  exact ⟨q, hL, h.act.1⟩
theorem px_mark2 (m : Nat) (s : mSt) {i p : Nat} (hi : i < 12) (hp : p < 40) : p_X3_markOf m (nI i) (nI p) s = some (some (.int (s.2 0 (91 + 40 * i + p))), s) := by
  simp (disch := omega) only [p_X3_markOf, li_0, li_1, li_2, li_3, li_4, li_5, li_6, li_7, li_8, li_9, li_10, li_11, li_12, li_13, li_14, li_15, li_16, li_17, li_19, li_20, li_21, li_22, li_23, li_24, li_25, li_26, li_27, li_28, li_29, li_30, li_31, li_32, li_38, li_40, li_41, li_42, li_43, li_44, li_45, li_46, li_47, li_48, li_49, li_50, li_55, li_57, li_59, li_60, li_61, li_62, li_63, li_64, li_65, li_67, li_70, li_79, li_90, li_91, li_97, li_99, li_100, li_122, li_124, li_140, li_141, li_142, li_143, li_145, li_147, li_150, li_159, li_160, li_161, li_162, li_200, li_255, li_300, li_400, li_420, li_480, li_571, li_572, li_573, li_574, li_575, li_576, li_577, li_578, li_579, li_580, li_581, li_593, li_600, li_605, li_695, li_700, li_759, li_775, li_799, li_820, li_823, li_839, li_871, li_975, li_999, li_1000, li_1023, li_1024, li_1471, li_1487, li_1503, li_1519, li_1535, li_1681, li_2355, li_2855, li_3426, li_4096, li_9999, li_10000, li_49152, li_99999, li_1000000, mRow_0, mRow_1, mRow_2, mRow_3, mRow_6, mRow_7, mRow_8, mRow_9, mRow_10, mRow_11, mRow_28, mRow_29, mRow_30, mRow_31, mRow_32, qld_0, qst_0, qld_1, qst_1, qld_2, qst_2, qld_3, qst_3, qld_4, qst_4, qld_5, qst_5, qld_6, qst_6, qld_7, qst_7, qld_8, qst_8, qld_9, qst_9, qld_10, qst_10, qld_11, qst_11, qld_12, qst_12, qld_13, qst_13, qld_14, qst_14, eq_self, ↓reduceIte, qg, qp, mrs_1, mrs_same, ms_2, pcI, pcV, obS, mrs_mrs, nI_add, pk_mul, Nat.mul_zero, Nat.add_zero, Nat.zero_add, Nat.reduceAdd, Nat.reduceMul, Nat.reduceSub, nI_leI, nI_ltI, nI_eq, Nat.reduceEqDiff, Nat.reduceLeDiff, nI_n1F, nI_n1F']
theorem fx_mark {A : hA} (hg : hG A) (R : sMem) (S : hS) {k i p : Nat} (hk : k < A.2.2) (hi : i < 12) (hp : p < 40) : f_X2_markAt (hTa A k) (nI i) (nI p) (hMem A R S) = some (.inl (some (.int (S.2.2.2.1 k (91 + 40 * i + p)))), hMem A R S) := by
  have e : (40 : Int32) * nI i + nI p = nI (40 * i + p) := by
    show nI 40 * nI i + _ = _
    rw [pk_mul, nI_add]
  have e2 : 91 + (40 * i + p) = 91 + 40 * i + p := by omega
  simp (disch := omega) only [f_X2_markAt, tgN_6 hg, eq_self, ↓reduceIte, hcI, hcN, hcV, obS, if_true, if_false, e, trl_6 hg, e2]
theorem inB_20 {w : Int32} {l : Nat} (hl : l ≤ 40) (h : inB w 20 (19 + nI l) = true) : ∃ j, j < l ∧ w = nI (20 + j) := by
  unfold inB at h
  simp only [Bool.and_eq_true, Bool.not_eq_true', decide_eq_false_iff_not] at h
  obtain ⟨h1, h2⟩ := h
  have e : (19 : Int32) + nI l = nI (19 + l) := nI_add 19 l
  rw [e] at h2
  have h0 : ¬ w < 0 := fun q => h1 (by
    rw [Int32.lt_iff_toInt_lt] at q ⊢
    have a0 : (0 : Int32).toInt = 0 := by decide
    have a20 : (20 : Int32).toInt = 20 := by decide
    omega)
  obtain ⟨j, hj, rfl⟩ := nI_of h0
  have h1' : ¬ nI j < nI 20 := h1
  rw [nI_ltI (by omega) (by omega)] at h1' h2
  exact ⟨j - 20, by omega, by congr 1; omega⟩
theorem j_of {A : hA} {R : sMem} {S : hS} {g : Nat → Nat} {b L : Nat} {xs : Nat → Int32} (h : hInv A R S g b L xs) (v w : Int32) : hOp A R S g b L xs (f_X0_of (hX A) v w) (f_X3_of (A.2.1 9) v w) := by
  have hg := h.1.1
  have hc := h.1.2.1
  have h3 : 0 < A.2.2 := by have := hg.2.2.2; omega
  have ht := h.t0
  have hw := h.act
  have hn := hw.n
  have hq : ∀ (R : sMem), R.1 ≤ A.2.1 9 → ∀ s : mSt, f_X3_of (A.2.1 9) v w (mPut R (A.2.1 9) s) = lft R (A.2.1 9) (p_X3_of (A.2.1 9) v w s) := fun R hR s => q_X3_of R _ hR v w s
  have f1 := fx_isWorm hg R S v
  have p1 := px_isWorm (A.2.1 9) v S.2.2.2.2.2
  rw [ht] at p1
  cases hv : inB v 0 (S.2.2.2.1 0 571 - 1) with
  | false =>
    rw [hv] at f1 p1
    refine hOp.read0 h hq (v := -2) ?_ ?_
    · simp only [f_X0_of, hx_chk hg, f1, eq_self, ↓reduceIte, hcI, hcN, hcV, obS, if_true, if_false, b01_f]
    · simp only [p_X3_of, p1, pcI, b01_f, ↓reduceIte]
  | true =>
    rw [hv] at f1 p1
    have e571 : S.2.2.2.1 0 571 = nI (hN (S.2.2.2.1 0)) := hw.1.1.1.1
    rw [e571] at hv
    obtain ⟨i, hi, rfl⟩ := inB_below (by omega) hv
    have e19 : S.2.2.2.1 0 (19 + i) = nI (hLo (S.2.2.2.1 0) i) := (hw.2.1 i hi).1.1
    have l19 : hLo (S.2.2.2.1 0) i ≤ 40 := (hw.2.1 i hi).1.2
    have q1 : ∀ p, p < 2355 → qAld S.2.2.2.2.2 0 (nI p) = some (S.2.2.2.1 0 p) := fun p hp => by rw [← ht]; exact qld_0 _ hp
    have tf : ¬ (true = false) := by simp
    have hb1 : ¬ b01 true = 0 := by decide
    have hb0 : b01 false = 0 := rfl
    have c581 : (581 : Int32) + nI i = nI (581 + i) := nI_add 581 i
    have c593 : (593 : Int32) + nI i = nI (593 + i) := nI_add 593 i
    have c7 : (7 : Int32) + nI i = nI (7 + i) := nI_add 7 i
    have c19 : (19 : Int32) + nI i = nI (19 + i) := nI_add 19 i
    have c31 : (31 : Int32) + nI i = nI (31 + i) := nI_add 31 i
    have c43 : (43 : Int32) + nI i = nI (43 + i) := nI_add 43 i
    have c55 : (55 : Int32) + nI i = nI (55 + i) := nI_add 55 i
    have c67 : (67 : Int32) + nI i = nI (67 + i) := nI_add 67 i
    have c79 : (79 : Int32) + nI i = nI (79 + i) := nI_add 79 i
    cases hb : inB w 20 (19 + nI (hLo (S.2.2.2.1 0) i)) with
    | true =>
      obtain ⟨j, hj, rfl⟩ := inB_20 l19 hb
      have n0 : ∀ k : Nat, k ≤ 10 → ¬ nI (20 + j) = nI k := fun k hk e => by
        rw [nI_eq (by omega) (by omega)] at e
        omega
      have n70 : ¬ nI (20 + j) = nI 70 := fun e => by
        rw [nI_eq (by omega) (by omega)] at e
        omega
      have e20 : nI (20 + j) - 20 = nI j := by
        show nI (20 + j) - nI 20 = nI j
        rw [pk_sub (by omega)]
        congr 1
        omega
      have pm := px_mark2 (A.2.1 9) S.2.2.2.2.2 (i := i) (p := j) (by omega) (by omega)
      rw [ht] at pm
      have fm := fx_mark hg R S (k := 0) h3 (i := i) (p := j) (by omega) (by omega)
      have z0 : ¬ nI (20 + j) = (0 : Int32) := n0 0 (by omega)
      have z1 : ¬ nI (20 + j) = (1 : Int32) := n0 1 (by omega)
      have z2 : ¬ nI (20 + j) = (2 : Int32) := n0 2 (by omega)
      have z3 : ¬ nI (20 + j) = (3 : Int32) := n0 3 (by omega)
      have z4 : ¬ nI (20 + j) = (4 : Int32) := n0 4 (by omega)
      have z5 : ¬ nI (20 + j) = (5 : Int32) := n0 5 (by omega)
      have z6 : ¬ nI (20 + j) = (6 : Int32) := n0 6 (by omega)
      have z7 : ¬ nI (20 + j) = (7 : Int32) := n0 7 (by omega)
      have z8 : ¬ nI (20 + j) = (8 : Int32) := n0 8 (by omega)
      have z9 : ¬ nI (20 + j) = (9 : Int32) := n0 9 (by omega)
      have z10 : ¬ nI (20 + j) = (10 : Int32) := n0 10 (by omega)
      have z70 : ¬ nI (20 + j) = (70 : Int32) := n70
      refine hOp.read0 h hq (v := S.2.2.2.1 0 (91 + 40 * i + j)) ?_ ?_
      · unfold f_X0_of
        dsimp only [sIald, sCallI]
        rw [hx_chk hg, f1, hcI, if_neg hb1, xgN_23 hg, obS, tgN_5 hg R S h3, obS, trl_5 hg R S h3 (by omega), obS, e19, fx_isIn, hb, hcI, if_neg hb1, xgN_23 hg, obS, ht_chk hg R S h3, e20, fm, hcI]
      · unfold p_X3_of
        rw [p1, pcI, if_neg hb1, if_neg z0, if_neg z1, if_neg z2, if_neg z3, if_neg z4, if_neg z5, if_neg z6, if_neg z7, if_neg z8, if_neg z9, if_neg z10, if_neg z70]
        simp (disch := omega) only [mRow_0, obS, c19, q1, e19, px_isIn, hb, pcI, b01_t, ↓reduceIte, e20, pm]
    | false =>
      obtain ⟨q, hgo⟩ := h.go
      have htel := h.tel
      have hl := hw.1.2.2.2.2.2.2.2.2
      obtain ⟨c, hc1, hc2, hc3, hc4⟩ := hCo_at hw.2 hn hi
      have l4 := hr_ld4 hg R S h3 (p := i) (by omega)
      rw [hc2] at l4
      have e43 : nI c - 1 = S.2.2.2.1 0 (43 + i) := by
        rw [← hc3]
        exact Int32.add_sub_cancel _ _
      obtain ⟨f8, e8⟩ := f_eats hg hc h3 rfl htel hl (i := i) (by omega) rfl
      obtain ⟨f9, e9⟩ := f_strong hg hc h3 rfl htel hl (i := i) (by omega) rfl
      obtain ⟨f10, e10⟩ := f_slips hg hc h3 rfl htel hl (i := i) (by omega) rfl 0 0
      obtain ⟨s8, p8, S8⟩ := px_eats (A.2.1 9) S.2.2.2.2.2 hgo (i := i) (by omega)
      obtain ⟨s9, p9, S9⟩ := px_strong (A.2.1 9) S.2.2.2.2.2 hgo (i := i) (by omega)
      obtain ⟨s10, p10, S10⟩ := px_slips (A.2.1 9) S.2.2.2.2.2 hgo (i := i) (by omega) 0 0
      rw [ht] at p8 p9 p10
      have b6 := fx_has A R S (S.2.2.2.1 0) (o := 55) (w := i) (by omega)
      have b7 := fx_has A R S (S.2.2.2.1 0) (o := 67) (w := i) (by omega)
      have r6 := (hw.2.1 i hi).2.2.1
      have r7 := (hw.2.1 i hi).2.2.2.1
      have ex0 := (hEx.refl R).le (c' := 18000) (n' := 84000) (by omega) (by omega)
      have H : ∀ (x : Int32) (S' : hS) (s' : mSt), f_X0_of (hX A) (nI i) w (hMem A R S) = some (.inl (some (.int x)), hMem A R S') → hSame S S' → p_X3_of (A.2.1 9) (nI i) w S.2.2.2.2.2 = some (some (.int x), s') → Sw S.2.2.2.2.2 (S.2.2.2.2.2.2 0) s' → hOp A R S g b L xs (f_X0_of (hX A) (nI i) w) (f_X3_of (A.2.1 9) (nI i) w) := fun x S' s' e1 e2 e3 e4 => hOp.read h hq e1 e2 ex0 hc e3 e4
      have hself := hSame.refl S
      have sself := Sw.refl S.2.2.2.2.2
      by_cases w0 : w = 0
      · subst w0
        refine H (S.2.2.2.1 0 (581 + i)) S _ ?_ hself ?_ sself
        · unfold f_X0_of
          dsimp only [sIald, sCallI]
          rw [hx_chk hg, f1, hcI, if_neg hb1, xgN_23 hg, obS, tgN_5 hg R S h3, obS, trl_5 hg R S h3 (by omega), obS, e19, fx_isIn, hb, hcI, if_pos hb0, if_pos rfl]
          rw [xgN_22 hg, obS, hq_ld3 hg R S (by omega), obS]
        · unfold p_X3_of
          rw [p1, pcI, if_neg hb1, if_pos rfl, mRow_0, obS, c581, q1 _ (by omega), obS]
      by_cases w1 : w = 1
      · subst w1
        refine H (S.2.2.2.1 0 (593 + i)) S _ ?_ hself ?_ sself
        · unfold f_X0_of
          dsimp only [sIald, sCallI]
          rw [hx_chk hg, f1, hcI, if_neg hb1, xgN_23 hg, obS, tgN_5 hg R S h3, obS, trl_5 hg R S h3 (by omega), obS, e19, fx_isIn, hb, hcI, if_pos hb0, if_neg (show ¬ (1 : Int32) = 0 by decide), if_pos rfl, xgN_23 hg]
          rw [obS, tgN_0 hg R S h3, obS, trl_0 hg R S h3 (by omega), obS]
        · unfold p_X3_of
          rw [p1, pcI, if_neg hb1, if_neg (show ¬ (1 : Int32) = 0 by decide), if_pos rfl, mRow_0, obS, c593, q1 _ (by omega), obS]
      by_cases w2 : w = 2
      · subst w2
        refine H (S.2.2.2.1 0 (7 + i)) S _ ?_ hself ?_ sself
        · unfold f_X0_of
          dsimp only [sIald, sCallI]
          rw [hx_chk hg, f1, hcI, if_neg hb1, xgN_23 hg, obS, tgN_5 hg R S h3, obS, trl_5 hg R S h3 (by omega), obS, e19, fx_isIn, hb, hcI, if_pos hb0, if_neg (show ¬ (2 : Int32) = 0 by decide), if_neg (show ¬ (2 : Int32) = 1 by decide), if_pos rfl, xgN_23 hg]
          rw [obS, tgN_1 hg R S h3, obS, trl_1 hg R S h3 (by omega), obS]
        · unfold p_X3_of
          rw [p1, pcI, if_neg hb1, if_neg (show ¬ (2 : Int32) = 0 by decide), if_neg (show ¬ (2 : Int32) = 1 by decide), if_pos rfl, mRow_0, obS, c7, q1 _ (by omega), obS]
      by_cases w3 : w = 3
      · subst w3
        refine H (nI (hLo (S.2.2.2.1 0) i)) S _ ?_ hself ?_ sself
        · unfold f_X0_of
          dsimp only [sIald, sCallI]
          rw [hx_chk hg, f1, hcI, if_neg hb1, xgN_23 hg, obS, tgN_5 hg R S h3, obS, trl_5 hg R S h3 (by omega), obS, e19, fx_isIn, hb, hcI, if_pos hb0, if_neg (show ¬ (3 : Int32) = 0 by decide), if_neg (show ¬ (3 : Int32) = 1 by decide), if_neg (show ¬ (3 : Int32) = 2 by decide), if_pos rfl, xgN_23 hg]
          rw [obS, tgN_5 hg R S h3, obS, trl_5 hg R S h3 (by omega), obS, e19]
        · unfold p_X3_of
          rw [p1, pcI, if_neg hb1, if_neg (show ¬ (3 : Int32) = 0 by decide), if_neg (show ¬ (3 : Int32) = 1 by decide), if_neg (show ¬ (3 : Int32) = 2 by decide), if_pos rfl, mRow_0, obS, c19, q1 _ (by omega), obS, e19]
      by_cases w4 : w = 4
      · subst w4
        refine H (S.2.2.2.1 0 (31 + i)) S _ ?_ hself ?_ sself
        · unfold f_X0_of
          dsimp only [sIald, sCallI]
          rw [hx_chk hg, f1, hcI, if_neg hb1, xgN_23 hg, obS, tgN_5 hg R S h3, obS, trl_5 hg R S h3 (by omega), obS, e19, fx_isIn, hb, hcI, if_pos hb0, if_neg (show ¬ (4 : Int32) = 0 by decide), if_neg (show ¬ (4 : Int32) = 1 by decide), if_neg (show ¬ (4 : Int32) = 2 by decide), if_neg (show ¬ (4 : Int32) = 3 by decide), if_pos rfl, xgN_23 hg]
          rw [obS, tgN_3 hg R S h3, obS, trl_3 hg R S h3 (by omega), obS]
        · unfold p_X3_of
          rw [p1, pcI, if_neg hb1, if_neg (show ¬ (4 : Int32) = 0 by decide), if_neg (show ¬ (4 : Int32) = 1 by decide), if_neg (show ¬ (4 : Int32) = 2 by decide), if_neg (show ¬ (4 : Int32) = 3 by decide), if_pos rfl, mRow_0, obS, c31, q1 _ (by omega), obS]
      by_cases w5 : w = 5
      · subst w5
        refine H (S.2.2.2.1 0 (43 + i)) S _ ?_ hself ?_ sself
        · unfold f_X0_of
          dsimp only [sIald, sCallI]
          rw [hx_chk hg, f1, hcI, if_neg hb1, xgN_23 hg, obS, tgN_5 hg R S h3, obS, trl_5 hg R S h3 (by omega), obS, e19, fx_isIn, hb, hcI, if_pos hb0, if_neg (show ¬ (5 : Int32) = 0 by decide), if_neg (show ¬ (5 : Int32) = 1 by decide), if_neg (show ¬ (5 : Int32) = 2 by decide), if_neg (show ¬ (5 : Int32) = 3 by decide), if_neg (show ¬ (5 : Int32) = 4 by decide), if_pos rfl, xgN_23 hg]
          rw [obS, tgN_4 hg R S h3, obS, l4, obS]; exact congrArg (fun x => some (Sum.inl (some (Value.int x)), hMem A R S)) e43
        · unfold p_X3_of
          rw [p1, pcI, if_neg hb1, if_neg (show ¬ (5 : Int32) = 0 by decide), if_neg (show ¬ (5 : Int32) = 1 by decide), if_neg (show ¬ (5 : Int32) = 2 by decide), if_neg (show ¬ (5 : Int32) = 3 by decide), if_neg (show ¬ (5 : Int32) = 4 by decide), if_pos rfl, mRow_0, obS, c43, q1 _ (by omega), obS]
      by_cases w6 : w = 6
      · subst w6
        refine H (S.2.2.2.1 0 (55 + i)) S _ ?_ hself ?_ sself
        · unfold f_X0_of
          dsimp only [sIald, sCallI]
          rw [hx_chk hg, f1, hcI, if_neg hb1, xgN_23 hg, obS, tgN_5 hg R S h3, obS, trl_5 hg R S h3 (by omega), obS, e19, fx_isIn, hb, hcI, if_pos hb0, if_neg (show ¬ (6 : Int32) = 0 by decide), if_neg (show ¬ (6 : Int32) = 1 by decide), if_neg (show ¬ (6 : Int32) = 2 by decide), if_neg (show ¬ (6 : Int32) = 3 by decide), if_neg (show ¬ (6 : Int32) = 4 by decide), if_neg (show ¬ (6 : Int32) = 5 by decide), if_pos rfl, xgN_23 hg]
          rw [obS, tgI_7 hg R S h3, obS, b6, hcI]; rcases r6 with r | r <;> simp [r]
        · unfold p_X3_of
          rw [p1, pcI, if_neg hb1, if_neg (show ¬ (6 : Int32) = 0 by decide), if_neg (show ¬ (6 : Int32) = 1 by decide), if_neg (show ¬ (6 : Int32) = 2 by decide), if_neg (show ¬ (6 : Int32) = 3 by decide), if_neg (show ¬ (6 : Int32) = 4 by decide), if_neg (show ¬ (6 : Int32) = 5 by decide), if_pos rfl, mRow_0, obS, c55, q1 _ (by omega), obS]
      by_cases w7 : w = 7
      · subst w7
        refine H (S.2.2.2.1 0 (67 + i)) S _ ?_ hself ?_ sself
        · unfold f_X0_of
          dsimp only [sIald, sCallI]
          rw [hx_chk hg, f1, hcI, if_neg hb1, xgN_23 hg, obS, tgN_5 hg R S h3, obS, trl_5 hg R S h3 (by omega), obS, e19, fx_isIn, hb, hcI, if_pos hb0, if_neg (show ¬ (7 : Int32) = 0 by decide), if_neg (show ¬ (7 : Int32) = 1 by decide), if_neg (show ¬ (7 : Int32) = 2 by decide), if_neg (show ¬ (7 : Int32) = 3 by decide), if_neg (show ¬ (7 : Int32) = 4 by decide), if_neg (show ¬ (7 : Int32) = 5 by decide), if_neg (show ¬ (7 : Int32) = 6 by decide), if_pos rfl, xgN_23 hg]
          rw [obS, tgI_8 hg R S h3, obS, b7, hcI]; rcases r7 with r | r <;> simp [r]
        · unfold p_X3_of
          rw [p1, pcI, if_neg hb1, if_neg (show ¬ (7 : Int32) = 0 by decide), if_neg (show ¬ (7 : Int32) = 1 by decide), if_neg (show ¬ (7 : Int32) = 2 by decide), if_neg (show ¬ (7 : Int32) = 3 by decide), if_neg (show ¬ (7 : Int32) = 4 by decide), if_neg (show ¬ (7 : Int32) = 5 by decide), if_neg (show ¬ (7 : Int32) = 6 by decide), if_pos rfl, mRow_0, obS, c67, q1 _ (by omega), obS]
      by_cases w8 : w = 8
      · subst w8
        refine H (wEats (S.2.2.2.1 0) i) (hRw S 2 f8) _ ?_ (hSame.rw2 S f8) ?_ S8
        · unfold f_X0_of
          dsimp only [sIald, sCallI]
          rw [hx_chk hg, f1, hcI, if_neg hb1, xgN_23 hg, obS, tgN_5 hg R S h3, obS, trl_5 hg R S h3 (by omega), obS, e19, fx_isIn, hb, hcI, if_pos hb0, if_neg (show ¬ (8 : Int32) = 0 by decide), if_neg (show ¬ (8 : Int32) = 1 by decide), if_neg (show ¬ (8 : Int32) = 2 by decide), if_neg (show ¬ (8 : Int32) = 3 by decide), if_neg (show ¬ (8 : Int32) = 4 by decide), if_neg (show ¬ (8 : Int32) = 5 by decide), if_neg (show ¬ (8 : Int32) = 6 by decide), if_neg (show ¬ (8 : Int32) = 7 by decide), if_pos rfl, xgN_23 hg]
          rw [obS, ht_chk hg R S h3, e8, hcI]
        · unfold p_X3_of
          rw [p1, pcI, if_neg hb1, if_neg (show ¬ (8 : Int32) = 0 by decide), if_neg (show ¬ (8 : Int32) = 1 by decide), if_neg (show ¬ (8 : Int32) = 2 by decide), if_neg (show ¬ (8 : Int32) = 3 by decide), if_neg (show ¬ (8 : Int32) = 4 by decide), if_neg (show ¬ (8 : Int32) = 5 by decide), if_neg (show ¬ (8 : Int32) = 6 by decide), if_neg (show ¬ (8 : Int32) = 7 by decide), if_pos rfl, p8, pcI]
      by_cases w9 : w = 9
      · subst w9
        refine H (wStrong (S.2.2.2.1 0) i) (hRw S 2 f9) _ ?_ (hSame.rw2 S f9) ?_ S9
        · unfold f_X0_of
          dsimp only [sIald, sCallI]
          rw [hx_chk hg, f1, hcI, if_neg hb1, xgN_23 hg, obS, tgN_5 hg R S h3, obS, trl_5 hg R S h3 (by omega), obS, e19, fx_isIn, hb, hcI, if_pos hb0, if_neg (show ¬ (9 : Int32) = 0 by decide), if_neg (show ¬ (9 : Int32) = 1 by decide), if_neg (show ¬ (9 : Int32) = 2 by decide), if_neg (show ¬ (9 : Int32) = 3 by decide), if_neg (show ¬ (9 : Int32) = 4 by decide), if_neg (show ¬ (9 : Int32) = 5 by decide), if_neg (show ¬ (9 : Int32) = 6 by decide), if_neg (show ¬ (9 : Int32) = 7 by decide), if_neg (show ¬ (9 : Int32) = 8 by decide), if_pos rfl, xgN_23 hg]
          rw [obS, ht_chk hg R S h3, e9, hcI]
        · unfold p_X3_of
          rw [p1, pcI, if_neg hb1, if_neg (show ¬ (9 : Int32) = 0 by decide), if_neg (show ¬ (9 : Int32) = 1 by decide), if_neg (show ¬ (9 : Int32) = 2 by decide), if_neg (show ¬ (9 : Int32) = 3 by decide), if_neg (show ¬ (9 : Int32) = 4 by decide), if_neg (show ¬ (9 : Int32) = 5 by decide), if_neg (show ¬ (9 : Int32) = 6 by decide), if_neg (show ¬ (9 : Int32) = 7 by decide), if_neg (show ¬ (9 : Int32) = 8 by decide), if_pos rfl, p9, pcI]
      by_cases w10 : w = 10
      · subst w10
        refine H (S.2.2.2.1 0 (79 + i)) S _ ?_ hself ?_ sself
        · unfold f_X0_of
          dsimp only [sIald, sCallI]
          rw [hx_chk hg, f1, hcI, if_neg hb1, xgN_23 hg, obS, tgN_5 hg R S h3, obS, trl_5 hg R S h3 (by omega), obS, e19, fx_isIn, hb, hcI, if_pos hb0, if_neg (show ¬ (10 : Int32) = 0 by decide), if_neg (show ¬ (10 : Int32) = 1 by decide), if_neg (show ¬ (10 : Int32) = 2 by decide), if_neg (show ¬ (10 : Int32) = 3 by decide), if_neg (show ¬ (10 : Int32) = 4 by decide), if_neg (show ¬ (10 : Int32) = 5 by decide), if_neg (show ¬ (10 : Int32) = 6 by decide), if_neg (show ¬ (10 : Int32) = 7 by decide), if_neg (show ¬ (10 : Int32) = 8 by decide), if_neg (show ¬ (10 : Int32) = 9 by decide), if_pos rfl, xgN_23 hg]
          rw [obS, tgN_2 hg R S h3, obS, trl_2 hg R S h3 (by omega), obS]
        · unfold p_X3_of
          rw [p1, pcI, if_neg hb1, if_neg (show ¬ (10 : Int32) = 0 by decide), if_neg (show ¬ (10 : Int32) = 1 by decide), if_neg (show ¬ (10 : Int32) = 2 by decide), if_neg (show ¬ (10 : Int32) = 3 by decide), if_neg (show ¬ (10 : Int32) = 4 by decide), if_neg (show ¬ (10 : Int32) = 5 by decide), if_neg (show ¬ (10 : Int32) = 6 by decide), if_neg (show ¬ (10 : Int32) = 7 by decide), if_neg (show ¬ (10 : Int32) = 8 by decide), if_neg (show ¬ (10 : Int32) = 9 by decide), if_pos rfl, mRow_0, obS, c79, q1 _ (by omega), obS]
      by_cases w70 : w = 70
      · subst w70
        refine H (wSlips (S.2.2.2.1 0) i 0 0) (hRw S 2 f10) _ ?_ (hSame.rw2 S f10) ?_ S10
        · unfold f_X0_of
          dsimp only [sIald, sCallI]
          rw [hx_chk hg, f1, hcI, if_neg hb1, xgN_23 hg, obS, tgN_5 hg R S h3, obS, trl_5 hg R S h3 (by omega), obS, e19, fx_isIn, hb, hcI, if_pos hb0, if_neg (show ¬ (70 : Int32) = 0 by decide), if_neg (show ¬ (70 : Int32) = 1 by decide), if_neg (show ¬ (70 : Int32) = 2 by decide), if_neg (show ¬ (70 : Int32) = 3 by decide), if_neg (show ¬ (70 : Int32) = 4 by decide), if_neg (show ¬ (70 : Int32) = 5 by decide), if_neg (show ¬ (70 : Int32) = 6 by decide), if_neg (show ¬ (70 : Int32) = 7 by decide), if_neg (show ¬ (70 : Int32) = 8 by decide), if_neg (show ¬ (70 : Int32) = 9 by decide), if_neg (show ¬ (70 : Int32) = 10 by decide), if_pos rfl, xgN_23 hg]
          rw [obS, ht_chk hg R S h3, e10, hcI]
        · unfold p_X3_of
          rw [p1, pcI, if_neg hb1, if_neg (show ¬ (70 : Int32) = 0 by decide), if_neg (show ¬ (70 : Int32) = 1 by decide), if_neg (show ¬ (70 : Int32) = 2 by decide), if_neg (show ¬ (70 : Int32) = 3 by decide), if_neg (show ¬ (70 : Int32) = 4 by decide), if_neg (show ¬ (70 : Int32) = 5 by decide), if_neg (show ¬ (70 : Int32) = 6 by decide), if_neg (show ¬ (70 : Int32) = 7 by decide), if_neg (show ¬ (70 : Int32) = 8 by decide), if_neg (show ¬ (70 : Int32) = 9 by decide), if_neg (show ¬ (70 : Int32) = 10 by decide), if_pos rfl, p10, pcI]
      refine H (-2) S _ ?_ hself ?_ sself
      · unfold f_X0_of
        dsimp only [sIald, sCallI]
        rw [hx_chk hg, f1, hcI, if_neg hb1, xgN_23 hg, obS, tgN_5 hg R S h3, obS, trl_5 hg R S h3 (by omega), obS, e19, fx_isIn, hb, hcI, if_pos hb0, if_neg w0, if_neg w1, if_neg w2, if_neg w3, if_neg w4, if_neg w5, if_neg w6, if_neg w7, if_neg w8, if_neg w9, if_neg w10, if_neg w70]
      · unfold p_X3_of
        rw [p1, pcI, if_neg hb1, if_neg w0, if_neg w1, if_neg w2, if_neg w3, if_neg w4, if_neg w5, if_neg w6, if_neg w7, if_neg w8, if_neg w9, if_neg w10, if_neg w70, mRow_0, obS, c19, q1 _ (by omega), obS, e19, px_isIn, hb, pcI, if_pos hb0]
