/-! the image taken -/
set_option maxRecDepth 100000
theorem f_takes {A : hA} (hg : hG A) (R : sMem) (S : hS) {q16 q18 q19 q20 q29 q31 q34 q35 : Nat} (r16 : S.1 16 = .ref q16) (r18 : S.1 18 = .ref q18) (r19 : S.1 19 = .ref q19) (r20 : S.1 20 = .ref q20) (r29 : S.1 29 = .ref q29) (r31 : S.1 31 = .ref q31) (r34 : S.1 34 = .ref q34) (r35 : S.1 35 = .ref q35) {u : Nat → Int32} (hu : ∀ p, p < 2355 → u p = S.2.2.2.1 0 p) : f_X0_takesAll (hX A) (hMem A R S) = some (.inl none, hMem A R (hF (hF (hF (hF (hF (hF (hF (hF (hF (hT S 2 u) 38 (.int (S.2.2.2.1 0 571))) 39 (.ref q18)) 40 (.ref q19)) 41 (.ref q29)) 42 (.ref q20)) 43 (.ref q31)) 44 (.ref q34)) 45 (.ref q35)) 46 (.ref q16))) := by
  have h0 : 0 < A.2.2 := by have := hg.2.2.2; omega
  have h2 : 2 < A.2.2 := by have := hg.2.2.2; omega
  have c1 := hq_cp hg R S (ka := 3) (kb := 7) (o := 581) (n := 12) (i := 2) (j := 0) (by omega) (by omega)
  have c2 := hq_cp hg R (hT S 2 (cpO 581 12 (S.2.2.2.1 0) (S.2.2.2.1 2))) (ka := 4) (kb := 8) (o := 871) (n := 600) (i := 2) (j := 0) (by omega) (by omega)
  rw [hT_same, hT_ne _ _ (show 0 ≠ 2 by omega), hT_hT] at c2
  have bec := f_become hg R (hT S 2 (cpO 871 600 (S.2.2.2.1 0) (cpO 581 12 (S.2.2.2.1 0) (S.2.2.2.1 2)))) (i := 2) (j := 0) h2 h0 (by omega) (t' := u) (fun p hp => by rw [hT_ne _ _ (by omega), hu p (by omega)]) (fun e => by omega) (fun _ p hp => by
    rw [hT_same, hu p (by omega)]
    unfold cpO
    by_cases c : 871 ≤ p ∧ p < 871 + 600
    · rw [if_pos c]
    · rw [if_neg c, if_pos (by omega)])
  rw [hT_hT] at bec
  unfold f_X0_takesAll
  rw [xgN_22 hg, obS, xgN_36 hg, obS, c1]
  simp only [hcV]
  rw [xgN_26 hg, obS, xgN_37 hg, obS, c2]
  simp only [hcV]
  rw [xgN_25 hg, obS, xgN_23 hg, obS, ht_chk hg _ _ h2, bec]
  simp (disch := omega) only [hcV, xgI_21 hg, obS, hT_ne, xp_38 hg, xp_39 hg, xp_40 hg, xp_41 hg, xp_42 hg, xp_43 hg, xp_44 hg, xp_45 hg, xp_46 hg, xgN_16 hg, xgN_18 hg, xgN_19 hg, xgN_20 hg, xgN_29 hg, xgN_31 hg, xgN_34 hg, xgN_35 hg, hF_ne, hT_1, r16, r18, r19, r20, r29, r31, r34, r35, hvN_ref]
