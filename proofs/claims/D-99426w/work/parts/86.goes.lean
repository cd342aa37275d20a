/-! thinking days ahead -/
set_option maxRecDepth 100000
theorem hInv.think {A : hA} {R R' : sMem} {S S1 : hS} {s' : mSt} {g : Nat → Nat} {b L : Nat} {xs : Nat → Int32} (h : hInv A R S g b L xs) (hR : sub2 R R') (hc : hCl A R') (e1 : S1.1 = S.1) (e2 : S1.2.1 1 = S.2.1 1) (e3 : S1.2.2.1 = S.2.2.1) (eT : ∀ k, k ≠ 1 → S1.2.2.2.1 k = S.2.2.2.1 k) (eH : S1.2.2.2.2.1 0 = S.2.2.2.2.1 0) (m1 : ∀ k, k ≠ 27 → s'.1 k = S.2.2.2.2.2.1 k) (m2 : ∀ k, k < 8 → k ≠ 3 → s'.2 k = S.2.2.2.2.2.2 k) : hInv A R' (hM S1 s') g b L xs := by
  have T : ∀ k, k ≠ 1 → (hM S1 s').2.2.2.1 k = S.2.2.2.1 k := eT
  have F : ∀ k, (hM S1 s').1 k = S.1 k := fun k => congrFun e1 k
  obtain ⟨h1, h2, h3, h4, h5⟩ := h
  refine ⟨h1.fr hR hc eH ?_ (by rw [T 0 (by omega)]; exact wAl.refl _) (by rw [T 0 (by omega)]; exact h1.2.2.2.2.1) (fun k hk => F k), h2.fr ⟨F 1, F 14, F 15⟩ e2 (m2 7 (by omega) (by omega)) ⟨m1 16 (by omega), m1 23 (by omega), m1 25 (by omega)⟩, h3.fr (F 28) (m1 4 (by omega)) (m2 2 (by omega) (by omega)) e3 (fun k hk => T k (by omega)) (by rw [T 0 (by omega)]; exact wAl.refl _), h4.fr hR (fun k hk => F k) (m1 5 (by omega)) (m2 1 (by omega) (by omega)) (T 2 (by omega)), h5.fr hR rfl (fun k hk => F k)⟩
  rw [T 0 (by omega)]
  show _ = s'.2 0
  rw [m2 0 (by omega) (by omega)]
  exact h1.2.2.2.1
theorem f_cond2 {A : hA} (hg : hG A) {R : sMem} (hc : hCl A R) (S : hS) {a : Nat} (ha : R.2.2.2 a = some (sLam 2 [.ref (hTa A 1)])) (h1 : 1 < A.2.2) {t : Nat → Int32} (ht : S.2.2.2.1 1 = t) (hw : wAct t) {i : Nat} (hi : i < hN t) : f_cond a (nI i) (hMem A R S) = some (.inl (some (.int (b01 (decide (t (43 + i) ≠ -1))))), hMem A R S) := by
  have hn := hw.n
  have at_ := hR_at hc S ha
  have e : f_cond a (nI i) (hMem A R S) = f_X0_lambda_goes_0 (hTa A 1) (nI i) (hMem A R S) := by
    unfold f_cond
    rw [at_]
    rfl
  obtain ⟨c, hc1, hc2, hc3, hc4⟩ := hCo_at hw.2 hn hi
  have l4 := hr_ld4 hg R S h1 (p := i) (by omega)
  rw [ht, hc2] at l4
  rw [e]
  unfold f_X0_lambda_goes_0
  rw [tgN_4 hg R S h1, obS]
  dsimp only [sIald]
  rw [l4, obS]
  by_cases q : c = 0
  · have l : nI c ≤ 0 := by rw [q]; decide
    rw [if_pos l, hc4.mpr q]
    rfl
  · have l : ¬ nI c ≤ 0 := nI_nle (by omega) (by omega)
    have hne : t (43 + i) ≠ -1 := fun h => q (hc4.mp h)
    rw [if_neg l]
    simp [hne, b01, sBool]
theorem goes_loop {A : hA} (hg : hG A) (m n : Nat) (hn : n ≤ 99) {w : Int32} (hw4 : w = 0 ∨ w = 1 ∨ w = 2 ∨ w = 3) : ∀ (j f f' k : Nat) (R : sMem) (S : hS) (s : mSt) (t : Nat → Int32), k + j = n → j < f → j < f' → hCl A R → wAct t → S.2.2.2.1 1 = t → s.2 0 = t → S.2.2.2.2.1 1 = 1 → s.1 27 = 0 → S.2.2.2.1 0 571 = t 571 → hTr0 S t → hReps R S.1 16 18 19 20 29 31 34 35 t → ∃ (R' : sMem) (S' : hS) (s' : mSt) (v : Int32), f_X0_goes_L36 (hX A) (nI n) w (hTa A 1) f (nI k) (hMem A R S) = some (.inl (some (.int v)), hMem A R' S') ∧ p_X3_goes_L55 m (nI n) w f' (nI k) s = some (some (.int v), s') ∧ hCl A R' ∧ hEx (16 * j + 1) (192 * j + 1) R R' ∧ S'.1 = S.1 ∧ S'.2.1 1 = S.2.1 1 ∧ S'.2.2.1 = S.2.2.1 ∧ (∀ k, k ≠ 1 → S'.2.2.2.1 k = S.2.2.2.1 k) ∧ S'.2.2.2.2 = S.2.2.2.2 ∧ s'.1 = s.1 ∧ (∀ p, p < 571 → s'.2 0 p = s.2 3 p) ∧ (∀ p, 571 ≤ p → s'.2 0 p = t p) ∧ ∀ i, 1 ≤ i → i < 8 → s'.2 i = s.2 i := by
  have h1 : 1 < A.2.2 := by have := hg.2.2.2; omega
  have d10 : ¬ (1 : Int32) = 0 := by decide
  have d20 : ¬ (2 : Int32) = 0 := by decide
  have d21 : ¬ (2 : Int32) = 1 := by decide
  have d30 : ¬ (3 : Int32) = 0 := by decide
  have d31 : ¬ (3 : Int32) = 1 := by decide
  have d32 : ¬ (3 : Int32) = 2 := by decide
  intro j
  induction j with
  | zero =>
    intro f f' k R S s t hk hf hf' hc hw ht hs hth h27 h571 htr hrep
    obtain ⟨f, rfl⟩ : ∃ q, f = q + 1 := ⟨f - 1, by omega⟩
    obtain ⟨f', rfl⟩ : ∃ q, f' = q + 1 := ⟨f' - 1, by omega⟩
    have hkn : k = n := by omega
    subst hkn
    have hle : nI k ≤ nI k := Int32.le_refl _
    have bk := fun y => px_back m y s
    have fin : ∀ (v : Int32) (R' : sMem), hCl A R' → hEx 1 1 R R' → f_X0_goes_L36 (hX A) (nI k) w (hTa A 1) (f + 1) (nI k) (hMem A R S) = some (.inl (some (.int v)), hMem A R' S) → p_X3_goes_L55 m (nI k) w (f' + 1) (nI k) s = p_X3_goes_L119 m v sFuel 0 s → ∃ (R' : sMem) (S' : hS) (s' : mSt) (v : Int32), f_X0_goes_L36 (hX A) (nI k) w (hTa A 1) (f + 1) (nI k) (hMem A R S) = some (.inl (some (.int v)), hMem A R' S') ∧ p_X3_goes_L55 m (nI k) w (f' + 1) (nI k) s = some (some (.int v), s') ∧ hCl A R' ∧ hEx (16 * 0 + 1) (192 * 0 + 1) R R' ∧ S'.1 = S.1 ∧ S'.2.1 1 = S.2.1 1 ∧ S'.2.2.1 = S.2.2.1 ∧ (∀ k, k ≠ 1 → S'.2.2.2.1 k = S.2.2.2.1 k) ∧ S'.2.2.2.2 = S.2.2.2.2 ∧ s'.1 = s.1 ∧ (∀ p, p < 571 → s'.2 0 p = s.2 3 p) ∧ (∀ p, 571 ≤ p → s'.2 0 p = t p) ∧ ∀ i, 1 ≤ i → i < 8 → s'.2 i = s.2 i := fun v R' hc' hex e1 e2 => by
      refine ⟨R', S, _, v, e1, e2.trans (bk v), hc', hex, rfl, rfl, rfl, fun _ _ => rfl, rfl, mrs_1 _ _ _, fun p hp => ?_, fun p hp => ?_, fun i i1 i8 => mrs_ne _ _ (by omega)⟩
      · rw [mrs_same]
        exact if_pos hp
      · rw [mrs_same, ← hs]
        exact if_neg (by omega)
    have ld : ∀ p, p < 2355 → qAld s 0 (nI p) = some (t p) := fun p hp => by rw [← hs]; exact qld_0 s hp
    have l4 : qAld s 0 4 = some (t 4) := ld 4 (by omega)
    have l2 : qAld s 0 2 = some (t 2) := ld 2 (by omega)
    have l1 : qAld s 0 1 = some (t 1) := ld 1 (by omega)
    rcases hw4 with rfl | rfl | rfl | rfl
    · refine fin (t 4) R hc ((hEx.refl R).le (by omega) (by omega)) ?_ ?_
      · simp only [f_X0_goes_L36, if_pos hle, if_true, tgI_14 hg R S h1, ht, obS]
      · simp only [p_X3_goes_L55, if_pos hle, if_true, mRow_0, obS, l4]
    · refine fin (t 2) R hc ((hEx.refl R).le (by omega) (by omega)) ?_ ?_
      · simp only [f_X0_goes_L36, if_pos hle, if_neg d10, if_true, tgI_12 hg R S h1, ht, obS]
      · simp only [p_X3_goes_L55, if_pos hle, if_neg d10, if_true, mRow_0, obS, l2]
    · refine fin (t 1) R hc ((hEx.refl R).le (by omega) (by omega)) ?_ ?_
      · simp only [f_X0_goes_L36, if_pos hle, if_neg d20, if_neg d21, if_true, tgI_9 hg R S h1, ht, obS]
      · simp only [p_X3_goes_L55, if_pos hle, if_neg d20, if_neg d21, if_true, mRow_0, obS, l1]
    · have n12 := hw.n
      have e571 : t 571 = nI (hN t) := hw.1.1.1.1
      have nw := hMem_new hc S (sLam 2 [.ref (hTa A 1)]) 1
      have hc' := hc.new (sLam 2 [.ref (hTa A 1)]) 1
      have so := f_setOf (fun i => decide (t (43 + i) ≠ -1)) (hMem A (sNew R (sLam 2 [.ref (hTa A 1)]) 1) S) R.2.1 n12 (fun i hi => f_cond2 hg hc' S (sNew_at R _ 1) h1 ht hw hi)
      have sp := px_spunOnes m s n12 (by rw [hs]; exact e571)
      rw [hs] at sp
      refine fin (nI (cntB (fun i => decide (t (43 + i) ≠ -1)) (hN t))) (sNew R (sLam 2 [.ref (hTa A 1)]) 1) hc' (hEx.new hc _ 1) ?_ ?_
      · have nl : ∀ K, sNewL (hMem A R S) 2 [.ref (hTa A 1)] K = K R.2.1 (hMem A (sNew R (sLam 2 [.ref (hTa A 1)]) 1) S) := fun K => by
          unfold sNewL
          show K R.2.1 (sNew (hMem A R S) (sLam 2 [.ref (hTa A 1)]) 1) = _
          rw [nw]
        simp only [f_X0_goes_L36, if_pos hle, if_neg d30, if_neg d31, if_neg d32, xgI_21 hg, h571, e571, obS, nl, so, eq_self, ↓reduceIte, hcI, hcN, hcV, obS, if_true, if_false, f_bc, bc_set _ n12]
      · simp only [p_X3_goes_L55, if_pos hle, if_neg d30, if_neg d31, if_neg d32, sp, pcI]
  | succ j ih =>
    intro f f' k R S s t hk hf hf' hc hw ht hs hth h27 h571 htr hrep
    obtain ⟨f, rfl⟩ : ∃ q, f = q + 1 := ⟨f - 1, by omega⟩
    obtain ⟨f', rfl⟩ : ∃ q, f' = q + 1 := ⟨f' - 1, by omega⟩
    have hle : ¬ nI n ≤ nI k := fun q => by have := (nI_leI (by omega) (by omega)).mp q; omega
    have tel : hTel R S t := ⟨hrep.1, hrep.2.1, hrep.2.2.1⟩
    obtain ⟨R2, g2, fg, ex2, hc2⟩ := f_goesBy hg hc h1 ht tel hw (tr := false) (Or.inr ⟨rfl, hth⟩) htr h571
    obtain ⟨q, hq, hL⟩ := tel.1
    obtain ⟨s2, pd, S2⟩ := px_day m s (tr := false) h27 (R := R) (q := q) (by rw [hs]; exact hL) (by rw [hs]; exact hw)
    rw [hs] at S2
    obtain ⟨wd, al⟩ := wAct_day false hw
    have bq := wDay_q hw
    have hi5 : ∀ p, 571 ≤ p → wDay false t p = t p := fun p hp => by
      by_cases c : 871 ≤ p ∧ p < 1471
      · exact bq p c.1 c.2
      · exact al p (by omega)
    have N0 : (hRw (hT S 1 (wDay false t)) 2 g2).2.2.2.1 0 = S.2.2.2.1 0 := by rw [hRw_3, hT_ne _ _ (by omega)]
    obtain ⟨R', S', s', v, e1, e2, c1, c2, c3, c4, c5, c6, c7, c8, c9, c10, c11⟩ := ih f f' (k + 1) R2 (hRw (hT S 1 (wDay false t)) 2 g2) s2 (wDay false t) (by omega) (by omega) (by omega) hc2 wd (by rw [hRw_3, hT_same]) S2.2.1 hth (by rw [S2.1]; exact h27) (by rw [N0, hi5 571 (by omega)]; exact h571) (fun i hi => by rw [N0, hi5 _ (by omega)]; exact htr i hi) ((hrep.ex ex2.1).al hw.1 al)
    refine ⟨R', S', s', v, ?_, ?_, c1, (ex2.trans c2).le (by omega) (by omega), c3, ?_, c5, fun k hk => ?_, c7, c8.trans S2.1, fun p hp => ?_, fun p hp => ?_, fun i i1 i8 => (c11 i i1 i8).trans (S2.2.2 i i1 i8)⟩
    · simp only [f_X0_goes_L36, if_neg hle, ht_chk hg R S h1, fg, eq_self, ↓reduceIte, hcI, hcN, hcV, obS, if_true, if_false, nI_1, e1]
    · simp only [p_X3_goes_L55, if_neg hle, pd, pcV, nI_1, e2]
    · rw [c4, hRw_ne _ _ (by omega), hT_2]
    · rw [c6 k hk, hRw_3, hT_ne _ _ hk]
    · rw [c9 p hp, S2.2.2 3 (by omega) (by omega)]
    · rw [c10 p hp, hi5 p hp]
