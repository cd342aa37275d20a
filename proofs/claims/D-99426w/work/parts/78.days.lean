/-! days -/
set_option maxRecDepth 100000
theorem inB_lo {a : Int32} {l k : Nat} (hl : l < 2 ^ 31) (hk : k < 2 ^ 31) (h : inB a (nI l) (nI k) = true) : ∃ i, l ≤ i ∧ i ≤ k ∧ a = nI i := by
  unfold inB at h
  simp only [Bool.and_eq_true, Bool.not_eq_true', decide_eq_false_iff_not] at h
  obtain ⟨h1, h2⟩ := h
  have h0 : ¬ a < 0 := fun q => h1 (by
    have e := nI_toInt hl
    rw [Int32.lt_iff_toInt_lt] at q ⊢
    have a0 : (0 : Int32).toInt = 0 := by decide
    omega)
  obtain ⟨j, hj, rfl⟩ := nI_of h0
  rw [nI_ltI (by omega) (by omega)] at h1 h2
  exact ⟨j, by omega, by omega, rfl⟩
theorem sub_swap (a l g : Int32) : a - l + g = a + g - l := by
  rw [Int32.sub_eq_add_neg, Int32.sub_eq_add_neg, Int32.add_assoc, Int32.add_comm (-l) g, ← Int32.add_assoc]
theorem days_loop {g : Nat → Nat} {b L : Nat} {xs : Nat → Int32} (m n x0 : Nat) (hn : n ≤ 60) (l0 : Int32) : ∀ (j f f' k : Nat) (A : hA) (R : sMem) (S : hS) (s : mSt), k + j = n → j < f → j < f' → hX A = x0 → hInv A R (hM S s) g b L xs → ∃ (A' : hA) (R' : sMem) (S' : hS) (s' : mSt) (v : Int32), f_X0_days_L31 x0 (nI n) f (s.2 0 4 - l0) (nI k) (hMem A R S) = some (.inl (some (.int v)), hMem A' R' S') ∧ p_X3_days_L35 m (nI n) l0 f' (nI k) s = some (some (.int v), s') ∧ hInv A' R' (hM S' s') g b L xs ∧ S'.2.2.2.2.2 = S.2.2.2.2.2 ∧ A'.1 = A.1 ∧ hX A' = hX A ∧ A'.2.1 9 = A.2.1 9 ∧ hEx (24 * j) (792 * j) R R' := by
  intro j
  induction j with
  | zero =>
    intro f f' k A R S s hk hf hf' hx h
    obtain ⟨f, rfl⟩ : ∃ q, f = q + 1 := ⟨f - 1, by omega⟩
    obtain ⟨f', rfl⟩ : ∃ q, f' = q + 1 := ⟨f' - 1, by omega⟩
    have hkn : k = n := by omega
    subst hkn
    have hle : k ≤ k := Nat.le_refl _
    have q4 : qAld s 0 4 = some (s.2 0 4) := qld_0 s (p := 4) (by omega)
    refine ⟨A, R, S, s, s.2 0 4 - l0, ?_, ?_, h, rfl, rfl, rfl, rfl, hEx.refl R⟩
    · simp (disch := omega) only [f_X0_days_L31, nI_leI, hle, eq_self, ↓reduceIte, hcI, hcN, hcV, obS, if_true, if_false]
    · simp (disch := omega) only [p_X3_days_L35, nI_leI, hle, ↓reduceIte, mRow_0, obS, q4]
  | succ j ih =>
    intro f f' k A R S s hk hf hf' hx h
    obtain ⟨f, rfl⟩ : ∃ q, f = q + 1 := ⟨f - 1, by omega⟩
    obtain ⟨f', rfl⟩ : ∃ q, f' = q + 1 := ⟨f' - 1, by omega⟩
    have hle : ¬ n ≤ k := by omega
    obtain ⟨A1, R1, S1, s1, fk, pk, hI1, hm, a1, a2, a3, ex, T0, m0, m27⟩ := j_keeps h m
    have hg1 := hI1.1.1
    have h3 : 0 < A1.2.2 := by have := hg1.2.2.2; omega
    have hs0 : s.2 0 = S.2.2.2.1 0 := h.t0
    have hw : wAct (S.2.2.2.1 0) := h.act
    have m0' : s1.2 0 = S.2.2.2.1 0 := by rw [m0, hs0]
    have tel : hTel R1 S1 (S.2.2.2.1 0) := by
      have := hI1.tel
      have e : (hM S1 s1).2.2.2.1 0 = S.2.2.2.1 0 := T0
      rw [e] at this
      exact this
    obtain ⟨R2, g2, fg, ex2, hc2⟩ := f_goesBy hg1 hI1.1.2.1 h3 T0 tel hw hI1.mode (fun i _ => by rw [T0]) (by rw [T0])
    obtain ⟨q, hq, hL⟩ := tel.1
    obtain ⟨s2, pd, S2⟩ := px_day m s1 (tr := true) m27 (R := R1) (q := q) (by rw [m0']; exact hL) (by rw [m0']; exact hw)
    rw [m0'] at S2
    obtain ⟨wd, al⟩ := wAct_day true hw
    have hI2 := hI1.act2 (t' := wDay true (S.2.2.2.1 0)) (by rw [T0]; exact al) wd hc2 ex2.1 S2 g2
    obtain ⟨A', R', S', s', v, e1, e2, hI3, hm3, b1, b2, b3, ex3⟩ := ih f f' (k + 1) A1 R2 (hRw (hT S1 0 (wDay true (S.2.2.2.1 0))) 2 g2) s2 (by omega) (by omega) (by omega) (by rw [a2]; exact hx) hI2
    have e4 : s2.2 0 4 - l0 = s.2 0 4 - l0 + wGone true (S.2.2.2.1 0) := by
      rw [S2.2.1, wDay_4 true hw, hs0, sub_swap]
    rw [e4] at e1
    refine ⟨A', R', S', s', v, ?_, ?_, hI3, ?_, b1.trans a1, b2.trans a2, b3.trans a3, ((ex.trans ex2).trans ex3).le (by omega) (by omega)⟩
    · have hx1 : x0 = hX A := hx.symm
      have hx2 : x0 = hX A1 := by rw [a2]; exact hx1
      have k1 : ∀ o, sChk (hMem A R S) 0 x0 o = o := fun o => by
        rw [hx1]
        exact hx_chk h.1.1 R S o
      have k2 : sGetN (hMem A1 R1 S1) 0 23 x0 = some (hTa A1 0) := by rw [hx2]; exact xgN_23 hg1 R1 S1
      rw [← hx1] at fk
      simp (disch := omega) only [f_X0_days_L31, nI_leI, hle, eq_self, ↓reduceIte, hcI, hcN, hcV, obS, if_true, if_false, k1, fk, k2, ht_chk hg1 R1 S1 h3, fg, nI_1, e1]
    · simp (disch := omega) only [p_X3_days_L35, nI_leI, hle, ↓reduceIte, pk, pcV, pd, nI_1, e2]
    · rw [hm3, hRw_3, hT_5, hm]
theorem j_days {A : hA} {R : sMem} {S : hS} {g : Nat → Nat} {b L : Nat} {xs : Nat → Int32} (h : hInv A R S g b L xs) (v : Int32) : hOp A R S g b L xs (f_X0_days (hX A) v) (f_X3_days (A.2.1 9) v) := by
  have hg := h.1.1
  have h3 : 0 < A.2.2 := by have := hg.2.2.2; omega
  have ht := h.t0
  have hq : ∀ (R : sMem), R.1 ≤ A.2.1 9 → ∀ s : mSt, f_X3_days (A.2.1 9) v (mPut R (A.2.1 9) s) = lft R (A.2.1 9) (p_X3_days (A.2.1 9) v s) := fun R hR s => q_X3_days R _ hR v s
  have q0 : qAld S.2.2.2.2.2 0 0 = some (S.2.2.2.1 0 0) := by rw [← ht]; exact qld_0 _ (p := 0) (by omega)
  have q4 : qAld S.2.2.2.2.2 0 4 = some (S.2.2.2.1 0 4) := by rw [← ht]; exact qld_0 _ (p := 4) (by omega)
  cases hv : inB v 1 60 with
  | false =>
    refine hOp.read0 h hq (v := -1) ?_ ?_
    · simp only [f_X0_days, fx_isIn, hv, eq_self, ↓reduceIte, hcI, hcN, hcV, obS, if_true, if_false, b01_f]
    · simp only [p_X3_days, px_isIn, hv, pcI, b01_f, ↓reduceIte]
  | true =>
    by_cases hd : S.2.2.2.1 0 0 + v ≤ 9999
    · have hv' : inB v (nI 1) (nI 60) = true := hv
      obtain ⟨n, n1, n60, rfl⟩ := inB_lo (by omega) (by omega) hv'
      have hI1 : hInv A R (hM S S.2.2.2.2.2) g b L xs := h
      obtain ⟨A', R', S', s', x, e1, e2, hI, hm, b1, b2, b3, ex⟩ := days_loop (A.2.1 9) n (hX A) n60 (S.2.2.2.1 0 4) n sFuel sFuel 0 A R S S.2.2.2.2.2 (by omega) (by have : 100 < sFuel := (by decide); omega) (by have : 100 < sFuel := (by decide); omega) rfl hI1
      have z : S.2.2.2.2.2.2 0 4 - S.2.2.2.1 0 4 = 0 := by rw [ht]; exact Int32.sub_self _
      rw [z] at e1
      have e1' : f_X0_days_L31 (hX A) (nI n) sFuel 0 0 (hMem A R S) = some (.inl (some (.int x)), hMem A' R' S') := e1
      have e2' : p_X3_days_L35 (A.2.1 9) (nI n) (S.2.2.2.1 0 4) sFuel 0 S.2.2.2.2.2 = some (some (.int x), s') := e2
      refine hOp.write2 b1 b2 b3 hq (v := x) (R' := R') (S1 := S') ?_ hm (ex.le (by omega) (by omega)) ?_ hI
      · simp (disch := omega) only [f_X0_days, fx_isIn, hv, eq_self, ↓reduceIte, hcI, hcN, hcV, obS, if_true, if_false, b01_t, xgN_23 hg, tgI_11 hg, hd, e1']
      · simp only [p_X3_days, px_isIn, hv, pcI, b01_t, ↓reduceIte, mRow_0, obS, q0, q4, hd, e2']
    · refine hOp.read0 h hq (v := -1) ?_ ?_
      · simp (disch := omega) only [f_X0_days, fx_isIn, hv, eq_self, ↓reduceIte, hcI, hcN, hcV, obS, if_true, if_false, b01_t, xgN_23 hg, tgI_11 hg, hd]
      · simp only [p_X3_days, px_isIn, hv, pcI, b01_t, ↓reduceIte, mRow_0, obS, q0, hd]
/-- undoing -/
theorem px_undo (m : Nat) (s : mSt) {u : Nat} (hu : u < 6) : p_X3_undo_L21 m sFuel 0 (mSet s 4 (nI u)) = some (some (.int 1), mRowSet (mSet s 4 (nI u)) 0 (fun p => if p < 571 then s.2 2 (571 * u + p) else s.2 0 p)) := by
  have := lp_F (fun f k => p_X3_undo_L21 m f (nI k) (mRowSet (mSet s 4 (nI u)) 0 (fun p => if p < k then s.2 2 (571 * u + p) else s.2 0 p))) 571 (some (some (.int 1), mRowSet (mSet s 4 (nI u)) 0 (fun p => if p < 571 then s.2 2 (571 * u + p) else s.2 0 p))) ?_ ?_ sFuel (by decide)
  · have e0 : (fun p => if p < 0 then s.2 2 (571 * u + p) else s.2 0 p) = (mSet s 4 (nI u)).2 0 := by
      funext p
      rw [if_neg (by omega), ms_2]
    have h2 : p_X3_undo_L21 m sFuel (nI 0) (mRowSet (mSet s 4 (nI u)) 0 (fun p => if p < 0 then s.2 2 (571 * u + p) else s.2 0 p)) = _ := this
    rw [e0, mrs_self] at h2
    exact h2
  · intro f k hk
    have hk' : ¬ 571 ≤ k := by omega
    have eu : upd (fun p => if p < k then s.2 2 (571 * u + p) else s.2 0 p) k (s.2 2 (571 * u + k)) = fun p => if p < k + 1 then s.2 2 (571 * u + p) else s.2 0 p := by
      funext p
      unfold upd
      by_cases h1 : p = k
      · rw [if_pos h1, if_pos (by omega), h1]
      · rw [if_neg h1]
        dsimp only
        by_cases h2 : p < k
        · rw [if_pos h2, if_pos (by omega)]
        · rw [if_neg h2, if_neg (by omega)]
    have c1 : (571 : Int32) * nI u + nI k = nI (571 * u + k) := by
      show nI 571 * nI u + _ = _
      rw [pk_mul, nI_add]
    have hkl : ¬ (571 : Int32) ≤ nI k := fun q => hk' ((nI_leI (a := 571) (by omega) (by omega)).mp q)
    simp (disch := omega) only [p_X3_undo_L21, hkl, ↓reduceIte, mRow_0, mRow_2, obS, qg, mrs_1, ms_same, c1, qld_2, mrs_ne, ms_2, qst_0, mrs_same, mrs_mrs, eu, nI_1]
  · intro f
    have hk' : (571 : Int32) ≤ nI 571 := by decide
    simp only [p_X3_undo_L21, hk', ↓reduceIte]
