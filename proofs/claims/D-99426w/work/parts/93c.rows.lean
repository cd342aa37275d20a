/-! scarf, knot, own: both sides -/
set_option maxRecDepth 100000
theorem j_scarf {A : hA} {R : sMem} {S : hS} {g : Nat → Nat} {b L : Nat} {xs : Nat → Int32} (h : hInv A R S g b L xs) (v : Int32) : hOp A R S g b L xs (f_X0_scarf (hX A) v) (f_X3_scarf (A.2.1 9) v) := by
  have hg := h.1.1
  have hc := h.1.2.1
  have ht := h.t0
  have hst := h.act.1
  have hq : ∀ (R : sMem), R.1 ≤ A.2.1 9 → ∀ s : mSt, f_X3_scarf (A.2.1 9) v (mPut R (A.2.1 9) s) = lft R (A.2.1 9) (p_X3_scarf (A.2.1 9) v s) := fun R hR s => q_X3_scarf R _ hR v s
  obtain ⟨w1, w2, w3, w4, w5, w6, w7, w8, w9⟩ := hst
  obtain ⟨-, -, -, -, ⟨q4, r4, b4⟩, ⟨q5, r5, b5⟩, ⟨q6, r6, b6⟩, q7, r7, b7⟩ := h.reps
  have lq := fun (S' : hS) => fx_len0 hc S' b6
  obtain ⟨f, bf, ef⟩ := b6
  have e579 : S.2.2.2.1 0 579 = nI (hSc (S.2.2.2.1 0)) := w7.1
  have l579 : hSc (S.2.2.2.1 0) ≤ 16 := w7.2
  have q579 : ∀ s : mSt, qAld s 0 579 = some (s.2 0 579) := fun s => qld_0 s (p := 579) (by omega)
  have s579 : ∀ (s : mSt) x, qAst s 0 579 x = some (mRowSet s 0 (upd (s.2 0) 579 x)) := fun s x => qst_0 s (p := 579) (by omega) x
  have eF : ∀ (S : hS) r k, k ≠ 34 → (hF S 34 (.ref r)).1 k = S.1 k := fun S r k hk => hF_ne _ _ hk
  generalize hn : hSc (S.2.2.2.1 0) = n at *
  by_cases v1 : v = -1
  · subst v1
    have x1 := hEx.new hc (sArr 0 0 (fun _ => 0)) 0
    have hc1 := hc.new (sArr 0 0 (fun _ => 0)) 0
    have hz : ∀ p, p ≠ 579 → upd (S.2.2.2.1 0) 579 0 p = S.2.2.2.1 0 p := fun p hp => upd_ne _ _ hp
    have z579 : hSc (upd (S.2.2.2.1 0) 579 0) = 0 := by show cv _ = 0; rw [upd_same, cv_0]
    refine hOp.imm h hq (v := 0) (w := upd (S.2.2.2.1 0) 579 0) (R' := sNew R (sArr 0 0 (fun _ => 0)) 0) (S1 := hF S 34 (.ref R.2.1)) (x1.le (by omega) (by omega)) hc1 (fun p hp => hz p (by omega)) ?_ rfl (fun k _ _ h34 _ => eF S _ k h34) ?_ ?_ ?_
    · exact wStat_of h.act.1 (fun p hp => hz p (by omega)) (wRea_eq w5 (fun p hp => hz p (by omega))) (wKno_eq w6 (fun p hp => hz p (by omega))) (wSm_of (n := 0) (by rw [upd_same]; rfl) (by omega) (by decide)) (wOwn_eq w8 (fun p hp => hz p (by omega)))
    · refine reps4 h.reps h.act.1 x1.1 (fun p hp => hz p (by omega)) (fun k hk => eF S _ k (by omega)) ⟨q4, (eF S _ 29 (by omega)).trans r4, hReads_eq w5 (hReads_ex x1.1 b4) (fun p hp => hz p (by omega))⟩ ⟨q5, (eF S _ 31 (by omega)).trans r5, hKnots_eq w6 (hIntsOf_ex x1.1 b5) (fun p hp => hz p (by omega))⟩ ⟨R.2.1, hF_same _ _ _, ⟨fun _ => 0, ?_, fun k hk => ?_⟩⟩ ⟨q7, (eF S _ 35 (by omega)).trans r7, hOwns_eq w8 (hIntsOf_ex x1.1 b7) (fun p hp => hz p (by omega))⟩
      · rw [z579]
        exact sNew_at _ _ _
      · rw [z579] at hk
        omega
    · have nA : ∀ K, sNewA (hMem A R S) 0 0 K = K R.2.1 (hMem A (sNew R (sArr 0 0 (fun _ => 0)) 0) S) := fun K => hNewA hc S (n := 0) (by omega) K
      simp only [f_X0_scarf, ↓reduceIte, nA, xp_34 hg, obS]
    · simp only [p_X3_scarf, ↓reduceIte, mRow_0, obS, s579, ht]
  · cases hv : inB v 0 7 with
    | false =>
      refine hOp.read0 h hq (v := -1) ?_ ?_
      · simp only [f_X0_scarf, if_neg v1, fx_isIn, hv, eq_self, ↓reduceIte, hcI, hcN, hcV, obS, if_true, if_false, b01_f]
      · simp only [p_X3_scarf, if_neg v1, px_isIn, hv, pcI, b01_f, ↓reduceIte]
    | true =>
      by_cases h16 : n = 16
      · have e16 : nI n = 16 := by rw [h16]; rfl
        refine hOp.read0 h hq (v := -1) ?_ ?_
        · simp only [f_X0_scarf, if_neg v1, fx_isIn, hv, xgN_34 hg, r6, hvN_ref, lq, eq_self, ↓reduceIte, hcI, hcN, hcV, obS, if_true, if_false, b01_t, e16]
        · simp only [p_X3_scarf, if_neg v1, px_isIn, hv, pcI, b01_t, ↓reduceIte, mRow_0, obS, q579, ht, e579, e16]
      · have n16 : ¬ nI n = 16 := fun e => h16 ((nI_eq (b := 16) (by omega) (by omega)).mp e)
        obtain ⟨R', r, F, fw, bF, eF1, eF2, x1, hc1⟩ := f_with hg hc S bf (by omega) v
        have hz : ∀ p, p ≠ 579 → p ≠ 823 + n → upd (upd (S.2.2.2.1 0) (823 + n) v) 579 (nI (n + 1)) p = S.2.2.2.1 0 p := fun p h1 h2 => by rw [upd_ne _ _ h1, upd_ne _ _ h2]
        have z579 : hSc (upd (upd (S.2.2.2.1 0) (823 + n) v) 579 (nI (n + 1))) = n + 1 := by show cv _ = _; rw [upd_same, cv_nI (by omega)]
        have l2 : sLen (hMem A R' (hF S 34 (.ref r))) r = some (nI (n + 1)) := hR_len hc1 _ bF
        refine hOp.imm h hq (v := nI (n + 1)) (w := upd (upd (S.2.2.2.1 0) (823 + n) v) 579 (nI (n + 1))) (R' := R') (S1 := hF S 34 (.ref r)) (x1.le (by omega) (by omega)) hc1 (fun p hp => hz p (by omega) (by omega)) ?_ rfl (fun k _ _ h34 _ => eF S _ k h34) ?_ ?_ ?_
        · exact wStat_of h.act.1 (fun p hp => hz p (by omega) (by omega)) (wRea_eq w5 (fun p hp => hz p (by omega) (by omega))) (wKno_eq w6 (fun p hp => hz p (by omega) (by omega))) (wSm_of (n := n + 1) (upd_same _ _ _) (by omega) (by decide)) (wOwn_eq w8 (fun p hp => hz p (by omega) (by omega)))
        · refine reps4 h.reps h.act.1 x1.1 (fun p hp => hz p (by omega) (by omega)) (fun k hk => eF S _ k (by omega)) ⟨q4, (eF S _ 29 (by omega)).trans r4, hReads_eq w5 (hReads_ex x1.1 b4) (fun p hp => hz p (by omega) (by omega))⟩ ⟨q5, (eF S _ 31 (by omega)).trans r5, hKnots_eq w6 (hIntsOf_ex x1.1 b5) (fun p hp => hz p (by omega) (by omega))⟩ ⟨r, hF_same _ _ _, ⟨F, ?_, fun k hk => ?_⟩⟩ ⟨q7, (eF S _ 35 (by omega)).trans r7, hOwns_eq w8 (hIntsOf_ex x1.1 b7) (fun p hp => hz p (by omega) (by omega))⟩
          · rw [z579]
            exact bF
          · rw [z579] at hk
            show F k = upd (upd (S.2.2.2.1 0) (823 + n) v) 579 (nI (n + 1)) (823 + k)
            by_cases hk2 : k = n
            · subst hk2
              rw [eF2, upd_ne _ _ (by omega), upd_same]
            · rw [eF1 k (by omega), hz _ (by omega) (by omega)]
              exact ef k (by omega)
        · simp only [f_X0_scarf, if_neg v1, fx_isIn, hv, xgN_34 hg, r6, hvN_ref, lq, eq_self, ↓reduceIte, hcI, hcN, hcV, obS, if_true, if_false, b01_t, if_neg n16, fw, xp_34 hg, hF_same, l2]
        · have c823 : (823 : Int32) + nI n = nI (823 + n) := nI_add 823 n
          have q2 : ∀ (s : mSt) p y, p < 2355 → qAst s 0 (nI p) y = some (mRowSet s 0 (upd (s.2 0) p y)) := fun s p y hp => qst_0 s hp y
          simp (disch := omega) only [p_X3_scarf, if_neg v1, px_isIn, hv, pcI, b01_t, ↓reduceIte, mRow_0, obS, q579, s579, ht, e579, if_neg n16, c823, q2, mrs_same, mrs_mrs, upd_ne, upd_same, nI_1]
theorem j_knot {A : hA} {R : sMem} {S : hS} {g : Nat → Nat} {b L : Nat} {xs : Nat → Int32} (h : hInv A R S g b L xs) (v u : Int32) : hOp A R S g b L xs (f_X0_knot (hX A) v u) (f_X3_knot (A.2.1 9) v u) := by
  have hg := h.1.1
  have hc := h.1.2.1
  have ht := h.t0
  have hst := h.act.1
  have hq : ∀ (R : sMem), R.1 ≤ A.2.1 9 → ∀ s : mSt, f_X3_knot (A.2.1 9) v u (mPut R (A.2.1 9) s) = lft R (A.2.1 9) (p_X3_knot (A.2.1 9) v u s) := fun R hR s => q_X3_knot R _ hR v u s
  obtain ⟨w1, w2, w3, w4, w5, w6, w7, w8, w9⟩ := hst
  obtain ⟨-, -, -, -, ⟨q4, r4, b4⟩, ⟨q5, r5, b5⟩, ⟨q6, r6, b6⟩, q7, r7, b7⟩ := h.reps
  have lq := fun (S' : hS) => fx_len0 hc S' b5
  obtain ⟨f, bf, ef⟩ := b5
  have e578 : S.2.2.2.1 0 578 = nI (hKc (S.2.2.2.1 0)) := w6.1.1
  have l578 : hKc (S.2.2.2.1 0) ≤ 12 := w6.1.2
  have q578 : ∀ s : mSt, qAld s 0 578 = some (s.2 0 578) := fun s => qld_0 s (p := 578) (by omega)
  have s578 : ∀ (s : mSt) x, qAst s 0 578 x = some (mRowSet s 0 (upd (s.2 0) 578 x)) := fun s x => qst_0 s (p := 578) (by omega) x
  have eF : ∀ (S : hS) r k, k ≠ 31 → (hF S 31 (.ref r)).1 k = S.1 k := fun S r k hk => hF_ne _ _ hk
  have wk := w6.2
  generalize hn : hKc (S.2.2.2.1 0) = n at *
  by_cases v1 : v = -1
  · subst v1
    have x1 := hEx.new hc (sArr 0 0 (fun _ => 0)) 0
    have hc1 := hc.new (sArr 0 0 (fun _ => 0)) 0
    have hz : ∀ p, p ≠ 578 → upd (S.2.2.2.1 0) 578 0 p = S.2.2.2.1 0 p := fun p hp => upd_ne _ _ hp
    have z578 : hKc (upd (S.2.2.2.1 0) 578 0) = 0 := by show cv _ = 0; rw [upd_same, cv_0]
    refine hOp.imm h hq (v := 0) (w := upd (S.2.2.2.1 0) 578 0) (R' := sNew R (sArr 0 0 (fun _ => 0)) 0) (S1 := hF S 31 (.ref R.2.1)) (x1.le (by omega) (by omega)) hc1 (fun p hp => hz p (by omega)) ?_ rfl (fun k _ h31 _ _ => eF S _ k h31) ?_ ?_ ?_
    · refine wStat_of h.act.1 (fun p hp => hz p (by omega)) (wRea_eq w5 (fun p hp => hz p (by omega))) ⟨wSm_of (n := 0) (by rw [upd_same]; rfl) (by omega) (by decide), fun k hk => ?_⟩ (wSm_al (hz _ (by omega)) w7) (wOwn_eq w8 (fun p hp => hz p (by omega)))
      rw [z578] at hk
      omega
    · refine reps4 h.reps h.act.1 x1.1 (fun p hp => hz p (by omega)) (fun k hk => eF S _ k (by omega)) ⟨q4, (eF S _ 29 (by omega)).trans r4, hReads_eq w5 (hReads_ex x1.1 b4) (fun p hp => hz p (by omega))⟩ ⟨R.2.1, hF_same _ _ _, ⟨fun _ => 0, ?_, fun k hk => ?_⟩⟩ ⟨q6, (eF S _ 34 (by omega)).trans r6, hScarf_eq w7 (hIntsOf_ex x1.1 b6) (fun p hp => hz p (by omega))⟩ ⟨q7, (eF S _ 35 (by omega)).trans r7, hOwns_eq w8 (hIntsOf_ex x1.1 b7) (fun p hp => hz p (by omega))⟩
      · rw [z578]
        exact sNew_at _ _ _
      · rw [z578] at hk
        omega
    · have nA : ∀ K, sNewA (hMem A R S) 0 0 K = K R.2.1 (hMem A (sNew R (sArr 0 0 (fun _ => 0)) 0) S) := fun K => hNewA hc S (n := 0) (by omega) K
      simp only [f_X0_knot, ↓reduceIte, nA, xp_31 hg, obS]
    · simp only [p_X3_knot, ↓reduceIte, mRow_0, obS, s578, ht]
  · cases hv : inB v 0 9 with
    | false =>
      refine hOp.read0 h hq (v := -1) ?_ ?_
      · simp only [f_X0_knot, if_neg v1, fx_isIn, hv, eq_self, ↓reduceIte, hcI, hcN, hcV, obS, if_true, if_false, b01_f]
      · simp only [p_X3_knot, if_neg v1, px_isIn, hv, pcI, b01_f, ↓reduceIte]
    | true =>
      cases hu : inB u 0 9 with
      | false =>
        refine hOp.read0 h hq (v := -1) ?_ ?_
        · simp only [f_X0_knot, if_neg v1, fx_isIn, hv, hu, eq_self, ↓reduceIte, hcI, hcN, hcV, obS, if_true, if_false, b01_f, b01_t]
        · simp only [p_X3_knot, if_neg v1, px_isIn, hv, hu, pcI, b01_f, b01_t, ↓reduceIte]
      | true =>
        by_cases vu : v = u
        · refine hOp.read0 h hq (v := -1) ?_ ?_
          · simp only [f_X0_knot, if_neg v1, fx_isIn, hv, hu, if_pos vu, eq_self, ↓reduceIte, hcI, hcN, hcV, obS, if_true, if_false, b01_t]
          · simp only [p_X3_knot, if_neg v1, px_isIn, hv, hu, if_pos vu, pcI, b01_t, ↓reduceIte]
        · by_cases h16 : n = 12
          · have e16 : nI n = 12 := by rw [h16]; rfl
            refine hOp.read0 h hq (v := -1) ?_ ?_
            · simp only [f_X0_knot, if_neg v1, if_neg vu, fx_isIn, hv, hu, xgN_31 hg, r5, hvN_ref, lq, eq_self, ↓reduceIte, hcI, hcN, hcV, obS, if_true, if_false, b01_t, e16]
            · simp only [p_X3_knot, if_neg v1, if_neg vu, px_isIn, hv, hu, pcI, b01_t, ↓reduceIte, mRow_0, obS, q578, ht, e578, e16]
          · have n16 : ¬ nI n = 12 := fun e => h16 ((nI_eq (b := 12) (by omega) (by omega)).mp e)
            obtain ⟨i, hi, rfl⟩ := inB_lit (k := 9) (by omega) hv
            obtain ⟨j, hj, rfl⟩ := inB_lit (k := 9) (by omega) hu
            have pi : (2 : Nat) ^ i < 2 ^ 10 := Nat.pow_lt_pow_right (by omega) (by omega)
            have pj : (2 : Nat) ^ j < 2 ^ 10 := Nat.pow_lt_pow_right (by omega) (by omega)
            have or : (1 : Int32) <<< (nI i &&& 31) ||| (1 : Int32) <<< (nI j &&& 31) = nI (2 ^ i ||| 2 ^ j) := by
              have a1 := nI_one (w := i) (by omega)
              have a2 := nI_one (w := j) (by omega)
              rw [← nI_or (by omega) (by omega), ← a1, ← a2]
              rfl
            obtain ⟨R', r, F, fw, bF, eF1, eF2, x1, hc1⟩ := f_with hg hc S bf (by omega) (nI (2 ^ i ||| 2 ^ j))
            generalize hw : upd (upd (upd (S.2.2.2.1 0) (799 + 2 * n) (nI i)) (799 + 2 * n + 1) (nI j)) 578 (nI (n + 1)) = w
            have hz : ∀ p, p ≠ 578 → p ≠ 799 + 2 * n → p ≠ 799 + 2 * n + 1 → w p = S.2.2.2.1 0 p := fun p h1 h2 h3 => by rw [← hw, upd_ne _ _ h1, upd_ne _ _ h3, upd_ne _ _ h2]
            have w578 : w 578 = nI (n + 1) := by rw [← hw, upd_same]
            have wa : w (799 + 2 * n) = nI i := by rw [← hw, upd_ne _ _ (by omega), upd_ne _ _ (by omega), upd_same]
            have wb : w (799 + 2 * n + 1) = nI j := by rw [← hw, upd_ne _ _ (by omega), upd_same]
            have z578 : hKc w = n + 1 := by show cv _ = _; rw [w578, cv_nI (by omega)]
            have l2 : sLen (hMem A R' (hF S 31 (.ref r))) r = some (nI (n + 1)) := hR_len hc1 _ bF
            refine hOp.imm h hq (v := nI (n + 1)) (w := w) (R' := R') (S1 := hF S 31 (.ref r)) (x1.le (by omega) (by omega)) hc1 (fun p hp => hz p (by omega) (by omega) (by omega)) ?_ rfl (fun k _ h31 _ _ => eF S _ k h31) ?_ ?_ ?_
            · refine wStat_of h.act.1 (fun p hp => hz p (by omega) (by omega) (by omega)) (wRea_eq w5 (fun p hp => hz p (by omega) (by omega) (by omega))) ⟨wSm_of (n := n + 1) w578 (by omega) (by decide), fun k hk => ?_⟩ (wSm_al (hz _ (by omega) (by omega) (by omega)) w7) (wOwn_eq w8 (fun p hp => hz p (by omega) (by omega) (by omega)))
              rw [z578] at hk
              by_cases hk2 : k = n
              · subst hk2
                exact ⟨wSm_of wa hi (by decide), wSm_of wb hj (by decide)⟩
              · have := wk k (by omega)
                exact ⟨wSm_al (hz _ (by omega) (by omega) (by omega)) this.1, wSm_al (hz _ (by omega) (by omega) (by omega)) this.2⟩
            · refine reps4 h.reps h.act.1 x1.1 (fun p hp => hz p (by omega) (by omega) (by omega)) (fun k hk => eF S _ k (by omega)) ⟨q4, (eF S _ 29 (by omega)).trans r4, hReads_eq w5 (hReads_ex x1.1 b4) (fun p hp => hz p (by omega) (by omega) (by omega))⟩ ⟨r, hF_same _ _ _, ⟨F, ?_, fun k hk => ?_⟩⟩ ⟨q6, (eF S _ 34 (by omega)).trans r6, hScarf_eq w7 (hIntsOf_ex x1.1 b6) (fun p hp => hz p (by omega) (by omega) (by omega))⟩ ⟨q7, (eF S _ 35 (by omega)).trans r7, hOwns_eq w8 (hIntsOf_ex x1.1 b7) (fun p hp => hz p (by omega) (by omega) (by omega))⟩
              · rw [z578]
                exact bF
              · rw [z578] at hk
                show F k = nI (2 ^ cv (w (799 + 2 * k)) ||| 2 ^ cv (w (799 + 2 * k + 1)))
                by_cases hk2 : k = n
                · subst hk2
                  rw [eF2, wa, wb, cv_nI (by omega), cv_nI (by omega)]
                · rw [eF1 k (by omega), hz _ (by omega) (by omega) (by omega), hz _ (by omega) (by omega) (by omega)]
                  exact ef k (by omega)
            · simp only [f_X0_knot, if_neg v1, if_neg vu, fx_isIn, hv, hu, xgN_31 hg, r5, hvN_ref, lq, eq_self, ↓reduceIte, hcI, hcN, hcV, obS, if_true, if_false, b01_t, if_neg n16, or, fw, xp_31 hg, hF_same, l2]
            · have c1 : (799 : Int32) + 2 * nI n = nI (799 + 2 * n) := by
                show nI 799 + nI 2 * nI n = _
                rw [pk_mul, nI_add]
              have q2 : ∀ (s : mSt) p y, p < 2355 → qAst s 0 (nI p) y = some (mRowSet s 0 (upd (s.2 0) p y)) := fun s p y hp => qst_0 s hp y
              simp (disch := omega) only [p_X3_knot, if_neg v1, if_neg vu, px_isIn, hv, hu, pcI, b01_t, ↓reduceIte, mRow_0, obS, q578, s578, ht, e578, if_neg n16, c1, nI_1, q2, mrs_same, mrs_mrs, upd_ne, upd_same, hw]
theorem j_own {A : hA} {R : sMem} {S : hS} {g : Nat → Nat} {b L : Nat} {xs : Nat → Int32} (h : hInv A R S g b L xs) (v u : Int32) : hOp A R S g b L xs (f_X0_own (hX A) v u) (f_X3_own (A.2.1 9) v u) := by
  have hg := h.1.1
  have hc := h.1.2.1
  have ht := h.t0
  have hst := h.act.1
  have hN12 := h.act.n
  have hq : ∀ (R : sMem), R.1 ≤ A.2.1 9 → ∀ s : mSt, f_X3_own (A.2.1 9) v u (mPut R (A.2.1 9) s) = lft R (A.2.1 9) (p_X3_own (A.2.1 9) v u s) := fun R hR s => q_X3_own R _ hR v u s
  have f1 := fx_isWorm hg R S v
  have p1 := px_isWorm (A.2.1 9) v S.2.2.2.2.2
  rw [ht] at p1
  obtain ⟨w1, w2, w3, w4, w5, w6, w7, w8, w9⟩ := hst
  have f2 := fx_isFact (S := S) hg hc h.fa w2 u
  have p2 := px_isFact (A.2.1 9) u S.2.2.2.2.2
  rw [ht] at p2
  have h10 : hFc (S.2.2.2.1 0) ≤ 10 := w2.1.2
  obtain ⟨-, -, -, -, ⟨q4, r4, b4⟩, ⟨q5, r5, b5⟩, ⟨q6, r6, b6⟩, q7, r7, b7⟩ := h.reps
  have lq := fun (S' : hS) => fx_len0 hc S' b7
  obtain ⟨f, bf, ef⟩ := b7
  have e580 : S.2.2.2.1 0 580 = nI (hOc (S.2.2.2.1 0)) := w8.1.1
  have l580 : hOc (S.2.2.2.1 0) ≤ 16 := w8.1.2
  have q580 : ∀ s : mSt, qAld s 0 580 = some (s.2 0 580) := fun s => qld_0 s (p := 580) (by omega)
  have s580 : ∀ (s : mSt) x, qAst s 0 580 x = some (mRowSet s 0 (upd (s.2 0) 580 x)) := fun s x => qst_0 s (p := 580) (by omega) x
  have eF : ∀ (S : hS) r k, k ≠ 35 → (hF S 35 (.ref r)).1 k = S.1 k := fun S r k hk => hF_ne _ _ hk
  have wk := w8.2
  generalize hn : hOc (S.2.2.2.1 0) = n at *
  by_cases v1 : v = -1
  · subst v1
    have x1 := hEx.new hc (sArr 0 0 (fun _ => 0)) 0
    have hc1 := hc.new (sArr 0 0 (fun _ => 0)) 0
    have hz : ∀ p, p ≠ 580 → upd (S.2.2.2.1 0) 580 0 p = S.2.2.2.1 0 p := fun p hp => upd_ne _ _ hp
    have z580 : hOc (upd (S.2.2.2.1 0) 580 0) = 0 := by show cv _ = 0; rw [upd_same, cv_0]
    refine hOp.imm h hq (v := 0) (w := upd (S.2.2.2.1 0) 580 0) (R' := sNew R (sArr 0 0 (fun _ => 0)) 0) (S1 := hF S 35 (.ref R.2.1)) (x1.le (by omega) (by omega)) hc1 (fun p hp => hz p (by omega)) ?_ rfl (fun k _ _ _ h35 => eF S _ k h35) ?_ ?_ ?_
    · refine wStat_of h.act.1 (fun p hp => hz p (by omega)) (wRea_eq w5 (fun p hp => hz p (by omega))) (wKno_eq w6 (fun p hp => hz p (by omega))) (wSm_al (hz _ (by omega)) w7) ⟨wSm_of (n := 0) (by rw [upd_same]; rfl) (by omega) (by decide), fun k hk => ?_⟩
      rw [z580] at hk
      omega
    · refine reps4 h.reps h.act.1 x1.1 (fun p hp => hz p (by omega)) (fun k hk => eF S _ k (by omega)) ⟨q4, (eF S _ 29 (by omega)).trans r4, hReads_eq w5 (hReads_ex x1.1 b4) (fun p hp => hz p (by omega))⟩ ⟨q5, (eF S _ 31 (by omega)).trans r5, hKnots_eq w6 (hIntsOf_ex x1.1 b5) (fun p hp => hz p (by omega))⟩ ⟨q6, (eF S _ 34 (by omega)).trans r6, hScarf_eq w7 (hIntsOf_ex x1.1 b6) (fun p hp => hz p (by omega))⟩ ⟨R.2.1, hF_same _ _ _, ⟨fun _ => 0, ?_, fun k hk => ?_⟩⟩
      · rw [z580]
        exact sNew_at _ _ _
      · rw [z580] at hk
        omega
    · have nA : ∀ K, sNewA (hMem A R S) 0 0 K = K R.2.1 (hMem A (sNew R (sArr 0 0 (fun _ => 0)) 0) S) := fun K => hNewA hc S (n := 0) (by omega) K
      simp only [f_X0_own, ↓reduceIte, nA, xp_35 hg, obS]
    · simp only [p_X3_own, ↓reduceIte, mRow_0, obS, s580, ht]
  · cases hv : inB v 0 (S.2.2.2.1 0 571 - 1) with
    | false =>
      rw [hv] at f1 p1
      refine hOp.read0 h hq (v := -1) ?_ ?_
      · simp only [f_X0_own, if_neg v1, hx_chk hg, f1, eq_self, ↓reduceIte, hcI, hcN, hcV, obS, if_true, if_false, b01_f]
      · simp only [p_X3_own, if_neg v1, p1, pcI, b01_f, ↓reduceIte]
    | true =>
      rw [hv] at f1 p1
      cases hu : inB u 0 (S.2.2.2.1 0 572 - 1) with
      | false =>
        rw [hu] at f2 p2
        refine hOp.read0 h hq (v := -1) ?_ ?_
        · simp only [f_X0_own, if_neg v1, hx_chk hg, f1, f2, eq_self, ↓reduceIte, hcI, hcN, hcV, obS, if_true, if_false, b01_f, b01_t]
        · simp only [p_X3_own, if_neg v1, p1, p2, pcI, b01_f, b01_t, ↓reduceIte]
      | true =>
        rw [hu] at f2 p2
        by_cases h16 : n = 16
        · have e16 : nI n = 16 := by rw [h16]; rfl
          refine hOp.read0 h hq (v := -1) ?_ ?_
          · simp only [f_X0_own, if_neg v1, hx_chk hg, f1, f2, xgN_35 hg, r7, hvN_ref, lq, eq_self, ↓reduceIte, hcI, hcN, hcV, obS, if_true, if_false, b01_t, e16]
          · simp only [p_X3_own, if_neg v1, p1, p2, pcI, b01_t, ↓reduceIte, mRow_0, obS, q580, ht, e580, e16]
        · have n16 : ¬ nI n = 16 := fun e => h16 ((nI_eq (b := 16) (by omega) (by omega)).mp e)
          have e571 : S.2.2.2.1 0 571 = nI (hN (S.2.2.2.1 0)) := w1.1.1
          rw [e571] at hv
          obtain ⟨i, hi, rfl⟩ := inB_below (by omega) hv
          obtain ⟨j, hj, rfl⟩ := inB_fact w2 hu
          have or : (10 : Int32) * nI i + nI j = nI (10 * i + j) := by
            show nI 10 * nI i + _ = _
            rw [pk_mul, nI_add]
          obtain ⟨R', r, F, fw, bF, eF1, eF2, x1, hc1⟩ := f_with hg hc S bf (by omega) (nI (10 * i + j))
          generalize hw : upd (upd (upd (S.2.2.2.1 0) (839 + 2 * n) (nI i)) (839 + 2 * n + 1) (nI j)) 580 (nI (n + 1)) = w
          have hz : ∀ p, p ≠ 580 → p ≠ 839 + 2 * n → p ≠ 839 + 2 * n + 1 → w p = S.2.2.2.1 0 p := fun p h1 h2 h3 => by rw [← hw, upd_ne _ _ h1, upd_ne _ _ h3, upd_ne _ _ h2]
          have w580 : w 580 = nI (n + 1) := by rw [← hw, upd_same]
          have wa : w (839 + 2 * n) = nI i := by rw [← hw, upd_ne _ _ (by omega), upd_ne _ _ (by omega), upd_same]
          have wb : w (839 + 2 * n + 1) = nI j := by rw [← hw, upd_ne _ _ (by omega), upd_same]
          have z580 : hOc w = n + 1 := by show cv _ = _; rw [w580, cv_nI (by omega)]
          have l2 : sLen (hMem A R' (hF S 35 (.ref r))) r = some (nI (n + 1)) := hR_len hc1 _ bF
          refine hOp.imm h hq (v := nI (n + 1)) (w := w) (R' := R') (S1 := hF S 35 (.ref r)) (x1.le (by omega) (by omega)) hc1 (fun p hp => hz p (by omega) (by omega) (by omega)) ?_ rfl (fun k _ _ _ h35 => eF S _ k h35) ?_ ?_ ?_
          · refine wStat_of h.act.1 (fun p hp => hz p (by omega) (by omega) (by omega)) (wRea_eq w5 (fun p hp => hz p (by omega) (by omega) (by omega))) (wKno_eq w6 (fun p hp => hz p (by omega) (by omega) (by omega))) (wSm_al (hz _ (by omega) (by omega) (by omega)) w7) ⟨wSm_of (n := n + 1) w580 (by omega) (by decide), fun k hk => ?_⟩
            rw [z580] at hk
            by_cases hk2 : k = n
            · subst hk2
              exact ⟨wSm_of wa (by omega) (by decide), wSm_of wb (by omega) (by decide)⟩
            · have := wk k (by omega)
              exact ⟨wSm_al (hz _ (by omega) (by omega) (by omega)) this.1, wSm_al (hz _ (by omega) (by omega) (by omega)) this.2⟩
          · refine reps4 h.reps h.act.1 x1.1 (fun p hp => hz p (by omega) (by omega) (by omega)) (fun k hk => eF S _ k (by omega)) ⟨q4, (eF S _ 29 (by omega)).trans r4, hReads_eq w5 (hReads_ex x1.1 b4) (fun p hp => hz p (by omega) (by omega) (by omega))⟩ ⟨q5, (eF S _ 31 (by omega)).trans r5, hKnots_eq w6 (hIntsOf_ex x1.1 b5) (fun p hp => hz p (by omega) (by omega) (by omega))⟩ ⟨q6, (eF S _ 34 (by omega)).trans r6, hScarf_eq w7 (hIntsOf_ex x1.1 b6) (fun p hp => hz p (by omega) (by omega) (by omega))⟩ ⟨r, hF_same _ _ _, ⟨F, ?_, fun k hk => ?_⟩⟩
            · rw [z580]
              exact bF
            · rw [z580] at hk
              show F k = nI (10 * cv (w (839 + 2 * k)) + cv (w (839 + 2 * k + 1)))
              by_cases hk2 : k = n
              · subst hk2
                rw [eF2, wa, wb, cv_nI (by omega), cv_nI (by omega)]
              · rw [eF1 k (by omega), hz _ (by omega) (by omega) (by omega), hz _ (by omega) (by omega) (by omega)]
                exact ef k (by omega)
          · simp only [f_X0_own, if_neg v1, hx_chk hg, f1, f2, xgN_35 hg, r7, hvN_ref, lq, eq_self, ↓reduceIte, hcI, hcN, hcV, obS, if_true, if_false, b01_t, if_neg n16, or, fw, xp_35 hg, hF_same, l2]
          · have c1 : (839 : Int32) + 2 * nI n = nI (839 + 2 * n) := by
              show nI 839 + nI 2 * nI n = _
              rw [pk_mul, nI_add]
            have q2 : ∀ (s : mSt) p y, p < 2355 → qAst s 0 (nI p) y = some (mRowSet s 0 (upd (s.2 0) p y)) := fun s p y hp => qst_0 s hp y
            simp (disch := omega) only [p_X3_own, if_neg v1, p1, p2, pcI, b01_t, ↓reduceIte, mRow_0, obS, q580, s580, ht, e580, if_neg n16, c1, nI_1, q2, mrs_same, mrs_mrs, upd_ne, upd_same, hw]
