/-! reads: both sides -/
set_option maxRecDepth 100000
theorem f_readsCopy {A : hA} {R0 : sMem} (hg : hG A) (h0 : hCl A R0) (S : hS) {q r n : Nat} {fo : Nat → Option Nat} {ao : Nat → Nat} {fs : Nat → List Value} (e29 : S.1 29 = .ref q) (hq : R0.2.2.2 q = some (sArq 8 n fo)) (hn : n ≤ 1000) (ho : ∀ k, k < n → fo k = some (ao k) ∧ R0.2.2.2 (ao k) = some (sObj 11 (fs k))) (hr : R0.2.1 ≤ r) (hb : A.1 ≤ R0.2.1) (v u : Int32) : ∀ (d k : Nat), k + d = n → ∀ (fu : Nat), d < fu → ∀ (R1 : sMem) (F : Nat → Option Nat) (c m : Nat), hCl A R1 → hEx c m R0 R1 → R1.2.2.2 r = some (sArq 8 (n + 1) F) → (∀ j, j < k → F j = fo j) → ∃ R' F' o, f_X0_reads_L61 (hX A) v u r fu (nI k) (hMem A R1 S) = some (.inl (some (.int (nI (n + 1)))), hMem A R' (hF S 29 (.ref r))) ∧ R'.2.2.2 r = some (sArq 8 (n + 1) F') ∧ (∀ j, j < n → F' j = fo j) ∧ F' n = some o ∧ R'.2.2.2 o = some (sObj 11 [.int v, .int u]) ∧ hEx (c + 1) (m + 2) R0 R' ∧ hCl A R'
  | 0, k, hk, fu, hf, R1, F, c, m, hc, hx, h1, hF1 => by
    obtain ⟨fu, rfl⟩ : ∃ p, fu = p + 1 := ⟨fu - 1, by omega⟩
    have k0 : k = n := by omega
    subst k0
    have hl := h0.lt hq
    have rl := hc.lt h1
    have lq := hR_lenq hc S (hx.1 _ _ hq)
    have lr := hR_lenq hc (hF S 29 (.ref r)) h1
    have nO : ∀ K, sNewO (hMem A R1 (hF S 29 (.ref r))) 11 [.int 0, .int 0] 2 K = K R1.2.1 (hMem A (sNew R1 (sObj 11 [.int 0, .int 0]) 2) (hF S 29 (.ref r))) := fun K => hNewO hc _ _ _ _ K
    have hc2 := hc.new (sObj 11 [.int 0, .int 0]) 2
    have x2 := hx.trans (hEx.new hc (sObj 11 [.int 0, .int 0]) 2)
    have o2 := sNew_at R1 (sObj 11 [.int 0, .int 0]) 2
    have r2 := sNew_ne R1 (sObj 11 [.int 0, .int 0]) 2 (a := r) (by omega)
    rw [h1] at r2
    generalize ho' : R1.2.1 = o at *
    generalize sNew R1 (sObj 11 [.int 0, .int 0]) 2 = R2 at *
    have p1 := hR_put hc2 (hF S 29 (.ref r)) o2 (by omega) (k := 0) (by simp) (.int v)
    have hc3 := hc2.up (e := sObj 11 ([.int 0, .int 0].set 0 (.int v))) o2
    have x3 := hEx.up h0 x2 (a := o) (by omega) (sObj 11 ([.int 0, .int 0].set 0 (.int v)))
    have o3 := sUp_at R2 o (sObj 11 ([.int 0, .int 0].set 0 (.int v)))
    have r3 := sUp_ne R2 (a := o) (b := r) (sObj 11 ([.int 0, .int 0].set 0 (.int v))) (by omega)
    rw [r2] at r3
    generalize sUp R2 o (sObj 11 ([.int 0, .int 0].set 0 (.int v))) = R3 at *
    have p2 := hR_put hc3 (hF S 29 (.ref r)) o3 (by omega) (k := 1) (by simp) (.int u)
    have hc4 := hc3.up (e := sObj 11 ([Value.int v, .int u])) o3
    have x4 := hEx.up h0 x3 (a := o) (by omega) (sObj 11 [.int v, .int u])
    have o4 := sUp_at R3 o (sObj 11 [.int v, .int u])
    have r4 := sUp_ne R3 (a := o) (b := r) (sObj 11 [.int v, .int u]) (by omega)
    rw [r3] at r4
    have p2' : sPut (hMem A R3 (hF S 29 (.ref r))) 11 1 o (.int u) = some (hMem A (sUp R3 o (sObj 11 [.int v, .int u])) (hF S 29 (.ref r))) := p2
    generalize sUp R3 o (sObj 11 [.int v, .int u]) = R4 at *
    have s5 := hR_stq hc4 (hF S 29 (.ref r)) r4 (by omega) (by omega) (p := k) (by omega) (by omega) o4 rfl
    have hc5 := hc4.up (e := sArq 8 (k + 1) (va_up F k (some o))) r4
    have x5 := hEx.up h0 x4 (a := r) (by omega) (sArq 8 (k + 1) (va_up F k (some o)))
    have r5 := sUp_at R4 r (sArq 8 (k + 1) (va_up F k (some o)))
    have o5 := sUp_ne R4 (a := r) (b := o) (sArq 8 (k + 1) (va_up F k (some o))) (by omega)
    rw [o4] at o5
    have l5 := hR_lenq hc5 (hF S 29 (.ref r)) r5
    refine ⟨sUp R4 r (sArq 8 (k + 1) (va_up F k (some o))), va_up F k (some o), o, ?_, r5, fun j hj => ?_, ?_, o5, x5, hc5⟩
    · have e1 : nI (k + 1) - 1 = nI k := nI_pred k
      simp only [f_X0_reads_L61, xgN_29 hg, xp_29 hg, e29, hvN_ref, hF_same, obS, lq, lr, nO, if_pos (Int32.le_refl (nI k)), f_X12_init, f_J9_init, sCallV, hcV, p1, p2', e1, s5, l5]
    · rw [← hF1 j hj]
      simp [va_up, show j ≠ k by omega]
    · simp [va_up]
  | d + 1, k, hk, fu, hf, R1, F, c, m, hc, hx, h1, hF1 => by
    obtain ⟨fu, rfl⟩ : ∃ p, fu = p + 1 := ⟨fu - 1, by omega⟩
    have hl := h0.lt hq
    have rl := hc.lt h1
    have lq := hR_lenq hc S (hx.1 _ _ hq)
    have ld := hR_ldn hc S (hx.1 _ _ hq) (by omega) (p := k) (by omega) (by omega) (ho k (by omega)).1
    have s5 := hR_stq hc S h1 (by omega) (by omega) (p := k) (by omega) (by omega) (hx.1 _ _ (ho k (by omega)).2) rfl
    have hc5 := hc.up (e := sArq 8 (n + 1) (va_up F k (some (ao k)))) h1
    have x5 := hEx.up h0 hx (a := r) (by omega) (sArq 8 (n + 1) (va_up F k (some (ao k))))
    have r5 := sUp_at R1 r (sArq 8 (n + 1) (va_up F k (some (ao k))))
    obtain ⟨R', F', o, i1, i⟩ := f_readsCopy hg h0 S e29 hq hn ho hr hb v u d (k + 1) (by omega) fu (by omega) _ _ c m hc5 x5 r5 (fun j hj => by
      by_cases c : j = k
      · subst c
        simp [va_up, (ho j (by omega)).1]
      · rw [← hF1 j (by omega)]
        simp [va_up, c])
    refine ⟨R', F', o, ?_, i⟩
    have c1 : ¬ nI n ≤ nI k := by
      rw [nI_leI (by omega) (by omega)]
      omega
    have e1 : nI k + 1 = nI (k + 1) := (nI_succ k).symm
    simp only [f_X0_reads_L61, xgN_29 hg, e29, hvN_ref, obS, lq, if_neg c1, ld, s5, e1, i1]
theorem j_reads {A : hA} {R : sMem} {S : hS} {g : Nat → Nat} {b L : Nat} {xs : Nat → Int32} (h : hInv A R S g b L xs) (v u : Int32) : hOp A R S g b L xs (f_X0_reads (hX A) v u) (f_X3_reads (A.2.1 9) v u) := by
  have hg := h.1.1
  have hc := h.1.2.1
  have ht := h.t0
  have hst := h.act.1
  have hq : ∀ (R : sMem), R.1 ≤ A.2.1 9 → ∀ s : mSt, f_X3_reads (A.2.1 9) v u (mPut R (A.2.1 9) s) = lft R (A.2.1 9) (p_X3_reads (A.2.1 9) v u s) := fun R hR s => q_X3_reads R _ hR v u s
  obtain ⟨w1, w2, w3, w4, w5, w6, w7, w8, w9⟩ := hst
  obtain ⟨-, -, -, -, ⟨q4, r4, b4⟩, ⟨q5, r5, b5⟩, ⟨q6, r6, b6⟩, q7, r7, b7⟩ := h.reps
  obtain ⟨fo, ao, bf, ef⟩ := b4
  have lq : ∀ (S' : hS), sLen (hMem A R S') q4 = some (nI (hRc (S.2.2.2.1 0))) := fun S' => hR_lenq hc S' bf
  have e577 : S.2.2.2.1 0 577 = nI (hRc (S.2.2.2.1 0)) := w5.1.1
  have l577 : hRc (S.2.2.2.1 0) ≤ 12 := w5.1.2
  have q577 : ∀ s : mSt, qAld s 0 577 = some (s.2 0 577) := fun s => qld_0 s (p := 577) (by omega)
  have s577 : ∀ (s : mSt) x, qAst s 0 577 x = some (mRowSet s 0 (upd (s.2 0) 577 x)) := fun s x => qst_0 s (p := 577) (by omega) x
  have eF : ∀ (S : hS) r k, k ≠ 29 → (hF S 29 (.ref r)).1 k = S.1 k := fun S r k hk => hF_ne _ _ hk
  have wk := w5.2
  generalize hn : hRc (S.2.2.2.1 0) = n at *
  by_cases v1 : v = -1
  · subst v1
    have x1 := hEx.new hc (sArq 8 0 (fun _ => none)) 0
    have hc1 := hc.new (sArq 8 0 (fun _ => none)) 0
    have hz : ∀ p, p ≠ 577 → upd (S.2.2.2.1 0) 577 0 p = S.2.2.2.1 0 p := fun p hp => upd_ne _ _ hp
    have z577 : hRc (upd (S.2.2.2.1 0) 577 0) = 0 := by show cv _ = 0; rw [upd_same, cv_0]
    refine hOp.imm h hq (v := 0) (w := upd (S.2.2.2.1 0) 577 0) (R' := sNew R (sArq 8 0 (fun _ => none)) 0) (S1 := hF S 29 (.ref R.2.1)) (x1.le (by omega) (by omega)) hc1 (fun p hp => hz p (by omega)) ?_ rfl (fun k h29 _ _ _ => eF S _ k h29) ?_ ?_ ?_
    · refine wStat_of h.act.1 (fun p hp => hz p (by omega)) ⟨wSm_of (n := 0) (by rw [upd_same]; rfl) (by omega) (by decide), fun k hk => ?_⟩ (wKno_eq w6 (fun p hp => hz p (by omega))) (wSm_al (hz _ (by omega)) w7) (wOwn_eq w8 (fun p hp => hz p (by omega)))
      rw [z577] at hk
      omega
    · refine reps4 h.reps h.act.1 x1.1 (fun p hp => hz p (by omega)) (fun k hk => eF S _ k (by omega)) ⟨R.2.1, hF_same _ _ _, ⟨fun _ => none, fun _ => 0, ?_, fun k hk => ?_⟩⟩ ⟨q5, (eF S _ 31 (by omega)).trans r5, hKnots_eq w6 (hIntsOf_ex x1.1 b5) (fun p hp => hz p (by omega))⟩ ⟨q6, (eF S _ 34 (by omega)).trans r6, hScarf_eq w7 (hIntsOf_ex x1.1 b6) (fun p hp => hz p (by omega))⟩ ⟨q7, (eF S _ 35 (by omega)).trans r7, hOwns_eq w8 (hIntsOf_ex x1.1 b7) (fun p hp => hz p (by omega))⟩
      · rw [z577]
        exact sNew_at _ _ _
      · rw [z577] at hk
        omega
    · have nA : ∀ K, sNewQ (hMem A R S) 8 0 K = K R.2.1 (hMem A (sNew R (sArq 8 0 (fun _ => none)) 0) S) := fun K => hNewQ hc S (n := 0) (by omega) K
      simp only [f_X0_reads, ↓reduceIte, nA, xp_29 hg, obS]
    · simp only [p_X3_reads, ↓reduceIte, mRow_0, obS, s577, ht]
  · cases hv : inB v 0 7 with
    | false =>
      refine hOp.read0 h hq (v := -1) ?_ ?_
      · simp only [f_X0_reads, if_neg v1, fx_isIn, hv, eq_self, ↓reduceIte, hcI, hcN, hcV, obS, if_true, if_false, b01_f]
      · simp only [p_X3_reads, if_neg v1, px_isIn, hv, pcI, b01_f, ↓reduceIte]
    | true =>
      cases hu : inB u 0 11 with
      | false =>
        refine hOp.read0 h hq (v := -1) ?_ ?_
        · simp only [f_X0_reads, if_neg v1, fx_isIn, hv, hu, eq_self, ↓reduceIte, hcI, hcN, hcV, obS, if_true, if_false, b01_f, b01_t]
        · simp only [p_X3_reads, if_neg v1, px_isIn, hv, hu, pcI, b01_f, b01_t, ↓reduceIte]
      | true =>
        by_cases h16 : n = 12
        · have e16 : nI n = 12 := by rw [h16]; rfl
          refine hOp.read0 h hq (v := -1) ?_ ?_
          · simp only [f_X0_reads, if_neg v1, fx_isIn, hv, hu, xgN_29 hg, r4, hvN_ref, lq, eq_self, ↓reduceIte, hcI, hcN, hcV, obS, if_true, if_false, b01_t, e16]
          · simp only [p_X3_reads, if_neg v1, px_isIn, hv, hu, pcI, b01_t, ↓reduceIte, mRow_0, obS, q577, ht, e577, e16]
        · have n16 : ¬ nI n = 12 := fun e => h16 ((nI_eq (b := 12) (by omega) (by omega)).mp e)
          obtain ⟨j, hj, rfl⟩ := inB_lit (k := 11) (by omega) hu
          have hb := hc.base hg
          have x1 := hEx.new hc (sArq 8 (n + 1) (fun _ => none)) (n + 1)
          have hc1 := hc.new (sArq 8 (n + 1) (fun _ => none)) (n + 1)
          have at1 := sNew_at R (sArq 8 (n + 1) (fun _ => none)) (n + 1)
          have nA : ∀ K, sNewQ (hMem A R S) 8 (nI (n + 1)) K = K R.2.1 (hMem A (sNew R (sArq 8 (n + 1) (fun _ => none)) (n + 1)) S) := fun K => hNewQ hc S (n := n + 1) (by omega) K
          obtain ⟨R', F, o, fw, bF, eF1, eF2, bo, x2, hc2⟩ := f_readsCopy hg hc S r4 bf (by omega) ef (r := R.2.1) (Nat.le_refl _) hb v (nI j) n 0 (by omega) sFuel (by show n < 1000000; omega) _ _ _ _ hc1 x1 at1 (fun j hj => by omega)
          generalize R.2.1 = r at *
          generalize hw : upd (upd (upd (S.2.2.2.1 0) (775 + 2 * n) v) (775 + 2 * n + 1) (nI j)) 577 (nI (n + 1)) = w
          have hz : ∀ p, p ≠ 577 → p ≠ 775 + 2 * n → p ≠ 775 + 2 * n + 1 → w p = S.2.2.2.1 0 p := fun p h1 h2 h3 => by rw [← hw, upd_ne _ _ h1, upd_ne _ _ h3, upd_ne _ _ h2]
          have w577 : w 577 = nI (n + 1) := by rw [← hw, upd_same]
          have wa : w (775 + 2 * n) = v := by rw [← hw, upd_ne _ _ (by omega), upd_ne _ _ (by omega), upd_same]
          have wb : w (775 + 2 * n + 1) = nI j := by rw [← hw, upd_ne _ _ (by omega), upd_same]
          have z577 : hRc w = n + 1 := by show cv _ = _; rw [w577, cv_nI (by omega)]
          refine hOp.imm h hq (v := nI (n + 1)) (w := w) (R' := R') (S1 := hF S 29 (.ref r)) (x2.le (by omega) (by omega)) hc2 (fun p hp => hz p (by omega) (by omega) (by omega)) ?_ rfl (fun k h29 _ _ _ => eF S _ k h29) ?_ ?_ ?_
          · refine wStat_of h.act.1 (fun p hp => hz p (by omega) (by omega) (by omega)) ⟨wSm_of (n := n + 1) w577 (by omega) (by decide), fun k hk => ?_⟩ (wKno_eq w6 (fun p hp => hz p (by omega) (by omega) (by omega))) (wSm_al (hz _ (by omega) (by omega) (by omega)) w7) (wOwn_eq w8 (fun p hp => hz p (by omega) (by omega) (by omega)))
            rw [z577] at hk
            by_cases hk2 : k = n
            · subst hk2
              exact wSm_of wb hj (by decide)
            · exact wSm_al (hz _ (by omega) (by omega) (by omega)) (wk k (by omega))
          · refine reps4 h.reps h.act.1 x2.1 (fun p hp => hz p (by omega) (by omega) (by omega)) (fun k hk => eF S _ k (by omega)) ⟨r, hF_same _ _ _, ⟨F, fun k => if k = n then o else ao k, ?_, fun k hk => ?_⟩⟩ ⟨q5, (eF S _ 31 (by omega)).trans r5, hKnots_eq w6 (hIntsOf_ex x2.1 b5) (fun p hp => hz p (by omega) (by omega) (by omega))⟩ ⟨q6, (eF S _ 34 (by omega)).trans r6, hScarf_eq w7 (hIntsOf_ex x2.1 b6) (fun p hp => hz p (by omega) (by omega) (by omega))⟩ ⟨q7, (eF S _ 35 (by omega)).trans r7, hOwns_eq w8 (hIntsOf_ex x2.1 b7) (fun p hp => hz p (by omega) (by omega) (by omega))⟩
            · rw [z577]
              exact bF
            · rw [z577] at hk
              by_cases hk2 : k = n
              · subst hk2
                simp only [↓reduceIte, eF2, bo, wa, wb, and_self]
              · simp only [if_neg hk2]
                rw [eF1 k (by omega), hz _ (by omega) (by omega) (by omega), hz _ (by omega) (by omega) (by omega)]
                exact ⟨(ef k (by omega)).1, x2.1 _ _ (ef k (by omega)).2⟩
          · have n1 : nI n + 1 = nI (n + 1) := (nI_succ n).symm
            simp only [f_X0_reads, if_neg v1, fx_isIn, hv, hu, xgN_29 hg, r4, hvN_ref, lq, eq_self, ↓reduceIte, hcI, hcN, hcV, obS, if_true, if_false, b01_t, if_neg n16, n1, nA]
            exact fw
          · have c1 : (775 : Int32) + 2 * nI n = nI (775 + 2 * n) := by
              show nI 775 + nI 2 * nI n = _
              rw [pk_mul, nI_add]
            have q2 : ∀ (s : mSt) p y, p < 2355 → qAst s 0 (nI p) y = some (mRowSet s 0 (upd (s.2 0) p y)) := fun s p y hp => qst_0 s hp y
            simp (disch := omega) only [p_X3_reads, if_neg v1, px_isIn, hv, hu, pcI, b01_t, ↓reduceIte, mRow_0, obS, q577, s577, ht, e577, if_neg n16, c1, nI_1, q2, mrs_same, mrs_mrs, upd_ne, upd_same, hw]
