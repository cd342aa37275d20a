/-! calls that set: state, set, worm -/
set_option maxRecDepth 100000
/-- a call that changes -/
theorem hOp.write {A : hA} {R R' : sMem} {S S1 : hS} {g : Nat → Nat} {b L : Nat} {xs : Nat → Int32} {f1 f2 : sMem → Option (sRes × sMem)} {pf : mSt → Option (Option Value × mSt)} {v : Int32} {s' : mSt} (h : hInv A R S g b L xs) (hq : ∀ (R : sMem), R.1 ≤ A.2.1 9 → ∀ s : mSt, f2 (mPut R (A.2.1 9) s) = lft R (A.2.1 9) (pf s)) (e1 : f1 (hMem A R S) = some (.inl (some (.int v)), hMem A R' S1)) (hm : S1.2.2.2.2.2 = S.2.2.2.2.2) (hex : hEx 18000 84000 R R') (e2 : pf S.2.2.2.2.2 = some (some (.int v), s')) (hI : hInv A R' (hM S1 s') g b L xs) : hOp A R S g b L xs f1 f2 := by
  have e3 := hLft_of h.1.1 R' S1 hq
  rw [hm, e2] at e3
  exact ⟨v, hMem A R' S1, A, R', hM S1 s', e1, hM_chk h.1.1 R' S1, hI.script, e3, hI, rfl, rfl, rfl, hex⟩
theorem wAct_safe {t : Nat → Int32} (h : wAct t) {t' : Nat → Int32} (al : wAl3 t t') (e : ∀ p, p = 6 ∨ (19 ≤ p ∧ p < 31) ∨ (43 ≤ p ∧ p < 79) ∨ (79 + hN t ≤ p ∧ p < 91) ∨ (91 ≤ p ∧ p < 572) → t' p = t p) : wAct t' := ⟨wStat_al3 al h.1, wDyn_safe h.n h.2 e⟩
/-- one entry of the world set, and nothing to undo -/
theorem hInv.set1 {A : hA} {R : sMem} {S : hS} {g : Nat → Nat} {b L : Nat} {xs : Nat → Int32} (h : hInv A R S g b L xs) {p : Nat} (v : Int32) (hp : p = 1 ∨ p = 5 ∨ p = 573 ∨ 7 ≤ p ∧ p < 19 ∨ 593 ≤ p ∧ p < 605) : hInv A R (hM (hF (hT S 0 (upd (S.2.2.2.1 0) p v)) 28 (.int 0)) (mSet (mRowSet S.2.2.2.2.2 0 (upd (S.2.2.2.1 0) p v)) 4 0)) g b L xs := by
  have hw := h.act
  have hn := hw.n
  have al : wAl3 (S.2.2.2.1 0) (upd (S.2.2.2.1 0) p v) := fun r hr => upd_ne _ _ (by omega)
  have w' : wAct (upd (S.2.2.2.1 0) p v) := wAct_safe hw al (fun r hr => upd_ne _ _ (by omega))
  have e1 : (hM (hF (hT S 0 (upd (S.2.2.2.1 0) p v)) 28 (.int 0)) (mSet (mRowSet S.2.2.2.2.2 0 (upd (S.2.2.2.1 0) p v)) 4 0)).1 = (hF S 28 (.int 0)).1 := rfl
  refine h.forget (fun _ _ h => h) h.1.2.1 (t' := upd (S.2.2.2.1 0) p v) (s' := mSet (mRowSet S.2.2.2.2.2 0 (upd (S.2.2.2.1 0) p v)) 4 0) ?_ w' (fun r hr => ?_) ?_ ?_ h.1.2.2.1 rfl rfl ?_ ?_ rfl ?_ ?_ ?_ ?_
  · show (hF (hT S 0 (upd (S.2.2.2.1 0) p v)) 28 (.int 0)).2.2.2.1 0 = _
    rw [hF_2, hT_same]
  · rw [upd_ne _ _ (by omega)]
    exact h.1.2.2.2.2.2.1 r hr
  · have := h.1.2.2.2.2.2.2.al2 hw.1 al.two
    rw [e1]
    unfold hReps at this ⊢
    simp (disch := omega) only [hF_ne]
    exact this
  · show (hF (hT S 0 (upd (S.2.2.2.1 0) p v)) 28 (.int 0)).2.2.2.1 2 = _
    rw [hF_2, hT_ne _ _ (by omega)]
  · rw [e1, hF_same]
  · intro k hk
    rw [e1, hF_ne _ _ (by omega)]
  · rw [ms_2, mrs_same]
  · intro j hj
    rw [ms_2, mrs_ne _ _ (by omega)]
  · rw [ms_same]
  · intro k hk
    rw [ms_ne _ _ (by omega), mrs_1]
theorem j_state {A : hA} {R : sMem} {S : hS} {g : Nat → Nat} {b L : Nat} {xs : Nat → Int32} (h : hInv A R S g b L xs) (v : Int32) : hOp A R S g b L xs (f_X0_state (hX A) v) (f_X3_state (A.2.1 9) v) := by
  have hg := h.1.1
  have h3 : 0 < A.2.2 := by have := hg.2.2.2; omega
  have ht := h.t0
  have hq : ∀ (R : sMem), R.1 ≤ A.2.1 9 → ∀ s : mSt, f_X3_state (A.2.1 9) v (mPut R (A.2.1 9) s) = lft R (A.2.1 9) (p_X3_state (A.2.1 9) v s) := fun R hR s => q_X3_state R _ hR v s
  refine hOp.write h hq (v := S.2.2.2.1 0 5) (S1 := hF (hT S 0 (upd (S.2.2.2.1 0) 5 v)) 28 (.int 0)) ?_ rfl ((hEx.refl R).le (by omega) (by omega)) ?_ (h.set1 v (by omega))
  · simp (disch := omega) only [f_X0_state, xgN_23 hg, tgI_15 hg, tp_15 hg, xp_28 hg, eq_self, ↓reduceIte, hcI, hcN, hcV, obS, if_true, if_false]
  · have q5 : ∀ s : mSt, qAld s 0 5 = some (s.2 0 5) := fun s => qld_0 s (p := 5) (by omega)
    have s5 : ∀ (s : mSt) x, qAst s 0 5 x = some (mRowSet s 0 (upd (s.2 0) 5 x)) := fun s x => qst_0 s (p := 5) (by omega) x
    simp only [p_X3_state, p_X3_forgets, mRow_0, obS, q5, s5, ht, qp, pcV]
theorem j_set {A : hA} {R : sMem} {S : hS} {g : Nat → Nat} {b L : Nat} {xs : Nat → Int32} (h : hInv A R S g b L xs) (v w x : Int32) : hOp A R S g b L xs (f_X0_set (hX A) v w x) (f_X3_set (A.2.1 9) v w x) := by
  have hg := h.1.1
  have h3 : 0 < A.2.2 := by have := hg.2.2.2; omega
  have ht := h.t0
  have hw := h.act
  have hn := hw.n
  have hq : ∀ (R : sMem), R.1 ≤ A.2.1 9 → ∀ s : mSt, f_X3_set (A.2.1 9) v w x (mPut R (A.2.1 9) s) = lft R (A.2.1 9) (p_X3_set (A.2.1 9) v w x s) := fun R hR s => q_X3_set R _ hR v w x s
  have q2 : ∀ (s : mSt) p y, p < 2355 → qAst s 0 (nI p) y = some (mRowSet s 0 (upd (s.2 0) p y)) := fun s p y hp => qst_0 s hp y
  have ex0 := (hEx.refl R).le (c' := 18000) (n' := 84000) (by omega) (by omega)
  have f1 := fx_isWorm hg R S w
  have p1 := px_isWorm (A.2.1 9) w S.2.2.2.2.2
  rw [ht] at p1
  have h10 : ¬ (1 : Int32) = 0 := by decide
  have h31 : ¬ (3 : Int32) = 0 := by decide
  cases hv : inB v 0 3 with
  | false =>
    have n0 : ¬ v = 0 := fun e => by rw [e] at hv; exact absurd hv (by decide)
    have n1 : ¬ v = 1 := fun e => by rw [e] at hv; exact absurd hv (by decide)
    have hv2 : inB v 2 3 = false := by
      unfold inB at hv ⊢
      by_cases c1 : v < 2
      · simp [c1]
      · have c0 : ¬ v < 0 := fun q => c1 (by
          rw [Int32.lt_iff_toInt_lt] at q ⊢
          have a0 : (0 : Int32).toInt = 0 := by decide
          have a2 : (2 : Int32).toInt = 2 := by decide
          omega)
        simpa [c1, c0] using hv
    refine hOp.read0 h hq (v := 0) ?_ ?_
    · simp only [f_X0_set, fx_isIn, hv, eq_self, ↓reduceIte, hcI, hcN, hcV, obS, if_true, if_false, b01_f]
    · simp only [p_X3_set, p_X3_set_J62, px_isIn, n0, n1, hv2, pcI, b01_f, ↓reduceIte]
  | true =>
    obtain ⟨k, hk, rfl⟩ := inB_lit (k := 3) (by omega) hv
    have hk4 : k = 0 ∨ k = 1 ∨ k = 2 ∨ k = 3 := by omega
    rcases hk4 with rfl | rfl | rfl | rfl
    · have e0 : (nI 0 = 0) = True := eq_true nI_0
      cases hx : inB x 0 999 with
      | false =>
        refine hOp.read0 h hq (v := 0) ?_ ?_
        · simp only [f_X0_set, fx_isIn, hv, hx, eq_self, ↓reduceIte, hcI, hcN, hcV, obS, if_true, if_false, b01_f, b01_t, e0]
        · simp only [p_X3_set, p_X3_set_J62, px_isIn, e0, hx, pcI, b01_f, ↓reduceIte]
      | true =>
        refine hOp.write h hq (v := 1) (S1 := hF (hT S 0 (upd (S.2.2.2.1 0) 1 x)) 28 (.int 0)) ?_ rfl ex0 ?_ (h.set1 x (by omega))
        · have le1 : nI 0 ≤ (1 : Int32) := by decide
          simp (disch := omega) only [f_X0_set, f_X0_set_J44, f_X0_set_J100, fx_isIn, hv, hx, eq_self, ↓reduceIte, hcI, hcN, hcV, obS, if_true, if_false, b01_t, e0, le1, xgN_23 hg, tp_9 hg, xp_28 hg]
        · have s5 : ∀ (s : mSt) x, qAst s 0 1 x = some (mRowSet s 0 (upd (s.2 0) 1 x)) := fun s x => qst_0 s (p := 1) (by omega) x
          simp only [p_X3_set, p_X3_set_J62, p_X3_set_J111, p_X3_forgets, px_isIn, e0, hx, pcI, pcV, b01_t, ↓reduceIte, mRow_0, obS, s5, qp, ht]
    · have e0 : (nI 1 = 0) = False := by simp [nI_eq (a := 1) (b := 0)]; decide
      have e1 : (nI 1 = 1) = True := eq_true rfl
      cases hx : inB x 0 9 with
      | false =>
        refine hOp.read0 h hq (v := 0) ?_ ?_
        · simp only [f_X0_set, fx_isIn, hv, hx, eq_self, ↓reduceIte, hcI, hcN, hcV, obS, if_true, if_false, b01_f, b01_t, e0]
        · simp only [p_X3_set, p_X3_set_J62, px_isIn, e0, e1, hx, pcI, b01_f, ↓reduceIte]
      | true =>
        refine hOp.write h hq (v := 1) (S1 := hF (hT S 0 (upd (S.2.2.2.1 0) 573 x)) 28 (.int 0)) ?_ rfl ex0 ?_ (h.set1 x (by omega))
        · have le1 : nI 1 ≤ (1 : Int32) := by decide
          simp (disch := omega) only [f_X0_set, f_X0_set_J44, f_X0_set_J100, fx_isIn, hv, hx, eq_self, ↓reduceIte, hcI, hcN, hcV, obS, if_true, if_false, b01_t, e0, e1, le1, xgN_23 hg, tp_10 hg, xp_28 hg]
        · have s5 : ∀ (s : mSt) x, qAst s 0 573 x = some (mRowSet s 0 (upd (s.2 0) 573 x)) := fun s x => qst_0 s (p := 573) (by omega) x
          simp only [p_X3_set, p_X3_set_J62, p_X3_set_J111, p_X3_forgets, px_isIn, e0, e1, hx, pcI, pcV, b01_t, ↓reduceIte, mRow_0, obS, s5, qp, ht]
    · have e0 : (nI 2 = 0) = False := eq_false (by decide)
      have e1 : (nI 2 = 1) = False := eq_false (by decide)
      have e2 : (nI 2 = 2) = True := eq_true rfl
      have le1 : ¬ nI 2 ≤ (1 : Int32) := by decide
      have i23 : inB (nI 2) 2 3 = true := by decide
      cases hwm : inB w 0 (S.2.2.2.1 0 571 - 1) with
      | false =>
        rw [hwm] at f1 p1
        refine hOp.read0 h hq (v := 0) ?_ ?_
        · cases hx : inB x 0 9 <;> simp (disch := omega) only [f_X0_set, fx_isIn, hv, hx, eq_self, ↓reduceIte, hcI, hcN, hcV, obS, if_true, if_false, b01_f, b01_t, e0, le1, hx_chk hg, f1]
        · simp only [p_X3_set, p_X3_set_J62, px_isIn, e0, e1, i23, pcI, b01_t, b01_f, ↓reduceIte, p1]
      | true =>
        rw [hwm] at f1 p1
        have e571 : S.2.2.2.1 0 571 = nI (hN (S.2.2.2.1 0)) := hw.1.1.1.1
        rw [e571] at hwm
        obtain ⟨i, hi, rfl⟩ := inB_below (by omega) hwm
        have c593 : (593 : Int32) + nI i = nI (593 + i) := nI_add 593 i
        cases hx : inB x 0 9 with
        | false =>
          refine hOp.read0 h hq (v := 0) ?_ ?_
          · simp (disch := omega) only [f_X0_set, fx_isIn, hv, hx, eq_self, ↓reduceIte, hcI, hcN, hcV, obS, if_true, if_false, b01_f, b01_t, e0, le1, hx_chk hg, f1]
          · simp only [p_X3_set, p_X3_set_J62, px_isIn, e0, e1, i23, hx, pcI, b01_t, b01_f, ↓reduceIte, p1]
        | true =>
          refine hOp.write h hq (v := 1) (S1 := hF (hT S 0 (upd (S.2.2.2.1 0) (593 + i) x)) 28 (.int 0)) ?_ rfl ex0 ?_ (h.set1 x (by omega))
          · simp (disch := omega) only [f_X0_set, f_X0_set_J44, f_X0_set_J97, f_X0_set_J100, fx_isIn, hv, hx, eq_self, ↓reduceIte, hcI, hcN, hcV, obS, if_true, if_false, b01_t, e0, e1, e2, le1, hx_chk hg, f1, xgN_23 hg, tgN_0 hg, trs_0 hg, xp_28 hg]
          · simp (disch := omega) only [p_X3_set, p_X3_set_J62, p_X3_set_J111, p_X3_forgets, px_isIn, e0, e1, e2, i23, hx, pcI, pcV, b01_t, ↓reduceIte, p1, mRow_0, obS, c593, q2, h10, qp, ht]
    · have e0 : (nI 3 = 0) = False := eq_false (by decide)
      have e1 : (nI 3 = 1) = False := eq_false (by decide)
      have e2 : (nI 3 = 2) = False := eq_false (by decide)
      have le1 : ¬ nI 3 ≤ (1 : Int32) := by decide
      have i23 : inB (nI 3) 2 3 = true := by decide
      cases hwm : inB w 0 (S.2.2.2.1 0 571 - 1) with
      | false =>
        rw [hwm] at f1 p1
        refine hOp.read0 h hq (v := 0) ?_ ?_
        · cases hx : inB x 0 9 <;> simp (disch := omega) only [f_X0_set, fx_isIn, hv, hx, eq_self, ↓reduceIte, hcI, hcN, hcV, obS, if_true, if_false, b01_f, b01_t, e0, le1, hx_chk hg, f1]
        · simp only [p_X3_set, p_X3_set_J62, px_isIn, e0, e1, i23, pcI, b01_t, b01_f, ↓reduceIte, p1]
      | true =>
        rw [hwm] at f1 p1
        have e571 : S.2.2.2.1 0 571 = nI (hN (S.2.2.2.1 0)) := hw.1.1.1.1
        rw [e571] at hwm
        obtain ⟨i, hi, rfl⟩ := inB_below (by omega) hwm
        have c7 : (7 : Int32) + nI i = nI (7 + i) := nI_add 7 i
        cases hx : inB x 0 9 with
        | false =>
          refine hOp.read0 h hq (v := 0) ?_ ?_
          · simp (disch := omega) only [f_X0_set, fx_isIn, hv, hx, eq_self, ↓reduceIte, hcI, hcN, hcV, obS, if_true, if_false, b01_f, b01_t, e0, le1, hx_chk hg, f1]
          · simp only [p_X3_set, p_X3_set_J62, px_isIn, e0, e1, i23, hx, pcI, b01_t, b01_f, ↓reduceIte, p1]
        | true =>
          refine hOp.write h hq (v := 1) (S1 := hF (hT S 0 (upd (S.2.2.2.1 0) (7 + i) x)) 28 (.int 0)) ?_ rfl ex0 ?_ (h.set1 x (by omega))
          · simp (disch := omega) only [f_X0_set, f_X0_set_J44, f_X0_set_J97, f_X0_set_J100, fx_isIn, hv, hx, eq_self, ↓reduceIte, hcI, hcN, hcV, obS, if_true, if_false, b01_t, e0, e1, e2, le1, hx_chk hg, f1, xgN_23 hg, tgN_1 hg, trs_1 hg, xp_28 hg]
          · simp (disch := omega) only [p_X3_set, p_X3_set_J62, p_X3_set_J111, p_X3_forgets, px_isIn, e0, e1, e2, i23, hx, pcI, pcV, b01_t, ↓reduceIte, p1, mRow_0, obS, c7, q2, h10, qp, ht]
