/-! facts, the end, feeding the tape -/
set_option maxRecDepth 100000
theorem inB_nlo {i l : Nat} (hl : l < 2 ^ 31) (h : i < l) (x : Int32) : inB (nI i) (nI l) x = false := by
  unfold inB
  have : nI i < nI l := (nI_ltI (by omega) (by omega)).mpr h
  simp [this]
theorem j_fact {A : hA} {R : sMem} {S : hS} {g : Nat → Nat} {b L : Nat} {xs : Nat → Int32} (h : hInv A R S g b L xs) (v w : Int32) : hOp A R S g b L xs (f_X0_fact_2 (hX A) v w) (f_X3_fact (A.2.1 9) v w) := by
  have hg := h.1.1
  have hc := h.1.2.1
  have h3 : 0 < A.2.2 := by have := hg.2.2.2; omega
  have ht := h.t0
  have hw := h.act
  have wf := hw.1.2.1
  have h10 : hFc (S.2.2.2.1 0) ≤ 10 := wf.1.2
  have hq : ∀ (R : sMem), R.1 ≤ A.2.1 9 → ∀ s : mSt, f_X3_fact (A.2.1 9) v w (mPut R (A.2.1 9) s) = lft R (A.2.1 9) (p_X3_fact (A.2.1 9) v w s) := fun R hR s => q_X3_fact R _ hR v w s
  have f2 := fun u => fx_isFact hg hc h.fa wf u
  have p2 := fun u => px_isFact (A.2.1 9) u S.2.2.2.2.2
  simp only [ht] at p2
  cases hv : inB v 0 (S.2.2.2.1 0 572 - 1) with
  | false =>
    refine hOp.read0 h hq (v := -1) ?_ ?_
    · simp only [f_X0_fact_2, hx_chk hg, f2, hv, eq_self, ↓reduceIte, hcI, hcN, hcV, obS, if_true, if_false, b01_f]
    · simp only [p_X3_fact, p2, hv, pcI, b01_f, ↓reduceIte]
  | true =>
    obtain ⟨a, ha, rfl⟩ := inB_fact wf hv
    obtain ⟨q, ao, ma, g1, g2, gf⟩ := fact_get (S := S) hg hc h.fa wf
    obtain ⟨l1, k1, l2, l3, l4, l5, l6⟩ := gf a ha
    obtain ⟨w5, c1, wl, wv, wm⟩ := wf.2 a ha
    have c6 : hMc (S.2.2.2.1 0) a ≤ 6 := w5.2
    have e5 : S.2.2.2.1 0 (605 + 9 * a) = nI (hMc (S.2.2.2.1 0) a) := w5.1
    generalize hMc (S.2.2.2.1 0) a = c at *
    have pf := fun k (hk : k < 9) => px_fact (A.2.1 9) S.2.2.2.2.2 (f := a) (k := k) (by omega) hk
    rw [ht] at pf
    have p0 : p_X3_factOf (A.2.1 9) (nI a) 0 S.2.2.2.2.2 = some (some (.int (nI c)), S.2.2.2.2.2) := by
      have := pf 0 (by omega)
      rw [Nat.add_zero, e5] at this
      exact this
    have c9 : (9 : Int32) + nI c = nI (9 + c) := nI_add 9 c
    cases hw2 : inB w 0 2 with
    | true =>
      obtain ⟨k, hk, rfl⟩ := inB_lit (k := 2) (by omega) hw2
      have nb : inB (nI k) 10 (nI (9 + c)) = false := inB_nlo (l := 10) (by omega) (by omega) _
      have pk := pf k (by omega)
      have : k = 0 ∨ k = 1 ∨ k = 2 := by omega
      rcases this with rfl | rfl | rfl
      · have e0 : (nI 0 = 0) = True := eq_true nI_0
        rw [Nat.add_zero, e5] at pk
        refine hOp.read0 h hq (v := nI c) ?_ ?_
        · simp only [f_X0_fact_2, hx_chk hg, f2, hv, g1, l1, k1, l2, l5, c9, fx_isIn, nb, e0, eq_self, ↓reduceIte, hcI, hcN, hcV, obS, if_true, if_false, b01_f, b01_t]
        · simp only [p_X3_fact, p2, hv, pcI, b01_t, ↓reduceIte, px_isIn, hw2, pk]
      · have e0 : (nI 1 = 0) = False := eq_false (by decide)
        have e1 : (nI 1 = 1) = True := eq_true rfl
        refine hOp.read0 h hq (v := S.2.2.2.1 0 (605 + 9 * a + 1)) ?_ ?_
        · simp only [f_X0_fact_2, hx_chk hg, f2, hv, g1, l1, k1, l2, l3, l5, c9, fx_isIn, nb, e0, e1, eq_self, ↓reduceIte, hcI, hcN, hcV, obS, if_true, if_false, b01_f, b01_t]
        · simp only [p_X3_fact, p2, hv, pcI, b01_t, ↓reduceIte, px_isIn, hw2, pk]
      · have e0 : (nI 2 = 0) = False := eq_false (by decide)
        have e1 : (nI 2 = 1) = False := eq_false (by decide)
        have e2 : (nI 2 = 2) = True := eq_true rfl
        refine hOp.read0 h hq (v := S.2.2.2.1 0 (605 + 9 * a + 2)) ?_ ?_
        · simp only [f_X0_fact_2, hx_chk hg, f2, hv, g1, l1, k1, l2, l4, l5, c9, fx_isIn, nb, e0, e1, e2, eq_self, ↓reduceIte, hcI, hcN, hcV, obS, if_true, if_false, b01_f, b01_t]
        · simp only [p_X3_fact, p2, hv, pcI, b01_t, ↓reduceIte, px_isIn, hw2, pk]
    | false =>
      have n0 : ¬ w = 0 := fun e => by rw [e] at hw2; exact absurd hw2 (by decide)
      have n1 : ¬ w = 1 := fun e => by rw [e] at hw2; exact absurd hw2 (by decide)
      have n2 : ¬ w = 2 := fun e => by rw [e] at hw2; exact absurd hw2 (by decide)
      cases hb : inB w 10 (nI (9 + c)) with
      | false =>
        refine hOp.read0 h hq (v := -1) ?_ ?_
        · simp only [f_X0_fact_2, hx_chk hg, f2, hv, g1, l1, k1, l2, l5, c9, fx_isIn, hb, n0, n1, n2, eq_self, ↓reduceIte, hcI, hcN, hcV, obS, if_true, if_false, b01_f, b01_t]
        · simp only [p_X3_fact, p2, hv, pcI, b01_t, b01_f, ↓reduceIte, px_isIn, hw2, p0, c9, hb]
      | true =>
        obtain ⟨j, j1, j2, rfl⟩ := inB_lo (l := 10) (k := 9 + c) (by omega) (by omega) hb
        have e1 : nI j - 10 = nI (j - 10) := by
          show nI j - nI 10 = _
          rw [pk_sub (by omega)]
        have e2 : (3 : Int32) + nI j - 10 = nI (j - 7) := by
          rw [show (3 : Int32) + nI j = nI (3 + j) from nI_add 3 j]
          show nI (3 + j) - nI 10 = _
          rw [pk_sub (by omega)]
          congr 1
          omega
        have pk := pf (j - 7) (by omega)
        have lk := l6 (j - 10) (by omega)
        rw [show 605 + 9 * a + 3 + (j - 10) = 605 + 9 * a + (j - 7) by omega] at lk
        refine hOp.read0 h hq (v := S.2.2.2.1 0 (605 + 9 * a + (j - 7))) ?_ ?_
        · simp only [f_X0_fact_2, hx_chk hg, f2, hv, g1, l1, k1, l2, l5, c9, fx_isIn, hb, eq_self, ↓reduceIte, hcI, hcN, hcV, obS, if_true, if_false, b01_f, b01_t, e1]
          dsimp only [sIald]
          rw [lk]
          rfl
        · simp only [p_X3_fact, p2, hv, pcI, b01_t, b01_f, ↓reduceIte, px_isIn, hw2, p0, c9, hb, e2, pk]
