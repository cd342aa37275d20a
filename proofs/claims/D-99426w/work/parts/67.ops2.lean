/-! calls that look: book, fault, would, fact -/
set_option maxRecDepth 100000
theorem hb1 : ¬ b01 true = 0 := by decide
theorem hb0 : b01 false = 0 := by decide
theorem j_book {A : hA} {R : sMem} {S : hS} {g : Nat → Nat} {b L : Nat} {xs : Nat → Int32} (h : hInv A R S g b L xs) (v w : Int32) : hOp A R S g b L xs (f_X0_book (hX A) v w) (f_X3_book (A.2.1 9) v w) := by
  have hg := h.1.1
  have h3 : 0 < A.2.2 := by have := hg.2.2.2; omega
  have ht := h.t0
  have hw := h.act
  have hq : ∀ (R : sMem), R.1 ≤ A.2.1 9 → ∀ s : mSt, f_X3_book (A.2.1 9) v w (mPut R (A.2.1 9) s) = lft R (A.2.1 9) (p_X3_book (A.2.1 9) v w s) := fun R hR s => q_X3_book R _ hR v w s
  have q6 : qAld S.2.2.2.2.2 0 6 = some (S.2.2.2.1 0 6) := by rw [← ht]; exact qld_0 _ (p := 6) (by omega)
  have e6 : S.2.2.2.1 0 6 = nI (cv (S.2.2.2.1 0 6)) := hw.2.2.2.1.1
  have l6 := hw.2.2.2.1.2
  cases hv : inB v 0 (S.2.2.2.1 0 6 - 1) with
  | false =>
    refine hOp.read0 h hq (v := -1) ?_ ?_
    · simp (disch := omega) only [f_X0_book, xgN_23 hg, tgI_16 hg, eq_self, ↓reduceIte, hcI, hcN, hcV, obS, if_true, if_false, fx_isIn, hv, b01_f]
    · simp only [p_X3_book, mRow_0, obS, q6, px_isIn, hv, pcI, b01_f, ↓reduceIte]
  | true =>
    cases hv2 : inB w 0 3 with
    | false =>
      refine hOp.read0 h hq (v := -1) ?_ ?_
      · simp (disch := omega) only [f_X0_book, xgN_23 hg, tgI_16 hg, eq_self, ↓reduceIte, hcI, hcN, hcV, obS, if_true, if_false, fx_isIn, hv, hv2, b01_t, b01_f]
      · simp only [p_X3_book, mRow_0, obS, q6, px_isIn, hv, hv2, pcI, b01_t, b01_f, ↓reduceIte]
    | true =>
      obtain ⟨j, hj, rfl⟩ := inB_lit (k := 3) (by omega) hv2
      have hv' := hv
      rw [e6] at hv'
      obtain ⟨i, hi, rfl⟩ := inB_below (by omega) hv'
      have c4 : (4 : Int32) * nI i + nI j = nI (4 * i + j) := by
        show nI 4 * nI i + _ = _
        rw [pk_mul, nI_add]
      have c8 : (871 : Int32) + 4 * nI i + nI j = nI (871 + (4 * i + j)) := by
        show nI 871 + nI 4 * nI i + _ = _
        rw [pk_mul, nI_add, nI_add, Nat.add_assoc]
      have qq : qAld S.2.2.2.2.2 0 (nI (871 + (4 * i + j))) = some (S.2.2.2.1 0 (871 + (4 * i + j))) := by rw [← ht]; exact qld_0 _ (by omega)
      refine hOp.read0 h hq (v := S.2.2.2.1 0 (871 + (4 * i + j))) ?_ ?_
      · simp (disch := omega) only [f_X0_book, xgN_23 hg, tgI_16 hg, eq_self, ↓reduceIte, hcI, hcN, hcV, obS, if_true, if_false, fx_isIn, hv, hv2, b01_t, xgN_26 hg, c4, hq_ld4 hg]
      · simp only [p_X3_book, mRow_0, obS, q6, px_isIn, hv, hv2, pcI, b01_t, ↓reduceIte, c8, qq]
theorem j_fault {A : hA} {R : sMem} {S : hS} {g : Nat → Nat} {b L : Nat} {xs : Nat → Int32} (h : hInv A R S g b L xs) (v : Int32) : hOp A R S g b L xs (f_X0_fault (hX A) v) (f_X3_fault (A.2.1 9) v) := by
  have hg := h.1.1
  have hq : ∀ (R : sMem), R.1 ≤ A.2.1 9 → ∀ s : mSt, f_X3_fault (A.2.1 9) v (mPut R (A.2.1 9) s) = lft R (A.2.1 9) (p_X3_fault (A.2.1 9) v s) := fun R hR s => q_X3_fault R _ hR v s
  obtain ⟨n, h1, h2, h4, h5, h6, h7⟩ := h.2.1
  by_cases v0 : v = 0
  · refine hOp.read0 h hq (v := S.2.2.2.2.2.1 23) ?_ ?_
    · simp only [f_X0_fault, v0, xgI_14 hg, h6, hvI_int, eq_self, ↓reduceIte, hcI, hcN, hcV, obS, if_true, if_false]
    · simp only [p_X3_fault, v0, qg, obS, ↓reduceIte]
  · by_cases v1 : v = 1
    · refine hOp.read0 h hq (v := S.2.2.2.2.2.1 25) ?_ ?_
      · simp only [f_X0_fault, v0, v1, xgI_15 hg, h7, hvI_int, eq_self, ↓reduceIte, hcI, hcN, hcV, obS, if_true, if_false]
        simp
      · simp only [p_X3_fault, v0, v1, qg, obS, ↓reduceIte]
        simp
    · refine hOp.read0 h hq (v := -1) ?_ ?_
      · simp only [f_X0_fault, v0, v1, eq_self, ↓reduceIte, hcI, hcN, hcV, obS, if_true, if_false]
      · simp only [p_X3_fault, v0, v1, ↓reduceIte]
theorem inB_fact {t : Nat → Int32} (hw : wFac t) {v : Int32} (h : inB v 0 (t 572 - 1) = true) : ∃ a, a < hFc t ∧ v = nI a := by
  have e : t 572 = nI (hFc t) := hw.1.1
  have l : hFc t ≤ 10 := hw.1.2
  rw [e] at h
  exact inB_below (by omega) h
theorem inB_m1 (n : Int32) : inB (-1) 0 n = false := by
  have : ((-1 : Int32) < 0) := by decide
  simp [inB, this]
/-- a couple of facts -/
def wCpl (t : Nat → Int32) (v w : Int32) : Bool := inB v 0 (t 572 - 1) && (!decide (v = w) && (decide (w = -1) || inB w 0 (t 572 - 1)))
theorem px_areFacts (m : Nat) (v w : Int32) (s : mSt) : p_X3_areFacts m v w s = some (some (.int (b01 (wCpl (s.2 0) v w))), s) := by
  unfold wCpl
  cases h1 : inB v 0 (s.2 0 572 - 1) with
  | false =>
    simp only [p_X3_areFacts, px_isFact, h1, pcI, b01_f, ↓reduceIte]
    rfl
  | true =>
    by_cases h2 : v = w
    · simp only [p_X3_areFacts, px_isFact, h1, pcI, b01_t, ↓reduceIte, h2]
      simp [b01]
    · by_cases h3 : w = -1
      · simp only [p_X3_areFacts, px_isFact, h1, pcI, b01_t, ↓reduceIte, h2, h3]
        rw [h3] at h2
        simp [b01, h2]
      · cases h4 : inB w 0 (s.2 0 572 - 1) with
        | false =>
          simp only [p_X3_areFacts, px_isFact, h1, pcI, b01_t, b01_f, ↓reduceIte, h2, h3, h4]
          simp [b01, h2, h3]
        | true =>
          simp only [p_X3_areFacts, px_isFact, h1, pcI, b01_t, b01_f, ↓reduceIte, h2, h3, h4]
          simp [b01, h2, h3]
theorem wCpl_of {t : Nat → Int32} (hw : wFac t) {v w : Int32} (h : wCpl t v w = true) : ∃ a b, a < hFc t ∧ okB t b ∧ v = nI a ∧ w = bI b ∧ v ≠ w := by
  unfold wCpl at h
  simp only [Bool.and_eq_true, Bool.or_eq_true, Bool.not_eq_true', decide_eq_false_iff_not, decide_eq_true_eq] at h
  obtain ⟨h1, h2, h3⟩ := h
  obtain ⟨a, ha, e⟩ := inB_fact hw h1
  rcases h3 with h3 | h3
  · exact ⟨a, none, ha, fun k hk => (by cases hk), e, h3, h2⟩
  · obtain ⟨b, hb, e2⟩ := inB_fact hw h3
    exact ⟨a, some b, ha, fun k hk => (by cases hk; exact hb), e, e2, h2⟩
theorem wMany_le {t : Nat → Int32} (hw : wFac t) {a : Nat} {b : Option Nat} (ha : a < hFc t) (hb : okB t b) : wMany t a b ≤ 12 ∧ 1 ≤ wMany t a b := by
  have l1 : hMc t a ≤ 6 := (hw.2 a ha).1.2
  have l0 : 1 ≤ hMc t a := (hw.2 a ha).2.1
  unfold wMany
  cases b with
  | none => simp only []; omega
  | some b =>
    have l2 : hMc t b ≤ 6 := (hw.2 b (hb b rfl)).1.2
    simp only []; omega
theorem j_would {A : hA} {R : sMem} {S : hS} {g : Nat → Nat} {b L : Nat} {xs : Nat → Int32} (h : hInv A R S g b L xs) (v w x : Int32) : hOp A R S g b L xs (f_X0_would (hX A) v w x) (f_X3_would (A.2.1 9) v w x) := by
  have hg := h.1.1
  have hc := h.1.2.1
  have ht := h.t0
  have hw := h.act.1.2.1
  have hq : ∀ (R : sMem), R.1 ≤ A.2.1 9 → ∀ s : mSt, f_X3_would (A.2.1 9) v w x (mPut R (A.2.1 9) s) = lft R (A.2.1 9) (p_X3_would (A.2.1 9) v w x s) := fun R hR s => q_X3_would R _ hR v w x s
  have f1 := fun u => fx_isFact hg hc h.fa hw u
  have p1 := px_areFacts (A.2.1 9) v w S.2.2.2.2.2
  rw [ht] at p1
  cases hcp : wCpl (S.2.2.2.1 0) v w with
  | false =>
    rw [hcp] at p1
    refine hOp.read0 h hq (v := -1) ?_ ?_
    · unfold wCpl at hcp
      cases i1 : inB v 0 (S.2.2.2.1 0 572 - 1) with
      | false =>
        simp only [f_X0_would, hx_chk hg, f1, i1, eq_self, ↓reduceIte, hcI, hcN, hcV, obS, if_true, if_false, b01_f]
      | true =>
        rw [i1] at hcp
        by_cases i2 : v = w
        · by_cases i3 : w = -1
          · rw [i2, i3, inB_m1] at i1
            cases i1
          · simp only [f_X0_would, f_X0_would_J21, hx_chk hg, f1, i1, eq_self, ↓reduceIte, hcI, hcN, hcV, obS, if_true, if_false, b01_t, i2, i3]
            rw [i2] at i1
            simp only [i1, b01_t, ↓reduceIte]
        · by_cases i3 : w = -1
          · simp [i2, i3] at hcp
            rw [i3] at i2
            exact absurd hcp i2
          · have i4 : inB w 0 (S.2.2.2.1 0 572 - 1) = false := by simpa [i2, i3] using hcp
            simp only [f_X0_would, f_X0_would_J21, hx_chk hg, f1, i1, eq_self, ↓reduceIte, hcI, hcN, hcV, obS, if_true, if_false, b01_t, b01_f, i2, i3, i4]
    · simp only [p_X3_would, p1, pcI, b01_f, ↓reduceIte]
  | true =>
    rw [hcp] at p1
    obtain ⟨a, bo, ha, hb, rfl, rfl, hne⟩ := wCpl_of hw hcp
    obtain ⟨lm, lm1⟩ := wMany_le hw ha hb
    obtain ⟨R1, r, f, e1, ex, hc1, hr, hf⟩ := f_spunOf (S := S) hg hc h.fa hw ha hb
    have ln := hR_len hc1 S hr
    have J : ∀ y : Int32, (inB x 0 (nI (wMany (S.2.2.2.1 0) a bo) - 1) = false → y = -1) → (∀ i, x = nI i → i < wMany (S.2.2.2.1 0) a bo → y = wMark (S.2.2.2.1 0) a bo i) → f_X0_would (hX A) (nI a) (bI bo) x (hMem A R S) = some (.inl (some (.int y)), hMem A R1 S) := by
      intro y y1 y2
      have j21 : f_X0_would_J21 (hX A) (nI a) (bI bo) x (hMem A R S) = some (.inl (some (.int y)), hMem A R1 S) := by
        cases hx : inB x 0 (nI (wMany (S.2.2.2.1 0) a bo) - 1) with
        | false =>
          rw [y1 hx]
          simp only [f_X0_would_J21, hne, hx_chk hg, e1, ln, eq_self, ↓reduceIte, hcI, hcN, hcV, obS, if_true, if_false, fx_isIn, hx, b01_f]
        | true =>
          obtain ⟨i, hi, rfl⟩ := inB_below (by omega) hx
          have ld : sXld (hMem A R1 S) 0 r (nI i) = some (wMark (S.2.2.2.1 0) a bo i) := by rw [hR_ld hc1 S hr hi (by omega), hf i hi]
          rw [y2 i rfl hi]
          simp only [f_X0_would_J21, hne, hx_chk hg, e1, ln, eq_self, ↓reduceIte, hcI, hcN, hcV, obS, if_true, if_false, fx_isIn, hx, b01_t, ld]
      have i1 : inB (nI a) 0 (S.2.2.2.1 0 572 - 1) = true := by
        unfold wCpl at hcp
        exact (Bool.and_eq_true_iff.mp hcp).1
      cases bo with
      | none =>
        have : (-1 : Int32) = -1 := rfl
        simp only [f_X0_would, hx_chk hg, f1, i1, eq_self, ↓reduceIte, hcI, hcN, hcV, obS, if_true, if_false, b01_t, bI_none] at j21 ⊢
        exact j21
      | some b2 =>
        have hb2 := hb b2 rfl
        have h10 : hFc (S.2.2.2.1 0) ≤ 10 := hw.1.2
        have i2 : inB (nI b2) 0 (S.2.2.2.1 0 572 - 1) = true := by
          unfold wCpl at hcp
          have := (Bool.and_eq_true_iff.mp (Bool.and_eq_true_iff.mp hcp).2).2
          rw [bI_some] at this
          simpa [nI_m1 b2 (by omega)] using this
        have n1 := nI_m1F (n := b2) (by omega)
        simp only [f_X0_would, hx_chk hg, f1, i1, i2, eq_self, ↓reduceIte, hcI, hcN, hcV, obS, if_true, if_false, b01_t, bI_some, n1] at j21 ⊢
        exact j21
    have exx := ex.le (c' := 18000) (n' := 84000) (by omega) (by omega)
    by_cases x0 : x < 0
    · refine hOp.read h hq (v := -1) (J (-1) (fun _ => rfl) (fun i e hi => ?_)) (hSame.refl S) exx hc1 (s' := S.2.2.2.2.2) ?_ (Sw.refl _)
      · rw [e] at x0
        exact absurd x0 (nI_pos (by omega))
      · simp only [p_X3_would, p1, pcI, b01_t, ↓reduceIte, x0]
    · obtain ⟨i, hi, rfl⟩ := nI_of x0
      by_cases i12 : i < 1000
      · have pm := px_mark (A.2.1 9) S.2.2.2.2.2 (a := a) (b := bo) (i := i) (by rw [ht]; exact hw) (by rw [ht]; exact ha) (by rw [ht]; exact hb) i12
        rw [ht] at pm
        refine hOp.read h hq (v := wMark (S.2.2.2.1 0) a bo i) (J _ (fun hx => ?_) (fun i' e hi' => ?_)) (hSame.refl S) exx hc1 (s' := S.2.2.2.2.2) ?_ (Sw.refl _)
        · unfold wMark
          rw [if_neg (fun hlt => ?_)]
          unfold inB at hx
          have e1 : nI (wMany (S.2.2.2.1 0) a bo) - 1 = nI (wMany (S.2.2.2.1 0) a bo - 1) := by
            have := pk_sub (a := wMany (S.2.2.2.1 0) a bo) (b := 1) (by omega)
            exact this
          have n2 : ¬ nI (wMany (S.2.2.2.1 0) a bo - 1) < nI i := by
            rw [nI_ltI (by omega) (by omega)]
            omega
          rw [e1] at hx
          simp [x0, n2] at hx
        · rw [nI_eq (by omega) (by omega)] at e
          rw [e]
        · simp only [p_X3_would, p1, pcI, b01_t, ↓reduceIte, x0, pm]
      · have hm := px_many (A.2.1 9) S.2.2.2.2.2 (a := a) (b := bo) (by rw [ht]; exact hw) (by rw [ht]; exact ha) (by rw [ht]; exact hb)
        rw [ht] at hm
        have n3 : ¬ nI i < nI (wMany (S.2.2.2.1 0) a bo) := by
          rw [nI_ltI (by omega) (by omega)]
          omega
        refine hOp.read h hq (v := -1) (J _ (fun _ => rfl) (fun i' e hi' => ?_)) (hSame.refl S) exx hc1 (s' := S.2.2.2.2.2) ?_ (Sw.refl _)
        · rw [nI_eq (by omega) (by omega)] at e
          omega
        · simp only [p_X3_would, p1, pcI, b01_t, ↓reduceIte, x0, p_X3_spunMark, hm, n3]
