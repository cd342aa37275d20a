/-! both ways the same -/
set_option maxRecDepth 100000
theorem pal_half (d : Nat → Int32) (n : Nat) : (match fstN (fun k => !decide (d k = d (n - 1 - k))) (n / 2) with
    | some _ => (0 : Int32)
    | none => 1) = match fstN (fun k => !decide (d k = d (n - 1 - k))) n with
    | some _ => (0 : Int32)
    | none => 1 := by
  cases h1 : fstN (fun k => !decide (d k = d (n - 1 - k))) (n / 2) with
  | none =>
    have e := fstN_none h1
    have : fstN (fun k => !decide (d k = d (n - 1 - k))) n = none := fstN_no (fun k hk => by
      have sym : ∀ q, q < n / 2 → d q = d (n - 1 - q) := fun q hq => by simpa using e q hq
      by_cases c : k < n / 2
      · exact e k c
      · by_cases c2 : n - 1 - k < n / 2
        · have := sym _ c2
          rw [show n - 1 - (n - 1 - k) = k by omega] at this
          simp [this]
        · have : n - 1 - k = k := by omega
          simp [this])
    rw [this]
  | some k =>
    have e := fstN_some h1
    cases h2 : fstN (fun k => !decide (d k = d (n - 1 - k))) n with
    | none =>
      have := fstN_none h2 k (by omega)
      rw [e.2.1] at this
      cases this
    | some q => rfl
theorem jk_pal {A : hA} {R : sMem} {S : hS} {g : Nat → Nat} {b L : Nat} {xs : Nat → Int32} (h : hInv A R S g b L xs) (m : Nat) {i a n : Nat} (hi : i < hN (S.2.2.2.1 0)) (h1 : a + n ≤ 40) : jE (hMem A R S) S.2.2.2.2.2 (f_X0_isBothWays (hX A) (nI i) (nI a) (nI n) (hMem A R S)) (p_X3_readsBoth m (nI i) (nI a) (nI n) S.2.2.2.2.2) := by
  have hg := h.1.1
  have h3 : 0 < A.2.2 := by have := hg.2.2.2; omega
  have ht := h.t0
  have hn := h.act.n
  have hs : sFuel = 1000000 := rfl
  have m1 := fun (p : Nat) (hp : p < 40) => px_mark2 m S.2.2.2.2.2 (i := i) (p := p) (by omega) hp
  have f1 := fun (p : Nat) (hp : p < 40) => fx_mark hg R S (k := 0) h3 (i := i) (p := p) (by omega) hp
  simp only [ht] at m1
  generalize hd : (fun k => S.2.2.2.1 0 (91 + 40 * i + (a + k))) = d
  have ed : ∀ k, S.2.2.2.1 0 (91 + 40 * i + (a + k)) = d k := fun k => by rw [← hd]
  have c2 : ∀ k, k < n → nI (a + n) - 1 - nI k = nI (a + (n - 1 - k)) := fun k hk => by
    show nI (a + n) - nI 1 - nI k = _
    rw [pk_sub (by omega), pk_sub (by omega)]
    congr 1
    omega
  have P := lp_E (fun f k => f_X0_isBothWays_L3 (hX A) (nI i) (nI a) (nI n) f (nI k) (hMem A R S)) (n / 2) (fun k => !decide (d k = d (n - 1 - k))) (fun _ => some (.inl (some (.int 0)), hMem A R S)) (some (.inl (some (.int 1)), hMem A R S)) ?_ ?_ ?_ sFuel (by omega)
  rotate_left
  · intro f k hk hp
    have hp' : d k = d (n - 1 - k) := by simpa using hp
    have c0 : ¬ n / 2 ≤ k := by omega
    have c1 : nI n / 2 = nI (n / 2) := pk_div (d := 2) (by omega) (by omega) (by omega)
    have c3 : ¬ (2 : Int32) = 0 := by decide
    simp (disch := omega) only [f_X0_isBothWays_L3, if_neg c3, c1, nI_leI, c0, ↓reduceIte, xgN_23 hg, obS, ht_chk hg, nI_add, f1, hcI, c2, ed, if_pos hp', nI_1]
  · intro f k hk hp
    have hp' : ¬ d k = d (n - 1 - k) := by simpa using hp
    have c0 : ¬ n / 2 ≤ k := by omega
    have c1 : nI n / 2 = nI (n / 2) := pk_div (d := 2) (by omega) (by omega) (by omega)
    have c3 : ¬ (2 : Int32) = 0 := by decide
    simp (disch := omega) only [f_X0_isBothWays_L3, if_neg c3, c1, nI_leI, c0, ↓reduceIte, xgN_23 hg, obS, ht_chk hg, f1, hcI, c2, ed, if_neg hp', nI_add]
  · intro f
    have c0 : n / 2 ≤ n / 2 := Nat.le_refl _
    have c1 : nI n / 2 = nI (n / 2) := pk_div (d := 2) (by omega) (by omega) (by omega)
    have c3 : ¬ (2 : Int32) = 0 := by decide
    simp (disch := omega) only [f_X0_isBothWays_L3, if_neg c3, c1, nI_leI, c0, ↓reduceIte]
  have P2 := lp_E (fun f k => p_X3_readsBoth_L3 m (nI i) (nI a) (nI n) f (nI k) S.2.2.2.2.2) n (fun k => !decide (d k = d (n - 1 - k))) (fun _ => some (some (.int 0), S.2.2.2.2.2)) (some (some (.int 1), S.2.2.2.2.2)) ?_ ?_ ?_ sFuel (by omega)
  rotate_left
  · intro f k hk hp
    have hp' : d k = d (n - 1 - k) := by simpa using hp
    have c0 : ¬ n ≤ k := by omega
    simp (disch := omega) only [p_X3_readsBoth_L3, nI_leI, c0, ↓reduceIte, obS, m1, pcI, c2, ed, if_pos hp', nI_1, nI_add]
  · intro f k hk hp
    have hp' : ¬ d k = d (n - 1 - k) := by simpa using hp
    have c0 : ¬ n ≤ k := by omega
    simp (disch := omega) only [p_X3_readsBoth_L3, nI_leI, c0, ↓reduceIte, obS, m1, pcI, c2, ed, if_neg hp', nI_add]
  · intro f
    have c0 : n ≤ n := Nat.le_refl _
    simp (disch := omega) only [p_X3_readsBoth_L3, nI_leI, c0, ↓reduceIte]
  have E := pal_half d n
  refine ⟨match fstN (fun k => !decide (d k = d (n - 1 - k))) n with
    | some _ => (0 : Int32)
    | none => 1, ?_, ?_⟩
  · rw [← E]
    show f_X0_isBothWays_L3 (hX A) (nI i) (nI a) (nI n) sFuel (nI 0) (hMem A R S) = _
    rw [P]
    cases fstN (fun k => !decide (d k = d (n - 1 - k))) (n / 2) <;> rfl
  · show p_X3_readsBoth_L3 m (nI i) (nI a) (nI n) sFuel (nI 0) S.2.2.2.2.2 = _
    rw [P2]
    cases fstN (fun k => !decide (d k = d (n - 1 - k))) n <;> rfl
theorem j_both {A : hA} {R : sMem} {S : hS} {g : Nat → Nat} {b L : Nat} {xs : Nat → Int32} (h : hInv A R S g b L xs) (v u : Int32) : hOp A R S g b L xs (f_X0_both_2 (hX A) v u) (f_X3_both (A.2.1 9) v u) := by
  have hg := h.1.1
  have h3 : 0 < A.2.2 := by have := hg.2.2.2; omega
  have ht := h.t0
  have hw := h.act
  have hn := hw.n
  have hq : ∀ (R : sMem), R.1 ≤ A.2.1 9 → ∀ s : mSt, f_X3_both (A.2.1 9) v u (mPut R (A.2.1 9) s) = lft R (A.2.1 9) (p_X3_both (A.2.1 9) v u s) := fun R hR s => q_X3_both R _ hR v u s
  have f1 := fun x => fx_isWorm hg R S x
  have p1 := fun x => px_isWorm (A.2.1 9) x S.2.2.2.2.2
  simp only [ht] at p1
  obtain ⟨lo, hlo⟩ := h.lo
  cases hv : inB v 0 (S.2.2.2.1 0 571 - 1) with
  | false =>
    refine hOp.read0 h hq (v := -1) ?_ ?_
    · simp only [f_X0_both_2, hx_chk hg, f1, hv, eq_self, ↓reduceIte, hcI, hcN, hcV, obS, if_true, if_false, b01_f]
    · simp only [p_X3_both, p1, hv, pcI, b01_f, ↓reduceIte]
  | true =>
    cases hu : inB u 0 1 with
    | false =>
      refine hOp.read0 h hq (v := -1) ?_ ?_
      · simp only [f_X0_both_2, hx_chk hg, f1, hv, fx_isIn, hu, eq_self, ↓reduceIte, hcI, hcN, hcV, obS, if_true, if_false, b01_f, b01_t]
      · simp only [p_X3_both, p1, hv, px_isIn, hu, pcI, b01_f, b01_t, ↓reduceIte]
    | true =>
      obtain ⟨i, hi, rfl⟩ := inB_worm hw hv
      obtain ⟨e1, l1⟩ := hlo i hi
      have J : jE (hMem A R S) S.2.2.2.2.2 (f_X0_both_2_L29 (hX A) (nI i) u sFuel (nI (lo i)) (hMem A R S)) (p_X3_both_L29 (A.2.1 9) (nI i) u sFuel (nI (lo i)) S.2.2.2.2.2) := by
        have := lk (fun f k (_ : Unit) => f_X0_both_2_L29 (hX A) (nI i) u f (nI (lo i - k)) (hMem A R S)) (fun f k (_ : Unit) => p_X3_both_L29 (A.2.1 9) (nI i) u f (nI (lo i - k)) S.2.2.2.2.2) (lo i) (fun _ _ => True) (jE (hMem A R S) S.2.2.2.2.2) ?_ ?_ (by omega) () trivial
        · exact this
        · intro f f' k _ hk _
          have d : nI (lo i - k) + -1 = nI (lo i - (k + 1)) := by
            rw [show lo i - k = (lo i - (k + 1)) + 1 by omega]
            exact pk_m1 _
          have z0 : ¬ nI (lo i - k) ≤ 0 := nI_nle (by omega) (by omega)
          generalize hN' : lo i - k = n at *
          have IN := lk (fun q a (_ : Unit) => f_X0_both_2_L36 (f_X0_both_2_L29 (hX A) (nI i) u f) (hX A) (nI i) u (nI n) q (nI a) (hMem A R S)) (fun q a (_ : Unit) => p_X3_both_L36 (p_X3_both_L29 (A.2.1 9) (nI i) u f') (A.2.1 9) (nI i) u (nI n) q (nI a) S.2.2.2.2.2) (lo i - n + 1) (fun _ _ => True) (fun o p => (o = f_X0_both_2_L29 (hX A) (nI i) u f (nI (lo i - (k + 1))) (hMem A R S) ∧ p = p_X3_both_L29 (A.2.1 9) (nI i) u f' (nI (lo i - (k + 1))) S.2.2.2.2.2) ∨ jE (hMem A R S) S.2.2.2.2.2 o p) ?_ ?_ (by omega) () trivial
          · rcases IN with ⟨i1, i2⟩ | IN
            · refine Or.inl ⟨(), trivial, ?_, ?_⟩
              · simp only [f_X0_both_2_L29, if_neg z0]
                exact i1
              · simp only [p_X3_both_L29, if_neg z0]
                exact i2
            · refine Or.inr ?_
              simp only [f_X0_both_2_L29, p_X3_both_L29, if_neg z0]
              exact IN
          · intro q q' a _ ha _
            obtain ⟨x, x1, x2⟩ := jk_pal h (A.2.1 9) (i := i) (a := a) (n := n) hi (by omega)
            have c0 : ¬ lo i < a + n := by omega
            by_cases c : x = 0
            · refine Or.inl ⟨(), trivial, ?_, ?_⟩
              · simp (disch := omega) only [f_X0_both_2_L36, xgN_23 hg, xgN_22 hg, xgI_21 hg, hx_chk hg, ht_chk hg, tgN_5 hg, trl_5 hg, tgN_3 hg, trl_3 hg, obS, e1, nI_add, nI_ltI, c0, ↓reduceIte, x1, hcI, if_pos c, nI_1]
              · simp (disch := omega) only [p_X3_both_L36, mRow_0, obS, qld_19, ht, e1, nI_add, nI_ltI, c0, ↓reduceIte, x2, pcI, if_pos c, nI_1]
            · refine Or.inr (Or.inr ⟨if u = 0 then nI n else nI a, ?_, ?_⟩)
              · simp (disch := omega) only [f_X0_both_2_L36, xgN_23 hg, xgN_22 hg, xgI_21 hg, hx_chk hg, ht_chk hg, tgN_5 hg, trl_5 hg, tgN_3 hg, trl_3 hg, obS, e1, nI_add, nI_ltI, c0, ↓reduceIte, x1, hcI, if_neg c]
              · simp (disch := omega) only [p_X3_both_L36, mRow_0, obS, qld_19, ht, e1, nI_add, nI_ltI, c0, ↓reduceIte, x2, pcI, if_neg c]
          · intro q q' _ _
            have c0 : lo i < lo i - n + 1 + n := by omega
            refine Or.inl ⟨?_, ?_⟩
            · simp (disch := omega) only [f_X0_both_2_L36, xgN_23 hg, xgN_22 hg, xgI_21 hg, hx_chk hg, ht_chk hg, tgN_5 hg, trl_5 hg, tgN_3 hg, trl_3 hg, obS, e1, nI_add, nI_ltI, c0, ↓reduceIte, d]
            · simp (disch := omega) only [p_X3_both_L36, mRow_0, obS, qld_19, ht, e1, nI_add, nI_ltI, c0, ↓reduceIte, d]
        · intro f f' _ _
          have z0 : nI (lo i - lo i) ≤ 0 := by rw [Nat.sub_self]; decide
          refine ⟨if u = 0 then 0 else -1, ?_, ?_⟩
          · simp only [f_X0_both_2_L29, if_pos z0]
          · simp only [p_X3_both_L29, if_pos z0]
      obtain ⟨x, x1, x2⟩ := J
      refine hOp.read0 h hq (v := x) ?_ ?_
      · simp (disch := omega) only [f_X0_both_2, hx_chk hg, f1, hv, fx_isIn, hu, eq_self, ↓reduceIte, hcI, hcN, hcV, obS, if_true, if_false, b01_t, xgN_23 hg, xgN_22 hg, xgI_21 hg, hx_chk hg, ht_chk hg, tgN_5 hg, trl_5 hg, tgN_3 hg, trl_3 hg, e1, x1]
      · simp (disch := omega) only [p_X3_both, p1, hv, px_isIn, hu, pcI, b01_t, ↓reduceIte, mRow_0, obS, qld_19, ht, e1, x2]
