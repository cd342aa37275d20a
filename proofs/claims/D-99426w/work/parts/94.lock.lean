/-! both sides in step -/
set_option maxRecDepth 100000
abbrev hO : Type := Option (sRes × sMem)
abbrev hP : Type := Option (Option Value × mSt)
/-- the same int, and nothing changed -/
def jE (M : sMem) (s : mSt) (o : hO) (p : hP) : Prop := ∃ v : Int32, o = some (.inl (some (.int v)), M) ∧ p = some (some (.int v), s)
/-- two loops in step, from k on -/
theorem lkS {α : Type} (L1 : Nat → Nat → α → hO) (L2 : Nat → Nat → α → hP) (n : Nat) (I : Nat → α → Prop) (Q : hO → hP → Prop) (st : ∀ f f' k a, k < n → I k a → (∃ a', I (k + 1) a' ∧ L1 (f + 1) k a = L1 f (k + 1) a' ∧ L2 (f' + 1) k a = L2 f' (k + 1) a') ∨ Q (L1 (f + 1) k a) (L2 (f' + 1) k a)) (dn : ∀ f f' a, I n a → Q (L1 (f + 1) n a) (L2 (f' + 1) n a)) : ∀ j k f f' a, k + j = n → j < f → j < f' → I k a → Q (L1 f k a) (L2 f' k a) := by
  intro j
  induction j with
  | zero =>
    intro k f f' a hk hf hf' hI
    obtain ⟨f, rfl⟩ : ∃ q, f = q + 1 := ⟨f - 1, by omega⟩
    obtain ⟨f', rfl⟩ : ∃ q, f' = q + 1 := ⟨f' - 1, by omega⟩
    have : k = n := by omega
    subst this
    exact dn f f' a hI
  | succ j ih =>
    intro k f f' a hk hf hf' hI
    obtain ⟨f, rfl⟩ : ∃ q, f = q + 1 := ⟨f - 1, by omega⟩
    obtain ⟨f', rfl⟩ : ∃ q, f' = q + 1 := ⟨f' - 1, by omega⟩
    rcases st f f' k a (by omega) hI with ⟨a', h1, h2, h3⟩ | h
    · rw [h2, h3]
      exact ih (k + 1) f f' a' (by omega) (by omega) (by omega) h1
    · exact h
theorem lk {α : Type} (L1 : Nat → Nat → α → hO) (L2 : Nat → Nat → α → hP) (n : Nat) (I : Nat → α → Prop) (Q : hO → hP → Prop) (st : ∀ f f' k a, k < n → I k a → (∃ a', I (k + 1) a' ∧ L1 (f + 1) k a = L1 f (k + 1) a' ∧ L2 (f' + 1) k a = L2 f' (k + 1) a') ∨ Q (L1 (f + 1) k a) (L2 (f' + 1) k a)) (dn : ∀ f f' a, I n a → Q (L1 (f + 1) n a) (L2 (f' + 1) n a)) (hn : n < 900000) (a : α) (hI : I 0 a) : Q (L1 sFuel 0 a) (L2 sFuel 0 a) := by
  have hs : sFuel = 1000000 := rfl
  exact lkS L1 L2 n I Q st dn n 0 sFuel sFuel a (by omega) (by omega) (by omega) hI
theorem hInv.lo {A : hA} {R : sMem} {S : hS} {g : Nat → Nat} {b L : Nat} {xs : Nat → Int32} (h : hInv A R S g b L xs) : ∃ lo : Nat → Nat, ∀ i, i < hN (S.2.2.2.1 0) → S.2.2.2.1 0 (19 + i) = nI (lo i) ∧ lo i ≤ 40 :=
  ⟨fun i => hLo (S.2.2.2.1 0) i, fun i hi => (h.act.2.1 i hi).1⟩
theorem c_19 (i : Nat) : (19 : Int32) + nI i = nI (19 + i) := nI_add 19 i
theorem c_31 (i : Nat) : (31 : Int32) + nI i = nI (31 + i) := nI_add 31 i
theorem qld_19 (s : mSt) {i : Nat} (hi : i < 12) : qAld s 0 (19 + nI i) = some (s.2 0 (19 + i)) := by
  rw [c_19]
  exact qld_0 s (by omega)
theorem qld_31 (s : mSt) {i : Nat} (hi : i < 12) : qAld s 0 (31 + nI i) = some (s.2 0 (31 + i)) := by
  rw [c_31]
  exact qld_0 s (by omega)
theorem qld_571 (s : mSt) : qAld s 0 571 = some (s.2 0 571) := qld_0 s (p := 571) (by omega)
theorem qld_572 (s : mSt) : qAld s 0 572 = some (s.2 0 572) := qld_0 s (p := 572) (by omega)
theorem inB_worm {t : Nat → Int32} (hw : wAct t) {v : Int32} (h : inB v 0 (t 571 - 1) = true) : ∃ i, i < hN t ∧ v = nI i := by
  have e571 : t 571 = nI (hN t) := hw.1.1.1.1
  rw [e571] at h
  exact inB_below (by have := hw.n; omega) h
/-! splices -/
theorem jk_splices {A : hA} {R : sMem} {S : hS} {g : Nat → Nat} {b L : Nat} {xs : Nat → Int32} (h : hInv A R S g b L xs) (m : Nat) {lo : Nat → Nat} (hlo : ∀ i, i < hN (S.2.2.2.1 0) → S.2.2.2.1 0 (19 + i) = nI (lo i) ∧ lo i ≤ 40) {i j n : Nat} (hi : i < hN (S.2.2.2.1 0)) (hj : j < hN (S.2.2.2.1 0)) (h1 : n ≤ lo i) (h2 : n ≤ lo j) : jE (hMem A R S) S.2.2.2.2.2 (f_X0_isSpliced (hX A) (nI i) (nI j) (nI n) (hMem A R S)) (p_X3_splices m (nI i) (nI j) (nI n) S.2.2.2.2.2) := by
  have hg := h.1.1
  have h3 : 0 < A.2.2 := by have := hg.2.2.2; omega
  have ht := h.t0
  have hn := h.act.n
  obtain ⟨e1, l1⟩ := hlo i hi
  obtain ⟨e2, l2⟩ := hlo j hj
  refine lk (fun f k (_ : Unit) => f_X0_isSpliced_L3 (hX A) (nI i) (nI j) (nI n) f (nI k) (hMem A R S)) (fun f k (_ : Unit) => p_X3_splices_L3 m (nI i) (nI j) (nI n) f (nI k) S.2.2.2.2.2) n (fun _ _ => True) (jE (hMem A R S) S.2.2.2.2.2) ?_ ?_ (by omega) () trivial
  · intro f f' k _ hk _
    have c0 : ¬ n ≤ k := by omega
    have c1 : nI (lo i) - nI n + nI k = nI (lo i - n + k) := by rw [pk_sub h1, nI_add]
    have m1 := px_mark2 m S.2.2.2.2.2 (i := i) (p := lo i - n + k) (by omega) (by omega)
    have m2 := px_mark2 m S.2.2.2.2.2 (i := j) (p := k) (by omega) (by omega)
    have f1 := fx_mark hg R S (k := 0) h3 (i := i) (p := lo i - n + k) (by omega) (by omega)
    have f2 := fx_mark hg R S (k := 0) h3 (i := j) (p := k) (by omega) (by omega)
    rw [ht] at m1 m2
    by_cases c : S.2.2.2.1 0 (91 + 40 * i + (lo i - n + k)) = S.2.2.2.1 0 (91 + 40 * j + k)
    · refine Or.inl ⟨(), trivial, ?_, ?_⟩
      · simp (disch := omega) only [f_X0_isSpliced_L3, nI_leI, c0, xgN_23 hg, xgN_22 hg, xgI_21 hg, hx_chk hg, ht_chk hg, tgN_5 hg, trl_5 hg, tgN_3 hg, trl_3 hg, obS, ↓reduceIte, e1, c1, f1, f2, hcI, if_pos c, nI_1]
      · simp (disch := omega) only [p_X3_splices_L3, nI_leI, c0, ↓reduceIte, mRow_0, obS, qld_19, ht, e1, c1, m1, m2, pcI, if_pos c, nI_1]
    · refine Or.inr ⟨0, ?_, ?_⟩
      · simp (disch := omega) only [f_X0_isSpliced_L3, nI_leI, c0, xgN_23 hg, xgN_22 hg, xgI_21 hg, hx_chk hg, ht_chk hg, tgN_5 hg, trl_5 hg, tgN_3 hg, trl_3 hg, obS, ↓reduceIte, e1, c1, f1, f2, hcI, if_neg c]
      · simp (disch := omega) only [p_X3_splices_L3, nI_leI, c0, ↓reduceIte, mRow_0, obS, qld_19, ht, e1, c1, m1, m2, pcI, if_neg c]
  · intro f f' _ _
    have c0 : n ≤ n := Nat.le_refl _
    refine ⟨1, ?_, ?_⟩
    · simp (disch := omega) only [f_X0_isSpliced_L3, nI_leI, c0, ↓reduceIte]
    · simp (disch := omega) only [p_X3_splices_L3, nI_leI, c0, ↓reduceIte]
theorem j_splice {A : hA} {R : sMem} {S : hS} {g : Nat → Nat} {b L : Nat} {xs : Nat → Int32} (h : hInv A R S g b L xs) (v u : Int32) : hOp A R S g b L xs (f_X0_splice (hX A) v u) (f_X3_splice (A.2.1 9) v u) := by
  have hg := h.1.1
  have h3 : 0 < A.2.2 := by have := hg.2.2.2; omega
  have ht := h.t0
  have hw := h.act
  have hn := hw.n
  have hq : ∀ (R : sMem), R.1 ≤ A.2.1 9 → ∀ s : mSt, f_X3_splice (A.2.1 9) v u (mPut R (A.2.1 9) s) = lft R (A.2.1 9) (p_X3_splice (A.2.1 9) v u s) := fun R hR s => q_X3_splice R _ hR v u s
  have f1 := fun x => fx_isWorm hg R S x
  have p1 := fun x => px_isWorm (A.2.1 9) x S.2.2.2.2.2
  simp only [ht] at p1
  obtain ⟨lo, hlo⟩ := h.lo
  cases hv : inB v 0 (S.2.2.2.1 0 571 - 1) with
  | false =>
    refine hOp.read0 h hq (v := -1) ?_ ?_
    · simp only [f_X0_splice, hx_chk hg, f1, hv, eq_self, ↓reduceIte, hcI, hcN, hcV, obS, if_true, if_false, b01_f]
    · simp only [p_X3_splice, p1, hv, pcI, b01_f, ↓reduceIte]
  | true =>
    cases hu : inB u 0 (S.2.2.2.1 0 571 - 1) with
    | false =>
      refine hOp.read0 h hq (v := -1) ?_ ?_
      · simp only [f_X0_splice, hx_chk hg, f1, hv, hu, eq_self, ↓reduceIte, hcI, hcN, hcV, obS, if_true, if_false, b01_f, b01_t]
      · simp only [p_X3_splice, p1, hv, hu, pcI, b01_f, b01_t, ↓reduceIte]
    | true =>
      by_cases vu : v = u
      · refine hOp.read0 h hq (v := -1) ?_ ?_
        · simp only [f_X0_splice, hx_chk hg, f1, hv, hu, if_pos vu, eq_self, ↓reduceIte, hcI, hcN, hcV, obS, if_true, if_false, b01_t]
        · simp only [p_X3_splice, p1, hv, hu, if_pos vu, pcI, b01_t, ↓reduceIte]
      · obtain ⟨i, hi, rfl⟩ := inB_worm hw hv
        obtain ⟨j, hj, rfl⟩ := inB_worm hw hu
        obtain ⟨e1, l1⟩ := hlo i hi
        obtain ⟨e2, l2⟩ := hlo j hj
        obtain ⟨n, en⟩ : ∃ n, n = min (lo i) (lo j) := ⟨_, rfl⟩
        have m1 : (if nI (lo j) < nI (lo i) then nI (lo j) else nI (lo i)) = nI n := by
          rw [en]
          by_cases c : lo j < lo i
          · rw [if_pos ((nI_ltI (by omega) (by omega)).mpr c)]
            congr 1
            omega
          · rw [if_neg (fun q => c ((nI_ltI (by omega) (by omega)).mp q))]
            congr 1
            omega
        have m2 : (if nI (lo j) ≤ nI (lo i) then nI (lo j) else nI (lo i)) = nI n := by
          rw [en]
          by_cases c : lo j ≤ lo i
          · rw [if_pos ((nI_leI (by omega) (by omega)).mpr c)]
            congr 1
            omega
          · rw [if_neg (fun q => c ((nI_leI (by omega) (by omega)).mp q))]
            congr 1
            omega
        have J : jE (hMem A R S) S.2.2.2.2.2 (f_X0_splice_L45 (hX A) (nI i) (nI j) sFuel (nI n) (hMem A R S)) (p_X3_splice_L45 (A.2.1 9) (nI i) (nI j) sFuel (nI n) S.2.2.2.2.2) := by
          have := lk (fun f k (_ : Unit) => f_X0_splice_L45 (hX A) (nI i) (nI j) f (nI (n - k)) (hMem A R S)) (fun f k (_ : Unit) => p_X3_splice_L45 (A.2.1 9) (nI i) (nI j) f (nI (n - k)) S.2.2.2.2.2) n (fun _ _ => True) (jE (hMem A R S) S.2.2.2.2.2) ?_ ?_ (by omega) () trivial
          · exact this
          · intro f f' k _ hk _
            obtain ⟨x, x1, x2⟩ := jk_splices h (A.2.1 9) hlo hi hj (n := n - k) (by omega) (by omega)
            have d : nI (n - k) + -1 = nI (n - (k + 1)) := by
              rw [show n - k = (n - (k + 1)) + 1 by omega]
              exact pk_m1 _
            by_cases c : x = 0
            · refine Or.inl ⟨(), trivial, ?_, ?_⟩
              · simp only [f_X0_splice_L45, hx_chk hg, x1, hcI, if_pos c, d]
              · simp only [p_X3_splice_L45, x2, pcI, if_pos c, d]
            · refine Or.inr ⟨nI (n - k), ?_, ?_⟩
              · simp only [f_X0_splice_L45, hx_chk hg, x1, hcI, if_neg c]
              · simp only [p_X3_splice_L45, x2, pcI, if_neg c]
          · intro f f' _ _
            have z1 : f_X0_isSpliced (hX A) (nI i) (nI j) (nI (n - n)) (hMem A R S) = some (.inl (some (.int 1)), hMem A R S) := by
              have : nI (n - n) ≤ 0 := by rw [Nat.sub_self]; decide
              show f_X0_isSpliced_L3 (hX A) (nI i) (nI j) (nI (n - n)) sFuel 0 (hMem A R S) = _
              obtain ⟨q, hq9⟩ : ∃ q, sFuel = q + 1 := ⟨999999, rfl⟩
              rw [hq9]
              simp only [f_X0_isSpliced_L3, if_pos this]
            have z2 : p_X3_splices (A.2.1 9) (nI i) (nI j) (nI (n - n)) S.2.2.2.2.2 = some (some (.int 1), S.2.2.2.2.2) := by
              have : nI (n - n) ≤ 0 := by rw [Nat.sub_self]; decide
              show p_X3_splices_L3 (A.2.1 9) (nI i) (nI j) (nI (n - n)) sFuel 0 S.2.2.2.2.2 = _
              obtain ⟨q, hq9⟩ : ∃ q, sFuel = q + 1 := ⟨999999, rfl⟩
              rw [hq9]
              simp only [p_X3_splices_L3, if_pos this]
            have n10 : ¬ (1 : Int32) = 0 := by decide
            refine ⟨nI (n - n), ?_, ?_⟩
            · simp only [f_X0_splice_L45, hx_chk hg, z1, hcI, if_neg n10]
            · simp only [p_X3_splice_L45, z2, pcI, if_neg n10]
        obtain ⟨x, x1, x2⟩ := J
        refine hOp.read0 h hq (v := x) ?_ ?_
        · simp (disch := omega) only [f_X0_splice, hx_chk hg, f1, hv, hu, if_neg vu, eq_self, ↓reduceIte, hcI, hcN, hcV, obS, if_true, if_false, b01_t, xgN_23 hg, xgN_22 hg, xgI_21 hg, hx_chk hg, ht_chk hg, tgN_5 hg, trl_5 hg, tgN_3 hg, trl_3 hg, e1, e2, m1, x1]
        · simp (disch := omega) only [p_X3_splice, p1, hv, hu, if_neg vu, pcI, b01_t, ↓reduceIte, mRow_0, obS, qld_19, ht, e1, e2, px_lesser, m2, x2]
