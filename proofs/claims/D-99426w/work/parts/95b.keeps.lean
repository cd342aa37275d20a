/-! counting bits; gaps, keeps -/
set_option maxRecDepth 100000
theorem cntB_ext {f : Nat → Bool} {n : Nat} (h : ∀ i, n ≤ i → f i = false) : ∀ j, cntB f (n + j) = cntB f n
  | 0 => rfl
  | j + 1 => by
    rw [show n + (j + 1) = n + j + 1 by omega, cntB_s, cntB_ext h j, h (n + j) (by omega)]
    rfl
def pcN (n : Nat) : Nat := cntB (fun i => n.testBit i) 12
theorem pcN_le (n : Nat) : pcN n ≤ 12 := cntB_le _ _
theorem px_count {n : Nat} (h : n < 4096) (s : mSt) : p_X3_count (nI n) s = some (some (.int (nI (pcN n))), s) := by
  have e : cntB (fun i => n.testBit i) 16 = pcN n := cntB_ext (n := 12) (fun i hi => by
    have : (2 : Nat) ^ 12 ≤ 2 ^ i := Nat.pow_le_pow_right (by omega) hi
    exact Nat.testBit_lt_two_pow (by omega)) 4
  rw [← e]
  refine lk (fun _ _ (_ : Unit) => none) (fun f k (_ : Unit) => p_X3_count_L4 (nI n) f (nI (cntB (fun i => n.testBit i) k)) (nI k) s) 16 (fun _ _ => True) (fun _ p => p = some (some (.int (nI (cntB (fun i => n.testBit i) 16))), s)) ?_ ?_ (by omega) () trivial
  · intro f f' k _ hk _
    have c0 : ¬ (16 : Int32) ≤ nI k := fun q => by
      have := (nI_leI (a := 16) (by omega) (by omega)).mp q
      omega
    have bt : nI n >>> (nI k &&& 31) &&& 1 = if n.testBit k then nI 1 else nI 0 := nI_bit (by omega) (by omega)
    refine Or.inl ⟨(), trivial, rfl, ?_⟩
    rw [cntB_s]
    cases tb : n.testBit k with
    | false =>
      rw [tb] at bt
      simp (disch := omega) only [p_X3_count_L4, if_neg c0, bt, Bool.false_eq_true, ↓reduceIte, nI_1, nI_add, Nat.add_zero]
    | true =>
      rw [tb] at bt
      simp (disch := omega) only [p_X3_count_L4, if_neg c0, bt, ↓reduceIte, nI_1, nI_add]
  · intro f f' _ _
    have c0 : (16 : Int32) ≤ nI 16 := by decide
    show p_X3_count_L4 _ _ _ _ _ = _
    simp only [p_X3_count_L4, if_pos c0]
theorem bc_pc {n : Nat} (h : n < 4096) (M : sMem) : f_J10_bitCount (nI n) M = some (.inl (some (.int (nI (pcN n)))), M) := by
  rw [f_bc, bc_all h]
  rfl
theorem fx_hasN {s k : Nat} (hs : s < 2 ^ 31) (hk : k < 31) (M : sMem) : f_X0_has (nI s) (nI k) M = some (.inl (some (.int (b01 (s.testBit k)))), M) := by
  have := nI_bit (a := s) (w := k) hs hk
  unfold f_X0_has
  rw [show ((nI s >>> (nI k &&& 31)) &&& 1) = if s.testBit k then nI 1 else nI 0 from this]
  cases s.testBit k <;> rfl
/-! gaps -/
noncomputable def gpB (t : Nat → Int32) (w : Bool) (f : Nat) : Bool := if w = true then decide (trv t f = 0) else decide (1 < pcN (trv t f))
theorem f_cond7 {A : hA} {R : sMem} {S : hS} {g : Nat → Nat} {b L : Nat} {xs : Nat → Int32} (h : hInv A R S g b L xs) (v : Int32) {a : Nat} (ha : R.2.2.2 a = some (sLam 7 [.ref (hX A), .int v])) {f : Nat} (hf : f < hFc (S.2.2.2.1 0)) : f_cond a (nI f) (hMem A R S) = some (.inl (some (.int (b01 (gpB (S.2.2.2.1 0) (decide (v = 0)) f)))), hMem A R S) := by
  have hg := h.1.1
  have hc := h.1.2.1
  have at_ := hR_at hc S ha
  have lt := trv_lt h.act f
  have e : f_cond a (nI f) (hMem A R S) = sChk (hMem A R S) 0 (hX A) (f_X0_lambda_gaps_7 (hX A) v (nI f) (hMem A R S)) := by
    unfold f_cond
    rw [at_]
    rfl
  rw [e, hx_chk hg]
  unfold gpB
  by_cases v0 : v = 0
  · have d : decide (v = 0) = true := decide_eq_true v0
    simp only [f_X0_lambda_gaps_7, if_pos v0, hx_chk hg, f_traysOf h hf, hcI, d, ↓reduceIte]
    have ez : (nI (trv (S.2.2.2.1 0) f) = 0) = (trv (S.2.2.2.1 0) f = 0) := propext (nI_eq (b := 0) (by omega) (by omega))
    simp only [ez]
    by_cases c : trv (S.2.2.2.1 0) f = 0
    · rw [if_pos c, decide_eq_true c]
      rfl
    · rw [if_neg c, decide_eq_false c]
      rfl
  · have d : decide (v = 0) = false := decide_eq_false v0
    have pl := pcN_le (trv (S.2.2.2.1 0) f)
    simp only [f_X0_lambda_gaps_7, if_neg v0, hx_chk hg, f_traysOf h hf, hcI, bc_pc (show trv (S.2.2.2.1 0) f < 4096 by omega), d, Bool.false_eq_true, ↓reduceIte]
    have ez : (nI (pcN (trv (S.2.2.2.1 0) f)) ≤ 1) = (pcN (trv (S.2.2.2.1 0) f) ≤ 1) := propext (nI_leI (b := 1) (by omega) (by omega))
    simp only [ez]
    by_cases c : pcN (trv (S.2.2.2.1 0) f) ≤ 1
    · rw [if_pos c, decide_eq_false (show ¬ 1 < pcN (trv (S.2.2.2.1 0) f) by omega)]
      rfl
    · rw [if_neg c, decide_eq_true (show 1 < pcN (trv (S.2.2.2.1 0) f) by omega)]
      rfl
theorem j_gaps {A : hA} {R : sMem} {S : hS} {g : Nat → Nat} {b L : Nat} {xs : Nat → Int32} (h : hInv A R S g b L xs) (v : Int32) : hOp A R S g b L xs (f_X0_gaps (hX A) v) (f_X3_gaps (A.2.1 9) v) := by
  have hg := h.1.1
  have hc := h.1.2.1
  have ht := h.t0
  have hw := h.act
  have wf := hw.1.2.1
  have hq : ∀ (R : sMem), R.1 ≤ A.2.1 9 → ∀ s : mSt, f_X3_gaps (A.2.1 9) v (mPut R (A.2.1 9) s) = lft R (A.2.1 9) (p_X3_gaps (A.2.1 9) v s) := fun R hR s => q_X3_gaps R _ hR v s
  cases hv : inB v 0 1 with
  | false =>
    refine hOp.read0 h hq (v := -1) ?_ ?_
    · simp only [f_X0_gaps, fx_isIn, hv, eq_self, ↓reduceIte, hcI, hcN, hcV, obS, if_true, if_false, b01_f]
    · simp only [p_X3_gaps, px_isIn, hv, pcI, b01_f, ↓reduceIte]
  | true =>
    have h10 : hFc (S.2.2.2.1 0) ≤ 10 := wf.1.2
    have e572 : S.2.2.2.1 0 572 = nI (hFc (S.2.2.2.1 0)) := wf.1.1
    obtain ⟨q, ao, ma, g1, g2, gf⟩ := fact_get (S := S) hg hc h.fa wf
    have hc1 := hc.new (sLam 7 [.ref (hX A), .int v]) 2
    have x1 := hEx.new hc (sLam 7 [.ref (hX A), .int v]) 2
    have a1 := sNew_at R (sLam 7 [.ref (hX A), .int v]) 2
    have nL : ∀ K, sNewL (hMem A R S) 7 [.ref (hX A), .int v] K = K R.2.1 (hMem A (sNew R (sLam 7 [.ref (hX A), .int v]) 2) S) := fun K => by rw [hNewL hc S]; rfl
    generalize hR1 : sNew R (sLam 7 [.ref (hX A), .int v]) 2 = R1 at *
    have h1 := h.more x1.1 hc1
    have fs := f_setOf (gpB (S.2.2.2.1 0) (decide (v = 0))) (hMem A R1 S) R.2.1 (n := hFc (S.2.2.2.1 0)) (by omega) (fun k hk => f_cond7 h1 v a1 hk)
    have tv := fun f (hf : f < hFc (S.2.2.2.1 0)) => px_traysOf h (A.2.1 9) (f := f) hf
    have lt := trv_lt hw
    generalize hFc (S.2.2.2.1 0) = n at *
    refine hOp.read h hq (v := setB (gpB (S.2.2.2.1 0) (decide (v = 0))) n) (R' := R1) (S' := S) (s' := S.2.2.2.2.2) ?_ (hSame.refl S) (x1.le (by omega) (by omega)) hc1 ?_ (Sw.refl _)
    · simp only [f_X0_gaps, fx_isIn, hv, eq_self, ↓reduceIte, hcI, hcN, hcV, obS, if_true, if_false, b01_t, g1, g2, nL, fs]
    · have P := lk (fun _ _ (_ : Unit) => none) (fun f k (_ : Unit) => p_X3_gaps_L15 (A.2.1 9) v f (setB (gpB (S.2.2.2.1 0) (decide (v = 0))) k) (nI k) S.2.2.2.2.2) n (fun _ _ => True) (fun _ p => p = some (some (.int (setB (gpB (S.2.2.2.1 0) (decide (v = 0))) n)), S.2.2.2.2.2)) ?_ ?_ (by omega) () trivial
      · have P' : p_X3_gaps_L15 (A.2.1 9) v sFuel (setB (gpB (S.2.2.2.1 0) (decide (v = 0))) 0) 0 S.2.2.2.2.2 = _ := P
        rw [setB_0] at P'
        simp only [p_X3_gaps, px_isIn, hv, pcI, b01_t, ↓reduceIte]
        exact P'
      · intro f f' k _ hk _
        have c0 : ¬ n ≤ k := by omega
        refine Or.inl ⟨(), trivial, rfl, ?_⟩
        rw [setB_s _ (by omega)]
        unfold gpB
        have tk := tv k hk
        have ltk := lt k
        have pl := pcN_le (trv (S.2.2.2.1 0) k)
        have cn := px_count (n := trv (S.2.2.2.1 0) k) (by omega) S.2.2.2.2.2
        by_cases v0 : v = 0
        · have v1 : ¬ (0 : Int32) = 1 := by decide
          have ez : (nI (trv (S.2.2.2.1 0) k) = 0) = (trv (S.2.2.2.1 0) k = 0) := propext (nI_eq (b := 0) (by omega) (by omega))
          subst v0
          by_cases c : trv (S.2.2.2.1 0) k = 0
          · simp (disch := omega) only [p_X3_gaps_L15, mRow_0, obS, qld_572, ht, e572, nI_leI, c0, ↓reduceIte, tk, pcI, ez, if_pos c, decide_eq_true c, nI_1, decide_true]
          · simp (disch := omega) only [p_X3_gaps_L15, p_X3_gaps_J40, mRow_0, obS, qld_572, ht, e572, nI_leI, c0, ↓reduceIte, tk, pcI, ez, if_neg c, decide_eq_false c, if_neg v1, Bool.false_eq_true, nI_1, decide_true]
        · have v1 : v = 1 := by
            obtain ⟨j, hj, rfl⟩ := inB_lit (k := 1) (by omega) hv
            have : j = 0 ∨ j = 1 := by omega
            rcases this with rfl | rfl
            · exact absurd rfl v0
            · rfl
          have d : decide (v = 0) = false := decide_eq_false v0
          have ez : (nI (pcN (trv (S.2.2.2.1 0) k)) ≤ 1) = (pcN (trv (S.2.2.2.1 0) k) ≤ 1) := propext (nI_leI (b := 1) (by omega) (by omega))
          by_cases c : pcN (trv (S.2.2.2.1 0) k) ≤ 1
          · simp (disch := omega) only [p_X3_gaps_L15, p_X3_gaps_J40, mRow_0, obS, qld_572, ht, e572, nI_leI, c0, ↓reduceIte, if_neg v0, if_pos v1, tk, cn, pcI, ez, if_pos c, d, Bool.false_eq_true, decide_eq_false (show ¬ 1 < pcN (trv (S.2.2.2.1 0) k) by omega), nI_1]
          · simp (disch := omega) only [p_X3_gaps_L15, p_X3_gaps_J40, mRow_0, obS, qld_572, ht, e572, nI_leI, c0, ↓reduceIte, if_neg v0, if_pos v1, tk, cn, pcI, ez, if_neg c, d, Bool.false_eq_true, decide_eq_true (show 1 < pcN (trv (S.2.2.2.1 0) k) by omega), nI_1]
      · intro f f' _ _
        have c0 : n ≤ n := Nat.le_refl _
        show p_X3_gaps_L15 _ _ _ _ _ _ = _
        simp (disch := omega) only [p_X3_gaps_L15, mRow_0, obS, qld_572, ht, e572, nI_leI, c0, ↓reduceIte]
/-! keeps -/
def smS (c : Nat → Nat) (s n : Nat) : Nat := smN (fun k => if s.testBit k = true then c k else 0) n
theorem smS_s (c : Nat → Nat) (s n : Nat) : smS c s (n + 1) = smS c s n + (if s.testBit n = true then c n else 0) := rfl
theorem smS_le {c : Nat → Nat} {s n : Nat} (h : ∀ k, k < n → c k ≤ 99) : smS c s n ≤ 99 * n := smN_le (fun k hk => by
  have := h k hk
  split <;> omega)
theorem f_sumOf {A : hA} {R : sMem} {S : hS} {g : Nat → Nat} {b L : Nat} {xs : Nat → Int32} (h : hInv A R S g b L xs) {c : Nat → Nat} {q s : Nat} (hs : s < 1024) (hm : ∀ k, k < hFc (S.2.2.2.1 0) → f_meas q (nI k) (hMem A R S) = some (.inl (some (.int (nI (c k)))), hMem A R S)) : f_X0_sumOf (hX A) (nI s) q (hMem A R S) = some (.inl (some (.int (nI (smS c s (hFc (S.2.2.2.1 0)))))), hMem A R S) := by
  have hg := h.1.1
  have hc := h.1.2.1
  have wf := h.act.1.2.1
  have h10 : hFc (S.2.2.2.1 0) ≤ 10 := wf.1.2
  obtain ⟨q0, ao, ma, g1, g2, -⟩ := fact_get (S := S) hg hc h.fa wf
  generalize hFc (S.2.2.2.1 0) = n at *
  refine lk (fun f k (_ : Unit) => f_X0_sumOf_L5 (hX A) (nI s) q f (nI (smS c s k)) (nI k) (hMem A R S)) (fun _ _ _ => none) n (fun _ _ => True) (fun o _ => o = some (.inl (some (.int (nI (smS c s n)))), hMem A R S)) ?_ ?_ (by omega) () trivial
  · intro f f' k _ hk _
    have c0 : ¬ n ≤ k := by omega
    have hb := fx_hasN (s := s) (k := k) (by omega) (by omega) (hMem A R S)
    refine Or.inl ⟨(), trivial, ?_, rfl⟩
    rw [smS_s]
    cases tb : s.testBit k with
    | false =>
      rw [tb] at hb
      simp (disch := omega) only [f_X0_sumOf_L5, g1, g2, obS, nI_leI, c0, ↓reduceIte, hb, hcI, b01_f, Bool.false_eq_true, Nat.add_zero, Int32.add_zero, nI_1]
    | true =>
      rw [tb] at hb
      simp (disch := omega) only [f_X0_sumOf_L5, g1, g2, obS, nI_leI, c0, ↓reduceIte, hb, hcI, b01_t, hm, clF, nI_add, nI_1]
  · intro f f' _ _
    have c0 : n ≤ n := Nat.le_refl _
    show f_X0_sumOf_L5 _ _ _ _ _ _ _ = _
    simp (disch := omega) only [f_X0_sumOf_L5, g1, g2, obS, nI_leI, c0, ↓reduceIte]
theorem px_sumOf {A : hA} {R : sMem} {S : hS} {g : Nat → Nat} {b L : Nat} {xs : Nat → Int32} (h : hInv A R S g b L xs) (m : Nat) {c : Nat → Nat} {s w : Nat} (hs : s < 1024) (hw9 : w < 9) (hm : ∀ k, k < hFc (S.2.2.2.1 0) → S.2.2.2.1 0 (605 + 9 * k + w) = nI (c k)) : p_X3_sumOf m (nI s) (nI w) S.2.2.2.2.2 = some (some (.int (nI (smS c s (hFc (S.2.2.2.1 0))))), S.2.2.2.2.2) := by
  have ht := h.t0
  have wf := h.act.1.2.1
  have h10 : hFc (S.2.2.2.1 0) ≤ 10 := wf.1.2
  have e572 : S.2.2.2.1 0 572 = nI (hFc (S.2.2.2.1 0)) := wf.1.1
  have pf := fun f (hf : f < 10) => px_fact m S.2.2.2.2.2 (f := f) (k := w) hf hw9
  simp only [ht] at pf
  generalize hFc (S.2.2.2.1 0) = n at *
  have pf' : ∀ f, f < n → p_X3_factOf m (nI f) (nI w) S.2.2.2.2.2 = some (some (.int (nI (c f))), S.2.2.2.2.2) := fun f hf => by rw [pf f (by omega), hm f hf]
  refine lk (fun _ _ (_ : Unit) => none) (fun f k (_ : Unit) => p_X3_sumOf_L5 m (nI s) (nI w) f (nI (smS c s k)) (nI k) S.2.2.2.2.2) n (fun _ _ => True) (fun _ p => p = some (some (.int (nI (smS c s n))), S.2.2.2.2.2)) ?_ ?_ (by omega) () trivial
  · intro f f' k _ hk _
    have c0 : ¬ n ≤ k := by omega
    have bt : nI s >>> (nI k &&& 31) &&& 1 = if s.testBit k then nI 1 else nI 0 := nI_bit (by omega) (by omega)
    refine Or.inl ⟨(), trivial, rfl, ?_⟩
    rw [smS_s]
    cases tb : s.testBit k with
    | false =>
      rw [tb] at bt
      have n01 : ¬ nI 0 = (1 : Int32) := by decide
      simp (disch := omega) only [p_X3_sumOf_L5, mRow_0, obS, qld_572, ht, e572, nI_leI, c0, ↓reduceIte, bt, Bool.false_eq_true, if_neg n01, Nat.add_zero, Int32.add_zero, nI_1]
    | true =>
      rw [tb] at bt
      have n11 : nI 1 = (1 : Int32) := rfl
      simp (disch := omega) only [p_X3_sumOf_L5, mRow_0, obS, qld_572, ht, e572, nI_leI, c0, ↓reduceIte, bt, if_pos n11, pf', pcI, nI_add, nI_1]
  · intro f f' _ _
    have c0 : n ≤ n := Nat.le_refl _
    show p_X3_sumOf_L5 _ _ _ _ _ _ _ = _
    simp (disch := omega) only [p_X3_sumOf_L5, mRow_0, obS, qld_572, ht, e572, nI_leI, c0, ↓reduceIte]
theorem j_keepsQ {A : hA} {R : sMem} {S : hS} {g : Nat → Nat} {b L : Nat} {xs : Nat → Int32} (h : hInv A R S g b L xs) (v u : Int32) : hOp A R S g b L xs (f_X0_keeps (hX A) v u) (f_X3_keeps (A.2.1 9) v u) := by
  have hg := h.1.1
  have hc := h.1.2.1
  have ht := h.t0
  have hw := h.act
  have wf := hw.1.2.1
  have hs : sFuel = 1000000 := rfl
  have hq : ∀ (R : sMem), R.1 ≤ A.2.1 9 → ∀ s : mSt, f_X3_keeps (A.2.1 9) v u (mPut R (A.2.1 9) s) = lft R (A.2.1 9) (p_X3_keeps (A.2.1 9) v u s) := fun R hR s => q_X3_keeps R _ hR v u s
  cases hv : inB v 1 200 with
  | false =>
    refine hOp.read0 h hq (v := -1) ?_ ?_
    · simp only [f_X0_keeps, fx_isIn, hv, eq_self, ↓reduceIte, hcI, hcN, hcV, obS, if_true, if_false, b01_f]
    · simp only [p_X3_keeps, px_isIn, hv, pcI, b01_f, ↓reduceIte]
  | true =>
    cases hu : inB u 0 1 with
    | false =>
      refine hOp.read0 h hq (v := -1) ?_ ?_
      · simp only [f_X0_keeps, fx_isIn, hv, hu, eq_self, ↓reduceIte, hcI, hcN, hcV, obS, if_true, if_false, b01_f, b01_t]
      · simp only [p_X3_keeps, px_isIn, hv, hu, pcI, b01_f, b01_t, ↓reduceIte]
    | true =>
      have hv' : inB v (nI 1) (nI 200) = true := hv
      obtain ⟨l, l1, l2, rfl⟩ := inB_lo (by omega) (by omega) hv'
      obtain ⟨-, -, -, -, -, -, -, ⟨q32, r32, b32⟩, q33, r33, b33⟩ := h.2.2.2.2
      have h10 : hFc (S.2.2.2.1 0) ≤ 10 := wf.1.2
      have e572 : S.2.2.2.1 0 572 = nI (hFc (S.2.2.2.1 0)) := wf.1.1
      obtain ⟨q, ao, ma, g1, g2, gf⟩ := fact_get (S := S) hg hc h.fa wf
      obtain ⟨wo, hwo⟩ : ∃ wo : Nat → Nat, ∀ f, f < hFc (S.2.2.2.1 0) → S.2.2.2.1 0 (605 + 9 * f + 2) = nI (wo f) ∧ wo f ≤ 99 := ⟨fun f => cv (S.2.2.2.1 0 (605 + 9 * f + 2)), fun f hf => (wf.2 f hf).2.2.2.1⟩
      obtain ⟨lf, hlf⟩ : ∃ lf : Nat → Nat, ∀ f, f < hFc (S.2.2.2.1 0) → S.2.2.2.1 0 (605 + 9 * f + 1) = nI (lf f) ∧ lf f ≤ 20 := ⟨fun f => cv (S.2.2.2.1 0 (605 + 9 * f + 1)), fun f hf => (wf.2 f hf).2.2.1⟩
      have m32 : ∀ k, k < hFc (S.2.2.2.1 0) → f_meas q32 (nI k) (hMem A R S) = some (.inl (some (.int (nI (wo k)))), hMem A R S) := fun k hk => by
        obtain ⟨k1, k2, k3, k4, k5, -⟩ := gf k hk
        have e : f_meas q32 (nI k) (hMem A R S) = sChk (hMem A R S) 0 (hX A) (f_X0_lambda_new_4 (hX A) (nI k) (hMem A R S)) := by
          unfold f_meas
          rw [hR_at hc S b32]
          rfl
        rw [e, hx_chk hg]
        simp only [f_X0_lambda_new_4, g1, obS, k1, k2, k5, hcI, (hwo k hk).1]
      have m33 : ∀ k, k < hFc (S.2.2.2.1 0) → f_meas q33 (nI k) (hMem A R S) = some (.inl (some (.int (nI (lf k)))), hMem A R S) := fun k hk => by
        obtain ⟨k1, k2, k3, k4, k5, -⟩ := gf k hk
        have e : f_meas q33 (nI k) (hMem A R S) = sChk (hMem A R S) 0 (hX A) (f_X0_lambda_new_5 (hX A) (nI k) (hMem A R S)) := by
          unfold f_meas
          rw [hR_at hc S b33]
          rfl
        rw [e, hx_chk hg]
        simp only [f_X0_lambda_new_5, g1, obS, k1, k2, k4, hcI, (hlf k hk).1]
      have fW := fun s (hs : s < 1024) => f_sumOf h (c := wo) (q := q32) (s := s) hs m32
      have fL := fun s (hs : s < 1024) => f_sumOf h (c := lf) (q := q33) (s := s) hs m33
      have pW : ∀ s, s < 1024 → p_X3_sumOf (A.2.1 9) (nI s) 2 S.2.2.2.2.2 = _ := fun s hs => px_sumOf h (A.2.1 9) (c := wo) (s := s) (w := 2) hs (by omega) (fun k hk => (hwo k hk).1)
      have pL : ∀ s, s < 1024 → p_X3_sumOf (A.2.1 9) (nI s) 1 S.2.2.2.2.2 = _ := fun s hs => px_sumOf h (A.2.1 9) (c := lf) (s := s) (w := 1) hs (by omega) (fun k hk => (hlf k hk).1)
      have bW := fun s => smS_le (c := wo) (s := s) (n := hFc (S.2.2.2.1 0)) (fun k hk => (hwo k hk).2)
      have bL := fun s => smS_le (c := lf) (s := s) (n := hFc (S.2.2.2.1 0)) (fun k hk => by have := (hlf k hk).2; omega)
      have W0 : smS wo 0 (hFc (S.2.2.2.1 0)) = 0 := smN_zero (fun k _ => by simp)
      generalize hFc (S.2.2.2.1 0) = n at *
      have p2 : (2 : Nat) ^ n ≤ 2 ^ 10 := Nat.pow_le_pow_right (by omega) h10
      have p0 : 0 < 2 ^ n := Nat.pow_pos (by omega)
      have one : (1 : Int32) <<< (nI n &&& 31) = nI (2 ^ n) := nI_one (by omega)
      generalize hWW : (fun s => smS wo s n) = W at *
      have eW : ∀ s, smS wo s n = W s := fun s => by rw [← hWW]
      generalize hLL : (fun s => smS lf s n) = Lf at *
      have eL : ∀ s, smS lf s n = Lf s := fun s => by rw [← hLL]
      simp only [eW] at fW pW bW W0
      simp only [eL] at fL pL bL
      have J := lkS (α := Nat) (fun f k a => f_X0_keeps_L30 (hX A) (nI l) u f (nI a) (nI (W a)) (nI k) (hMem A R S)) (fun f k a => p_X3_keeps_L27 (A.2.1 9) (nI l) u f (nI a) (nI k) S.2.2.2.2.2) (2 ^ n) (fun k a => a < k) (jE (hMem A R S) S.2.2.2.2.2) ?_ ?_ (2 ^ n - 1) 1 sFuel sFuel 0 (by omega) (by omega) (by omega) (by omega)
      · obtain ⟨x, x1, x2⟩ := J
        rw [W0] at x1
        refine hOp.read0 h hq (v := x) ?_ ?_
        · simp only [f_X0_keeps, fx_isIn, hv, hu, eq_self, ↓reduceIte, hcI, hcN, hcV, obS, if_true, if_false, b01_t]
          exact x1
        · simp only [p_X3_keeps, px_isIn, hv, hu, pcI, b01_t, ↓reduceIte]
          exact x2
      · intro f f' k a hk ha
        have c0 : ¬ 2 ^ n ≤ k := by omega
        have f1 := fW k (by omega)
        have f2 := fL k (by omega)
        have p1 := pW k (by omega)
        have p2 := pL k (by omega)
        have p3 := pW a (by omega)
        have w1 := bW k
        have w2 := bL k
        have w3 := bW a
        by_cases c1 : W k ≤ W a
        · refine Or.inl ⟨a, by omega, ?_, ?_⟩
          · simp (disch := omega) only [f_X0_keeps_L30, g1, g2, obS, one, nI_leI, c0, ↓reduceIte, xgN_32 hg, r32, hvN_ref, hx_chk hg, f1, hcI, c1, nI_1]
          · by_cases c2 : l < Lf k
            · simp (disch := omega) only [p_X3_keeps_L27, mRow_0, obS, qld_572, ht, e572, one, nI_leI, nI_ltI, c0, ↓reduceIte, p2, pcI, c2, nI_1]
            · simp (disch := omega) only [p_X3_keeps_L27, mRow_0, obS, qld_572, ht, e572, one, nI_leI, nI_ltI, c0, ↓reduceIte, p1, p2, p3, pcI, c1, c2, nI_1]
        · by_cases c2 : Lf k ≤ l
          · have c3 : ¬ l < Lf k := by omega
            refine Or.inl ⟨k, by omega, ?_, ?_⟩
            · simp (disch := omega) only [f_X0_keeps_L30, g1, g2, obS, one, nI_leI, c0, ↓reduceIte, xgN_32 hg, xgN_33 hg, r32, r33, hvN_ref, hx_chk hg, f1, f2, hcI, c1, c2, nI_1]
            · simp (disch := omega) only [p_X3_keeps_L27, mRow_0, obS, qld_572, ht, e572, one, nI_leI, nI_ltI, c0, ↓reduceIte, p1, p2, p3, pcI, c1, c3, nI_1]
          · have c3 : l < Lf k := by omega
            refine Or.inl ⟨a, by omega, ?_, ?_⟩
            · simp (disch := omega) only [f_X0_keeps_L30, g1, g2, obS, one, nI_leI, c0, ↓reduceIte, xgN_32 hg, xgN_33 hg, r32, r33, hvN_ref, hx_chk hg, f1, f2, hcI, c1, c2, nI_1]
            · simp (disch := omega) only [p_X3_keeps_L27, mRow_0, obS, qld_572, ht, e572, one, nI_leI, nI_ltI, c0, ↓reduceIte, p2, pcI, c3, nI_1]
      · intro f f' a ha
        have c0 : 2 ^ n ≤ 2 ^ n := Nat.le_refl _
        have p3 := pW a (by omega)
        by_cases u0 : u = 0
        · refine ⟨nI (W a), ?_, ?_⟩
          · simp (disch := omega) only [f_X0_keeps_L30, g1, g2, obS, one, nI_leI, c0, ↓reduceIte, if_pos u0]
          · simp (disch := omega) only [p_X3_keeps_L27, mRow_0, obS, qld_572, ht, e572, one, nI_leI, c0, ↓reduceIte, if_pos u0, p3, pcI]
        · refine ⟨nI a, ?_, ?_⟩
          · simp (disch := omega) only [f_X0_keeps_L30, g1, g2, obS, one, nI_leI, c0, ↓reduceIte, if_neg u0]
          · simp (disch := omega) only [p_X3_keeps_L27, mRow_0, obS, qld_572, ht, e572, one, nI_leI, c0, ↓reduceIte, if_neg u0]
