/-! sets told of by a lambda; what can be pulled -/
set_option maxRecDepth 100000
theorem hNewL {A : hA} {R : sMem} (h : hCl A R) (S : hS) (j : Nat) (vs : List Value) (K : Nat → sMem → Option (sRes × sMem)) : sNewL (hMem A R S) j vs K = K R.2.1 (hMem A (sNew R (sLam j vs) vs.length) S) := by
  unfold sNewL
  rw [hMem_new h]
  rfl
theorem fx_hasB (f : Nat → Bool) {n k : Nat} (hk : k < 12) (A : hA) (R : sMem) (S : hS) : f_X0_has (setB f n) (nI k) (hMem A R S) = some (.inl (some (.int (b01 (decide (k < n) && f k)))), hMem A R S) := by
  have := fx_has A R S (bitU f n) (o := 0) (w := k) hk
  unfold setB
  rw [this]
  rw [Nat.zero_add]
  unfold bitU b01
  have h10 : ¬ (0 : Int32) = 1 := by decide
  by_cases c1 : k < n
  · cases f k <;> simp [c1, h10]
  · simp [c1, h10]
/-- threads there are -/
theorem f_cond4 {A : hA} {R : sMem} {S : hS} {g : Nat → Nat} {b L : Nat} {xs : Nat → Int32} (h : hInv A R S g b L xs) {R1 : sMem} (hc1 : hCl A R1) {lo : Nat → Nat} (hlo : ∀ i, i < hN (S.2.2.2.1 0) → S.2.2.2.1 0 (19 + i) = nI (lo i) ∧ lo i ≤ 40) {a : Nat} (ha : R1.2.2.2 a = some (sLam 4 [.ref (hX A)])) {k : Nat} (hk : k < hN (S.2.2.2.1 0)) : f_cond a (nI k) (hMem A R1 S) = some (.inl (some (.int (b01 (decide (0 < lo k))))), hMem A R1 S) := by
  have hg := h.1.1
  have h3 : 0 < A.2.2 := by have := hg.2.2.2; omega
  have hn := h.act.n
  obtain ⟨e1, l1⟩ := hlo k hk
  have at_ := hR_at hc1 S ha
  have e : f_cond a (nI k) (hMem A R1 S) = sChk (hMem A R1 S) 0 (hX A) (f_X0_lambda_threaded_2 (hX A) (nI k) (hMem A R1 S)) := by
    unfold f_cond
    rw [at_]
    rfl
  rw [e]
  simp (disch := omega) only [f_X0_lambda_threaded_2, xgN_23 hg, xgN_22 hg, xgI_21 hg, hx_chk hg, ht_chk hg, tgN_5 hg, trl_5 hg, tgN_3 hg, trl_3 hg, obS, e1]
  by_cases c : lo k = 0
  · have : nI (lo k) ≤ 0 := by rw [c]; decide
    rw [if_pos this, c]
    rfl
  · have : ¬ nI (lo k) ≤ 0 := nI_nle (by omega) (by omega)
    have c2 : 0 < lo k := by omega
    rw [if_neg this]
    simp [c2, b01, sBool]
theorem f_threaded {A : hA} {R : sMem} {S : hS} {g : Nat → Nat} {b L : Nat} {xs : Nat → Int32} (h : hInv A R S g b L xs) {lo : Nat → Nat} (hlo : ∀ i, i < hN (S.2.2.2.1 0) → S.2.2.2.1 0 (19 + i) = nI (lo i) ∧ lo i ≤ 40) : ∃ R1, f_X0_threaded (hX A) (hMem A R S) = some (.inl (some (.int (setB (fun k => decide (0 < lo k)) (hN (S.2.2.2.1 0))))), hMem A R1 S) ∧ hCl A R1 ∧ hEx 1 1 R R1 := by
  have hg := h.1.1
  have hc := h.1.2.1
  have hn := h.act.n
  have e571 : S.2.2.2.1 0 571 = nI (hN (S.2.2.2.1 0)) := h.act.1.1.1.1
  have hc1 := hc.new (sLam 4 [.ref (hX A)]) 1
  have x1 := hEx.new hc (sLam 4 [.ref (hX A)]) 1
  have a1 := sNew_at R (sLam 4 [.ref (hX A)]) 1
  generalize hR1 : sNew R (sLam 4 [.ref (hX A)]) 1 = R1 at *
  have fs := f_setOf (fun k => decide (0 < lo k)) (hMem A R1 S) R.2.1 hn (fun k hk => f_cond4 h hc1 hlo a1 hk)
  refine ⟨R1, ?_, hc1, x1⟩
  have nl : ∀ K, sNewL (hMem A R S) 4 [.ref (hX A)] K = K R.2.1 (hMem A R1 S) := fun K => by rw [hNewL hc S, ← hR1]; rfl
  simp only [f_X0_threaded, xgI_21 hg, obS, e571, nl, fs, hcI]
theorem f_cond10 {A : hA} {R : sMem} {S : hS} {g : Nat → Nat} {b L : Nat} {xs : Nat → Int32} (h : hInv A R S g b L xs) {R1 : sMem} (hc1 : hCl A R1) (f : Nat → Bool) (v : Int32) {a : Nat} (ha : R1.2.2.2 a = some (sLam 10 [.ref (hX A), .int (setB f (hN (S.2.2.2.1 0))), .int v])) {k : Nat} (hk : k < hN (S.2.2.2.1 0)) : f_cond a (nI k) (hMem A R1 S) = some (.inl (some (.int (b01 (f k && !decide (S.2.2.2.1 0 (31 + k) < v))))), hMem A R1 S) := by
  have hg := h.1.1
  have h3 : 0 < A.2.2 := by have := hg.2.2.2; omega
  have hn := h.act.n
  have at_ := hR_at hc1 S ha
  have e : f_cond a (nI k) (hMem A R1 S) = sChk (hMem A R1 S) 0 (hX A) (f_X0_lambda_pull_10 (hX A) (setB f (hN (S.2.2.2.1 0))) v (nI k) (hMem A R1 S)) := by
    unfold f_cond
    rw [at_]
    rfl
  rw [e, hx_chk hg]
  have hb := fx_hasB f (n := hN (S.2.2.2.1 0)) (k := k) (by omega) A R1 S
  have ek : (decide (k < hN (S.2.2.2.1 0)) && f k) = f k := by simp [hk]
  rw [ek] at hb
  cases hf : f k with
  | false =>
    rw [hf] at hb
    simp only [f_X0_lambda_pull_10, hb, hcI, b01_f, ↓reduceIte]
    rfl
  | true =>
    rw [hf] at hb
    by_cases c : S.2.2.2.1 0 (31 + k) < v
    · simp (disch := omega) only [f_X0_lambda_pull_10, hb, hcI, b01_t, ↓reduceIte, xgN_23 hg, xgN_22 hg, xgI_21 hg, hx_chk hg, ht_chk hg, tgN_5 hg, trl_5 hg, tgN_3 hg, trl_3 hg, obS, if_pos c, decide_eq_true c]
      rfl
    · simp (disch := omega) only [f_X0_lambda_pull_10, hb, hcI, b01_t, ↓reduceIte, xgN_23 hg, xgN_22 hg, xgI_21 hg, hx_chk hg, ht_chk hg, tgN_5 hg, trl_5 hg, tgN_3 hg, trl_3 hg, obS, if_neg c, decide_eq_false c]
      rfl
theorem j_pull {A : hA} {R : sMem} {S : hS} {g : Nat → Nat} {b L : Nat} {xs : Nat → Int32} (h : hInv A R S g b L xs) (v : Int32) : hOp A R S g b L xs (f_X0_pull (hX A) v) (f_X3_pull (A.2.1 9) v) := by
  have hg := h.1.1
  have h3 : 0 < A.2.2 := by have := hg.2.2.2; omega
  have ht := h.t0
  have hw := h.act
  have hn := hw.n
  have hq : ∀ (R : sMem), R.1 ≤ A.2.1 9 → ∀ s : mSt, f_X3_pull (A.2.1 9) v (mPut R (A.2.1 9) s) = lft R (A.2.1 9) (p_X3_pull (A.2.1 9) v s) := fun R hR s => q_X3_pull R _ hR v s
  obtain ⟨lo, hlo⟩ := h.lo
  have e571 : S.2.2.2.1 0 571 = nI (hN (S.2.2.2.1 0)) := hw.1.1.1.1
  cases hv : inB v (-1) 999 with
  | false =>
    refine hOp.read0 h hq (v := -1) ?_ ?_
    · simp only [f_X0_pull, fx_isIn, hv, eq_self, ↓reduceIte, hcI, hcN, hcV, obS, if_true, if_false, b01_f]
    · simp only [p_X3_pull, px_isIn, hv, pcI, b01_f, ↓reduceIte]
  | true =>
    obtain ⟨R1, ft, hc1, x1⟩ := f_threaded h hlo
    generalize hF : (fun k => decide (0 < lo k)) = F at ft
    have eF : ∀ k, F k = decide (0 < lo k) := fun k => by rw [← hF]
    have M2 : ∀ k f' (v2 v3 : Int32), k < hN (S.2.2.2.1 0) → F k = false → p_X3_pull_L20 (A.2.1 9) v (f' + 1) v2 v3 (nI k) S.2.2.2.2.2 = p_X3_pull_L20 (A.2.1 9) v f' v2 v3 (nI (k + 1)) S.2.2.2.2.2 := fun k f' v2 v3 hk hf => by
      have c0 : ¬ hN (S.2.2.2.1 0) ≤ k := by omega
      have c1 : nI (lo k) = 0 := by
        rw [eF] at hf
        have : lo k = 0 := by simpa using hf
        rw [this]
        rfl
      simp (disch := omega) only [p_X3_pull_L20, mRow_0, obS, qld_571, ht, e571, nI_leI, c0, ↓reduceIte, qld_19, (hlo k hk).1, c1, nI_1]
    have nz : ∀ k, k < hN (S.2.2.2.1 0) → F k = true → ¬ nI (lo k) = 0 := fun k hk hf e => by
      rw [eF] at hf
      have c : 0 < lo k := by simpa using hf
      have := (nI_eq (a := lo k) (b := 0) (by have := (hlo k hk).2; omega) (by omega)).mp e
      omega
    have ed : ∀ f' v2 v3, p_X3_pull_L20 (A.2.1 9) v (f' + 1) v2 v3 (nI (hN (S.2.2.2.1 0))) S.2.2.2.2.2 = some (some (.int (if v = -1 then v3 else v2)), S.2.2.2.2.2) := fun f' v2 v3 => by
      have c0 : hN (S.2.2.2.1 0) ≤ hN (S.2.2.2.1 0) := Nat.le_refl _
      simp (disch := omega) only [p_X3_pull_L20, mRow_0, obS, qld_571, ht, e571, nI_leI, c0, ↓reduceIte]
    by_cases v1 : v = -1
    · have J : jE (hMem A R1 S) S.2.2.2.2.2 (f_X0_pull_L44 (hX A) (setB F (hN (S.2.2.2.1 0))) sFuel (-1) 0 (hMem A R1 S)) (p_X3_pull_L20 (A.2.1 9) v sFuel 0 (-1) 0 S.2.2.2.2.2) := by
        have := lk (α := Int32 × Option Nat) (fun f k a => f_X0_pull_L44 (hX A) (setB F (hN (S.2.2.2.1 0))) f (bI a.2) (nI k) (hMem A R1 S)) (fun f k a => p_X3_pull_L20 (A.2.1 9) v f a.1 (bI a.2) (nI k) S.2.2.2.2.2) (hN (S.2.2.2.1 0)) (fun k a => ∀ i, a.2 = some i → i < k) (jE (hMem A R1 S) S.2.2.2.2.2) ?_ ?_ (by omega) (0, none) (fun i hi => by cases hi)
        · exact this
        · intro f f' k a hk ha
          have c0 : ¬ hN (S.2.2.2.1 0) ≤ k := by omega
          have hb := fx_hasB F (n := hN (S.2.2.2.1 0)) (k := k) (by omega) A R1 S
          have ek : (decide (k < hN (S.2.2.2.1 0)) && F k) = F k := by simp [hk]
          rw [ek] at hb
          cases hf : F k with
          | false =>
            rw [hf] at hb
            refine Or.inl ⟨a, fun i hi => by have := ha i hi; omega, ?_, ?_⟩
            · simp (disch := omega) only [f_X0_pull_L44, xgI_21 hg, obS, e571, nI_leI, c0, ↓reduceIte, hb, hcI, b01_f, nI_1]
            · exact M2 k f' _ _ hk hf
          | true =>
            rw [hf] at hb
            have c1 := nz k hk hf
            obtain ⟨a1, a2⟩ := a
            cases a2 with
            | none =>
              refine Or.inl ⟨(a1 ||| (if S.2.2.2.1 0 (31 + k) < v then (0 : Int32) else 1 <<< (nI k &&& 31)), some k), fun i hi => by cases hi; omega, ?_, ?_⟩
              · simp (disch := omega) only [f_X0_pull_L44, xgI_21 hg, obS, e571, nI_leI, c0, ↓reduceIte, hb, hcI, b01_t, bI_none, bI_some, nI_1]
              · simp (disch := omega) only [p_X3_pull_L20, mRow_0, obS, qld_571, ht, e571, nI_leI, c0, ↓reduceIte, qld_19, qld_31, (hlo k hk).1, c1, bI_none, bI_some, nI_1]
            | some q =>
              have hq9 : q < k := ha q rfl
              have nq : ¬ nI q = -1 := nI_m1 q (by omega)
              by_cases c : S.2.2.2.1 0 (31 + q) ≤ S.2.2.2.1 0 (31 + k)
              · refine Or.inl ⟨(a1 ||| (if S.2.2.2.1 0 (31 + k) < v then (0 : Int32) else 1 <<< (nI k &&& 31)), some q), fun i hi => by cases hi; omega, ?_, ?_⟩
                · simp (disch := omega) only [f_X0_pull_L44, xgN_23 hg, xgN_22 hg, xgI_21 hg, hx_chk hg, ht_chk hg, tgN_5 hg, trl_5 hg, tgN_3 hg, trl_3 hg, obS, e571, nI_leI, c0, ↓reduceIte, hb, hcI, b01_t, bI_some, nq, if_pos c, nI_1]
                · simp (disch := omega) only [p_X3_pull_L20, mRow_0, obS, qld_571, ht, e571, nI_leI, c0, ↓reduceIte, qld_19, qld_31, (hlo k hk).1, c1, bI_some, nq, if_pos c, nI_1]
              · refine Or.inl ⟨(a1 ||| (if S.2.2.2.1 0 (31 + k) < v then (0 : Int32) else 1 <<< (nI k &&& 31)), some k), fun i hi => by cases hi; omega, ?_, ?_⟩
                · simp (disch := omega) only [f_X0_pull_L44, xgN_23 hg, xgN_22 hg, xgI_21 hg, hx_chk hg, ht_chk hg, tgN_5 hg, trl_5 hg, tgN_3 hg, trl_3 hg, obS, e571, nI_leI, c0, ↓reduceIte, hb, hcI, b01_t, bI_some, nq, if_neg c, nI_1]
                · simp (disch := omega) only [p_X3_pull_L20, mRow_0, obS, qld_571, ht, e571, nI_leI, c0, ↓reduceIte, qld_19, qld_31, (hlo k hk).1, c1, bI_some, nq, if_neg c, nI_1]
        · intro f f' a _
          have c0 : hN (S.2.2.2.1 0) ≤ hN (S.2.2.2.1 0) := Nat.le_refl _
          refine ⟨bI a.2, ?_, ?_⟩
          · simp (disch := omega) only [f_X0_pull_L44, xgI_21 hg, obS, e571, nI_leI, c0, ↓reduceIte]
          · have := ed f' a.1 (bI a.2)
            rw [if_pos v1] at this
            exact this
      obtain ⟨x, j1, j2⟩ := J
      refine hOp.read h hq (v := x) (R' := R1) (S' := S) (s' := S.2.2.2.2.2) ?_ (hSame.refl S) (x1.le (by omega) (by omega)) hc1 ?_ (Sw.refl _)
      · simp only [f_X0_pull, fx_isIn, hv, eq_self, ↓reduceIte, hcI, hcN, hcV, obS, if_true, if_false, b01_t, hx_chk hg, ft, if_pos v1, j1]
      · simp only [p_X3_pull, px_isIn, hv, pcI, b01_t, ↓reduceIte]
        exact j2
    · generalize hG : (fun k => F k && !decide (S.2.2.2.1 0 (31 + k) < v)) = G
      have eG : ∀ k, G k = (F k && !decide (S.2.2.2.1 0 (31 + k) < v)) := fun k => by rw [← hG]
      have hc2 := hc1.new (sLam 10 [.ref (hX A), .int (setB F (hN (S.2.2.2.1 0))), .int v]) 3
      have x2 := hEx.new hc1 (sLam 10 [.ref (hX A), .int (setB F (hN (S.2.2.2.1 0))), .int v]) 3
      have a2 := sNew_at R1 (sLam 10 [.ref (hX A), .int (setB F (hN (S.2.2.2.1 0))), .int v]) 3
      have nl : ∀ K, sNewL (hMem A R1 S) 10 [.ref (hX A), .int (setB F (hN (S.2.2.2.1 0))), .int v] K = K R1.2.1 (hMem A (sNew R1 (sLam 10 [.ref (hX A), .int (setB F (hN (S.2.2.2.1 0))), .int v]) 3) S) := fun K => by rw [hNewL hc1 S]; rfl
      generalize hR2 : sNew R1 (sLam 10 [.ref (hX A), .int (setB F (hN (S.2.2.2.1 0))), .int v]) 3 = R2 at *
      have fs := f_setOf G (hMem A R2 S) R1.2.1 hn (fun k hk => by rw [eG]; exact f_cond10 h hc2 F v a2 hk)
      have P := lk (α := Int32) (fun _ _ _ => none) (fun f k a => p_X3_pull_L20 (A.2.1 9) v f (setB G k) a (nI k) S.2.2.2.2.2) (hN (S.2.2.2.1 0)) (fun k a => a = -1 ∨ ∃ i, i < k ∧ a = nI i) (fun _ p => p = some (some (.int (setB G (hN (S.2.2.2.1 0)))), S.2.2.2.2.2)) ?_ ?_ (by omega) (-1) (Or.inl rfl)
      · refine hOp.read h hq (v := setB G (hN (S.2.2.2.1 0))) (R' := R2) (S' := S) (s' := S.2.2.2.2.2) ?_ (hSame.refl S) ((x1.trans x2).le (by omega) (by omega)) hc2 ?_ (Sw.refl _)
        · simp only [f_X0_pull, fx_isIn, hv, eq_self, ↓reduceIte, hcI, hcN, hcV, obS, if_true, if_false, b01_t, hx_chk hg, ft, if_neg v1, xgI_21 hg, e571, nl, fs]
        · simp only [p_X3_pull, px_isIn, hv, pcI, b01_t, ↓reduceIte]
          have P' : p_X3_pull_L20 (A.2.1 9) v sFuel (setB G 0) (-1) (nI 0) S.2.2.2.2.2 = _ := P
          rw [setB_0] at P'
          exact P'
      · intro f f' k a hk ha
        have c0 : ¬ hN (S.2.2.2.1 0) ≤ k := by omega
        cases hf : F k with
        | false =>
          refine Or.inl ⟨a, ?_, rfl, ?_⟩
          · rcases ha with ha | ⟨i, hi, ha⟩
            · exact Or.inl ha
            · exact Or.inr ⟨i, by omega, ha⟩
          · rw [M2 k f' _ _ hk hf, setB_s G (by omega), eG, hf]
            simp only [Bool.false_and, Bool.false_eq_true, ↓reduceIte, Int32.or_zero]
        | true =>
          have c1 := nz k hk hf
          have es : setB G (k + 1) = setB G k ||| (if S.2.2.2.1 0 (31 + k) < v then (0 : Int32) else 1 <<< (nI k &&& 31)) := by
            rw [setB_s G (by omega), eG, hf]
            by_cases c : S.2.2.2.1 0 (31 + k) < v <;> simp [c]
          rcases ha with ha | ⟨q, hq9, ha⟩
          · refine Or.inl ⟨nI k, Or.inr ⟨k, by omega, rfl⟩, rfl, ?_⟩
            rw [es, ha]
            simp (disch := omega) only [p_X3_pull_L20, mRow_0, obS, qld_571, ht, e571, nI_leI, c0, ↓reduceIte, qld_19, qld_31, (hlo k hk).1, c1, nI_1]
          · have nq : ¬ nI q = -1 := nI_m1 q (by omega)
            by_cases c : S.2.2.2.1 0 (31 + q) ≤ S.2.2.2.1 0 (31 + k)
            · refine Or.inl ⟨nI q, Or.inr ⟨q, by omega, rfl⟩, rfl, ?_⟩
              rw [es, ha]
              simp (disch := omega) only [p_X3_pull_L20, mRow_0, obS, qld_571, ht, e571, nI_leI, c0, ↓reduceIte, qld_19, qld_31, (hlo k hk).1, c1, nq, if_pos c, nI_1]
            · refine Or.inl ⟨nI k, Or.inr ⟨k, by omega, rfl⟩, rfl, ?_⟩
              rw [es, ha]
              simp (disch := omega) only [p_X3_pull_L20, mRow_0, obS, qld_571, ht, e571, nI_leI, c0, ↓reduceIte, qld_19, qld_31, (hlo k hk).1, c1, nq, if_neg c, nI_1]
      · intro f f' a _
        have := ed f' (setB G (hN (S.2.2.2.1 0))) a
        rw [if_neg v1] at this
        exact this
