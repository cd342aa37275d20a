/-! forged -/
set_option maxRecDepth 100000
theorem fg_sum {q F T : Nat} (hF : 0 < F) (hT : 0 < T) (hq : q ≤ 1000000) : 0 < q * F + (1000000 - q) * T ∧ 1000000 * (q * F) / (q * F + (1000000 - q) * T) ≤ 1000000 := by
  have h0 : 0 < q * F + (1000000 - q) * T := by
    by_cases c : q = 0
    · subst c
      have : 0 < (1000000 - 0) * T := Nat.mul_pos (by omega) hT
      omega
    · have : 0 < q * F := Nat.mul_pos (by omega) hF
      omega
  refine ⟨h0, Nat.div_le_of_le_mul ?_⟩
  rw [Nat.mul_comm]
  exact Nat.mul_le_mul_right _ (Nat.le_add_right _ _)
theorem f_forgedBy {q F T : Nat} (hF : F < 1000 ∧ 0 < F) (hT : T < 1000 ∧ 0 < T) (hq : q ≤ 1000000) {c : Int32} (h : c = 0 ∧ F = 700 ∧ T = 975 ∨ c = 1 ∧ F = 300 ∧ T = 25) (M : sMem) : f_X0_forgedBy (nI q) c M = some (.inl (some (.int (nI (1000000 * (q * F) / (q * F + (1000000 - q) * T))))), M) := by
  obtain ⟨s0, s1⟩ := fg_sum hF.2 hT.2 hq
  have n10 : ¬ (1 : Int32) = 0 := by decide
  have eF : (if c = 0 then (700 : Int32) else 300).toInt64 = lN F := by
    rcases h with ⟨rfl, rfl, rfl⟩ | ⟨rfl, rfl, rfl⟩
    · rw [if_pos rfl]; exact nI_l (n := 700) (by omega)
    · rw [if_neg n10]; exact nI_l (n := 300) (by omega)
  have eT : (if c = 0 then (975 : Int32) else 25).toInt64 = lN T := by
    rcases h with ⟨rfl, rfl, rfl⟩ | ⟨rfl, rfl, rfl⟩
    · rw [if_pos rfl]; exact nI_l (n := 975) (by omega)
    · rw [if_neg n10]; exact nI_l (n := 25) (by omega)
  have eq : ((1000000 : Int32) - nI q).toInt64 = lN (1000000 - q) := by
    show (nI 1000000 - nI q).toInt64 = _
    rw [pk_sub hq, nI_l (by omega)]
  have b1 : q * F ≤ 1000000 * 1000 := Nat.mul_le_mul hq (by omega)
  have b2 : (1000000 - q) * T ≤ 1000000 * 1000 := Nat.mul_le_mul (by omega) (by omega)
  have sm : lN q * lN F + lN (1000000 - q) * lN T = lN (q * F + (1000000 - q) * T) := by rw [lN_mul, lN_mul, lN_add]
  have nz : ¬ lN (q * F + (1000000 - q) * T) = 0 := fun e => by
    have := (pk_lEQ (a := q * F + (1000000 - q) * T) (b := 0) (by omega) (by omega)).mp e
    omega
  have nm : (1000000 : Int64) * (lN q * lN F) / lN (q * F + (1000000 - q) * T) = lN (1000000 * (q * F) / (q * F + (1000000 - q) * T)) := by
    show lN 1000000 * (lN q * lN F) / _ = _
    rw [lN_mul, lN_mul, pk_lDiv (by omega) s0 (by omega)]
  unfold f_X0_forgedBy
  rw [nI_l (by omega), eF, eT, eq, sm, if_neg nz, nm, lN_i]
theorem j_forged {A : hA} {R : sMem} {S : hS} {g : Nat → Nat} {b L : Nat} {xs : Nat → Int32} (h : hInv A R S g b L xs) (v u w : Int32) : hOp A R S g b L xs (f_X0_forged (hX A) v u w) (f_X3_forged (A.2.1 9) v u w) := by
  have hg := h.1.1
  have hq : ∀ (R : sMem), R.1 ≤ A.2.1 9 → ∀ s : mSt, f_X3_forged (A.2.1 9) v u w (mPut R (A.2.1 9) s) = lft R (A.2.1 9) (p_X3_forged (A.2.1 9) v u w s) := fun R hR s => q_X3_forged R _ hR v u w s
  cases hv : inB v 0 1000 with
  | false =>
    refine hOp.read0 h hq (v := -1) ?_ ?_
    · simp only [f_X0_forged, fx_isIn, hv, eq_self, ↓reduceIte, hcI, hcN, hcV, obS, if_true, if_false, b01_f]
    · simp only [p_X3_forged, px_isIn, hv, pcI, b01_f, ↓reduceIte]
  | true =>
    cases hu : inB u 0 20 with
    | false =>
      refine hOp.read0 h hq (v := -1) ?_ ?_
      · simp only [f_X0_forged, fx_isIn, hv, hu, eq_self, ↓reduceIte, hcI, hcN, hcV, obS, if_true, if_false, b01_f, b01_t]
      · simp only [p_X3_forged, px_isIn, hv, hu, pcI, b01_f, b01_t, ↓reduceIte]
    | true =>
      cases hw : inB w u 40 with
      | false =>
        refine hOp.read0 h hq (v := -1) ?_ ?_
        · simp only [f_X0_forged, fx_isIn, hv, hu, hw, eq_self, ↓reduceIte, hcI, hcN, hcV, obS, if_true, if_false, b01_f, b01_t]
        · simp only [p_X3_forged, px_isIn, hv, hu, hw, pcI, b01_f, b01_t, ↓reduceIte]
      | true =>
        obtain ⟨p, hp, rfl⟩ := inB_lit (k := 1000) (by omega) hv
        obtain ⟨n, hn, rfl⟩ := inB_lit (k := 20) (by omega) hu
        obtain ⟨m, hm1, hm2, rfl⟩ := inB_lo (l := n) (k := 40) (by omega) (by omega) hw
        have J := lk (fun f k (q : Nat) => f_X0_forged_L43 (nI n) (nI m) f (nI q) (nI k) (hMem A R S)) (fun f k (q : Nat) => p_X3_forged_L44 (nI n) (nI m) f (lN q) (nI k) S.2.2.2.2.2) m (fun _ q => q ≤ 1000000) (jE (hMem A R S) S.2.2.2.2.2) ?_ ?_ (by omega) (1000 * p) (by omega)
        · obtain ⟨x, x1, x2⟩ := J
          have e1 : (1000 : Int32) * nI p = nI (1000 * p) := pk_mul 1000 p
          have e2 : (1000 : Int64) * (nI p).toInt64 = lN (1000 * p) := by
            rw [nI_l (by omega)]
            exact lN_mul 1000 p
          refine hOp.read0 h hq (v := x) ?_ ?_
          · simp only [f_X0_forged, fx_isIn, hv, hu, hw, eq_self, ↓reduceIte, hcI, hcN, hcV, obS, if_true, if_false, b01_t, e1]
            exact x1
          · simp only [p_X3_forged, px_isIn, hv, hu, hw, pcI, b01_t, ↓reduceIte, e2]
            exact x2
        · intro f f' k q hk hq9
          have c0 : ¬ m ≤ k := by omega
          have sb : (1000000 : Int64) - lN q = lN (1000000 - q) := lN_sub (a := 1000000) hq9
          by_cases c : n ≤ k
          · have B := f_forgedBy (q := q) (F := 700) (T := 975) (by omega) (by omega) hq9 (c := 0) (Or.inl ⟨rfl, rfl, rfl⟩) (hMem A R S)
            obtain ⟨s0, s1⟩ := fg_sum (q := q) (F := 700) (T := 975) (by omega) (by omega) hq9
            refine Or.inl ⟨_, s1, ?_, ?_⟩
            · simp (disch := omega) only [f_X0_forged_L43, nI_leI, c0, c, ↓reduceIte, B, hcI, nI_1]
            · have sm : lN q * (700 : Int64) + lN (1000000 - q) * 975 = lN (q * 700 + (1000000 - q) * 975) := by
                show lN q * lN 700 + lN (1000000 - q) * lN 975 = _
                rw [lN_mul, lN_mul, lN_add]
              have nz : ¬ lN (q * 700 + (1000000 - q) * 975) = 0 := fun e => by
                have := (pk_lEQ (a := q * 700 + (1000000 - q) * 975) (b := 0) (by omega) (by omega)).mp e
                omega
              have nm : (1000000 : Int64) * (lN q * 700) / lN (q * 700 + (1000000 - q) * 975) = lN (1000000 * (q * 700) / (q * 700 + (1000000 - q) * 975)) := by
                show lN 1000000 * (lN q * lN 700) / _ = _
                rw [lN_mul, lN_mul, pk_lDiv (by omega) s0 (by omega)]
              simp (disch := omega) only [p_X3_forged_L44, p_X3_forged_J65, p_X3_forged_J82, nI_leI, c0, c, ↓reduceIte, sb, sm, if_neg nz, nm, nI_1]
          · have B := f_forgedBy (q := q) (F := 300) (T := 25) (by omega) (by omega) hq9 (c := 1) (Or.inr ⟨rfl, rfl, rfl⟩) (hMem A R S)
            obtain ⟨s0, s1⟩ := fg_sum (q := q) (F := 300) (T := 25) (by omega) (by omega) hq9
            refine Or.inl ⟨_, s1, ?_, ?_⟩
            · simp (disch := omega) only [f_X0_forged_L43, nI_leI, c0, c, ↓reduceIte, B, hcI, nI_1]
            · have sm : lN q * (300 : Int64) + lN (1000000 - q) * 25 = lN (q * 300 + (1000000 - q) * 25) := by
                show lN q * lN 300 + lN (1000000 - q) * lN 25 = _
                rw [lN_mul, lN_mul, lN_add]
              have nz : ¬ lN (q * 300 + (1000000 - q) * 25) = 0 := fun e => by
                have := (pk_lEQ (a := q * 300 + (1000000 - q) * 25) (b := 0) (by omega) (by omega)).mp e
                omega
              have nm : (1000000 : Int64) * (lN q * 300) / lN (q * 300 + (1000000 - q) * 25) = lN (1000000 * (q * 300) / (q * 300 + (1000000 - q) * 25)) := by
                show lN 1000000 * (lN q * lN 300) / _ = _
                rw [lN_mul, lN_mul, pk_lDiv (by omega) s0 (by omega)]
              simp (disch := omega) only [p_X3_forged_L44, p_X3_forged_J65, p_X3_forged_J82, nI_leI, c0, c, ↓reduceIte, sb, sm, if_neg nz, nm, nI_1]
        · intro f f' q _
          have c0 : m ≤ m := Nat.le_refl _
          refine ⟨nI q, ?_, ?_⟩
          · simp (disch := omega) only [f_X0_forged_L43, nI_leI, c0, ↓reduceIte]
          · simp (disch := omega) only [p_X3_forged_L44, nI_leI, c0, ↓reduceIte, lN_i]
