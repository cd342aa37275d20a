/-! the fewest; cuts -/
set_option maxRecDepth 100000
/-- the first of the smallest sets that are so -/
def fwV (P : Nat → Bool) : Nat → Option Nat
  | 0 => none
  | k + 1 => match fwV P k with
    | none => if P k = true then some k else none
    | some q => if pcN k < pcN q ∧ P k = true then some k else some q
theorem fwV_s (P : Nat → Bool) (k : Nat) : fwV P (k + 1) = match fwV P k with
    | none => if P k = true then some k else none
    | some q => if pcN k < pcN q ∧ P k = true then some k else some q := rfl
/-- .. from the full one on -/
def mvV (P : Nat → Bool) (full : Nat) : Nat → Nat
  | 0 => full
  | k + 1 => if pcN k < pcN (mvV P full k) ∧ P k = true then k else mvV P full k
theorem fwV_lt {P : Nat → Bool} {q : Nat} : ∀ {n : Nat}, fwV P n = some q → q < n
  | 0, h => by cases h
  | n + 1, h => by
    rw [fwV_s] at h
    cases e : fwV P n with
    | none =>
      rw [e] at h
      simp only [] at h
      split at h
      · cases h; omega
      · cases h
    | some x =>
      rw [e] at h
      have := fwV_lt e
      simp only [] at h
      split at h
      · cases h; omega
      · cases h; omega
theorem fw_mv {P : Nat → Bool} {full : Nat} (hp : ∀ k, k < full → pcN k < pcN full) : ∀ k, k ≤ full → mvV P full k = (fwV P k).getD full
  | 0, _ => rfl
  | k + 1, h => by
    have ih := fw_mv (P := P) hp k (by omega)
    show (if pcN k < pcN (mvV P full k) ∧ P k = true then k else mvV P full k) = _
    rw [ih]
    rw [fwV_s]
    cases e : fwV P k with
    | none =>
      have := hp k (by omega)
      simp only [Option.getD_none]
      by_cases c : P k = true
      · simp [this, c]
      · simp [c]
    | some q =>
      simp only [Option.getD_some]
      by_cases c : pcN k < pcN q ∧ P k = true
      · simp [c]
      · rw [if_neg c, if_neg c]
        rfl
theorem fw_end {P : Nat → Bool} {full : Nat} (hp : ∀ k, k < full → pcN k < pcN full) (hf : P full = true) : fwV P (full + 1) = some (mvV P full full) ∧ mvV P full (full + 1) = mvV P full full := by
  have e := fw_mv (P := P) hp full (Nat.le_refl _)
  constructor
  · rw [e]
    rw [fwV_s]
    cases q : fwV P full with
    | none => simp [hf]
    | some x =>
      have := hp x (fwV_lt q)
      have h2 : ¬ (pcN full < pcN x ∧ P full = true) := fun h => by have := h.1; omega
      simp only [if_neg h2]
      rfl
  · show (if pcN full < pcN (mvV P full full) ∧ P full = true then full else mvV P full full) = _
    rw [e]
    cases q : fwV P full with
    | none =>
      have : ¬ (pcN full < pcN full ∧ P full = true) := fun h => by have := h.1; omega
      simp only [Option.getD_none, if_neg this]
    | some x =>
      have := hp x (fwV_lt q)
      have h2 : ¬ (pcN full < pcN x ∧ P full = true) := fun h => by have := h.1; omega
      simp only [Option.getD_some, if_neg h2]
theorem pc_1023 : ∀ k, k < 1023 → pcN k < pcN 1023 := by decide +kernel
theorem pc_15 : ∀ k, k < 15 → pcN k < pcN 15 := by decide +kernel
theorem clT (v : Bool) (M : sMem) (K : Int32 → sMem → Option (sRes × sMem)) : sCallL true (some (.inl (some (.int (b01 v))), M)) K = K (b01 v) M := by
  cases v <;> rfl
theorem f_fewest {P : Nat → Bool} {M : sMem} {a n : Nat} (hn : n ≤ 11) (hP : ∀ s, s < 2 ^ n → f_cond a (nI s) M = some (.inl (some (.int (b01 (P s)))), M)) : f_X0_fewest (nI n) a M = some (.inl (some (.int (bI (fwV P (2 ^ n))))), M) := by
  have p2 : (2 : Nat) ^ n ≤ 2 ^ 11 := Nat.pow_le_pow_right (by omega) hn
  have one : (1 : Int32) <<< (nI n &&& 31) = nI (2 ^ n) := nI_one (by omega)
  refine lk (fun f k (_ : Unit) => f_X0_fewest_L4 (nI n) a f (bI (fwV P k)) (nI k) M) (fun _ _ _ => none) (2 ^ n) (fun _ _ => True) (fun o _ => o = some (.inl (some (.int (bI (fwV P (2 ^ n))))), M)) ?_ ?_ (by omega) () trivial
  · intro f f' k _ hk _
    have c0 : ¬ 2 ^ n ≤ k := by omega
    refine Or.inl ⟨(), trivial, ?_, rfl⟩
    rw [fwV_s]
    cases e : fwV P k with
    | none =>
      simp only []
      cases c : P k with
      | true =>
        have := hP k hk
        rw [c] at this
        simp (disch := omega) only [f_X0_fewest_L4, f_X0_fewest_J27, one, nI_leI, c0, ↓reduceIte, bI_none, bI_some, this, clT, b01_t, nI_1]
      | false =>
        have := hP k hk
        rw [c] at this
        simp (disch := omega) only [f_X0_fewest_L4, f_X0_fewest_J27, one, nI_leI, c0, ↓reduceIte, bI_none, this, clT, b01_f, nI_1, Bool.false_eq_true]
    | some q =>
      have lt := fwV_lt e
      have nq : ¬ nI q = -1 := nI_m1 q (by omega)
      have b1 := bc_pc (n := k) (by omega) M
      have b2 := bc_pc (n := q) (by omega) M
      have l1 := pcN_le k
      have l2 := pcN_le q
      simp only []
      by_cases c1 : pcN q ≤ pcN k
      · have c2 : ¬ (pcN k < pcN q ∧ P k = true) := fun h => by have := h.1; omega
        rw [if_neg c2]
        simp (disch := omega) only [f_X0_fewest_L4, one, nI_leI, c0, c1, ↓reduceIte, bI_some, nq, b1, b2, hcI, nI_1]
      · have c3 : pcN k < pcN q := by omega
        cases c : P k with
        | true =>
          have := hP k hk
          rw [c] at this
          rw [if_pos ⟨c3, rfl⟩]
          simp (disch := omega) only [f_X0_fewest_L4, f_X0_fewest_J27, one, nI_leI, c0, c1, ↓reduceIte, bI_some, nq, b1, b2, hcI, this, clT, b01_t, nI_1]
        | false =>
          have := hP k hk
          rw [c] at this
          rw [if_neg (fun h => by cases h.2)]
          simp (disch := omega) only [f_X0_fewest_L4, f_X0_fewest_J27, one, nI_leI, c0, c1, ↓reduceIte, bI_some, nq, b1, b2, hcI, this, clT, b01_f, nI_1]
  · intro f f' _ _
    have c0 : 2 ^ n ≤ 2 ^ n := Nat.le_refl _
    show f_X0_fewest_L4 _ _ _ _ _ _ = _
    simp (disch := omega) only [f_X0_fewest_L4, one, nI_leI, c0, ↓reduceIte]
/-! cuts -/
theorem and_two (a b s : Nat) : ((2 ^ a ||| 2 ^ b) &&& s = 0) = (s.testBit a = false ∧ s.testBit b = false) := by
  apply propext
  constructor
  · intro h
    have h1 := congrArg (fun x => x.testBit a) h
    have h2 := congrArg (fun x => x.testBit b) h
    simp only [Nat.testBit_and, Nat.testBit_or, Nat.testBit_two_pow_self, Nat.zero_testBit, Bool.true_or, Bool.or_true, Bool.true_and] at h1 h2
    exact ⟨h1, h2⟩
  · intro h
    apply Nat.eq_of_testBit_eq
    intro i
    rw [Nat.testBit_and, Nat.testBit_or, Nat.testBit_two_pow, Nat.testBit_two_pow, Nat.zero_testBit]
    by_cases c1 : a = i
    · subst c1; simp [h.1]
    · by_cases c2 : b = i
      · subst c2; simp [h.2]
      · simp [c1, c2]
def ctB (a b : Nat → Nat) (n s : Nat) : Bool := (fstN (fun k => !s.testBit (a k) && !s.testBit (b k)) n).isNone
theorem j_cuts {A : hA} {R : sMem} {S : hS} {g : Nat → Nat} {b L : Nat} {xs : Nat → Int32} (h : hInv A R S g b L xs) (v : Int32) : hOp A R S g b L xs (f_X0_cuts (hX A) v) (f_X3_cuts (A.2.1 9) v) := by
  have hg := h.1.1
  have hc := h.1.2.1
  have ht := h.t0
  have hs : sFuel = 1000000 := rfl
  have wk := h.act.1.2.2.2.2.2.1
  have hq : ∀ (R : sMem), R.1 ≤ A.2.1 9 → ∀ s : mSt, f_X3_cuts (A.2.1 9) v (mPut R (A.2.1 9) s) = lft R (A.2.1 9) (p_X3_cuts (A.2.1 9) v s) := fun R hR s => q_X3_cuts R _ hR v s
  cases hv : inB v 0 1 with
  | false =>
    refine hOp.read0 h hq (v := -1) ?_ ?_
    · simp only [f_X0_cuts, fx_isIn, hv, eq_self, ↓reduceIte, hcI, hcN, hcV, obS, if_true, if_false, b01_f]
    · simp only [p_X3_cuts, px_isIn, hv, pcI, b01_f, ↓reduceIte]
  | true =>
    obtain ⟨-, -, -, -, -, ⟨q5, r5, f5, b5, e5⟩, -⟩ := h.reps
    have e578 : S.2.2.2.1 0 578 = nI (hKc (S.2.2.2.1 0)) := wk.1.1
    have l578 : hKc (S.2.2.2.1 0) ≤ 12 := wk.1.2
    have q578 : ∀ s : mSt, qAld s 0 578 = some (s.2 0 578) := fun s => qld_0 s (p := 578) (by omega)
    obtain ⟨ka, kb, hk⟩ : ∃ ka kb : Nat → Nat, ∀ k, k < hKc (S.2.2.2.1 0) → S.2.2.2.1 0 (799 + 2 * k) = nI (ka k) ∧ S.2.2.2.1 0 (799 + 2 * k + 1) = nI (kb k) ∧ ka k ≤ 9 ∧ kb k ≤ 9 ∧ f5 k = nI (2 ^ ka k ||| 2 ^ kb k) := ⟨fun k => cv (S.2.2.2.1 0 (799 + 2 * k)), fun k => cv (S.2.2.2.1 0 (799 + 2 * k + 1)), fun k hk => ⟨(wk.2 k hk).1.1, (wk.2 k hk).2.1, (wk.2 k hk).1.2, (wk.2 k hk).2.2, e5 k hk⟩⟩
    generalize hKc (S.2.2.2.1 0) = n at *
    generalize hP : ctB ka kb n = P
    have full : P 1023 = true := by
      rw [← hP]
      unfold ctB
      rw [fstN_no (fun k hk9 => by
        have := (hk k hk9).2.2.1
        have e : Nat.testBit 1023 (ka k) = true := by
          have h9 : ∀ j, j ≤ 9 → Nat.testBit 1023 j = true := by decide
          exact h9 _ this
        simp [e])]
      rfl
    -- the component
    have hc1 := hc.new (sLam 5 [.ref (hX A)]) 1
    have x1 := hEx.new hc (sLam 5 [.ref (hX A)]) 1
    have a1 := sNew_at R (sLam 5 [.ref (hX A)]) 1
    have nL : ∀ K, sNewL (hMem A R S) 5 [.ref (hX A)] K = K R.2.1 (hMem A (sNew R (sLam 5 [.ref (hX A)]) 1) S) := fun K => by rw [hNewL hc S]; rfl
    generalize hR1 : sNew R (sLam 5 [.ref (hX A)]) 1 = R1 at *
    have b5' := x1.1 _ _ b5
    have ln := hR_len hc1 S b5'
    have cond : ∀ s, s < 2 ^ 10 → f_cond R.2.1 (nI s) (hMem A R1 S) = some (.inl (some (.int (b01 (P s)))), hMem A R1 S) := fun s hs10 => by
      have e : f_cond R.2.1 (nI s) (hMem A R1 S) = sChk (hMem A R1 S) 0 (hX A) (f_X0_lambda_cuts_3 (hX A) (nI s) (hMem A R1 S)) := by
        unfold f_cond
        rw [hR_at hc1 S a1]
        rfl
      have Q := lp_E (fun f k => f_X0_cutsAll_L2 (hX A) (nI s) f (nI k) (hMem A R1 S)) n (fun k => !s.testBit (ka k) && !s.testBit (kb k)) (fun _ => some (.inl (some (.int 0)), hMem A R1 S)) (some (.inl (some (.int 1)), hMem A R1 S)) ?_ ?_ ?_ sFuel (by omega)
      · have Q' : f_X0_cutsAll (hX A) (nI s) (hMem A R1 S) = some (.inl (some (.int (b01 (P s)))), hMem A R1 S) := by
          refine Eq.trans Q ?_
          rw [← hP]
          unfold ctB
          cases fstN (fun k => !s.testBit (ka k) && !s.testBit (kb k)) n <;> rfl
        rw [e, hx_chk hg]
        simp only [f_X0_lambda_cuts_3, hx_chk hg, Q', hcI, sBool_b01]
      · intro f k hk9 hp
        have c0 : ¬ n ≤ k := by omega
        obtain ⟨-, -, ha, hb9, hf⟩ := hk k hk9
        have pa : (2 : Nat) ^ ka k < 2 ^ 10 := Nat.pow_lt_pow_right (by omega) (by omega)
        have pb : (2 : Nat) ^ kb k < 2 ^ 10 := Nat.pow_lt_pow_right (by omega) (by omega)
        have por : 2 ^ ka k ||| 2 ^ kb k < 2 ^ 10 := Nat.or_lt_two_pow pa pb
        have ld := hR_ld hc1 S b5' hk9 (by omega)
        rw [hf] at ld
        have c1 : ¬ (nI (2 ^ ka k ||| 2 ^ kb k) &&& nI s = 0) := fun q => by
          rw [nI_and (by omega) (by omega)] at q
          have := (nI_eq (b := 0) (Nat.lt_of_le_of_lt Nat.and_le_left (by omega)) (by omega)).mp q
          rw [and_two] at this
          simp [this.1, this.2] at hp
        simp (disch := omega) only [f_X0_cutsAll_L2, xgN_31 hg, r5, hvN_ref, obS, ln, nI_leI, c0, ↓reduceIte, ld, if_neg c1, nI_1]
      · intro f k hk9 hp
        have c0 : ¬ n ≤ k := by omega
        obtain ⟨-, -, ha, hb9, hf⟩ := hk k hk9
        have pa : (2 : Nat) ^ ka k < 2 ^ 10 := Nat.pow_lt_pow_right (by omega) (by omega)
        have pb : (2 : Nat) ^ kb k < 2 ^ 10 := Nat.pow_lt_pow_right (by omega) (by omega)
        have por : 2 ^ ka k ||| 2 ^ kb k < 2 ^ 10 := Nat.or_lt_two_pow pa pb
        have ld := hR_ld hc1 S b5' hk9 (by omega)
        rw [hf] at ld
        have c1 : nI (2 ^ ka k ||| 2 ^ kb k) &&& nI s = 0 := by
          rw [nI_and (by omega) (by omega)]
          have : (2 ^ ka k ||| 2 ^ kb k) &&& s = 0 := by
            rw [and_two]
            simpa using hp
          rw [this]
          rfl
        simp (disch := omega) only [f_X0_cutsAll_L2, xgN_31 hg, r5, hvN_ref, obS, ln, nI_leI, c0, ↓reduceIte, ld, if_pos c1]
      · intro f
        have c0 : n ≤ n := Nat.le_refl _
        simp (disch := omega) only [f_X0_cutsAll_L2, xgN_31 hg, r5, hvN_ref, obS, ln, nI_leI, c0, ↓reduceIte]
    have fw := f_fewest (n := 10) (by omega) cond
    obtain ⟨e1, e2⟩ := fw_end (P := P) (full := 1023) pc_1023 full
    rw [show (2 : Nat) ^ 10 = 1023 + 1 by rfl, e1, bI_some] at fw
    have fw' : f_X0_fewest 10 R.2.1 (hMem A R1 S) = some (.inl (some (.int (nI (mvV P 1023 1023)))), hMem A R1 S) := fw
    have lt : mvV P 1023 1023 < 1024 := fwV_lt e1
    -- the model
    have pcut : ∀ s, s < 1024 → p_X3_isCut (A.2.1 9) (nI s) S.2.2.2.2.2 = some (some (.int (b01 (P s))), S.2.2.2.2.2) := fun s hs10 => by
      have Q := lp_E (fun f k => p_X3_isCut_L2 (A.2.1 9) (nI s) f (nI k) S.2.2.2.2.2) n (fun k => !s.testBit (ka k) && !s.testBit (kb k)) (fun _ => some (some (.int 0), S.2.2.2.2.2)) (some (some (.int 1), S.2.2.2.2.2)) ?_ ?_ ?_ sFuel (by omega)
      · refine Eq.trans Q ?_
        rw [← hP]
        unfold ctB
        cases fstN (fun k => !s.testBit (ka k) && !s.testBit (kb k)) n <;> rfl
      · intro f k hk9 hp
        have c0 : ¬ n ≤ k := by omega
        obtain ⟨ea, eb, ha, hb9, -⟩ := hk k hk9
        have c1 : (799 : Int32) + 2 * nI k = nI (799 + 2 * k) := by
          show nI 799 + nI 2 * nI k = _
          rw [pk_mul, nI_add]
        have q1 : qAld S.2.2.2.2.2 0 (nI (799 + 2 * k)) = some (nI (ka k)) := by rw [qld_0 _ (by omega), ht, ea]
        have q2 : qAld S.2.2.2.2.2 0 (nI (799 + 2 * k + 1)) = some (nI (kb k)) := by rw [qld_0 _ (by omega), ht, eb]
        have bt : nI s >>> (nI (ka k) &&& 31) &&& 1 = if s.testBit (ka k) then nI 1 else nI 0 := nI_bit (by omega) (by omega)
        have bu : nI s >>> (nI (kb k) &&& 31) &&& 1 = if s.testBit (kb k) then nI 1 else nI 0 := nI_bit (by omega) (by omega)
        have z1 : ¬ nI 1 = 0 := by decide
        have z0 : nI 0 = 0 := rfl
        cases t1 : s.testBit (ka k) with
        | true =>
          rw [t1] at bt
          simp (disch := omega) only [p_X3_isCut_L2, mRow_0, obS, q578, ht, e578, nI_leI, c0, ↓reduceIte, c1, q1, bt, if_neg z1, nI_1]
        | false =>
          cases t2 : s.testBit (kb k) with
          | true =>
            rw [t1] at bt
            rw [t2] at bu
            simp (disch := omega) only [p_X3_isCut_L2, mRow_0, obS, q578, ht, e578, nI_leI, c0, ↓reduceIte, c1, nI_1, q1, q2, bt, bu, Bool.false_eq_true, if_pos z0, if_neg z1]
          | false => simp [t1, t2] at hp
      · intro f k hk9 hp
        have c0 : ¬ n ≤ k := by omega
        obtain ⟨ea, eb, ha, hb9, -⟩ := hk k hk9
        have c1 : (799 : Int32) + 2 * nI k = nI (799 + 2 * k) := by
          show nI 799 + nI 2 * nI k = _
          rw [pk_mul, nI_add]
        have q1 : qAld S.2.2.2.2.2 0 (nI (799 + 2 * k)) = some (nI (ka k)) := by rw [qld_0 _ (by omega), ht, ea]
        have q2 : qAld S.2.2.2.2.2 0 (nI (799 + 2 * k + 1)) = some (nI (kb k)) := by rw [qld_0 _ (by omega), ht, eb]
        have bt : nI s >>> (nI (ka k) &&& 31) &&& 1 = if s.testBit (ka k) then nI 1 else nI 0 := nI_bit (by omega) (by omega)
        have bu : nI s >>> (nI (kb k) &&& 31) &&& 1 = if s.testBit (kb k) then nI 1 else nI 0 := nI_bit (by omega) (by omega)
        have z0 : nI 0 = 0 := rfl
        simp only [Bool.and_eq_true, Bool.not_eq_true'] at hp
        rw [hp.1] at bt
        rw [hp.2] at bu
        simp (disch := omega) only [p_X3_isCut_L2, mRow_0, obS, q578, ht, e578, nI_leI, c0, ↓reduceIte, c1, nI_1, q1, q2, bt, bu, Bool.false_eq_true, if_pos z0]
      · intro f
        have c0 : n ≤ n := Nat.le_refl _
        simp (disch := omega) only [p_X3_isCut_L2, mRow_0, obS, q578, ht, e578, nI_leI, c0, ↓reduceIte]
    have mlt : ∀ k, k ≤ 1023 → mvV P 1023 k < 1024 := fun k hk9 => by
      rw [fw_mv (P := P) pc_1023 k hk9]
      cases e : fwV P k with
      | none => exact Nat.lt_succ_self _
      | some q =>
        have := fwV_lt e
        show q < 1024
        omega
    have PM := lk (fun _ _ (_ : Unit) => none) (fun f k (_ : Unit) => p_X3_cuts_L17 (A.2.1 9) v f (nI (mvV P 1023 k)) (nI k) S.2.2.2.2.2) 1024 (fun _ _ => True) (fun _ p => p = some (some (.int (if v = 0 then nI (pcN (mvV P 1023 1023)) else nI (mvV P 1023 1023))), S.2.2.2.2.2)) ?_ ?_ (by omega) () trivial
    · have PM' : p_X3_cuts_L17 (A.2.1 9) v sFuel 1023 0 S.2.2.2.2.2 = _ := PM
      refine hOp.read h hq (v := if v = 0 then nI (pcN (mvV P 1023 1023)) else nI (mvV P 1023 1023)) (R' := R1) (S' := S) (s' := S.2.2.2.2.2) ?_ (hSame.refl S) (x1.le (by omega) (by omega)) hc1 ?_ (Sw.refl _)
      · have bc := bc_pc (n := mvV P 1023 1023) (by omega) (hMem A R1 S)
        by_cases v0 : v = 0
        · simp only [f_X0_cuts, fx_isIn, hv, eq_self, ↓reduceIte, hcI, hcN, hcV, obS, if_true, if_false, b01_t, nL, fw', bc, if_pos v0]
        · simp only [f_X0_cuts, fx_isIn, hv, eq_self, ↓reduceIte, hcI, hcN, hcV, obS, if_true, if_false, b01_t, nL, fw', if_neg v0]
      · simp only [p_X3_cuts, px_isIn, hv, pcI, b01_t, ↓reduceIte]
        exact PM'
    · intro f f' k _ hk9 _
      have c0 : ¬ (1024 : Int32) ≤ nI k := fun q => by
        have := (nI_leI (a := 1024) (by omega) (by omega)).mp q
        omega
      have lk1 := mlt k (by omega)
      have n1 := px_count (n := k) (by omega) S.2.2.2.2.2
      have n2 := px_count (n := mvV P 1023 k) (by omega) S.2.2.2.2.2
      have l1 := pcN_le k
      have l2 := pcN_le (mvV P 1023 k)
      have nx : mvV P 1023 (k + 1) = if pcN k < pcN (mvV P 1023 k) ∧ P k = true then k else mvV P 1023 k := rfl
      refine Or.inl ⟨(), trivial, rfl, ?_⟩
      rw [nx]
      by_cases c1 : pcN (mvV P 1023 k) ≤ pcN k
      · rw [if_neg (fun h => by have := h.1; omega)]
        simp (disch := omega) only [p_X3_cuts_L17, if_neg c0, n1, n2, pcI, nI_leI, c1, ↓reduceIte, nI_1]
      · have pk := pcut k (by omega)
        cases c2 : P k with
        | true =>
          rw [c2] at pk
          rw [if_pos ⟨by omega, rfl⟩]
          simp (disch := omega) only [p_X3_cuts_L17, if_neg c0, n1, n2, pcI, nI_leI, c1, ↓reduceIte, pk, b01_t, nI_1]
        | false =>
          rw [c2] at pk
          rw [if_neg (fun h => by cases h.2)]
          simp (disch := omega) only [p_X3_cuts_L17, if_neg c0, n1, n2, pcI, nI_leI, c1, ↓reduceIte, pk, b01_f, nI_1]
    · intro f f' _ _
      have c0 : (1024 : Int32) ≤ nI 1024 := by decide
      have e3 : mvV P 1023 1024 = mvV P 1023 1023 := e2
      have n2 := px_count (n := mvV P 1023 1023) (by omega) S.2.2.2.2.2
      show p_X3_cuts_L17 _ _ _ _ _ _ = _
      rw [e3]
      by_cases v0 : v = 0
      · simp (disch := omega) only [p_X3_cuts_L17, if_pos c0, if_pos v0, n2, pcI]
      · simp (disch := omega) only [p_X3_cuts_L17, if_pos c0, if_neg v0]
