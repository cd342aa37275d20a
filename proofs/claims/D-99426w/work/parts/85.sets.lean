/-! sets as bits, and how many -/
set_option maxRecDepth 100000
def cntB (f : Nat → Bool) : Nat → Nat
  | 0 => 0
  | k + 1 => cntB f k + (if f k = true then 1 else 0)
theorem cntB_le (f : Nat → Bool) : ∀ n, cntB f n ≤ n
  | 0 => Nat.le_refl _
  | n + 1 => by
    have := cntB_le f n
    unfold cntB
    split <;> omega
theorem cntB_congr {f g : Nat → Bool} : ∀ {n : Nat}, (∀ k, k < n → f k = g k) → cntB f n = cntB g n
  | 0, _ => rfl
  | n + 1, h => by
    unfold cntB
    rw [cntB_congr (n := n) (fun k hk => h k (by omega)), h n (by omega)]
theorem cntB_lim (f : Nat → Bool) (n : Nat) : ∀ j, cntB (fun i => decide (i < n) && f i) (n + j) = cntB f n
  | 0 => cntB_congr (fun k hk => by simp only [Nat.add_zero] at hk; simp [hk])
  | j + 1 => by
    show cntB _ (n + j) + _ = _
    rw [cntB_lim f n j, if_neg (fun h => by simp only [Bool.and_eq_true, decide_eq_true_eq] at h; have h1 : n + j < n := h.1; omega), Nat.add_zero]
def bitU (f : Nat → Bool) (n : Nat) : Nat → Int32 := fun p => if p < n ∧ f p = true then 1 else 0
def setB (f : Nat → Bool) (n : Nat) : Int32 := hBits (bitU f n) 0
theorem setB_0 (f : Nat → Bool) : setB f 0 = 0 := by
  have e : bitU f 0 = fun _ => 0 := by
    funext p
    exact if_neg (fun h => absurd h.1 (by omega))
  unfold setB
  rw [e]
  decide
theorem setB_s (f : Nat → Bool) {k : Nat} (hk : k < 12) : setB f (k + 1) = setB f k ||| (if f k = true then 1 <<< (nI k &&& 31) else 0) := by
  unfold setB
  by_cases c : f k = true
  · rw [if_pos c]
    have e : bitU f (k + 1) = upd (bitU f k) (0 + k) 1 := by
      funext p
      unfold upd bitU
      rw [Nat.zero_add]
      by_cases h : p = k
      · subst h
        rw [if_pos ⟨by omega, c⟩, if_pos rfl]
      · rw [if_neg h]
        by_cases h2 : p < k
        · simp only [h2, show p < k + 1 by omega]
        · simp only [h2, show ¬ p < k + 1 by omega]
    rw [e]
    exact (hBits_or (bitU f k) (o := 0) hk).symm
  · rw [if_neg c, Int32.or_zero]
    congr 1
    funext p
    unfold bitU
    by_cases h : p = k
    · subst h
      rw [if_neg (fun h => c h.2), if_neg (fun h => c h.2)]
    · by_cases h2 : p < k
      · simp only [h2, show p < k + 1 by omega]
      · simp only [h2, show ¬ p < k + 1 by omega]
def bcV (v : Int32) : Int32 := match f_J10_bitCount v (0, 0, 0, fun _ => none) with
  | some (.inl (some (.int x)), _) => x
  | _ => 0
theorem f_bc (v : Int32) (M : sMem) : f_J10_bitCount v M = some (.inl (some (.int (bcV v))), M) := rfl
theorem bc_all2 : ∀ a, a < 64 → ∀ b, b < 64 → bcV (nI (64 * a + b)) = nI (cntB (fun i => (64 * a + b).testBit i) 12) := by decide +kernel
theorem bc_all {n : Nat} (h : n < 4096) : bcV (nI n) = nI (cntB (fun i => n.testBit i) 12) := by
  have := bc_all2 (n / 64) (by omega) (n % 64) (by omega)
  rw [show 64 * (n / 64) + n % 64 = n by omega] at this
  exact this
theorem bc_set (f : Nat → Bool) {n : Nat} (hn : n ≤ 12) : bcV (setB f n) = nI (cntB f n) := by
  unfold setB hBits
  rw [bc_all (hBits_lt _ _)]
  have e : cntB (fun i => (hBn (bitU f n) 0 12).testBit i) 12 = cntB (fun i => decide (i < n) && f i) 12 := cntB_congr (fun k hk => by
    rw [hBn_bit, Nat.zero_add]
    have h10 : ¬ (0 : Int32) = 1 := by decide
    unfold bitU
    by_cases c1 : k < n
    · cases c2 : f k <;> simp [hk, c1, h10]
    · simp [hk, c1, h10])
  rw [e]
  have := cntB_lim f n (12 - n)
  rw [show n + (12 - n) = 12 by omega] at this
  rw [this]
theorem f_setOf (f : Nat → Bool) (M : sMem) (a : Nat) {n : Nat} (hn : n ≤ 12) (hf : ∀ k, k < n → f_cond a (nI k) M = some (.inl (some (.int (b01 (f k)))), M)) : f_X0_setOf (nI n) a M = some (.inl (some (.int (setB f n))), M) := by
  have := lp_F (fun fu k => f_X0_setOf_L4 (nI n) a fu (setB f k) (nI k) M) n (some (.inl (some (.int (setB f n))), M)) ?_ ?_ sFuel (by have : 100 < sFuel := (by decide); omega)
  · have h2 : f_X0_setOf_L4 (nI n) a sFuel (setB f 0) (nI 0) M = _ := this
    rw [setB_0] at h2
    exact h2
  · intro fu k hk
    have l : ¬ nI n ≤ nI k := fun q => by have := (nI_leI (by omega) (by omega)).mp q; omega
    have h1 : ∀ b, (b01 b = 0) = (b = false) := b01_0
    have cl : ∀ (b : Bool) K, sCallL true (some (.inl (some (.int (b01 b))), M)) K = K (b01 b) M := fun b K => by
      cases b <;> rfl
    simp only [f_X0_setOf_L4, if_neg l, hf k hk, cl, nI_1]
    rw [setB_s f (by omega)]
    cases f k <;> rfl
  · intro fu
    simp only [f_X0_setOf_L4, if_pos (Int32.le_refl _)]
theorem px_spunOnes (m : Nat) (s : mSt) {n : Nat} (hn : n ≤ 12) (e : s.2 0 571 = nI n) : p_X3_spunOnes m s = some (some (.int (nI (cntB (fun i => decide (s.2 0 (43 + i) ≠ -1)) n))), s) := by
  have q : qAld s 0 571 = some (nI n) := by
    have := qld_0 s (p := 571) (by omega)
    rw [e] at this
    exact this
  have := lp_F (fun fu k => p_X3_spunOnes_L4 m fu (nI (cntB (fun i => decide (s.2 0 (43 + i) ≠ -1)) k)) (nI k) s) n (some (some (.int (nI (cntB (fun i => decide (s.2 0 (43 + i) ≠ -1)) n))), s)) ?_ ?_ sFuel (by have : 100 < sFuel := (by decide); omega)
  · exact this
  · intro fu k hk
    have l : ¬ nI n ≤ nI k := fun q => by have := (nI_leI (by omega) (by omega)).mp q; omega
    have ec : cntB (fun i => decide (s.2 0 (43 + i) ≠ -1)) (k + 1) = cntB (fun i => decide (s.2 0 (43 + i) ≠ -1)) k + (if s.2 0 (43 + k) = -1 then 0 else 1) := by
      show _ + _ = _
      by_cases c : s.2 0 (43 + k) = -1 <;> simp [c]
    simp only [p_X3_spunOnes_L4, mRow_0, obS, q, if_neg l, px_spun m s (show k < 12 by omega), pcI, nI_1]
    rw [ec]
    by_cases c : s.2 0 (43 + k) = -1
    · simp only [if_pos c, if_true, Nat.add_zero, Int32.add_zero]
    · have h10 : ¬ (1 : Int32) = 0 := by decide
      simp only [if_neg c, if_neg h10, nI_1]
  · intro fu
    simp only [p_X3_spunOnes_L4, mRow_0, obS, q, if_pos (Int32.le_refl _)]
