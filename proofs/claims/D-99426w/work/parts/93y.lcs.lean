/-! longest common, and fewest changes: from the front and from behind -/
def lcs (a b : Nat → Int32) : Nat → Nat → Nat
  | 0, _ => 0
  | _ + 1, 0 => 0
  | i + 1, j + 1 => if a i = b j then lcs a b i j + 1 else max (lcs a b i (j + 1)) (lcs a b (i + 1) j)
theorem lcs_0 (a b : Nat → Int32) (i : Nat) : lcs a b i 0 = 0 := by cases i <;> simp [lcs]
theorem lcs_0' (a b : Nat → Int32) (j : Nat) : lcs a b 0 j = 0 := by simp [lcs]
theorem lcs_s (a b : Nat → Int32) (i j : Nat) : lcs a b (i + 1) (j + 1) = if a i = b j then lcs a b i j + 1 else max (lcs a b i (j + 1)) (lcs a b (i + 1) j) := by rw [lcs]
/-- grows by at most one in either direction -/
theorem lcs_lip (a b : Nat → Int32) : ∀ n i j, i + j = n → (lcs a b i j ≤ lcs a b (i + 1) j ∧ lcs a b (i + 1) j ≤ lcs a b i j + 1) ∧ (lcs a b i j ≤ lcs a b i (j + 1) ∧ lcs a b i (j + 1) ≤ lcs a b i j + 1) := by
  intro n
  induction n using Nat.strongRecOn with
  | _ n ih =>
    intro i j h
    constructor
    · cases j with
      | zero => rw [lcs_0, lcs_0]; omega
      | succ j =>
        have h1 := (ih (i + j) (by omega) i j rfl).1
        have h2 := (ih (i + j) (by omega) i j rfl).2
        rw [lcs_s]
        split <;> omega
    · cases i with
      | zero => rw [lcs_0', lcs_0']; omega
      | succ i =>
        have h1 := (ih (i + j) (by omega) i j rfl).1
        have h2 := (ih (i + j) (by omega) i j rfl).2
        rw [lcs_s]
        split <;> omega
def rvN (n : Nat) (a : Nat → Int32) : Nat → Int32 := fun k => a (n - 1 - k)
theorem lcs_up (a b : Nat → Int32) (n m : Nat) : ∀ r i j, i + j = r → i ≤ n → j ≤ m → lcs a b i j + lcs (rvN n a) (rvN m b) (n - i) (m - j) ≤ lcs (rvN n a) (rvN m b) n m := by
  intro r
  induction r using Nat.strongRecOn with
  | _ r ih =>
    intro i j h hi hj
    have mono : ∀ x y, x ≤ n → y ≤ m → lcs (rvN n a) (rvN m b) x y ≤ lcs (rvN n a) (rvN m b) n y ∧ lcs (rvN n a) (rvN m b) x y ≤ lcs (rvN n a) (rvN m b) x m := by
      intro x y hx hy
      constructor
      · have : ∀ d, lcs (rvN n a) (rvN m b) x y ≤ lcs (rvN n a) (rvN m b) (x + d) y := by
          intro d
          induction d with
          | zero => exact Nat.le_refl _
          | succ d ihd => exact Nat.le_trans ihd (lcs_lip (rvN n a) (rvN m b) _ (x + d) y rfl).1.1
        have := this (n - x)
        rwa [show x + (n - x) = n by omega] at this
      · have : ∀ d, lcs (rvN n a) (rvN m b) x y ≤ lcs (rvN n a) (rvN m b) x (y + d) := by
          intro d
          induction d with
          | zero => exact Nat.le_refl _
          | succ d ihd => exact Nat.le_trans ihd (lcs_lip (rvN n a) (rvN m b) _ x (y + d) rfl).2.1
        have := this (m - y)
        rwa [show y + (m - y) = m by omega] at this
    cases i with
    | zero =>
      rw [lcs_0', Nat.sub_zero, Nat.zero_add]
      exact (mono n (m - j) (Nat.le_refl _) (by omega)).2
    | succ i =>
      cases j with
      | zero =>
        rw [lcs_0, Nat.sub_zero, Nat.zero_add]
        exact (mono (n - (i + 1)) m (by omega) (Nat.le_refl _)).1
      | succ j =>
        have e1 : n - i = (n - (i + 1)) + 1 := by omega
        have e2 : m - j = (m - (j + 1)) + 1 := by omega
        have x1 := ih (i + j) (by omega) i j rfl (by omega) (by omega)
        have x2 := ih (i + (j + 1)) (by omega) i (j + 1) rfl (by omega) (by omega)
        have x3 := ih (i + 1 + j) (by omega) (i + 1) j rfl (by omega) (by omega)
        rw [e1, e2, lcs_s] at x1
        have ra : rvN n a (n - (i + 1)) = a i := by unfold rvN; congr 1; omega
        have rb : rvN m b (m - (j + 1)) = b j := by unfold rvN; congr 1; omega
        rw [ra, rb] at x1
        have l := lcs_lip (rvN n a) (rvN m b) _ (n - (i + 1)) (m - (j + 1)) rfl
        rw [e1] at x2
        rw [e2] at x3
        rw [lcs_s]
        by_cases c : a i = b j
        · rw [if_pos c] at x1 ⊢
          omega
        · rw [if_neg c]
          omega
theorem rvN_rvN {n : Nat} (a : Nat → Int32) {k : Nat} (h : k < n) : rvN n (rvN n a) k = a k := by
  unfold rvN
  congr 1
  omega
theorem lcs_congr {a b a' b' : Nat → Int32} : ∀ i j, (∀ k, k < i → a k = a' k) → (∀ k, k < j → b k = b' k) → lcs a b i j = lcs a' b' i j
  | 0, _, _, _ => by simp [lcs]
  | _ + 1, 0, _, _ => by simp [lcs]
  | i + 1, j + 1, h1, h2 => by
    rw [lcs_s, lcs_s, h1 i (by omega), h2 j (by omega), lcs_congr i j (fun k hk => h1 k (by omega)) (fun k hk => h2 k (by omega)), lcs_congr i (j + 1) (fun k hk => h1 k (by omega)) h2, lcs_congr (i + 1) j h1 (fun k hk => h2 k (by omega))]
/-- from the front as from behind -/
theorem lcs_rev (a b : Nat → Int32) (n m : Nat) : lcs (rvN n a) (rvN m b) n m = lcs a b n m := by
  have h1 := lcs_up a b n m _ n m rfl (Nat.le_refl _) (Nat.le_refl _)
  have h2 := lcs_up (rvN n a) (rvN m b) n m _ n m rfl (Nat.le_refl _) (Nat.le_refl _)
  rw [Nat.sub_self, Nat.sub_self, lcs_0] at h1 h2
  rw [lcs_congr (a := rvN n (rvN n a)) (b := rvN m (rvN m b)) (a' := a) (b' := b) n m (fun k hk => rvN_rvN a hk) (fun k hk => rvN_rvN b hk)] at h2
  omega
theorem lcs_le (a b : Nat → Int32) : ∀ i j, lcs a b i j ≤ i := by
  intro i j
  induction i with
  | zero => rw [lcs_0']; omega
  | succ i ih =>
    have := (lcs_lip a b _ i j rfl).1.2
    omega
def edN (a b : Nat → Int32) : Nat → Nat → Nat
  | 0, j => j
  | i + 1, 0 => i + 1
  | i + 1, j + 1 => min (edN a b i j + (if a i = b j then 0 else 1)) (min (edN a b i (j + 1)) (edN a b (i + 1) j) + 1)
theorem edN_0 (a b : Nat → Int32) (i : Nat) : edN a b i 0 = i := by cases i <;> simp [edN]
theorem edN_0' (a b : Nat → Int32) (j : Nat) : edN a b 0 j = j := by simp [edN]
theorem edN_s (a b : Nat → Int32) (i j : Nat) : edN a b (i + 1) (j + 1) = min (edN a b i j + (if a i = b j then 0 else 1)) (min (edN a b i (j + 1)) (edN a b (i + 1) j) + 1) := by rw [edN]
theorem edN_step (a b : Nat → Int32) (i j : Nat) : edN a b (i + 1) j ≤ edN a b i j + 1 ∧ edN a b i (j + 1) ≤ edN a b i j + 1 ∧ edN a b (i + 1) (j + 1) ≤ edN a b i j + (if a i = b j then 0 else 1) := by
  refine ⟨?_, ?_, ?_⟩
  · cases j with
    | zero => rw [edN_0, edN_0]; omega
    | succ j => rw [edN_s]; omega
  · cases i with
    | zero => rw [edN_0', edN_0']; omega
    | succ i => rw [edN_s]; omega
  · rw [edN_s]; omega
theorem edN_up (a b : Nat → Int32) (n m : Nat) : ∀ r i j, i + j = r → i ≤ n → j ≤ m → edN (rvN n a) (rvN m b) n m ≤ edN a b i j + edN (rvN n a) (rvN m b) (n - i) (m - j) := by
  intro r
  induction r using Nat.strongRecOn with
  | _ r ih =>
    intro i j h hi hj
    cases i with
    | zero =>
      rw [edN_0', Nat.sub_zero]
      cases j with
      | zero => rw [Nat.sub_zero]; omega
      | succ j =>
        have x := ih (0 + j) (by omega) 0 j rfl (by omega) (by omega)
        rw [edN_0', Nat.sub_zero] at x
        have s := (edN_step (rvN n a) (rvN m b) n (m - (j + 1))).2.1
        rw [show m - (j + 1) + 1 = m - j by omega] at s
        omega
    | succ i =>
      cases j with
      | zero =>
        have x := ih (i + 0) (by omega) i 0 rfl (by omega) (by omega)
        rw [edN_0, Nat.sub_zero] at x ⊢
        have s := (edN_step (rvN n a) (rvN m b) (n - (i + 1)) m).1
        rw [show n - (i + 1) + 1 = n - i by omega] at s
        omega
      | succ j =>
        have e1 : n - (i + 1) + 1 = n - i := by omega
        have e2 : m - (j + 1) + 1 = m - j := by omega
        have x1 := ih (i + j) (by omega) i j rfl (by omega) (by omega)
        have x2 := ih (i + (j + 1)) (by omega) i (j + 1) rfl (by omega) (by omega)
        have x3 := ih (i + 1 + j) (by omega) (i + 1) j rfl (by omega) (by omega)
        have s := edN_step (rvN n a) (rvN m b) (n - (i + 1)) (m - (j + 1))
        rw [e1, e2] at s
        have ra : rvN n a (n - (i + 1)) = a i := by unfold rvN; congr 1; omega
        have rb : rvN m b (m - (j + 1)) = b j := by unfold rvN; congr 1; omega
        rw [ra, rb] at s
        rw [edN_s]
        omega
theorem edN_congr {a b a' b' : Nat → Int32} : ∀ i j, (∀ k, k < i → a k = a' k) → (∀ k, k < j → b k = b' k) → edN a b i j = edN a' b' i j
  | 0, _, _, _ => by simp [edN]
  | _ + 1, 0, _, _ => by simp [edN]
  | i + 1, j + 1, h1, h2 => by
    rw [edN_s, edN_s, h1 i (by omega), h2 j (by omega), edN_congr i j (fun k hk => h1 k (by omega)) (fun k hk => h2 k (by omega)), edN_congr i (j + 1) (fun k hk => h1 k (by omega)) h2, edN_congr (i + 1) j h1 (fun k hk => h2 k (by omega))]
theorem edN_rev (a b : Nat → Int32) (n m : Nat) : edN (rvN n a) (rvN m b) n m = edN a b n m := by
  have h1 := edN_up a b n m _ n m rfl (Nat.le_refl _) (Nat.le_refl _)
  have h2 := edN_up (rvN n a) (rvN m b) n m _ n m rfl (Nat.le_refl _) (Nat.le_refl _)
  rw [Nat.sub_self, Nat.sub_self, edN_0] at h1 h2
  rw [edN_congr (a := rvN n (rvN n a)) (b := rvN m (rvN m b)) (a' := a) (b' := b) n m (fun k hk => rvN_rvN a hk) (fun k hk => rvN_rvN b hk)] at h2
  omega
theorem edN_le (a b : Nat → Int32) (i j : Nat) : edN a b i j ≤ i + j := by
  induction i with
  | zero => rw [edN_0']; omega
  | succ i ih => have := (edN_step a b i j).1; omega
