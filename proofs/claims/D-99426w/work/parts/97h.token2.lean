/-! runs of letters and digits, words told apart: both sides -/
set_option maxRecDepth 100000
theorem run_ex (P : Int32 → Bool) (hP : P (-1) = false) (n : Nat) (u : Nat → Int32) : ∀ (d k : Nat), k + d = n → ∃ e, k ≤ e ∧ e ≤ n ∧ P (rw n u e) = false ∧ ∀ j, k ≤ j → j < e → P (rw n u j) = true
  | 0, k, h => ⟨k, Nat.le_refl _, by omega, by rw [rw_ge (by omega)]; exact hP, fun j h1 h2 => by omega⟩
  | d + 1, k, h => by
    cases c : P (rw n u k) with
    | false => exact ⟨k, Nat.le_refl _, by omega, c, fun j h1 h2 => by omega⟩
    | true =>
      obtain ⟨e, h1, h2, h3, h4⟩ := run_ex P hP n u d (k + 1) (by omega)
      refine ⟨e, by omega, h2, h3, fun j q1 q2 => ?_⟩
      by_cases q : j = k
      · rw [q]
        exact c
      · exact h4 j (by omega) q2
def ltB (c : Int32) : Bool := inB c 97 122 || inB c 65 90
def dgB (c : Int32) : Bool := inB c 48 57
def blB (c : Int32) : Bool := c == 32 || c == 10
theorem letter_c (c : Int32) (M : sMem) : f_X0_isLetter c M = some (.inl (some (.int (b01 (ltB c)))), M) := by
  unfold f_X0_isLetter ltB
  simp only [fx_isIn, sCallI, hcI]
  cases inB c 97 122 <;> cases inB c 65 90 <;> simp [b01]
theorem letter_m (c : Int32) (s : mSt) : p_X3_isLetter c s = some (some (.int (b01 (ltB c))), s) := by
  unfold p_X3_isLetter ltB
  simp only [px_isIn, pcI]
  cases inB c 97 122 <;> cases inB c 65 90 <;> simp [b01]
theorem digit_c (c : Int32) (M : sMem) : f_X0_isDigit c M = some (.inl (some (.int (b01 (dgB c)))), M) := by
  unfold f_X0_isDigit dgB
  simp only [fx_isIn, sCallI, hcI]
  cases inB c 48 57 <;> simp [b01, sBool]
theorem digit_m (c : Int32) (s : mSt) : p_X3_isDigit c s = some (some (.int (b01 (dgB c))), s) := by
  unfold p_X3_isDigit dgB
  simp only [px_isIn, pcI]
  cases inB c 48 57 <;> simp [b01, pBool]
theorem b01_z : b01 false = 0 := rfl
theorem b01_1 : ¬ b01 true = 0 := by decide
/-! words -/
theorem wordOf_c {A : hA} {R : sMem} {S : hS} {g : Nat → Nat} {n fr e : Nat} {u : Nat → Int32} (hg : hG A) (hc : hCl A R) (hT : ∀ j, j < 26 → sStg (hMem A R S) (g (10 + j)) (txLen j) (fun i => (txByt j).getD i 0)) (h : tpC S n u) (h9 : S.1 9 = .ref (g 2)) (h10 : S.1 10 = .int (nI e)) (h11 : S.1 11 = .int (nI fr)) (he : fr ≤ e) (hen : e ≤ n) {q nn : Nat} {hh : Nat → Option Nat} {idx : Nat → Nat} (hq : R.2.2.2 q = some (sArq 2 nn hh)) (hn : nn ≤ 100) (hi : ∀ k, k < nn → hh k = some (g (10 + idx k)) ∧ idx k < 26) : ∀ (d k : Nat), k + d = nn → ∀ fu, d < fu → ∃ W, f_X0_wordOf_L2 g (hX A) q fu (nI k) (hMem A R S) = some (.inl (some (.int W)), hMem A R S) ∧ ((∃ i, k ≤ i ∧ i < nn ∧ splB u fr e (idx i) = true ∧ W = nI i) ∨ ((∀ i, k ≤ i → i < nn → splB u fr e (idx i) = false) ∧ W = -1))
  | 0, k, hk, fu, hf => by
    obtain ⟨fu, rfl⟩ : ∃ p, fu = p + 1 := ⟨fu - 1, by omega⟩
    have k0 : k = nn := by omega
    subst k0
    have l := hR_lenq hc S hq
    refine ⟨-1, ?_, Or.inr ⟨fun i h1 h2 => by omega, rfl⟩⟩
    simp only [f_X0_wordOf_L2, l, obS, if_pos (Int32.le_refl _)]
  | d + 1, k, hk, fu, hf => by
    obtain ⟨fu, rfl⟩ : ∃ p, fu = p + 1 := ⟨fu - 1, by omega⟩
    have l := hR_lenq hc S hq
    have c1 : ¬ nI nn ≤ nI k := by
      rw [nI_leI (by omega) (by omega)]
      omega
    have ld := hR_ldn hc S hq (by omega) (p := k) (by omega) (by omega) (hi k (by omega)).1
    have sp := spells_c hg hT h h10 h11 he hen (hi k (by omega)).2
    have e1 : nI k + 1 = nI (k + 1) := (nI_succ k).symm
    cases c : splB u fr e (idx k) with
    | true =>
      refine ⟨nI k, ?_, Or.inl ⟨k, Nat.le_refl _, by omega, c, rfl⟩⟩
      simp only [f_X0_wordOf_L2, l, obS, if_neg c1, xgN_9 hg, h9, hvN_ref, if_true, ld, hx_chk hg, sp, c, sCallI, hcI, if_neg b01_1]
    | false =>
      obtain ⟨W, i1, i2⟩ := wordOf_c hg hc hT h h9 h10 h11 he hen hq hn hi d (k + 1) (by omega) fu (by omega)
      refine ⟨W, ?_, ?_⟩
      · simp only [f_X0_wordOf_L2, l, obS, if_neg c1, xgN_9 hg, h9, hvN_ref, if_true, ld, hx_chk hg, sp, c, sCallI, hcI, b01_z, e1, i1]
      · rcases i2 with ⟨i, q1, q2, q3, q4⟩ | ⟨q1, q2⟩
        · exact Or.inl ⟨i, by omega, q2, q3, q4⟩
        · refine Or.inr ⟨fun i h1 h2 => ?_, q2⟩
          by_cases q : i = k
          · rw [q]
            exact c
          · exact q1 i (by omega) h2
theorem wordOf_no {A : hA} {R : sMem} {S : hS} {g : Nat → Nat} {w : Nat} (hg : hG A) (hc : hCl A R) (h9 : S.1 9 = .ref w) (hw : w ≠ g 2) {q nn : Nat} {hh : Nat → Option Nat} (hq : R.2.2.2 q = some (sArq 2 nn hh)) : f_X0_wordOf g (hX A) q (hMem A R S) = some (.inl (some (.int (-1))), hMem A R S) := by
  have l := hR_lenq hc S hq
  obtain ⟨p, hp⟩ : ∃ p, sFuel = p + 1 := ⟨999999, rfl⟩
  simp only [f_X0_wordOf, hp, f_X0_wordOf_L2, l, obS, xgN_9 hg, h9, hvN_ref, if_neg hw]
  split <;> rfl
/-- codes of the model's words -/
def cdN (j : Nat) : Nat := [50, 3, 4, 6, 200, 7, 8, 9, 20, 21, 22, 10, 11, 12, 13, 14, 5, 41, 42, 43, 44, 45, 46, 47, 48, 49].getD j 0
def cd (j : Nat) : Int32 := nI (cdN j)
def wLst (rd : Nat) : List Nat := match rd with
  | 0 => [5, 6, 7]
  | 1 => [1, 2, 16, 3, 8, 9, 10, 17, 18, 19, 20, 21, 22, 23, 24, 25, 0]
  | 2 => [11, 12, 13]
  | _ => [14, 15, 16]
def wdL (P : Nat → Bool) : List Nat → Int32
  | [] => 1
  | j :: l => if P j = true then cd j else wdL P l
theorem wdL_or (P : Nat → Bool) : ∀ l : List Nat, (∃ j, j ∈ l ∧ P j = true ∧ wdL P l = cd j) ∨ ((∀ j, j ∈ l → P j = false) ∧ wdL P l = 1)
  | [] => Or.inr ⟨fun j hj => by simp at hj, rfl⟩
  | j :: l => by
    unfold wdL
    cases c : P j with
    | true => exact Or.inl ⟨j, by simp, c, by simp⟩
    | false =>
      rcases wdL_or P l with ⟨i, h1, h2, h3⟩ | ⟨h1, h2⟩
      · exact Or.inl ⟨i, by simp [h1], h2, by simpa using h3⟩
      · refine Or.inr ⟨fun i hi => ?_, by simpa using h2⟩
        rcases List.mem_cons.mp hi with rfl | hi
        · exact c
        · exact h1 i hi
theorem wLst_lt : ∀ rd, rd < 4 → ∀ j, j ∈ wLst rd → j < 26 := by decide
theorem b01z {α : Sort _} (b : Bool) (x y : α) : (if b01 b = 0 then x else y) = if b = true then y else x := by cases b <;> simp [b01]
theorem pushI (c : Prop) [Decidable c] (a b : Int32) (s : mSt) : (some (some (Value.int (if c then a else b)), s) : Option (Option Value × mSt)) = if c then some (some (.int a), s) else some (some (.int b), s) := by split <;> rfl
theorem asked_m {s : mSt} {P : Nat → Bool} (hi : ∀ j, j < 26 → p_X3_is j s = some (some (.int (b01 (P j))), s)) (m : Nat) : p_X3_asked m s = some (some (.int (wdL P [17, 18, 19, 20, 21, 22, 23, 24, 25, 0])), s) := by
  simp only [p_X3_asked, hi 17 (by omega), hi 18 (by omega), hi 19 (by omega), hi 20 (by omega), hi 21 (by omega), hi 22 (by omega), hi 23 (by omega), hi 24 (by omega), hi 25 (by omega), hi 0 (by omega), pcI, b01z, wdL, pushI]
  rfl
theorem lawWord_m {s : mSt} {P : Nat → Bool} (hi : ∀ j, j < 26 → p_X3_is j s = some (some (.int (b01 (P j))), s)) (m : Nat) : p_X3_lawWord m s = some (some (.int (wdL P (wLst 1))), s) := by
  have e : wdL P (wLst 1) = (if P 1 = true then 3 else if P 2 = true then 4 else if P 16 = true then 5 else if P 3 = true then 6 else if P 8 = true then 20 else if P 9 = true then 21 else if P 10 = true then 22 else wdL P [17, 18, 19, 20, 21, 22, 23, 24, 25, 0]) := rfl
  rw [e]
  simp only [p_X3_lawWord, asked_m hi, hi 1 (by omega), hi 2 (by omega), hi 16 (by omega), hi 3 (by omega), hi 8 (by omega), hi 9 (by omega), hi 10 (by omega), pcI, b01z]
  generalize wdL P [17, 18, 19, 20, 21, 22, 23, 24, 25, 0] = X
  simp only [pushI]
theorem word_m {s : mSt} {P : Nat → Bool} (hi : ∀ j, j < 26 → p_X3_is j s = some (some (.int (b01 (P j))), s)) (m : Nat) {rd : Nat} (hr : rd < 4) (h12 : s.1 12 = nI rd) : p_X3_word m s = some (some (.int (wdL P (wLst rd))), s) := by
  have : rd = 0 ∨ rd = 1 ∨ rd = 2 ∨ rd = 3 := by omega
  have a0 : (nI 0 : Int32) = 0 := rfl
  have a1 : (nI 1 : Int32) = 1 := rfl
  have a2 : (nI 2 : Int32) = 2 := rfl
  have a3 : (nI 3 : Int32) = 3 := rfl
  rcases this with rfl | rfl | rfl | rfl
  · simp only [p_X3_word, qg, h12, a0, obS, if_true, hi 5 (by omega), hi 6 (by omega), hi 7 (by omega), pcI, b01z, wLst, wdL, pushI]
    rfl
  · rw [a1] at h12
    simp only [p_X3_word, qg, h12, obS, if_true, lawWord_m hi, pcI, if_neg (show ¬ (1 : Int32) = 0 by decide)]
  · rw [a2] at h12
    simp only [p_X3_word, qg, h12, obS, if_true, hi 11 (by omega), hi 12 (by omega), hi 13 (by omega), pcI, b01z, wLst, wdL, pushI, if_neg (show ¬ (2 : Int32) = 0 by decide), if_neg (show ¬ (2 : Int32) = 1 by decide)]
    rfl
  · rw [a3] at h12
    simp only [p_X3_word, qg, h12, obS, hi 14 (by omega), hi 15 (by omega), hi 16 (by omega), pcI, b01z, wLst, wdL, pushI, if_neg (show ¬ (3 : Int32) = 0 by decide), if_neg (show ¬ (3 : Int32) = 1 by decide), if_neg (show ¬ (3 : Int32) = 2 by decide)]
    rfl
