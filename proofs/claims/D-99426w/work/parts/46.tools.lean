/-! tools: literals, ints that are numbers, loops, bits -/
set_option maxRecDepth 100000
theorem li_0 : (0 : Int32) = nI 0 := by decide
theorem li_1 : (1 : Int32) = nI 1 := by decide
theorem li_2 : (2 : Int32) = nI 2 := by decide
theorem li_3 : (3 : Int32) = nI 3 := by decide
theorem li_4 : (4 : Int32) = nI 4 := by decide
theorem li_5 : (5 : Int32) = nI 5 := by decide
theorem li_6 : (6 : Int32) = nI 6 := by decide
theorem li_7 : (7 : Int32) = nI 7 := by decide
theorem li_8 : (8 : Int32) = nI 8 := by decide
theorem li_9 : (9 : Int32) = nI 9 := by decide
theorem li_10 : (10 : Int32) = nI 10 := by decide
theorem li_11 : (11 : Int32) = nI 11 := by decide
theorem li_12 : (12 : Int32) = nI 12 := by decide
theorem li_13 : (13 : Int32) = nI 13 := by decide
theorem li_14 : (14 : Int32) = nI 14 := by decide
theorem li_15 : (15 : Int32) = nI 15 := by decide
theorem li_16 : (16 : Int32) = nI 16 := by decide
theorem li_17 : (17 : Int32) = nI 17 := by decide
theorem li_19 : (19 : Int32) = nI 19 := by decide
theorem li_20 : (20 : Int32) = nI 20 := by decide
theorem li_21 : (21 : Int32) = nI 21 := by decide
theorem li_22 : (22 : Int32) = nI 22 := by decide
theorem li_23 : (23 : Int32) = nI 23 := by decide
theorem li_24 : (24 : Int32) = nI 24 := by decide
theorem li_25 : (25 : Int32) = nI 25 := by decide
theorem li_26 : (26 : Int32) = nI 26 := by decide
theorem li_27 : (27 : Int32) = nI 27 := by decide
theorem li_28 : (28 : Int32) = nI 28 := by decide
theorem li_29 : (29 : Int32) = nI 29 := by decide
theorem li_30 : (30 : Int32) = nI 30 := by decide
theorem li_31 : (31 : Int32) = nI 31 := by decide
theorem li_32 : (32 : Int32) = nI 32 := by decide
theorem li_38 : (38 : Int32) = nI 38 := by decide
theorem li_40 : (40 : Int32) = nI 40 := by decide
theorem li_41 : (41 : Int32) = nI 41 := by decide
theorem li_42 : (42 : Int32) = nI 42 := by decide
theorem li_43 : (43 : Int32) = nI 43 := by decide
theorem li_44 : (44 : Int32) = nI 44 := by decide
theorem li_45 : (45 : Int32) = nI 45 := by decide
theorem li_46 : (46 : Int32) = nI 46 := by decide
theorem li_47 : (47 : Int32) = nI 47 := by decide
theorem li_48 : (48 : Int32) = nI 48 := by decide
theorem li_49 : (49 : Int32) = nI 49 := by decide
theorem li_50 : (50 : Int32) = nI 50 := by decide
theorem li_55 : (55 : Int32) = nI 55 := by decide
theorem li_57 : (57 : Int32) = nI 57 := by decide
theorem li_59 : (59 : Int32) = nI 59 := by decide
theorem li_60 : (60 : Int32) = nI 60 := by decide
theorem li_61 : (61 : Int32) = nI 61 := by decide
theorem li_62 : (62 : Int32) = nI 62 := by decide
theorem li_63 : (63 : Int32) = nI 63 := by decide
theorem li_64 : (64 : Int32) = nI 64 := by decide
theorem li_65 : (65 : Int32) = nI 65 := by decide
theorem li_67 : (67 : Int32) = nI 67 := by decide
theorem li_70 : (70 : Int32) = nI 70 := by decide
theorem li_79 : (79 : Int32) = nI 79 := by decide
theorem li_90 : (90 : Int32) = nI 90 := by decide
theorem li_91 : (91 : Int32) = nI 91 := by decide
theorem li_97 : (97 : Int32) = nI 97 := by decide
theorem li_99 : (99 : Int32) = nI 99 := by decide
theorem li_100 : (100 : Int32) = nI 100 := by decide
theorem li_122 : (122 : Int32) = nI 122 := by decide
theorem li_124 : (124 : Int32) = nI 124 := by decide
theorem li_140 : (140 : Int32) = nI 140 := by decide
theorem li_141 : (141 : Int32) = nI 141 := by decide
theorem li_142 : (142 : Int32) = nI 142 := by decide
theorem li_143 : (143 : Int32) = nI 143 := by decide
theorem li_145 : (145 : Int32) = nI 145 := by decide
theorem li_147 : (147 : Int32) = nI 147 := by decide
theorem li_150 : (150 : Int32) = nI 150 := by decide
theorem li_159 : (159 : Int32) = nI 159 := by decide
theorem li_160 : (160 : Int32) = nI 160 := by decide
theorem li_161 : (161 : Int32) = nI 161 := by decide
theorem li_162 : (162 : Int32) = nI 162 := by decide
theorem li_200 : (200 : Int32) = nI 200 := by decide
theorem li_255 : (255 : Int32) = nI 255 := by decide
theorem li_300 : (300 : Int32) = nI 300 := by decide
theorem li_400 : (400 : Int32) = nI 400 := by decide
theorem li_420 : (420 : Int32) = nI 420 := by decide
theorem li_480 : (480 : Int32) = nI 480 := by decide
theorem li_571 : (571 : Int32) = nI 571 := by decide
theorem li_572 : (572 : Int32) = nI 572 := by decide
theorem li_573 : (573 : Int32) = nI 573 := by decide
theorem li_574 : (574 : Int32) = nI 574 := by decide
theorem li_575 : (575 : Int32) = nI 575 := by decide
theorem li_576 : (576 : Int32) = nI 576 := by decide
theorem li_577 : (577 : Int32) = nI 577 := by decide
theorem li_578 : (578 : Int32) = nI 578 := by decide
theorem li_579 : (579 : Int32) = nI 579 := by decide
theorem li_580 : (580 : Int32) = nI 580 := by decide
theorem li_581 : (581 : Int32) = nI 581 := by decide
theorem li_593 : (593 : Int32) = nI 593 := by decide
theorem li_600 : (600 : Int32) = nI 600 := by decide
theorem li_605 : (605 : Int32) = nI 605 := by decide
theorem li_695 : (695 : Int32) = nI 695 := by decide
theorem li_700 : (700 : Int32) = nI 700 := by decide
theorem li_759 : (759 : Int32) = nI 759 := by decide
theorem li_775 : (775 : Int32) = nI 775 := by decide
theorem li_799 : (799 : Int32) = nI 799 := by decide
theorem li_820 : (820 : Int32) = nI 820 := by decide
theorem li_823 : (823 : Int32) = nI 823 := by decide
theorem li_839 : (839 : Int32) = nI 839 := by decide
theorem li_871 : (871 : Int32) = nI 871 := by decide
theorem li_975 : (975 : Int32) = nI 975 := by decide
theorem li_999 : (999 : Int32) = nI 999 := by decide
theorem li_1000 : (1000 : Int32) = nI 1000 := by decide
theorem li_1023 : (1023 : Int32) = nI 1023 := by decide
theorem li_1024 : (1024 : Int32) = nI 1024 := by decide
theorem li_1471 : (1471 : Int32) = nI 1471 := by decide
theorem li_1487 : (1487 : Int32) = nI 1487 := by decide
theorem li_1503 : (1503 : Int32) = nI 1503 := by decide
theorem li_1519 : (1519 : Int32) = nI 1519 := by decide
theorem li_1535 : (1535 : Int32) = nI 1535 := by decide
theorem li_1681 : (1681 : Int32) = nI 1681 := by decide
theorem li_2355 : (2355 : Int32) = nI 2355 := by decide
theorem li_2855 : (2855 : Int32) = nI 2855 := by decide
theorem li_3426 : (3426 : Int32) = nI 3426 := by decide
theorem li_4096 : (4096 : Int32) = nI 4096 := by decide
theorem li_9999 : (9999 : Int32) = nI 9999 := by decide
theorem li_10000 : (10000 : Int32) = nI 10000 := by decide
theorem li_49152 : (49152 : Int32) = nI 49152 := by decide
theorem li_99999 : (99999 : Int32) = nI 99999 := by decide
theorem li_1000000 : (1000000 : Int32) = nI 1000000 := by decide
/-! ## a loop by its count -/
theorem lp_F {β : Type} (L : Nat → Nat → β) (n : Nat) (r : β) (st : ∀ f k, k < n → L (f + 1) k = L f (k + 1)) (dn : ∀ f, L (f + 1) n = r) (f : Nat) (hf : n < f) : L f 0 = r := by
  have : ∀ j f, j ≤ n → j < f → L f (n - j) = r := by
    intro j
    induction j with
    | zero =>
      intro f _ hf
      cases f with
      | zero => omega
      | succ f => exact dn f
    | succ j ih =>
      intro f hj hf
      cases f with
      | zero => omega
      | succ f =>
        rw [st f _ (by omega), show n - (j + 1) + 1 = n - j by omega]
        exact ih f (by omega) (by omega)
  have h := this n f (Nat.le_refl _) hf
  rwa [Nat.sub_self] at h
/-- the first number below n that is so -/
def fstN (p : Nat → Bool) : Nat → Option Nat
  | 0 => none
  | n + 1 => match fstN p n with
    | some k => some k
    | none => if p n then some n else none
theorem fstN_some {p : Nat → Bool} {k : Nat} : ∀ {n : Nat}, fstN p n = some k → k < n ∧ p k = true ∧ ∀ j, j < k → p j = false
  | 0, h => by cases h
  | n + 1, h => by
    unfold fstN at h
    cases hn : fstN p n with
    | some j =>
      rw [hn] at h
      cases h
      have := fstN_some hn
      exact ⟨by omega, this.2⟩
    | none =>
      rw [hn] at h
      by_cases hp : p n = true
      · simp only [hp, if_true] at h
        cases h
        exact ⟨by omega, hp, fun j hj => by
          cases hj2 : p j with
          | false => rfl
          | true =>
            have : ∀ m, j < m → fstN p m ≠ none := by
              intro m
              induction m with
              | zero => intro h; omega
              | succ m ih =>
                intro hm
                unfold fstN
                by_cases e : j < m
                · cases hq : fstN p m with
                  | some x => simp
                  | none => exact absurd hq (ih e)
                · have : m = j := by omega
                  subst this
                  cases hq : fstN p m with
                  | some x => simp
                  | none => simp [hj2]
            exact absurd hn (this _ hj)⟩
      · simp only [hp] at h
        cases h
theorem fstN_none {p : Nat → Bool} : ∀ {n : Nat}, fstN p n = none → ∀ j, j < n → p j = false
  | 0, _, j, hj => by omega
  | n + 1, h, j, hj => by
    unfold fstN at h
    cases hn : fstN p n with
    | some k =>
      rw [hn] at h
      cases h
    | none =>
      rw [hn] at h
      by_cases hp : p n = true
      · simp [hp] at h
      · by_cases e : j = n
        · subst e
          simpa using hp
        · exact fstN_none hn j (by omega)
theorem fstN_of {p : Nat → Bool} {k : Nat} : ∀ {n : Nat}, k < n → p k = true → (∀ j, j < k → p j = false) → fstN p n = some k
  | 0, h, _, _ => by omega
  | n + 1, h, hp, hj => by
    cases hq : fstN p (n + 1) with
    | none => rw [fstN_none hq k h] at hp; cases hp
    | some m =>
      have := fstN_some hq
      rcases Nat.lt_trichotomy m k with g | g | g
      · rw [hj m g] at this; cases this.2.1
      · rw [g]
      · rw [this.2.2 k g] at hp; cases hp
theorem fstN_no {p : Nat → Bool} : ∀ {n : Nat}, (∀ j, j < n → p j = false) → fstN p n = none
  | n, h => by
    cases hq : fstN p n with
    | none => rfl
    | some m =>
      have := fstN_some hq
      rw [h m this.1] at this
      cases this.2.1
/-- a loop that ends at the first number that is so, or at its end -/
theorem lp_E {β : Type} (L : Nat → Nat → β) (n : Nat) (p : Nat → Bool) (e : Nat → β) (r : β) (st : ∀ f k, k < n → p k = false → L (f + 1) k = L f (k + 1)) (ex : ∀ f k, k < n → p k = true → L (f + 1) k = e k) (dn : ∀ f, L (f + 1) n = r) (f : Nat) (hf : n < f) : L f 0 = match fstN p n with
    | some k => e k
    | none => r := by
  have key : ∀ j f, j ≤ n → j < f → (∀ i, i < n - j → p i = false) → L f (n - j) = match fstN p n with
    | some k => e k
    | none => r := by
    intro j
    induction j with
    | zero =>
      intro f _ hf hno
      rw [fstN_no (by simpa using hno)]
      cases f with
      | zero => omega
      | succ f => exact dn f
    | succ j ih =>
      intro f hj hf hno
      cases f with
      | zero => omega
      | succ f =>
        cases hp : p (n - (j + 1)) with
        | true =>
          rw [fstN_of (by omega) hp hno]
          exact ex f _ (by omega) hp
        | false =>
          rw [st f _ (by omega) hp, show n - (j + 1) + 1 = n - j by omega]
          refine ih f (by omega) (by omega) (fun i hi => ?_)
          by_cases h9 : i = n - (j + 1)
          · rw [h9, hp]
          · exact hno i (by omega)
  have h := key n f (Nat.le_refl _) hf (fun i hi => by omega)
  rwa [Nat.sub_self] at h
/-- folding over the numbers below n -/
def fdN {α : Type} (g : Nat → α → α) (a : α) : Nat → α
  | 0 => a
  | n + 1 => g n (fdN g a n)
theorem fdN_0 {α : Type} (g : Nat → α → α) (a : α) : fdN g a 0 = a := rfl
theorem fdN_s {α : Type} (g : Nat → α → α) (a : α) (n : Nat) : fdN g a (n + 1) = g n (fdN g a n) := rfl
theorem fdN_congr {α : Type} {g g' : Nat → α → α} (a : α) : ∀ {n : Nat}, (∀ k x, k < n → g k x = g' k x) → fdN g a n = fdN g' a n
  | 0, _ => rfl
  | n + 1, h => by
    rw [fdN_s, fdN_s, fdN_congr a (n := n) (fun k x hk => h k x (by omega)), h n _ (by omega)]
/-- an invariant of a fold -/
theorem fdN_inv {α : Type} {g : Nat → α → α} {a : α} (P : Nat → α → Prop) (h0 : P 0 a) : ∀ {n : Nat}, (∀ k x, k < n → P k x → P (k + 1) (g k x)) → P n (fdN g a n)
  | 0, _ => h0
  | n + 1, h => h n _ (by omega) (fdN_inv P h0 (n := n) (fun k x hk => h k x (by omega)))
/-- a loop with a state that may change in ways nobody asks about -/
theorem lp_S {α β : Type} (L : Nat → Nat → α → β) (n : Nat) (P : Nat → α → Prop) (Q : β → Prop) (st : ∀ f k a, k < n → P k a → (∃ a', P (k + 1) a' ∧ L (f + 1) k a = L f (k + 1) a') ∨ Q (L (f + 1) k a)) (dn : ∀ f a, P n a → Q (L (f + 1) n a)) (f : Nat) (hf : n < f) (a : α) (h0 : P 0 a) : Q (L f 0 a) := by
  have key : ∀ j f a, j ≤ n → j < f → P (n - j) a → Q (L f (n - j) a) := by
    intro j
    induction j with
    | zero =>
      intro f a _ hf hP
      cases f with
      | zero => omega
      | succ f => exact dn f a hP
    | succ j ih =>
      intro f a hj hf hP
      cases f with
      | zero => omega
      | succ f =>
        rcases st f _ a (by omega) hP with ⟨a', h1, h2⟩ | h
        · rw [h2, show n - (j + 1) + 1 = n - j by omega]
          exact ih f a' (by omega) (by omega) (by rwa [show n - (j + 1) + 1 = n - j by omega] at h1)
        · exact h
  have h := key n f a (Nat.le_refl _) hf (by rwa [Nat.sub_self])
  rwa [Nat.sub_self] at h
/-! ## ints and bits -/
theorem nI_m1 (n : Nat) (h : n < 2 ^ 31) : ¬ nI n = -1 := fun e => by
  have := congrArg Int32.toInt e
  rw [nI_toInt h] at this
  have h1 : (-1 : Int32).toInt = -1 := by decide
  omega
theorem nI_m1' (n : Nat) (h : n < 2 ^ 31) : ¬ (-1 : Int32) = nI n := fun e => nI_m1 n h e.symm
theorem nI_sh : ∀ w, w < 32 → ((nI w &&& 31 : Int32).toBitVec.smod 32).toNat = w := by decide +kernel
theorem nI_shl {a w : Nat} (hw : w < 31) (h : a * 2 ^ w < 2 ^ 32) : nI a <<< (nI w &&& 31) = nI (a * 2 ^ w) := pk_shlN _ w (nI_sh w (by omega)) h
theorem nI_shr {a w : Nat} (ha : a < 2 ^ 31) (hw : w < 31) : nI a >>> (nI w &&& 31) = nI (a / 2 ^ w) := pk_shrN ha _ w (nI_sh w (by omega))
theorem nI_and {a b : Nat} (ha : a < 2 ^ 31) (hb : b < 2 ^ 31) : nI a &&& nI b = nI (a &&& b) := by
  apply Int32.toBitVec_inj.mp
  apply BitVec.eq_of_toNat_eq
  have h1 : a &&& b < 2 ^ 31 := Nat.lt_of_le_of_lt Nat.and_le_left ha
  rw [Int32.toBitVec_and, BitVec.toNat_and, pk_tn (by omega), pk_tn (by omega), pk_tn (by omega)]
theorem nI_or {a b : Nat} (ha : a < 2 ^ 31) (hb : b < 2 ^ 31) : nI a ||| nI b = nI (a ||| b) := by
  apply Int32.toBitVec_inj.mp
  apply BitVec.eq_of_toNat_eq
  have h1 : a ||| b < 2 ^ 31 := Nat.or_lt_two_pow ha hb
  rw [Int32.toBitVec_or, BitVec.toNat_or, pk_tn (by omega), pk_tn (by omega), pk_tn (by omega)]
theorem nI_xor {a b : Nat} (ha : a < 2 ^ 31) (hb : b < 2 ^ 31) : nI a ^^^ nI b = nI (a ^^^ b) := by
  apply Int32.toBitVec_inj.mp
  apply BitVec.eq_of_toNat_eq
  have h1 : a ^^^ b < 2 ^ 31 := Nat.xor_lt_two_pow ha hb
  rw [Int32.toBitVec_xor, BitVec.toNat_xor, pk_tn (by omega), pk_tn (by omega), pk_tn (by omega)]
/-- bit w of a set -/
theorem nI_bit {a w : Nat} (ha : a < 2 ^ 31) (hw : w < 31) : nI a >>> (nI w &&& 31) &&& nI 1 = if a.testBit w then nI 1 else nI 0 := by
  have h1 : a / 2 ^ w < 2 ^ 31 := Nat.lt_of_le_of_lt (Nat.div_le_self _ _) ha
  rw [nI_shr ha hw, nI_and h1 (by omega), Nat.and_one_is_mod, Nat.testBit_eq_decide_div_mod_eq]
  by_cases h : a / 2 ^ w % 2 = 1
  · simp [h]
  · have : a / 2 ^ w % 2 = 0 := by omega
    simp [this]
theorem nI_one {w : Nat} (hw : w < 31) : nI 1 <<< (nI w &&& 31) = nI (2 ^ w) := by
  have := Nat.pow_lt_pow_right (a := 2) (by omega) hw
  rw [nI_shl hw (by omega), Nat.one_mul]
theorem hBn_lt (t : Nat → Int32) (o : Nat) : ∀ n, hBn t o n < 2 ^ n
  | 0 => by simp [hBn]
  | n + 1 => by
    have := hBn_lt t o n
    unfold hBn
    rw [Nat.pow_succ]
    split <;> omega
theorem hBn_bit (t : Nat → Int32) (o : Nat) : ∀ n k, (hBn t o n).testBit k = (decide (k < n) && decide (t (o + k) = 1))
  | 0, k => by simp [hBn]
  | n + 1, k => by
    have hl := hBn_lt t o n
    unfold hBn
    have ih := hBn_bit t o n k
    by_cases h1 : t (o + n) = 1
    · rw [if_pos h1, Nat.add_comm]
      rcases Nat.lt_trichotomy k n with hk | hk | hk
      · rw [Nat.testBit_two_pow_add_gt hk, ih]
        have : k < n + 1 := by omega
        simp [hk, this]
      · subst hk
        rw [Nat.testBit_two_pow_add_eq, Nat.testBit_lt_two_pow hl]
        simp [h1]
      · have h2 : 2 ^ n + hBn t o n < 2 ^ k := by
          have : 2 ^ (n + 1) ≤ 2 ^ k := Nat.pow_le_pow_right (by omega) (by omega)
          rw [Nat.pow_succ] at this
          omega
        rw [Nat.testBit_lt_two_pow h2]
        have : ¬ k < n + 1 := by omega
        simp [this]
    · rw [if_neg h1, Nat.add_zero, ih]
      by_cases hk : k = n
      · subst hk
        simp [h1]
      · have : decide (k < n + 1) = decide (k < n) := by
          apply decide_eq_decide.mpr
          omega
        rw [this]
theorem hBits_lt (t : Nat → Int32) (o : Nat) : hBn t o 12 < 4096 := hBn_lt t o 12
/-- a bit of the trays' sets: the world's own entry -/
theorem hBits_has (t : Nat → Int32) {o w : Nat} (hw : w < 12) : hBits t o >>> (nI w &&& 31) &&& nI 1 = if t (o + w) = 1 then nI 1 else nI 0 := by
  have := hBits_lt t o
  unfold hBits
  rw [nI_bit (by omega) (by omega), hBn_bit]
  simp [hw]
theorem hBits_or (t : Nat → Int32) {o w : Nat} (hw : w < 12) : hBits t o ||| nI 1 <<< (nI w &&& 31) = hBits (upd t (o + w) 1) o := by
  have h1 := hBits_lt t o
  have h2 := hBits_lt (upd t (o + w) 1) o
  have h3 : 2 ^ w < 4096 := Nat.pow_lt_pow_right (a := 2) (by omega) (show w < 12 from hw)
  unfold hBits
  rw [nI_one (by omega), nI_or (by omega) (by omega)]
  congr 1
  apply Nat.eq_of_testBit_eq
  intro i
  rw [Nat.testBit_or, hBn_bit, hBn_bit, Nat.testBit_two_pow]
  by_cases hi : i = w
  · subst hi
    simp [hw, upd]
  · have : ¬ o + i = o + w := by omega
    have h9 : ¬ w = i := fun e => hi e.symm
    simp [upd, hi, h9]
theorem hBits_del (t : Nat → Int32) {o w : Nat} (hw : w < 12) : hBits t o &&& (nI 1 <<< (nI w &&& 31) ^^^ -1) = hBits (upd t (o + w) 0) o := by
  have h1 := hBits_lt t o
  have h2 := hBits_lt (upd t (o + w) 0) o
  have h3 : 2 ^ w < 4096 := Nat.pow_lt_pow_right (a := 2) (by omega) (show w < 12 from hw)
  unfold hBits
  rw [nI_one (by omega)]
  apply Int32.toBitVec_inj.mp
  apply BitVec.eq_of_toNat_eq
  apply Nat.eq_of_testBit_eq
  intro i
  rw [Int32.toBitVec_and, BitVec.toNat_and, Int32.toBitVec_xor, BitVec.toNat_xor, pk_tn (by omega), pk_tn (by omega), pk_tn (by omega), Nat.testBit_and, Nat.testBit_xor, hBn_bit, hBn_bit, Nat.testBit_two_pow]
  have hm : (-1 : Int32).toBitVec.toNat = 2 ^ 32 - 1 := by decide
  rw [hm, Nat.testBit_two_pow_sub_one]
  by_cases hi : i = w
  · subst hi
    have h32 : i < 32 := by omega
    simp [hw, upd, h32]
  · have : ¬ o + i = o + w := by omega
    have h9 : ¬ w = i := fun e => hi e.symm
    by_cases h12 : i < 12
    · have h32 : i < 32 := by omega
      simp [upd, hi, h9, h12, h32]
    · simp [h12]
