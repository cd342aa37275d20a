/-! injections counted by sets of facts, and by sets of worms -/
def smN (f : Nat → Nat) : Nat → Nat
  | 0 => 0
  | n + 1 => smN f n + f n
theorem smN_0 (f : Nat → Nat) : smN f 0 = 0 := rfl
theorem smN_s (f : Nat → Nat) (n : Nat) : smN f (n + 1) = smN f n + f n := rfl
theorem smN_congr {f g : Nat → Nat} : ∀ {n : Nat}, (∀ k, k < n → f k = g k) → smN f n = smN g n
  | 0, _ => rfl
  | n + 1, h => by rw [smN_s, smN_s, smN_congr (n := n) (fun k hk => h k (by omega)), h n (by omega)]
theorem smN_zero {f : Nat → Nat} : ∀ {n : Nat}, (∀ k, k < n → f k = 0) → smN f n = 0
  | 0, _ => rfl
  | n + 1, h => by rw [smN_s, smN_zero (n := n) (fun k hk => h k (by omega)), h n (by omega)]
theorem smN_add (f g : Nat → Nat) : ∀ n, smN (fun k => f k + g k) n = smN f n + smN g n
  | 0 => rfl
  | n + 1 => by
    rw [smN_s, smN_s, smN_s, smN_add f g n]
    omega
theorem smN_mul (c : Nat) (f : Nat → Nat) : ∀ n, smN (fun k => c * f k) n = c * smN f n
  | 0 => rfl
  | n + 1 => by rw [smN_s, smN_s, smN_mul c f n, Nat.mul_add]
theorem smN_swap (f : Nat → Nat → Nat) (m : Nat) : ∀ n, smN (fun i => smN (f i) m) n = smN (fun j => smN (fun i => f i j) n) m
  | 0 => (smN_zero (n := m) (f := fun j => smN (fun i => f i j) 0) (fun _ _ => rfl)).symm
  | n + 1 => by
    rw [smN_s, smN_swap f m n, ← smN_add]
    rfl
theorem smN_split (f : Nat → Nat) (n : Nat) : ∀ m, smN f (n + m) = smN f n + smN (fun k => f (n + k)) m
  | 0 => rfl
  | m + 1 => by
    rw [show n + (m + 1) = n + m + 1 by omega, smN_s, smN_s, smN_split f n m]
    omega
/-- one of the numbers apart -/
theorem smN_pick (f : Nat → Nat) {g : Nat} : ∀ {n : Nat}, g < n → smN f n = f g + smN (fun k => if k = g then 0 else f k) n
  | 0, h => by omega
  | n + 1, h => by
    rw [smN_s, smN_s]
    by_cases e : g = n
    · subst e
      rw [if_pos rfl, smN_congr (n := g) (f := fun k => if k = g then 0 else f k) (g := f) (fun k hk => if_neg (by omega))]
      omega
    · rw [smN_pick f (g := g) (n := n) (by omega), if_neg (fun q => e q.symm)]
      omega
def tB (b : Bool) : Nat := if b = true then 1 else 0
/-- sets: without k -/
theorem bitX (s k i : Nat) : (s ^^^ 2 ^ k).testBit i = (s.testBit i ^^ decide (k = i)) := by rw [Nat.testBit_xor, Nat.testBit_two_pow]
theorem bitX_ne {s k i : Nat} (h : i ≠ k) : (s ^^^ 2 ^ k).testBit i = s.testBit i := by
  have : ¬ k = i := fun e => h e.symm
  rw [bitX]; simp [this]
theorem bitX_same {s k : Nat} (h : s.testBit k = true) : (s ^^^ 2 ^ k).testBit k = false := by rw [bitX, h]; simp
theorem bitX_lt {s k : Nat} (h : s.testBit k = true) : s ^^^ 2 ^ k < s := by
  have e : (s ^^^ 2 ^ k).testBit k = false := bitX_same h
  have d : 2 ^ k + (s ^^^ 2 ^ k) = s ∨ True := Or.inr trivial
  apply Nat.lt_of_not_le
  intro hle
  have hd : (s ^^^ 2 ^ k) / 2 ^ (k + 1) = s / 2 ^ (k + 1) := by
    apply Nat.eq_of_testBit_eq
    intro i
    rw [Nat.testBit_div_two_pow, Nat.testBit_div_two_pow, bitX_ne (by omega)]
  have h1 : (s ^^^ 2 ^ k) / 2 ^ k % 2 = 0 := by
    have := Nat.testBit_eq_decide_div_mod_eq (x := s ^^^ 2 ^ k) (i := k)
    rw [e] at this
    have h9 : ¬ (s ^^^ 2 ^ k) / 2 ^ k % 2 = 1 := fun q => by simp [q] at this
    omega
  have h2 : s / 2 ^ k % 2 = 1 := by
    have := Nat.testBit_eq_decide_div_mod_eq (x := s) (i := k)
    rw [h] at this
    exact of_decide_eq_true this.symm
  rw [Nat.pow_succ, ← Nat.div_div_eq_div_mul, ← Nat.div_div_eq_div_mul] at hd
  have h3 := Nat.div_le_div_right (c := 2 ^ k) hle
  omega
theorem bitX_comm (s k i : Nat) : s ^^^ 2 ^ k ^^^ 2 ^ i = s ^^^ 2 ^ i ^^^ 2 ^ k := by rw [Nat.xor_assoc, Nat.xor_assoc, Nat.xor_comm (2 ^ k)]
theorem cntB_s (f : Nat → Bool) (n : Nat) : cntB f (n + 1) = cntB f n + (if f n = true then 1 else 0) := rfl
theorem cntB_X {s k : Nat} (h : s.testBit k = true) : ∀ {n : Nat}, k < n → cntB (fun i => s.testBit i) n = cntB (fun i => (s ^^^ 2 ^ k).testBit i) n + 1
  | 0, h => by omega
  | n + 1, hk => by
    have low : ∀ m, m ≤ k → cntB (fun i => s.testBit i) m = cntB (fun i => (s ^^^ 2 ^ k).testBit i) m := by
      intro m
      induction m with
      | zero => intro _; rfl
      | succ m ih =>
        intro hm
        rw [cntB_s, cntB_s, ih (by omega)]
        rw [bitX_ne (s := s) (k := k) (i := m) (by omega)]
    rw [cntB_s, cntB_s]
    by_cases e : k = n
    · subst e
      rw [low k (Nat.le_refl _)]
      rw [h, bitX_same h]
      simp
    · rw [cntB_X h (n := n) (by omega)]
      rw [bitX_ne (s := s) (k := k) (i := n) (by omega)]
      omega
theorem hiX {s w i : Nat} (hs : s < 2 ^ w) (hi : i < w) : (2 ^ w + s) ^^^ 2 ^ i = 2 ^ w + (s ^^^ 2 ^ i) := by
  have hx : s ^^^ 2 ^ i < 2 ^ w := Nat.xor_lt_two_pow hs (Nat.pow_lt_pow_right (by omega) hi)
  apply Nat.eq_of_testBit_eq
  intro j
  rw [bitX]
  rcases Nat.lt_trichotomy j w with c | c | c
  · rw [Nat.testBit_two_pow_add_gt c, Nat.testBit_two_pow_add_gt c, bitX]
  · subst c
    rw [Nat.testBit_two_pow_add_eq, Nat.testBit_two_pow_add_eq, Nat.testBit_lt_two_pow hs, Nat.testBit_lt_two_pow hx]
    have : ¬ i = j := by omega
    simp [this]
  · have p : 2 ^ (w + 1) ≤ 2 ^ j := Nat.pow_le_pow_right (by omega) (by omega)
    rw [Nat.pow_succ] at p
    rw [Nat.testBit_lt_two_pow (by omega : 2 ^ w + s < 2 ^ j), Nat.testBit_lt_two_pow (by omega : 2 ^ w + (s ^^^ 2 ^ i) < 2 ^ j)]
    have : ¬ i = j := by omega
    simp [this]
theorem hiX_same {s w : Nat} (hs : s < 2 ^ w) : (2 ^ w + s) ^^^ 2 ^ w = s := by
  apply Nat.eq_of_testBit_eq
  intro j
  rw [bitX]
  rcases Nat.lt_trichotomy j w with c | c | c
  · have : ¬ w = j := by omega
    rw [Nat.testBit_two_pow_add_gt c]; simp [this]
  · subst c
    rw [Nat.testBit_two_pow_add_eq, Nat.testBit_lt_two_pow hs]
    simp
  · have p : 2 ^ (w + 1) ≤ 2 ^ j := Nat.pow_le_pow_right (by omega) (by omega)
    rw [Nat.pow_succ] at p
    rw [Nat.testBit_lt_two_pow (by omega : 2 ^ w + s < 2 ^ j), Nat.testBit_lt_two_pow (by omega : s < 2 ^ j)]
    have : ¬ w = j := by omega
    simp [this]
/-- over the sets without i, or over those with it, less it -/
theorem sum_bij (i : Nat) (φ : Nat → Nat) : ∀ d, smN (fun s => if s.testBit i = true then 0 else φ s) (2 ^ (i + 1 + d)) = smN (fun s => if s.testBit i = true then φ (s ^^^ 2 ^ i) else 0) (2 ^ (i + 1 + d)) := by
  intro d
  induction d generalizing φ with
  | zero =>
    rw [show i + 1 + 0 = i + 1 by omega, Nat.pow_succ, show 2 ^ i * 2 = 2 ^ i + 2 ^ i by omega, smN_split, smN_split]
    have lo : ∀ k, k < 2 ^ i → k.testBit i = false := fun k hk => Nat.testBit_lt_two_pow hk
    have hi : ∀ k, k < 2 ^ i → (2 ^ i + k).testBit i = true := fun k hk => by rw [Nat.testBit_two_pow_add_eq, lo k hk]; rfl
    rw [smN_congr (n := 2 ^ i) (f := fun s => if s.testBit i = true then 0 else φ s) (g := φ) (fun k hk => by simp [lo k hk]), smN_zero (n := 2 ^ i) (f := fun k => if (2 ^ i + k).testBit i = true then 0 else φ (2 ^ i + k)) (fun k hk => by simp [hi k hk]), smN_zero (n := 2 ^ i) (f := fun s => if s.testBit i = true then φ (s ^^^ 2 ^ i) else 0) (fun k hk => by simp [lo k hk]), smN_congr (n := 2 ^ i) (f := fun k => if (2 ^ i + k).testBit i = true then φ ((2 ^ i + k) ^^^ 2 ^ i) else 0) (g := φ) (fun k hk => by rw [if_pos (hi k hk), hiX_same hk])]
    omega
  | succ d ih =>
    have e : 2 ^ (i + 1 + (d + 1)) = 2 ^ (i + 1 + d) + 2 ^ (i + 1 + d) := by
      rw [show i + 1 + (d + 1) = i + 1 + d + 1 by omega, Nat.pow_succ]
      omega
    rw [e, smN_split, smN_split, ih φ]
    congr 1
    rw [smN_congr (n := 2 ^ (i + 1 + d)) (f := fun k => if (2 ^ (i + 1 + d) + k).testBit i = true then 0 else φ (2 ^ (i + 1 + d) + k)) (g := fun s => if s.testBit i = true then 0 else φ (2 ^ (i + 1 + d) + s)) (fun k hk => by rw [Nat.testBit_two_pow_add_gt (by omega)]), ih (fun s => φ (2 ^ (i + 1 + d) + s))]
    refine smN_congr (fun k hk => ?_)
    rw [Nat.testBit_two_pow_add_gt (by omega)]
    split
    · rw [hiX hk (by omega)]
    · rfl
theorem sum_bij' {i w : Nat} (h : i < w) (φ : Nat → Nat) : smN (fun s => if s.testBit i = true then 0 else φ s) (2 ^ w) = smN (fun s => if s.testBit i = true then φ (s ^^^ 2 ^ i) else 0) (2 ^ w) := by
  have := sum_bij i φ (w - (i + 1))
  rwa [show i + 1 + (w - (i + 1)) = w by omega] at this
/-- worms one by one; sets of facts -/
def fdC (h : Nat → Nat → Bool) (F : Nat) : Nat → Nat → Nat
  | 0, s => if s = 0 then 1 else 0
  | w + 1, s => fdC h F w s + smN (fun f => if s.testBit f = true ∧ h w f = true then fdC h F w (s ^^^ 2 ^ f) else 0) F
/-- facts one by one; sets of worms -/
def fdM (h : Nat → Nat → Bool) (W : Nat) : Nat → Nat → Nat
  | 0, s => if s = 0 then 1 else 0
  | k + 1, s => smN (fun i => if s.testBit i = true ∧ h i k = true then fdM h W k (s ^^^ 2 ^ i) else 0) W
def noW (h : Nat → Nat → Bool) (i : Nat) : Nat → Nat → Bool := fun w f => !decide (w = i) && h w f
theorem fdC_congr {h h' : Nat → Nat → Bool} {F : Nat} : ∀ w s, (∀ i f, i < w → h i f = h' i f) → fdC h F w s = fdC h' F w s
  | 0, _, _ => rfl
  | w + 1, s, e => by
    show fdC h F w s + _ = fdC h' F w s + _
    rw [fdC_congr w s (fun i f hi => e i f (by omega))]
    congr 1
    refine smN_congr (fun f _ => ?_)
    rw [e w f (by omega), fdC_congr w (s ^^^ 2 ^ f) (fun i f hi => e i f (by omega))]
theorem fdC_s (h : Nat → Nat → Bool) (F w s : Nat) : fdC h F (w + 1) s = fdC h F w s + smN (fun f => if s.testBit f = true ∧ h w f = true then fdC h F w (s ^^^ 2 ^ f) else 0) F := rfl
theorem fdC_no (h : Nat → Nat → Bool) (F w s : Nat) : fdC (noW h w) F (w + 1) s = fdC h F w s := by
  rw [fdC_s, smN_zero (fun f _ => by simp [noW]), Nat.add_zero]
  exact fdC_congr w s (fun i f hi => by
    have : ¬ i = w := by omega
    simp [noW, this])
theorem ite_sm (c : Prop) [Decidable c] (f : Nat → Nat) (n : Nat) : (if c then smN f n else 0) = smN (fun k => if c then f k else 0) n := by
  by_cases h : c
  · simp [h]
  · simp only [h, if_false]
    exact (smN_zero (fun _ _ => rfl)).symm
/-- by the worm of fact g -/
theorem fdC_by {F g : Nat} (hg : g < F) : ∀ (w : Nat) (h : Nat → Nat → Bool) (s : Nat), s.testBit g = true → fdC h F w s = smN (fun i => if h i g = true then fdC (noW h i) F w (s ^^^ 2 ^ g) else 0) w := by
  intro w
  induction w with
  | zero =>
    intro h s hs
    have : s ≠ 0 := fun e => by rw [e, Nat.zero_testBit] at hs; cases hs
    simp [fdC, smN, this]
  | succ w ih =>
    intro h s hs
    rw [fdC_s, ih h s hs, smN_s]
    have a1 : (if h w g = true then fdC (noW h w) F (w + 1) (s ^^^ 2 ^ g) else 0) = if h w g = true then fdC h F w (s ^^^ 2 ^ g) else 0 := by rw [fdC_no]
    rw [a1]
    rw [smN_pick (fun f => if s.testBit f = true ∧ h w f = true then fdC h F w (s ^^^ 2 ^ f) else 0) hg]
    have a2 : (if s.testBit g = true ∧ h w g = true then fdC h F w (s ^^^ 2 ^ g) else 0) = if h w g = true then fdC h F w (s ^^^ 2 ^ g) else 0 := by simp [hs]
    rw [a2]
    have a3 : smN (fun i => if h i g = true then fdC (noW h i) F (w + 1) (s ^^^ 2 ^ g) else 0) w = smN (fun i => (if h i g = true then fdC (noW h i) F w (s ^^^ 2 ^ g) else 0) + smN (fun f => if h i g = true then (if (s ^^^ 2 ^ g).testBit f = true ∧ h w f = true then fdC (noW h i) F w (s ^^^ 2 ^ g ^^^ 2 ^ f) else 0) else 0) F) w := by
      refine smN_congr (fun i hi => ?_)
      rw [fdC_s, ← ite_sm]
      have : ¬ w = i := by omega
      have e : ∀ f, noW h i w f = h w f := fun f => by simp [noW, this]
      simp only [e]
      split <;> rfl
    rw [a3, smN_add]
    have a4 : smN (fun k => if k = g then 0 else if s.testBit k = true ∧ h w k = true then fdC h F w (s ^^^ 2 ^ k) else 0) F = smN (fun i => smN (fun f => if h i g = true then (if (s ^^^ 2 ^ g).testBit f = true ∧ h w f = true then fdC (noW h i) F w (s ^^^ 2 ^ g ^^^ 2 ^ f) else 0) else 0) F) w := by
      rw [smN_swap]
      refine smN_congr (fun f _ => ?_)
      by_cases c : f = g
      · subst c
        rw [if_pos rfl]
        refine (smN_zero (fun i _ => ?_)).symm
        rw [bitX_same hs]
        simp
      · rw [if_neg c]
        by_cases c2 : s.testBit f = true ∧ h w f = true
        · rw [if_pos c2, ih h (s ^^^ 2 ^ f) (by rw [bitX_ne (fun e => c e.symm)]; exact hs)]
          refine smN_congr (fun i _ => ?_)
          rw [bitX_ne c, if_pos c2, bitX_comm]
        · rw [if_neg c2]
          refine (smN_zero (fun i _ => ?_)).symm
          rw [bitX_ne c, if_neg c2]
          split <;> rfl
    rw [a4]
    omega
theorem fdM_no (h : Nat → Nat → Bool) (W i : Nat) : ∀ k s, fdM (noW h i) W k s = if s.testBit i = true then 0 else fdM h W k s
  | 0, s => by
    by_cases c : s = 0
    · subst c; simp [fdM]
    · simp [fdM, c]
  | k + 1, s => by
    show smN _ W = _
    by_cases c : s.testBit i = true
    · rw [if_pos c]
      refine smN_zero (fun j _ => ?_)
      by_cases e : j = i
      · simp [noW, e]
      · rw [fdM_no h W i k, bitX_ne (fun q => e q.symm), if_pos c]
        split <;> rfl
    · rw [if_neg c]
      show _ = smN _ W
      refine smN_congr (fun j _ => ?_)
      by_cases e : j = i
      · subst e
        simp [c]
      · rw [fdM_no h W i k, bitX_ne (fun q => e q.symm), if_neg c]
        simp [noW, e]
theorem fdM_0 {h : Nat → Nat → Bool} {W n : Nat} (hn : W ≤ n) : ∀ k s, cntB (fun i => s.testBit i) n ≠ k → s < 2 ^ n → fdM h W k s = 0
  | 0, s, hc, hs => by
    have : s ≠ 0 := fun e => by
      subst e
      apply hc
      have : ∀ m, cntB (fun i => Nat.testBit 0 i) m = 0 := by
        intro m
        induction m with
        | zero => rfl
        | succ m ih => show cntB _ m + _ = 0; rw [ih]; simp
      exact this n
    simp [fdM, this]
  | k + 1, s, hc, hs => by
    refine smN_zero (fun i hi => ?_)
    by_cases c : s.testBit i = true ∧ h i k = true
    · rw [if_pos c]
      refine fdM_0 hn k _ (fun e => hc ?_) ?_
      · rw [cntB_X c.1 (n := n) (by omega), e]
      · have := bitX_lt c.1
        omega
    · rw [if_neg c]
theorem full_bit {k f : Nat} : (2 ^ k - 1).testBit f = decide (f < k) := by rw [Nat.testBit_two_pow_sub_one]
theorem full_X (k : Nat) : (2 ^ (k + 1) - 1) ^^^ 2 ^ k = 2 ^ k - 1 := by
  apply Nat.eq_of_testBit_eq
  intro j
  rw [bitX, full_bit, full_bit]
  rcases Nat.lt_trichotomy j k with c | c | c
  · have : ¬ k = j := by omega
    have : j < k + 1 := by omega
    simp [*]
  · subst c; simp
  · have h1 : ¬ k = j := by omega
    have h2 : ¬ j < k + 1 := by omega
    have h3 : ¬ j < k := by omega
    simp [h1, h2, h3]
theorem fdC_empty (h : Nat → Nat → Bool) (F : Nat) : ∀ w, fdC h F w 0 = 1
  | 0 => rfl
  | w + 1 => by
    rw [fdC_s, fdC_empty h F w, smN_zero (fun f _ => by simp)]
/-- both ways the same number -/
theorem feed_both (W F : Nat) : ∀ (k : Nat) (h : Nat → Nat → Bool), k ≤ F → fdC h F W (2 ^ k - 1) = smN (fdM h W k) (2 ^ W) := by
  intro k
  induction k with
  | zero =>
    intro h _
    rw [show 2 ^ 0 - 1 = 0 by rfl, fdC_empty]
    have p : 0 < 2 ^ W := Nat.pow_pos (by omega)
    rw [smN_pick (fdM h W 0) p, smN_zero (fun k _ => ?_)]
    · rfl
    · by_cases c : k = 0
      · simp [c]
      · simp [fdM, c]
  | succ k ih =>
    intro h hk
    rw [fdC_by (g := k) (by omega) W h _ (by rw [full_bit]; simp), full_X]
    have a1 : smN (fun i => if h i k = true then fdC (noW h i) F W (2 ^ k - 1) else 0) W = smN (fun i => smN (fun s => if s.testBit i = true ∧ h i k = true then fdM h W k (s ^^^ 2 ^ i) else 0) (2 ^ W)) W := by
      refine smN_congr (fun i hi => ?_)
      by_cases c : h i k = true
      · rw [if_pos c, ih (noW h i) (by omega)]
        rw [smN_congr (fun s _ => fdM_no h W i k s), sum_bij' hi]
        refine smN_congr (fun s _ => ?_)
        simp only [c, and_true]
      · rw [if_neg c]
        refine (smN_zero (fun s _ => ?_)).symm
        simp [c]
    rw [a1, smN_swap]
    rfl
