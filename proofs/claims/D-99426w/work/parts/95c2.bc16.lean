/-! bits of a number below 65536 -/
set_option maxRecDepth 100000
def bt1 (v : Int32) : Int32 := v - (((v.toUInt32 >>> ((1 : Int32).toUInt32 &&& Int32.toUInt32 31)).toInt32) &&& 1431655765)
def bt2 (v : Int32) : Int32 := (v &&& 858993459) + (((v.toUInt32 >>> ((2 : Int32).toUInt32 &&& Int32.toUInt32 31)).toInt32) &&& 858993459)
def bt3 (v : Int32) : Int32 := (v + ((v.toUInt32 >>> ((4 : Int32).toUInt32 &&& Int32.toUInt32 31)).toInt32)) &&& 252645135
def bt4 (v : Int32) : Int32 := v + ((v.toUInt32 >>> ((8 : Int32).toUInt32 &&& Int32.toUInt32 31)).toInt32)
def bt5 (v : Int32) : Int32 := (v + ((v.toUInt32 >>> ((16 : Int32).toUInt32 &&& Int32.toUInt32 31)).toInt32)) &&& 63
theorem bt_all (v : Int32) : bcV v = bt5 (bt4 (bt3 (bt2 (bt1 v)))) := rfl
def bn1 (n : Nat) : Nat := n - (n / 2 &&& 1431655765)
def bn2 (n : Nat) : Nat := (n &&& 858993459) + (n / 4 &&& 858993459)
def bn3 (n : Nat) : Nat := (n + n / 16) &&& 252645135
def bn4 (n : Nat) : Nat := n + n / 256
def bn5 (n : Nat) : Nat := (n + n / 65536) &&& 63
theorem and_le_l (a b : Nat) : a &&& b ≤ a := Nat.and_le_left
theorem bt1_n {n : Nat} (h : n < 65536) : bt1 (nI n) = nI (bn1 n) := by
  have e := pk_ushrN (n := n) (by omega) (1 : Int32) 1 (by decide)
  have l := and_le_l (n / 2) 1431655765
  unfold bt1 bn1
  rw [e]
  show nI n - (nI (n / 2 ^ 1) &&& nI 1431655765) = _
  rw [nI_and (by omega) (by omega), Nat.pow_one, pk_sub (by omega)]
theorem bn1_le {n : Nat} (h : n < 65536) : bn1 n < 65536 := Nat.lt_of_le_of_lt (Nat.sub_le _ _) h
theorem bt2_n {n : Nat} (h : n < 65536) : bt2 (nI n) = nI (bn2 n) := by
  have e := pk_ushrN (n := n) (by omega) (2 : Int32) 2 (by decide)
  unfold bt2 bn2
  rw [e]
  show (nI n &&& nI 858993459) + (nI (n / 2 ^ 2) &&& nI 858993459) = _
  rw [nI_and (by omega) (by omega), nI_and (by omega) (by omega), nI_add]
theorem bn2_le {n : Nat} (h : n < 65536) : bn2 n < 131072 := by
  have l := and_le_l n 858993459
  have l2 := and_le_l (n / 4) 858993459
  unfold bn2
  omega
theorem bt3_n {n : Nat} (h : n < 131072) : bt3 (nI n) = nI (bn3 n) := by
  have e := pk_ushrN (n := n) (by omega) (4 : Int32) 4 (by decide)
  unfold bt3 bn3
  rw [e]
  show (nI n + nI (n / 2 ^ 4)) &&& nI 252645135 = _
  rw [nI_add, nI_and (by omega) (by omega)]
theorem bn3_le {n : Nat} (h : n < 131072) : bn3 n < 262144 := by
  have l := and_le_l (n + n / 16) 252645135
  unfold bn3
  omega
theorem bt4_n {n : Nat} (h : n < 262144) : bt4 (nI n) = nI (bn4 n) := by
  have e := pk_ushrN (n := n) (by omega) (8 : Int32) 8 (by decide)
  unfold bt4 bn4
  rw [e]
  show nI n + nI (n / 2 ^ 8) = _
  rw [nI_add]
theorem bn4_le {n : Nat} (h : n < 262144) : bn4 n < 524288 := by
  unfold bn4
  omega
theorem bt5_n {n : Nat} (h : n < 524288) : bt5 (nI n) = nI (bn5 n) := by
  have e := pk_ushrN (n := n) (by omega) (16 : Int32) 16 (by decide)
  unfold bt5 bn5
  rw [e]
  show (nI n + nI (n / 2 ^ 16)) &&& nI 63 = _
  rw [nI_add, nI_and (by omega) (by omega)]
theorem bc_bn {n : Nat} (h : n < 65536) : bcV (nI n) = nI (bn5 (bn4 (bn3 (bn2 (bn1 n))))) := by
  rw [bt_all, bt1_n h, bt2_n (bn1_le h), bt3_n (bn2_le (bn1_le h)), bt4_n (bn3_le (bn2_le (bn1_le h))), bt5_n (bn4_le (bn3_le (bn2_le (bn1_le h))))]
theorem and_256 {x y c d : Nat} (hy : y < 256) (hd : d < 256) : (256 * x + y) &&& (256 * c + d) = 256 * (x &&& c) + (y &&& d) := by
  have hyd : y &&& d < 2 ^ 8 := Nat.lt_of_le_of_lt Nat.and_le_left hy
  apply Nat.eq_of_testBit_eq
  intro j
  have e1 := Nat.testBit_two_pow_mul_add x (i := 8) (b := y) hy j
  have e2 := Nat.testBit_two_pow_mul_add c (i := 8) (b := d) hd j
  have e3 := Nat.testBit_two_pow_mul_add (x &&& c) (i := 8) (b := y &&& d) hyd j
  rw [show (2 : Nat) ^ 8 = 256 by rfl] at e1 e2 e3
  rw [Nat.testBit_and, e1, e2, e3]
  split
  · rw [Nat.testBit_and]
  · rw [Nat.testBit_and]
theorem b1a : ∀ a, a < 256 → a / 2 &&& 5592405 = a / 2 &&& 1431655765 := by decide +kernel
theorem b1b : ∀ e, e < 2 → ∀ b, b < 256 → (128 * e + b / 2) &&& 85 = b / 2 &&& 1431655765 := by decide +kernel
theorem b2a : ∀ a, a < 256 → a &&& 3355443 = a &&& 858993459 := by decide +kernel
theorem b2b : ∀ a, a < 256 → a &&& 51 = a &&& 858993459 := by decide +kernel
theorem b2c : ∀ a, a < 256 → a / 4 &&& 3355443 = a / 4 &&& 858993459 := by decide +kernel
theorem b2d : ∀ e, e < 4 → ∀ b, b < 256 → (64 * e + b / 4) &&& 51 = b / 4 &&& 858993459 := by decide +kernel
theorem b2e : ∀ a, a < 256 → bn1 a < 256 ∧ bn2 (bn1 a) < 69 ∧ bn2 (bn1 a) % 16 < 5 := by decide +kernel
theorem b3a : ∀ x, x < 69 → (x + x / 16) &&& 986895 = (x + x / 16) &&& 252645135 := by decide +kernel
theorem b3b : ∀ e, e < 5 → ∀ y, y < 69 → (y + 16 * e + y / 16) &&& 15 = (y + y / 16) &&& 252645135 := by decide +kernel
theorem b8 : ∀ a, a < 256 → bn3 (bn2 (bn1 a)) = cntB (fun i => a.testBit i) 8 := by decide +kernel
theorem bn1_256 {a b : Nat} (ha : a < 256) (hb : b < 256) : bn1 (256 * a + b) = 256 * bn1 a + bn1 b := by
  have e : (256 * a + b) / 2 = 256 * (a / 2) + (128 * (a % 2) + b / 2) := by omega
  have m : (1431655765 : Nat) = 256 * 5592405 + 85 := by rfl
  have s : (256 * a + b) / 2 &&& 1431655765 = 256 * (a / 2 &&& 1431655765) + (b / 2 &&& 1431655765) := by
    rw [e]
    conv => lhs; rw [m]
    rw [and_256 (by omega) (by omega), b1a a ha, b1b (a % 2) (by omega) b hb]
  have l1 := and_le_l (a / 2) 1431655765
  have l2 := and_le_l (b / 2) 1431655765
  unfold bn1
  rw [s]
  omega
theorem bn2_256 {a b : Nat} (ha : a < 256) (hb : b < 256) : bn2 (256 * a + b) = 256 * bn2 a + bn2 b := by
  have e : (256 * a + b) / 4 = 256 * (a / 4) + (64 * (a % 4) + b / 4) := by omega
  have m : (858993459 : Nat) = 256 * 3355443 + 51 := by rfl
  have s1 : (256 * a + b) &&& 858993459 = 256 * (a &&& 858993459) + (b &&& 858993459) := by
    conv => lhs; rw [m]
    rw [and_256 (by omega) (by omega), b2a a ha, b2b b hb]
  have s2 : (256 * a + b) / 4 &&& 858993459 = 256 * (a / 4 &&& 858993459) + (b / 4 &&& 858993459) := by
    rw [e]
    conv => lhs; rw [m]
    rw [and_256 (by omega) (by omega), b2c a ha, b2d (a % 4) (by omega) b hb]
  unfold bn2
  rw [s1, s2]
  omega
theorem bn3_256 {x y : Nat} (hx : x < 69) (hx2 : x % 16 < 5) (hy : y < 69) : bn3 (256 * x + y) = 256 * bn3 x + bn3 y := by
  have e : 256 * x + y + (256 * x + y) / 16 = 256 * (x + x / 16) + (y + 16 * (x % 16) + y / 16) := by omega
  have m : (252645135 : Nat) = 256 * 986895 + 15 := by rfl
  unfold bn3
  rw [e]
  conv => lhs; rw [m]
  rw [and_256 (by omega) (by omega), b3a x hx, b3b (x % 16) hx2 y hy]
theorem cntB_add (f : Nat → Bool) (n : Nat) : ∀ m, cntB f (n + m) = cntB f n + cntB (fun i => f (n + i)) m
  | 0 => rfl
  | m + 1 => by
    rw [show n + (m + 1) = n + m + 1 by omega, cntB_s, cntB_s, cntB_add f n m]
    omega
theorem bc_16 {n : Nat} (h : n < 65536) : bcV (nI n) = nI (cntB (fun i => n.testBit i) 16) := by
  rw [bc_bn h]
  congr 1
  obtain ⟨a, b, ha, hb, rfl⟩ : ∃ a b, a < 256 ∧ b < 256 ∧ n = 256 * a + b := ⟨n / 256, n % 256, by omega, by omega, by omega⟩
  obtain ⟨a1, a2, a3⟩ := b2e a ha
  obtain ⟨c1, c2, c3⟩ := b2e b hb
  rw [bn1_256 ha hb, bn2_256 a1 c1, bn3_256 a2 a3 c2, b8 a ha, b8 b hb]
  have l1 := cntB_le (fun i => a.testBit i) 8
  have l2 := cntB_le (fun i => b.testBit i) 8
  have s : cntB (fun i => (256 * a + b).testBit i) 16 = cntB (fun i => b.testBit i) 8 + cntB (fun i => a.testBit i) 8 := by
    rw [show (16 : Nat) = 8 + 8 by rfl, cntB_add]
    have e := fun j => Nat.testBit_two_pow_mul_add a (i := 8) (b := b) hb j
    rw [show (2 : Nat) ^ 8 = 256 by rfl] at e
    have q1 : cntB (fun i => (256 * a + b).testBit i) 8 = cntB (fun i => b.testBit i) 8 := cntB_congr (fun k hk => by rw [e, if_pos hk])
    have q2 : cntB (fun i => (256 * a + b).testBit (8 + i)) 8 = cntB (fun i => a.testBit i) 8 := cntB_congr (fun k hk => by rw [e, if_neg (by omega), show 8 + k - 8 = k by omega])
    rw [q1, q2]
  rw [s]
  generalize cntB (fun i => a.testBit i) 8 = x at *
  generalize cntB (fun i => b.testBit i) 8 = y at *
  unfold bn4 bn5
  have z1 : (256 * x + y) / 256 = x := by omega
  have z2 : (256 * x + y + x) / 65536 = 0 := by omega
  rw [z1, z2, Nat.add_zero]
  have := Nat.and_two_pow_sub_one_eq_mod (256 * x + y + x) 6
  rw [show (2 : Nat) ^ 6 - 1 = 63 by rfl] at this
  rw [this]
  omega
