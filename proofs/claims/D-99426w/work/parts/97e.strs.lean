/-! texts of the heap: length, letters, the place of a sign -/
set_option maxRecDepth 100000
def sStg (M : sMem) (a n : Nat) (f : Nat → Int32) : Prop := ∃ v, sStrV M a = some v ∧ sInts M 1 v = some (n, f)
theorem stg_chk {M : sMem} {a n : Nat} {f : Nat → Int32} (h : sStg M a n f) (o : Option (sRes × sMem)) : sChkS M a o = o := by
  obtain ⟨v, h1, -⟩ := h
  simp [sChkS, h1]
theorem stg_ln {M : sMem} {v n : Nat} {f : Nat → Int32} (h : sInts M 1 v = some (n, f)) : sLen M v = some (nI n) := by
  unfold sInts at h
  unfold sLen
  split at h
  · rename_i k m f' e
    split at h
    · simp only [Option.some.injEq, Prod.mk.injEq] at h
      rw [e]
      simp [h.1]
    · cases h
  · rename_i k m f' w e
    split at h
    · simp only [Option.some.injEq, Prod.mk.injEq] at h
      rw [e]
      simp [h.1]
    · cases h
  · cases h
theorem stg_ld {M : sMem} {v n : Nat} {f : Nat → Int32} (h : sInts M 1 v = some (n, f)) {k : Nat} (hk : k < n) (hn : n < 2 ^ 31) : sBald M v (nI k) = some (f k) := by
  show sXld M 1 v (nI k) = _
  unfold sXld
  rw [h]
  simp only [Option.bind_some]
  rw [if_neg (nI_in hk hn), nI_clamp (by omega)]
theorem stg_len {M : sMem} {a n : Nat} {f : Nat → Int32} (h : sStg M a n f) (hn : n < 2 ^ 31) : f_J2_length a M = some (.inl (some (.int (nI n))), M) := by
  have hc := fun o => stg_chk h o
  obtain ⟨v, h1, h2⟩ := h
  have e1 : ¬ (1 : Int32) = 0 := by decide
  have e2 : (0 : Int32).toInt8.toInt32 = 0 := by decide
  have e3 : nI n >>> ((0 : Int32) &&& 31) = nI n := by
    have := nI_shr (a := n) (w := 0) hn (by omega)
    rw [show (nI 0 : Int32) = 0 from rfl] at this
    rw [this, Nat.pow_zero, Nat.div_one]
  simp only [f_J2_length, h1, obS, stg_ln h2, hc, f_J2_coder, if_neg e1, sNarB, if_pos e2, sCallI, hcI, e3]
theorem stg_char {M : sMem} {a n : Nat} {f : Nat → Int32} (h : sStg M a n f) (hn : n < 2 ^ 31) {k : Nat} (hk : k < n) (hf : ((f k &&& 255).toUInt32 % 65536).toInt32 = f k) : f_J2_charAt a (nI k) M = some (.inl (some (.int (f k))), M) := by
  have hc := fun o => stg_chk h o
  obtain ⟨v, h1, h2⟩ := h
  have e1 : ¬ (1 : Int32) = 0 := by decide
  have e2 : (0 : Int32).toInt8.toInt32 = 0 := by decide
  have e4 : ¬ nI k < 0 := nI_pos (by omega)
  have e5 : nI k < nI n := by
    rw [nI_ltI (by omega) (by omega)]
    exact hk
  have e6 : (((f k).toUInt32 % 65536).toInt32) = f k := by
    have : ((((f k &&& 255).toUInt32 % 65536).toInt32).toUInt32 % 65536).toInt32 = ((f k &&& 255).toUInt32 % 65536).toInt32 := by
      generalize f k &&& 255 = y
      apply Int32.toInt_inj.mp
      congr 1
      apply Int32.toBitVec_inj.mp
      show (y.toUInt32 % 65536 % 65536).toBitVec = (y.toUInt32 % 65536).toBitVec
      congr 1
      apply UInt32.toNat_inj.mp
      simp
    rw [hf] at this
    exact this
  simp only [f_J2_charAt, h1, obS, hc, f_J2_isLatin1, if_neg e1, sCallI, hcI, ↓reduceIte, f_J3_charAt, stg_ln h2, f_J2_checkIndex, f_J4_checkIndex, if_neg e4, if_pos e5, sCallV, hcV, stg_ld h2 hk hn, hf, sNarC, if_pos e6]
def sgP (x : Int32) : Int32 := if 59 = x then 0 else if 43 = x then 1 else if 45 = x then 2 else if 42 = x then 3 else if 47 = x then 4 else if 40 = x then 5 else if 41 = x then 6 else if 60 = x then 7 else if 61 = x then 8 else if 62 = x then 9 else -1
def sgB (x : Int32) : Bool := x == 59 || x == 43 || x == 45 || x == 42 || x == 47 || x == 40 || x == 41 || x == 60 || x == 61 || x == 62
theorem sgP_neg : ∀ c : Nat, c < 256 → (sgP ((nI c).toInt8.toInt32) < 0 ↔ sgB (nI c) = false) := by decide +kernel
theorem stg_sign {M : sMem} {a : Nat} (h : sStg M a 10 (fun i => (txByt 4).getD i 0)) {c : Nat} (hc : c < 256) : f_J2_indexOf a (nI c) M = some (.inl (some (.int (sgP ((nI c).toInt8.toInt32)))), M) := by
  have hk := fun o => stg_chk h o
  have hl := stg_len h (by omega)
  obtain ⟨v, h1, h2⟩ := h
  have e1 : ¬ (1 : Int32) = 0 := by decide
  have e3 : ¬ nI c < 0 := nI_pos (by omega)
  have e4 : ¬ (255 : Int32) < nI c := by
    show ¬ nI 255 < nI c
    rw [nI_ltI (by omega) (by omega)]
    omega
  have e5 : ¬ nI 10 < nI 10 := by decide
  have e7 : ¬ (0 : Int32) < 0 := by decide
  have e8 : (0 : Int32) < nI 10 := by decide
  have ld := fun k (hk : k < 10) => stg_ld h2 (k := k) hk (by omega)
  have l0 : sBald M v 0 = some 59 := ld 0 (by omega)
  have l1 : sBald M v (0 + 1) = some 43 := ld 1 (by omega)
  have l2 : sBald M v (0 + 1 + 1) = some 45 := ld 2 (by omega)
  have l3 : sBald M v (0 + 1 + 1 + 1) = some 42 := ld 3 (by omega)
  have l4 : sBald M v (0 + 1 + 1 + 1 + 1) = some 47 := ld 4 (by omega)
  have l5 : sBald M v (0 + 1 + 1 + 1 + 1 + 1) = some 40 := ld 5 (by omega)
  have l6 : sBald M v (0 + 1 + 1 + 1 + 1 + 1 + 1) = some 41 := ld 6 (by omega)
  have l7 : sBald M v (0 + 1 + 1 + 1 + 1 + 1 + 1 + 1) = some 60 := ld 7 (by omega)
  have l8 : sBald M v (0 + 1 + 1 + 1 + 1 + 1 + 1 + 1 + 1) = some 61 := ld 8 (by omega)
  have l9 : sBald M v (0 + 1 + 1 + 1 + 1 + 1 + 1 + 1 + 1 + 1) = some 62 := ld 9 (by omega)
  have m0 : ¬ nI 10 ≤ (0 : Int32) := by decide
  have m1 : ¬ nI 10 ≤ (0 + 1 : Int32) := by decide
  have m2 : ¬ nI 10 ≤ (0 + 1 + 1 : Int32) := by decide
  have m3 : ¬ nI 10 ≤ (0 + 1 + 1 + 1 : Int32) := by decide
  have m4 : ¬ nI 10 ≤ (0 + 1 + 1 + 1 + 1 : Int32) := by decide
  have m5 : ¬ nI 10 ≤ (0 + 1 + 1 + 1 + 1 + 1 : Int32) := by decide
  have m6 : ¬ nI 10 ≤ (0 + 1 + 1 + 1 + 1 + 1 + 1 : Int32) := by decide
  have m7 : ¬ nI 10 ≤ (0 + 1 + 1 + 1 + 1 + 1 + 1 + 1 : Int32) := by decide
  have m8 : ¬ nI 10 ≤ (0 + 1 + 1 + 1 + 1 + 1 + 1 + 1 + 1 : Int32) := by decide
  have m9 : ¬ nI 10 ≤ (0 + 1 + 1 + 1 + 1 + 1 + 1 + 1 + 1 + 1 : Int32) := by decide
  have m10 : nI 10 ≤ (0 + 1 + 1 + 1 + 1 + 1 + 1 + 1 + 1 + 1 + 1 : Int32) := by decide
  obtain ⟨q, hq⟩ : ∃ q, sFuel = q + 11 := ⟨999989, rfl⟩
  have hL : f_J3_indexOfChar_L7 v (nI 10) ((nI c).toInt8.toInt32) sFuel 0 M = some (.inl (some (.int (sgP ((nI c).toInt8.toInt32)))), M) := by
    rw [hq]
    generalize (nI c).toInt8.toInt32 = x
    simp only [f_J3_indexOfChar_L7, if_neg m0, if_neg m1, if_neg m2, if_neg m3, if_neg m4, if_neg m5, if_neg m6, if_neg m7, if_neg m8, if_neg m9, if_pos m10, l0, l1, l2, l3, l4, l5, l6, l7, l8, l9, obS]
    unfold sgP
    repeat' (first | rfl | split)
  simp only [f_J2_indexOf, f_J2_indexOf_2, hk, h1, hl, obS, f_J2_isLatin1, if_neg e1, sCallI, hcI, ↓reduceIte, f_J3_indexOf, f_J3_canEncode, if_neg e3, if_neg e4, stg_ln h2, if_neg e5, if_neg e7, if_pos e8, f_J3_indexOfChar, hL]
