/-! reels, over sets -/
set_option maxRecDepth 100000
theorem fstN_u (p : Nat → Bool) (n : Nat) : fstN p (n + 1) = match fstN p n with
    | some k => some k
    | none => if p n then some n else none := rfl
theorem fstN_s (p : Nat → Bool) (n : Nat) : (fstN p (n + 1)).isSome = ((fstN p n).isSome || p n) := by
  rw [fstN_u]
  cases fstN p n with
  | some k => rfl
  | none => cases p n <;> rfl
/-- less some -/
theorem andNot {s a : Nat} (hs : s < 2 ^ 31) (ha : a < 2 ^ 31) : nI s &&& (nI a ^^^ -1) = nI (s ^^^ (s &&& a)) := by
  have h1 : s &&& a < 2 ^ 31 := Nat.lt_of_le_of_lt Nat.and_le_left hs
  have h2 : s ^^^ (s &&& a) < 2 ^ 31 := Nat.xor_lt_two_pow hs h1
  apply Int32.toBitVec_inj.mp
  apply BitVec.eq_of_toNat_eq
  apply Nat.eq_of_testBit_eq
  intro i
  rw [Int32.toBitVec_and, BitVec.toNat_and, Int32.toBitVec_xor, BitVec.toNat_xor, pk_tn (by omega), pk_tn (by omega), pk_tn (by omega), Nat.testBit_and, Nat.testBit_xor, Nat.testBit_xor, Nat.testBit_and]
  have hm : (-1 : Int32).toBitVec.toNat = 2 ^ 32 - 1 := by decide
  rw [hm, Nat.testBit_two_pow_sub_one]
  by_cases c : i < 32
  · cases s.testBit i <;> cases a.testBit i <;> simp [c]
  · have : s.testBit i = false := Nat.testBit_lt_two_pow (Nat.lt_of_lt_of_le hs (Nat.pow_le_pow_right (by omega) (by omega)))
    simp [this]
theorem andNot0 (s a : Nat) : (s ^^^ (s &&& a) = 0) = (∀ i, s.testBit i = true → a.testBit i = true) := by
  apply propext
  constructor
  · intro h i hi
    have := congrArg (fun z => z.testBit i) h
    simp only [Nat.testBit_xor, Nat.testBit_and, Nat.zero_testBit, hi] at this
    simpa using this
  · intro h
    apply Nat.eq_of_testBit_eq
    intro i
    rw [Nat.testBit_xor, Nat.testBit_and, Nat.zero_testBit]
    cases e : s.testBit i with
    | false => rfl
    | true => rw [h i e]; rfl
theorem delI {s w : Nat} (hs : s < 2 ^ 30) (hw : w < 30) (hb : s.testBit w = true) : nI s &&& ((1 : Int32) <<< (nI w &&& 31) ^^^ -1) = nI (s ^^^ 2 ^ w) := by
  have one : (1 : Int32) <<< (nI w &&& 31) = nI (2 ^ w) := nI_one (by omega)
  have p : (2 : Nat) ^ w < 2 ^ 30 := Nat.pow_lt_pow_right (by omega) hw
  rw [one, andNot (by omega) (by omega)]
  congr 2
  apply Nat.eq_of_testBit_eq
  intro i
  rw [Nat.testBit_and, Nat.testBit_two_pow]
  by_cases c : w = i
  · subst c; simp [hb]
  · simp [c]
def cfB (t : Nat → Int32) (i o : Nat) : Bool := decide (t (91 + 40 * i) = t (91 + 40 * o + (hLo t o - 1)))
def rvA (t : Nat → Int32) (x : Nat) (i n : Nat) : Bool := (fstN (fun o => x.testBit o && cfB t i o) n).isSome
def rvB (t : Nat → Int32) (G : Nat → Int32) (n s w : Nat) : Bool := s.testBit w && (decide (0 < hLo t w) && (decide (s ^^^ 2 ^ w = 0) || rvA t (cv (G (s ^^^ 2 ^ w))) w n))
/-- all with threads -/
def thN (t : Nat → Int32) : Nat := hBn (bitU (fun k => decide (0 < hLo t k)) (hN t)) 0 12
theorem thN_set (t : Nat → Int32) : setB (fun k => decide (0 < hLo t k)) (hN t) = nI (thN t) := rfl
theorem thN_lt (t : Nat → Int32) : thN t < 4096 := hBn_lt _ _ 12
theorem thN_bit (t : Nat → Int32) {i : Nat} (hn : hN t ≤ 12) : (thN t).testBit i = (decide (i < hN t) && decide (0 < hLo t i)) := by
  unfold thN
  rw [hBn_bit, Nat.zero_add]
  have h10 : ¬ (0 : Int32) = 1 := by decide
  unfold bitU
  by_cases c : i < hN t
  · have : i < 12 := by omega
    by_cases c2 : 0 < hLo t i <;> simp [c, c2, this, h10]
  · simp [c, h10]
/-- what the model's table holds -/
def glI (t : Nat → Int32) (k : Nat) (G : Nat → Int32) : Prop := ∀ s, s < k → G s = nI (cv (G s)) ∧ cv (G s) < 4096 ∧ (∀ i, (cv (G s)).testBit i = true → s.testBit i = true ∧ 0 < hLo t i ∧ i < hN t) ∧ ((∃ i, s.testBit i = true ∧ (thN t).testBit i = false) → cv (G s) = 0)
theorem glI_next {t : Nat → Int32} (hw : wAct t) {k : Nat} {G : Nat → Int32} (hG : glI t k G) (hk : k < 4096) : glI t (k + 1) (upd G k (nI (abN (rvB t G (hN t) k) (hN t)))) := by
  have hn := hw.n
  have lt := abN_lt (rvB t G (hN t) k) (hN t)
  have p : (2 : Nat) ^ hN t ≤ 2 ^ 12 := Nat.pow_le_pow_right (by omega) hn
  intro s hs
  by_cases c : s = k
  · subst c
    rw [upd_same, cv_nI (by omega)]
    refine ⟨rfl, by omega, fun i hi => ?_, fun ⟨j, j1, j2⟩ => ?_⟩
    · rw [abN_bit] at hi
      unfold rvB at hi
      simp only [Bool.and_eq_true, decide_eq_true_eq] at hi
      exact ⟨hi.2.1, hi.2.2.1, hi.1⟩
    · apply Nat.eq_of_testBit_eq
      intro i
      rw [abN_bit, Nat.zero_testBit]
      by_cases ci : i < hN t
      · simp only [ci, decide_true, Bool.true_and]
        unfold rvB
        cases b : s.testBit i with
        | false => rfl
        | true =>
          by_cases l0 : 0 < hLo t i
          · have hne : j ≠ i := fun e => by
              subst e
              rw [thN_bit t hn] at j2
              simp [ci, l0] at j2
            have rj : (s ^^^ 2 ^ i).testBit j = true := by rw [bitX_ne hne]; exact j1
            have r0 : ¬ s ^^^ 2 ^ i = 0 := fun e => by rw [e, Nat.zero_testBit] at rj; cases rj
            have z := (hG (s ^^^ 2 ^ i) (bitX_lt b)).2.2.2 ⟨j, rj, j2⟩
            rw [z]
            have : rvA t 0 i (hN t) = false := by
              unfold rvA
              rw [fstN_no (fun q _ => by rw [Nat.zero_testBit]; rfl)]
              rfl
            simp [r0, this]
          · simp [l0]
      · simp [ci]
  · rw [upd_ne _ _ c]
    exact hG s (by omega)
theorem px_follows {A : hA} {R : sMem} {S : hS} {g : Nat → Nat} {b L : Nat} {xs : Nat → Int32} (h : hInv A R S g b L xs) (m : Nat) {i o : Nat} (hi : i < 12) (ho : o < hN (S.2.2.2.1 0)) (l0 : 0 < hLo (S.2.2.2.1 0) o) : p_X3_follows m (nI i) (nI o) S.2.2.2.2.2 = some (some (.int (b01 (cfB (S.2.2.2.1 0) i o))), S.2.2.2.2.2) := by
  have ht := h.t0
  have hn := h.act.n
  have e1 : S.2.2.2.1 0 (19 + o) = nI (hLo (S.2.2.2.1 0) o) := (h.act.2.1 o ho).1.1
  have l1 : hLo (S.2.2.2.1 0) o ≤ 40 := (h.act.2.1 o ho).1.2
  have m1 := px_mark2 m S.2.2.2.2.2 (i := i) (p := 0) hi (by omega)
  have m1' : p_X3_markOf m (nI i) 0 S.2.2.2.2.2 = _ := m1
  have m2 := px_mark2 m S.2.2.2.2.2 (i := o) (p := hLo (S.2.2.2.1 0) o - 1) (by omega) (by omega)
  rw [ht] at m1' m2
  rw [Nat.add_zero] at m1'
  have d : nI (hLo (S.2.2.2.1 0) o) - 1 = nI (hLo (S.2.2.2.1 0) o - 1) := pk_sub (b := 1) (by omega)
  unfold cfB
  by_cases c : S.2.2.2.1 0 (91 + 40 * i) = S.2.2.2.1 0 (91 + 40 * o + (hLo (S.2.2.2.1 0) o - 1))
  · simp (disch := omega) only [p_X3_follows, p_X3_lastMark, m1', pcI, mRow_0, obS, qld_19, ht, e1, d, m2, if_pos c, decide_eq_true c]
    rfl
  · simp (disch := omega) only [p_X3_follows, p_X3_lastMark, m1', pcI, mRow_0, obS, qld_19, ht, e1, d, m2, if_neg c, decide_eq_false c]
    rfl
theorem fx_follow {A : hA} {R : sMem} {S : hS} {g : Nat → Nat} {b L : Nat} {xs : Nat → Int32} (h : hInv A R S g b L xs) {i o : Nat} (hi : i < 12) (ho : o < hN (S.2.2.2.1 0)) (l0 : 0 < hLo (S.2.2.2.1 0) o) : f_X0_canFollow (hX A) (nI i) (nI o) (hMem A R S) = some (.inl (some (.int (b01 (cfB (S.2.2.2.1 0) i o)))), hMem A R S) := by
  have hg := h.1.1
  have h3 : 0 < A.2.2 := by have := hg.2.2.2; omega
  have hn := h.act.n
  have e1 : S.2.2.2.1 0 (19 + o) = nI (hLo (S.2.2.2.1 0) o) := (h.act.2.1 o ho).1.1
  have l1 : hLo (S.2.2.2.1 0) o ≤ 40 := (h.act.2.1 o ho).1.2
  have m1 := fx_mark hg R S (k := 0) h3 (i := i) (p := 0) hi (by omega)
  have m1' : f_X2_markAt (hTa A 0) (nI i) 0 (hMem A R S) = _ := m1
  have m2 := fx_mark hg R S (k := 0) h3 (i := o) (p := hLo (S.2.2.2.1 0) o - 1) (by omega) (by omega)
  rw [Nat.add_zero] at m1'
  have d : nI (hLo (S.2.2.2.1 0) o) - 1 = nI (hLo (S.2.2.2.1 0) o - 1) := pk_sub (b := 1) (by omega)
  unfold cfB
  by_cases c : S.2.2.2.1 0 (91 + 40 * i) = S.2.2.2.1 0 (91 + 40 * o + (hLo (S.2.2.2.1 0) o - 1))
  · simp (disch := omega) only [f_X0_canFollow, f_X0_firstMark, f_X0_lastMark, xgN_23 hg, xgN_22 hg, xgI_21 hg, hx_chk hg, ht_chk hg, tgN_5 hg, trl_5 hg, tgN_3 hg, trl_3 hg, m1', hcI, obS, e1, d, m2, if_pos c, decide_eq_true c]
    rfl
  · simp (disch := omega) only [f_X0_canFollow, f_X0_firstMark, f_X0_lastMark, xgN_23 hg, xgN_22 hg, xgI_21 hg, hx_chk hg, ht_chk hg, tgN_5 hg, trl_5 hg, tgN_3 hg, trl_3 hg, m1', hcI, obS, e1, d, m2, if_neg c, decide_eq_false c]
    rfl
/-- the model lays one set -/
theorem px_laysReel {A : hA} {R : sMem} {S : hS} {g : Nat → Nat} {b L : Nat} {xs : Nat → Int32} (h : hInv A R S g b L xs) (m : Nat) {k : Nat} (hk : k < 4096) {G : Nat → Int32} (hG : glI (S.2.2.2.1 0) k G) : p_X3_laysReel m (nI k) (mRowSet S.2.2.2.2.2 11 G) = some (none, mRowSet S.2.2.2.2.2 11 (upd G k (nI (abN (rvB (S.2.2.2.1 0) G (hN (S.2.2.2.1 0)) k) (hN (S.2.2.2.1 0)))))) := by
  have ht := h.t0
  have hw := h.act
  have hn := hw.n
  have e571 : S.2.2.2.1 0 571 = nI (hN (S.2.2.2.1 0)) := hw.1.1.1.1
  have r0 : ∀ G, (mRowSet S.2.2.2.2.2 11 G).2 0 = S.2.2.2.1 0 := fun G => by rw [mrs_ne _ _ (by omega), ht]
  have hI : ∀ G, hInv A R (hM S (mRowSet S.2.2.2.2.2 11 G)) g b L xs := fun G => h.read (hSame.refl S) (fun _ _ h => h) h.1.2.1 ((Sw.refl _).row G (by omega))
  have fo := fun G i o (hi : i < 12) (ho : o < hN (S.2.2.2.1 0)) (l0 : 0 < hLo (S.2.2.2.1 0) o) => px_follows (hI G) m (i := i) (o := o) hi ho l0
  have e19 := fun i (hi : i < hN (S.2.2.2.1 0)) => (hw.2.1 i hi).1
  have lt := fun j => abN_lt (rvB (S.2.2.2.1 0) G (hN (S.2.2.2.1 0)) k) j
  generalize ht0 : S.2.2.2.1 0 = t at *
  have fo' : ∀ G i o, i < 12 → o < hN t → 0 < hLo t o → p_X3_follows m (nI i) (nI o) (mRowSet S.2.2.2.2.2 11 G) = some (some (.int (b01 (cfB t i o))), mRowSet S.2.2.2.2.2 11 G) := fun G i o hi ho l0 => by
    have := fo G i o hi ho l0
    have e : (hM S (mRowSet S.2.2.2.2.2 11 G)).2.2.2.1 0 = t := ht0
    rw [e] at this
    exact this
  generalize hn2 : hN t = n at *
  have J := lk (fun _ _ _ => none) (fun f i (_ : Unit) => p_X3_laysReel_L9 m (nI k) f (nI i) (mRowSet S.2.2.2.2.2 11 (upd G k (nI (abN (rvB t G n k) i))))) n (fun _ _ => True) (fun _ p => p = some (none, mRowSet S.2.2.2.2.2 11 (upd G k (nI (abN (rvB t G n k) n))))) ?_ ?_ (by omega) () trivial
  · have J' : p_X3_laysReel_L9 m (nI k) sFuel 0 (mRowSet S.2.2.2.2.2 11 (upd G k 0)) = _ := J
    unfold p_X3_laysReel
    rw [mRow_29, obS, qst_11 _ (by omega), obS, mrs_same, mrs_mrs]
    exact J'
  · intro f f' i _ hi _
    have c0 : ¬ n ≤ i := by omega
    obtain ⟨e1, l1⟩ := e19 i hi
    have e1' : t (19 + i) = nI (hLo t i) := e1
    have bt : nI k >>> (nI i &&& 31) &&& 1 = if k.testBit i then nI 1 else nI 0 := nI_bit (by omega) (by omega)
    have sx : abN (rvB t G n k) (i + 1) = abN (rvB t G n k) i ||| (if rvB t G n k i = true then 2 ^ i else 0) := rfl
    refine Or.inl ⟨(), trivial, rfl, ?_⟩
    rw [sx]
    cases b1 : k.testBit i with
    | false =>
      have rb : rvB t G n k i = false := by unfold rvB; simp [b1]
      rw [b1] at bt
      have z0 : nI 0 = (0 : Int32) := rfl
      simp (disch := omega) only [p_X3_laysReel_L9, mRow_0, obS, qld_571, r0, e571, nI_leI, c0, ↓reduceIte, bt, Bool.false_eq_true, if_pos z0, rb, Nat.or_zero, nI_1]
    | true =>
      rw [b1] at bt
      have z1 : ¬ nI 1 = (0 : Int32) := by decide
      by_cases l0 : hLo t i = 0
      · have rb : rvB t G n k i = false := by unfold rvB; simp [l0]
        have z0 : nI (hLo t i) = (0 : Int32) := by rw [l0]; rfl
        simp (disch := omega) only [p_X3_laysReel_L9, mRow_0, obS, qld_571, qld_19, r0, e571, e1', nI_leI, c0, ↓reduceIte, bt, if_neg z1, if_pos z0, rb, Bool.false_eq_true, Nat.or_zero, nI_1]
      · have z0 : ¬ nI (hLo t i) = (0 : Int32) := fun e => l0 ((nI_eq (b := 0) (by have : hLo t i ≤ 40 := l1; omega) (by omega)).mp e)
        have hr := bitX_lt b1
        obtain ⟨g1, g2, g3, g4⟩ := hG (k ^^^ 2 ^ i) hr
        have de := delI (s := k) (w := i) (by omega) (by omega) b1
        generalize hrr : k ^^^ 2 ^ i = r at *
        generalize hx : cv (G r) = x at *
        have gr : ∀ y, upd G k y r = nI x := fun y => by rw [upd_ne _ _ (by omega), g1]
        have rb : rvB t G n k i = (decide (r = 0) || rvA t x i n) := by
          unfold rvB
          rw [b1, hrr, hx]
          have : 0 < hLo t i := by omega
          simp [this]
        rw [rb]
        have p2 : (2 : Nat) ^ i < 2 ^ 12 := Nat.pow_lt_pow_right (by omega) (by omega)
        have la := lt i
        have pi : (2 : Nat) ^ i ≤ 2 ^ 12 := by omega
        have one : (1 : Int32) <<< (nI i &&& 31) = nI (2 ^ i) := nI_one (by omega)
        have K := lk (fun _ _ _ => none) (fun q o (_ : Unit) => p_X3_laysReel_L66 (p_X3_laysReel_L9 m (nI k) f') m (nI k) (nI i) (nI r) q (b01 (decide (r = 0) || rvA t x i o)) (nI o) (mRowSet S.2.2.2.2.2 11 (upd G k (nI (abN (rvB t G n k) i))))) n (fun _ _ => True) (fun _ p => p = p_X3_laysReel_L9 m (nI k) f' (nI (i + 1)) (mRowSet S.2.2.2.2.2 11 (upd G k (nI (abN (rvB t G n k) i ||| (if (decide (r = 0) || rvA t x i n) = true then 2 ^ i else 0)))))) ?_ ?_ (by omega) () trivial
        · have st : (if nI r = 0 then (1 : Int32) else 0) = b01 (decide (r = 0) || rvA t x i 0) := by
            have ra0 : rvA t x i 0 = false := rfl
            rw [ra0, Bool.or_false]
            by_cases c : r = 0
            · have : nI r = 0 := by rw [c]; rfl
              rw [if_pos this, decide_eq_true c]
              rfl
            · have : ¬ nI r = 0 := fun e => c ((nI_eq (b := 0) (by omega) (by omega)).mp e)
              rw [if_neg this, decide_eq_false c]
              rfl
          have K' : p_X3_laysReel_L66 (p_X3_laysReel_L9 m (nI k) f') m (nI k) (nI i) (nI r) sFuel (b01 (decide (r = 0) || rvA t x i 0)) 0 (mRowSet S.2.2.2.2.2 11 (upd G k (nI (abN (rvB t G n k) i)))) = _ := K
          rw [← K']
          simp (disch := omega) only [p_X3_laysReel_L9, mRow_0, obS, qld_571, qld_19, r0, e571, e1', nI_leI, c0, ↓reduceIte, bt, if_neg z1, if_neg z0, de, st]
        · intro q q' o _ ho _
          have c1 : ¬ n ≤ o := by omega
          refine Or.inl ⟨(), trivial, rfl, ?_⟩
          have rs : rvA t x i (o + 1) = (rvA t x i o || (x.testBit o && cfB t i o)) := fstN_s _ _
          rw [rs]
          cases fl : (decide (r = 0) || rvA t x i o) with
          | true =>
            have e2 : (decide (r = 0) || (rvA t x i o || (x.testBit o && cfB t i o))) = true := by
              rw [← Bool.or_assoc, fl]
              rfl
            rw [e2]
            have n10 : ¬ (1 : Int32) = (0 : Int32) := by decide
            have b1' : b01 true = (1 : Int32) := rfl
            simp (disch := omega) only [p_X3_laysReel_L66, mRow_0, obS, qld_571, r0, e571, nI_leI, c1, ↓reduceIte, n10, b1', nI_1]
          | false =>
            have e2 : (decide (r = 0) || (rvA t x i o || (x.testBit o && cfB t i o))) = (x.testBit o && cfB t i o) := by
              rw [← Bool.or_assoc, fl]
              rfl
            rw [e2]
            have b00 : b01 false = (0 : Int32) := rfl
            have bx : nI x >>> (nI o &&& 31) &&& 1 = if x.testBit o then nI 1 else nI 0 := nI_bit (by omega) (by omega)
            have qr : qAld (mRowSet S.2.2.2.2.2 11 (upd G k (nI (abN (rvB t G n k) i)))) 11 (nI r) = some (nI x) := by rw [qld_11 _ (by omega), mrs_same, gr]
            cases xo : x.testBit o with
            | false =>
              rw [xo] at bx
              have n01 : ¬ nI 0 = (1 : Int32) := by decide
              simp (disch := omega) only [p_X3_laysReel_L66, mRow_0, mRow_29, obS, qld_571, r0, e571, nI_leI, c1, ↓reduceIte, b01_f, b00, qr, bx, Bool.false_eq_true, if_neg n01, Bool.false_and, nI_1]
            | true =>
              rw [xo] at bx
              have n11 : nI 1 = (1 : Int32) := rfl
              have f9 := fo' (upd G k (nI (abN (rvB t G n k) i))) i o (by omega) ho (g3 o xo).2.1
              cases cf : cfB t i o with
              | false =>
                rw [cf] at f9
                simp (disch := omega) only [p_X3_laysReel_L66, mRow_0, mRow_29, obS, qld_571, r0, e571, nI_leI, c1, ↓reduceIte, b01_f, b00, qr, bx, if_pos n11, f9, pcI, Bool.and_false, nI_1]
              | true =>
                rw [cf] at f9
                have b1' : b01 true = (1 : Int32) := rfl
                have n10 : ¬ (1 : Int32) = (0 : Int32) := by decide
                simp (disch := omega) only [p_X3_laysReel_L66, mRow_0, mRow_29, obS, qld_571, r0, e571, nI_leI, c1, ↓reduceIte, b01_f, qr, bx, if_pos n11, f9, pcI, Bool.and_self, b1', n10, nI_1]
        · intro q q' _ _
          have c1 : n ≤ n := Nat.le_refl _
          have qk : qAld (mRowSet S.2.2.2.2.2 11 (upd G k (nI (abN (rvB t G n k) i)))) 11 (nI k) = some (nI (abN (rvB t G n k) i)) := by rw [qld_11 _ (by omega), mrs_same, upd_same]
          have lA : abN (rvB t G n k) i < 2 ^ 12 := Nat.lt_of_lt_of_le la (Nat.pow_le_pow_right (by omega) (by omega))
          show p_X3_laysReel_L66 _ _ _ _ _ _ _ _ _ = _
          cases fl : (decide (r = 0) || rvA t x i n) with
          | true =>
            have n10 : ¬ b01 true = (0 : Int32) := by decide
            have orr := nI_or (a := abN (rvB t G n k) i) (b := 2 ^ i) (by omega) (by omega)
            have uu : ∀ y z, upd (upd G k y) k z = upd G k z := fun y z => by
              funext q
              unfold upd
              by_cases c : q = k <;> simp [c]
            simp (disch := omega) only [p_X3_laysReel_L66, mRow_0, mRow_29, obS, qld_571, r0, e571, nI_leI, c1, ↓reduceIte, qk, if_neg n10, one, orr, qst_11, mrs_same, mrs_mrs, uu, nI_1]
          | false =>
            have b00 : b01 false = (0 : Int32) := rfl
            have uu : ∀ y z, upd (upd G k y) k z = upd G k z := fun y z => by
              funext q
              unfold upd
              by_cases c : q = k <;> simp [c]
            simp (disch := omega) only [p_X3_laysReel_L66, mRow_0, mRow_29, obS, qld_571, r0, e571, nI_leI, c1, ↓reduceIte, qk, if_pos b00, Int32.or_zero, qst_11, mrs_same, mrs_mrs, uu, Bool.false_eq_true, Nat.or_zero, nI_1]
  · intro f f' _ _
    have c0 : n ≤ n := Nat.le_refl _
    show p_X3_laysReel_L9 _ _ _ _ _ = _
    simp (disch := omega) only [p_X3_laysReel_L9, mRow_0, obS, qld_571, r0, e571, nI_leI, c0, ↓reduceIte]
