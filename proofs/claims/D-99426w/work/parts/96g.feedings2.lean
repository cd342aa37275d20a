/-! feedings: the model, and both sides -/
set_option maxRecDepth 100000
def fmT (h : Nat → Nat → Bool) (W k s i : Nat) : Nat := if s.testBit i = true ∧ h i k = true then fdM h W k (s ^^^ 2 ^ i) else 0
theorem fdM_mod (h : Nat → Nat → Bool) (W k s P : Nat) : smN (fun i => fmT h W k s i % P) W % P = fdM h W (k + 1) s % P := smN_mod (fun i => fmT h W k s i) P W
def fsT (h : Nat → Nat → Bool) (W n s : Nat) : Nat := if pcN s = n then fdM h W n s % 1000000007 else 0
theorem fsT_sum (h : Nat → Nat → Bool) {W n : Nat} (hW : W ≤ 12) : smN (fsT h W n) (2 ^ W) % 1000000007 = smN (fdM h W n) (2 ^ W) % 1000000007 := by
  rw [← smN_mod (fdM h W n)]
  congr 1
  refine smN_congr (fun s hs => ?_)
  have p : (2 : Nat) ^ W ≤ 2 ^ 12 := Nat.pow_le_pow_right (by omega) hW
  unfold fsT
  by_cases c : pcN s = n
  · rw [if_pos c]
  · rw [if_neg c, fdM_0 hW n s c (by omega)]
theorem pcN_X {s i : Nat} (h : s.testBit i = true) (hi : i < 12) : pcN s = pcN (s ^^^ 2 ^ i) + 1 := cntB_X h hi
theorem px_feedings {A : hA} {R : sMem} {S : hS} {g : Nat → Nat} {b L : Nat} {xs : Nat → Int32} (h : hInv A R S g b L xs) (m : Nat) : ∃ G : Nat → Int32, p_X3_feedings m S.2.2.2.2.2 = some (some (.int (nI (smN (fsT (mhB (S.2.2.2.1 0)) (hN (S.2.2.2.1 0)) (hFc (S.2.2.2.1 0))) (2 ^ hN (S.2.2.2.1 0)) % 1000000007))), mRowSet S.2.2.2.2.2 14 G) := by
  have ht := h.t0
  have hw := h.act
  have hn := hw.n
  have wf := hw.1.2.1
  have h10 : hFc (S.2.2.2.1 0) ≤ 10 := wf.1.2
  have e571 : S.2.2.2.1 0 571 = nI (hN (S.2.2.2.1 0)) := hw.1.1.1.1
  have e572 : S.2.2.2.1 0 572 = nI (hFc (S.2.2.2.1 0)) := wf.1.1
  have pn : (2 : Nat) ^ hN (S.2.2.2.1 0) ≤ 2 ^ 12 := Nat.pow_le_pow_right (by omega) hn
  have r0 : ∀ G, (mRowSet S.2.2.2.2.2 14 G).2 0 = S.2.2.2.1 0 := fun G => by rw [mrs_ne _ _ (by omega), ht]
  have mh := fun G w f (hw12 : w < 12) (hf : f < 10) => px_mayHave hw m (mRowSet S.2.2.2.2.2 14 G) (r0 G) (w := w) (f := f) hw12 hf
  have one : (1 : Int32) <<< (nI (hN (S.2.2.2.1 0)) &&& 31) = nI (2 ^ hN (S.2.2.2.1 0)) := nI_one (by omega)
  generalize mhB (S.2.2.2.1 0) = hh at *
  generalize hFc (S.2.2.2.1 0) = n at *
  generalize hN (S.2.2.2.1 0) = W at *
  have pz : ¬ (1000000007 : Int64) = 0 := by decide
  have fb : ∀ k, smN (fsT hh W n) k ≤ 1000000007 * k := fun k => smN_le (fun s _ => by
    unfold fsT
    split
    · exact Nat.le_of_lt (Nat.mod_lt _ (by omega))
    · omega)
  have J := lk (α := Nat → Int32) (fun _ _ _ => none) (fun f k G => p_X3_feedings_L4 m f (lN (smN (fsT hh W n) k)) (nI k) (mRowSet S.2.2.2.2.2 14 G)) (2 ^ W) (fun k G => ∀ s, s < k → pcN s ≤ n → G s = nI (fdM hh W (pcN s) s % 1000000007)) (fun _ p => ∃ G : Nat → Int32, p = some (some (.int (nI (smN (fsT hh W n) (2 ^ W) % 1000000007))), mRowSet S.2.2.2.2.2 14 G)) ?_ ?_ (by omega) (S.2.2.2.2.2.2 14) (fun s hs => by omega)
  · obtain ⟨G, e⟩ := J
    have e' : p_X3_feedings_L4 m sFuel 0 0 (mRowSet S.2.2.2.2.2 14 (S.2.2.2.2.2.2 14)) = _ := e
    rw [mrs_self] at e'
    exact ⟨G, e'⟩
  · intro f f' k G hk hG
    have c0 : ¬ 2 ^ W ≤ k := by omega
    have cn := fun s => px_count (n := k) (by omega) s
    have l12 := pcN_le k
    -- what is stored, and the sum behind it
    have ST : ∀ (x : Nat), (pcN k ≤ n → x % 1000000007 = fdM hh W (pcN k) k % 1000000007) → x < 2 ^ 62 → ∃ G' : Nat → Int32, (∀ s, s < k + 1 → pcN s ≤ n → G' s = nI (fdM hh W (pcN s) s % 1000000007)) ∧ p_X3_feedings_J124 (p_X3_feedings_L4 m f') m (lN (smN (fsT hh W n) k)) (nI k) (lN x) (mRowSet S.2.2.2.2.2 14 G) = p_X3_feedings_L4 m f' (lN (smN (fsT hh W n) (k + 1))) (nI (k + 1)) (mRowSet S.2.2.2.2.2 14 G') := by
      intro x hx hx2
      have rem : lN x - lN x / 1000000007 * 1000000007 = lN (x % 1000000007) := pk_lRem (b := 1000000007) (by omega) (by omega) (by omega)
      have xm := Nat.mod_lt x (y := 1000000007) (by omega)
      refine ⟨upd G k (nI (x % 1000000007)), fun s hs hp => ?_, ?_⟩
      · by_cases c : s = k
        · subst c
          rw [upd_same, hx hp]
        · rw [upd_ne _ _ c, hG s (by omega) hp]
      · have qk : qAld (mRowSet S.2.2.2.2.2 14 (upd G k (nI (x % 1000000007)))) 14 (nI k) = some (nI (x % 1000000007)) := by rw [qld_14 _ (by omega), mrs_same, upd_same]
        have tl : (nI (x % 1000000007)).toInt64 = lN (x % 1000000007) := nI_l (by omega)
        have ec : (nI (pcN k) = nI n) = (pcN k = n) := propext (nI_eq (by omega) (by omega))
        rw [smN_s]
        by_cases c : pcN k = n
        · have fs : fsT hh W n k = x % 1000000007 := by
            unfold fsT
            rw [if_pos c, ← c, hx (by omega)]
          rw [fs]
          simp (disch := omega) only [p_X3_feedings_J124, p_X3_feedings_J164, mRow_0, mRow_32, obS, if_neg pz, rem, lN_i, qst_14, mrs_same, mrs_mrs, cn, pcI, qld_572, r0, e572, ec, if_pos c, qk, tl, lN_add, nI_1]
        · have fs : fsT hh W n k = 0 := by unfold fsT; rw [if_neg c]
          rw [fs]
          simp (disch := omega) only [p_X3_feedings_J124, p_X3_feedings_J164, mRow_0, mRow_32, obS, if_neg pz, rem, lN_i, qst_14, mrs_same, mrs_mrs, cn, pcI, qld_572, r0, e572, ec, if_neg c, lN_0, Nat.add_zero, nI_1]
    by_cases c0' : pcN k = 0
    · -- no worm: one way
      have m1 : nI (pcN k) - 1 = -1 := by rw [c0']; decide
      have k0 : fdM hh W (pcN k) k = 1 := by
        rw [c0']
        have : k = 0 := by
          apply Nat.eq_of_testBit_eq
          intro i
          rw [Nat.zero_testBit]
          by_cases hi : i < 12
          · cases e : k.testBit i with
            | false => rfl
            | true =>
              have := pcN_X e hi
              omega
          · exact Nat.testBit_lt_two_pow (Nat.lt_of_lt_of_le (show k < 2 ^ 12 by omega) (Nat.pow_le_pow_right (by omega) (by omega)))
        rw [this]
        rfl
      obtain ⟨G', h1, h2⟩ := ST 1 (fun _ => by rw [k0]) (by omega)
      refine Or.inl ⟨G', h1, rfl, ?_⟩
      rw [← h2]
      have ib : inB (-1) 0 (nI n - 1) = false := inB_m1 _
      obtain ⟨q, hq9⟩ : ∃ q, sFuel = q + 1 := ⟨999999, rfl⟩
      have one1 : (1 : Int64) = lN 1 := rfl
      by_cases w0 : W ≤ 0
      · simp (disch := omega) only [p_X3_feedings_L4, p_X3_feedings_J37, mRow_0, obS, qld_571, r0, e571, one, nI_leI, c0, ↓reduceIte, cn, pcI, m1, one1]
        rw [hq9]
        have w0' : nI W ≤ 0 := by rw [show W = 0 by omega]; decide
        simp (disch := omega) only [p_X3_feedings_L42, mRow_0, obS, qld_571, r0, e571, if_pos w0']
      · simp (disch := omega) only [p_X3_feedings_L4, p_X3_feedings_J37, mRow_0, obS, qld_571, r0, e571, one, nI_leI, c0, ↓reduceIte, cn, pcI, m1, one1]
        rw [hq9]
        have w0' : ¬ nI W ≤ 0 := nI_nle (by omega) (by omega)
        simp (disch := omega) only [p_X3_feedings_L42, mRow_0, obS, qld_571, qld_572, r0, e571, e572, if_neg w0', px_isIn, ib, pcI, b01_f, ↓reduceIte]
    · obtain ⟨c, hc9⟩ : ∃ c, pcN k = c + 1 := ⟨pcN k - 1, by omega⟩
      have m1 : nI (pcN k) - 1 = nI c := by rw [hc9]; exact nI_pred c
      have nm1 : ¬ nI c = -1 := nI_m1 c (by omega)
      by_cases cn9 : c < n
      · have ib : inB (nI c) 0 (nI n - 1) = true := by
          have e1 : nI n - 1 = nI (n - 1) := pk_sub (b := 1) (by omega)
          unfold inB
          rw [e1]
          have a1 : ¬ nI c < 0 := nI_pos (by omega)
          have a2 : ¬ nI (n - 1) < nI c := fun e => by have := (nI_ltI (by omega) (by omega)).mp e; omega
          simp [a1, a2]
        have bnd : ∀ j, j ≤ W → smN (fun i => fmT hh W c k i % 1000000007) j ≤ 1000000007 * j := fun j _ => smN_le (fun i _ => Nat.le_of_lt (Nat.mod_lt _ (by omega)))
        have bW := bnd W (Nat.le_refl _)
        obtain ⟨G', h1, h2⟩ := ST (smN (fun i => fmT hh W c k i % 1000000007) W) (fun _ => by rw [hc9]; exact fdM_mod hh W c k 1000000007) (by omega)
        refine Or.inl ⟨G', h1, rfl, ?_⟩
        rw [← h2]
        have zero0 : (0 : Int64) = lN 0 := rfl
        have K := lk (fun _ _ _ => none) (fun q i (_ : Unit) => p_X3_feedings_L42 (p_X3_feedings_L4 m f') m (lN (smN (fsT hh W n) k)) (nI k) (nI c) q (lN (smN (fun i => fmT hh W c k i % 1000000007) i)) (nI i) (mRowSet S.2.2.2.2.2 14 G)) W (fun _ _ => True) (fun _ p => p = p_X3_feedings_J124 (p_X3_feedings_L4 m f') m (lN (smN (fsT hh W n) k)) (nI k) (lN (smN (fun i => fmT hh W c k i % 1000000007) W)) (mRowSet S.2.2.2.2.2 14 G)) ?_ ?_ (by omega) () trivial
        · have K' : p_X3_feedings_L42 (p_X3_feedings_L4 m f') m (lN (smN (fsT hh W n) k)) (nI k) (nI c) sFuel (lN 0) 0 (mRowSet S.2.2.2.2.2 14 G) = _ := K
          rw [← K']
          simp (disch := omega) only [p_X3_feedings_L4, p_X3_feedings_J37, mRow_0, obS, qld_571, r0, e571, one, nI_leI, c0, ↓reduceIte, cn, pcI, m1, nm1, zero0]
        · intro q q' i _ hi _
          have c1 : ¬ W ≤ i := by omega
          have bt : nI k >>> (nI i &&& 31) &&& 1 = if k.testBit i then nI 1 else nI 0 := nI_bit (by omega) (by omega)
          have mi := mh G i c (by omega) (by omega)
          refine Or.inl ⟨(), trivial, rfl, ?_⟩
          rw [smN_s]
          cases tb : k.testBit i with
          | false =>
            rw [tb] at bt
            have n01 : ¬ nI 0 = (1 : Int32) := by decide
            have z : fmT hh W c k i % 1000000007 = 0 := by unfold fmT; simp [tb]
            rw [z]
            simp (disch := omega) only [p_X3_feedings_L42, p_X3_feedings_J114, p_X3_feedings_J115, mRow_0, obS, qld_571, qld_572, r0, e571, e572, nI_leI, c1, ↓reduceIte, px_isIn, ib, pcI, b01_t, bt, Bool.false_eq_true, if_neg n01, lN_0, Nat.add_zero, nI_1]
          | true =>
            rw [tb] at bt
            have n11 : nI 1 = (1 : Int32) := rfl
            cases hm : hh i c with
            | false =>
              rw [hm] at mi
              have z : fmT hh W c k i % 1000000007 = 0 := by unfold fmT; simp [hm]
              rw [z]
              simp (disch := omega) only [p_X3_feedings_L42, p_X3_feedings_J114, p_X3_feedings_J115, mRow_0, obS, qld_571, qld_572, r0, e571, e572, nI_leI, c1, ↓reduceIte, px_isIn, ib, pcI, b01_t, bt, if_pos n11, mi, b01_f, lN_0, Nat.add_zero, nI_1]
            | true =>
              rw [hm] at mi
              have lt := bitX_lt tb
              have px := pcN_X tb (by omega)
              have de := delI (s := k) (w := i) (by omega) (by omega) tb
              have gx := hG (k ^^^ 2 ^ i) lt (by omega)
              rw [show pcN (k ^^^ 2 ^ i) = c by omega] at gx
              have z : fmT hh W c k i = fdM hh W c (k ^^^ 2 ^ i) := by unfold fmT; simp [tb, hm]
              have mz := Nat.mod_lt (fdM hh W c (k ^^^ 2 ^ i)) (y := 1000000007) (by omega)
              have q14 : qAld (mRowSet S.2.2.2.2.2 14 G) 14 (nI (k ^^^ 2 ^ i)) = some (nI (fdM hh W c (k ^^^ 2 ^ i) % 1000000007)) := by rw [qld_14 _ (by omega), mrs_same, gx]
              have tl : (nI (fdM hh W c (k ^^^ 2 ^ i) % 1000000007)).toInt64 = lN (fdM hh W c (k ^^^ 2 ^ i) % 1000000007) := nI_l (by omega)
              rw [z]
              simp (disch := omega) only [p_X3_feedings_L42, p_X3_feedings_J115, mRow_0, mRow_32, obS, qld_571, qld_572, r0, e571, e572, nI_leI, c1, ↓reduceIte, px_isIn, ib, pcI, b01_t, bt, if_pos n11, mi, de, q14, tl, lN_add, nI_1]
        · intro q q' _ _
          have c1 : W ≤ W := Nat.le_refl _
          show p_X3_feedings_L42 _ _ _ _ _ _ _ _ _ = _
          simp (disch := omega) only [p_X3_feedings_L42, mRow_0, obS, qld_571, r0, e571, nI_leI, c1, ↓reduceIte]
      · -- more worms than facts
        obtain ⟨G', h1, h2⟩ := ST 0 (fun h => by omega) (by omega)
        refine Or.inl ⟨G', h1, rfl, ?_⟩
        rw [← h2]
        have zero0 : (0 : Int64) = lN 0 := rfl
        have ib : inB (nI c) 0 (nI n - 1) = false := by
          cases e : inB (nI c) 0 (nI n - 1) with
          | false => rfl
          | true =>
            obtain ⟨i, hi, e2⟩ := inB_below (by omega) e
            have := (nI_eq (by omega) (by omega)).mp e2
            omega
        obtain ⟨q, hq9⟩ : ∃ q, sFuel = q + 1 := ⟨999999, rfl⟩
        by_cases w0 : W ≤ 0
        · simp (disch := omega) only [p_X3_feedings_L4, p_X3_feedings_J37, mRow_0, obS, qld_571, r0, e571, one, nI_leI, c0, ↓reduceIte, cn, pcI, m1, nm1, zero0]
          rw [hq9]
          have w0' : nI W ≤ 0 := by rw [show W = 0 by omega]; decide
          simp (disch := omega) only [p_X3_feedings_L42, mRow_0, obS, qld_571, r0, e571, if_pos w0']
        · simp (disch := omega) only [p_X3_feedings_L4, p_X3_feedings_J37, mRow_0, obS, qld_571, r0, e571, one, nI_leI, c0, ↓reduceIte, cn, pcI, m1, nm1, zero0]
          rw [hq9]
          have w0' : ¬ nI W ≤ 0 := nI_nle (by omega) (by omega)
          simp (disch := omega) only [p_X3_feedings_L42, mRow_0, obS, qld_571, qld_572, r0, e571, e572, if_neg w0', px_isIn, ib, pcI, b01_f, ↓reduceIte]
  · intro f f' G hG
    have c0 : 2 ^ W ≤ 2 ^ W := Nat.le_refl _
    have bb := fb (2 ^ W)
    have rem : lN (smN (fsT hh W n) (2 ^ W)) - lN (smN (fsT hh W n) (2 ^ W)) / 1000000007 * 1000000007 = lN (smN (fsT hh W n) (2 ^ W) % 1000000007) := pk_lRem (b := 1000000007) (by omega) (by omega) (by omega)
    refine ⟨G, ?_⟩
    simp (disch := omega) only [p_X3_feedings_L4, mRow_0, obS, qld_571, r0, e571, one, nI_leI, c0, ↓reduceIte, if_neg pz, rem, lN_i]
theorem j_feedings {A : hA} {R : sMem} {S : hS} {g : Nat → Nat} {b L : Nat} {xs : Nat → Int32} (h : hInv A R S g b L xs) : hOp A R S g b L xs (f_X0_feedings (hX A)) (f_X3_feedings (A.2.1 9)) := by
  have hq : ∀ (R : sMem), R.1 ≤ A.2.1 9 → ∀ s : mSt, f_X3_feedings (A.2.1 9) (mPut R (A.2.1 9) s) = lft R (A.2.1 9) (p_X3_feedings (A.2.1 9) s) := fun R hR s => q_X3_feedings R _ hR s
  obtain ⟨R', fe, x, hc⟩ := f_feedAll h
  obtain ⟨G, pe⟩ := px_feedings h (A.2.1 9)
  rw [fsT_sum _ h.act.n, ← feed_both (hN (S.2.2.2.1 0)) (hFc (S.2.2.2.1 0)) (hFc (S.2.2.2.1 0)) (mhB (S.2.2.2.1 0)) (Nat.le_refl _)] at pe
  exact hOp.read h hq fe (hSame.refl S) (x.le (by omega) (by omega)) hc pe ((Sw.refl _).row G (by omega))
