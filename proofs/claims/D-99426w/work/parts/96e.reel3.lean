/-! reels: one set, and all -/
set_option maxRecDepth 100000
theorem abN_s (f : Nat → Bool) (k : Nat) : abN f (k + 1) = abN f k ||| (if f k = true then 2 ^ k else 0) := rfl
theorem or_ne0 (a b : Nat) : (a ||| b ≠ 0) = (a ≠ 0 ∨ b ≠ 0) := by
  apply propext
  constructor
  · intro h
    by_cases ha : a = 0
    · right
      intro hb
      rw [ha, hb] at h
      exact h rfl
    · exact Or.inl ha
  · intro h e
    have z : ∀ i, a.testBit i = false ∧ b.testBit i = false := fun i => by
      have := congrArg (fun z => z.testBit i) e
      simp only [Nat.testBit_or, Nat.zero_testBit, Bool.or_eq_false_iff] at this
      exact this
    have ha : a = 0 := Nat.eq_of_testBit_eq (fun i => by rw [(z i).1, Nat.zero_testBit])
    have hb : b = 0 := Nat.eq_of_testBit_eq (fun i => by rw [(z i).2, Nat.zero_testBit])
    rcases h with h | h
    · exact h ha
    · exact h hb
theorem acc_or (f : Nat → Bool) (w : Nat) : b01 (decide (abN f w ≠ 0)) ||| (if b01 (f w) = 1 then (1 : Int32) else 0) = b01 (decide (abN f (w + 1) ≠ 0)) := by
  rw [abN_s]
  have p : ¬ (2 : Nat) ^ w = 0 := by have : 0 < 2 ^ w := Nat.pow_pos (by omega); omega
  have e : decide (abN f w ||| (if f w = true then 2 ^ w else 0) ≠ 0) = (decide (abN f w ≠ 0) || f w) := by
    rw [Bool.eq_iff_iff]
    simp only [decide_eq_true_eq, Bool.or_eq_true, or_ne0]
    cases f w <;> simp [p]
  rw [e]
  cases decide (abN f w ≠ 0) <;> cases f w <;> rfl
/-- the better of two sets -/
def bsN (t : Nat → Int32) (n x k best : Nat) : Nat := if x ≠ 0 ∧ (pcN best < pcN k ∨ pcN best = pcN k ∧ stS t best n < stS t k n) then k else best
theorem f_reelRow {A : hA} {R : sMem} {S : hS} {g : Nat → Nat} {b L : Nat} {xs : Nat → Int32} (h : hInv A R S g b L xs) (k24 : Int32 → Int32 → Int32 → sMem → hO) (v : Int32) {k best : Nat} (h1 : 1 ≤ k) (hk : k < 4096) (hb : best < 4096) {F G : Nat → Int32} (hG : glI (S.2.2.2.1 0) k G) (hF : frI (S.2.2.2.1 0) k F G) : ∃ F', frI (S.2.2.2.1 0) (k + 1) F' (upd G k (nI (abN (rvB (S.2.2.2.1 0) G (hN (S.2.2.2.1 0)) k) (hN (S.2.2.2.1 0))))) ∧ f_X0_reel_L36 k24 (hX A) v (nI (thN (S.2.2.2.1 0))) (nI (pcN best)) (stS (S.2.2.2.1 0) best (hN (S.2.2.2.1 0))) (nI k) sFuel 0 0 (hMem A R (hRw S 6 F)) = k24 (nI (pcN (bsN (S.2.2.2.1 0) (hN (S.2.2.2.1 0)) (abN (rvB (S.2.2.2.1 0) G (hN (S.2.2.2.1 0)) k) (hN (S.2.2.2.1 0))) k best))) (stS (S.2.2.2.1 0) (bsN (S.2.2.2.1 0) (hN (S.2.2.2.1 0)) (abN (rvB (S.2.2.2.1 0) G (hN (S.2.2.2.1 0)) k) (hN (S.2.2.2.1 0))) k best) (hN (S.2.2.2.1 0))) (nI (k + 1)) (hMem A R (hRw S 6 F')) := by
  have hg := h.1.1
  have hw := h.act
  have hn := hw.n
  have hc := h.1.2.1
  have e571 : S.2.2.2.1 0 571 = nI (hN (S.2.2.2.1 0)) := hw.1.1.1.1
  have hI : ∀ F, hInv A R (hRw S 6 F) g b L xs := fun F => h.read (hSame.rw6 S F) (fun _ _ h => h) hc (Sw.refl _)
  have tF : ∀ F, (hRw S 6 F).2.2.2.1 0 = S.2.2.2.1 0 := fun F => rfl
  have gn := glI_next hw hG hk
  have an := andNot (s := k) (a := thN (S.2.2.2.1 0)) (by omega) (by have := thN_lt (S.2.2.2.1 0); omega)
  have a0 := andNot0 k (thN (S.2.2.2.1 0))
  have rl := fun F w (hF : frI (S.2.2.2.1 0) k F G) (hw12 : w < hN (S.2.2.2.1 0)) (hkw : k.testBit w = true) (hsub : ∀ i, k.testBit i = true → (thN (S.2.2.2.1 0)).testBit i = true) => f_isReeled (hI F) (F := F) hk hw12 hkw hG hF (hRw_same S 6 F) hsub
  simp only [tF] at rl
  have nosub : ¬ (∀ i, k.testBit i = true → (thN (S.2.2.2.1 0)).testBit i = true) → ∀ w, w < hN (S.2.2.2.1 0) → rvB (S.2.2.2.1 0) G (hN (S.2.2.2.1 0)) k w = false := fun hns w hw9 => by
    have ex : ∃ i, k.testBit i = true ∧ (thN (S.2.2.2.1 0)).testBit i = false := by
      apply Classical.byContradiction
      intro hne
      apply hns
      intro i hi
      cases e : (thN (S.2.2.2.1 0)).testBit i with
      | true => rfl
      | false => exact absurd ⟨i, hi, e⟩ hne
    have lt := abN_lt (rvB (S.2.2.2.1 0) G (hN (S.2.2.2.1 0)) k) (hN (S.2.2.2.1 0))
    have p : (2 : Nat) ^ hN (S.2.2.2.1 0) ≤ 2 ^ 12 := Nat.pow_le_pow_right (by omega) hn
    have z := (gn k (by omega)).2.2.2 ex
    rw [upd_same, cv_nI (by omega)] at z
    have := abN_bit (rvB (S.2.2.2.1 0) G (hN (S.2.2.2.1 0)) k) (hN (S.2.2.2.1 0)) w
    rw [z, Nat.zero_testBit] at this
    simpa [hw9] using this.symm
  have fst := fun F s (hs : s < 4096) => f_strength (hI F) (s := s) hs
  simp only [tF] at fst
  generalize ht0 : S.2.2.2.1 0 = t at *
  have lt := abN_lt (rvB t G (hN t) k) (hN t)
  have pn : (2 : Nat) ^ hN t ≤ 2 ^ 12 := Nat.pow_le_pow_right (by omega) hn
  have e571' : ∀ F, sGetI (hMem A R (hRw S 6 F)) 0 21 (hX A) = some (nI (hN t)) := fun F => by rw [xgI_21 hg, tF, e571]
  generalize hn2 : hN t = n at *
  generalize hf : rvB t G n k = f at *
  have fb : ∀ F w, w < n → f_X0_has (nI k) (nI w) (hMem A R (hRw S 6 F)) = some (.inl (some (.int (b01 (k.testBit w)))), hMem A R (hRw S 6 F)) := fun F w hw9 => fx_hasN (by omega) (by omega) _
  have ix : ∀ w, (12 : Int32) * nI k + nI w = nI (12 * k + w) := fun w => by
    show nI 12 * nI k + _ = _
    rw [pk_mul, nI_add]
  have J := lk (α := Nat → Int32) (fun q w F => f_X0_reel_L36 k24 (hX A) v (nI (thN t)) (nI (pcN best)) (stS t best n) (nI k) q (b01 (decide (abN f w ≠ 0))) (nI w) (hMem A R (hRw S 6 F))) (fun _ _ _ => none) n (fun w F => frI t k F G ∧ ∀ z, z < w → F (12 * k + z) = b01 (f z)) (fun o _ => ∃ F', frI t (k + 1) F' (upd G k (nI (abN f n))) ∧ o = k24 (nI (pcN (bsN t n (abN f n) k best))) (stS t (bsN t n (abN f n) k best) n) (nI (k + 1)) (hMem A R (hRw S 6 F'))) ?_ ?_ (by omega) F ⟨hF, fun z hz => by omega⟩
  · exact J
  · intro q q' w F hw9 ⟨hF1, hF2⟩
    have c0 : ¬ n ≤ w := by omega
    have st := fun x => hq_st6 hg R (hRw S 6 F) (p := 12 * k + w) (by omega) x
    simp only [hRw_same, hRw_hRw] at st
    have ld := fun F1 => hq_ld6 hg R (hRw S 6 F1) (p := 12 * k + w) (by omega)
    simp only [hRw_same] at ld
    -- what is stored
    have key : f_X0_reel_L36 k24 (hX A) v (nI (thN t)) (nI (pcN best)) (stS t best n) (nI k) (q + 1) (b01 (decide (abN f w ≠ 0))) (nI w) (hMem A R (hRw S 6 F)) = f_X0_reel_J92 k24 (f_X0_reel_L36 k24 (hX A) v (nI (thN t)) (nI (pcN best)) (stS t best n) (nI k) q) (hX A) v (nI (thN t)) (nI (pcN best)) (stS t best n) (nI k) (b01 (decide (abN f w ≠ 0))) (nI w) (b01 (f w)) (nI (12 * k + w)) (hRa A 6) (hMem A R (hRw S 6 F)) := by
      by_cases sb : ∀ i, k.testBit i = true → (thN t).testBit i = true
      · have z : nI k &&& (nI (thN t) ^^^ -1) = 0 := by
          rw [an, Eq.mpr a0 sb]
          rfl
        have hb9 := fb F w hw9
        cases kw : k.testBit w with
        | false =>
          rw [kw] at hb9
          have ff : f w = false := by rw [← hf]; unfold rvB; simp [kw]
          have b00 : b01 false = (0 : Int32) := rfl
          simp (disch := omega) only [f_X0_reel_L36, e571', obS, nI_leI, c0, ↓reduceIte, xgN_30 hg, if_pos z, hb9, hcI, b01_f, ix, ff, b00]
        | true =>
          rw [kw] at hb9
          have r9 := rl F w hF1 hw9 kw sb
          cases ff : f w with
          | false =>
            rw [ff] at r9
            have b00 : b01 false = (0 : Int32) := rfl
            simp (disch := omega) only [f_X0_reel_L36, e571', obS, nI_leI, c0, ↓reduceIte, xgN_30 hg, if_pos z, hb9, hcI, b01_t, hx_chk hg, r9, b01_f, ix, b00]
          | true =>
            rw [ff] at r9
            have b11 : b01 true = (1 : Int32) := rfl
            have n10 : ¬ (1 : Int32) = 0 := by decide
            simp (disch := omega) only [f_X0_reel_L36, e571', obS, nI_leI, c0, ↓reduceIte, xgN_30 hg, if_pos z, hb9, hcI, hx_chk hg, r9, ix, b11, n10]
      · have z : ¬ nI k &&& (nI (thN t) ^^^ -1) = 0 := fun e => by
          rw [an] at e
          have l : k ^^^ (k &&& thN t) < 2 ^ 12 := Nat.xor_lt_two_pow (by omega) (Nat.lt_of_le_of_lt Nat.and_le_left (by omega))
          exact sb (Eq.mp a0 ((nI_eq (b := 0) (by omega) (by omega)).mp e))
        have ff := nosub sb w hw9
        have b00 : b01 false = (0 : Int32) := rfl
        simp (disch := omega) only [f_X0_reel_L36, e571', obS, nI_leI, c0, ↓reduceIte, xgN_30 hg, if_neg z, ix, ff, b00]
    refine Or.inl ⟨upd F (12 * k + w) (b01 (f w)), ⟨fun s s1 s2 s3 z hz => ?_, fun z hz => ?_⟩, ?_, rfl⟩
    · rw [upd_ne _ _ (by omega)]
      exact hF1 s s1 s2 s3 z hz
    · by_cases c : z = w
      · subst c; rw [upd_same]
      · rw [upd_ne _ _ (by omega), hF2 z (by omega)]
    · rw [key]
      simp only [f_X0_reel_J92, st, obS, xgN_30 hg, ix, ld, upd_same, acc_or, nI_1]
  · intro q q' F ⟨hF1, hF2⟩
    have c0 : n ≤ n := Nat.le_refl _
    refine ⟨F, fun s s1 s2 s3 z hz => ?_, ?_⟩
    · by_cases c : s = k
      · subst c
        rw [upd_same, cv_nI (by omega), hF2 z (by omega), abN_bit]
        simp [show z < n by omega]
      · rw [upd_ne _ _ c]
        exact hF1 s s1 (by omega) s3 z hz
    · have b1 := fun F => bc_pc (n := k) hk (hMem A R (hRw S 6 F))
      have l1 := pcN_le k
      have l2 := pcN_le best
      have s1 := fst F k hk
      by_cases x0 : abN f n = 0
      · have bs : bsN t n (abN f n) k best = best := by unfold bsN; rw [if_neg (fun q => q.1 x0)]
        rw [bs]
        have d : decide (abN f n ≠ 0) = false := decide_eq_false (fun q => q x0)
        show f_X0_reel_L36 _ _ _ _ _ _ _ _ _ _ _ = _
        simp (disch := omega) only [f_X0_reel_L36, e571', obS, nI_leI, c0, ↓reduceIte, d, b01_f, nI_1]
      · have d : decide (abN f n ≠ 0) = true := decide_eq_true x0
        show f_X0_reel_L36 _ _ _ _ _ _ _ _ _ _ _ = _
        by_cases c1 : pcN best ≤ pcN k
        · by_cases c2 : pcN k ≤ pcN best
          · have ee : pcN k = pcN best := by omega
            by_cases c3 : stS t best n < stS t k n
            · have bs : bsN t n (abN f n) k best = k := by unfold bsN; rw [if_pos ⟨x0, Or.inr ⟨ee.symm, c3⟩⟩]
              rw [bs]
              simp (disch := omega) only [f_X0_reel_L36, f_X0_reel_J172, e571', obS, nI_leI, c0, ↓reduceIte, d, b01_t, b1, hcI, c1, c2, hx_chk hg, s1, if_pos c3, nI_1]
            · have bs : bsN t n (abN f n) k best = best := by
                unfold bsN
                rw [if_neg (fun q => by
                  rcases q.2 with q | q
                  · omega
                  · exact c3 q.2)]
              rw [bs]
              simp (disch := omega) only [f_X0_reel_L36, f_X0_reel_J172, e571', obS, nI_leI, c0, ↓reduceIte, d, b01_t, b1, hcI, c1, c2, hx_chk hg, s1, if_neg c3, nI_1]
              rw [ee]
          · have bs : bsN t n (abN f n) k best = k := by unfold bsN; rw [if_pos ⟨x0, Or.inl (by omega)⟩]
            rw [bs]
            simp (disch := omega) only [f_X0_reel_L36, f_X0_reel_J172, e571', obS, nI_leI, c0, ↓reduceIte, d, b01_t, b1, hcI, c1, c2, hx_chk hg, s1, nI_1]
        · have bs : bsN t n (abN f n) k best = best := by
            unfold bsN
            rw [if_neg (fun q => by
              rcases q.2 with q | q
              · omega
              · omega)]
          rw [bs]
          simp (disch := omega) only [f_X0_reel_L36, e571', obS, nI_leI, c0, ↓reduceIte, d, b01_t, b1, hcI, c1, nI_1]
theorem bsN_lt {t : Nat → Int32} {n x k best : Nat} {m : Nat} (h1 : k < m) (h2 : best < m) : bsN t n x k best < m := by
  unfold bsN
  split <;> assumption
/-- the model goes on by one set -/
theorem px_reelStep {A : hA} {R : sMem} {S : hS} {g : Nat → Nat} {b L : Nat} {xs : Nat → Int32} (h : hInv A R S g b L xs) (m : Nat) (v : Int32) {k best : Nat} (hk : k < 2 ^ hN (S.2.2.2.1 0)) (hb : best < 4096) {G : Nat → Int32} (hG : glI (S.2.2.2.1 0) k G) (f : Nat) : p_X3_reel_L22 m v (f + 1) (nI best) (nI k) (mRowSet S.2.2.2.2.2 11 G) = p_X3_reel_L22 m v f (nI (bsN (S.2.2.2.1 0) (hN (S.2.2.2.1 0)) (abN (rvB (S.2.2.2.1 0) G (hN (S.2.2.2.1 0)) k) (hN (S.2.2.2.1 0))) k best)) (nI (k + 1)) (mRowSet S.2.2.2.2.2 11 (upd G k (nI (abN (rvB (S.2.2.2.1 0) G (hN (S.2.2.2.1 0)) k) (hN (S.2.2.2.1 0)))))) := by
  have ht := h.t0
  have hw := h.act
  have hn := hw.n
  have pn : (2 : Nat) ^ hN (S.2.2.2.1 0) ≤ 2 ^ 12 := Nat.pow_le_pow_right (by omega) hn
  have e571 : S.2.2.2.1 0 571 = nI (hN (S.2.2.2.1 0)) := hw.1.1.1.1
  have r0 : ∀ G, (mRowSet S.2.2.2.2.2 11 G).2 0 = S.2.2.2.1 0 := fun G => by rw [mrs_ne _ _ (by omega), ht]
  have one : (1 : Int32) <<< (nI (hN (S.2.2.2.1 0)) &&& 31) = nI (2 ^ hN (S.2.2.2.1 0)) := nI_one (by omega)
  have c0 : ¬ 2 ^ hN (S.2.2.2.1 0) ≤ k := by omega
  have la := px_laysReel h m (k := k) (by omega) hG
  have lt := abN_lt (rvB (S.2.2.2.1 0) G (hN (S.2.2.2.1 0)) k) (hN (S.2.2.2.1 0))
  generalize abN (rvB (S.2.2.2.1 0) G (hN (S.2.2.2.1 0)) k) (hN (S.2.2.2.1 0)) = x at *
  have qk : qAld (mRowSet S.2.2.2.2.2 11 (upd G k (nI x))) 11 (nI k) = some (nI x) := by rw [qld_11 _ (by omega), mrs_same, upd_same]
  have n1 := fun s => px_count (n := k) (by omega) s
  have n2 := fun s => px_count (n := best) hb s
  have s1 := px_strength hw m (s := k) (by omega) (mRowSet S.2.2.2.2.2 11 (upd G k (nI x))) (r0 _)
  have s2 := px_strength hw m (s := best) hb (mRowSet S.2.2.2.2.2 11 (upd G k (nI x))) (r0 _)
  have l1 := pcN_le k
  have l2 := pcN_le best
  by_cases x0 : x = 0
  · have bs : bsN (S.2.2.2.1 0) (hN (S.2.2.2.1 0)) x k best = best := by unfold bsN; rw [if_neg (fun q => q.1 x0)]
    have z : nI x = 0 := by rw [x0]; rfl
    rw [bs]
    simp (disch := omega) only [p_X3_reel_L22, mRow_0, mRow_29, obS, qld_571, r0, e571, one, nI_leI, c0, ↓reduceIte, la, pcV, qk, if_pos z, nI_1]
  · have z : ¬ nI x = 0 := fun e => x0 ((nI_eq (b := 0) (by omega) (by omega)).mp e)
    by_cases c1 : pcN best < pcN k
    · have bs : bsN (S.2.2.2.1 0) (hN (S.2.2.2.1 0)) x k best = k := by unfold bsN; rw [if_pos ⟨x0, Or.inl c1⟩]
      have d : 0 < nI (pcN k) - nI (pcN best) := by
        rw [pk_sub (by omega)]
        exact (nI_ltI (a := 0) (by omega) (by omega)).mpr (by omega)
      rw [bs]
      simp (disch := omega) only [p_X3_reel_L22, mRow_0, mRow_29, obS, qld_571, r0, e571, one, nI_leI, c0, ↓reduceIte, la, pcV, qk, if_neg z, n1, n2, pcI, if_pos d, nI_1]
    · by_cases c2 : pcN best = pcN k
      · have d0 : nI (pcN k) - nI (pcN best) = 0 := by
          rw [pk_sub (by omega), show pcN k - pcN best = 0 by omega]
          rfl
        have nd : ¬ (0 : Int32) < 0 := by decide
        by_cases c3 : stS (S.2.2.2.1 0) k (hN (S.2.2.2.1 0)) ≤ stS (S.2.2.2.1 0) best (hN (S.2.2.2.1 0))
        · have bs : bsN (S.2.2.2.1 0) (hN (S.2.2.2.1 0)) x k best = best := by
            unfold bsN
            rw [if_neg (fun q => by
              rcases q.2 with q | q
              · omega
              · exact Int32.not_lt.mpr c3 q.2)]
          rw [bs]
          simp (disch := omega) only [p_X3_reel_L22, mRow_0, mRow_29, obS, qld_571, r0, e571, one, nI_leI, c0, ↓reduceIte, la, pcV, qk, if_neg z, n1, n2, pcI, d0, if_neg nd, s1, s2, if_pos c3, nI_1]
        · have bs : bsN (S.2.2.2.1 0) (hN (S.2.2.2.1 0)) x k best = k := by
            unfold bsN
            rw [if_pos ⟨x0, Or.inr ⟨c2, Int32.not_le.mp c3⟩⟩]
          rw [bs]
          simp (disch := omega) only [p_X3_reel_L22, mRow_0, mRow_29, obS, qld_571, r0, e571, one, nI_leI, c0, ↓reduceIte, la, pcV, qk, if_neg z, n1, n2, pcI, d0, if_neg nd, s1, s2, if_neg c3, nI_1]
      · have bs : bsN (S.2.2.2.1 0) (hN (S.2.2.2.1 0)) x k best = best := by
          unfold bsN
          rw [if_neg (fun q => by
            rcases q.2 with q | q
            · omega
            · exact c2 q.1)]
        have dn := pk_sneg (a := pcN k) (b := pcN best) (by omega) (by omega)
        have d1 : ¬ 0 < nI (pcN k) - nI (pcN best) := fun q => by
          rw [Int32.lt_iff_toInt_lt] at q dn
          omega
        have d2 : ¬ nI (pcN k) - nI (pcN best) = 0 := fun q => by
          rw [q] at dn
          exact absurd dn (by decide)
        rw [bs]
        simp (disch := omega) only [p_X3_reel_L22, mRow_0, mRow_29, obS, qld_571, r0, e571, one, nI_leI, c0, ↓reduceIte, la, pcV, qk, if_neg z, n1, n2, pcI, if_neg d1, if_neg d2, nI_1]
/-- table and best ahead of set k + 1 -/
def mdS (t G0 : Nat → Int32) : Nat → (Nat → Int32) × Nat
  | 0 => (upd G0 0 0, 0)
  | k + 1 => (upd (mdS t G0 k).1 (k + 1) (nI (abN (rvB t (mdS t G0 k).1 (hN t) (k + 1)) (hN t))), bsN t (hN t) (abN (rvB t (mdS t G0 k).1 (hN t) (k + 1)) (hN t)) (k + 1) (mdS t G0 k).2)
theorem mdS_lt (t G0 : Nat → Int32) : ∀ k, (mdS t G0 k).2 < k + 1
  | 0 => Nat.zero_lt_one
  | k + 1 => bsN_lt (by omega) (by have := mdS_lt t G0 k; omega)
theorem mdS_gl {t : Nat → Int32} (hw : wAct t) (G0 : Nat → Int32) : ∀ k, k < 4096 → glI t (k + 1) (mdS t G0 k).1
  | 0, _ => fun s hs => by
    have : s = 0 := by omega
    subst this
    show upd G0 0 0 0 = nI (cv (upd G0 0 0 0)) ∧ cv (upd G0 0 0 0) < 4096 ∧ _
    rw [upd_same, cv_0]
    refine ⟨rfl, by omega, fun i hi => ?_, fun _ => ?_⟩
    · have e : cv ((mdS t G0 0).1 0) = 0 := by show cv (upd G0 0 0 0) = 0; rw [upd_same, cv_0]
      rw [e, Nat.zero_testBit] at hi
      cases hi
    · show cv (upd G0 0 0 0) = 0
      rw [upd_same, cv_0]
  | k + 1, hk => glI_next hw (mdS_gl hw G0 k (by omega)) (by omega)
theorem mdS_end {t : Nat → Int32} (hw : wAct t) (G0 : Nat → Int32) : ∀ d, thN t + d < 4096 → (mdS t G0 (thN t + d)).2 = (mdS t G0 (thN t)).2
  | 0, _ => rfl
  | d + 1, h => by
    have ih := mdS_end hw G0 d (by omega)
    have g := mdS_gl hw G0 (thN t + d + 1) (by omega) (thN t + d + 1) (by omega)
    have ex : ∃ i, (thN t + d + 1).testBit i = true ∧ (thN t).testBit i = false := by
      apply Classical.byContradiction
      intro hne
      have sb : ∀ i, (thN t + d + 1).testBit i = true → (thN t).testBit i = true := fun i hi => by
        cases e : (thN t).testBit i with
        | true => rfl
        | false => exact absurd ⟨i, hi, e⟩ hne
      have e : (thN t + d + 1) &&& thN t = thN t + d + 1 := by
        apply Nat.eq_of_testBit_eq
        intro i
        rw [Nat.testBit_and]
        cases e : (thN t + d + 1).testBit i with
        | false => rfl
        | true => rw [sb i e]; rfl
      have l : (thN t + d + 1) &&& thN t ≤ thN t := Nat.and_le_right
      omega
    have z := g.2.2.2 ex
    have lt := abN_lt (rvB t (mdS t G0 (thN t + d)).1 (hN t) (thN t + d + 1)) (hN t)
    have pn : (2 : Nat) ^ hN t ≤ 2 ^ 12 := Nat.pow_le_pow_right (by omega) hw.n
    have z2 : abN (rvB t (mdS t G0 (thN t + d)).1 (hN t) (thN t + d + 1)) (hN t) = 0 := by
      have e : (mdS t G0 (thN t + d + 1)).1 (thN t + d + 1) = nI (abN (rvB t (mdS t G0 (thN t + d)).1 (hN t) (thN t + d + 1)) (hN t)) := upd_same _ _ _
      rw [e, cv_nI (by omega)] at z
      exact z
    have e : (mdS t G0 (thN t + d + 1)).2 = bsN t (hN t) (abN (rvB t (mdS t G0 (thN t + d)).1 (hN t) (thN t + d + 1)) (hN t)) (thN t + d + 1) (mdS t G0 (thN t + d)).2 := rfl
    show (mdS t G0 (thN t + d + 1)).2 = _
    rw [e, z2, ← ih]
    unfold bsN
    rw [if_neg (fun q => q.1 rfl)]
theorem j_reel {A : hA} {R : sMem} {S : hS} {g : Nat → Nat} {b L : Nat} {xs : Nat → Int32} (h : hInv A R S g b L xs) (v : Int32) : hOp A R S g b L xs (f_X0_reel (hX A) v) (f_X3_reel (A.2.1 9) v) := by
  have hg := h.1.1
  have ht := h.t0
  have hw := h.act
  have hn := hw.n
  have hs : sFuel = 1000000 := rfl
  have e571 : S.2.2.2.1 0 571 = nI (hN (S.2.2.2.1 0)) := hw.1.1.1.1
  have hq : ∀ (R : sMem), R.1 ≤ A.2.1 9 → ∀ s : mSt, f_X3_reel (A.2.1 9) v (mPut R (A.2.1 9) s) = lft R (A.2.1 9) (p_X3_reel (A.2.1 9) v s) := fun R hR s => q_X3_reel R _ hR v s
  cases hv : inB v 0 1 with
  | false =>
    refine hOp.read0 h hq (v := -1) ?_ ?_
    · simp only [f_X0_reel, fx_isIn, hv, eq_self, ↓reduceIte, hcI, hcN, hcV, obS, if_true, if_false, b01_f]
    · simp only [p_X3_reel, px_isIn, hv, pcI, b01_f, ↓reduceIte]
  | true =>
    obtain ⟨R1, ft, hc1, x1⟩ := f_threaded h (lo := fun i => hLo (S.2.2.2.1 0) i) (fun i hi => (hw.2.1 i hi).1)
    rw [thN_set] at ft
    have h1 := h.more x1.1 hc1
    have pn : (2 : Nat) ^ hN (S.2.2.2.1 0) ≤ 2 ^ 12 := Nat.pow_le_pow_right (by omega) hn
    have tl : thN (S.2.2.2.1 0) < 2 ^ hN (S.2.2.2.1 0) := Nat.lt_pow_two_of_testBit _ (fun i hi => by
      rw [thN_bit _ hn]
      have : ¬ i < hN (S.2.2.2.1 0) := by omega
      simp [this])
    have r0 : ∀ G, (mRowSet S.2.2.2.2.2 11 G).2 0 = S.2.2.2.1 0 := fun G => by rw [mrs_ne _ _ (by omega), ht]
    have p1 : 1 ≤ 2 ^ hN (S.2.2.2.1 0) := Nat.pow_pos (by omega)
    have gl := fun k (hk : k < 2 ^ hN (S.2.2.2.1 0)) => mdS_gl hw (S.2.2.2.2.2.2 11) k (by omega)
    have ml := fun k => mdS_lt (S.2.2.2.1 0) (S.2.2.2.2.2.2 11) k
    have fin := mdS_end hw (S.2.2.2.2.2.2 11) (2 ^ hN (S.2.2.2.1 0) - 1 - thN (S.2.2.2.1 0)) (by omega)
    rw [show thN (S.2.2.2.1 0) + (2 ^ hN (S.2.2.2.1 0) - 1 - thN (S.2.2.2.1 0)) = 2 ^ hN (S.2.2.2.1 0) - 1 by omega] at fin
    have JM := lk (fun _ _ _ => none) (fun f k (_ : Unit) => p_X3_reel_L22 (A.2.1 9) v f (nI (mdS (S.2.2.2.1 0) (S.2.2.2.2.2.2 11) k).2) (nI (k + 1)) (mRowSet S.2.2.2.2.2 11 (mdS (S.2.2.2.1 0) (S.2.2.2.2.2.2 11) k).1)) (2 ^ hN (S.2.2.2.1 0) - 1) (fun _ _ => True) (fun _ p => ∃ G, p = some (some (.int (if v = 0 then nI (pcN (mdS (S.2.2.2.1 0) (S.2.2.2.2.2.2 11) (2 ^ hN (S.2.2.2.1 0) - 1)).2) else stS (S.2.2.2.1 0) (mdS (S.2.2.2.1 0) (S.2.2.2.2.2.2 11) (2 ^ hN (S.2.2.2.1 0) - 1)).2 (hN (S.2.2.2.1 0)))), mRowSet S.2.2.2.2.2 11 G)) ?_ ?_ (by omega) () trivial
    · have JC := lk (α := Nat → Int32) (fun f k F => f_X0_reel_L24 (hX A) v (nI (thN (S.2.2.2.1 0))) f (nI (pcN (mdS (S.2.2.2.1 0) (S.2.2.2.2.2.2 11) k).2)) (stS (S.2.2.2.1 0) (mdS (S.2.2.2.1 0) (S.2.2.2.2.2.2 11) k).2 (hN (S.2.2.2.1 0))) (nI (k + 1)) (hMem A R1 (hRw S 6 F))) (fun _ _ _ => none) (thN (S.2.2.2.1 0)) (fun k F => frI (S.2.2.2.1 0) (k + 1) F (mdS (S.2.2.2.1 0) (S.2.2.2.2.2.2 11) k).1) (fun o _ => ∃ F, o = some (.inl (some (.int (if v = 0 then nI (pcN (mdS (S.2.2.2.1 0) (S.2.2.2.2.2.2 11) (thN (S.2.2.2.1 0))).2) else stS (S.2.2.2.1 0) (mdS (S.2.2.2.1 0) (S.2.2.2.2.2.2 11) (thN (S.2.2.2.1 0))).2 (hN (S.2.2.2.1 0))))), hMem A R1 (hRw S 6 F))) ?_ ?_ (by omega) (S.2.1 6) (fun s s1 s2 _ _ _ => by omega)
      · obtain ⟨G, em⟩ := JM
        obtain ⟨F, ec⟩ := JC
        rw [fin] at em
        have ec' : f_X0_reel_L24 (hX A) v (nI (thN (S.2.2.2.1 0))) sFuel (nI (pcN 0)) (stS (S.2.2.2.1 0) 0 (hN (S.2.2.2.1 0))) 1 (hMem A R1 (hRw S 6 (S.2.1 6))) = _ := ec
        have pc0 : nI (pcN 0) = 0 := by decide
        rw [hRw_self, stS_0, pc0] at ec'
        have em' : p_X3_reel_L22 (A.2.1 9) v sFuel 0 1 (mRowSet S.2.2.2.2.2 11 (upd (S.2.2.2.2.2.2 11) 0 0)) = _ := em
        have q0 : qAst S.2.2.2.2.2 11 0 0 = some (mRowSet S.2.2.2.2.2 11 (upd (S.2.2.2.2.2.2 11) 0 0)) := qst_11 S.2.2.2.2.2 (p := 0) (by omega) 0
        refine hOp.read h hq (R' := R1) (S' := hRw S 6 F) (s' := mRowSet S.2.2.2.2.2 11 G) ?_ (hSame.rw6 S F) (x1.le (by omega) (by omega)) hc1 (v := if v = 0 then nI (pcN (mdS (S.2.2.2.1 0) (S.2.2.2.2.2.2 11) (thN (S.2.2.2.1 0))).2) else stS (S.2.2.2.1 0) (mdS (S.2.2.2.1 0) (S.2.2.2.2.2.2 11) (thN (S.2.2.2.1 0))).2 (hN (S.2.2.2.1 0))) ?_ ((Sw.refl _).row G (by omega))
        · simp only [f_X0_reel, fx_isIn, hv, eq_self, ↓reduceIte, hcI, hcN, hcV, obS, if_true, if_false, b01_t, hx_chk hg, ft, ec']
        · simp only [p_X3_reel, px_isIn, hv, pcI, b01_t, ↓reduceIte, mRow_29, obS, q0]
          exact em'
      · intro f f' k F hk hF
        have c0 : ¬ thN (S.2.2.2.1 0) < k + 1 := by omega
        obtain ⟨F', hF', e⟩ := f_reelRow h1 (f_X0_reel_L24 (hX A) v (nI (thN (S.2.2.2.1 0))) f) v (k := k + 1) (best := (mdS (S.2.2.2.1 0) (S.2.2.2.2.2.2 11) k).2) (by omega) (by omega) (by have := ml k; omega) (gl k (by omega)) hF
        refine Or.inl ⟨F', hF', ?_, rfl⟩
        have e' : f_X0_reel_L24 (hX A) v (nI (thN (S.2.2.2.1 0))) (f + 1) (nI (pcN (mdS (S.2.2.2.1 0) (S.2.2.2.2.2.2 11) k).2)) (stS (S.2.2.2.1 0) (mdS (S.2.2.2.1 0) (S.2.2.2.2.2.2 11) k).2 (hN (S.2.2.2.1 0))) (nI (k + 1)) (hMem A R1 (hRw S 6 F)) = _ := Eq.trans (by simp (disch := omega) only [f_X0_reel_L24, nI_ltI, c0, ↓reduceIte]) e
        rw [e']
        rfl
      · intro f f' F hF
        have c0 : thN (S.2.2.2.1 0) < thN (S.2.2.2.1 0) + 1 := by omega
        refine ⟨F, ?_⟩
        simp (disch := omega) only [f_X0_reel_L24, nI_ltI, c0, ↓reduceIte]
    · intro f f' k _ hk _
      refine Or.inl ⟨(), trivial, rfl, ?_⟩
      have := px_reelStep h (A.2.1 9) v (k := k + 1) (best := (mdS (S.2.2.2.1 0) (S.2.2.2.2.2.2 11) k).2) (by omega) (by have := ml k; omega) (gl k (by omega)) f'
      rw [this]
      rfl
    · intro f f' _ _
      have one : (1 : Int32) <<< (nI (hN (S.2.2.2.1 0)) &&& 31) = nI (2 ^ hN (S.2.2.2.1 0)) := nI_one (by omega)
      have l0 := ml (2 ^ hN (S.2.2.2.1 0) - 1)
      have n1 := fun s => px_count (n := (mdS (S.2.2.2.1 0) (S.2.2.2.2.2.2 11) (2 ^ hN (S.2.2.2.1 0) - 1)).2) (by omega) s
      refine ⟨(mdS (S.2.2.2.1 0) (S.2.2.2.2.2.2 11) (2 ^ hN (S.2.2.2.1 0) - 1)).1, ?_⟩
      have s1 := px_strength hw (A.2.1 9) (s := (mdS (S.2.2.2.1 0) (S.2.2.2.2.2.2 11) (2 ^ hN (S.2.2.2.1 0) - 1)).2) (by omega) (mRowSet S.2.2.2.2.2 11 (mdS (S.2.2.2.1 0) (S.2.2.2.2.2.2 11) (2 ^ hN (S.2.2.2.1 0) - 1)).1) (r0 _)
      have c0 : 2 ^ hN (S.2.2.2.1 0) ≤ 2 ^ hN (S.2.2.2.1 0) - 1 + 1 := by omega
      by_cases v0 : v = 0
      · simp (disch := omega) only [p_X3_reel_L22, mRow_0, obS, qld_571, r0, e571, one, nI_leI, c0, ↓reduceIte, if_pos v0, n1, pcI]
      · simp (disch := omega) only [p_X3_reel_L22, mRow_0, obS, qld_571, r0, e571, one, nI_leI, c0, ↓reduceIte, if_neg v0, s1, pcI]
