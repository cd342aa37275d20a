/-! feedings -/
set_option maxRecDepth 100000
def mhB (t : Nat → Int32) (w f : Nat) : Bool := (fstN (fun k => decide (cv (t (839 + 2 * k)) = w) && decide (cv (t (839 + 2 * k + 1)) = f)) (hOc t)).isNone
theorem f_mayHave {A : hA} {R : sMem} {S : hS} {g : Nat → Nat} {b L : Nat} {xs : Nat → Int32} (h : hInv A R S g b L xs) {w f : Nat} (hw12 : w < 12) (hf : f < 10) : f_X0_mayHave (hX A) (nI w) (nI f) (hMem A R S) = some (.inl (some (.int (b01 (mhB (S.2.2.2.1 0) w f)))), hMem A R S) := by
  have hg := h.1.1
  have hc := h.1.2.1
  have hs : sFuel = 1000000 := rfl
  have wo := h.act.1.2.2.2.2.2.2.2.1
  obtain ⟨-, -, -, -, -, -, -, ⟨q7, r7, f7, b7, e7⟩⟩ := h.reps
  have l16 : hOc (S.2.2.2.1 0) ≤ 16 := wo.1.2
  have ln := hR_len hc S b7
  have P := lp_E (fun q k => f_X0_mayHave_L2 (hX A) (nI w) (nI f) q (nI k) (hMem A R S)) (hOc (S.2.2.2.1 0)) (fun k => decide (cv (S.2.2.2.1 0 (839 + 2 * k)) = w) && decide (cv (S.2.2.2.1 0 (839 + 2 * k + 1)) = f)) (fun _ => some (.inl (some (.int 0)), hMem A R S)) (some (.inl (some (.int 1)), hMem A R S)) ?_ ?_ ?_ sFuel (by omega)
  · refine Eq.trans P ?_
    unfold mhB
    cases fstN (fun k => decide (cv (S.2.2.2.1 0 (839 + 2 * k)) = w) && decide (cv (S.2.2.2.1 0 (839 + 2 * k + 1)) = f)) (hOc (S.2.2.2.1 0)) <;> rfl
  · intro q k hk hp
    have c0 : ¬ hOc (S.2.2.2.1 0) ≤ k := by omega
    have ld := hR_ld hc S b7 hk (by omega)
    rw [show f7 k = nI (10 * cv (S.2.2.2.1 0 (839 + 2 * k)) + cv (S.2.2.2.1 0 (839 + 2 * k + 1))) from e7 k hk] at ld
    have l1 : cv (S.2.2.2.1 0 (839 + 2 * k)) ≤ 11 := (wo.2 k hk).1.2
    have l2 : cv (S.2.2.2.1 0 (839 + 2 * k + 1)) ≤ 9 := (wo.2 k hk).2.2
    have ix : (10 : Int32) * nI w + nI f = nI (10 * w + f) := by
      show nI 10 * nI w + _ = _
      rw [pk_mul, nI_add]
    have ne : ¬ nI (10 * cv (S.2.2.2.1 0 (839 + 2 * k)) + cv (S.2.2.2.1 0 (839 + 2 * k + 1))) = nI (10 * w + f) := fun e => by
      have e := (nI_eq (by omega) (by omega)).mp e
      have e1 : cv (S.2.2.2.1 0 (839 + 2 * k)) = w := by omega
      have e2 : cv (S.2.2.2.1 0 (839 + 2 * k + 1)) = f := by omega
      simp [e1, e2] at hp
    simp (disch := omega) only [f_X0_mayHave_L2, xgN_35 hg, r7, hvN_ref, obS, ln, nI_leI, c0, ↓reduceIte, ld, ix, if_neg ne, nI_1]
  · intro q k hk hp
    have c0 : ¬ hOc (S.2.2.2.1 0) ≤ k := by omega
    have ld := hR_ld hc S b7 hk (by omega)
    rw [show f7 k = nI (10 * cv (S.2.2.2.1 0 (839 + 2 * k)) + cv (S.2.2.2.1 0 (839 + 2 * k + 1))) from e7 k hk] at ld
    have ix : (10 : Int32) * nI w + nI f = nI (10 * w + f) := by
      show nI 10 * nI w + _ = _
      rw [pk_mul, nI_add]
    simp only [Bool.and_eq_true, decide_eq_true_eq] at hp
    rw [hp.1, hp.2] at ld
    simp (disch := omega) only [f_X0_mayHave_L2, xgN_35 hg, r7, hvN_ref, obS, ln, nI_leI, c0, ↓reduceIte, ld, ix]
  · intro q
    have c0 : hOc (S.2.2.2.1 0) ≤ hOc (S.2.2.2.1 0) := Nat.le_refl _
    simp (disch := omega) only [f_X0_mayHave_L2, xgN_35 hg, r7, hvN_ref, obS, ln, nI_leI, c0, ↓reduceIte]
theorem px_mayHave {t : Nat → Int32} (hw : wAct t) (m : Nat) (s : mSt) (hs0 : s.2 0 = t) {w f : Nat} (hw12 : w < 12) (hf : f < 10) : p_X3_mayHave m (nI w) (nI f) s = some (some (.int (b01 (mhB t w f))), s) := by
  have hs : sFuel = 1000000 := rfl
  have wo := hw.1.2.2.2.2.2.2.2.1
  have l16 : hOc t ≤ 16 := wo.1.2
  have e580 : t 580 = nI (hOc t) := wo.1.1
  have q580 : qAld s 0 580 = some (nI (hOc t)) := by
    have := qld_0 s (p := 580) (by omega)
    rw [hs0, e580] at this
    exact this
  have P := lp_E (fun q k => p_X3_mayHave_L2 m (nI w) (nI f) q (nI k) s) (hOc t) (fun k => decide (cv (t (839 + 2 * k)) = w) && decide (cv (t (839 + 2 * k + 1)) = f)) (fun _ => some (some (.int 0), s)) (some (some (.int 1), s)) ?_ ?_ ?_ sFuel (by omega)
  · refine Eq.trans P ?_
    unfold mhB
    cases fstN (fun k => decide (cv (t (839 + 2 * k)) = w) && decide (cv (t (839 + 2 * k + 1)) = f)) (hOc t) <;> rfl
  · intro q k hk hp
    have c0 : ¬ hOc t ≤ k := by omega
    obtain ⟨⟨ea, la⟩, eb, lb⟩ := wo.2 k hk
    have c1 : (839 : Int32) + 2 * nI k = nI (839 + 2 * k) := by
      show nI 839 + nI 2 * nI k = _
      rw [pk_mul, nI_add]
    have q1 : qAld s 0 (nI (839 + 2 * k)) = some (nI (cv (t (839 + 2 * k)))) := by rw [qld_0 _ (by omega), hs0]; exact congrArg some ea
    have q2 : qAld s 0 (nI (839 + 2 * k + 1)) = some (nI (cv (t (839 + 2 * k + 1)))) := by rw [qld_0 _ (by omega), hs0]; exact congrArg some eb
    generalize cv (t (839 + 2 * k)) = x at *
    generalize cv (t (839 + 2 * k + 1)) = y at *
    by_cases d1 : x = w
    · have d2 : ¬ y = f := by simpa [d1] using hp
      have d1' : nI x = nI w := by rw [d1]
      have d2' : ¬ nI y = nI f := fun e => d2 ((nI_eq (by omega) (by omega)).mp e)
      simp (disch := omega) only [p_X3_mayHave_L2, mRow_0, obS, q580, nI_leI, c0, ↓reduceIte, c1, q1, if_pos d1', nI_1, q2, if_neg d2']
    · have d1' : ¬ nI x = nI w := fun e => d1 ((nI_eq (by omega) (by omega)).mp e)
      simp (disch := omega) only [p_X3_mayHave_L2, mRow_0, obS, q580, nI_leI, c0, ↓reduceIte, c1, q1, if_neg d1', nI_1]
  · intro q k hk hp
    have c0 : ¬ hOc t ≤ k := by omega
    obtain ⟨⟨ea, la⟩, eb, lb⟩ := wo.2 k hk
    have c1 : (839 : Int32) + 2 * nI k = nI (839 + 2 * k) := by
      show nI 839 + nI 2 * nI k = _
      rw [pk_mul, nI_add]
    simp only [Bool.and_eq_true, decide_eq_true_eq] at hp
    have q1 : qAld s 0 (nI (839 + 2 * k)) = some (nI w) := by rw [qld_0 _ (by omega), hs0, ← hp.1]; exact congrArg some ea
    have q2 : qAld s 0 (nI (839 + 2 * k + 1)) = some (nI f) := by rw [qld_0 _ (by omega), hs0, ← hp.2]; exact congrArg some eb
    simp (disch := omega) only [p_X3_mayHave_L2, mRow_0, obS, q580, nI_leI, c0, ↓reduceIte, c1, nI_1, q1, q2]
  · intro q
    have c0 : hOc t ≤ hOc t := Nat.le_refl _
    simp (disch := omega) only [p_X3_mayHave_L2, mRow_0, obS, q580, nI_leI, c0, ↓reduceIte]
theorem smN_mod (f : Nat → Nat) (P : Nat) : ∀ n, smN (fun k => f k % P) n % P = smN f n % P
  | 0 => rfl
  | n + 1 => by
    rw [smN_s, smN_s, Nat.add_mod, smN_mod f P n, Nat.mod_mod, ← Nat.add_mod]
def cTm (h : Nat → Nat → Bool) (n w s f : Nat) : Nat := if s.testBit f = true ∧ h w f = true then fdC h n w (s ^^^ 2 ^ f) else 0
theorem fdC_mod (h : Nat → Nat → Bool) (n w s P : Nat) : (fdC h n w s % P + smN (fun f => cTm h n w s f % P) n) % P = fdC h n (w + 1) s % P := by
  rw [fdC_s, Nat.add_mod, smN_mod, Nat.mod_mod, ← Nat.add_mod]
  rfl
theorem lN_0 (n : Nat) : lN n + 0 = lN n := lN_add n 0
theorem f_feedSet {A : hA} {R : sMem} {S : hS} {g : Nat → Nat} {b L : Nat} {xs : Nat → Int32} (h : hInv A R S g b L xs) (k16 k29 : Int32 → sMem → hO) {R1 : sMem} (hc1 : hCl A R1) (x1 : sub2 R R1) {r : Nat} (hb : A.1 ≤ r) (hr0 : R.2.1 ≤ r) {F0 : Nat → Int32} (hr : R1.2.2.2 r = some (sArr 0 (2 ^ hFc (S.2.2.2.1 0)) F0)) {w s : Nat} (hw12 : w < 12) (hs : s < 2 ^ hFc (S.2.2.2.1 0)) {F : Nat → Int32} (hF : ∀ z, z ≤ s → F z = nI (fdC (mhB (S.2.2.2.1 0)) (hFc (S.2.2.2.1 0)) w z % 1000000007)) : f_X0_feedings_L42 k16 k29 (hX A) r (nI w) (nI s) sFuel ((F s).toInt64) 0 (hMem A (sUp R1 r (sArr 0 (2 ^ hFc (S.2.2.2.1 0)) F)) S) = k29 (nI s + -1) (hMem A (sUp R1 r (sArr 0 (2 ^ hFc (S.2.2.2.1 0)) (upd F s (nI (fdC (mhB (S.2.2.2.1 0)) (hFc (S.2.2.2.1 0)) (w + 1) s % 1000000007))))) S) := by
  have hg := h.1.1
  have wf := h.act.1.2.1
  have h10 : hFc (S.2.2.2.1 0) ≤ 10 := wf.1.2
  have p10 : (2 : Nat) ^ hFc (S.2.2.2.1 0) ≤ 2 ^ 10 := Nat.pow_le_pow_right (by omega) h10
  have hcF : hCl A (sUp R1 r (sArr 0 (2 ^ hFc (S.2.2.2.1 0)) F)) := hc1.up hr
  have hsub : sub2 R (sUp R1 r (sArr 0 (2 ^ hFc (S.2.2.2.1 0)) F)) := fun a e ha => by
    have := h.1.2.1.lt ha
    rw [sUp_ne _ _ (by omega)]
    exact x1 a e ha
  have hI := h.more hsub hcF
  obtain ⟨q0, ao, ma, g1, g2, -⟩ := fact_get (S := S) hg hcF hI.fa wf
  have mh := fun f (hf : f < 10) => f_mayHave hI (w := w) (f := f) hw12 hf
  have ld := fun p (hp : p < 2 ^ hFc (S.2.2.2.1 0)) => ar_ld (F := F) hc1 S hr (by omega) hp
  have st := fun x => ar_st (F := F) hg hc1 S hr hb (by omega) hs x
  generalize mhB (S.2.2.2.1 0) = hh at *
  generalize hFc (S.2.2.2.1 0) = n at *
  have e0 : (F s).toInt64 = lN (fdC hh n w s % 1000000007) := by
    rw [hF s (Nat.le_refl _)]
    exact nI_l (by have := Nat.mod_lt (fdC hh n w s) (y := 1000000007) (by omega); omega)
  have mb : ∀ j, j ≤ n → smN (fun f => cTm hh n w s f % 1000000007) j ≤ 1000000007 * j := fun j _ => smN_le (fun k _ => Nat.le_of_lt (Nat.mod_lt _ (by omega)))
  have m0 := Nat.mod_lt (fdC hh n w s) (y := 1000000007) (by omega)
  rw [e0]
  refine lk (fun q j (_ : Unit) => f_X0_feedings_L42 k16 k29 (hX A) r (nI w) (nI s) q (lN (fdC hh n w s % 1000000007 + smN (fun f => cTm hh n w s f % 1000000007) j)) (nI j) (hMem A (sUp R1 r (sArr 0 (2 ^ n) F)) S)) (fun _ _ _ => none) n (fun _ _ => True) (fun o _ => o = k29 (nI s + -1) (hMem A (sUp R1 r (sArr 0 (2 ^ n) (upd F s (nI (fdC hh n (w + 1) s % 1000000007))))) S)) ?_ ?_ (by omega) () trivial
  · intro q q' j _ hj _
    have c0 : ¬ n ≤ j := by omega
    have hb9 := fx_hasN (s := s) (k := j) (by omega) (by omega) (hMem A (sUp R1 r (sArr 0 (2 ^ n) F)) S)
    refine Or.inl ⟨(), trivial, ?_, rfl⟩
    rw [smN_s]
    cases tb : s.testBit j with
    | false =>
      rw [tb] at hb9
      have z : cTm hh n w s j % 1000000007 = 0 := by unfold cTm; simp [tb]
      rw [z]
      simp (disch := omega) only [f_X0_feedings_L42, f_X0_feedings_J87, f_X0_feedings_J88, g1, g2, obS, nI_leI, c0, ↓reduceIte, hb9, hcI, b01_f, lN_0, Nat.add_zero, nI_1]
    | true =>
      rw [tb] at hb9
      have mj := mh j (by omega)
      cases hm : hh w j with
      | false =>
        rw [hm] at mj
        have z : cTm hh n w s j % 1000000007 = 0 := by unfold cTm; simp [hm]
        rw [z]
        simp (disch := omega) only [f_X0_feedings_L42, f_X0_feedings_J87, f_X0_feedings_J88, g1, g2, obS, nI_leI, c0, ↓reduceIte, hb9, hcI, b01_t, hx_chk hg, mj, b01_f, lN_0, Nat.add_zero, nI_1]
      | true =>
        rw [hm] at mj
        have lt := bitX_lt tb
        have de := delI (s := s) (w := j) (by omega) (by omega) tb
        have l9 := ld (s ^^^ 2 ^ j) (by omega)
        rw [hF _ (by omega)] at l9
        have z : cTm hh n w s j = fdC hh n w (s ^^^ 2 ^ j) := by unfold cTm; simp [tb, hm]
        have mz := Nat.mod_lt (fdC hh n w (s ^^^ 2 ^ j)) (y := 1000000007) (by omega)
        have tl : (nI (fdC hh n w (s ^^^ 2 ^ j) % 1000000007)).toInt64 = lN (fdC hh n w (s ^^^ 2 ^ j) % 1000000007) := nI_l (by omega)
        rw [z]
        simp (disch := omega) only [f_X0_feedings_L42, f_X0_feedings_J88, g1, g2, obS, nI_leI, c0, ↓reduceIte, hb9, hcI, b01_t, hx_chk hg, mj, de, l9, tl, lN_add, Nat.add_assoc, nI_1]
  · intro q q' _ _
    have c0 : n ≤ n := Nat.le_refl _
    have bb := mb n (Nat.le_refl _)
    have pz : ¬ (1000000007 : Int64) = 0 := by decide
    have rem : lN (fdC hh n w s % 1000000007 + smN (fun f => cTm hh n w s f % 1000000007) n) - lN (fdC hh n w s % 1000000007 + smN (fun f => cTm hh n w s f % 1000000007) n) / 1000000007 * 1000000007 = lN (fdC hh n (w + 1) s % 1000000007) := by
      have := pk_lRem (a := fdC hh n w s % 1000000007 + smN (fun f => cTm hh n w s f % 1000000007) n) (b := 1000000007) (by omega) (by omega) (by omega)
      rw [fdC_mod] at this
      exact this
    have s9 := st (nI (fdC hh n (w + 1) s % 1000000007))
    show f_X0_feedings_L42 _ _ _ _ _ _ _ _ _ _ = _
    simp (disch := omega) only [f_X0_feedings_L42, g1, g2, obS, nI_leI, c0, ↓reduceIte, if_neg pz, rem, lN_i, s9]
theorem f_feedAll {A : hA} {R : sMem} {S : hS} {g : Nat → Nat} {b L : Nat} {xs : Nat → Int32} (h : hInv A R S g b L xs) : ∃ R', f_X0_feedings (hX A) (hMem A R S) = some (.inl (some (.int (nI (fdC (mhB (S.2.2.2.1 0)) (hFc (S.2.2.2.1 0)) (hN (S.2.2.2.1 0)) (2 ^ hFc (S.2.2.2.1 0) - 1) % 1000000007)))), hMem A R' S) ∧ hEx 1 1024 R R' ∧ hCl A R' := by
  have hg := h.1.1
  have hc := h.1.2.1
  have hw := h.act
  have hn := hw.n
  have wf := hw.1.2.1
  have e571 : S.2.2.2.1 0 571 = nI (hN (S.2.2.2.1 0)) := hw.1.1.1.1
  have h10 : hFc (S.2.2.2.1 0) ≤ 10 := wf.1.2
  have p10 : (2 : Nat) ^ hFc (S.2.2.2.1 0) ≤ 2 ^ 10 := Nat.pow_le_pow_right (by omega) h10
  have p0 : 1 ≤ (2 : Nat) ^ hFc (S.2.2.2.1 0) := Nat.pow_pos (by omega)
  obtain ⟨q0, ao, ma, g1, g2, -⟩ := fact_get (S := S) hg hc h.fa wf
  have one : (1 : Int32) <<< (nI (hFc (S.2.2.2.1 0)) &&& 31) = nI (2 ^ hFc (S.2.2.2.1 0)) := nI_one (by omega)
  have hb := hc.base hg
  have hc1 := hc.new (sArr 0 (2 ^ hFc (S.2.2.2.1 0)) (fun _ => 0)) (2 ^ hFc (S.2.2.2.1 0))
  have x1 := hEx.new hc (sArr 0 (2 ^ hFc (S.2.2.2.1 0)) (fun _ => 0)) (2 ^ hFc (S.2.2.2.1 0))
  have a1 := sNew_at R (sArr 0 (2 ^ hFc (S.2.2.2.1 0)) (fun _ => 0)) (2 ^ hFc (S.2.2.2.1 0))
  have nA : ∀ K, sNewA (hMem A R S) 0 (nI (2 ^ hFc (S.2.2.2.1 0))) K = K R.2.1 (hMem A (sNew R (sArr 0 (2 ^ hFc (S.2.2.2.1 0)) (fun _ => 0)) (2 ^ hFc (S.2.2.2.1 0))) S) := fun K => hNewA hc S (n := 2 ^ hFc (S.2.2.2.1 0)) (by omega) K
  generalize hR1 : sNew R (sArr 0 (2 ^ hFc (S.2.2.2.1 0)) (fun _ => 0)) (2 ^ hFc (S.2.2.2.1 0)) = R1 at *
  have st0 := ar_st (F := fun _ => 0) hg hc1 S a1 hb (by omega) (p := 0) (by omega) (nI 1)
  rw [sUp_self R1 a1] at st0
  have st0' : sXst (hMem A R1 S) 0 R.2.1 0 1 = some (hMem A (sUp R1 R.2.1 (sArr 0 (2 ^ hFc (S.2.2.2.1 0)) (upd (fun _ => 0) 0 (nI 1)))) S) := st0
  have J := lk (α := Nat → Int32) (fun f w F => f_X0_feedings_L16 (hX A) R.2.1 f (nI w) (hMem A (sUp R1 R.2.1 (sArr 0 (2 ^ hFc (S.2.2.2.1 0)) F)) S)) (fun _ _ _ => none) (hN (S.2.2.2.1 0)) (fun w F => ∀ z, z < 2 ^ hFc (S.2.2.2.1 0) → F z = nI (fdC (mhB (S.2.2.2.1 0)) (hFc (S.2.2.2.1 0)) w z % 1000000007)) (fun o _ => ∃ F, o = some (.inl (some (.int (nI (fdC (mhB (S.2.2.2.1 0)) (hFc (S.2.2.2.1 0)) (hN (S.2.2.2.1 0)) (2 ^ hFc (S.2.2.2.1 0) - 1) % 1000000007)))), hMem A (sUp R1 R.2.1 (sArr 0 (2 ^ hFc (S.2.2.2.1 0)) F)) S)) ?_ ?_ (by omega) (upd (fun _ => 0) 0 (nI 1)) (fun z hz => by
    by_cases c : z = 0
    · subst c
      rw [upd_same]
      rfl
    · rw [upd_ne _ _ c]
      show (0 : Int32) = nI ((if z = 0 then 1 else 0) % 1000000007)
      rw [if_neg c]
      rfl)
  · obtain ⟨F, e⟩ := J
    have e' : f_X0_feedings_L16 (hX A) R.2.1 sFuel 0 (hMem A (sUp R1 R.2.1 (sArr 0 (2 ^ hFc (S.2.2.2.1 0)) (upd (fun _ => 0) 0 (nI 1)))) S) = _ := e
    refine ⟨_, ?_, (hEx.up hc x1 (Nat.le_refl _) (sArr 0 (2 ^ hFc (S.2.2.2.1 0)) F)).le (by omega) (by omega), hc1.up a1⟩
    simp only [f_X0_feedings, g1, g2, obS, one, nA, st0', e']
  · intro f f' w F hw9 hF
    have c0 : ¬ hN (S.2.2.2.1 0) ≤ w := by omega
    have ln := ar_len (F := F) hc1 S a1
    have IN := lk (α := Nat → Int32) (fun q y F => f_X0_feedings_L29 (f_X0_feedings_L16 (hX A) R.2.1 f) (hX A) R.2.1 (nI w) q (nI (2 ^ hFc (S.2.2.2.1 0) - 1 - y)) (hMem A (sUp R1 R.2.1 (sArr 0 (2 ^ hFc (S.2.2.2.1 0)) F)) S)) (fun _ _ _ => none) (2 ^ hFc (S.2.2.2.1 0) - 1) (fun y F => (∀ z, z ≤ 2 ^ hFc (S.2.2.2.1 0) - 1 - y → F z = nI (fdC (mhB (S.2.2.2.1 0)) (hFc (S.2.2.2.1 0)) w z % 1000000007)) ∧ ∀ z, 2 ^ hFc (S.2.2.2.1 0) - 1 - y < z → z < 2 ^ hFc (S.2.2.2.1 0) → F z = nI (fdC (mhB (S.2.2.2.1 0)) (hFc (S.2.2.2.1 0)) (w + 1) z % 1000000007)) (fun o _ => ∃ F, (∀ z, z < 2 ^ hFc (S.2.2.2.1 0) → F z = nI (fdC (mhB (S.2.2.2.1 0)) (hFc (S.2.2.2.1 0)) (w + 1) z % 1000000007)) ∧ o = f_X0_feedings_L16 (hX A) R.2.1 f (nI (w + 1)) (hMem A (sUp R1 R.2.1 (sArr 0 (2 ^ hFc (S.2.2.2.1 0)) F)) S)) ?_ ?_ (by omega) F ⟨fun z hz => hF z (by omega), fun z h1 h2 => by omega⟩
    · obtain ⟨F', h1, h2⟩ := IN
      refine Or.inl ⟨F', h1, ?_, rfl⟩
      rw [← h2]
      have pr : nI (2 ^ hFc (S.2.2.2.1 0)) - 1 = nI (2 ^ hFc (S.2.2.2.1 0) - 1 - 0) := pk_sub (b := 1) (by omega)
      simp (disch := omega) only [f_X0_feedings_L16, xgI_21 hg, obS, e571, nI_leI, c0, ↓reduceIte, ln, pr]
    · intro q q' y F hy ⟨hF1, hF2⟩
      obtain ⟨s, hs9⟩ : ∃ s, s = 2 ^ hFc (S.2.2.2.1 0) - 1 - y := ⟨_, rfl⟩
      have nz : ¬ nI s ≤ 0 := nI_nle (by omega) (by omega)
      have ld := ar_ld (F := F) hc1 S a1 (by omega) (p := s) (by omega)
      have fs := f_feedSet h (f_X0_feedings_L16 (hX A) R.2.1 f) (f_X0_feedings_L29 (f_X0_feedings_L16 (hX A) R.2.1 f) (hX A) R.2.1 (nI w) q) hc1 x1.1 hb (Nat.le_refl _) a1 (w := w) (s := s) (by omega) (by omega) (F := F) (fun z hz => hF1 z (by omega))
      have dn : nI s + -1 = nI (2 ^ hFc (S.2.2.2.1 0) - 1 - (y + 1)) := by
        rw [show s = (2 ^ hFc (S.2.2.2.1 0) - 1 - (y + 1)) + 1 by omega]
        exact pk_m1 _
      refine Or.inl ⟨upd F s (nI (fdC (mhB (S.2.2.2.1 0)) (hFc (S.2.2.2.1 0)) (w + 1) s % 1000000007)), ⟨fun z hz => ?_, fun z h1 h2 => ?_⟩, ?_, rfl⟩
      · rw [upd_ne _ _ (by omega), hF1 z (by omega)]
      · by_cases c : z = s
        · subst c; rw [upd_same]
        · rw [upd_ne _ _ c, hF2 z (by omega) h2]
      · rw [← hs9]
        simp (disch := omega) only [f_X0_feedings_L29, if_neg nz, ld, obS, fs, dn]
    · intro q q' F ⟨hF1, hF2⟩
      have z0 : nI (2 ^ hFc (S.2.2.2.1 0) - 1 - (2 ^ hFc (S.2.2.2.1 0) - 1)) ≤ 0 := by rw [Nat.sub_self]; decide
      refine ⟨F, fun z hz => ?_, ?_⟩
      · by_cases c : z = 0
        · subst c
          rw [hF1 0 (by omega), fdC_empty, fdC_empty]
        · exact hF2 z (by omega) hz
      · simp only [f_X0_feedings_L29, if_pos z0, nI_1]
  · intro f f' F hF
    have c0 : hN (S.2.2.2.1 0) ≤ hN (S.2.2.2.1 0) := Nat.le_refl _
    have ln := ar_len (F := F) hc1 S a1
    have ld := ar_ld (F := F) hc1 S a1 (by omega) (p := 2 ^ hFc (S.2.2.2.1 0) - 1) (by omega)
    rw [hF _ (by omega)] at ld
    have pr : nI (2 ^ hFc (S.2.2.2.1 0)) - 1 = nI (2 ^ hFc (S.2.2.2.1 0) - 1) := pk_sub (b := 1) (by omega)
    refine ⟨F, ?_⟩
    simp (disch := omega) only [f_X0_feedings_L16, xgI_21 hg, obS, e571, nI_leI, c0, ↓reduceIte, ln, pr, ld]
