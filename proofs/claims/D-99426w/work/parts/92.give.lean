/-! the image put back -/
set_option maxRecDepth 100000
theorem sUp_comm (M : sMem) {a b : Nat} (h : a ≠ b) (x y : sCell) : sUp (sUp M a x) b y = sUp (sUp M b y) a x := by
  unfold sUp
  congr 3
  funext q
  by_cases h1 : q = a
  · subst h1
    simp [h]
  · by_cases h2 : q = b
    · subst h2
      simp [h1]
    · simp [h1, h2]
theorem fs_up (M : sMem) {a q : Nat} (h : q ≠ a) (e : sCell) (ci : Nat) : sFs (sUp M a e) ci q = sFs M ci q := by
  unfold sFs
  rw [sUp_ne M e h]
theorem gi_up (M : sMem) {a q : Nat} (h : q ≠ a) (e : sCell) (ci k : Nat) : sGetI (sUp M a e) ci k q = sGetI M ci k q := by
  unfold sGetI sGet
  rw [fs_up M h]
theorem gn_up (M : sMem) {a q : Nat} (h : q ≠ a) (e : sCell) (ci k : Nat) : sGetN (sUp M a e) ci k q = sGetN M ci k q := by
  unfold sGetN sGet
  rw [fs_up M h]
theorem pt_up (M : sMem) {a q : Nat} (h : q ≠ a) (e : sCell) (ci k : Nat) (v : Value) : sPut (sUp M a e) ci k q v = (sPut M ci k q v).map (fun M => sUp M a e) := by
  unfold sPut
  rw [fs_up M h]
  cases sFs M ci q with
  | none => rfl
  | some fs =>
    simp only []
    by_cases c : M.1 ≤ q ∧ k < fs.length
    · rw [if_pos (show (sUp M a e).1 ≤ q ∧ k < fs.length from c), if_pos c, Option.map_some, sUp_comm M (Ne.symm h)]
    · rw [if_neg (show ¬ ((sUp M a e).1 ≤ q ∧ k < fs.length) from c), if_neg c, Option.map_none]
theorem cp_up {M M' : sMem} {a b c : Nat} (hb : b ≠ a) (hc : c ≠ a) (e : sCell) (h : f_X0_copies b c M = some (.inl none, M')) : f_X0_copies b c (sUp M a e) = some (.inl none, sUp M' a e) := by
  unfold f_X0_copies at h ⊢
  have hl : sLen (sUp M a e) b = sLen M b := by
    unfold sLen
    rw [sUp_ne M e hb]
  rw [hl]
  cases hx : sLen M b with
  | none =>
    rw [hx] at h
    cases h
  | some x =>
    rw [hx] at h
    simp only [Option.bind_some] at h ⊢
    cases hy : sCpI M b 0 c 0 x with
    | none =>
      rw [hy] at h
      cases h
    | some M1 =>
      rw [hy] at h
      simp only [Option.bind_some, Option.some.injEq, Prod.mk.injEq, true_and] at h
      subst h
      obtain ⟨n0, f, n1, g, h1, h2, h3, h4⟩ := sCpI_spec hy
      have : sCpI (sUp M a e) b 0 c 0 x = some (sUp M1 a e) := by
        unfold sCpI
        rw [sUp_ne M e hb, sUp_ne M e hc, h1, h2]
        simp only [sArr]
        refine Eq.trans (if_pos h3) ?_
        rw [h4, sUp_comm M (Ne.symm hc)]
      rw [this]
      rfl
theorem hNe {A : hA} (hg : hG A) {j k : Nat} (hj : j < hK A) (hk : k < hK A) (h : j ≠ k) : A.2.1 j ≠ A.2.1 k := fun e => h (hg.1 j k hj hk e)
theorem f_becomeX {A : hA} (hg : hG A) (R : sMem) (S : hS) {t' : Nat → Int32} (H : ∀ p, (p < 43 ∨ 55 ≤ p ∧ p < 571 ∨ p = 573 ∨ 593 ≤ p ∧ p < 605) → t' p = S.2.2.2.1 2 p) (H5 : ∀ p, (43 ≤ p ∧ p < 55 ∨ p = 571 ∨ 581 ≤ p ∧ p < 593 ∨ 871 ≤ p ∧ p < 1471) → t' p = S.2.2.2.1 0 p) : f_X2_become (hTa A 0) (hTa A 2) (hMem A R S) = some (.inl none, sUp (hMem A R (hT S 0 t')) (hTr A 0 4) (sArr 0 12 (hCo (S.2.2.2.1 2)))) := by
  have hi : 0 < A.2.2 := by have := hg.2.2.2; omega
  have hj : 2 < A.2.2 := by have := hg.2.2.2; omega
  have kK : ∀ k, k < 49 → k < hK A := fun k hk => hG.k A hg hk
  have uj : ∀ w, (hT S 0 w).2.2.2.1 2 = S.2.2.2.1 2 := fun w => hT_ne _ _ (by omega)
  have cp : ∀ r w, r < 7 → r ≠ 4 → f_X0_copies (hTr A 2 r) (hTr A 0 r) (hMem A R (hT S 0 w)) = some (.inl none, hMem A R (hT S 0 (cpW r (S.2.2.2.1 2) w))) := fun r w hr h4 => by
    have := hr_cp hg R (hT S 0 w) (i := 0) (j := 2) hi hj hr (fun h => absurd h h4)
    rw [uj, hT_same, hT_hT] at this
    exact this
  have start : hMem A R S = hMem A R (hT S 0 (S.2.2.2.1 0)) := by rw [hT_self]
  have c0 := cp 0 (S.2.2.2.1 0) (by omega) (by omega)
  have c1 := cp 1 (cpW 0 (S.2.2.2.1 2) (S.2.2.2.1 0)) (by omega) (by omega)
  have c2 := cp 2 (cpW 1 (S.2.2.2.1 2) (cpW 0 (S.2.2.2.1 2) (S.2.2.2.1 0))) (by omega) (by omega)
  have c3 := cp 3 (cpW 2 (S.2.2.2.1 2) (cpW 1 (S.2.2.2.1 2) (cpW 0 (S.2.2.2.1 2) (S.2.2.2.1 0)))) (by omega) (by omega)
  generalize hW3 : cpW 3 (S.2.2.2.1 2) (cpW 2 (S.2.2.2.1 2) (cpW 1 (S.2.2.2.1 2) (cpW 0 (S.2.2.2.1 2) (S.2.2.2.1 0)))) = W3 at c3
  have c5 := cp 5 W3 (by omega) (by omega)
  have c6 := cp 6 (cpW 5 (S.2.2.2.1 2) W3) (by omega) (by omega)
  generalize hE : sArr 0 12 (hCo (S.2.2.2.1 2)) = E
  have c4 : f_X0_copies (hTr A 2 4) (hTr A 0 4) (hMem A R (hT S 0 W3)) = some (.inl none, sUp (hMem A R (hT S 0 W3)) (hTr A 0 4) E) := by
    have e1 : sCpI (hMem A R (hT S 0 W3)) (hTr A 2 4) 0 (hTr A 0 4) 0 (nI 12) = some (sUp (hMem A R (hT S 0 W3)) (hTr A 0 4) E) := by
      unfold sCpI
      rw [hMem_tr hg R _ hj (show 4 < 7 by omega), hMem_tr hg R _ hi (show 4 < 7 by omega)]
      have c0 : (0 : Int32).toNatClampNeg = 0 := by decide
      have n0 : ¬ (0 : Int32) < 0 := by decide
      have e4 : hTl 4 = 12 := rfl
      simp only [sArr, e4]
      rw [nI_clamp (by omega), c0, if_pos ⟨hg.2.1 _ (kK 30 (by omega)), n0, n0, nI_pos (by omega), by omega, by omega⟩, ← hE]
      refine congrArg some (congrArg (sUp _ _) (congrArg (sArr 0 12) ?_))
      funext p
      unfold va_cpy
      rw [uj, hT_same]
      show (if _ then hCo _ _ else hCo _ p) = hCo _ p
      by_cases hp : p < 12
      · rw [if_pos ⟨by omega, by omega⟩]
        congr 1
        omega
      · rw [if_neg (by omega)]
        unfold hCo
        rw [if_neg (by omega), if_neg (by omega)]
    unfold f_X0_copies
    rw [hr_len hg R _ hj (show 4 < 7 by omega), obS]
    show (sCpI (hMem A R (hT S 0 W3)) (hTr A 2 4) 0 (hTr A 0 4) 0 (nI 12)).bind _ = _
    rw [e1, obS]
  have n25 : hTr A 2 5 ≠ hTr A 0 4 := hNe hg (j := 26 + 8 * 2 + 5) (k := 26 + 8 * 0 + 4) (kK _ (by omega)) (kK _ (by omega)) (by omega)
  have n05 : hTr A 0 5 ≠ hTr A 0 4 := hNe hg (j := 26 + 8 * 0 + 5) (k := 26 + 8 * 0 + 4) (kK _ (by omega)) (kK _ (by omega)) (by omega)
  have n26 : hTr A 2 6 ≠ hTr A 0 4 := hNe hg (j := 26 + 8 * 2 + 6) (k := 26 + 8 * 0 + 4) (kK _ (by omega)) (kK _ (by omega)) (by omega)
  have n06 : hTr A 0 6 ≠ hTr A 0 4 := hNe hg (j := 26 + 8 * 0 + 6) (k := 26 + 8 * 0 + 4) (kK _ (by omega)) (kK _ (by omega)) (by omega)
  have d5 := cp_up (a := hTr A 0 4) n25 n05 E c5
  have d6 := cp_up (a := hTr A 0 4) n26 n06 E c6
  have n0 : hTa A 0 ≠ hTr A 0 4 := hNe hg (j := 25 + 8 * 0) (k := 26 + 8 * 0 + 4) (kK _ (by omega)) (kK _ (by omega)) (by omega)
  have n2 : hTa A 2 ≠ hTr A 0 4 := hNe hg (j := 25 + 8 * 2) (k := 26 + 8 * 0 + 4) (kK _ (by omega)) (kK _ (by omega)) (by omega)
  have gN0 := fun (M : sMem) ci k => gn_up M n0 E ci k
  have gN2 := fun (M : sMem) ci k => gn_up M n2 E ci k
  have gI2 := fun (M : sMem) ci k => gi_up M n2 E ci k
  have pT0 := fun (M : sMem) ci k v => pt_up M n0 E ci k v
  have p7 : ∀ w, sPut (hMem A R (hT S 0 w)) 2 7 (hTa A 0) (.int (hBits (S.2.2.2.1 2) 55)) = some (hMem A R (hT S 0 (cpB 55 (S.2.2.2.1 2) w))) := fun w => by
    have := ht_putB hg R (hT S 0 w) (Or.inl ⟨rfl, rfl⟩) hi (S.2.2.2.1 2)
    rw [hT_same, hT_hT] at this
    exact this
  have p8 : ∀ w, sPut (hMem A R (hT S 0 w)) 2 8 (hTa A 0) (.int (hBits (S.2.2.2.1 2) 67)) = some (hMem A R (hT S 0 (cpB 67 (S.2.2.2.1 2) w))) := fun w => by
    have := ht_putB hg R (hT S 0 w) (Or.inr ⟨rfl, rfl⟩) hi (S.2.2.2.1 2)
    rw [hT_same, hT_hT] at this
    exact this
  rw [start]
  unfold f_X2_become
  rw [tgN_0 hg _ _ hj, obS, tgN_0 hg _ _ hi, obS]
  simp only [hT_same, c0, hcV]
  rw [tgN_1 hg _ _ hj, obS, tgN_1 hg _ _ hi, obS]
  simp only [c1, hcV]
  rw [tgN_2 hg _ _ hj, obS, tgN_2 hg _ _ hi, obS]
  simp only [c2, hcV]
  rw [tgN_3 hg _ _ hj, obS, tgN_3 hg _ _ hi, obS]
  simp only [c3, hcV]
  rw [tgN_4 hg _ _ hj, obS, tgN_4 hg _ _ hi, obS]
  simp only [c4, hcV]
  rw [gN2, tgN_5 hg _ _ hj, obS, gN0, tgN_5 hg _ _ hi, obS]
  simp only [d5, hcV]
  rw [gN2, tgN_6 hg _ _ hj, obS, gN0, tgN_6 hg _ _ hi, obS]
  simp only [d6, hcV]
  simp (disch := omega) only [gI2, pT0, Option.map_some, tgI_7 hg, tgI_8 hg, tgI_9 hg, tgI_10 hg, tgI_11 hg, tgI_12 hg, tgI_13 hg, tgI_14 hg, tgI_15 hg, tgI_16 hg, uj, obS, p7, p8, tp_9 hg, tp_10 hg, tp_11 hg, tp_12 hg, tp_13 hg, tp_14 hg, tp_15 hg, tp_16 hg, hT_same, hT_hT]
  refine congrArg (fun M => some (Sum.inl none, sUp M (hTr A 0 4) E)) (hT_eq R S (fun p hp => ?_) (fun hi2 p hp => ?_))
  · by_cases hx : 43 ≤ p ∧ p < 55 ∨ p = 571
    · rw [H5 p (by omega), ← hW3]
      simp only [upd, cpB, cpW, hOf, hTl, true_and]
      refine iteS (fun e => by omega) (fun e0 => ?_)
      refine iteS (fun e => by omega) (fun e1 => ?_)
      refine iteS (fun e => by omega) (fun e2 => ?_)
      refine iteS (fun e => by omega) (fun e3 => ?_)
      refine iteS (fun e => by omega) (fun e4 => ?_)
      refine iteS (fun e => by omega) (fun e5 => ?_)
      refine iteS (fun e => by omega) (fun e6 => ?_)
      refine iteS (fun e => by omega) (fun e7 => ?_)
      refine iteS (fun e => by omega) (fun d0 => ?_)
      refine iteS (fun e => by omega) (fun d1 => ?_)
      refine iteS (fun e => by omega) (fun d2 => ?_)
      refine iteS (fun e => by omega) (fun d3 => ?_)
      refine iteS (fun e => by omega) (fun d4 => ?_)
      refine iteS (fun e => by omega) (fun d5 => ?_)
      refine iteS (fun e => by omega) (fun d6 => ?_)
      refine iteS (fun e => by omega) (fun d7 => ?_)
      rfl
    · rw [H p (by omega), ← hW3]
      simp only [upd, cpB, cpW, hOf, hTl, true_and]
      refine iteS (fun e => by rw [e]) (fun e0 => ?_)
      refine iteS (fun e => by rw [e]) (fun e1 => ?_)
      refine iteS (fun e => by rw [e]) (fun e2 => ?_)
      refine iteS (fun e => by rw [e]) (fun e3 => ?_)
      refine iteS (fun e => by rw [e]) (fun e4 => ?_)
      refine iteS (fun e => by rw [e]) (fun e5 => ?_)
      refine iteS (fun e => by rw [e]) (fun e6 => ?_)
      refine iteS (fun e => by rw [e]) (fun e7 => ?_)
      refine iteS (fun _ => rfl) (fun d0 => ?_)
      refine iteS (fun _ => rfl) (fun d1 => ?_)
      refine iteS (fun _ => rfl) (fun d2 => ?_)
      refine iteS (fun _ => rfl) (fun d3 => ?_)
      refine iteS (fun _ => rfl) (fun d4 => ?_)
      refine iteS (fun _ => rfl) (fun d5 => ?_)
      refine iteS (fun _ => rfl) (fun d6 => ?_)
      refine iteS (fun _ => rfl) (fun d7 => ?_)
      omega
  · rw [H5 p (by omega), ← hW3]
    simp only [upd, cpB, cpW, hOf, hTl, true_and]
    refine iteS (fun e => by omega) (fun e0 => ?_)
    refine iteS (fun e => by omega) (fun e1 => ?_)
    refine iteS (fun e => by omega) (fun e2 => ?_)
    refine iteS (fun e => by omega) (fun e3 => ?_)
    refine iteS (fun e => by omega) (fun e4 => ?_)
    refine iteS (fun e => by omega) (fun e5 => ?_)
    refine iteS (fun e => by omega) (fun e6 => ?_)
    refine iteS (fun e => by omega) (fun e7 => ?_)
    refine iteS (fun e => by omega) (fun d0 => ?_)
    refine iteS (fun e => by omega) (fun d1 => ?_)
    refine iteS (fun e => by omega) (fun d2 => ?_)
    refine iteS (fun e => by omega) (fun d3 => ?_)
    refine iteS (fun e => by omega) (fun d4 => ?_)
    refine iteS (fun e => by omega) (fun d5 => ?_)
    refine iteS (fun e => by omega) (fun d6 => ?_)
    refine iteS (fun e => by omega) (fun d7 => ?_)
    rfl
/-- the number of worms put, and with it the cocoons of another world told -/
theorem put21X {A : hA} (hg : hG A) (R : sMem) (S : hS) {u t' : Nat → Int32} (H : ∀ p, (p < 43 ∨ 55 ≤ p ∧ p < 571 ∨ p = 573 ∨ 581 ≤ p ∧ p < 605 ∨ 871 ≤ p ∧ p < 1471) → u p = t' p) : sPut (sUp (hMem A R (hT S 0 t')) (hTr A 0 4) (sArr 0 12 (hCo u))) 0 21 (hX A) (.int (u 571)) = some (hMem A R (hT S 0 u)) := by
  have kK : ∀ k, k < 49 → k < hK A := fun k hk => hG.k A hg hk
  have n0 : hX A ≠ hTr A 0 4 := hNe hg (j := 0) (k := 26 + 8 * 0 + 4) (kK _ (by omega)) (kK _ (by omega)) (by omega)
  have hl : (hXs A (hT S 0 t')).length = 47 := by simp [hXs]
  have hf : sFs (hMem A R (hT S 0 t')) 0 (hX A) = some (hXs A (hT S 0 t')) := by simp [sFs, hMem_x hg, sObj]
  have hb : (hMem A R (hT S 0 t')).1 ≤ hX A := hg.2.1 0 (kK 0 (by omega))
  unfold sPut
  rw [fs_up _ n0, hf]
  simp only []
  rw [if_pos ⟨hb, by rw [hl]; omega⟩]
  refine congrArg some ?_
  show sUp (sUp (hMemC A R (hCell A (hT S 0 t'))) (A.2.1 30) (sArr 0 12 (hCo u))) (A.2.1 0) (sObj 0 ((hXs A (hT S 0 t')).set 21 (.int (u 571)))) = hMemC A R (hCell A (hT S 0 u))
  rw [hMemC_up hg R _ (kK 30 (by omega)), hMemC_up hg R _ (kK 0 (by omega))]
  refine hMemC_congr R fun k hk => ?_
  unfold hUc
  by_cases k0 : k = 0
  · subst k0
    rw [if_pos rfl]
    show _ = sObj 0 (hXs A (hT S 0 u))
    refine congrArg (sObj 0) ?_
    apply List.ext_getElem?
    intro i
    rw [List.getElem?_set]
    by_cases hi : 21 = i
    · subst hi
      rw [if_pos rfl, if_pos (by rw [hl]; omega)]
      simp [hXs, hXf, hT]
    · rw [if_neg hi]
      by_cases h9 : i < 47
      · simp only [hXs, List.getElem?_map, List.getElem?_range h9, Option.map_some, Option.some.injEq]
        unfold hXf
        split <;> first | rfl | (exact absurd rfl hi)
      · rw [List.getElem?_eq_none (by simp [hXs]; omega), List.getElem?_eq_none (by simp [hXs]; omega)]
  · rw [if_neg k0]
    by_cases k30 : k = 30
    · subst k30
      rw [if_pos rfl]
      have e := hCell_tray A (hT S 0 u) (i := 0) (j := 5) (by omega)
      have e2 : hCell A (hT S 0 u) 30 = hTray A (hT S 0 u) 0 5 := e
      rw [e2]
      show _ = sArr 0 (hTl 4) (hRow 4 ((hT S 0 u).2.2.2.1 0))
      rw [hT_same]
      rfl
    · rw [if_neg k30]
      have := hT_gen (A := A) (S := hT S 0 t') (i := 0) (k := k) (w := u) (fun h _ => absurd h k0) (fun _ _ p a b => by rw [hT_same]; exact H p (by omega)) (fun _ _ p a b => by rw [hT_same]; exact H p (by omega)) (fun _ h => by omega) (fun _ h => by omega) (fun _ p hp => by rw [hT_same]; exact H p (by omega)) (fun r hr hkr => by
        rw [hT_same]
        have hr7 : r = 0 ∨ r = 1 ∨ r = 2 ∨ r = 3 ∨ r = 4 ∨ r = 5 ∨ r = 6 := by omega
        refine ⟨fun p a b => ?_, fun h4 => by omega⟩
        rcases hr7 with rfl | rfl | rfl | rfl | rfl | rfl | rfl <;> simp only [hOf, hTl] at a b <;> first | (exact H p (by omega)) | (exfalso; omega))
      rw [hT_hT] at this
      exact this.symm
theorem f_gives {A : hA} (hg : hG A) (R : sMem) (S : hS) {u : Nat → Int32} (hu : S.2.2.2.1 2 = u) {q16 q18 q19 q20 q29 q31 q34 q35 : Nat} (r38 : S.1 38 = .int (u 571)) (r16 : S.1 46 = .ref q16) (r18 : S.1 39 = .ref q18) (r19 : S.1 40 = .ref q19) (r20 : S.1 42 = .ref q20) (r29 : S.1 41 = .ref q29) (r31 : S.1 43 = .ref q31) (r34 : S.1 44 = .ref q34) (r35 : S.1 45 = .ref q35) : f_X0_goesBack (hX A) (hMem A R S) = some (.inl none, hMem A R (hF (hF (hF (hF (hF (hF (hF (hF (hF (hT S 0 u) 18 (.ref q18)) 19 (.ref q19)) 29 (.ref q29)) 20 (.ref q20)) 31 (.ref q31)) 34 (.ref q34)) 35 (.ref q35)) 16 (.ref q16)) 28 (.int 0))) := by
  have h0 : 0 < A.2.2 := by have := hg.2.2.2; omega
  have h2 : 2 < A.2.2 := by have := hg.2.2.2; omega
  have kK : ∀ k, k < 49 → k < hK A := fun k hk => hG.k A hg hk
  have n0 : hX A ≠ hTr A 0 4 := hNe hg (j := 0) (k := 26 + 8 * 0 + 4) (kK _ (by omega)) (kK _ (by omega)) (by omega)
  have c1 := hq_cp hg R S (ka := 7) (kb := 3) (o := 581) (n := 12) (i := 0) (j := 2) (by omega) (by omega)
  rw [hu] at c1
  generalize hW1 : cpO 581 12 u (S.2.2.2.1 0) = W1 at c1
  have c2 := hq_cp hg R (hT S 0 W1) (ka := 8) (kb := 4) (o := 871) (n := 600) (i := 0) (j := 2) (by omega) (by omega)
  rw [hT_same, hT_ne _ _ (show 2 ≠ 0 by omega), hT_hT, hu] at c2
  generalize hW2 : cpO 871 600 u W1 = W2 at c2
  have e2 : ∀ p, W2 p = if 871 ≤ p ∧ p < 1471 ∨ 581 ≤ p ∧ p < 593 then u p else S.2.2.2.1 0 p := fun p => by
    rw [← hW2, ← hW1]
    unfold cpO
    by_cases c : 871 ≤ p ∧ p < 871 + 600
    · rw [if_pos c, if_pos (by omega)]
    · rw [if_neg c]
      by_cases c3 : 581 ≤ p ∧ p < 581 + 12
      · rw [if_pos c3, if_pos (by omega)]
      · rw [if_neg c3, if_neg (by omega)]
  generalize hT' : (fun p => if 43 ≤ p ∧ p < 55 ∨ p = 571 then S.2.2.2.1 0 p else u p) = t'
  have et : ∀ p, t' p = if 43 ≤ p ∧ p < 55 ∨ p = 571 then S.2.2.2.1 0 p else u p := fun p => by rw [← hT']
  have bec := f_becomeX hg R (hT S 0 W2) (t' := t') (fun p hp => by
    rw [hT_ne _ _ (by omega), hu, et, if_neg (by omega)]) (fun p hp => by
    rw [hT_same, et, e2]
    by_cases c : 43 ≤ p ∧ p < 55 ∨ p = 571
    · rw [if_pos c, if_neg (by omega)]
    · rw [if_neg c, if_pos (by omega)])
  rw [hT_hT, hT_ne _ _ (show 2 ≠ 0 by omega), hu] at bec
  have p21 := put21X hg R S (u := u) (t' := t') (fun p hp => by rw [et, if_neg (by omega)])
  have g38 : sGetI (sUp (hMem A R (hT S 0 t')) (hTr A 0 4) (sArr 0 12 (hCo u))) 0 38 (hX A) = some (u 571) := by
    rw [gi_up _ n0, xgI_38 hg, hT_1, r38, hvI_int]
  unfold f_X0_goesBack
  rw [xgN_36 hg, obS, xgN_22 hg, obS, c1]
  simp only [hcV]
  rw [xgN_37 hg, obS, xgN_26 hg, obS, c2]
  simp only [hcV]
  rw [xgN_23 hg, obS, xgN_25 hg, obS, ht_chk hg _ _ h0, bec]
  simp only [hcV]
  rw [g38, obS, p21, obS]
  simp (disch := omega) only [hcV, obS, xp_16 hg, xp_18 hg, xp_19 hg, xp_20 hg, xp_28 hg, xp_29 hg, xp_31 hg, xp_34 hg, xp_35 hg, xgN_39 hg, xgN_40 hg, xgN_41 hg, xgN_42 hg, xgN_43 hg, xgN_44 hg, xgN_45 hg, xgN_46 hg, hF_ne, hT_1, r16, r18, r19, r20, r29, r31, r34, r35, hvN_ref]
theorem j_image {A : hA} {R : sMem} {S : hS} {g : Nat → Nat} {b L : Nat} {xs : Nat → Int32} (h : hInv A R S g b L xs) (v : Int32) : hOp A R S g b L xs (f_X0_image (hX A) v) (f_X3_image (A.2.1 9) v) := by
  by_cases hv : v = 0
  · subst hv
    have hg := h.1.1
    have ht := h.t0
    have hq : ∀ (R : sMem), R.1 ≤ A.2.1 9 → ∀ s : mSt, f_X3_image (A.2.1 9) 0 (mPut R (A.2.1 9) s) = lft R (A.2.1 9) (p_X3_image (A.2.1 9) 0 s) := fun R hR s => q_X3_image R _ hR 0 s
    obtain ⟨z1, hD⟩ := h.2.2.2.1
    rcases hD with ⟨m5, r46⟩ | ⟨m5, eT, wa, r38, ⟨q0, r0, b0⟩, ⟨q1, r1, b1⟩, ⟨q2, r2, b2⟩, ⟨q3, r3, b3⟩, ⟨q4, r4, b4⟩, ⟨q5, r5, b5⟩, ⟨q6, r6, b6⟩, q7, r7, b7⟩
    · refine hOp.read0 h hq (v := 0) ?_ ?_
      · simp only [f_X0_image, xgR_46 hg, r46, hvR_null, obS, ↓reduceIte]
      · simp only [p_X3_image, qg, obS, m5, ↓reduceIte]
    · have gv := f_gives hg R S (u := S.2.2.2.1 2) rfl r38 r0 r1 r2 r3 r4 r5 r6 r7
      have pv := px_give (A.2.1 9) S.2.2.2.2.2
      have eu : imW (S.2.2.2.2.2.2 1) (S.2.2.2.2.2.2 0) = S.2.2.2.1 2 := by
        funext p
        unfold imW
        by_cases hp : p < 2355
        · rw [if_pos hp, eT]
        · rw [if_neg hp, ht, h.1.2.2.2.2.2.1 p (by omega), eT, z1 p (by omega)]
      rw [eu] at pv
      generalize hU : S.2.2.2.1 2 = u at *
      generalize hS1 : hF (hF (hF (hF (hF (hF (hF (hF (hF (hT S 0 u) 18 (.ref q1)) 19 (.ref q2)) 29 (.ref q4)) 20 (.ref q3)) 31 (.ref q5)) 34 (.ref q6)) 35 (.ref q7)) 16 (.ref q0)) 28 (.int 0) = S1 at gv
      have F : ∀ k, (k < 16 ∨ k = 17 ∨ 20 < k) → k ≠ 28 → k ≠ 29 → k ≠ 31 → k ≠ 34 → k ≠ 35 → S1.1 k = S.1 k := fun k hk a1 a2 a3 a4 a5 => by
        rw [← hS1]
        simp (disch := omega) only [hF_ne, hT_1]
      have G : S1.1 16 = .ref q0 ∧ S1.1 18 = .ref q1 ∧ S1.1 19 = .ref q2 ∧ S1.1 20 = .ref q3 ∧ S1.1 29 = .ref q4 ∧ S1.1 31 = .ref q5 ∧ S1.1 34 = .ref q6 ∧ S1.1 35 = .ref q7 ∧ S1.1 28 = .int 0 := by
        rw [← hS1]
        simp (disch := omega) only [hF_ne, hF_same, and_self]
      obtain ⟨g16, g18, g19, g20, g29, g31, g34, g35, g28⟩ := G
      have T0 : S1.2.2.2.1 0 = u := by
        rw [← hS1]
        show (hT S 0 u).2.2.2.1 0 = _
        rw [hT_same]
      have Tn : ∀ k, k ≠ 0 → S1.2.2.2.1 k = S.2.2.2.1 k := fun k hk => by
        rw [← hS1]
        show (hT S 0 u).2.2.2.1 k = _
        rw [hT_ne _ _ hk]
      have sM : S1.2.2.2.2 = S.2.2.2.2 := by rw [← hS1]; rfl
      have sR : S1.2.1 = S.2.1 := by rw [← hS1]; rfl
      have sA : S1.2.2.1 = S.2.2.1 := by rw [← hS1]; rfl
      generalize hm : mSet (mSet (mRowSet S.2.2.2.2.2 0 u) 4 0) 5 1 = s' at pv
      have m1 : ∀ k, k ≠ 5 → k ≠ 4 → s'.1 k = S.2.2.2.2.2.1 k := fun k h5 h4 => by rw [← hm, ms_ne _ _ h5, ms_ne _ _ h4, mrs_1]
      have m2 : ∀ k, k ≠ 0 → s'.2 k = S.2.2.2.2.2.2 k := fun k hk => by rw [← hm, ms_2, ms_2, mrs_ne _ _ hk]
      have m20 : s'.2 0 = u := by rw [← hm, ms_2, ms_2, mrs_same]
      have m15 : s'.1 5 = 1 := by rw [← hm, ms_same]
      have m14 : s'.1 4 = 0 := by rw [← hm, ms_ne _ _ (by omega), ms_same]
      refine hOp.write h hq (v := 1) (S1 := S1) (R' := R) (s' := s') ?_ (by rw [sM]) ((hEx.refl R).le (by omega) (by omega)) ?_ ?_
      · simp only [f_X0_image, f_X0_image_J13, xgR_46 hg, r0, hvR_ref, hx_chk hg, gv, eq_self, ↓reduceIte, hcI, hcN, hcV, obS, if_true, if_false]
      · have n10 : ¬ (1 : Int32) = 0 := by decide
        simp only [p_X3_image, qg, obS, m5, n10, ↓reduceIte]
        exact pv
      · refine h.forget (fun _ _ h => h) h.1.2.1 (t' := u) (s' := s') ?_ wa (fun r hr => ?_) ?_ ?_ ?_ ?_ ?_ ?_ ?_ rfl ?_ ?_ ?_ ?_
        · exact T0
        · rw [eT]
          exact z1 r hr
        · exact ⟨⟨q0, g16, b0⟩, ⟨q1, g18, b1⟩, ⟨q2, g19, b2⟩, ⟨q3, g20, b3⟩, ⟨q4, g29, b4⟩, ⟨q5, g31, b5⟩, ⟨q6, g34, b6⟩, q7, g35, b7⟩
        · exact (Tn 2 (by omega))
        · show S1.2.2.2.2.1 0 = 0
          rw [sM]
          exact h.1.2.2.1
        · exact sA
        · exact congrFun sR 1
        · exact g28
        · intro k hk
          exact F k (by omega) (by omega) (by omega) (by omega) (by omega) (by omega)
        · exact m20
        · intro j hj
          exact m2 j (by omega)
        · exact m14
        · intro k hk
          by_cases k5 : k = 5
          · rw [k5, m15, m5]
          · exact m1 k k5 (by omega)
  · exact j_image1 h hv
