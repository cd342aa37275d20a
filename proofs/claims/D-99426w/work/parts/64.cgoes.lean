/-! the component's side: a day goes by -/
set_option maxRecDepth 100000
theorem f_goesBy {A : hA} {R : sMem} {S : hS} (hg : hG A) (hc : hCl A R) {k : Nat} (hk : k < A.2.2) {t : Nat → Int32} (ht : S.2.2.2.1 k = t) (hT0 : hTel R S t) (hw : wAct t) {tr : Bool} (hm : hMode S k tr) (htr : hTr0 S t) (hn0 : S.2.2.2.1 0 571 = t 571) : ∃ R' g, f_X2_goesBy (hTa A k) (hMem A R S) = some (.inl (some (.int (wGone tr t))), hMem A R' (hRw (hT S k (wDay tr t)) 2 g)) ∧ hEx 16 192 R R' ∧ hCl A R' := by
  have h16 : hMe t ≤ 16 := hw.1.2.2.1.1.2
  have hn := hw.n
  obtain ⟨m1, al1⟩ := wAct_meals tr hw _ (Nat.le_refl _)
  have start : hMem A R S = hMem A R (hRw (hT S k (fdN (wMeal tr) t 0)) 2 (S.2.1 2)) := by
    show _ = hMem A R (hRw (hT S k t) 2 (S.2.1 2))
    rw [← ht, hT_self, hRw_self]
  unfold f_X2_goesBy
  rw [start]
  refine lp_S (fun f j (x : sMem × (Nat → Int32)) => f_X2_goesBy_L2 (hTa A k) f (nI j) (hMem A x.1 (hRw (hT S k (fdN (wMeal tr) t j)) 2 x.2))) (hMe t) (fun j x => hEx j (12 * j) R x.1 ∧ hCl A x.1) (fun o => ∃ R' g, o = some (.inl (some (.int (wGone tr t))), hMem A R' (hRw (hT S k (wDay tr t)) 2 g)) ∧ hEx 16 192 R R' ∧ hCl A R') ?_ ?_ sFuel (by have : 16 < sFuel := (by decide); omega) (R, S.2.1 2) ⟨hEx.refl R, hc⟩
  · rintro f j ⟨R1, g1⟩ hj ⟨ex, hc1⟩
    left
    simp only at ex hc1
    obtain ⟨w1, al⟩ := wAct_meals tr hw j (by omega)
    have em : hMe (fdN (wMeal tr) t j) = hMe t := congrArg cv (al 575 (by omega))
    obtain ⟨R2, g2, e, ex2, hc2⟩ := f_meal (S := hRw (hT S k (fdN (wMeal tr) t j)) 2 g1) hg hc1 hk (by rw [hRw_3, hT_same]) (((hT0.ex ex.1).al hw.1 al).S (by rw [hRw_1, hT_1])) w1 ((hm.T _ _).Rw _ _) ((htr.T al).Rw _ _) (f := f) (j := j) (by rw [em]; exact hj)
    rw [hT_hRw, hT_hT, hRw_hRw] at e
    exact ⟨(R2, g2), ⟨(ex.trans ex2).le (by omega) (by omega), hc2⟩, e⟩
  · rintro f ⟨R1, g1⟩ ⟨ex, hc1⟩
    simp only at ex hc1
    have fin : f_X2_goesBy_L127 (hTa A k) sFuel (wFlown tr (wMeals tr t) 0) (nI 0) (hMem A R1 (hRw (hT S k (fdN (wGrow tr) (wMeals tr t) 0)) 2 g1)) = some (.inl (some (.int (wGone tr t))), hMem A R1 (hRw (hT S k (wDay tr t)) 2 g1)) := by
      have hn1 : hN (wMeals tr t) = hN t := hN_al al1
      have T0 : ∀ u g, wAl t u → (hRw (hT S k u) 2 g).2.2.2.1 0 571 = t 571 := fun u g hu => by
        rw [hRw_3]
        by_cases e : 0 = k
        · subst e
          rw [hT_same, hu 571 (by omega)]
        · rw [hT_ne _ _ e, hn0]
      have e571 : t 571 = nI (hN t) := hw.1.1.1.1
      refine lp_F (fun f i => f_X2_goesBy_L127 (hTa A k) f (wFlown tr (wMeals tr t) i) (nI i) (hMem A R1 (hRw (hT S k (fdN (wGrow tr) (wMeals tr t) i)) 2 g1))) (hN t) _ ?_ ?_ sFuel (by have : 16 < sFuel := (by decide); omega)
      · intro f i hi
        obtain ⟨w2, al2⟩ := wAct_grown tr (t := wMeals tr t) m1 i (by omega)
        have al3 : wAl t (fdN (wGrow tr) (wMeals tr t) i) := al1.trans al2
        have ef := f_fly (R := R1) (S := hRw (hT S k (fdN (wGrow tr) (wMeals tr t) i)) 2 g1) hg hk (by rw [hRw_3, hT_same]) w2 ((hm.T _ _).Rw _ _) (i := i) (by rw [hN_al al3]; exact hi)
        rw [hT_hRw, hT_hT] at ef
        have t0 := T0 _ g1 al3
        have hi' : ¬ hN t ≤ i := by omega
        have eb : (if b01 (wFlies i (fdN (wGrow tr) (wMeals tr t) i)) = 0 then (0 : Int32) else 1) = b01 (wFlies i (fdN (wGrow tr) (wMeals tr t) i)) := by
          cases wFlies i (fdN (wGrow tr) (wMeals tr t) i) <;> rfl
        simp (disch := omega) only [f_X2_goesBy_L127, tgN_18 hg, xgI_21 hg, t0, e571, eq_self, hcI, hcN, hcV, obS, if_true, if_false, nI_leI, hi', ht_chk hg, ef, eb, nI_1]
        rfl
      · intro f
        obtain ⟨w2, al2⟩ := wAct_grown tr (t := wMeals tr t) m1 (hN t) (by omega)
        have al3 : wAl t (fdN (wGrow tr) (wMeals tr t) (hN t)) := al1.trans al2
        have t0 := T0 _ g1 al3
        have hi' : hN t ≤ hN t := Nat.le_refl _
        have eg : fdN (wGrow tr) (wMeals tr t) (hN t) = wGrown tr (wMeals tr t) := by unfold wGrown; rw [hn1]
        have eq : wFlown tr (wMeals tr t) (hN t) = wGone tr t := by unfold wGone; rfl
        rw [eg] at t0 w2 al3
        have T1 : (hRw (hT S k (wGrown tr (wMeals tr t))) 2 g1).2.2.2.1 k = wGrown tr (wMeals tr t) := by rw [hRw_3, hT_same]
        have wd : wAct (upd (wGrown tr (wMeals tr t)) 0 (wGrown tr (wMeals tr t) 0 + 1)) := ⟨wStat_al ((wAl.refl _).upd _ (by omega)) w2.1, wDyn_safe w2.n w2.2 (fun p hp => upd_ne _ _ (by omega))⟩
        have efi := f_fill (R := R1) (S := hRw (hT S k (upd (wGrown tr (wMeals tr t)) 0 (wGrown tr (wMeals tr t) 0 + 1))) 2 g1) hg hk (by rw [hRw_3, hT_same])
        rw [hT_hRw, hT_hT, wZero_12 wd] at efi
        have hnz : hN (upd (wGrown tr (wMeals tr t)) 0 (wGrown tr (wMeals tr t) 0 + 1)) = hN t := by
          rw [hN_eq (upd_ne (wGrown tr (wMeals tr t)) _ (show (571 : Nat) ≠ 0 by omega)), hN_al al3]
        rw [hnz] at efi
        have ed : wZero (hN t) (upd (wGrown tr (wMeals tr t)) 0 (wGrown tr (wMeals tr t) 0 + 1)) = wDay tr t := rfl
        rw [ed] at efi
        rw [eg, eq]
        simp (disch := omega) only [f_X2_goesBy_L127, tgN_18 hg, xgI_21 hg, t0, e571, eq_self, hcI, hcN, hcV, obS, if_true, if_false, nI_leI, hi', tgI_11 hg, T1, tp_11 hg, hT_hRw, hT_hT, tgN_2 hg, efi]
    have em : sLen (hMem A R1 (hRw (hT S k (fdN (wMeal tr) t (hMe t))) 2 g1)) = sLen (hMem A R1 (hRw (hT S k (fdN (wMeal tr) t (hMe t))) 2 g1)) := rfl
    obtain ⟨q, hq, fo, ao, x1, x2⟩ := (hT0.ex ex.1).2.2
    have ln := hR_lenq hc1 (hRw (hT S k (fdN (wMeal tr) t (hMe t))) 2 g1) x1
    have hF : (hRw (hT S k (fdN (wMeal tr) t (hMe t))) 2 g1).1 19 = .ref q := by rw [hRw_1, hT_1]; exact hq
    have hj' : hMe t ≤ hMe t := Nat.le_refl _
    refine ⟨R1, g1, ?_, ex.le (by omega) (by omega), hc1⟩
    rw [← fin]
    simp (disch := omega) only [f_X2_goesBy_L2, tgN_18 hg, xgN_19 hg, hF, hvN_ref, ln, eq_self, hcI, hcN, hcV, obS, if_true, if_false, nI_leI, hj']
    rfl
/-- what a day leaves at 4: the lost -/
theorem wFeeds_4 (tr : Bool) {i a : Nat} {b : Option Nat} {t : Nat → Int32} (h : wAct t) (hi : i < hN t) : wFeeds tr i a b t 4 = t 4 := by
  have hn := h.n
  have off0 : ∀ p, p ≠ 1 → p ≠ 2 → p ≠ 7 + i → p ≠ 79 + i → wFeed0 i a b t p = t p := fun p => wFeed0_6 i a b t (by omega)
  have al0 := wFeed0_al i a b t (by omega)
  have w0 : wDyn (wFeed0 i a b t) := wDyn_safe hn h.2 (fun p hp => off0 p (by omega) (by omega) (by omega) (by omega))
  have h60 := w0.2.2.1
  have al1 : wAl t (wFeed1 tr i a b t) := al0.trans (wNote_al tr _ _ i _ h60)
  have w1 : wDyn (wFeed1 tr i a b t) := wDyn_note tr _ _ i (by rw [hN_al al0]; exact hn) w0
  have hlo1 := (w1.1 i (by rw [hN_al al1]; exact hi)).1
  have h62 : wSm (wFeed2 tr i (wSpins tr i a b (wFeed1 tr i a b t))) 6 150 := by
    refine wSm_al ?_ w1.2.2.1
    unfold wFeed2
    rw [upd_ne _ _ (by omega), wSpins_off tr i a b _ (by omega) hlo1 (by omega) (by omega) (by omega) (by omega)]
  have e4 : wFeed2 tr i (wSpins tr i a b (wFeed1 tr i a b t)) 4 = t 4 := by
    unfold wFeed2
    rw [upd_ne _ _ (by omega), wSpins_off tr i a b _ (by omega) hlo1 (by omega) (by omega) (by omega) (by omega)]
    unfold wFeed1
    rw [wNote_off tr _ _ i _ h60 (by omega) (by omega)]
    exact off0 4 (by omega) (by omega) (by omega) (by omega)
  unfold wFeeds
  split
  · rw [wHide_off tr h62 (by omega) (by omega) (by omega) (by omega), e4]
  · exact e4
theorem wMeals_4 (tr : Bool) {t : Nat → Int32} (h : wAct t) : wMeals tr t 4 = t 4 := by
  have h10 : hFc t ≤ 10 := h.1.2.1.1.2
  have key : ∀ n, n ≤ hMe t → fdN (wMeal tr) t n 4 = t 4 := by
    intro n
    induction n with
    | zero => intro _; rfl
    | succ n ih =>
      intro hn
      obtain ⟨w1, al⟩ := wAct_meals tr h n (by omega)
      have em : hMe (fdN (wMeal tr) t n) = hMe t := congrArg cv (al 575 (by omega))
      have hk := (wMea_k w1.n w1.1.2.1.1.2 w1.1.2.2.1 (k := n) (by omega)).1.1
      rw [fdN_s, ← ih (by omega)]
      unfold wMeal
      split
      · exact wFeeds_4 tr w1 hk
      · rfl
  exact key _ (Nat.le_refl _)
theorem wGrow_4 (tr : Bool) {t : Nat → Int32} {i : Nat} (h : wAct t) (hi : i < hN t) : wGrow tr i t 4 = t 4 + b01 (wFlies i t) := by
  have hn := h.n
  have e4 : wOld i t 4 = t 4 := upd_ne _ _ (by omega)
  have z : t 4 + 0 = t 4 := Int32.add_zero _
  unfold wGrow
  by_cases c : t (43 + i) = -1
  · have : wFlies i t = false := by simp [wFlies, c]
    rw [if_pos c, this]
    exact z.symm
  · rw [if_neg c]
    cases hf : wFlies i t with
    | true =>
      rw [if_pos rfl]
      unfold wFly
      rw [upd_same, e4]
      rfl
    | false =>
      rw [if_neg (by simp), e4]
      exact z.symm
theorem wDay_4 (tr : Bool) {t : Nat → Int32} (h : wAct t) : wDay tr t 4 = t 4 + wGone tr t := by
  obtain ⟨m1, al1⟩ := wAct_meals tr h _ (Nat.le_refl _)
  have hn1 : hN (wMeals tr t) = hN t := hN_al al1
  have hn := h.n
  have key : ∀ n, n ≤ hN t → fdN (wGrow tr) (wMeals tr t) n 4 = t 4 + wFlown tr (wMeals tr t) n := by
    intro n
    induction n with
    | zero =>
      intro _
      show wMeals tr t 4 = t 4 + 0
      rw [wMeals_4 tr h]
      exact (Int32.add_zero _).symm
    | succ n ih =>
      intro hn
      obtain ⟨w2, al2⟩ := wAct_grown tr (t := wMeals tr t) m1 n (by omega)
      rw [fdN_s, wGrow_4 tr w2 (by rw [hN_al al2]; omega), ih (by omega), Int32.add_assoc]
      rfl
  unfold wDay wZero
  rw [if_neg (by omega), upd_ne _ _ (by omega)]
  unfold wGrown wGone
  rw [hn1]
  exact key _ (Nat.le_refl _)
