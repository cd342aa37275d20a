/-! the component's side: flying, a day -/
set_option maxRecDepth 100000
theorem f_fly {A : hA} {R : sMem} {S : hS} (hg : hG A) {k : Nat} (hk : k < A.2.2) {t : Nat → Int32} (ht : S.2.2.2.1 k = t) (hw : wAct t) {tr : Bool} (hm : hMode S k tr) {i : Nat} (hi : i < hN t) : f_X2_flies (hTa A k) (nI i) (hMem A R S) = some (.inl (some (.int (b01 (wFlies i t)))), hMem A R (hT S k (wGrow tr i t))) := by
  have hn := hw.n
  obtain ⟨c, hc1, hc2, hc3, hc4⟩ := hCo_at hw.2 hn hi
  have l4 := hr_ld4 hg R S hk (p := i) (by omega)
  rw [ht, hc2] at l4
  unfold wGrow
  by_cases c1 : t (43 + i) = -1
  · rw [if_pos c1, ← ht, hT_self]
    have hc0 : c = 0 := hc4.mp c1
    subst hc0
    have z : nI 0 = 0 := nI_0
    have e9 : wFlies i (S.2.2.2.1 k) = false := by
      rw [ht]
      simp [wFlies, c1]
    rw [e9]
    simp (disch := omega) only [f_X2_flies, tgN_4 hg, l4, eq_self, hcI, hcN, hcV, obS, if_true, if_false, z, b01]
    rfl
  · rw [if_neg c1]
    have hc0 : c ≠ 0 := fun e => c1 (hc4.mpr e)
    have hcz : ¬ nI c = 0 := fun e => hc0 ((nI_eq (b := 0) (by omega) (by omega)).mp e)
    -- a day older
    have wo := wAct_old hw hi
    have hno : hN (wOld i t) = hN t := hN_al (wOld_al i t (by omega))
    have eo : wOld i t (43 + i) = (if t (43 + i) + 1 ≤ 9999 then t (43 + i) + 1 else 9999) := by unfold wOld; rw [upd_same]
    have ev : (if nI c + 1 < 10000 then nI c + 1 else 10000) = wOld i t (43 + i) + 1 := by
      rw [eo, hc3]
      have e1 : nI c + 1 = nI (c + 1) := nI_1 c
      by_cases g : c ≤ 9999
      · have g1 : nI c ≤ (9999 : Int32) := (nI_leI (b := 9999) (by omega) (by omega)).mpr g
        rw [if_pos g1, e1]
        by_cases g2 : c + 1 < 10000
        · have : nI (c + 1) < (10000 : Int32) := (nI_ltI (b := 10000) (by omega) (by omega)).mpr g2
          rw [if_pos this]
        · have : ¬ nI (c + 1) < (10000 : Int32) := fun q => g2 ((nI_ltI (b := 10000) (by omega) (by omega)).mp q)
          rw [if_neg this]
          have : c = 9999 := by omega
          subst this
          decide
      · have g1 : ¬ nI c ≤ (9999 : Int32) := fun q => g ((nI_leI (b := 9999) (by omega) (by omega)).mp q)
        rw [if_neg g1, e1]
        have : ¬ nI (c + 1) < (10000 : Int32) := fun q => absurd ((nI_ltI (b := 10000) (by omega) (by omega)).mp q) (by omega)
        rw [if_neg this]
        decide
    have s4 := hr_st4 hg R S hk (p := i) (by omega) (by rw [ht]; exact hi) (wOld i t (43 + i)) (if nI c + 1 < 10000 then nI c + 1 else 10000) ev
    rw [ht] at s4
    have eu : upd t (43 + i) (wOld i t (43 + i)) = wOld i t := by rw [eo]; rfl
    rw [eu] at s4
    obtain ⟨c', hc1', hc2', hc3', hc4'⟩ := hCo_at wo.2 (by rw [hno]; exact hn) (i := i) (by rw [hno]; exact hi)
    have l4' := hr_ld4 hg R (hT S k (wOld i t)) hk (p := i) (by omega)
    rw [hT_same, hc2'] at l4'
    have e21 : nI c' = 21 ↔ wOld i t (43 + i) = 20 := by
      rw [← hc3']
      have : (21 : Int32) = 20 + 1 := by decide
      rw [this]
      exact Int32.add_left_inj 1
    have b1 := fx_has A R (hT S k (wOld i t)) (wOld i t) (o := 55) (w := i) (by omega)
    have e55 : wOld i t (55 + i) = t (55 + i) := upd_ne _ _ (by omega)
    have e67 : wOld i t (67 + i) = t (67 + i) := upd_ne _ _ (by omega)
    rw [e55] at b1
    have b55 := (hw.2.1 i hi).2.2.1
    have h10 : ¬ (1 : Int32) = 0 := by decide
    unfold wFlies
    by_cases k2 : wOld i t (43 + i) = 20
    · have k2' := e21.mpr k2
      by_cases k3 : t (55 + i) = 0
      · have k3' : ¬ t (55 + i) = 1 := by rw [k3]; decide
        rw [if_neg k3'] at b1
        have h6 := wo.2.2.2.1
        have en := f_note (R := R) (S := hT S k (wOld i t)) hg hk (hT_same _ _ _) (hm.T _ _) h6 4 (wOld i t (19 + i)) i
        rw [hT_hT] at en
        have off : ∀ p, p ≠ 6 → ¬ (871 ≤ p ∧ p < 1471) → wNote tr 4 i (wOld i t (19 + i)) (wOld i t) p = wOld i t p := fun p hp hp2 => wNote_off tr _ _ _ _ h6 hp hp2
        generalize hN1 : wNote tr 4 i (wOld i t (19 + i)) (wOld i t) = t1 at *
        have p8 := ht_put8 hg R (hT S k t1) hk (w := i) (by omega) 1
        rw [hT_same, hT_hT] at p8
        have b8 : hBits t1 67 ||| (1 : Int32) <<< (nI i &&& 31) = hBits (upd t1 (67 + i) 1) 67 := hBits_or t1 (by omega)
        have T2 : hN (upd t1 (67 + i) 1) = hN t := by
          rw [hN_eq (upd_ne t1 1 (show (571 : Nat) ≠ 67 + i by omega)), hN_eq (off 571 (by omega) (by omega)), hno]
        have q4 := hr_st4 hg R (hT S k (upd t1 (67 + i) 1)) hk (p := i) (by omega) (by rw [hT_same, T2]; exact hi) (-1) 0 (by decide)
        rw [hT_same, hT_hT] at q4
        have eb : wFly tr i (wOld i t) = upd (upd (upd (upd (upd t1 (67 + i) 1) (43 + i) (-1)) (19 + i) 0) (31 + i) 0) 4 (t1 4 + 1) := by
          unfold wFly
          rw [hN1, off 4 (by omega) (by omega)]
          congr 1
          rw [upd_comm _ (a := 43 + i) (b := 19 + i) _ _ (by omega), upd_comm _ (a := 43 + i) (b := 31 + i) _ _ (by omega)]
        rw [if_pos (by simp [c1, k2, k3]), eb]
        simp (disch := omega) only [f_X2_flies, tgN_4 hg, l4, eq_self, hcI, hcN, hcV, obS, if_true, if_false, hcz, s4, l4', k2', tgI_7 hg, hT_same, b1, tgN_5 hg, trl_5 hg, ht_chk hg, en, tgI_8 hg, b8, p8, q4, trs_5 hg, hT_hT, tgN_3 hg, trs_3 hg, tgI_14 hg, tp_14 hg, upd_ne]
        simp [c1, k2, k3, b01]
      · have k3' : t (55 + i) = 1 := b55.resolve_left k3
        rw [if_pos k3'] at b1
        rw [if_neg (by simp [k3])]
        simp (disch := omega) only [f_X2_flies, tgN_4 hg, l4, eq_self, hcI, hcN, hcV, obS, if_true, if_false, hcz, s4, l4', k2', tgI_7 hg, hT_same, b1, h10]
        simp [k3, b01]
    · have k2' : ¬ nI c' = 21 := fun e => k2 (e21.mp e)
      rw [if_neg (by simp [k2])]
      simp (disch := omega) only [f_X2_flies, tgN_4 hg, l4, eq_self, hcI, hcN, hcV, obS, if_true, if_false, hcz, s4, l4', k2']
      simp [k2, b01]
/-- how many fly in a day -/
def wFlown (tr : Bool) (t : Nat → Int32) : Nat → Int32
  | 0 => 0
  | n + 1 => wFlown tr t n + b01 (wFlies n (fdN (wGrow tr) t n))
noncomputable def wGone (tr : Bool) (t : Nat → Int32) : Int32 := wFlown tr (wMeals tr t) (hN t)
theorem f_fill {A : hA} {R : sMem} {S : hS} (hg : hG A) {k : Nat} (hk : k < A.2.2) {t : Nat → Int32} (ht : S.2.2.2.1 k = t) : f_J1_fill (hTr A k 2) 0 (hMem A R S) = some (.inl none, hMem A R (hT S k (wZero 12 t))) := by
  have := lp_F (fun f j => f_J1_fill_L5 (hTr A k 2) 0 (nI 12) f (nI j) (hMem A R (hT S k (wZero j t)))) 12 (some (.inl none, hMem A R (hT S k (wZero 12 t)))) ?_ ?_ sFuel (by decide)
  · have e0 : wZero 0 t = t := by
      funext p
      unfold wZero
      rw [if_neg (by omega)]
    have h2 : f_J1_fill_L5 (hTr A k 2) 0 (nI 12) sFuel (nI 0) (hMem A R (hT S k (wZero 0 t))) = _ := this
    rw [e0, ← ht, hT_self] at h2
    unfold f_J1_fill
    rw [trn_2 hg R S hk]
    simp only [obS]
    rw [← ht]
    exact h2
  · intro f j hj
    have eu : upd (wZero j t) (79 + j) 0 = wZero (j + 1) t := by
      funext p
      unfold wZero upd
      by_cases hp : p = 79 + j
      · rw [if_pos hp, if_pos (by omega)]
      · rw [if_neg hp]
        dsimp only
        by_cases h2 : 79 ≤ p ∧ p < 79 + j
        · rw [if_pos h2, if_pos (by omega)]
        · rw [if_neg h2, if_neg (by omega)]
    have h12 : ¬ 12 ≤ j := by omega
    simp (disch := omega) only [f_J1_fill_L5, eq_self, hcI, hcN, hcV, obS, if_true, if_false, nI_leI, h12, trs_2 hg, hT_same, hT_hT, eu, nI_1]
  · intro f
    have h12 : (12 : Nat) ≤ 12 := Nat.le_refl _
    simp (disch := omega) only [f_J1_fill_L5, eq_self, hcI, hcN, hcV, obS, if_true, if_false, nI_leI, h12]
theorem wZero_12 {t : Nat → Int32} (h : wAct t) : wZero 12 t = wZero (hN t) t := by
  have hn := h.n
  funext p
  unfold wZero
  by_cases h1 : 79 ≤ p ∧ p < 79 + hN t
  · rw [if_pos h1, if_pos (by omega)]
  · rw [if_neg h1]
    by_cases h2 : 79 ≤ p ∧ p < 79 + 12
    · rw [if_pos h2]
      have := h.2.2.2.2 (p - 79) (by omega) (by omega)
      rw [show 79 + (p - 79) = p by omega] at this
      exact this.symm
    · rw [if_neg h2]
/-- a meal, if it is due -/
theorem f_meal {A : hA} {R : sMem} {S : hS} (hg : hG A) (hc : hCl A R) {k : Nat} (hk : k < A.2.2) {t : Nat → Int32} (ht : S.2.2.2.1 k = t) (hT0 : hTel R S t) (hw : wAct t) {tr : Bool} (hm : hMode S k tr) (htr : hTr0 S t) {f j : Nat} (hj : j < hMe t) : ∃ R' g, f_X2_goesBy_L2 (hTa A k) (f + 1) (nI j) (hMem A R S) = f_X2_goesBy_L2 (hTa A k) f (nI (j + 1)) (hMem A R' (hRw (hT S k (wMeal tr j t)) 2 g)) ∧ hEx 1 12 R R' ∧ hCl A R' := by
  have h16 : hMe t ≤ 16 := hw.1.2.2.1.1.2
  have h10 : hFc t ≤ 10 := hw.1.2.1.1.2
  have hj' : ¬ hMe t ≤ j := by omega
  obtain ⟨⟨a1, b1⟩, ⟨a2, b2⟩, a3, b3⟩ := wMea_k hw.n h10 hw.1.2.2.1 hj
  obtain ⟨q, hq, fo, ao, m1, m2⟩ := hT0.2.2
  obtain ⟨m3, m4⟩ := m2 j hj
  unfold wMeal
  have G : ∀ (R' : sMem) (S' : hS), hCl A R' → hEx 1 12 R R' → S'.1 = S.1 → sGetN (hMem A R' S') 0 19 (hX A) = some q ∧ sLen (hMem A R' S') q = some (nI (hMe t)) ∧ sAldN (hMem A R' S') q (nI j) = some (ao j) ∧ (∀ o, sChk (hMem A R' S') 10 (ao j) o = o) ∧ f_X11_day (ao j) (hMem A R' S') = some (.inl (some (.int (t (695 + 4 * j)))), hMem A R' S') ∧ f_X11_worm (ao j) (hMem A R' S') = some (.inl (some (.int (t (695 + 4 * j + 1)))), hMem A R' S') ∧ f_X11_a (ao j) (hMem A R' S') = some (.inl (some (.int (t (695 + 4 * j + 2)))), hMem A R' S') ∧ f_X11_b (ao j) (hMem A R' S') = some (.inl (some (.int (t (695 + 4 * j + 3)))), hMem A R' S') := fun R' S' c' ex' es => by
    have x1 := ex'.1 _ _ m1
    have x2 := ex'.1 _ _ m4
    refine ⟨by rw [xgN_19 hg, es, hq, hvN_ref], hR_lenq c' S' x1, hR_ldn c' S' x1 (by omega) hj (by omega) m3, fun o => hR_chk c' S' x2 o, ?_, ?_, ?_, ?_⟩
    · unfold f_X11_day
      rw [hR_I c' S' x2 (k := 0) rfl]
      rfl
    · unfold f_X11_worm
      rw [hR_I c' S' x2 (k := 1) rfl]
      rfl
    · unfold f_X11_a
      rw [hR_I c' S' x2 (k := 2) rfl]
      rfl
    · unfold f_X11_b
      rw [hR_I c' S' x2 (k := 3) rfl]
      rfl
  have ex0 := (hEx.refl R).le (c' := 1) (n' := 12) (by omega) (by omega)
  obtain ⟨g1, g2, g3, g4, g5, g6, g7, g8⟩ := G R S hc ex0 rfl
  rw [b1] at g6
  rw [b2] at g7
  rw [b3] at g8
  have G' : ∀ (f' : Nat → Int32), sGetN (hMem A R (hRw S 2 f')) 0 19 (hX A) = some q ∧ sAldN (hMem A R (hRw S 2 f')) q (nI j) = some (ao j) ∧ (∀ o, sChk (hMem A R (hRw S 2 f')) 10 (ao j) o = o) ∧ f_X11_worm (ao j) (hMem A R (hRw S 2 f')) = some (.inl (some (.int (nI (cv (t (695 + 4 * j + 1)))))), hMem A R (hRw S 2 f')) ∧ f_X11_a (ao j) (hMem A R (hRw S 2 f')) = some (.inl (some (.int (nI (cv (t (695 + 4 * j + 2)))))), hMem A R (hRw S 2 f')) ∧ f_X11_b (ao j) (hMem A R (hRw S 2 f')) = some (.inl (some (.int (bI (wMB t j)))), hMem A R (hRw S 2 f')) := fun f' => by
    obtain ⟨k1, k2, k3, k4, k5, k6, k7, k8⟩ := G R (hRw S 2 f') hc ex0 (hRw_1 _ _ _)
    rw [b1] at k6
    rw [b2] at k7
    rw [b3] at k8
    exact ⟨k1, k3, k4, k6, k7, k8⟩
  generalize cv (t (695 + 4 * j + 1)) = w at *
  generalize cv (t (695 + 4 * j + 2)) = a at *
  generalize wMB t j = b at *
  by_cases k1 : t (695 + 4 * j) = t 0
  · obtain ⟨f1, e1⟩ := f_can hg hc hk ht hT0 hw a1 a2 a3 (htr w (by have := hw.n; omega))
    obtain ⟨k2, k3, k4, k5, k6, k7⟩ := G' f1
    cases hcan : wCan t w a b with
    | false =>
      rw [hcan] at e1
      have h00 : b01 false = 0 := rfl
      refine ⟨R, f1, ?_, ex0, hc⟩
      rw [if_neg (by simp)]
      have es : hT S k t = S := by rw [← ht, hT_self]
      rw [es]
      simp (disch := omega) only [f_X2_goesBy_L2, tgN_18 hg, g1, g2, g3, g4, g5, g6, g7, g8, eq_self, hcI, hcN, hcV, obS, if_true, if_false, nI_leI, hj', tgI_11 hg, ht, k1, ht_chk hg, e1, h00, nI_1]
    | true =>
      rw [hcan] at e1
      have h11 : ¬ b01 true = 0 := by decide
      obtain ⟨R', f2, e2, ex, hc'⟩ := f_feeds (S := hRw S 2 f1) hg hc hk (by rw [hRw_3]; exact ht) (hT0.S (hRw_1 _ _ _)) hw (hm.Rw _ _) (htr.Rw _ _) a1 a2 a3 (wCan_fl hcan)
      rw [hT_hRw, hRw_hRw] at e2
      refine ⟨R', f2, ?_, ex, hc'⟩
      rw [if_pos ⟨k1, rfl⟩]
      simp (disch := omega) only [f_X2_goesBy_L2, tgN_18 hg, g1, g2, g3, g4, g5, g6, g7, g8, eq_self, hcI, hcN, hcV, obS, if_true, if_false, nI_leI, hj', tgI_11 hg, ht, k1, ht_chk hg, e1, h11, k2, k3, k4, k5, k6, k7, e2, nI_1]
  · refine ⟨R, S.2.1 2, ?_, ex0, hc⟩
    rw [if_neg (fun q => k1 q.1)]
    have es : hRw (hT S k t) 2 (S.2.1 2) = S := by rw [← ht, hT_self, hRw_self]
    rw [es]
    simp (disch := omega) only [f_X2_goesBy_L2, tgN_18 hg, g1, g2, g3, g4, g5, eq_self, hcI, hcN, hcV, obS, if_true, if_false, nI_leI, hj', tgI_11 hg, ht, k1, nI_1]
