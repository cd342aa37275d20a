/-! a new worm -/
set_option maxRecDepth 100000
theorem wStat_al2 {t t' : Nat → Int32} (h : wAl2 t t') (g : wStat t) (hw : wWor t') (hn : hN t ≤ hN t') : wStat t' := by
  obtain ⟨g1, g2, g3, g4, g5, g6, g7, g8, g9⟩ := g
  have E : ∀ p, (p = 572 ∨ 574 ≤ p ∧ p < 581 ∨ 605 ≤ p ∧ p < 871 ∨ 1471 ≤ p) → t' p = t p := h
  have b2 : hFc t ≤ 10 := g2.1.2
  have b3 : hMe t ≤ 16 := g3.1.2
  have b5 : hRc t ≤ 12 := g5.1.2
  have b6 : hKc t ≤ 12 := g6.1.2
  have b8 : hOc t ≤ 16 := g8.1.2
  have b9 : hLn t ≤ 16 := g9.1.2
  have n2 : hFc t' = hFc t := congrArg cv (E _ (by omega))
  have n3 : hMe t' = hMe t := congrArg cv (E _ (by omega))
  have n5 : hRc t' = hRc t := congrArg cv (E _ (by omega))
  have n6 : hKc t' = hKc t := congrArg cv (E _ (by omega))
  have n8 : hOc t' = hOc t := congrArg cv (E _ (by omega))
  have n9 : hLn t' = hLn t := congrArg cv (E _ (by omega))
  refine ⟨hw, ⟨wSm_al (E _ (by omega)) g2.1, fun f hf => ?_⟩, ⟨wSm_al (E _ (by omega)) g3.1, fun k hk => ?_⟩, wSm_al (E _ (by omega)) g4, ⟨wSm_al (E _ (by omega)) g5.1, fun k hk => ?_⟩, ⟨wSm_al (E _ (by omega)) g6.1, fun k hk => ?_⟩, wSm_al (E _ (by omega)) g7, ⟨wSm_al (E _ (by omega)) g8.1, fun k hk => ?_⟩, ⟨wSm_al (E _ (by omega)) g9.1, fun l hl => ?_⟩⟩
  · rw [n2] at hf
    obtain ⟨a1, a2, a3, a4, a5⟩ := g2.2 f hf
    have nm : hMc t' f = hMc t f := congrArg cv (E _ (by omega))
    have : hMc t f ≤ 6 := a1.2
    refine ⟨wSm_al (E _ (by omega)) a1, by rw [nm]; exact a2, wSm_al (E _ (by omega)) a3, wSm_al (E _ (by omega)) a4, fun j hj => ?_⟩
    rw [nm] at hj
    exact wSm_al (E _ (by omega)) (a5 j hj)
  · rw [n3] at hk
    rw [n2, E _ (by omega), E _ (by omega), E _ (by omega)]
    obtain ⟨⟨w, hw, e⟩, h2⟩ := g3.2 k hk
    exact ⟨⟨w, by omega, e⟩, h2⟩
  · rw [n5] at hk
    exact wSm_al (E _ (by omega)) (g5.2 k hk)
  · rw [n6] at hk
    exact ⟨wSm_al (E _ (by omega)) (g6.2 k hk).1, wSm_al (E _ (by omega)) (g6.2 k hk).2⟩
  · rw [n8] at hk
    exact ⟨wSm_al (E _ (by omega)) (g8.2 k hk).1, wSm_al (E _ (by omega)) (g8.2 k hk).2⟩
  · rw [n9] at hl
    obtain ⟨a1, a2, a3⟩ := g9.2 l hl
    exact ⟨wSm_al (E _ (by omega)) a1, wSm_al (E _ (by omega)) a2, wSm_al (E _ (by omega)) a3⟩
def wWorm (n : Nat) (v w : Int32) (t : Nat → Int32) : Nat → Int32 := upd (upd (upd (upd (upd (upd (upd (upd (upd (upd t (581 + n) v) (593 + n) w) (7 + n) 0) (19 + n) 0) (31 + n) 0) (43 + n) (-1)) (55 + n) 0) (67 + n) 0) (79 + n) 0) 571 (nI (n + 1))
theorem wWorm_off {n : Nat} (v w : Int32) (t : Nat → Int32) {p : Nat} (h : p ≠ 571 ∧ p ≠ 581 + n ∧ p ≠ 593 + n ∧ p ≠ 7 + n ∧ p ≠ 19 + n ∧ p ≠ 31 + n ∧ p ≠ 43 + n ∧ p ≠ 55 + n ∧ p ≠ 67 + n ∧ p ≠ 79 + n) : wWorm n v w t p = t p := by
  unfold wWorm
  rw [upd_ne _ _ (by omega), upd_ne _ _ (by omega), upd_ne _ _ (by omega), upd_ne _ _ (by omega), upd_ne _ _ (by omega), upd_ne _ _ (by omega), upd_ne _ _ (by omega), upd_ne _ _ (by omega), upd_ne _ _ (by omega), upd_ne _ _ (by omega)]
theorem wWorm_at {n : Nat} (hn : n < 12) (v w : Int32) (t : Nat → Int32) : wWorm n v w t 571 = nI (n + 1) ∧ wWorm n v w t (581 + n) = v ∧ wWorm n v w t (19 + n) = 0 ∧ wWorm n v w t (43 + n) = -1 ∧ wWorm n v w t (55 + n) = 0 ∧ wWorm n v w t (67 + n) = 0 := by
  unfold wWorm
  refine ⟨upd_same _ _ _, ?_, ?_, ?_, ?_, ?_⟩
  · simp (disch := omega) only [upd_ne, upd_same]
  · simp (disch := omega) only [upd_ne, upd_same]
  · simp (disch := omega) only [upd_ne, upd_same]
  · simp (disch := omega) only [upd_ne, upd_same]
  · simp (disch := omega) only [upd_ne, upd_same]
theorem wAct_worm {t : Nat → Int32} (h : wAct t) {n : Nat} (hn : hN t = n) (hn12 : n < 12) {v : Int32} (hv : ∃ k, k ≤ 3 ∧ v = nI k) (w : Int32) : wAct (wWorm n v w t) ∧ wAl2 t (wWorm n v w t) := by
  obtain ⟨c1, c2, c3, c4, c5, c6⟩ := wWorm_at hn12 v w t
  have hN1 : hN (wWorm n v w t) = n + 1 := by unfold hN; rw [c1, nI_clamp (by omega)]
  have al : wAl2 t (wWorm n v w t) := fun p hp => wWorm_off v w t (by omega)
  have off := fun {p : Nat} => wWorm_off (n := n) v w t (p := p)
  obtain ⟨k, hk, rfl⟩ := hv
  refine ⟨⟨wStat_al2 al h.1 ⟨wSm_of (n := n + 1) c1 (by omega) (by decide), fun i hi => ?_⟩ (by omega), ?_⟩, al⟩
  · by_cases e : i = n
    · subst e
      exact wSm_of (n := k) c2 hk (by decide)
    · exact wSm_al (off (by omega)) (h.1.1.2 i (by omega))
  · unfold wDyn
    rw [hN1]
    refine ⟨fun i hi => ?_, fun p hp => wSm_al (off (by omega)) (h.2.2.1 p hp), wSm_al (off (by omega)) h.2.2.2.1, fun i hi hi2 => ?_⟩
    · by_cases e : i = n
      · subst e
        refine ⟨wSm_of (n := 0) (by rw [c3]; rfl) (by omega) (by decide), ⟨0, by omega, by rw [c4]; decide⟩, Or.inl c5, Or.inl c6, fun _ => c3⟩
      · obtain ⟨b1, b2, b3, b4, b5⟩ := h.2.1 i (by omega)
        rw [off (p := 43 + i) (by omega), off (p := 55 + i) (by omega), off (p := 67 + i) (by omega), off (p := 19 + i) (by omega)]
        exact ⟨wSm_al (off (by omega)) b1, b2, b3, b4, b5⟩
    · rw [off (by omega)]
      exact h.2.2.2.2 i (by omega) hi2
theorem wWorm_C {n : Nat} (hn : n < 12) (v w : Int32) (t : Nat → Int32) : upd (upd (upd (upd (upd (upd (upd (upd (upd (upd t (581 + n) v) (593 + n) w) (7 + n) 0) (79 + n) 0) (31 + n) 0) (19 + n) 0) (55 + n) 0) (67 + n) 0) (43 + n) (-1)) 571 (nI (n + 1)) = wWorm n v w t := by
  unfold wWorm
  congr 1
  rw [upd_comm _ (a := 67 + n) (b := 43 + n) _ _ (by omega), upd_comm _ (a := 55 + n) (b := 43 + n) _ _ (by omega)]
  rw [upd_comm _ (a := 31 + n) (b := 19 + n) _ _ (by omega)]
  rw [upd_comm _ (a := 79 + n) (b := 19 + n) _ _ (by omega), upd_comm _ (a := 79 + n) (b := 31 + n) _ _ (by omega), upd_comm _ (a := 79 + n) (b := 43 + n) _ _ (by omega), upd_comm _ (a := 79 + n) (b := 55 + n) _ _ (by omega), upd_comm _ (a := 79 + n) (b := 67 + n) _ _ (by omega)]
theorem j_worm {A : hA} {R : sMem} {S : hS} {g : Nat → Nat} {b L : Nat} {xs : Nat → Int32} (h : hInv A R S g b L xs) (v w : Int32) : hOp A R S g b L xs (f_X0_worm (hX A) v w) (f_X3_worm (A.2.1 9) v w) := by
  have hg := h.1.1
  have h3 : 0 < A.2.2 := by have := hg.2.2.2; omega
  have ht := h.t0
  have hw := h.act
  have hn := hw.n
  have hq : ∀ (R : sMem), R.1 ≤ A.2.1 9 → ∀ s : mSt, f_X3_worm (A.2.1 9) v w (mPut R (A.2.1 9) s) = lft R (A.2.1 9) (p_X3_worm (A.2.1 9) v w s) := fun R hR s => q_X3_worm R _ hR v w s
  have ex0 := (hEx.refl R).le (c' := 18000) (n' := 84000) (by omega) (by omega)
  have e571 : S.2.2.2.1 0 571 = nI (hN (S.2.2.2.1 0)) := hw.1.1.1.1
  have q571 : ∀ s : mSt, qAld s 0 571 = some (s.2 0 571) := fun s => qld_0 s (p := 571) (by omega)
  have s571 : ∀ (s : mSt) x, qAst s 0 571 x = some (mRowSet s 0 (upd (s.2 0) 571 x)) := fun s x => qst_0 s (p := 571) (by omega) x
  cases hv : inB v 0 3 with
  | false =>
    refine hOp.read0 h hq (v := -1) ?_ ?_
    · simp only [f_X0_worm, fx_isIn, hv, eq_self, ↓reduceIte, hcI, hcN, hcV, obS, if_true, if_false, b01_f]
    · simp only [p_X3_worm, px_isIn, hv, pcI, b01_f, ↓reduceIte]
  | true =>
    cases hv2 : inB w 0 9 with
    | false =>
      refine hOp.read0 h hq (v := -1) ?_ ?_
      · simp only [f_X0_worm, fx_isIn, hv, hv2, eq_self, ↓reduceIte, hcI, hcN, hcV, obS, if_true, if_false, b01_f, b01_t]
      · simp only [p_X3_worm, px_isIn, hv, hv2, pcI, b01_f, b01_t, ↓reduceIte]
    | true =>
      by_cases h12 : hN (S.2.2.2.1 0) = 12
      · have n12 : nI (hN (S.2.2.2.1 0)) = 12 := by rw [h12]; rfl
        refine hOp.read0 h hq (v := -1) ?_ ?_
        · simp only [f_X0_worm, fx_isIn, hv, hv2, eq_self, ↓reduceIte, hcI, hcN, hcV, obS, if_true, if_false, b01_t, xgI_21 hg, e571, n12]
        · simp only [p_X3_worm, px_isIn, hv, hv2, pcI, b01_t, ↓reduceIte, mRow_0, obS, q571, ht, e571, n12, eq_self]
      · obtain ⟨k, hk, rfl⟩ := inB_lit (k := 3) (by omega) hv
        have n12 : ¬ nI (hN (S.2.2.2.1 0)) = 12 := fun e => h12 ((nI_eq (b := 12) (by omega) (by omega)).mp e)
        generalize hnn : hN (S.2.2.2.1 0) = n at *
        obtain ⟨w', al⟩ := wAct_worm hw hnn (by omega) (v := nI k) ⟨k, hk, rfl⟩ w
        have fin : hInv A R (hM (hF (hT S 0 (wWorm n (nI k) w (S.2.2.2.1 0))) 28 (.int 0)) (mSet (mRowSet S.2.2.2.2.2 0 (wWorm n (nI k) w (S.2.2.2.1 0))) 4 0)) g b L xs := by
          have e1 : (hM (hF (hT S 0 (wWorm n (nI k) w (S.2.2.2.1 0))) 28 (.int 0)) (mSet (mRowSet S.2.2.2.2.2 0 (wWorm n (nI k) w (S.2.2.2.1 0))) 4 0)).1 = (hF S 28 (.int 0)).1 := rfl
          refine h.forget (fun _ _ h => h) h.1.2.1 (t' := wWorm n (nI k) w (S.2.2.2.1 0)) (s' := mSet (mRowSet S.2.2.2.2.2 0 (wWorm n (nI k) w (S.2.2.2.1 0))) 4 0) ?_ w' (fun r hr => ?_) ?_ ?_ h.1.2.2.1 rfl rfl ?_ ?_ rfl ?_ ?_ ?_ ?_
          · show (hF (hT S 0 (wWorm n (nI k) w (S.2.2.2.1 0))) 28 (.int 0)).2.2.2.1 0 = _
            rw [hF_2, hT_same]
          · rw [wWorm_off _ _ _ (by omega)]
            exact h.1.2.2.2.2.2.1 r hr
          · have := h.1.2.2.2.2.2.2.al2 hw.1 al
            rw [e1]
            unfold hReps at this ⊢
            simp (disch := omega) only [hF_ne]
            exact this
          · show (hF (hT S 0 (wWorm n (nI k) w (S.2.2.2.1 0))) 28 (.int 0)).2.2.2.1 2 = _
            rw [hF_2, hT_ne _ _ (by omega)]
          · rw [e1, hF_same]
          · intro k hk
            rw [e1, hF_ne _ _ (by omega)]
          · rw [ms_2, mrs_same]
          · intro j hj
            rw [ms_2, mrs_ne _ _ (by omega)]
          · rw [ms_same]
          · intro k hk
            rw [ms_ne _ _ (by omega), mrs_1]
        refine hOp.write h hq (v := nI n) (S1 := hF (hT S 0 (wWorm n (nI k) w (S.2.2.2.1 0))) 28 (.int 0)) ?_ rfl ex0 ?_ fin
        · have d7 := fun (t : Nat → Int32) => hBits_del t (o := 55) (w := n) (by omega)
          have d8 := fun (t : Nat → Int32) => hBits_del t (o := 67) (w := n) (by omega)
          have d7' : ∀ t : Nat → Int32, hBits t 55 &&& ((1 : Int32) <<< (nI n &&& 31) ^^^ -1) = hBits (upd t (55 + n) 0) 55 := d7
          have d8' : ∀ t : Nat → Int32, hBits t 67 &&& ((1 : Int32) <<< (nI n &&& 31) ^^^ -1) = hBits (upd t (67 + n) 0) 67 := d8
          have p7 := fun (S : hS) => ht_put7 hg R S h3 (w := n) (by omega) 0
          have p8 := fun (S : hS) => ht_put8 hg R S h3 (w := n) (by omega) 0
          have p4 : ∀ S' : hS, hN (S'.2.2.2.1 0) = n → sXst (hMem A R S') 0 (hTr A 0 4) (nI n) 0 = some (hMem A R S') := fun S' e => hr_st40 hg R S' h3 (by omega) (by omega)
          have p21 : ∀ S' : hS, S'.2.2.2.1 0 571 = nI n → sPut (hMem A R S') 0 21 (hX A) (.int (nI n + 1)) = some (hMem A R (hT S' 0 (upd (upd (S'.2.2.2.1 0) (43 + n) (-1)) 571 (nI (n + 1))))) := fun S' e => by
            rw [nI_1]
            exact hx_put21 hg R S' (by omega) e
          have hN5 : hN (upd (upd (upd (upd (upd (S.2.2.2.1 0) (581 + n) (nI k)) (593 + n) w) (7 + n) 0) (79 + n) 0) (31 + n) 0) = n := by
            unfold hN
            simp (disch := omega) only [upd_ne]
            exact hnn
          have p4' := p4 (hT S 0 (upd (upd (upd (upd (upd (S.2.2.2.1 0) (581 + n) (nI k)) (593 + n) w) (7 + n) 0) (79 + n) 0) (31 + n) 0)) (by rw [hT_same]; exact hN5)
          have p21' := p21 (hT S 0 (upd (upd (upd (upd (upd (upd (upd (upd (S.2.2.2.1 0) (581 + n) (nI k)) (593 + n) w) (7 + n) 0) (79 + n) 0) (31 + n) 0) (19 + n) 0) (55 + n) 0) (67 + n) 0)) (by rw [hT_same]; simp (disch := omega) only [upd_ne]; exact e571)
          rw [hT_hT, hT_same, wWorm_C (by omega)] at p21'
          have p7' := p7 (hT S 0 (upd (upd (upd (upd (upd (upd (S.2.2.2.1 0) (581 + n) (nI k)) (593 + n) w) (7 + n) 0) (79 + n) 0) (31 + n) 0) (19 + n) 0))
          rw [hT_hT, hT_same] at p7'
          have p8' := p8 (hT S 0 (upd (upd (upd (upd (upd (upd (upd (S.2.2.2.1 0) (581 + n) (nI k)) (593 + n) w) (7 + n) 0) (79 + n) 0) (31 + n) 0) (19 + n) 0) (55 + n) 0))
          rw [hT_hT, hT_same] at p8'
          simp (disch := omega) only [f_X0_worm, fx_isIn, hv, hv2, eq_self, ↓reduceIte, hcI, hcN, hcV, obS, if_true, if_false, b01_t, xgI_21 hg, e571, n12, xgN_22 hg, hq_st3 hg, xgN_23 hg, tgN_0 hg, trs_0 hg, hT_same, hT_hT, tgN_1 hg, trs_1 hg, tgN_2 hg, trs_2 hg, tgN_3 hg, trs_3 hg, tgN_4 hg, p4', tgN_5 hg, trs_5 hg, tgI_7 hg, d7', p7', tgI_8 hg, d8', p8', upd_ne, p21', xp_28 hg]
        · have q2 : ∀ (s : mSt) p y, p < 2355 → qAst s 0 (nI p) y = some (mRowSet s 0 (upd (s.2 0) p y)) := fun s p y hp => qst_0 s hp y
          have c581 : (581 : Int32) + nI n = nI (581 + n) := nI_add 581 n
          have c593 : (593 : Int32) + nI n = nI (593 + n) := nI_add 593 n
          have c7 : (7 : Int32) + nI n = nI (7 + n) := nI_add 7 n
          have c19 : (19 : Int32) + nI n = nI (19 + n) := nI_add 19 n
          have c31 : (31 : Int32) + nI n = nI (31 + n) := nI_add 31 n
          have c43 : (43 : Int32) + nI n = nI (43 + n) := nI_add 43 n
          have c55 : (55 : Int32) + nI n = nI (55 + n) := nI_add 55 n
          have c67 : (67 : Int32) + nI n = nI (67 + n) := nI_add 67 n
          have c79 : (79 : Int32) + nI n = nI (79 + n) := nI_add 79 n
          have cn : nI n + 1 = nI (n + 1) := nI_1 n
          simp (disch := omega) only [p_X3_worm, p_X3_forgets, px_isIn, hv, hv2, pcI, pcV, b01_t, ↓reduceIte, mRow_0, obS, q571, ht, e571, n12, c581, c593, c7, c19, c31, c43, c55, c67, c79, q2, mrs_same, mrs_mrs, upd_ne, s571, cn, qp]
          rfl
