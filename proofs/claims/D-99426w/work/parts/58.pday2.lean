/-! a day: the model's side, and the world's numbers behind it -/
set_option maxRecDepth 100000
theorem wOld_al (i : Nat) (t : Nat → Int32) (hi : i < 12) : wAl t (wOld i t) := (wAl.refl t).upd _ (by omega)
theorem wOld_c {t : Nat → Int32} {i : Nat} (h : ∃ c, c ≤ 10000 ∧ t (43 + i) + 1 = nI c) : ∃ c, c ≤ 10000 ∧ (if t (43 + i) + 1 ≤ 9999 then t (43 + i) + 1 else 9999) + 1 = nI c := by
  obtain ⟨c, hc, e⟩ := h
  rw [e]
  by_cases g : c ≤ 9999
  · have : nI c ≤ (9999 : Int32) := (nI_leI (b := 9999) (by omega) (by omega)).mpr g
    rw [if_pos this]
    exact ⟨c + 1, by omega, nI_1 c⟩
  · have : ¬ nI c ≤ (9999 : Int32) := fun q => g ((nI_leI (b := 9999) (by omega) (by omega)).mp q)
    rw [if_neg this]
    exact ⟨10000, by omega, by decide⟩
theorem wAct_old {t : Nat → Int32} {i : Nat} (h : wAct t) (hi : i < hN t) : wAct (wOld i t) := by
  have hn := h.n
  exact ⟨wStat_al (wOld_al i t (by omega)) h.1, wDyn_coc hn hi h.2 (wOld_c (h.2.1 i hi).2.1)⟩
theorem wFly_off (tr : Bool) (i : Nat) (t : Nat → Int32) (h6 : wSm t 6 150) {p : Nat} (hp : p ≠ 6) (hp2 : ¬ (871 ≤ p ∧ p < 1471)) (h1 : p ≠ 67 + i) (h2 : p ≠ 19 + i) (h3 : p ≠ 31 + i) (h4 : p ≠ 43 + i) (h5 : p ≠ 4) : wFly tr i t p = t p := by
  unfold wFly
  rw [upd_ne _ _ h5, upd_ne _ _ h4, upd_ne _ _ h3, upd_ne _ _ h2, upd_ne _ _ h1, wNote_off tr _ _ _ _ h6 hp hp2]
theorem wFly_al (tr : Bool) (i : Nat) (t : Nat → Int32) (h6 : wSm t 6 150) (hi : i < 12) : wAl t (wFly tr i t) := fun p hp => wFly_off tr i t h6 (by omega) (by omega) (by omega) (by omega) (by omega) (by omega) (by omega)
theorem wAct_fly (tr : Bool) {t : Nat → Int32} {i : Nat} (h : wAct t) (hi : i < hN t) : wAct (wFly tr i t) := by
  have hn := h.n
  have h6 := h.2.2.2.1
  refine ⟨wStat_al (wFly_al tr i t h6 (by omega)) h.1, ?_⟩
  have d1 := wDyn_note tr 4 (t (19 + i)) i hn h.2
  have off : ∀ p, p ≠ 67 + i → p ≠ 19 + i → p ≠ 31 + i → p ≠ 43 + i → p ≠ 4 → wFly tr i t p = wNote tr 4 i (t (19 + i)) t p := fun p h1 h2 h3 h4 h5 => by
    unfold wFly
    rw [upd_ne _ _ h5, upd_ne _ _ h4, upd_ne _ _ h3, upd_ne _ _ h2, upd_ne _ _ h1]
  have e67 : wFly tr i t (67 + i) = 1 := by
    unfold wFly
    rw [upd_ne _ _ (by omega), upd_ne _ _ (by omega), upd_ne _ _ (by omega), upd_ne _ _ (by omega), upd_same]
  have e19 : wFly tr i t (19 + i) = 0 := by
    unfold wFly
    rw [upd_ne _ _ (by omega), upd_ne _ _ (by omega), upd_ne _ _ (by omega), upd_same]
  have e43 : wFly tr i t (43 + i) = -1 := by
    unfold wFly
    rw [upd_ne _ _ (by omega), upd_same]
  have hn1 : hN (wNote tr 4 i (t (19 + i)) t) = hN t := hN_eq (wNote_off tr _ _ _ _ h6 (by omega) (by omega))
  have hn2 : hN (wFly tr i t) = hN t := hN_al (wFly_al tr i t h6 (by omega))
  unfold wDyn
  rw [hn2]
  refine ⟨fun j hj => ?_, fun p hp => wSm_al (off _ (by omega) (by omega) (by omega) (by omega) (by omega)) (d1.2.1 p hp), wSm_al (off _ (by omega) (by omega) (by omega) (by omega) (by omega)) d1.2.2.1, fun j hj hj2 => by rw [off _ (by omega) (by omega) (by omega) (by omega) (by omega)]; exact d1.2.2.2 j (by omega) hj2⟩
  obtain ⟨b1, b2, b3, b4, b5⟩ := d1.1 j (by omega)
  by_cases e : j = i
  · subst e
    refine ⟨wSm_of (n := 0) (by rw [e19]; rfl) (by omega) (by decide), ⟨0, by omega, by rw [e43]; decide⟩, ?_, Or.inr e67, fun _ => e19⟩
    rw [off _ (by omega) (by omega) (by omega) (by omega) (by omega)]
    exact b3
  · rw [off (43 + j) (by omega) (by omega) (by omega) (by omega) (by omega), off (55 + j) (by omega) (by omega) (by omega) (by omega) (by omega), off (67 + j) (by omega) (by omega) (by omega) (by omega) (by omega), off (19 + j) (by omega) (by omega) (by omega) (by omega) (by omega)]
    exact ⟨wSm_al (off _ (by omega) (by omega) (by omega) (by omega) (by omega)) b1, b2, b3, b4, b5⟩
theorem wAct_grow (tr : Bool) {t : Nat → Int32} {i : Nat} (h : wAct t) (hi : i < hN t) : wAct (wGrow tr i t) ∧ wAl t (wGrow tr i t) := by
  have hn := h.n
  have ho := wAct_old h hi
  have ha := wOld_al i t (by omega)
  unfold wGrow
  split
  · exact ⟨h, wAl.refl t⟩
  · split
    · exact ⟨wAct_fly tr ho (by rw [hN_al ha]; exact hi), ha.trans (wFly_al tr i _ ho.2.2.2.1 (by omega))⟩
    · exact ⟨ho, ha⟩
theorem wCan_fl {t : Nat → Int32} {i a : Nat} {b : Option Nat} (h : wCan t i a b = true) : t (67 + i) ≠ 1 := by
  unfold wCan at h
  simp only [Bool.and_eq_true, decide_eq_true_eq] at h
  exact h.2.1
theorem wMea_k {t : Nat → Int32} (hn : hN t ≤ 12) (hf : hFc t ≤ 10) (h : wMea t) {k : Nat} (hk : k < hMe t) : (cv (t (695 + 4 * k + 1)) < hN t ∧ t (695 + 4 * k + 1) = nI (cv (t (695 + 4 * k + 1)))) ∧ (cv (t (695 + 4 * k + 2)) < hFc t ∧ t (695 + 4 * k + 2) = nI (cv (t (695 + 4 * k + 2)))) ∧ okB t (wMB t k) ∧ t (695 + 4 * k + 3) = bI (wMB t k) := by
  obtain ⟨⟨w, hw, e1⟩, ⟨a, ha, e2⟩, e3⟩ := h.2 k hk
  refine ⟨?_, ?_, ?_⟩
  · rw [e1, cv_nI (by omega)]
    exact ⟨hw, rfl⟩
  · rw [e2, cv_nI (by omega)]
    exact ⟨ha, rfl⟩
  · unfold wMB okB
    rcases e3 with e3 | ⟨b, hb, e3⟩
    · rw [e3, if_pos rfl]
      exact ⟨fun k hk => (by cases hk), rfl⟩
    · rw [e3, if_neg (nI_m1 b (by omega)), cv_nI (by omega)]
      exact ⟨fun k hk => (by cases hk; exact hb), rfl⟩
theorem wAct_meal (tr : Bool) {t : Nat → Int32} {k : Nat} (h : wAct t) (hk : k < hMe t) : wAct (wMeal tr k t) ∧ wAl t (wMeal tr k t) := by
  obtain ⟨⟨a1, -⟩, ⟨a2, -⟩, a3, -⟩ := wMea_k h.n h.1.2.1.1.2 h.1.2.2.1 hk
  unfold wMeal
  split
  · rename_i hc
    exact ⟨wAct_feeds tr h a1 a2 a3 (wCan_fl hc.2), wFeeds_al tr h a1⟩
  · exact ⟨h, wAl.refl t⟩
theorem wAct_meals (tr : Bool) {t : Nat → Int32} (h : wAct t) : ∀ n, n ≤ hMe t → wAct (fdN (wMeal tr) t n) ∧ wAl t (fdN (wMeal tr) t n) := by
  intro n hn
  refine fdN_inv (fun _ x => wAct x ∧ wAl t x) ⟨h, wAl.refl t⟩ (fun k x hk hx => ?_)
  have e : hMe x = hMe t := congrArg cv (hx.2 575 (by omega))
  have := wAct_meal tr hx.1 (k := k) (by omega)
  exact ⟨this.1, hx.2.trans this.2⟩
theorem wAct_grown (tr : Bool) {t : Nat → Int32} (h : wAct t) : ∀ n, n ≤ hN t → wAct (fdN (wGrow tr) t n) ∧ wAl t (fdN (wGrow tr) t n) := by
  intro n hn
  refine fdN_inv (fun _ x => wAct x ∧ wAl t x) ⟨h, wAl.refl t⟩ (fun k x hk hx => ?_)
  have e : hN x = hN t := hN_al hx.2
  have := wAct_grow tr hx.1 (i := k) (by omega)
  exact ⟨this.1, hx.2.trans this.2⟩
theorem wZero_al (n : Nat) (t : Nat → Int32) (hn : n ≤ 12) : wAl t (wZero n t) := fun p hp => by
  unfold wZero
  rw [if_neg (by omega)]
theorem wAct_day (tr : Bool) {t : Nat → Int32} (h : wAct t) : wAct (wDay tr t) ∧ wAl t (wDay tr t) := by
  have hn := h.n
  have m1 := wAct_meals tr h _ (Nat.le_refl _)
  have g1 := wAct_grown tr m1.1 _ (Nat.le_refl _)
  have al : wAl t (wGrown tr (wMeals tr t)) := m1.2.trans g1.2
  have al2 : wAl t (wDay tr t) := (al.upd _ (by omega)).trans (wZero_al _ _ hn)
  refine ⟨⟨wStat_al al2 h.1, ?_⟩, al2⟩
  have hw : wDyn (wGrown tr (wMeals tr t)) := g1.1.2
  have hn2 : hN (wGrown tr (wMeals tr t)) = hN t := hN_al al
  refine hw.of (al2 571 (by omega) |>.trans (al 571 (by omega)).symm) (fun i hi => ?_) (fun p hp => ?_) (wSm_al ?_ hw.2.2.1) (fun i hi hi2 => ?_)
  · unfold wDay wZero
    rw [if_neg (by omega), if_neg (by omega), if_neg (by omega), if_neg (by omega), upd_ne _ _ (by omega), upd_ne _ _ (by omega), upd_ne _ _ (by omega), upd_ne _ _ (by omega)]
    exact ⟨rfl, rfl, rfl, rfl⟩
  · unfold wDay wZero
    rw [if_neg (by omega), upd_ne _ _ (by omega)]
  · unfold wDay wZero
    rw [if_neg (by omega), upd_ne _ _ (by omega)]
  · unfold wDay wZero
    rw [if_neg (by omega), upd_ne _ _ (by omega)]
theorem px_flies (m : Nat) (s : mSt) {tr : Bool} (htr : s.1 27 = b01 tr) (hb : wSm (s.2 0) 6 150) {i : Nat} (hi : i < 12) : p_X3_flies m (nI i) s = some (none, mRowSet s 0 (wFly tr i (s.2 0))) := by
  have e := px_note m s htr hb 4 (s.2 0 (19 + i)) i
  have e4 : wNote tr (nI 4) i (s.2 0 (19 + i)) (s.2 0) 4 = s.2 0 4 := wNote_off tr _ _ _ _ hb (by omega) (by omega)
  have e' : p_X3_notes m (nI 4) (nI i) (s.2 0 (19 + i)) s = _ := e
  simp (disch := omega) only [p_X3_flies, li_0, li_1, li_2, li_3, li_4, li_5, li_6, li_7, li_8, li_9, li_10, li_11, li_12, li_13, li_14, li_15, li_16, li_17, li_19, li_20, li_21, li_22, li_23, li_24, li_25, li_26, li_27, li_28, li_29, li_30, li_31, li_32, li_38, li_40, li_41, li_42, li_43, li_44, li_45, li_46, li_47, li_48, li_49, li_50, li_55, li_57, li_59, li_60, li_61, li_62, li_63, li_64, li_65, li_67, li_70, li_79, li_90, li_91, li_97, li_99, li_100, li_122, li_124, li_140, li_141, li_142, li_143, li_145, li_147, li_150, li_159, li_160, li_161, li_162, li_200, li_255, li_300, li_400, li_420, li_480, li_571, li_572, li_573, li_574, li_575, li_576, li_577, li_578, li_579, li_580, li_581, li_593, li_600, li_605, li_695, li_700, li_759, li_775, li_799, li_820, li_823, li_839, li_871, li_975, li_999, li_1000, li_1023, li_1024, li_1471, li_1487, li_1503, li_1519, li_1535, li_1681, li_2355, li_2855, li_3426, li_4096, li_9999, li_10000, li_49152, li_99999, li_1000000, mRow_0, mRow_1, mRow_2, mRow_3, mRow_6, mRow_7, mRow_8, mRow_9, mRow_10, mRow_11, mRow_28, mRow_29, mRow_30, mRow_31, mRow_32, qld_0, qst_0, qld_1, qst_1, qld_2, qst_2, qld_3, qst_3, qld_4, qst_4, qld_5, qst_5, qld_6, qst_6, qld_7, qst_7, qld_8, qst_8, qld_9, qst_9, qld_10, qst_10, qld_11, qst_11, qld_12, qst_12, qld_13, qst_13, qld_14, qst_14, eq_self, qg, qp, mrs_1, mrs_same, ms_2, pcI, pcV, obS, mrs_mrs, nI_add, pk_mul, Nat.mul_zero, Nat.add_zero, Nat.zero_add, Nat.reduceAdd, Nat.reduceMul, Nat.reduceSub, nI_leI, nI_ltI, nI_eq, Nat.reduceEqDiff, Nat.reduceLeDiff, nI_n1F, nI_n1F', e', upd_ne, e4]
  rfl
theorem px_grow (m : Nat) (s : mSt) {tr : Bool} (htr : s.1 27 = b01 tr) (h : wAct (s.2 0)) {f i : Nat} (hi : i < hN (s.2 0)) : p_X3_aDay_L6 m (f + 1) (nI i) s = p_X3_aDay_L6 m f (nI (i + 1)) (mRowSet s 0 (wGrow tr i (s.2 0))) := by
  have hn := h.n
  have e571 : s.2 0 571 = nI (hN (s.2 0)) := h.1.1.1.1
  have hi' : ¬ hN (s.2 0) ≤ i := by omega
  have h6 := (wAct_old h hi).2.2.2.1
  have pf := px_flies m (mRowSet s 0 (wOld i (s.2 0))) (tr := tr) (i := i) (by rw [mrs_1]; exact htr) (by rw [mrs_same]; exact h6) (by omega)
  rw [mrs_same, mrs_mrs] at pf
  have ps := px_spun m s (i := i) (by omega)
  have c1 : (43 : Int32) + nI i = nI (43 + i) := nI_add 43 i
  have c2 : (55 : Int32) + nI i = nI (55 + i) := nI_add 55 i
  have c3 : nI i + (1 : Int32) = nI (i + 1) := nI_1 i
  have eo : upd (s.2 0) (43 + i) (if s.2 0 (43 + i) + 1 ≤ 9999 then s.2 0 (43 + i) + 1 else 9999) = wOld i (s.2 0) := rfl
  have d571 : qAld s 0 571 = some (s.2 0 571) := qld_0 s (p := 571) (by omega)
  have h10 : ¬ (1 : Int32) = 0 := by decide
  unfold wGrow
  by_cases k1 : s.2 0 (43 + i) = -1
  · rw [if_pos k1, mrs_self]
    rw [if_pos k1] at ps
    simp (disch := omega) only [p_X3_aDay_L6, mRow_0, obS, d571, e571, nI_leI, hi', if_false, ps, pcI, if_true, c3]
  · rw [if_neg k1]
    rw [if_neg k1] at ps
    unfold wFlies
    by_cases k2 : wOld i (s.2 0) (43 + i) = 20
    · have e55 : wOld i (s.2 0) (55 + i) = s.2 0 (55 + i) := upd_ne _ _ (by omega)
      by_cases k3 : s.2 0 (55 + i) = 0
      · simp (disch := omega) only [p_X3_aDay_L6, mRow_0, obS, d571, e571, nI_leI, hi', if_false, ps, pcI, pcV, h10, if_true, c1, c2, c3, qld_0, qst_0, px_lesser, mrs_same, eo, k2, e55, k3, pf, k1]
        simp [k1, k2, k3]
      · simp (disch := omega) only [p_X3_aDay_L6, mRow_0, obS, d571, e571, nI_leI, hi', if_false, ps, pcI, pcV, h10, if_true, c1, c2, c3, qld_0, qst_0, px_lesser, mrs_same, eo, k2, e55, k3, pf, k1]
        simp [k1, k2, k3]
    · simp (disch := omega) only [p_X3_aDay_L6, mRow_0, obS, d571, e571, nI_leI, hi', if_false, ps, pcI, pcV, h10, if_true, c1, c2, c3, qld_0, qst_0, px_lesser, mrs_same, eo, k2, pf, k1]
      simp [k1, k2]
theorem px_zero (m : Nat) (s : mSt) (hn : wSm (s.2 0) 571 12) : p_X3_aDay_L104 m sFuel 0 s = some (none, mRowSet s 0 (wZero (hN (s.2 0)) (s.2 0))) := by
  have e571 : s.2 0 571 = nI (hN (s.2 0)) := hn.1
  have l571 : hN (s.2 0) ≤ 12 := hn.2
  have := lp_F (fun f k => p_X3_aDay_L104 m f (nI k) (mRowSet s 0 (wZero k (s.2 0)))) (hN (s.2 0)) (some (none, mRowSet s 0 (wZero (hN (s.2 0)) (s.2 0)))) ?_ ?_ sFuel (by have : 16 < sFuel := (by decide); omega)
  · have e0 : wZero 0 (s.2 0) = s.2 0 := by
      funext p
      unfold wZero
      rw [if_neg (by omega)]
    have h2 : p_X3_aDay_L104 m sFuel (nI 0) (mRowSet s 0 (wZero 0 (s.2 0))) = _ := this
    rw [e0, mrs_self] at h2
    exact h2
  · intro f k hk
    have ez : wZero k (s.2 0) 571 = s.2 0 571 := by
      unfold wZero
      rw [if_neg (by omega)]
    have hk' : ¬ hN (s.2 0) ≤ k := by omega
    have eu : upd (wZero k (s.2 0)) (79 + k) (nI 0) = wZero (k + 1) (s.2 0) := by
      funext p
      unfold wZero upd
      by_cases hp : p = 79 + k
      · rw [if_pos hp, if_pos (by omega)]
        rfl
      · rw [if_neg hp]
        dsimp only
        by_cases h2 : 79 ≤ p ∧ p < 79 + k
        · rw [if_pos h2, if_pos (by omega)]
        · rw [if_neg h2, if_neg (by omega)]
    simp (disch := omega) only [p_X3_aDay_L104, li_0, li_1, li_2, li_3, li_4, li_5, li_6, li_7, li_8, li_9, li_10, li_11, li_12, li_13, li_14, li_15, li_16, li_17, li_19, li_20, li_21, li_22, li_23, li_24, li_25, li_26, li_27, li_28, li_29, li_30, li_31, li_32, li_38, li_40, li_41, li_42, li_43, li_44, li_45, li_46, li_47, li_48, li_49, li_50, li_55, li_57, li_59, li_60, li_61, li_62, li_63, li_64, li_65, li_67, li_70, li_79, li_90, li_91, li_97, li_99, li_100, li_122, li_124, li_140, li_141, li_142, li_143, li_145, li_147, li_150, li_159, li_160, li_161, li_162, li_200, li_255, li_300, li_400, li_420, li_480, li_571, li_572, li_573, li_574, li_575, li_576, li_577, li_578, li_579, li_580, li_581, li_593, li_600, li_605, li_695, li_700, li_759, li_775, li_799, li_820, li_823, li_839, li_871, li_975, li_999, li_1000, li_1023, li_1024, li_1471, li_1487, li_1503, li_1519, li_1535, li_1681, li_2355, li_2855, li_3426, li_4096, li_9999, li_10000, li_49152, li_99999, li_1000000, mRow_0, mRow_1, mRow_2, mRow_3, mRow_6, mRow_7, mRow_8, mRow_9, mRow_10, mRow_11, mRow_28, mRow_29, mRow_30, mRow_31, mRow_32, qld_0, qst_0, qld_1, qst_1, qld_2, qst_2, qld_3, qst_3, qld_4, qst_4, qld_5, qst_5, qld_6, qst_6, qld_7, qst_7, qld_8, qst_8, qld_9, qst_9, qld_10, qst_10, qld_11, qst_11, qld_12, qst_12, qld_13, qst_13, qld_14, qst_14, eq_self, qg, qp, mrs_1, mrs_same, ms_2, pcI, pcV, obS, mrs_mrs, nI_add, pk_mul, Nat.mul_zero, Nat.add_zero, Nat.zero_add, Nat.reduceAdd, Nat.reduceMul, Nat.reduceSub, nI_leI, nI_ltI, nI_eq, Nat.reduceEqDiff, Nat.reduceLeDiff, nI_n1F, nI_n1F', ez, e571, hk', if_false, eu]
  · intro f
    have ez : wZero (hN (s.2 0)) (s.2 0) 571 = s.2 0 571 := by
      unfold wZero
      rw [if_neg (by omega)]
    have hk' : hN (s.2 0) ≤ hN (s.2 0) := Nat.le_refl _
    simp (disch := omega) only [p_X3_aDay_L104, li_0, li_1, li_2, li_3, li_4, li_5, li_6, li_7, li_8, li_9, li_10, li_11, li_12, li_13, li_14, li_15, li_16, li_17, li_19, li_20, li_21, li_22, li_23, li_24, li_25, li_26, li_27, li_28, li_29, li_30, li_31, li_32, li_38, li_40, li_41, li_42, li_43, li_44, li_45, li_46, li_47, li_48, li_49, li_50, li_55, li_57, li_59, li_60, li_61, li_62, li_63, li_64, li_65, li_67, li_70, li_79, li_90, li_91, li_97, li_99, li_100, li_122, li_124, li_140, li_141, li_142, li_143, li_145, li_147, li_150, li_159, li_160, li_161, li_162, li_200, li_255, li_300, li_400, li_420, li_480, li_571, li_572, li_573, li_574, li_575, li_576, li_577, li_578, li_579, li_580, li_581, li_593, li_600, li_605, li_695, li_700, li_759, li_775, li_799, li_820, li_823, li_839, li_871, li_975, li_999, li_1000, li_1023, li_1024, li_1471, li_1487, li_1503, li_1519, li_1535, li_1681, li_2355, li_2855, li_3426, li_4096, li_9999, li_10000, li_49152, li_99999, li_1000000, mRow_0, mRow_1, mRow_2, mRow_3, mRow_6, mRow_7, mRow_8, mRow_9, mRow_10, mRow_11, mRow_28, mRow_29, mRow_30, mRow_31, mRow_32, qld_0, qst_0, qld_1, qst_1, qld_2, qst_2, qld_3, qst_3, qld_4, qst_4, qld_5, qst_5, qld_6, qst_6, qld_7, qst_7, qld_8, qst_8, qld_9, qst_9, qld_10, qst_10, qld_11, qst_11, qld_12, qst_12, qld_13, qst_13, qld_14, qst_14, eq_self, qg, qp, mrs_1, mrs_same, ms_2, pcI, pcV, obS, mrs_mrs, nI_add, pk_mul, Nat.mul_zero, Nat.add_zero, Nat.zero_add, Nat.reduceAdd, Nat.reduceMul, Nat.reduceSub, nI_leI, nI_ltI, nI_eq, Nat.reduceEqDiff, Nat.reduceLeDiff, nI_n1F, nI_n1F', ez, e571, hk', if_true]
theorem px_meal {R : sMem} {q : Nat} (m : Nat) (s : mSt) {t : Nat → Int32} (hs : s.2 0 = t) {tr : Bool} (htr : s.1 27 = b01 tr) (hL : hLaw R q t) (h : wAct t) {f k : Nat} (hk : k < hMe t) : ∃ s', p_X3_plans_L2 m (f + 1) (nI k) s = p_X3_plans_L2 m f (nI (k + 1)) s' ∧ Sw s (wMeal tr k t) s' := by
  have hn := h.n
  have h16 : hMe t ≤ 16 := h.1.2.2.1.1.2
  have h10 : hFc t ≤ 10 := h.1.2.1.1.2
  have e575 : t 575 = nI (hMe t) := h.1.2.2.1.1.1
  have hk' : ¬ hMe t ≤ k := by omega
  obtain ⟨⟨a1, b1⟩, ⟨a2, b2⟩, a3, b3⟩ := wMea_k h.n h10 h.1.2.2.1 hk
  have c1 : (695 : Int32) + 4 * nI k = nI (695 + 4 * k) := by
    show nI 695 + nI 4 * nI k = _
    rw [pk_mul, nI_add]
  have c2 : nI (695 + 4 * k) + (1 : Int32) = nI (695 + 4 * k + 1) := nI_add _ 1
  have c3 : nI (695 + 4 * k) + (2 : Int32) = nI (695 + 4 * k + 2) := nI_add _ 2
  have c4 : nI (695 + 4 * k) + (3 : Int32) = nI (695 + 4 * k + 3) := nI_add _ 3
  have c5 : nI k + (1 : Int32) = nI (k + 1) := nI_1 k
  have d575 : qAld s 0 575 = some (t 575) := by rw [← hs]; exact qld_0 s (p := 575) (by omega)
  have d0 : qAld s 0 0 = some (t 0) := by rw [← hs]; exact qld_0 s (p := 0) (by omega)
  have d1 : ∀ p, p < 2355 → qAld s 0 (nI p) = some (t p) := fun p hp => by rw [← hs]; exact qld_0 s hp
  unfold wMeal
  generalize cv (t (695 + 4 * k + 1)) = w at *
  generalize cv (t (695 + 4 * k + 2)) = a at *
  generalize wMB t k = b at *
  by_cases k1 : t (695 + 4 * k) = t 0
  · obtain ⟨s1, e1, S1⟩ := px_can m s (R := R) (q := q) (by rw [hs]; exact ⟨hL, h.1⟩) (i := w) (a := a) (b := b) (by omega) (by omega) (fun j hj => by have := a3 j hj; omega)
    rw [hs] at e1 S1
    have w1 : s1.2 0 = t := S1.2.1
    have d2 : ∀ p, p < 2355 → qAld s1 0 (nI p) = some (t p) := fun p hp => by rw [← w1]; exact qld_0 s1 hp
    cases hc : wCan t w a b with
    | false =>
      rw [hc] at e1
      refine ⟨s1, ?_, by rw [if_neg (by simp)]; exact S1⟩
      have h00 : b01 false = 0 := rfl
      simp (disch := omega) only [p_X3_plans_L2, mRow_0, obS, d575, e575, nI_leI, hk', if_false, c1, c2, c3, c4, d1, d0, k1, if_true, b1, b2, b3, e1, pcI, h00, c5]
    | true =>
      rw [hc] at e1
      obtain ⟨s2, e2, S2⟩ := px_feeds m s1 w1 (tr := tr) (by rw [S1.1]; exact htr) (R := R) (q := q) ⟨hL, h.1⟩ (i := w) (a := a) (b := b) (by omega) a2 a3 (h.2.1 _ a1).1 h.2.2.2.1
      refine ⟨s2, ?_, by rw [if_pos ⟨k1, rfl⟩]; exact S1.trans S2⟩
      have h11 : ¬ b01 true = 0 := by decide
      simp (disch := omega) only [p_X3_plans_L2, mRow_0, obS, d575, e575, nI_leI, hk', if_false, c1, c2, c3, c4, d1, d0, k1, if_true, b1, b2, b3, e1, pcI, h11, c5, d2, e2]
  · refine ⟨s, ?_, by rw [if_neg (fun q => k1 q.1), ← hs]; exact Sw.refl s⟩
    simp (disch := omega) only [p_X3_plans_L2, mRow_0, obS, d575, e575, nI_leI, hk', if_false, c1, d1, d0, k1, c5]
theorem px_day {R : sMem} {q : Nat} (m : Nat) (s : mSt) {tr : Bool} (htr : s.1 27 = b01 tr) (hL : hLaw R q (s.2 0)) (h : wAct (s.2 0)) : ∃ s', p_X3_aDay m s = some (none, s') ∧ Sw s (wDay tr (s.2 0)) s' := by
  have hn := h.n
  have h16 : hMe (s.2 0) ≤ 16 := h.1.2.2.1.1.2
  generalize ht : s.2 0 = t at *
  -- the meals
  have A : ∃ s1, p_X3_plans m s = some (none, s1) ∧ Sw s (wMeals tr t) s1 := by
    unfold p_X3_plans
    refine lp_S (fun f k (x : mSt) => p_X3_plans_L2 m f (nI k) x) (hMe t) (fun k x => Sw s (fdN (wMeal tr) t k) x) (fun o => ∃ s1, o = some (none, s1) ∧ Sw s (wMeals tr t) s1) ?_ ?_ sFuel (by have : 16 < sFuel := (by decide); omega) s (by have := Sw.refl s; rwa [ht] at this)
    · intro f k x hk hx
      left
      obtain ⟨w1, al⟩ := wAct_meals tr h k (by omega)
      have ex : x.2 0 = fdN (wMeal tr) t k := hx.2.1
      have em : hMe (fdN (wMeal tr) t k) = hMe t := congrArg cv (al 575 (by omega))
      obtain ⟨s', e1, S1⟩ := px_meal m x ex (tr := tr) (by rw [hx.1]; exact htr) (R := R) (q := q) (hLaw_al al h.1.2.2.2.2.2.2.2.2 hL) w1 (f := f) (k := k) (by rw [em]; exact hk)
      exact ⟨s', hx.trans S1, e1⟩
    · intro f x hx
      obtain ⟨w1, al⟩ := wAct_meals tr h _ (Nat.le_refl _)
      have ex : x.2 0 = fdN (wMeal tr) t (hMe t) := hx.2.1
      have e575 : x.2 0 575 = nI (hMe t) := by
        rw [ex, al 575 (by omega)]
        exact h.1.2.2.1.1.1
      have hk' : hMe t ≤ hMe t := Nat.le_refl _
      refine ⟨x, ?_, hx⟩
      simp (disch := omega) only [p_X3_plans_L2, mRow_0, obS, li_575, qld_0, e575, nI_leI, hk', if_true]
  obtain ⟨s1, e1, S1⟩ := A
  obtain ⟨w1, al1⟩ := wAct_meals tr h _ (Nat.le_refl _)
  have ex1 : s1.2 0 = wMeals tr t := S1.2.1
  have hn1 : hN (wMeals tr t) = hN t := hN_al al1
  have B : p_X3_aDay_L6 m sFuel (nI 0) s1 = some (none, mRowSet s1 0 (wDay tr t)) := by
    have hs1 : s1 = mRowSet s1 0 (fdN (wGrow tr) (wMeals tr t) 0) := by rw [fdN_0, ← ex1, mrs_self]
    rw [hs1]
    have := lp_F (fun f k => p_X3_aDay_L6 m f (nI k) (mRowSet s1 0 (fdN (wGrow tr) (wMeals tr t) k))) (hN t) (some (none, mRowSet s1 0 (wDay tr t))) ?_ ?_ sFuel (by have : 16 < sFuel := (by decide); omega)
    · rw [mrs_mrs]
      exact this
    · intro f k hk
      obtain ⟨w2, al2⟩ := wAct_grown tr (t := wMeals tr t) w1 k (by omega)
      have := px_grow m (mRowSet s1 0 (fdN (wGrow tr) (wMeals tr t) k)) (tr := tr) (by rw [mrs_1, S1.1]; exact htr) (by rw [mrs_same]; exact w2) (f := f) (i := k) (by rw [mrs_same, hN_al al2]; omega)
      rw [mrs_same, mrs_mrs] at this
      exact this
    · intro f
      obtain ⟨w2, al2⟩ := wAct_grown tr (t := wMeals tr t) w1 (hN t) (by omega)
      have eg : wGrown tr (wMeals tr t) = fdN (wGrow tr) (wMeals tr t) (hN t) := by unfold wGrown; rw [hn1]
      have hn2 : hN (fdN (wGrow tr) (wMeals tr t) (hN t)) = hN t := by rw [hN_al al2]; exact hn1
      have e571 : fdN (wGrow tr) (wMeals tr t) (hN t) 571 = nI (hN t) := by
        have h9 : fdN (wGrow tr) (wMeals tr t) (hN t) 571 = nI (hN (fdN (wGrow tr) (wMeals tr t) (hN t))) := w2.1.1.1.1
        rw [h9, hn2]
      have hk' : hN t ≤ hN t := Nat.le_refl _
      have z := px_zero m (mRowSet s1 0 (upd (wGrown tr (wMeals tr t)) 0 (wGrown tr (wMeals tr t) 0 + 1))) (by rw [mrs_same]; exact wSm_al (upd_ne _ _ (by omega)) (by rw [eg]; exact w2.1.1.1))
      have hnz : hN (upd (wGrown tr (wMeals tr t)) 0 (wGrown tr (wMeals tr t) 0 + 1)) = hN t := by
        rw [hN_eq (upd_ne (wGrown tr (wMeals tr t)) _ (show (571 : Nat) ≠ 0 by omega)), eg, hn2]
      rw [mrs_same, mrs_mrs, hnz] at z
      have ed : wZero (hN t) (upd (wGrown tr (wMeals tr t)) 0 (wGrown tr (wMeals tr t) 0 + 1)) = wDay tr t := rfl
      rw [ed, eg] at z
      have q0 : ∀ g : Nat → Int32, qAld (mRowSet s1 0 g) 0 0 = some (g 0) := fun g => by
        have := qld_0 (mRowSet s1 0 g) (p := 0) (by omega)
        rwa [mrs_same] at this
      have q1 : ∀ (g : Nat → Int32) x, qAst (mRowSet s1 0 g) 0 0 x = some (mRowSet s1 0 (upd g 0 x)) := fun g x => by
        have := qst_0 (mRowSet s1 0 g) (p := 0) (by omega) x
        rwa [mrs_same, mrs_mrs] at this
      have q5 : ∀ g : Nat → Int32, qAld (mRowSet s1 0 g) 0 571 = some (g 571) := fun g => by
        have := qld_0 (mRowSet s1 0 g) (p := 571) (by omega)
        rwa [mrs_same] at this
      simp (disch := omega) only [p_X3_aDay_L6, mRow_0, obS, q5, e571, nI_leI, hk', if_true, q0, q1, z]
  refine ⟨mRowSet s1 0 (wDay tr t), ?_, S1.world⟩
  unfold p_X3_aDay
  rw [e1]
  simp only [pcV]
  exact B
