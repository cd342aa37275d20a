/-! acts and days: the model's side, spinning and feeding -/
set_option maxRecDepth 100000
theorem wLays_al (i : Nat) (mark : Int32) (t : Nat → Int32) (hi : i < 12) (h : wSm t (19 + i) 40) : wAl t (wLays i mark t) := by
  unfold wLays
  split
  · exact wAl.refl t
  · rename_i hne
    have h1 := h.2
    have h2 := h.1
    have : cv (t (19 + i)) ≠ 40 := fun e => hne (by rw [h2, e]; rfl)
    have e : hLo t i = cv (t (19 + i)) := rfl
    exact ((wAl.refl t).upd _ (by omega)).upd _ (by omega)
theorem wLays_lo (i : Nat) (mark : Int32) (t : Nat → Int32) (h : wSm t (19 + i) 40) : wSm (wLays i mark t) (19 + i) 40 := by
  unfold wLays
  split
  · exact h
  · rename_i hne
    have h1 := h.2
    have h2 := h.1
    have h3 : cv (t (19 + i)) ≠ 40 := fun e => hne (by rw [h2, e]; rfl)
    refine wSm_of (n := cv (t (19 + i)) + 1) ?_ (by omega) (by decide)
    rw [upd_same, h2, cv_nI (by omega)]
    exact nI_1 _
theorem wDraw_al (t : Nat → Int32) : wAl t (wDraw t) := (wAl.refl t).upd _ (by omega)
theorem wSpin_al (tr : Bool) (i a : Nat) (b : Option Nat) (p : Nat) (x : (Nat → Int32) × Int32) (hi : i < 12) (h : wSm x.1 (19 + i) 40) : wAl x.1 (wSpin tr i a b p x).1 ∧ wSm (wSpin tr i a b p x).1 (19 + i) 40 := by
  have hd : wSm (wDraw x.1) (19 + i) 40 := wSm_al (upd_ne _ _ (by omega)) h
  have hda := wDraw_al x.1
  unfold wSpin
  split
  · split
    · exact ⟨hda.trans (wLays_al i _ _ hi hd), wLays_lo i _ _ hd⟩
    · exact ⟨hda.trans (wLays_al i _ _ hi hd), wLays_lo i _ _ hd⟩
  · exact ⟨wLays_al i _ _ hi h, wLays_lo i _ _ h⟩
theorem wSpun_al (tr : Bool) (i a : Nat) (b : Option Nat) (t : Nat → Int32) (hi : i < 12) (h : wSm t (19 + i) 40) (n : Nat) : wAl t (fdN (wSpin tr i a b) (t, 0) n).1 ∧ wSm (fdN (wSpin tr i a b) (t, 0) n).1 (19 + i) 40 :=
  fdN_inv (fun _ x => wAl t x.1 ∧ wSm x.1 (19 + i) 40) ⟨wAl.refl t, h⟩ (fun k x _ hx => ⟨hx.1.trans (wSpin_al tr i a b k x hi hx.2).1, (wSpin_al tr i a b k x hi hx.2).2⟩)
theorem wMany_al {t t' : Nat → Int32} (h : wAl t t') {a : Nat} {b : Option Nat} (ha : a < 10) (hb : ∀ k, b = some k → k < 10) : wMany t' a b = wMany t a b := by
  unfold wMany
  have e1 : hMc t' a = hMc t a := congrArg cv (h _ (by omega))
  cases b with
  | none => rw [e1]
  | some b =>
    have := hb b rfl
    have e2 : hMc t' b = hMc t b := congrArg cv (h _ (by omega))
    simp only [e1, e2]
theorem px_lays (k6 : Int32 → Int32 → mSt → Option (Option Value × mSt)) (m : Nat) (s : mSt) {i p : Nat} (va vb n mark : Int32) (hi : i < 12) (h : wSm (s.2 0) (19 + i) 40) : p_X3_spins_J69 k6 m (nI i) va vb n (nI p) mark s = k6 n (nI (p + 1)) (mRowSet s 0 (wLays i mark (s.2 0))) := by
  have h1 := h.2
  have h2 := h.1
  unfold wLays
  by_cases c : s.2 0 (19 + i) = 40
  · rw [if_pos c, mrs_self]
    have c' : s.2 0 (19 + i) = nI 40 := c
    simp (disch := omega) only [p_X3_spins_J69, li_0, li_1, li_2, li_3, li_4, li_5, li_6, li_7, li_8, li_9, li_10, li_11, li_12, li_13, li_14, li_15, li_16, li_17, li_19, li_20, li_21, li_22, li_23, li_24, li_25, li_26, li_27, li_28, li_29, li_30, li_31, li_32, li_38, li_40, li_41, li_42, li_43, li_44, li_45, li_46, li_47, li_48, li_49, li_50, li_55, li_57, li_59, li_60, li_61, li_62, li_63, li_64, li_65, li_67, li_70, li_79, li_90, li_91, li_97, li_99, li_100, li_122, li_124, li_140, li_141, li_142, li_143, li_145, li_147, li_150, li_159, li_160, li_161, li_162, li_200, li_255, li_300, li_400, li_420, li_480, li_571, li_572, li_573, li_574, li_575, li_576, li_577, li_578, li_579, li_580, li_581, li_593, li_600, li_605, li_695, li_700, li_759, li_775, li_799, li_820, li_823, li_839, li_871, li_975, li_999, li_1000, li_1023, li_1024, li_1471, li_1487, li_1503, li_1519, li_1535, li_1681, li_2355, li_2855, li_3426, li_4096, li_9999, li_10000, li_49152, li_99999, li_1000000, mRow_0, mRow_1, mRow_2, mRow_3, mRow_6, mRow_7, mRow_8, mRow_9, mRow_10, mRow_11, mRow_28, mRow_29, mRow_30, mRow_31, mRow_32, qld_0, qst_0, qld_1, qst_1, qld_2, qst_2, qld_3, qst_3, qld_4, qst_4, qld_5, qst_5, qld_6, qst_6, qld_7, qst_7, qld_8, qst_8, qld_9, qst_9, qld_10, qst_10, qld_11, qst_11, qld_12, qst_12, qld_13, qst_13, qld_14, qst_14, eq_self, qg, qp, mrs_1, mrs_same, ms_2, pcI, pcV, obS, mrs_mrs, nI_add, pk_mul, Nat.mul_zero, Nat.add_zero, Nat.zero_add, Nat.reduceAdd, Nat.reduceMul, Nat.reduceSub, nI_leI, nI_ltI, nI_eq, Nat.reduceEqDiff, Nat.reduceLeDiff, nI_n1F, nI_n1F', c', if_true]
  · rw [if_neg c]
    have c' : ¬ cv (s.2 0 (19 + i)) = 40 := fun e => c (by rw [h2, e]; rfl)
    show _ = k6 n (nI (p + 1)) (mRowSet s 0 (upd (upd (s.2 0) (91 + 40 * i + cv (s.2 0 (19 + i))) mark) (19 + i) (s.2 0 (19 + i) + 1)))
    generalize cv (s.2 0 (19 + i)) = lo at *
    simp (disch := omega) only [p_X3_spins_J69, li_0, li_1, li_2, li_3, li_4, li_5, li_6, li_7, li_8, li_9, li_10, li_11, li_12, li_13, li_14, li_15, li_16, li_17, li_19, li_20, li_21, li_22, li_23, li_24, li_25, li_26, li_27, li_28, li_29, li_30, li_31, li_32, li_38, li_40, li_41, li_42, li_43, li_44, li_45, li_46, li_47, li_48, li_49, li_50, li_55, li_57, li_59, li_60, li_61, li_62, li_63, li_64, li_65, li_67, li_70, li_79, li_90, li_91, li_97, li_99, li_100, li_122, li_124, li_140, li_141, li_142, li_143, li_145, li_147, li_150, li_159, li_160, li_161, li_162, li_200, li_255, li_300, li_400, li_420, li_480, li_571, li_572, li_573, li_574, li_575, li_576, li_577, li_578, li_579, li_580, li_581, li_593, li_600, li_605, li_695, li_700, li_759, li_775, li_799, li_820, li_823, li_839, li_871, li_975, li_999, li_1000, li_1023, li_1024, li_1471, li_1487, li_1503, li_1519, li_1535, li_1681, li_2355, li_2855, li_3426, li_4096, li_9999, li_10000, li_49152, li_99999, li_1000000, mRow_0, mRow_1, mRow_2, mRow_3, mRow_6, mRow_7, mRow_8, mRow_9, mRow_10, mRow_11, mRow_28, mRow_29, mRow_30, mRow_31, mRow_32, qld_0, qst_0, qld_1, qst_1, qld_2, qst_2, qld_3, qst_3, qld_4, qst_4, qld_5, qst_5, qld_6, qst_6, qld_7, qst_7, qld_8, qst_8, qld_9, qst_9, qld_10, qst_10, qld_11, qst_11, qld_12, qst_12, qld_13, qst_13, qld_14, qst_14, eq_self, qg, qp, mrs_1, mrs_same, ms_2, pcI, pcV, obS, mrs_mrs, nI_add, pk_mul, Nat.mul_zero, Nat.add_zero, Nat.zero_add, Nat.reduceAdd, Nat.reduceMul, Nat.reduceSub, nI_leI, nI_ltI, nI_eq, Nat.reduceEqDiff, Nat.reduceLeDiff, nI_n1F, nI_n1F', h2, c', if_false, upd_ne]
theorem px_spins {R : sMem} {q : Nat} (m : Nat) (s : mSt) {t : Nat → Int32} (hs : s.2 0 = t) {tr : Bool} (htr : s.1 27 = b01 tr) (hw : wGo R q t) {i a : Nat} {b : Option Nat} (hi : i < 12) (ha : a < hFc t) (hb : okB t b) (hlo : wSm t (19 + i) 40) : ∃ s', p_X3_spins m (nI i) (nI a) (bI b) s = some (some (.int (wSpun tr i a b t).2), s') ∧ Sw s (wSpins tr i a b t) s' := by
  have h10 : hFc t ≤ 10 := hw.2.2.1.1.2
  have ha10 : a < 10 := by omega
  have hb10 : ∀ k, b = some k → k < 10 := fun k hk => by have := hb k hk; omega
  have hmany : wMany t a b ≤ 12 := by
    unfold wMany
    have l1 := (hw.2.2.1.2 a ha).1.2
    have l1' : hMc t a ≤ 6 := l1
    cases b with
    | none => simp only []; omega
    | some b =>
      have l2 : hMc t b ≤ 6 := (hw.2.2.1.2 b (hb b rfl)).1.2
      simp only []; omega
  unfold p_X3_spins
  refine lp_S (fun f k (x : mSt × Int32) => p_X3_spins_L6 m (nI i) (nI a) (bI b) f x.2 (nI k) x.1) (wMany t a b) (fun k x => Sw s (fdN (wSpin tr i a b) (t, 0) k).1 x.1 ∧ x.2 = (fdN (wSpin tr i a b) (t, 0) k).2) (fun o => ∃ s', o = some (some (.int (wSpun tr i a b t).2), s') ∧ Sw s (wSpins tr i a b t) s') ?_ ?_ sFuel (by have : 16 < sFuel := (by decide); omega) (s, 0) ⟨by have := Sw.refl s; rwa [hs] at this, rfl⟩
  · rintro f k ⟨s1, n1⟩ hk ⟨hS, hn⟩
    left
    simp only at hS hn
    obtain ⟨hal, hlk⟩ := wSpun_al tr i a b t hi hlo k
    rw [fdN_s]
    generalize fdN (wSpin tr i a b) (t, 0) k = W at *
    have e0 : s1.2 0 = W.1 := hS.2.1
    have hw1 := hw.al hal
    have hfc : hFc W.1 = hFc t := congrArg cv (hal 572 (by omega))
    have ha1 : a < hFc W.1 := by rw [hfc]; exact ha
    have hb1 : okB W.1 b := fun k hk => by rw [hfc]; exact hb k hk
    have em : wMany W.1 a b = wMany t a b := wMany_al hal ha10 hb10
    have p1 := px_many m s1 (by rw [e0]; exact hw1.2.2.1) (by rw [e0]; exact ha1) (by rw [e0]; exact hb1)
    have p2 := px_mark m s1 (i := k) (by rw [e0]; exact hw1.2.2.1) (by rw [e0]; exact ha1) (by rw [e0]; exact hb1) (by omega)
    rw [e0] at p1 p2
    rw [em] at p1
    obtain ⟨s2, p3, h3⟩ := px_slips m s1 (by rw [e0]; exact hw1) hi (wMark W.1 a b k) (nI k)
    rw [e0] at p3 h3
    have e2 : s2.2 0 = W.1 := h3.2.1
    have t2 : s2.1 27 = b01 tr := by rw [h3.1, hS.1]; exact htr
    have hk' : ¬ wMany t a b ≤ k := by omega
    cases tr with
    | false =>
      have t2' : s2.1 27 = 0 := t2
      refine ⟨(mRowSet s2 0 (wLays i (wMark W.1 a b k) W.1), n1), ⟨?_, ?_⟩, ?_⟩
      · have e9 : (wSpin false i a b k W).1 = wLays i (wMark W.1 a b k) W.1 := by simp [wSpin]
        rw [e9]
        exact (hS.trans h3).world
      · have e9 : (wSpin false i a b k W).2 = W.2 := by simp [wSpin]
        rw [e9]
        exact hn
      · have p4 := px_lays (p_X3_spins_L6 m (nI i) (nI a) (bI b) f) m s2 (p := k) (nI a) (bI b) n1 (wMark W.1 a b k) hi (by rw [e2]; exact hlk)
        rw [e2] at p4
        simp (disch := omega) only [p_X3_spins_L6, p1, p2, p3, pcI, nI_leI, hk', if_false, qg, obS, t2', if_true, p4]
    | true =>
      have t2' : s2.1 27 = 1 := t2
      have h1 : ¬ (1 : Int32) = 0 := by decide
      have h8 : ¬ (8 : Int32) = 0 := by decide
      have p5 := px_draw m s2
      rw [e2] at p5
      have hd : wSm (wDraw W.1) (19 + i) 40 := wSm_al (upd_ne _ _ (by omega)) hlk
      by_cases c : wSlips W.1 i (wMark W.1 a b k) (nI k) ≤ wDrawn (wDraw W.1 5)
      · refine ⟨(mRowSet s2 0 (wLays i (wMark W.1 a b k) (wDraw W.1)), n1), ⟨?_, ?_⟩, ?_⟩
        · have e9 : (wSpin true i a b k W).1 = wLays i (wMark W.1 a b k) (wDraw W.1) := by simp [wSpin, c]
          rw [e9]
          exact (hS.trans h3).world
        · have e9 : (wSpin true i a b k W).2 = W.2 := by simp [wSpin, c]
          rw [e9]
          exact hn
        · have p4 := px_lays (p_X3_spins_L6 m (nI i) (nI a) (bI b) f) m (mRowSet s2 0 (wDraw W.1)) (p := k) (nI a) (bI b) n1 (wMark W.1 a b k) hi (by rw [mrs_same]; exact hd)
          rw [mrs_same, mrs_mrs] at p4
          simp (disch := omega) only [p_X3_spins_L6, p1, p2, p3, pcI, nI_leI, hk', if_false, qg, obS, t2', h1, p5, c, if_true, p4]
      · refine ⟨(mRowSet s2 0 (wLays i (wNext (wMark W.1 a b k)) (wDraw W.1)), n1 + 1), ⟨?_, ?_⟩, ?_⟩
        · have e9 : (wSpin true i a b k W).1 = wLays i (wNext (wMark W.1 a b k)) (wDraw W.1) := by simp [wSpin, c]
          rw [e9]
          exact (hS.trans h3).world
        · have e9 : (wSpin true i a b k W).2 = W.2 + 1 := by simp [wSpin, c]
          rw [e9, hn]
        · have p4 := px_lays (p_X3_spins_L6 m (nI i) (nI a) (bI b) f) m (mRowSet s2 0 (wDraw W.1)) (p := k) (nI a) (bI b) (n1 + 1) (wNext (wMark W.1 a b k)) hi (by rw [mrs_same]; exact hd)
          rw [mrs_same, mrs_mrs] at p4
          unfold wNext at p4 ⊢
          simp (disch := omega) only [p_X3_spins_L6, p1, p2, p3, pcI, nI_leI, hk', if_false, qg, obS, t2', h1, p5, c, h8, p4]
  · rintro f ⟨s1, n1⟩ ⟨hS, hn⟩
    simp only at hS hn
    obtain ⟨hal, hlk⟩ := wSpun_al tr i a b t hi hlo (wMany t a b)
    have e0 : s1.2 0 = (wSpun tr i a b t).1 := hS.2.1
    have hal' : wAl t (wSpun tr i a b t).1 := hal
    have hw1 := hw.al hal'
    have hfc : hFc (wSpun tr i a b t).1 = hFc t := congrArg cv (hal' 572 (by omega))
    have p1 := px_many m s1 (a := a) (b := b) (by rw [e0]; exact hw1.2.2.1) (by rw [e0, hfc]; exact ha) (by rw [e0]; exact fun k hk => by rw [hfc]; exact hb k hk)
    rw [e0, wMany_al hal' ha10 hb10] at p1
    have hk' : wMany t a b ≤ wMany t a b := Nat.le_refl _
    have hn' : n1 = (wSpun tr i a b t).2 := hn
    have hS' : Sw s (wSpun tr i a b t).1 s1 := hS
    refine ⟨mRowSet s1 0 (wSpins tr i a b t), ?_, hS'.world⟩
    simp (disch := omega) only [p_X3_spins_L6, p1, pcI, nI_leI, hk', if_true, mRow_0, obS, li_3, qld_0, qst_0, e0, hn', wSpins]
