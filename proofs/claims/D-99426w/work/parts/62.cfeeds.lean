/-! the component's side: spinning, feeding, a day -/
set_option maxRecDepth 100000
theorem f_lays0 (k5 : Int32 → Int32 → sMem → Option (sRes × sMem)) {A : hA} {R : sMem} {S : hS} (hg : hG A) (hc : hCl A R) {k : Nat} (hk : k < A.2.2) {t : Nat → Int32} (ht : S.2.2.2.1 k = t) {r N i p : Nat} {g : Nat → Int32} (hr : R.2.2.2 r = some (sArr 0 N g)) (hp : p < N) (hN : N < 100) (hi : i < 12) (hlo : wSm t (19 + i) 40) (n : Int32) : f_X2_spins_J49 k5 (hTa A k) (nI i) r n (nI p) 0 (hMem A R S) = k5 n (nI (p + 1)) (hMem A R (hT S k (wLays i (g p) t))) := by
  have e19 : t (19 + i) = nI (hLo t i) := hlo.1
  have l19 : hLo t i ≤ 40 := hlo.2
  have en : n + 0 = n := Int32.add_zero n
  have ld : sXld (hMem A R S) 0 r (nI p) = some (g p) := hR_ld hc S hr hp (by omega)
  unfold wLays
  by_cases c : t (19 + i) = 40
  · rw [if_pos c, ← ht, hT_self]
    have c' : S.2.2.2.1 k (19 + i) = 40 := by rw [ht]; exact c
    simp (disch := omega) only [f_X2_spins_J49, tgN_5 hg, trl_5 hg, eq_self, hcI, hcN, hcV, obS, if_true, if_false, c', en, nI_1]
  · rw [if_neg c]
    have c' : ¬ nI (hLo t i) = 40 := by rw [← e19]; exact c
    have cl : hLo t i ≠ 40 := fun e => c' (by rw [e]; rfl)
    have c40 : (40 : Int32) * nI i + nI (hLo t i) = nI (40 * i + hLo t i) := by
      show nI 40 * nI i + _ = _
      rw [pk_mul, nI_add]
    simp (disch := omega) only [f_X2_spins_J49, f_X2_spins_J114, tgN_5 hg, tgN_6 hg, trl_5 hg, trs_5 hg, trs_6 hg, eq_self, hcI, hcN, hcV, obS, if_true, if_false, ht, e19, c', en, ld, c40, hT_same, hT_hT, upd_ne, nI_1, Nat.add_assoc]
theorem f_lays1 (k5 : Int32 → Int32 → sMem → Option (sRes × sMem)) {A : hA} {R : sMem} {S : hS} (hg : hG A) (hc : hCl A R) {k : Nat} (hk : k < A.2.2) {t : Nat → Int32} (ht : S.2.2.2.1 k = t) {r N i p : Nat} {g : Nat → Int32} (hr : R.2.2.2 r = some (sArr 0 N g)) (hp : p < N) (hN : N < 100) (hi : i < 12) (hlo : wSm t (19 + i) 40) (n : Int32) : f_X2_spins_J49 k5 (hTa A k) (nI i) r n (nI p) 1 (hMem A R S) = k5 (n + 1) (nI (p + 1)) (hMem A R (hT S k (wLays i (wNext (g p)) t))) := by
  have e19 : t (19 + i) = nI (hLo t i) := hlo.1
  have l19 : hLo t i ≤ 40 := hlo.2
  have h10 : ¬ (1 : Int32) = 0 := by decide
  have h80 : ¬ (8 : Int32) = 0 := by decide
  have ld : sXld (hMem A R S) 0 r (nI p) = some (g p) := hR_ld hc S hr hp (by omega)
  unfold wLays
  by_cases c : t (19 + i) = 40
  · rw [if_pos c, ← ht, hT_self]
    have c' : S.2.2.2.1 k (19 + i) = 40 := by rw [ht]; exact c
    simp (disch := omega) only [f_X2_spins_J49, tgN_5 hg, trl_5 hg, eq_self, hcI, hcN, hcV, obS, if_true, if_false, c', h10, nI_1]
  · rw [if_neg c]
    have c' : ¬ nI (hLo t i) = 40 := by rw [← e19]; exact c
    have cl : hLo t i ≠ 40 := fun e => c' (by rw [e]; rfl)
    have c40 : (40 : Int32) * nI i + nI (hLo t i) = nI (40 * i + hLo t i) := by
      show nI 40 * nI i + _ = _
      rw [pk_mul, nI_add]
    simp (disch := omega) only [f_X2_spins_J49, f_X2_spins_J114, tgN_5 hg, tgN_6 hg, trl_5 hg, trs_5 hg, trs_6 hg, eq_self, hcI, hcN, hcV, obS, if_true, if_false, ht, e19, c', h10, h80, ld, c40, hT_same, hT_hT, upd_ne, nI_1, Nat.add_assoc]
    rfl
/-- the trays that are asked for a worm's tray -/
def hTr0 (S : hS) (t : Nat → Int32) : Prop := ∀ i, i < 12 → S.2.2.2.1 0 (581 + i) = t (581 + i)
theorem hTr0.T {S : hS} {t : Nat → Int32} (h : hTr0 S t) {k : Nat} {u : Nat → Int32} (hu : wAl t u) : hTr0 (hT S k u) u := fun i hi => by
  by_cases e : 0 = k
  · subst e
    rw [hT_same]
  · rw [hT_ne _ _ e, h i hi, hu _ (by omega)]
theorem hTr0.Rw {S : hS} {t : Nat → Int32} (h : hTr0 S t) (j : Nat) (f : Nat → Int32) : hTr0 (hRw S j f) t := fun i hi => by
  rw [hRw_3]
  exact h i hi
theorem f_spins {A : hA} {R : sMem} {S : hS} (hg : hG A) (hc : hCl A R) {k : Nat} (hk : k < A.2.2) {t : Nat → Int32} (ht : S.2.2.2.1 k = t) (hT0 : hTel R S t) (hw : wAct t) {tr : Bool} (hm : hMode S k tr) (htr : hTr0 S t) {i a r : Nat} {b : Option Nat} {g : Nat → Int32} (hi : i < hN t) (ha : a < hFc t) (hb : okB t b) (hr : R.2.2.2 r = some (sArr 0 (wMany t a b) g)) (hgm : ∀ j, j < wMany t a b → g j = wMark t a b j) : ∃ f, f_X2_spins (hTa A k) (nI i) r (hMem A R S) = some (.inl (some (.int (wSpun tr i a b t).2)), hMem A R (hRw (hT S k (wSpins tr i a b t)) 2 f)) := by
  have hn := hw.n
  have h10 : hFc t ≤ 10 := hw.1.2.1.1.2
  have hlo := (hw.2.1 i hi).1
  have hmany : wMany t a b ≤ 12 := by
    unfold wMany
    have l1 : hMc t a ≤ 6 := (hw.1.2.1.2 a ha).1.2
    cases b with
    | none => simp only []; omega
    | some b =>
      have l2 : hMc t b ≤ 6 := (hw.1.2.1.2 b (hb b rfl)).1.2
      simp only []; omega
  have start : hMem A R S = hMem A R (hRw (hT S k (fdN (wSpin tr i a b) (t, 0) 0).1) 2 (S.2.1 2)) := by
    show _ = hMem A R (hRw (hT S k t) 2 (S.2.1 2))
    rw [← ht, hT_self, hRw_self]
  unfold f_X2_spins
  rw [start]
  refine lp_S (fun f kk (x : (Nat → Int32) × Int32) => f_X2_spins_L5 (hTa A k) (nI i) r f x.2 (nI kk) (hMem A R (hRw (hT S k (fdN (wSpin tr i a b) (t, 0) kk).1) 2 x.1))) (wMany t a b) (fun kk x => x.2 = (fdN (wSpin tr i a b) (t, 0) kk).2) (fun o => ∃ f, o = some (.inl (some (.int (wSpun tr i a b t).2)), hMem A R (hRw (hT S k (wSpins tr i a b t)) 2 f))) ?_ ?_ sFuel (by have : 16 < sFuel := (by decide); omega) (S.2.1 2, 0) rfl
  · rintro f kk ⟨g1, n1⟩ hkk hn1
    left
    simp only at hn1 ⊢
    obtain ⟨hal, hlk⟩ := wSpun_al tr i a b t (by omega) hlo kk
    rw [fdN_s]
    generalize fdN (wSpin tr i a b) (t, 0) kk = W at *
    have hkk' : ¬ wMany t a b ≤ kk := by omega
    have T1 : (hRw (hT S k W.1) 2 g1).2.2.2.1 k = W.1 := by rw [hRw_3, hT_same]
    have tel : hTel R (hRw (hT S k W.1) 2 g1) W.1 := (hT0.al hw.1 hal).S (by rw [hRw_1, hT_1])
    have tr0 : hTr0 (hRw (hT S k W.1) 2 g1) W.1 := (htr.T hal).Rw _ _
    have em : g kk = wMark W.1 a b kk := by rw [hgm kk hkk, wMark_bk hal hw.1.2.1 ha hb]
    obtain ⟨g2, e2⟩ := f_slips hg hc hk T1 tel (wStat_al hal hw.1).2.2.2.2.2.2.2.2 (i := i) (by omega) (tr0 i (by omega)) (wMark W.1 a b kk) (nI kk)
    rw [hRw_hRw] at e2
    have ln := hR_len hc (hRw (hT S k W.1) 2 g1) hr
    have ld : sXld (hMem A R (hRw (hT S k W.1) 2 g1)) 0 r (nI kk) = some (wMark W.1 a b kk) := by rw [hR_ld hc _ hr hkk (by omega), em]
    have T2 : (hRw (hT S k W.1) 2 g2).2.2.2.1 k = W.1 := by rw [hRw_3, hT_same]
    have th : (hRw (hT S k W.1) 2 g2).2.2.2.2.1 k = S.2.2.2.2.1 k := by rw [hRw_3, hT_5]
    rcases hm with ⟨rfl, rfl, hm⟩ | ⟨rfl, hm⟩
    · have e3 := f_draw (R := R) hg hk T2
      rw [hT_hRw, hT_hT] at e3
      have T3 : (hRw (hT S 0 (wDraw W.1)) 2 g2).2.2.2.1 0 = wDraw W.1 := by rw [hRw_3, hT_same]
      have hd : wSm (wDraw W.1) (19 + i) 40 := wSm_al (upd_ne _ _ (by omega)) hlk
      by_cases c : wSlips W.1 i (wMark W.1 a b kk) (nI kk) ≤ wDrawn (wDraw W.1 5)
      · have e9 : wSpin true i a b kk W = (wLays i (wMark W.1 a b kk) (wDraw W.1), W.2) := by simp [wSpin, c]
        have e4 := f_lays0 (f_X2_spins_L5 (hTa A 0) (nI i) r f) hg hc hk T3 hr hkk (by omega) (i := i) (by omega) hd n1
        rw [hT_hRw, hT_hT, em] at e4
        refine ⟨(g2, n1), by rw [e9]; exact hn1, ?_⟩
        rw [e9]
        simp (disch := omega) only [f_X2_spins_L5, ln, eq_self, hcI, hcN, hcV, obS, if_true, if_false, nI_leI, hkk', ld, ht_chk hg, e2, tgI_17 hg, th, hm, e3, c, e4]
      · have e9 : wSpin true i a b kk W = (wLays i (wNext (wMark W.1 a b kk)) (wDraw W.1), W.2 + 1) := by simp [wSpin, c]
        have e4 := f_lays1 (f_X2_spins_L5 (hTa A 0) (nI i) r f) hg hc hk T3 hr hkk (by omega) (i := i) (by omega) hd n1
        rw [hT_hRw, hT_hT, em] at e4
        refine ⟨(g2, n1 + 1), by rw [e9, hn1], ?_⟩
        rw [e9]
        simp (disch := omega) only [f_X2_spins_L5, ln, eq_self, hcI, hcN, hcV, obS, if_true, if_false, nI_leI, hkk', ld, ht_chk hg, e2, tgI_17 hg, th, hm, e3, c, e4]
    · have h1 : ¬ (1 : Int32) = 0 := by decide
      have e9 : wSpin false i a b kk W = (wLays i (wMark W.1 a b kk) W.1, W.2) := by simp [wSpin]
      have e4 := f_lays0 (f_X2_spins_L5 (hTa A k) (nI i) r f) hg hc hk T2 hr hkk (by omega) (i := i) (by omega) hlk n1
      rw [hT_hRw, hT_hT, em] at e4
      refine ⟨(g2, n1), by rw [e9]; exact hn1, ?_⟩
      rw [e9]
      simp (disch := omega) only [f_X2_spins_L5, ln, eq_self, hcI, hcN, hcV, obS, if_true, if_false, nI_leI, hkk', ld, ht_chk hg, e2, tgI_17 hg, th, hm, h1, e4]
  · rintro f ⟨g1, n1⟩ hn1
    simp only at hn1
    have hn1' : n1 = (wSpun tr i a b t).2 := hn1
    have ln := hR_len hc (hRw (hT S k (wSpun tr i a b t).1) 2 g1) hr
    have hkk' : wMany t a b ≤ wMany t a b := Nat.le_refl _
    have T1 : (hRw (hT S k (wSpun tr i a b t).1) 2 g1).2.2.2.1 k = (wSpun tr i a b t).1 := by rw [hRw_3, hT_same]
    refine ⟨g1, ?_⟩
    show f_X2_spins_L5 (hTa A k) (nI i) r (f + 1) n1 (nI (wMany t a b)) (hMem A R (hRw (hT S k (wSpun tr i a b t).1) 2 g1)) = _
    simp (disch := omega) only [f_X2_spins_L5, ln, eq_self, hcI, hcN, hcV, obS, if_true, if_false, nI_leI, hkk', tgI_13 hg, tp_13 hg, T1, hT_hRw, hT_hT, hn1']
    rfl
theorem min999 (x : Int32) : (if x < 999 then x else 999) = if x ≤ 999 then x else 999 := by
  by_cases h1 : x < 999
  · have h2 : x ≤ 999 := by
      rw [Int32.lt_iff_toInt_lt] at h1
      rw [Int32.le_iff_toInt_le]
      omega
    rw [if_pos h1, if_pos h2]
  · by_cases h2 : x ≤ 999
    · rw [if_neg h1, if_pos h2]
      rw [Int32.lt_iff_toInt_lt] at h1
      rw [Int32.le_iff_toInt_le] at h2
      exact Int32.toInt_inj.mp (by omega)
    · rw [if_neg h1, if_neg h2]
theorem upd_comm (f : Nat → Int32) {a b : Nat} (x y : Int32) (h : a ≠ b) : upd (upd f a x) b y = upd (upd f b y) a x := by
  funext p
  unfold upd
  by_cases h1 : p = b
  · have : ¬ p = a := fun e => h (by rw [← e, h1])
    simp [h1, Ne.symm h]
  · simp [h1]
theorem f_feeds {A : hA} {R : sMem} {S : hS} (hg : hG A) (hc : hCl A R) {k : Nat} (hk : k < A.2.2) {t : Nat → Int32} (ht : S.2.2.2.1 k = t) (hT0 : hTel R S t) (hw : wAct t) {tr : Bool} (hm : hMode S k tr) (htr : hTr0 S t) {i a : Nat} {b : Option Nat} (hi : i < hN t) (ha : a < hFc t) (hb : okB t b) (hfl : t (67 + i) ≠ 1) : ∃ R' f, f_X2_feeds (hTa A k) (nI i) (nI a) (bI b) (hMem A R S) = some (.inl (some (.int (wFed tr i a b t))), hMem A R' (hRw (hT S k (wFeeds tr i a b t)) 2 f)) ∧ hEx 1 12 R R' ∧ hCl A R' := by
  have hn := hw.n
  have h10 : hFc t ≤ 10 := hw.1.2.1.1.2
  have p1 := f_leaf (S := S) hg hc hk hT0 hw.1.2.1 ha hb
  have al0 := wFeed0_al i a b t (by omega)
  have off0 : ∀ p, p ≠ 1 → p ≠ 2 → p ≠ 7 + i → p ≠ 79 + i → wFeed0 i a b t p = t p := fun p => wFeed0_6 i a b t (by omega)
  have w0 : wAct (wFeed0 i a b t) := ⟨wStat_al al0 hw.1, wDyn_safe hn hw.2 (fun p hp => off0 p (by omega) (by omega) (by omega) (by omega))⟩
  have hi0 : i < hN (wFeed0 i a b t) := by rw [hN_al al0]; exact hi
  have ha0 : a < hFc (wFeed0 i a b t) := by rw [hFc_al al0]; exact ha
  have hb0 : okB (wFeed0 i a b t) b := fun k hk => by rw [hFc_al al0]; exact hb k hk
  have f0 : wFeed0 i a b t (67 + i) ≠ 1 := by rw [off0 _ (by omega) (by omega) (by omega) (by omega)]; exact hfl
  have tel0 : hTel R (hT S k (wFeed0 i a b t)) (wFeed0 i a b t) := (hT0.al hw.1 al0).S (hT_1 _ _ _)
  obtain ⟨R1, r, g, e2, ex, hc1, hr, hgm⟩ := f_spunOf (S := hT S k (wFeed0 i a b t)) hg hc tel0.2.1 w0.1.2.1 ha0 hb0
  have tel1 := tel0.ex ex.1
  obtain ⟨f1, e3⟩ := f_spins hg hc1 hk (hT_same S k _) tel1 w0 (hm.T k _) (htr.T al0) hi0 ha0 hb0 hr hgm
  rw [hT_hT] at e3
  have w2 := wAct_spins tr w0 hi0 ha0 hb0 f0
  have hlo0 := (w0.2.1 i hi0).1
  have al2 := al0.trans (wSpins_al tr i a b _ (by omega) hlo0)
  have tel2 : hTel R1 (hRw (hT S k (wSpins tr i a b (wFeed0 i a b t))) 2 f1) (wSpins tr i a b (wFeed0 i a b t)) := ((hT0.al hw.1 al2).ex ex.1).S (by rw [hRw_1, hT_1])
  have T2 : (hRw (hT S k (wSpins tr i a b (wFeed0 i a b t))) 2 f1).2.2.2.1 k = wSpins tr i a b (wFeed0 i a b t) := by rw [hRw_3, hT_same]
  obtain ⟨f2, e4⟩ := f_strong hg hc1 hk T2 tel2 w2.1.2.2.2.2.2.2.2.2 (i := i) (by omega) (((htr.T al2).Rw _ _) i (by omega))
  rw [hRw_hRw] at e4
  have al3 : wAl t (wFeed2 tr i (wSpins tr i a b (wFeed0 i a b t))) := al2.upd _ (by omega)
  have w3 : wAct (wFeed2 tr i (wSpins tr i a b (wFeed0 i a b t))) := ⟨wStat_al al3 hw.1, wDyn_safe w2.n w2.2 (fun p hp => upd_ne _ _ (by omega))⟩
  have hm3 : hMode (hRw (hT S k (wFeed2 tr i (wSpins tr i a b (wFeed0 i a b t)))) 2 f2) k tr := (hm.T _ _).Rw _ _
  have T3 : (hRw (hT S k (wFeed2 tr i (wSpins tr i a b (wFeed0 i a b t)))) 2 f2).2.2.2.1 k = wFeed2 tr i (wSpins tr i a b (wFeed0 i a b t)) := by rw [hRw_3, hT_same]
  have e5 := f_note (R := R1) hg hk T3 hm3 w3.2.2.2.1 (if bI b = -1 then 0 else 1) (if bI b = -1 then nI a else 10 * nI a + bI b) i
  rw [hT_hRw, hT_hT] at e5
  have e5' : f_X2_notes (hTa A k) (if bI b = -1 then 0 else 1) (nI i) (if bI b = -1 then nI a else 10 * nI a + bI b) (hMem A R1 (hRw (hT S k (wFeed2 tr i (wSpins tr i a b (wFeed0 i a b t)))) 2 f2)) = some (.inl none, hMem A R1 (hRw (hT S k (wFeedC tr i a b t)) 2 f2)) := e5
  obtain ⟨q, hq, hL⟩ := hT0.1
  obtain ⟨o1, o2⟩ := wFeed_order hc tr hL hw hi ha hb
  have w4 : wDyn (wFeedC tr i a b t) := wDyn_note tr _ _ i w3.n w3.2
  have al4 : wAl t (wFeedC tr i a b t) := al3.trans (wNote_al tr _ _ i _ w3.2.2.2.1)
  have T4 : (hRw (hT S k (wFeedC tr i a b t)) 2 f2).2.2.2.1 k = wFeedC tr i a b t := by rw [hRw_3, hT_same]
  have e6 := f_hide (R := R1) hg hk T4 ((hm.T _ _).Rw _ _) w4.2.2.1 (i := i) (by rw [hN_al al4]; exact hi) (by rw [hN_al al4]; exact hn)
  rw [hT_hRw, hT_hT] at e6
  have u0 : upd (upd (upd (upd t 1 (t 1 - wLeaf t a b)) (7 + i) (t (7 + i) + (if bI b = -1 then 1 else 2))) (79 + i) (t (79 + i) + 1)) 2 (t 2 + (if bI b = -1 then 0 else 1)) = wFeed0 i a b t := by
    unfold wFeed0
    exact upd_comm _ _ _ (by omega)
  have u2 : upd (wSpins tr i a b (wFeed0 i a b t)) (31 + i) (if wSpins tr i a b (wFeed0 i a b t) (31 + i) + wStrong (wSpins tr i a b (wFeed0 i a b t)) i ≤ 999 then wSpins tr i a b (wFeed0 i a b t) (31 + i) + wStrong (wSpins tr i a b (wFeed0 i a b t)) i else 999) = wFeed2 tr i (wSpins tr i a b (wFeed0 i a b t)) := rfl
  have T2' : (hRw (hT S k (wSpins tr i a b (wFeed0 i a b t))) 2 f2).2.2.2.1 k = wSpins tr i a b (wFeed0 i a b t) := by rw [hRw_3, hT_same]
  have res : f_X2_feeds (hTa A k) (nI i) (nI a) (bI b) (hMem A R S) = if wFeedC tr i a b t (7 + i) = 9 then some (.inl (some (.int (wFed tr i a b t))), hMem A R1 (hRw (hT S k (wHide tr i (wFeedC tr i a b t))) 2 f2)) else some (.inl (some (.int (wFed tr i a b t))), hMem A R1 (hRw (hT S k (wFeedC tr i a b t)) 2 f2)) := by
    simp (disch := omega) only [f_X2_feeds, tgI_9 hg, tp_9 hg, ht, eq_self, hcI, hcN, hcV, obS, if_true, if_false, ht_chk hg, hx_chk hg, p1, tgN_1 hg, trl_1 hg, trs_1 hg, hT_same, hT_hT, upd_ne, tgN_2 hg, trl_2 hg, trs_2 hg, tgI_12 hg, tp_12 hg, u0, tgN_18 hg, e2, e3, tgN_3 hg, trl_3 hg, trs_3 hg, T2, e4, T2', min999, hT_hRw, u2, e5', T4, e6, o2]
  refine ⟨R1, f2, ?_, ex, hc1⟩
  rw [res]
  unfold wFeeds
  rw [o1]
  split <;> rfl
