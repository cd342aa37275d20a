/-! acts: cocoons, days -/
set_option maxRecDepth 100000
def wCanH (t : Nat → Int32) (i : Nat) : Bool := decide (t (43 + i) = -1) && (decide (t (67 + i) ≠ 1) && !decide (t (19 + i) ≤ 0))
def wCanS (t : Nat → Int32) (i : Nat) : Bool := decide (t (43 + i) ≠ -1) && decide (t (55 + i) = 0)
def wSteam (tr : Bool) (i : Nat) (t : Nat → Int32) : Nat → Int32 := wNote tr 3 i 0 (upd t (55 + i) 1)
theorem f_canHide {A : hA} {R : sMem} {S : hS} (hg : hG A) {k : Nat} (hk : k < A.2.2) {t : Nat → Int32} (ht : S.2.2.2.1 k = t) (hw : wAct t) {i : Nat} (hi : i < hN t) : f_X2_canHide (hTa A k) (nI i) (hMem A R S) = some (.inl (some (.int (b01 (wCanH t i)))), hMem A R S) := by
  have hn := hw.n
  obtain ⟨c, hc1, hc2, hc3, hc4⟩ := hCo_at hw.2 hn hi
  have l4 := hr_ld4 hg R S hk (p := i) (by omega)
  rw [ht, hc2] at l4
  have e3 := fx_has A R S t (o := 67) (w := i) (by omega)
  have h10 : ¬ (1 : Int32) = 0 := by decide
  unfold wCanH
  by_cases c1 : t (43 + i) = -1
  · have hc0 : nI c = 0 := by rw [hc4.mp c1]; rfl
    by_cases c2 : t (67 + i) = 1
    · rw [if_pos c2] at e3
      simp (disch := omega) only [f_X2_canHide, tgN_4 hg, l4, eq_self, ↓reduceIte, hcI, hcN, hcV, obS, if_true, if_false, hc0, tgI_8 hg, ht, e3, h10]
      simp [c1, c2, b01]
    · rw [if_neg c2] at e3
      by_cases c3 : t (19 + i) ≤ 0
      · simp (disch := omega) only [f_X2_canHide, tgN_4 hg, l4, eq_self, ↓reduceIte, hcI, hcN, hcV, obS, if_true, if_false, hc0, tgI_8 hg, ht, e3, tgN_5 hg, trl_5 hg, c3]
        simp [c1, c2, c3, b01]
      · simp (disch := omega) only [f_X2_canHide, tgN_4 hg, l4, eq_self, ↓reduceIte, hcI, hcN, hcV, obS, if_true, if_false, hc0, tgI_8 hg, ht, e3, tgN_5 hg, trl_5 hg, c3]
        simp [c1, c2, c3, b01]
  · have hc0 : ¬ nI c = 0 := fun e => c1 (hc4.mpr ((nI_eq (b := 0) (by omega) (by omega)).mp e))
    simp (disch := omega) only [f_X2_canHide, tgN_4 hg, l4, eq_self, ↓reduceIte, hcI, hcN, hcV, obS, if_true, if_false, hc0]
    simp [c1, b01]
theorem f_canSteam {A : hA} {R : sMem} {S : hS} (hg : hG A) {k : Nat} (hk : k < A.2.2) {t : Nat → Int32} (ht : S.2.2.2.1 k = t) (hw : wAct t) {i : Nat} (hi : i < hN t) : f_X2_canSteam (hTa A k) (nI i) (hMem A R S) = some (.inl (some (.int (b01 (wCanS t i)))), hMem A R S) := by
  have hn := hw.n
  obtain ⟨c, hc1, hc2, hc3, hc4⟩ := hCo_at hw.2 hn hi
  have l4 := hr_ld4 hg R S hk (p := i) (by omega)
  rw [ht, hc2] at l4
  have e3 := fx_has A R S t (o := 55) (w := i) (by omega)
  have h10 : ¬ (1 : Int32) = 0 := by decide
  have r6 := (hw.2.1 i hi).2.2.1
  unfold wCanS
  by_cases c1 : t (43 + i) = -1
  · have hc0 : nI c ≤ 0 := by rw [hc4.mp c1]; decide
    simp (disch := omega) only [f_X2_canSteam, tgN_4 hg, l4, eq_self, ↓reduceIte, hcI, hcN, hcV, obS, if_true, if_false, hc0]
    simp [c1, b01]
  · have hc0 : ¬ nI c ≤ 0 := nI_nle (by have : c ≠ 0 := fun e => c1 (hc4.mpr e); omega) (by omega)
    rcases r6 with c2 | c2
    · have c3 : ¬ t (55 + i) = 1 := by rw [c2]; decide
      rw [if_neg c3] at e3
      simp (disch := omega) only [f_X2_canSteam, tgN_4 hg, l4, eq_self, ↓reduceIte, hcI, hcN, hcV, obS, if_true, if_false, hc0, tgI_7 hg, ht, e3]
      simp [c1, c2, b01]
    · rw [if_pos c2] at e3
      simp (disch := omega) only [f_X2_canSteam, tgN_4 hg, l4, eq_self, ↓reduceIte, hcI, hcN, hcV, obS, if_true, if_false, hc0, tgI_7 hg, ht, e3, h10]
      simp [c1, c2, b01]
theorem f_steam {A : hA} {R : sMem} {S : hS} (hg : hG A) {k : Nat} (hk : k < A.2.2) {t : Nat → Int32} (ht : S.2.2.2.1 k = t) {tr : Bool} (hm : hMode S k tr) (h6 : wSm t 6 150) {i : Nat} (hi : i < 12) : f_X2_steams (hTa A k) (nI i) (hMem A R S) = some (.inl none, hMem A R (hT S k (wSteam tr i t))) := by
  have e1 : hBits t 55 ||| (1 : Int32) <<< (nI i &&& 31) = hBits (upd t (55 + i) 1) 55 := hBits_or t hi
  have p7 := ht_put7 hg R S hk hi 1
  rw [ht] at p7
  have e2 := f_note (R := R) (S := hT S k (upd t (55 + i) 1)) hg hk (hT_same _ _ _) (hm.T _ _) (wSm_al (upd_ne _ _ (by omega)) h6) 3 0 i
  rw [hT_hT] at e2
  simp (disch := omega) only [f_X2_steams, tgI_7 hg, ht, eq_self, ↓reduceIte, hcI, hcN, hcV, obS, if_true, if_false, e1, p7, ht_chk hg, e2]
  rfl
theorem px_canCocoon (m : Nat) (s : mSt) {i : Nat} (hi : i < 12) (v : Int32) : p_X3_canCocoon m (nI i) v s = some (some (.int (b01 (if v = 0 then wCanH (s.2 0) i else wCanS (s.2 0) i))), s) := by
  have c19 : (19 : Int32) + nI i = nI (19 + i) := nI_add 19 i
  have c55 : (55 : Int32) + nI i = nI (55 + i) := nI_add 55 i
  have h10 : ¬ (1 : Int32) = 0 := by decide
  unfold wCanH wCanS
  by_cases hv : v = 0
  · by_cases c1 : s.2 0 (43 + i) = -1
    · by_cases c2 : s.2 0 (67 + i) = 1
      · simp (disch := omega) only [p_X3_canCocoon, hv, ↓reduceIte, px_spun, px_flown, c1, c2, pcI, h10]
        simp [b01]
      · by_cases c3 : s.2 0 (19 + i) ≤ 0
        · simp (disch := omega) only [p_X3_canCocoon, hv, ↓reduceIte, px_spun, px_flown, c1, c2, pcI, mRow_0, obS, c19, qld_0, c3]
          simp [c2, b01]
        · simp (disch := omega) only [p_X3_canCocoon, hv, ↓reduceIte, px_spun, px_flown, c1, c2, pcI, mRow_0, obS, c19, qld_0, c3]
          simp [c2, b01]
    · simp (disch := omega) only [p_X3_canCocoon, hv, ↓reduceIte, px_spun, c1, pcI, h10]
      simp [b01]
  · by_cases c1 : s.2 0 (43 + i) = -1
    · simp (disch := omega) only [p_X3_canCocoon, hv, ↓reduceIte, px_spun, c1, pcI]
      simp [b01]
    · by_cases c2 : s.2 0 (55 + i) = 0
      · simp (disch := omega) only [p_X3_canCocoon, hv, ↓reduceIte, px_spun, c1, pcI, h10, mRow_0, obS, c55, qld_0, c2]
        simp [b01, c1]
      · simp (disch := omega) only [p_X3_canCocoon, hv, ↓reduceIte, px_spun, c1, pcI, h10, mRow_0, obS, c55, qld_0, c2]
        simp [b01]
theorem wAct_hide (tr : Bool) {t : Nat → Int32} {i : Nat} (h : wAct t) (hi : i < hN t) : wAct (wHide tr i t) ∧ wAl t (wHide tr i t) := by
  have al := wHide_al tr h.2.2.2.1 (i := i) (by have := h.n; omega)
  exact ⟨⟨wStat_al al h.1, wDyn_hide tr h.n hi h.2⟩, al⟩
theorem wAct_steam (tr : Bool) {t : Nat → Int32} {i : Nat} (h : wAct t) (hi : i < hN t) : wAct (wSteam tr i t) ∧ wAl t (wSteam tr i t) := by
  have hn := h.n
  have al1 : wAl t (upd t (55 + i) 1) := (wAl.refl t).upd _ (by omega)
  have d : wDyn (upd t (55 + i) 1) := by
    unfold wDyn
    rw [hN_al al1]
    refine ⟨fun j hj => ?_, fun p hp => wSm_al (upd_ne _ _ (by omega)) (h.2.2.1 p hp), wSm_al (upd_ne _ _ (by omega)) h.2.2.2.1, fun j hj hj2 => by rw [upd_ne _ _ (by omega)]; exact h.2.2.2.2 j hj hj2⟩
    obtain ⟨b1, b2, b3, b4, b5⟩ := h.2.1 j hj
    rw [upd_ne _ _ (show 43 + j ≠ 55 + i by omega), upd_ne _ _ (show 67 + j ≠ 55 + i by omega), upd_ne _ _ (show 19 + j ≠ 55 + i by omega)]
    refine ⟨wSm_al (upd_ne _ _ (by omega)) b1, b2, ?_, b4, b5⟩
    by_cases e : j = i
    · subst e
      rw [upd_same]
      exact Or.inr rfl
    · rw [upd_ne _ _ (by omega)]
      exact b3
  have al : wAl t (wSteam tr i t) := al1.trans (wNote_al tr _ _ i _ d.2.2.1)
  exact ⟨⟨wStat_al al h.1, wDyn_note tr _ _ i (by rw [hN_al al1]; exact hn) d⟩, al⟩
theorem j_cocoon {A : hA} {R : sMem} {S : hS} {g : Nat → Nat} {b L : Nat} {xs : Nat → Int32} (h : hInv A R S g b L xs) (v w : Int32) : hOp A R S g b L xs (f_X0_cocoon (hX A) v w) (f_X3_cocoon (A.2.1 9) v w) := by
  have hg := h.1.1
  have hc := h.1.2.1
  have h3 : 0 < A.2.2 := by have := hg.2.2.2; omega
  have ht := h.t0
  have hw := h.act
  have hn := hw.n
  have hq : ∀ (R : sMem), R.1 ≤ A.2.1 9 → ∀ s : mSt, f_X3_cocoon (A.2.1 9) v w (mPut R (A.2.1 9) s) = lft R (A.2.1 9) (p_X3_cocoon (A.2.1 9) v w s) := fun R hR s => q_X3_cocoon R _ hR v w s
  have f1 := fx_isWorm hg R S v
  have p1 := px_isWorm (A.2.1 9) v S.2.2.2.2.2
  rw [ht] at p1
  cases hv : inB v 0 (S.2.2.2.1 0 571 - 1) with
  | false =>
    refine hOp.read0 h hq (v := 0) ?_ ?_
    · simp only [f_X0_cocoon, hx_chk hg, f1, hv, eq_self, ↓reduceIte, hcI, hcN, hcV, obS, if_true, if_false, b01_f]
    · simp only [p_X3_cocoon, p1, hv, pcI, b01_f, ↓reduceIte]
  | true =>
    have e571 : S.2.2.2.1 0 571 = nI (hN (S.2.2.2.1 0)) := hw.1.1.1.1
    have hv' := hv
    rw [e571] at hv'
    obtain ⟨i, hi, rfl⟩ := inB_below (by omega) hv'
    have pc := px_canCocoon (A.2.1 9) S.2.2.2.2.2 (i := i) (by omega) w
    rw [ht] at pc
    have fh := f_canHide (R := R) (S := S) hg h3 rfl hw hi
    have fs := f_canSteam (R := R) (S := S) hg h3 rfl hw hi
    have hI1 : hInv A R (hM S S.2.2.2.2.2) g b L xs := h
    obtain ⟨A', R', S', s', fk, pk, hI2, hm, a1, a2, a3, ex, T0, m0, m27⟩ := j_keeps hI1 (A.2.1 9)
    have hg' := hI2.1.1
    have h3' : 0 < A'.2.2 := by have := hg'.2.2.2; omega
    have m0' : s'.2 0 = S.2.2.2.1 0 := by rw [m0, ht]
    rw [← a2] at fk
    have k1 : ∀ o, sChk (hMem A R S) 0 (hX A') o = o := fun o => by rw [a2]; exact hx_chk hg R _ o
    have k2 : sGetN (hMem A R S) 0 23 (hX A') = some (hTa A 0) := by rw [a2]; exact xgN_23 hg R S
    have f1' : f_X0_isWorm (hX A') (nI i) (hMem A R S) = some (.inl (some (.int (b01 (inB (nI i) 0 (S.2.2.2.1 0 571 - 1))))), hMem A R S) := by rw [a2]; exact f1
    by_cases w0 : w = 0
    · rw [if_pos w0] at pc
      cases hcan : wCanH (S.2.2.2.1 0) i with
      | false =>
        rw [hcan] at fh pc
        refine hOp.read0 h hq (v := 0) ?_ ?_
        · simp only [f_X0_cocoon, hx_chk hg, f1, hv, eq_self, ↓reduceIte, hcI, hcN, hcV, obS, if_true, if_false, b01_t, b01_f, w0, xgN_23 hg, ht_chk hg R S h3, fh]
        · rw [w0] at pc
          simp only [p_X3_cocoon, p1, hv, pcI, b01_t, b01_f, ↓reduceIte, w0, pc]
      | true =>
        rw [hcan] at fh pc
        obtain ⟨wa, al⟩ := wAct_hide true hw hi
        have ff := f_hide (R := R') (S := S') hg' h3' T0 hI2.mode hw.2.2.2.1 hi hn
        have pp := px_hide (A.2.1 9) s' (tr := true) m27 (by rw [m0']; exact hw.2.2.2.1) (i := i) (by omega)
        rw [m0'] at pp
        have hI3 := hI2.act2 (t' := wHide true i (S.2.2.2.1 0)) (by rw [T0]; exact al) wa hI2.1.2.1 (fun _ _ h => h) ((Sw.refl s').world (t' := wHide true i (S.2.2.2.1 0))) (S'.2.1 2)
        have er : hRw (hT S' 0 (wHide true i (S.2.2.2.1 0))) 2 (S'.2.1 2) = hT S' 0 (wHide true i (S.2.2.2.1 0)) := hRw_self (hT S' 0 (wHide true i (S.2.2.2.1 0))) 2
        rw [er] at hI3
        refine hOp.write2 a1 a2 a3 hq (v := 1) (R' := R') (S1 := hT S' 0 (wHide true i (S.2.2.2.1 0))) ?_ ?_ (ex.le (by omega) (by omega)) ?_ hI3
        · rw [← a2]
          simp only [f_X0_cocoon, f_X0_cocoon_J39, k1, f1', hv, eq_self, ↓reduceIte, hcI, hcN, hcV, obS, if_true, if_false, b01_t, w0, k2, ht_chk hg R S h3, fh, fk, xgN_23 hg', ht_chk hg' R' S' h3', ff]
        · rw [hT_5, hm]
        · rw [w0] at pc
          simp only [p_X3_cocoon, p1, hv, pcI, pcV, b01_t, ↓reduceIte, w0, pc, pk, pp]
    · rw [if_neg w0] at pc
      cases hcan : wCanS (S.2.2.2.1 0) i with
      | false =>
        rw [hcan] at fs pc
        refine hOp.read0 h hq (v := 0) ?_ ?_
        · simp only [f_X0_cocoon, hx_chk hg, f1, hv, eq_self, ↓reduceIte, hcI, hcN, hcV, obS, if_true, if_false, b01_t, b01_f, w0, xgN_23 hg, ht_chk hg R S h3, fs]
        · simp only [p_X3_cocoon, p1, hv, pcI, b01_t, b01_f, ↓reduceIte, pc]
      | true =>
        rw [hcan] at fs pc
        obtain ⟨wa, al⟩ := wAct_steam true hw hi
        have ff := f_steam (R := R') (S := S') hg' h3' T0 hI2.mode hw.2.2.2.1 (i := i) (by omega)
        have h6 : wSm (upd (S.2.2.2.1 0) (55 + i) 1) 6 150 := wSm_al (upd_ne _ _ (by omega)) hw.2.2.2.1
        have pn := px_note (A.2.1 9) (mRowSet s' 0 (upd (S.2.2.2.1 0) (55 + i) 1)) (tr := true) (by rw [mrs_1]; exact m27) (by rw [mrs_same]; exact h6) 3 0 i
        rw [mrs_same, mrs_mrs] at pn
        have hI3 := hI2.act2 (t' := wSteam true i (S.2.2.2.1 0)) (by rw [T0]; exact al) wa hI2.1.2.1 (fun _ _ h => h) ((Sw.refl s').world (t' := wSteam true i (S.2.2.2.1 0))) (S'.2.1 2)
        have er : hRw (hT S' 0 (wSteam true i (S.2.2.2.1 0))) 2 (S'.2.1 2) = hT S' 0 (wSteam true i (S.2.2.2.1 0)) := hRw_self (hT S' 0 (wSteam true i (S.2.2.2.1 0))) 2
        rw [er] at hI3
        have c55 : (55 : Int32) + nI i = nI (55 + i) := nI_add 55 i
        refine hOp.write2 a1 a2 a3 hq (v := 1) (R' := R') (S1 := hT S' 0 (wSteam true i (S.2.2.2.1 0))) ?_ ?_ (ex.le (by omega) (by omega)) ?_ hI3
        · rw [← a2]
          simp only [f_X0_cocoon, f_X0_cocoon_J39, k1, f1', hv, eq_self, ↓reduceIte, hcI, hcN, hcV, obS, if_true, if_false, b01_t, w0, k2, ht_chk hg R S h3, fs, fk, xgN_23 hg', ht_chk hg' R' S' h3', ff]
        · rw [hT_5, hm]
        · simp (disch := omega) only [p_X3_cocoon, p1, hv, pcI, pcV, b01_t, ↓reduceIte, w0, pc, pk, mRow_0, obS, c55, qst_0, m0', pn]
          rfl
