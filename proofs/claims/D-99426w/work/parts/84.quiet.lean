/-! a day thought only: the book stays -/
set_option maxRecDepth 100000
def wBq (t t' : Nat → Int32) : Prop := ∀ p, 871 ≤ p → p < 1471 → t' p = t p
theorem wNote_f (what which : Int32) (i : Nat) (t : Nat → Int32) : wNote false what i which t = t := by
  unfold wNote
  rw [if_neg (fun h => by cases h.1)]
theorem wFeeds_q {i a : Nat} {b : Option Nat} {t : Nat → Int32} (h : wAct t) (hi : i < hN t) : wBq t (wFeeds false i a b t) := fun p h1 h2 => by
  have hn := h.n
  have off0 : ∀ p, p ≠ 1 → p ≠ 2 → p ≠ 7 + i → p ≠ 79 + i → wFeed0 i a b t p = t p := fun p => wFeed0_6 i a b t (by omega)
  have hlo0 : wSm (wFeed0 i a b t) (19 + i) 40 := wSm_al (off0 _ (by omega) (by omega) (by omega) (by omega)) (h.2.1 i hi).1
  have e1 : wFeed1 false i a b t = wFeed0 i a b t := wNote_f _ _ _ _
  have e2 : wFeed2 false i (wSpins false i a b (wFeed1 false i a b t)) p = t p := by
    unfold wFeed2
    rw [upd_ne _ _ (by omega), e1, wSpins_off false i a b _ (by omega) hlo0 (by omega) (by omega) (by omega) (by omega), off0 p (by omega) (by omega) (by omega) (by omega)]
  unfold wFeeds
  split
  · unfold wHide
    rw [wNote_f, upd_ne _ _ (by omega)]
    exact e2
  · exact e2
theorem wGrow_q {i : Nat} {t : Nat → Int32} (hi : i < 12) : wBq t (wGrow false i t) := fun p h1 h2 => by
  have eo : wOld i t p = t p := upd_ne _ _ (by omega)
  unfold wGrow
  split
  · rfl
  · split
    · unfold wFly
      rw [wNote_f, upd_ne _ _ (by omega), upd_ne _ _ (by omega), upd_ne _ _ (by omega), upd_ne _ _ (by omega), upd_ne _ _ (by omega)]
      exact eo
    · exact eo
theorem wMeal_q {t : Nat → Int32} {k : Nat} (h : wAct t) (hk : k < hMe t) : wBq t (wMeal false k t) := by
  obtain ⟨⟨a1, -⟩, ⟨a2, -⟩, a3, -⟩ := wMea_k h.n h.1.2.1.1.2 h.1.2.2.1 hk
  unfold wMeal
  split
  · exact wFeeds_q h a1
  · exact fun _ _ _ => rfl
theorem wDay_q {t : Nat → Int32} (h : wAct t) : wBq t (wDay false t) := by
  have hn := h.n
  have m1 : ∀ n, n ≤ hMe t → wBq t (fdN (wMeal false) t n) := fun n hn => by
    have := fdN_inv (n := n) (g := wMeal false) (fun _ x => (wAct x ∧ wAl t x) ∧ wBq t x) ⟨⟨h, wAl.refl t⟩, fun _ _ _ => rfl⟩ (fun k x hk hx => by
      have e : hMe x = hMe t := congrArg cv (hx.1.2 575 (by omega))
      have := wAct_meal false hx.1.1 (k := k) (by omega)
      exact ⟨⟨this.1, hx.1.2.trans this.2⟩, fun p p1 p2 => (wMeal_q hx.1.1 (k := k) (by omega) p p1 p2).trans (hx.2 p p1 p2)⟩)
    exact this.2
  have am := wAct_meals false h _ (Nat.le_refl _)
  have e571 : hN (wMeals false t) = hN t := hN_al am.2
  have g1 : ∀ n, n ≤ hN t → wBq (wMeals false t) (fdN (wGrow false) (wMeals false t) n) := fun n hn => by
    exact fdN_inv (n := n) (g := wGrow false) (fun _ x => wBq (wMeals false t) x) (fun _ _ _ => rfl) (fun k x hk hx => fun p p1 p2 => (wGrow_q (i := k) (by omega) p p1 p2).trans (hx p p1 p2))
  intro p p1 p2
  unfold wDay wZero
  rw [if_neg (by omega), upd_ne _ _ (by omega)]
  unfold wGrown
  rw [g1 (hN (wMeals false t)) (by omega) p p1 p2]
  exact m1 _ (Nat.le_refl _) p p1 p2
/-- saved and put back -/
theorem px_save (m : Nat) (v w : Int32) (s : mSt) : p_X3_goes_L23 m v w sFuel 0 s = p_X3_goes_L55 m v w sFuel 0 (mSet (mRowSet s 3 (fun p => if p < 571 then s.2 0 p else s.2 3 p)) 27 0) := by
  have := lp_F (fun f k => p_X3_goes_L23 m v w f (nI k) (mRowSet s 3 (fun p => if p < k then s.2 0 p else s.2 3 p))) 571 (p_X3_goes_L55 m v w sFuel 0 (mSet (mRowSet s 3 (fun p => if p < 571 then s.2 0 p else s.2 3 p)) 27 0)) ?_ ?_ sFuel (by decide)
  · have e0 : (fun p => if p < 0 then s.2 0 p else s.2 3 p) = s.2 3 := by
      funext p
      rw [if_neg (by omega)]
    have h2 : p_X3_goes_L23 m v w sFuel (nI 0) (mRowSet s 3 (fun p => if p < 0 then s.2 0 p else s.2 3 p)) = _ := this
    rw [e0, mrs_self] at h2
    exact h2
  · intro f k hk
    have hk' : ¬ 571 ≤ k := by omega
    have eu : upd (fun p => if p < k then s.2 0 p else s.2 3 p) k (s.2 0 k) = fun p => if p < k + 1 then s.2 0 p else s.2 3 p := by
      funext p
      unfold upd
      by_cases h1 : p = k
      · rw [if_pos h1, if_pos (by omega), h1]
      · rw [if_neg h1]
        dsimp only
        by_cases h2 : p < k
        · rw [if_pos h2, if_pos (by omega)]
        · rw [if_neg h2, if_neg (by omega)]
    have hkl : ¬ (571 : Int32) ≤ nI k := fun q => hk' ((nI_leI (a := 571) (by omega) (by omega)).mp q)
    simp (disch := omega) only [p_X3_goes_L23, hkl, ↓reduceIte, mRow_0, mRow_3, obS, qld_0, mrs_ne, qst_3, mrs_same, mrs_mrs, eu, nI_1]
  · intro f
    have hk' : (571 : Int32) ≤ nI 571 := by decide
    simp only [p_X3_goes_L23, hk', ↓reduceIte, qp, obS]
theorem px_back (m : Nat) (y : Int32) (s : mSt) : p_X3_goes_L119 m y sFuel 0 s = some (some (.int y), mRowSet s 0 (fun p => if p < 571 then s.2 3 p else s.2 0 p)) := by
  have := lp_F (fun f k => p_X3_goes_L119 m y f (nI k) (mRowSet s 0 (fun p => if p < k then s.2 3 p else s.2 0 p))) 571 (some (some (.int y), mRowSet s 0 (fun p => if p < 571 then s.2 3 p else s.2 0 p))) ?_ ?_ sFuel (by decide)
  · have e0 : (fun p => if p < 0 then s.2 3 p else s.2 0 p) = s.2 0 := by
      funext p
      rw [if_neg (by omega)]
    have h2 : p_X3_goes_L119 m y sFuel (nI 0) (mRowSet s 0 (fun p => if p < 0 then s.2 3 p else s.2 0 p)) = _ := this
    rw [e0, mrs_self] at h2
    exact h2
  · intro f k hk
    have hk' : ¬ 571 ≤ k := by omega
    have eu : upd (fun p => if p < k then s.2 3 p else s.2 0 p) k (s.2 3 k) = fun p => if p < k + 1 then s.2 3 p else s.2 0 p := by
      funext p
      unfold upd
      by_cases h1 : p = k
      · rw [if_pos h1, if_pos (by omega), h1]
      · rw [if_neg h1]
        dsimp only
        by_cases h2 : p < k
        · rw [if_pos h2, if_pos (by omega)]
        · rw [if_neg h2, if_neg (by omega)]
    have hkl : ¬ (571 : Int32) ≤ nI k := fun q => hk' ((nI_leI (a := 571) (by omega) (by omega)).mp q)
    simp (disch := omega) only [p_X3_goes_L119, hkl, ↓reduceIte, mRow_0, mRow_3, obS, qld_3, mrs_ne, qst_0, mrs_same, mrs_mrs, eu, nI_1]
  · intro f
    have hk' : (571 : Int32) ≤ nI 571 := by decide
    simp only [p_X3_goes_L119, hk', ↓reduceIte]
