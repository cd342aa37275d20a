/-! the image -/
set_option maxRecDepth 100000
def imW (a b : Nat → Int32) : Nat → Int32 := fun p => if p < 2355 then a p else b p
theorem px_take (m : Nat) {v : Int32} (hv : ¬ v = 0) (s : mSt) : p_X3_image_L15 m v sFuel 0 s = some (some (.int 1), mSet (mRowSet s 1 (imW (s.2 0) (s.2 1))) 5 1) := by
  have := lp_F (fun f k => p_X3_image_L15 m v f (nI k) (mRowSet s 1 (fun p => if p < k then s.2 0 p else s.2 1 p))) 2355 (some (some (.int 1), mSet (mRowSet s 1 (imW (s.2 0) (s.2 1))) 5 1)) ?_ ?_ sFuel (by decide)
  · have e0 : (fun p => if p < 0 then s.2 0 p else s.2 1 p) = s.2 1 := by
      funext p
      rw [if_neg (by omega)]
    have h2 : p_X3_image_L15 m v sFuel (nI 0) (mRowSet s 1 (fun p => if p < 0 then s.2 0 p else s.2 1 p)) = _ := this
    rw [e0, mrs_self] at h2
    exact h2
  · intro f k hk
    have hk' : ¬ 2355 ≤ k := by omega
    have eu : upd (fun p => if p < k then s.2 0 p else s.2 1 p) k (s.2 0 k) = fun p => if p < k + 1 then s.2 0 p else s.2 1 p := by
      funext p
      unfold upd
      by_cases h1 : p = k
      · rw [if_pos h1, if_pos (by omega), h1]
      · rw [if_neg h1]
        dsimp only
        by_cases h2 : p < k
        · rw [if_pos h2, if_pos (by omega)]
        · rw [if_neg h2, if_neg (by omega)]
    have hkl : ¬ (2355 : Int32) ≤ nI k := fun q => hk' ((nI_leI (a := 2355) (by omega) (by omega)).mp q)
    simp (disch := omega) only [p_X3_image_L15, hkl, hv, ↓reduceIte, mRow_0, mRow_1, obS, qld_0, mrs_ne, qst_1, mrs_same, mrs_mrs, eu, nI_1]
  · intro f
    have hk' : (2355 : Int32) ≤ nI 2355 := by decide
    simp only [p_X3_image_L15, hk', hv, ↓reduceIte, p_X3_image_J67, qp, obS]
    rfl
theorem px_give (m : Nat) (s : mSt) : p_X3_image_L15 m 0 sFuel 0 s = some (some (.int 1), mSet (mSet (mRowSet s 0 (imW (s.2 1) (s.2 0))) 4 0) 5 1) := by
  have := lp_F (fun f k => p_X3_image_L15 m 0 f (nI k) (mRowSet s 0 (fun p => if p < k then s.2 1 p else s.2 0 p))) 2355 (some (some (.int 1), mSet (mSet (mRowSet s 0 (imW (s.2 1) (s.2 0))) 4 0) 5 1)) ?_ ?_ sFuel (by decide)
  · have e0 : (fun p => if p < 0 then s.2 1 p else s.2 0 p) = s.2 0 := by
      funext p
      rw [if_neg (by omega)]
    have h2 : p_X3_image_L15 m 0 sFuel (nI 0) (mRowSet s 0 (fun p => if p < 0 then s.2 1 p else s.2 0 p)) = _ := this
    rw [e0, mrs_self] at h2
    exact h2
  · intro f k hk
    have hk' : ¬ 2355 ≤ k := by omega
    have eu : upd (fun p => if p < k then s.2 1 p else s.2 0 p) k (s.2 1 k) = fun p => if p < k + 1 then s.2 1 p else s.2 0 p := by
      funext p
      unfold upd
      by_cases h1 : p = k
      · rw [if_pos h1, if_pos (by omega), h1]
      · rw [if_neg h1]
        dsimp only
        by_cases h2 : p < k
        · rw [if_pos h2, if_pos (by omega)]
        · rw [if_neg h2, if_neg (by omega)]
    have hkl : ¬ (2355 : Int32) ≤ nI k := fun q => hk' ((nI_leI (a := 2355) (by omega) (by omega)).mp q)
    simp (disch := omega) only [p_X3_image_L15, hkl, ↓reduceIte, mRow_0, mRow_1, obS, qld_1, mrs_ne, qst_0, mrs_same, mrs_mrs, eu, nI_1]
  · intro f
    have hk' : (2355 : Int32) ≤ nI 2355 := by decide
    simp only [p_X3_image_L15, hk', ↓reduceIte, p_X3_image_J67, p_X3_forgets, qp, obS, pcV]
    rfl
