/-! new immutables: reads, knots, scarf, own -/
set_option maxRecDepth 100000
/-- the part of a world that only reads, knots, scarf and own move -/
def ovW (w t : Nat → Int32) : Nat → Int32 := fun p => if 577 ≤ p ∧ p < 581 ∨ 775 ≤ p ∧ p < 871 then w p else t p
def hU (S : hS) (w : Nat → Int32) : hS := (S.1, S.2.1, S.2.2.1, (fun i => if i = 2 then S.2.2.2.1 2 else ovW w (S.2.2.2.1 i)), S.2.2.2.2)
theorem ovW_off (w t : Nat → Int32) {p : Nat} (h : p < 577 ∨ 581 ≤ p ∧ p < 775 ∨ 871 ≤ p) : ovW w t p = t p := if_neg (by omega)
theorem ovW_in (w t : Nat → Int32) {p : Nat} (h : 577 ≤ p ∧ p < 581 ∨ 775 ≤ p ∧ p < 871) : ovW w t p = w p := if_pos (by omega)
theorem hU_T (S : hS) (w : Nat → Int32) {i : Nat} (h : i ≠ 2) : (hU S w).2.2.2.1 i = ovW w (S.2.2.2.1 i) := if_neg h
theorem hU_2 (S : hS) (w : Nat → Int32) : (hU S w).2.2.2.1 2 = S.2.2.2.1 2 := by
  simp [hU]
theorem hU_off (S : hS) (w : Nat → Int32) (i : Nat) {p : Nat} (h : p < 577 ∨ 581 ≤ p ∧ p < 775 ∨ 871 ≤ p) : (hU S w).2.2.2.1 i p = S.2.2.2.1 i p := by
  by_cases h2 : i = 2
  · subst h2
    rw [hU_2]
  · rw [hU_T S w h2, ovW_off w _ h]
theorem hU_mem (A : hA) (R : sMem) (S : hS) (w : Nat → Int32) : hMem A R (hU S w) = hMem A R S := by
  refine hMemC_congr R fun k _ => ?_
  rcases hId k with hk | ⟨m, hm, rfl⟩ | ⟨i', m, hm, rfl⟩
  · have : k = 0 ∨ k = 1 ∨ k = 2 ∨ k = 3 ∨ k = 4 ∨ k = 5 ∨ k = 6 ∨ k = 7 ∨ k = 8 ∨ k = 9 := by omega
    rcases this with rfl | rfl | rfl | rfl | rfl | rfl | rfl | rfl | rfl | rfl
    · show sObj 0 (hXs A _) = sObj 0 (hXs A S)
      refine congrArg (sObj 0) ?_
      unfold hXs
      apply List.map_congr_left
      intro j _
      unfold hXf
      split <;> first | rfl | (rw [hU_off S w 0 (by omega)])
    · rfl
    · rfl
    · show sArr 0 12 (hSl 12 581 ((hU S w).2.2.2.1 0)) = sArr 0 12 (hSl 12 581 (S.2.2.2.1 0))
      rw [hSl_congr (fun p h1 h2 => hU_off S w 0 (by omega))]
    · show sArr 0 600 (hSl 600 871 ((hU S w).2.2.2.1 0)) = sArr 0 600 (hSl 600 871 (S.2.2.2.1 0))
      rw [hSl_congr (fun p h1 h2 => hU_off S w 0 (by omega))]
    · rfl
    · rfl
    · show sArr 0 12 (hSl 12 581 ((hU S w).2.2.2.1 2)) = sArr 0 12 (hSl 12 581 (S.2.2.2.1 2))
      rw [hU_2]
    · show sArr 0 600 (hSl 600 871 ((hU S w).2.2.2.1 2)) = sArr 0 600 (hSl 600 871 (S.2.2.2.1 2))
      rw [hU_2]
    · rfl
  · rw [hCell_mod A _ hm, hCell_mod A _ hm]
    rfl
  · rw [hCell_tray A _ hm, hCell_tray A _ hm]
    cases m with
    | zero =>
      show sObj 2 (hTs A _ i') = sObj 2 (hTs A S i')
      refine congrArg (sObj 2) ?_
      unfold hTs
      apply List.map_congr_left
      intro j _
      unfold hTf
      split <;> first | rfl | (rw [hBits_congr (fun p h1 h2 => hU_off S w i' (by omega))]) | (rw [hU_off S w i' (by omega)])
    | succ r =>
      have hr : r = 0 ∨ r = 1 ∨ r = 2 ∨ r = 3 ∨ r = 4 ∨ r = 5 ∨ r = 6 := by omega
      show sArr 0 (hTl r) (hRow r ((hU S w).2.2.2.1 i')) = sArr 0 (hTl r) (hRow r (S.2.2.2.1 i'))
      rw [hRow_congr (fun p h1 h2 => by
        rcases hr with rfl | rfl | rfl | rfl | rfl | rfl | rfl <;> simp only [hOf, hTl] at h1 h2 <;> exact hU_off S w i' (by omega)) (fun _ => hU_off S w i' (by omega))]
theorem hInv.imm {A : hA} {R R' : sMem} {S S1 : hS} {g : Nat → Nat} {b L : Nat} {xs : Nat → Int32} (h : hInv A R S g b L xs) {w : Nat → Int32} {s' : mSt} (hR : sub2 R R') (hc : hCl A R') (hw : ∀ p, (p < 577 ∨ 581 ≤ p ∧ p < 775 ∨ 871 ≤ p) → w p = S.2.2.2.1 0 p) (ws : wStat w) (e2 : S1.2 = S.2) (eF : ∀ k, k ≠ 29 → k ≠ 31 → k ≠ 34 → k ≠ 35 → S1.1 k = S.1 k) (hrep : hReps R' S1.1 16 18 19 20 29 31 34 35 w) (m1 : s'.1 = S.2.2.2.2.2.1) (m0 : s'.2 0 = w) (m2 : ∀ k, 1 ≤ k → s'.2 k = S.2.2.2.2.2.2 k) : hInv A R' (hM (hU S1 w) s') g b L xs := by
  have E : ∀ k, S1.2.2.2.1 k = S.2.2.2.1 k := fun k => by rw [e2]
  have T0 : (hM (hU S1 w) s').2.2.2.1 0 = w := by
    show (hU S1 w).2.2.2.1 0 = w
    rw [hU_T _ _ (by omega), E]
    funext p
    unfold ovW
    by_cases c : 577 ≤ p ∧ p < 581 ∨ 775 ≤ p ∧ p < 871
    · rw [if_pos c]
    · rw [if_neg c, hw p (by omega)]
  have T2 : (hM (hU S1 w) s').2.2.2.1 2 = S.2.2.2.1 2 := by
    show (hU S1 w).2.2.2.1 2 = _
    rw [hU_2, E]
  have Tk : ∀ k, k ≠ 2 → (hM (hU S1 w) s').2.2.2.1 k = ovW w (S.2.2.2.1 k) := fun k hk => by
    show (hU S1 w).2.2.2.1 k = _
    rw [hU_T _ _ hk, E]
  obtain ⟨⟨a1, a2, a3, a4, a5, a6, a7⟩, hB, hC, hD, hE⟩ := h
  have act : ∀ t, wAct t → wAl (S.2.2.2.1 0) t → wAct (ovW w t) := fun t ht al => by
    refine ⟨wStat_al (t := w) (fun p hp => ?_) ws, wDyn_safe ht.n ht.2 (fun p hp => ovW_off w t (by have := ht.n; omega))⟩
    unfold ovW
    by_cases c : 577 ≤ p ∧ p < 581 ∨ 775 ≤ p ∧ p < 871
    · rw [if_pos c]
    · rw [if_neg c, hw p (by omega), al p hp]
  have w0 : wAct w := by
    have := act _ a5 (wAl.refl _)
    rw [← Tk 0 (by omega), T0] at this
    exact this
  refine ⟨⟨a1, hc, ?_, by rw [T0]; exact m0.symm, by rw [T0]; exact w0, fun p hp => by rw [T0, hw p (by omega)]; exact a6 p hp, ?_⟩, ?_, ?_, ?_, hE.fr hR rfl (fun k hk => eF k (by omega) (by omega) (by omega) (by omega))⟩
  · show S1.2.2.2.2.1 0 = 0
    rw [e2]
    exact a3
  · show hReps R' S1.1 16 18 19 20 29 31 34 35 ((hM (hU S1 w) s').2.2.2.1 0)
    rw [T0]
    exact hrep
  · refine hB.fr ⟨eF 1 (by omega) (by omega) (by omega) (by omega), eF 14 (by omega) (by omega) (by omega) (by omega), eF 15 (by omega) (by omega) (by omega) (by omega)⟩ ?_ (m2 7 (by omega)) ⟨congrFun m1 16, congrFun m1 23, congrFun m1 25⟩
    show S1.2.1 1 = S.2.1 1
    rw [e2]
  · obtain ⟨u, c, x, h1, h2, h3, h4, h5, h6, h7, h8, h9, h10⟩ := hC
    have eA : (hM (hU S1 w) s').2.2.1 = S.2.2.1 := by
      show S1.2.2.1 = _
      rw [e2]
    refine ⟨u, c, x, h1, h2, h3, h4, (eF 28 (by omega) (by omega) (by omega) (by omega)).trans h5, (congrFun m1 4).trans h6, fun k hk => by rw [eA]; exact h7 k hk, h8, fun k hk => by rw [eA]; exact h9 k hk, fun k hk => ?_⟩
    obtain ⟨b1, b2, b3⟩ := h10 k hk
    have := h7 k (by omega)
    rw [Tk (x k) (by omega), T0]
    refine ⟨fun p hp => ?_, act _ b2 b1, fun p hp => ?_⟩
    · unfold ovW
      by_cases c : 577 ≤ p ∧ p < 581 ∨ 775 ≤ p ∧ p < 871
      · rw [if_pos c]
      · rw [if_neg c, hw p (by omega), b1 p hp]
    · rw [ovW_off w _ (by omega), b3 p hp]
      show _ = s'.2 2 _
      rw [m2 2 (by omega)]
  · exact hD.fr hR (fun k hk => eF k (by omega) (by omega) (by omega) (by omega)) (congrFun m1 5) (m2 1 (by omega)) T2
theorem hOp.imm {A : hA} {R R' : sMem} {S S1 : hS} {g : Nat → Nat} {b L : Nat} {xs : Nat → Int32} {f1 f2 : sMem → Option (sRes × sMem)} {pf : mSt → Option (Option Value × mSt)} {v : Int32} (h : hInv A R S g b L xs) {w : Nat → Int32} (hq : ∀ (R : sMem), R.1 ≤ A.2.1 9 → ∀ s : mSt, f2 (mPut R (A.2.1 9) s) = lft R (A.2.1 9) (pf s)) (hex : hEx 18000 84000 R R') (hc : hCl A R') (hw : ∀ p, (p < 577 ∨ 581 ≤ p ∧ p < 775 ∨ 871 ≤ p) → w p = S.2.2.2.1 0 p) (ws : wStat w) (e2 : S1.2 = S.2) (eF : ∀ k, k ≠ 29 → k ≠ 31 → k ≠ 34 → k ≠ 35 → S1.1 k = S.1 k) (hrep : hReps R' S1.1 16 18 19 20 29 31 34 35 w) (ef : f1 (hMem A R S) = some (.inl (some (.int v)), hMem A R' S1)) (ep : pf S.2.2.2.2.2 = some (some (.int v), mRowSet S.2.2.2.2.2 0 w)) : hOp A R S g b L xs f1 f2 := by
  have hI := h.imm (s' := mRowSet S.2.2.2.2.2 0 w) hex.1 hc hw ws e2 eF hrep (mrs_1 _ _ _) (mrs_same _ _ _) (fun k hk => mrs_ne _ _ (by omega))
  refine hOp.write h hq (S1 := hU S1 w) (s' := mRowSet S.2.2.2.2.2 0 w) ?_ ?_ hex ep hI
  · rw [hU_mem]
    exact ef
  · show S1.2.2.2.2.2 = _
    rw [e2]
/-! rows grown by one -/
theorem hR_cp {A : hA} {R : sMem} (hc : hCl A R) (S : hS) {a c n m k : Nat} {f g : Nat → Int32} (ha : R.2.2.2 a = some (sArr 0 n f)) (hb : R.2.2.2 c = some (sArr 0 m g)) (hB : A.1 ≤ c) (hk : k ≤ n) (hk2 : k ≤ m) (h31 : k < 2 ^ 31) : sCpI (hMem A R S) a 0 c 0 (nI k) = some (hMem A (sUp R c (sArr 0 m (va_cpy f g 0 0 k))) S) := by
  unfold sCpI
  rw [hR_at hc S ha, hR_at hc S hb]
  have c0 : (0 : Int32).toNatClampNeg = 0 := by decide
  have n0 : ¬ (0 : Int32) < 0 := by decide
  simp only [sArr]
  rw [nI_clamp h31, c0, if_pos ⟨hB, n0, n0, nI_pos h31, by omega, by omega⟩, hMem_upR hc S hb]
theorem f_with {A : hA} {R : sMem} (hg : hG A) (hc : hCl A R) (S : hS) {q n : Nat} {f : Nat → Int32} (hq : R.2.2.2 q = some (sArr 0 n f)) (hn : n ≤ 1000) (v : Int32) : ∃ R' r F, f_X0_with q v (hMem A R S) = some (.inl (some (.ref r)), hMem A R' S) ∧ R'.2.2.2 r = some (sArr 0 (n + 1) F) ∧ (∀ k, k < n → F k = f k) ∧ F n = v ∧ hEx 1 (n + 1) R R' ∧ hCl A R' := by
  have hl := hc.lt hq
  have hb := hc.base hg
  generalize hr : R.2.1 = r at *
  have hc1 := hc.new (sArr 0 (n + 1) (fun _ => 0)) (n + 1)
  have x1 := hEx.new hc (sArr 0 (n + 1) (fun _ => 0)) (n + 1)
  generalize hR1 : sNew R (sArr 0 (n + 1) (fun _ => 0)) (n + 1) = R1 at hc1 x1
  have q1 : R1.2.2.2 q = some (sArr 0 n f) := by rw [← hR1, sNew_ne R _ _ (by omega)]; exact hq
  have r1 : R1.2.2.2 r = some (sArr 0 (n + 1) (fun _ => 0)) := by rw [← hR1, ← hr, sNew_at]
  have hc2 := hc1.up (e := sArr 0 (n + 1) (va_cpy f (fun _ => 0) 0 0 n)) r1
  have x2 := hEx.up hc x1 (a := r) (by omega) (sArr 0 (n + 1) (va_cpy f (fun _ => 0) 0 0 n))
  have r2 := sUp_at R1 r (sArr 0 (n + 1) (va_cpy f (fun _ => 0) 0 0 n))
  have q2 := sUp_ne R1 (a := r) (b := q) (sArr 0 (n + 1) (va_cpy f (fun _ => 0) 0 0 n)) (by omega)
  have cp := hR_cp hc1 S q1 r1 hb (k := n) (by omega) (by omega) (by omega)
  generalize hR2 : sUp R1 r (sArr 0 (n + 1) (va_cpy f (fun _ => 0) 0 0 n)) = R2 at *
  have st := hR_st hg hc2 S r2 hb (p := n) (by omega) (by omega) v
  have l0 := hR_len hc S hq
  have l1 := hR_len hc1 S q1
  have l2 := hR_len hc2 S (q2.trans q1)
  refine ⟨sUp R2 r (sArr 0 (n + 1) (upd (va_cpy f (fun _ => 0) 0 0 n) n v)), r, upd (va_cpy f (fun _ => 0) 0 0 n) n v, ?_, sUp_at _ _ _, fun k hk => ?_, upd_same _ _ _, hEx.up hc x2 (by omega) _, hc2.up r2⟩
  · have n1 : ¬ nI (n + 1) = nI n := fun e => by
      have := (nI_eq (a := n + 1) (b := n) (by omega) (by omega)).mp e
      omega
    have n2 : ¬ nI (n + 1) < nI n := fun e => by
      have := (nI_ltI (a := n + 1) (b := n) (by omega) (by omega)).mp e
      omega
    unfold f_X0_with f_J1_copyOf
    rw [l0, obS, obS, nI_1, if_neg n1, hNewA hc S (by omega), hr, hR1, l1, obS, if_neg n2, cp, obS]
    dsimp only [sIald, sIast]
    simp only [hcN]
    rw [l2, obS, st, obS]
  · rw [upd_ne _ _ (by omega)]
    unfold va_cpy
    rw [if_pos ⟨by omega, by omega⟩]
    congr 1
    omega
theorem cv_0 : cv 0 = 0 := by decide
theorem hInv.reps {A : hA} {R : sMem} {S : hS} {g : Nat → Nat} {b L : Nat} {xs : Nat → Int32} (h : hInv A R S g b L xs) : rA A R S := h.1.2.2.2.2.2.2
