/-! feeding the tape -/
set_option maxRecDepth 100000
def byB (v : Int32) (j : Nat) : Int32 := (v >>> (nI (24 - 8 * j) &&& 31)) &&& 255
theorem byte_255 (x : Int32) : vp_nar .byte (x.toInt8.toInt32) &&& 255 = x &&& 255 := by
  have e : vp_nar .byte (x.toInt8.toInt32) = x.toInt8.toInt32 := by
    have e1 : vp_nar .byte (x.toInt8.toInt32) = x.toInt8.toInt32.toInt8.toInt32 := rfl
    rw [e1]
    simp
  rw [e]
  apply Int32.toBitVec_inj.mp
  have l : (255 : Int32).toBitVec = 255#32 := by decide
  have h8 : ∀ i, i < 32 → (255#32).getLsbD i = decide (i < 8) := by decide
  rw [Int32.toBitVec_and, Int32.toBitVec_and, l]
  apply BitVec.eq_of_getLsbD_eq
  intro i hi
  rw [BitVec.getLsbD_and, BitVec.getLsbD_and, h8 i hi]
  by_cases c : i < 8
  · simp [BitVec.getElem_signExtend, c, hi]
  · simp [c]
/-- a byte put -/
def puS (S : hS) (n : Nat) (x : Int32) : hS := hF (hRw S 1 (upd (S.2.1 1) n x)) 1 (.int (nI (n + 1)))
theorem pu_step {A : hA} (hg : hG A) (R : sMem) (S : hS) {n : Nat} (hn : n < 400) (e1 : S.1 1 = .int (nI n)) (v c : Int32) (hc : ¬ c < 0) (q : Nat) : f_X0_puts_L3 (hX A) v (q + 1) c (hMem A R S) = f_X0_puts_L3 (hX A) v q (c + -8) (hMem A R (puS S n (vp_nar .byte ((v >>> (c &&& 31)).toInt8.toInt32)))) := by
  have st := fun x => hq_st1 hg R S hn x
  have i1 : nI n + 1 = nI (n + 1) := nI_1 n
  have e2 : ∀ f, (hRw S 1 f).1 1 = .int (nI n) := fun f => e1
  simp only [f_X0_puts_L3, if_neg hc, xgN_0 hg, xgI_1 hg, e1, e2, hvI_int, eq_self, ↓reduceIte, hcI, hcN, hcV, obS, if_true, if_false, st, xp_1 hg, i1]
  rfl
theorem f_puts {A : hA} (hg : hG A) (R : sMem) (S : hS) {n : Nat} (hn : n + 4 ≤ 400) (e1 : S.1 1 = .int (nI n)) (v : Int32) : ∃ S', f_X0_puts (hX A) v (hMem A R S) = some (.inl none, hMem A R S') ∧ S'.1 1 = .int (nI (n + 4)) ∧ (∀ k, k ≠ 1 → S'.1 k = S.1 k) ∧ S'.2.2 = S.2.2 ∧ (∀ k, k < n → S'.2.1 1 k = S.2.1 1 k) ∧ ∀ j, j < 4 → S'.2.1 1 (n + j) &&& 255 = byB v j := by
  have B := fun (j : Nat) => vp_nar .byte ((v >>> (nI (24 - 8 * j) &&& 31)).toInt8.toInt32)
  obtain ⟨q, hq⟩ : ∃ q, sFuel = q + 5 := ⟨sFuel - 5, by have : 5 < sFuel := (by decide); omega⟩
  have E1 : ∀ (S : hS) m x, (puS S m x).1 1 = .int (nI (m + 1)) := fun S m x => hF_same _ _ _
  have R1 : ∀ (S : hS) m x, (puS S m x).2.1 1 = upd (S.2.1 1) m x := fun S m x => by
    show (hRw S 1 _).2.1 1 = _
    rw [hRw_same]
  have s0 := pu_step hg R S (n := n) (by omega) e1 v 24 (by decide) (q + 4)
  generalize hS1 : puS S n _ = S1 at s0
  have s1 := pu_step hg R S1 (n := n + 1) (by omega) (by rw [← hS1, E1]) v (24 + -8) (by decide) (q + 3)
  generalize hS2 : puS S1 (n + 1) _ = S2 at s1
  have s2 := pu_step hg R S2 (n := n + 2) (by omega) (by rw [← hS2, E1]) v (24 + -8 + -8) (by decide) (q + 2)
  generalize hS3 : puS S2 (n + 2) _ = S3 at s2
  have s3 := pu_step hg R S3 (n := n + 3) (by omega) (by rw [← hS3, E1]) v (24 + -8 + -8 + -8) (by decide) (q + 1)
  generalize hS4 : puS S3 (n + 3) _ = S4 at s3
  have dn : f_X0_puts_L3 (hX A) v (q + 1) (24 + -8 + -8 + -8 + -8) (hMem A R S4) = some (.inl none, hMem A R S4) := by
    have : (24 + -8 + -8 + -8 + -8 : Int32) < 0 := by decide
    simp only [f_X0_puts_L3, if_pos this]
  refine ⟨S4, ?_, ?_, fun k hk => ?_, ?_, fun k hk => ?_, fun j hj => ?_⟩
  · unfold f_X0_puts
    rw [hq]
    exact s0.trans (s1.trans (s2.trans (s3.trans dn)))
  · rw [← hS4, E1]
  · rw [← hS4, ← hS3, ← hS2, ← hS1]
    unfold puS
    simp only [hF_ne _ _ hk, hRw_1]
  · rw [← hS4, ← hS3, ← hS2, ← hS1]
    rfl
  · rw [← hS4, R1, ← hS3, R1, ← hS2, R1, ← hS1, R1, upd_ne _ _ (by omega), upd_ne _ _ (by omega), upd_ne _ _ (by omega), upd_ne _ _ (by omega)]
  · rw [← hS4, R1, ← hS3, R1, ← hS2, R1, ← hS1, R1]
    have : j = 0 ∨ j = 1 ∨ j = 2 ∨ j = 3 := by omega
    rcases this with rfl | rfl | rfl | rfl
    · rw [upd_ne _ _ (by omega), upd_ne _ _ (by omega), upd_ne _ _ (by omega), Nat.add_zero, upd_same, byte_255]
      rfl
    · rw [upd_ne _ _ (by omega), upd_ne _ _ (by omega), upd_same, byte_255]
      rfl
    · rw [upd_ne _ _ (by omega), upd_same, byte_255]
      rfl
    · rw [upd_same, byte_255]
      rfl
theorem px_feed1 (m : Nat) (v1 v2 v3 v4 v5 : Int32) {k : Nat} (hk : k < 20) (f : Nat) (s : mSt) {n : Nat} (hn : n < 400) (e : s.1 16 = nI n) {x : Int32} (hx : x = if k < 4 then v1 else if k < 8 then v2 else if k < 12 then v3 else if k < 16 then v4 else v5) : p_X3_feed_L18 m v1 v2 v3 v4 v5 (f + 1) (nI k) s = p_X3_feed_L18 m v1 v2 v3 v4 v5 f (nI (k + 1)) (mSet (mRowSet s 7 (upd (s.2 7) n (byB x (k % 4)))) 16 (nI (n + 1))) := by
  have l20 : ¬ (20 : Int32) ≤ nI k := fun q => by have := (nI_leI (a := 20) (by omega) (by omega)).mp q; omega
  have l4 : (4 : Int32) ≤ nI k ↔ 4 ≤ k := nI_leI (a := 4) (by omega) (by omega)
  have l8 : (8 : Int32) ≤ nI k ↔ 8 ≤ k := nI_leI (a := 8) (by omega) (by omega)
  have l12 : (12 : Int32) ≤ nI k ↔ 12 ≤ k := nI_leI (a := 12) (by omega) (by omega)
  have l16 : (16 : Int32) ≤ nI k ↔ 16 ≤ k := nI_leI (a := 16) (by omega) (by omega)
  have sh : ∀ k, k < 20 → (24 : Int32) - 8 * (nI k - nI k / 4 * 4) = nI (24 - 8 * (k % 4)) := by decide
  have i1 : nI n + 1 = nI (n + 1) := nI_1 n
  have k1 : nI k + 1 = nI (k + 1) := nI_1 k
  have z4 : ¬ (4 : Int32) = 0 := by decide
  have J : ∀ y, p_X3_feed_J71 (p_X3_feed_L18 m v1 v2 v3 v4 v5 f) m v1 v2 v3 v4 v5 (nI k) y s = p_X3_feed_L18 m v1 v2 v3 v4 v5 f (nI (k + 1)) (mSet (mRowSet s 7 (upd (s.2 7) n (byB y (k % 4)))) 16 (nI (n + 1))) := fun y => by
    simp only [p_X3_feed_J71, mRow_9, obS, qg, e, if_neg z4, sh k hk, qst_7 s hn, mrs_1, i1, qp, k1]
    rfl
  rw [hx]
  by_cases c4 : k < 4
  · have n4 : ¬ (4 : Int32) ≤ nI k := fun q => by have := l4.mp q; omega
    rw [if_pos c4, ← J]
    simp only [p_X3_feed_L18, if_neg l20, if_neg n4]
  · have p4 := l4.mpr (by omega)
    rw [if_neg c4]
    by_cases c8 : k < 8
    · have n8 : ¬ (8 : Int32) ≤ nI k := fun q => by have := l8.mp q; omega
      rw [if_pos c8, ← J]
      simp only [p_X3_feed_L18, if_neg l20, if_pos p4, if_neg n8]
    · have p8 := l8.mpr (by omega)
      rw [if_neg c8]
      by_cases c12 : k < 12
      · have n12 : ¬ (12 : Int32) ≤ nI k := fun q => by have := l12.mp q; omega
        rw [if_pos c12, ← J]
        simp only [p_X3_feed_L18, if_neg l20, if_pos p4, if_pos p8, if_neg n12]
      · have p12 := l12.mpr (by omega)
        rw [if_neg c12]
        by_cases c16 : k < 16
        · have n16 : ¬ (16 : Int32) ≤ nI k := fun q => by have := l16.mp q; omega
          rw [if_pos c16, ← J]
          simp only [p_X3_feed_L18, if_neg l20, if_pos p4, if_pos p8, if_pos p12, if_neg n16]
        · have p16 := l16.mpr (by omega)
          rw [if_neg c16, ← J]
          simp only [p_X3_feed_L18, if_neg l20, if_pos p4, if_pos p8, if_pos p12, if_pos p16]
def feT (S0 S : hS) (s0 s : mSt) (n : Nat) : Prop := S.1 1 = .int (nI n) ∧ s.1 16 = nI n ∧ (∀ k, k ≠ 1 → S.1 k = S0.1 k) ∧ S.2.2 = S0.2.2 ∧ (∀ k, k < n → S.2.1 1 k &&& 255 = s.2 7 k) ∧ (∀ k, k ≠ 16 → s.1 k = s0.1 k) ∧ ∀ k, k ≠ 7 → s.2 k = s0.2 k
def feS (s : mSt) (n : Nat) (y : Int32) : mSt := mSet (mRowSet s 7 (upd (s.2 7) n y)) 16 (nI (n + 1))
theorem feS_16 (s : mSt) (n : Nat) (y : Int32) : (feS s n y).1 16 = nI (n + 1) := by unfold feS; rw [ms_same]
theorem feS_1 (s : mSt) (n : Nat) (y : Int32) {k : Nat} (h : k ≠ 16) : (feS s n y).1 k = s.1 k := by unfold feS; rw [ms_ne _ _ h, mrs_1]
theorem feS_7 (s : mSt) (n : Nat) (y : Int32) : (feS s n y).2 7 = upd (s.2 7) n y := by unfold feS; rw [ms_2, mrs_same]
theorem feS_2 (s : mSt) (n : Nat) (y : Int32) {k : Nat} (h : k ≠ 7) : (feS s n y).2 k = s.2 k := by unfold feS; rw [ms_2, mrs_ne _ _ h]
theorem fe_both {A : hA} (hg : hG A) (R : sMem) (m : Nat) (v1 v2 v3 v4 v5 : Int32) {S0 S : hS} {s0 s : mSt} {n i : Nat} (hT : feT S0 S s0 s n) (hn : n + 4 ≤ 400) (hi : i < 5) {x : Int32} (hx : ∀ j, j < 4 → x = if 4 * i + j < 4 then v1 else if 4 * i + j < 8 then v2 else if 4 * i + j < 12 then v3 else if 4 * i + j < 16 then v4 else v5) (f : Nat) : ∃ S' s', feT S0 S' s0 s' (n + 4) ∧ f_X0_puts (hX A) x (hMem A R S) = some (.inl none, hMem A R S') ∧ p_X3_feed_L18 m v1 v2 v3 v4 v5 (f + 4) (nI (4 * i)) s = p_X3_feed_L18 m v1 v2 v3 v4 v5 f (nI (4 * i + 4)) s' := by
  obtain ⟨t1, t2, t3, t4, t5, t6, t7⟩ := hT
  obtain ⟨S', p1, p2, p3, p4, p5, p6⟩ := f_puts hg R S hn t1 x
  have q0 := px_feed1 m v1 v2 v3 v4 v5 (k := 4 * i) (by omega) (f + 3) s (n := n) (by omega) t2 (hx 0 (by omega))
  have q1 := px_feed1 m v1 v2 v3 v4 v5 (k := 4 * i + 1) (by omega) (f + 2) (feS s n (byB x (4 * i % 4))) (n := n + 1) (by omega) (feS_16 _ _ _) (hx 1 (by omega))
  have q2 := px_feed1 m v1 v2 v3 v4 v5 (k := 4 * i + 2) (by omega) (f + 1) (feS (feS s n (byB x (4 * i % 4))) (n + 1) (byB x ((4 * i + 1) % 4))) (n := n + 2) (by omega) (feS_16 _ _ _) (hx 2 (by omega))
  have q3 := px_feed1 m v1 v2 v3 v4 v5 (k := 4 * i + 3) (by omega) f (feS (feS (feS s n (byB x (4 * i % 4))) (n + 1) (byB x ((4 * i + 1) % 4))) (n + 2) (byB x ((4 * i + 2) % 4))) (n := n + 3) (by omega) (feS_16 _ _ _) (hx 3 (by omega))
  have e0 : 4 * i % 4 = 0 := by omega
  have e1 : (4 * i + 1) % 4 = 1 := by omega
  have e2 : (4 * i + 2) % 4 = 2 := by omega
  have e3 : (4 * i + 3) % 4 = 3 := by omega
  rw [e0] at q0 q1 q2 q3
  rw [e1] at q1 q2 q3
  rw [e2] at q2 q3
  rw [e3] at q3
  refine ⟨S', feS (feS (feS (feS s n (byB x 0)) (n + 1) (byB x 1)) (n + 2) (byB x 2)) (n + 3) (byB x 3), ⟨p2, feS_16 _ _ _, fun k hk => (p3 k hk).trans (t3 k hk), p4.trans t4, fun k hk => ?_, fun k hk => ?_, fun k hk => ?_⟩, p1, ?_⟩
  · rw [feS_7, feS_7, feS_7, feS_7]
    by_cases c : k < n
    · rw [p5 k c, t5 k c, upd_ne _ _ (by omega), upd_ne _ _ (by omega), upd_ne _ _ (by omega), upd_ne _ _ (by omega)]
    · obtain ⟨j, rfl⟩ : ∃ j, k = n + j := ⟨k - n, by omega⟩
      rw [p6 j (by omega)]
      have : j = 0 ∨ j = 1 ∨ j = 2 ∨ j = 3 := by omega
      rcases this with rfl | rfl | rfl | rfl
      · rw [upd_ne _ _ (by omega), upd_ne _ _ (by omega), upd_ne _ _ (by omega), Nat.add_zero, upd_same]
      · rw [upd_ne _ _ (by omega), upd_ne _ _ (by omega), upd_same]
      · rw [upd_ne _ _ (by omega), upd_same]
      · rw [upd_same]
  · rw [feS_1 _ _ _ hk, feS_1 _ _ _ hk, feS_1 _ _ _ hk, feS_1 _ _ _ hk, t6 k hk]
  · rw [feS_2 _ _ _ hk, feS_2 _ _ _ hk, feS_2 _ _ _ hk, feS_2 _ _ _ hk, t7 k hk]
  · exact q0.trans (q1.trans (q2.trans q3))
theorem j_feed {A : hA} {R : sMem} {S : hS} {g : Nat → Nat} {b L : Nat} {xs : Nat → Int32} (h : hInv A R S g b L xs) (v1 v2 v3 v4 v5 : Int32) : hOp A R S g b L xs (f_X0_feed (hX A) v1 v2 v3 v4 v5) (f_X3_feed (A.2.1 9) v1 v2 v3 v4 v5) := by
  have hg := h.1.1
  have hq : ∀ (R : sMem), R.1 ≤ A.2.1 9 → ∀ s : mSt, f_X3_feed (A.2.1 9) v1 v2 v3 v4 v5 (mPut R (A.2.1 9) s) = lft R (A.2.1 9) (p_X3_feed (A.2.1 9) v1 v2 v3 v4 v5 s) := fun R hR s => q_X3_feed R _ hR v1 v2 v3 v4 v5 s
  obtain ⟨n, n4, e1, m16, row, -, -⟩ := h.2.1
  have a20 : nI n + 20 = nI (n + 20) := nI_add n 20
  by_cases hn : n + 20 ≤ 400
  · have le : nI (n + 20) ≤ 400 := (nI_leI (b := 400) (by omega) (by omega)).mpr hn
    obtain ⟨f, hf⟩ : ∃ f, sFuel = f + 1 + 4 + 4 + 4 + 4 + 4 := ⟨sFuel - 21, by have : 21 < sFuel := (by decide); omega⟩
    have T0 : feT S S S.2.2.2.2.2 S.2.2.2.2.2 n := ⟨e1, m16, fun _ _ => rfl, rfl, row, fun _ _ => rfl, fun _ _ => rfl⟩
    obtain ⟨S1, s1, T1, f1, p1⟩ := fe_both hg R (A.2.1 9) v1 v2 v3 v4 v5 T0 (by omega) (i := 0) (by omega) (x := v1) (fun j hj => by rw [if_pos (by omega)]) (f + 1 + 4 + 4 + 4 + 4)
    obtain ⟨S2, s2, T2, f2, p2⟩ := fe_both hg R (A.2.1 9) v1 v2 v3 v4 v5 T1 (by omega) (i := 1) (by omega) (x := v2) (fun j hj => by rw [if_neg (by omega), if_pos (by omega)]) (f + 1 + 4 + 4 + 4)
    obtain ⟨S3, s3, T3, f3, p3⟩ := fe_both hg R (A.2.1 9) v1 v2 v3 v4 v5 T2 (by omega) (i := 2) (by omega) (x := v3) (fun j hj => by rw [if_neg (by omega), if_neg (by omega), if_pos (by omega)]) (f + 1 + 4 + 4)
    obtain ⟨S4, s4, T4, f4, p4⟩ := fe_both hg R (A.2.1 9) v1 v2 v3 v4 v5 T3 (by omega) (i := 3) (by omega) (x := v4) (fun j hj => by rw [if_neg (by omega), if_neg (by omega), if_neg (by omega), if_pos (by omega)]) (f + 1 + 4)
    obtain ⟨S5, s5, T5, f5, p5⟩ := fe_both hg R (A.2.1 9) v1 v2 v3 v4 v5 T4 (by omega) (i := 4) (by omega) (x := v5) (fun j hj => by rw [if_neg (by omega), if_neg (by omega), if_neg (by omega), if_neg (by omega)]) (f + 1)
    obtain ⟨t1, t2, t3, t4, t5, t6, t7⟩ := T5
    refine hOp.write h hq (v := nI (n + 20)) (S1 := S5) (R' := R) (s' := s5) ?_ (by rw [t4]) ((hEx.refl R).le (by omega) (by omega)) ?_ ?_
    · simp only [f_X0_feed, xgI_1 hg, e1, hvI_int, eq_self, ↓reduceIte, hcI, hcN, hcV, obS, if_true, if_false, a20, le, hx_chk hg, f1, f2, f3, f4, f5, t1]
    · have dn : p_X3_feed_L18 (A.2.1 9) v1 v2 v3 v4 v5 (f + 1) (nI 20) s5 = some (some (.int (nI (n + 20))), s5) := by
        have l : (20 : Int32) ≤ nI 20 := by decide
        simp only [p_X3_feed_L18, if_pos l, qg, t2, obS]
      have all := p1.trans (p2.trans (p3.trans (p4.trans (p5.trans dn))))
      rw [← hf] at all
      simp only [p_X3_feed, qg, m16, obS, a20, if_pos le]
      exact all
    · exact h.tape (n := n + 20) (by omega) t3 t1 t4 t5 t2 t6 t7
  · have le : ¬ nI (n + 20) ≤ 400 := fun q => hn ((nI_leI (b := 400) (by omega) (by omega)).mp q)
    refine hOp.read0 h hq (v := -1) ?_ ?_
    · simp only [f_X0_feed, xgI_1 hg, e1, hvI_int, eq_self, ↓reduceIte, hcI, hcN, hcV, obS, if_true, if_false, a20, le]
    · simp only [p_X3_feed, qg, m16, obS, a20, if_neg le]
