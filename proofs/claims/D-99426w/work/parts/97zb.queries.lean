/-! the queries read whole: both sides -/
set_option maxRecDepth 100000
/-- the semicolon -/
theorem semi_both {A : hA} {R : sMem} {S : hS} {s : mSt} {g : Nat → Nat} {rd n : Nat} {u : Nat → Int32} (m : Nat) (h : PS A R S s g rd n u) : (∃ S' s', f_X0_takesSign g (hX A) 59 (hMem A R S) = some (.inl none, hMem A R S') ∧ p_X3_aRow_J42 m s = some (some (.int 1), s') ∧ PS A R S' s' g rd n u ∧ SF S S' ∧ S'.1 13 = S.1 13 ∧ s'.2 = s.2 ∧ (∀ q, (q < 17 ∨ 20 < q) → s'.1 q = s.1 q) ∧ tAt s + 1 ≤ tAt s') ∨ (∃ q, f_X0_takesSign g (hX A) 59 (hMem A R S) = q ∧ FAIL A R S s q (p_X3_aRow_J42 m s)) := by
  have g59 := h.sign (c := 59) (by omega)
  have n59 : (nI 59 : Int32) = 59 := rfl
  have n159 : (nI (100 + 59) : Int32) = 159 := rfl
  rw [n59, n159] at g59
  by_cases c : s.1 18 = 159
  · left
    have m1 : f_X0_must (hX A) (b01 true) (hMem A R S) = some (.inl none, hMem A R S) := must_1 _ (R := R) (S := S) rfl b01_1
    obtain ⟨S', s', p1, p2, p3, p4, p5, p6, p7, p8, p9⟩ := h.next m
    refine ⟨S', s', ?_, ?_, p3, SF.of p4 p5, p5 _ (by omega), p6, p7, p9 (by rw [c]; decide)⟩
    · simp only [f_X0_takesSign, hx_chk h.1, g59, sCallI, hcI, decide_eq_true c, sCallV, m1, hcV, p1]
    · simp only [p_X3_aRow_J42, p_X3_need, qg, obS, if_pos c, p2, pcV, pcI, if_neg (show ¬ (1 : Int32) = 0 by decide)]
  · right
    obtain ⟨R', i1, i2⟩ := must_0 h
    refine ⟨_, rfl, ?_⟩
    have e1 : f_X0_takesSign g (hX A) 59 (hMem A R S) = some (.inr R.2.1, hMem A R' S) := by
      simp only [f_X0_takesSign, hx_chk h.1, g59, sCallI, hcI, decide_eq_false c, b01_z, sCallV, i1, hcX]
    have e2 : p_X3_aRow_J42 m s = some (some (.int 0), mSet (mSet s 21 1) 22 (s.1 19)) := by
      simp only [p_X3_aRow_J42, p_X3_need, qg, obS, if_neg c, bad_m, pcI, bool0, if_true]
    rw [e1, e2]
    exact i2
/-- a row that failed: the model's loop ends -/
theorem FIN.row {A : hA} {R0 : sMem} {S0 : hS} {s0 s : mSt} {f : Option (sRes × sMem)} {p : Option (Option Value × mSt)} (m : Nat) (b : Int32) (fu : Nat) (h : FIN A R0 S0 s0 f p) (hp : p_X3_readsRows_L35 m b (fu + 2) 1 s = pCI p fun x8 M7 => (qGet M7 15).bind fun x9 => (qPut M7 15 (x9 + (if x8 = 0 then 0 else 1))).bind fun M10 => p_X3_readsRows_L35 m b (fu + 1) x8 M10) : FIN A R0 S0 s0 f (p_X3_readsRows_L35 m b (fu + 2) 1 s) := by
  obtain ⟨q, k, R', S', s', a1, a2, a3, a4, a5, a6, a7, a8, a9⟩ := h
  refine ⟨q, k, R', S', mSet s' 15 (s'.1 15 + 0), a1, ?_, a3, a4, ?_, ?_, ?_, a8, ⟨a9.1, fun q hq => (ms_ne s' _ (by omega)).trans (a9.2 q hq)⟩⟩
  · rw [hp, a2]
    simp only [pcI, qg, qp, obS, if_true]
    simp only [p_X3_readsRows_L35, if_true, bool0]
  · rw [ms_ne _ _ (by omega)]
    exact a5
  · rw [ms_ne _ _ (by omega)]
    exact a6
  · rw [ms_ne _ _ (by omega), ms_ne _ _ (by omega)]
    exact a7
