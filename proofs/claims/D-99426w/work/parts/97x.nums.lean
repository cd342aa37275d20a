/-! numbers of a row: both sides -/
set_option maxRecDepth 100000
def mR6 (s : mSt) (p : Nat) (x : Int32) : mSt := mRowSet s 6 (upd (s.2 6) p x)
theorem mR6_ne (s : mSt) (p : Nat) (x : Int32) {j : Nat} (hj : j ≠ 6) : (mR6 s p x).2 j = s.2 j := mrs_ne _ _ hj
theorem mR6_at (s : mSt) (p : Nat) (x : Int32) : (mR6 s p x).2 6 = upd (s.2 6) p x := mrs_same _ _ _
theorem mR6_st (s : mSt) {p : Nat} (hp : p < 90) (x : Int32) : qAst s 6 (nI p) x = some (mR6 s p x) := qst_6 s hp x
theorem PS.r6 {A : hA} {R : sMem} {S : hS} {s : mSt} {g : Nat → Nat} {rd n : Nat} {u : Nat → Int32} (h : PS A R S s g rd n u) (p : Nat) (x : Int32) : PS A R S (mR6 s p x) g rd n u := h.ex (fun _ _ q => q) h.2.1 (mR6_ne s p x (by omega)) (fun _ _ => rfl)
theorem row8 : mRow 8 = some 6 := by decide
/-- both have read on, the row's place p now holds v (or nothing was put) -/
def NST (S : hS) (s : mSt) (S' : hS) (s' : mSt) : Prop := SF S S' ∧ S'.1 13 = S.1 13 ∧ (∀ q, q < 17 ∨ 20 < q → s'.1 q = s.1 q) ∧ tAt s + 1 ≤ tAt s'
theorem number_both {A : hA} {R : sMem} {S : hS} {s : mSt} {g : Nat → Nat} {rd n : Nat} {u : Nat → Int32} (m : Nat) (h : PS A R S s g rd n u) {pl : Nat} (hp : pl < 90) (lo hi : Int32) : (∃ v S' s', v ≤ 9999 ∧ inB (nI v) lo hi = true ∧ f_X0_number g (hX A) lo hi (hMem A R S) = some (.inl (some (.int (nI v))), hMem A R S') ∧ p_X3_number m (nI pl) lo hi s = some (some (.int 1), s') ∧ PS A R S' s' g rd n u ∧ NST S s S' s' ∧ s'.2 = (mR6 s pl (nI v)).2 ∧ s.1 18 = 2 ∧ s.1 20 = nI v) ∨ FAIL A R S s (f_X0_number g (hX A) lo hi (hMem A R S)) (p_X3_number m (nI pl) lo hi s) := by
  obtain ⟨w, vc, n9, n12, n11, w3, w0, wv, -⟩ := h.num
  by_cases c2 : s.1 18 = 2
  · have n12 := n12 (kd_2 c2)
    obtain ⟨v, hv, ev, e20⟩ := wv c2
    have m1 : f_X0_must (hX A) 1 (hMem A R S) = some (.inl none, hMem A R S) := must_1 _ (R := R) (S := S) rfl (by decide)
    cases ci : inB (nI v) lo hi with
    | true =>
      left
      have hr := h.r6 pl (nI v)
      obtain ⟨S', s', p1, p2, p3, p4, p5, p6, p7, p8, p9⟩ := hr.next m
      refine ⟨v, S', s', hv, ci, ?_, ?_, p3, ⟨SF.of p4 p5, p5 _ (by omega), p7, p9 (by show s.1 18 ≠ 0; rw [c2]; decide)⟩, p6, c2, e20⟩
      · simp only [f_X0_number, xgN_9 h.1, n9, hvN_ref, obS, hx_chk h.1, if_pos (w3.mpr c2), sCallV, m1, hcV, xgI_12 h.1, n12, hvI_int, ev, fx_isIn, sCallI, hcI, ci, if_neg b01_1, p1]
      · simp only [p_X3_number, qg, obS, c2, if_true, e20, px_isIn, ci, pcI, if_neg b01_1, row8, mR6_st s hp, p2, pcV]
    | false =>
      right
      obtain ⟨R', i1, i2, i3⟩ := FAIL.here h 2
      have nOf : ∀ K, sNewO (hMem A R S) 4 [.null, .null, .null, .null, .null, .int 0, .int 0, .int 0] 8 K = K R.2.1 (hMem A (sNew R (sObj 4 [.null, .null, .null, .null, .null, .int 0, .int 0, .int 0]) 8) S) := fun K => hNewO h.2.1 S 4 _ 8 K
      have e1 : f_X0_number g (hX A) lo hi (hMem A R S) = some (.inr R.2.1, hMem A R' S) := by
        simp only [f_X0_number, xgN_9 h.1, n9, hvN_ref, obS, hx_chk h.1, if_pos (w3.mpr c2), sCallV, m1, hcV, xgI_12 h.1, n12, hvI_int, ev, fx_isIn, sCallI, hcI, ci, b01_z, if_true, nOf, xgI_11 h.1, n11, i1, i2]
      have e2 : p_X3_number m (nI pl) lo hi s = some (some (.int 0), mSet (mSet s 21 2) 22 (s.1 19)) := by
        simp only [p_X3_number, qg, obS, c2, if_true, e20, px_isIn, ci, pcI, b01_z, bad_m, bool0]
      rw [e1, e2]
      exact i3
  · right
    obtain ⟨R', i1, i2⟩ := must_0 h
    have w3n : ¬ w = g 3 := fun q => c2 (w3.mp q)
    have e1 : f_X0_number g (hX A) lo hi (hMem A R S) = some (.inr R.2.1, hMem A R' S) := by
      simp only [f_X0_number, xgN_9 h.1, n9, hvN_ref, obS, hx_chk h.1, if_neg w3n, sCallV, i1, hcX]
    have e2 : p_X3_number m (nI pl) lo hi s = some (some (.int 0), mSet (mSet s 21 1) 22 (s.1 19)) := by
      simp only [p_X3_number, qg, obS, if_neg c2, bad_m, pcI, bool0]
    rw [e1, e2]
    exact i2
theorem told_both {A : hA} {R : sMem} {S : hS} {s : mSt} {g : Nat → Nat} {rd n : Nat} {u : Nat → Int32} (m : Nat) (h : PS A R S s g rd n u) {j pl : Nat} (hj : j < 26) (h3 : 3 ≤ cdN j) (h50 : cdN j ≤ 50) (hp : pl < 90) (lo hi : Int32) : (∃ v S' s', v ≤ 9999 ∧ inB (nI v) lo hi = true ∧ f_X0_told g (hX A) (g (10 + j)) lo hi (hMem A R S) = some (.inl (some (.int (nI v))), hMem A R S') ∧ p_X3_told m (nI pl) (cd j) lo hi s = some (some (.int 1), s') ∧ PS A R S' s' g rd n u ∧ NST S s S' s' ∧ s'.2 = (mR6 s pl (nI v)).2 ∧ tAt s + 2 ≤ tAt s') ∨ FAIL A R S s (f_X0_told g (hX A) (g (10 + j)) lo hi (hMem A R S)) (p_X3_told m (nI pl) (cd j) lo hi s) := by
  have w := h.word hj h3 h50
  by_cases c : s.1 18 = cd j
  · obtain ⟨S1, s1, p1, p2, p3, p4, p5, p6, p7, p8, p9⟩ := h.next m
    have m1 : f_X0_must (hX A) (b01 true) (hMem A R S) = some (.inl none, hMem A R S) := must_1 _ (R := R) (S := S) rfl b01_1
    have c0 : s.1 18 ≠ 0 := by
      rw [c]
      exact fun q => absurd ((nI_eq (a := cdN j) (b := 0) (by omega) (by omega)).mp q) (by omega)
    have t1 := p9 c0
    have n1 : ¬ (1 : Int32) = 0 := by decide
    have F1 : ∀ r, (sCallI (f_X0_number g (hX A) lo hi (hMem A R S1)) fun x8 M7 => some (.inl (some (.int x8)), M7)) = r → f_X0_told g (hX A) (g (10 + j)) lo hi (hMem A R S) = r := fun r hr => by
      rw [← hr]
      simp only [f_X0_told, hx_chk h.1, w, sCallI, hcI, decide_eq_true c, sCallV, m1, hcV, p1]
    have F2 : p_X3_told m (nI pl) (cd j) lo hi s = pCI (p_X3_number m (nI pl) lo hi s1) fun x4 M3 => if x4 = 0 then some (some (.int 0), M3) else some (some (.int 1), M3) := by
      simp only [p_X3_told, p_X3_need, qg, obS, if_pos c, p2, pcV, pcI, if_neg n1]
    rcases number_both m p3 hp lo hi with ⟨v, S', s', q1, q2, q3, q4, q5, q6, q7, q8, q9⟩ | hF
    · left
      refine ⟨v, S', s', q1, q2, F1 _ ?_, ?_, q5, ⟨(SF.of p4 p5).trans q6.1, q6.2.1.trans (p5 _ (by omega)), fun q hq => (q6.2.2.1 q hq).trans (p7 q hq), by have := q6.2.2.2; omega⟩, ?_, by have := q6.2.2.2; omega⟩
      · simp only [sCallI, q3, hcI]
      · rw [F2]
        simp only [q4, pcI, if_neg n1]
      · rw [q7]
        unfold mR6 mRowSet
        simp only [p6]
    · right
      have hF' := hF.after (R := R) (S := S) (s := s) p8 ((hEx.refl R).le (by omega) (by omega)) (SF.of p4 p5) ⟨fun j _ _ _ => by rw [p6], fun q hq => p7 q (by omega)⟩
      obtain ⟨q, k, R', S', s', q1, q2, rest⟩ := hF'
      refine ⟨q, k, R', S', s', F1 _ ?_, ?_, rest⟩
      · simp only [sCallI, q1, hcX]
      · rw [F2]
        simp only [q2, pcI, if_true]
  · right
    obtain ⟨R', i1, i2⟩ := must_0 h
    have e1 : f_X0_told g (hX A) (g (10 + j)) lo hi (hMem A R S) = some (.inr R.2.1, hMem A R' S) := by
      simp only [f_X0_told, hx_chk h.1, w, sCallI, hcI, decide_eq_false c, b01_z, sCallV, i1, hcX]
    have e2 : p_X3_told m (nI pl) (cd j) lo hi s = some (some (.int 0), mSet (mSet s 21 1) 22 (s.1 19)) := by
      simp only [p_X3_told, p_X3_need, qg, obS, if_neg c, bad_m, pcI, bool0, if_true]
    rw [e1, e2]
    exact i2
