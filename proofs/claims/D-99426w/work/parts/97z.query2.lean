/-! one query: both sides -/
set_option maxRecDepth 100000
def pwM (m j : Nat) (s : mSt) : Option (Option Value × mSt) := pCI (p_X3_need m (cd j) s) fun x M2 => if x = 0 then some (some (.int 0), M2) else p_X3_oneMore m M2
/-- what one more number leaves -/
def MST (S : hS) (s : mSt) (S' : hS) (s' : mSt) (v : Nat) : Prop := SF S S' ∧ S'.1 13 = S.1 13 ∧ s'.2 = s.2 ∧ (∀ q, (q < 17 ∨ 20 < q) → q ≠ 26 → s'.1 q = s.1 q) ∧ s'.1 26 = (s.1 26 ||| ((1 : Int32) <<< (nI v &&& 31))) ∧ tAt s + 1 ≤ tAt s'
theorem wm_both {A : hA} {R : sMem} {S : hS} {s : mSt} {g : Nat → Nat} {rd n : Nat} {u : Nat → Int32} (m : Nat) (h : PS A R S s g rd n u) {F j : Nat} (hF : F ≤ 10) (h572 : s.2 0 572 = nI F) (hj : j < 26) (h3 : 3 ≤ cdN j) (h50 : cdN j ≤ 50) : (∃ v S' s', v < F ∧ f_X0_told g (hX A) (g (10 + j)) 0 (nI F - 1) (hMem A R S) = some (.inl (some (.int (nI v))), hMem A R S') ∧ pwM m j s = some (some (.int 1), s') ∧ PS A R S' s' g rd n u ∧ MST S s S' s' v) ∨ FAIL A R S s (f_X0_told g (hX A) (g (10 + j)) 0 (nI F - 1) (hMem A R S)) (pwM m j s) := by
  have w := h.word hj h3 h50
  by_cases c : s.1 18 = cd j
  · obtain ⟨S1, s1, p1, p2, p3, p4, p5, p6, p7, p8, p9⟩ := h.next m
    have m1 : f_X0_must (hX A) (b01 true) (hMem A R S) = some (.inl none, hMem A R S) := must_1 _ (R := R) (S := S) rfl b01_1
    have c0 : s.1 18 ≠ 0 := by
      rw [c]
      exact fun q => absurd ((nI_eq (a := cdN j) (b := 0) (by omega) (by omega)).mp q) (by omega)
    have t1 := p9 c0
    have n1 : ¬ (1 : Int32) = 0 := by decide
    have F1 : ∀ r, (sCallI (f_X0_number g (hX A) 0 (nI F - 1) (hMem A R S1)) fun x8 M7 => some (.inl (some (.int x8)), M7)) = r → f_X0_told g (hX A) (g (10 + j)) 0 (nI F - 1) (hMem A R S) = r := fun r hr => by
      rw [← hr]
      simp only [f_X0_told, hx_chk h.1, w, sCallI, hcI, decide_eq_true c, sCallV, m1, hcV, p1]
    have F2 : pwM m j s = p_X3_oneMore m s1 := by
      simp only [pwM, p_X3_need, qg, obS, if_pos c, p2, pcV, pcI, if_neg n1]
    rcases more_both m p3 hF (by rw [p6]; exact h572) with ⟨v, S', s', q1, q2, q3, q4, q5, q6, q7, q8, q9, q10⟩ | hF
    · left
      refine ⟨v, S', s', q1, F1 _ ?_, F2.trans q3, q4, (SF.of p4 p5).trans q5, q6.trans (p5 _ (by omega)), q7.trans p6, fun q hq h26 => (q8 q hq h26).trans (p7 q hq), ?_, by omega⟩
      · simp only [sCallI, q2, hcI]
      · rw [q9, p7 26 (by omega)]
    · right
      have hF' := hF.after (R := R) (S := S) (s := s) p8 ((hEx.refl R).le (by omega) (by omega)) (SF.of p4 p5) ⟨fun j _ _ _ => by rw [p6], fun q hq => p7 q (by omega)⟩
      obtain ⟨q, k, R', S', s', q1, q2, rest⟩ := hF'
      refine ⟨q, k, R', S', s', F1 _ ?_, F2.trans q2, rest⟩
      simp only [sCallI, q1, hcX]
  · right
    obtain ⟨R', i1, i2⟩ := must_0 h
    have e1 : f_X0_told g (hX A) (g (10 + j)) 0 (nI F - 1) (hMem A R S) = some (.inr R.2.1, hMem A R' S) := by
      simp only [f_X0_told, hx_chk h.1, w, sCallI, hcI, decide_eq_false c, b01_z, sCallV, i1, hcX]
    have e2 : pwM m j s = some (some (.int 0), mSet (mSet s 21 1) 22 (s.1 19)) := by
      simp only [pwM, p_X3_need, qg, obS, if_neg c, bad_m, pcI, bool0, if_true]
    rw [e1, e2]
    exact i2
theorem pw_assoc (m j : Nat) (s : mSt) (K : mSt → Option (Option Value × mSt)) : (pCI (p_X3_need m (cd j) s) fun x3 M2 => if x3 = 0 then some (some (.int 0), M2) else pCI (p_X3_oneMore m M2) fun x5 M4 => if x5 = 0 then some (some (.int 0), M4) else K M4) = pCI (pwM m j s) fun x5 M4 => if x5 = 0 then some (some (.int 0), M4) else K M4 := by
  unfold pwM
  rcases p_X3_need m (cd j) s with _ | ⟨_ | v, s1⟩
  · rfl
  · rfl
  · cases v with
    | int x =>
      by_cases c : x = 0
      · simp only [pCI, if_pos c]
        rfl
      · simp only [pCI, if_neg c]
    | _ => rfl
/-- the sum of a query so far, on -/
def QRES (A : hA) (R : sMem) (S : hS) (s : mSt) (g : Nat → Nat) (rd n : Nat) (u : Nat → Int32) (r : Nat) (f : Option (sRes × sMem)) (p : Option (Option Value × mSt)) : Prop := (∃ x S' s', f = some (.inl (some (.int x)), hMem A R S') ∧ p = some (some (.int 1), s') ∧ PS A R S' s' g rd n u ∧ SF S S' ∧ S'.1 13 = S.1 13 ∧ s'.2 = (mR6 s r x).2 ∧ (∀ q, (q < 17 ∨ 20 < q) → q ≠ 26 → s'.1 q = s.1 q) ∧ tAt s ≤ tAt s') ∨ FAIL A R S s f p
theorem query_loop {A : hA} {g : Nat → Nat} {rd n F r : Nat} {u : Nat → Int32} (m : Nat) (hF : F ≤ 10) (hr : r < 16) {R : sMem} {q18 : Nat} {f18 : Nat → Option Nat} (r18 : R.2.2.2 q18 = some (sArq 5 F f18)) : ∀ (d : Nat) (S : hS) (s : mSt) (x : Int32), n - tAt s ≤ d → PS A R S s g rd n u → S.1 18 = .ref q18 → s.2 0 572 = nI F → s.1 15 = nI r → s.1 26 = x → ∀ fu fu', d < fu → d < fu' → QRES A R S s g rd n u r (f_X0_query_L36 g (hX A) fu x (hMem A R S)) (p_X3_aQuery_L39 m fu' s)
  | d, S, s, x, hd, h, e18, h572, h15, h26, fu, fu', hf, hf' => by
    obtain ⟨fu, rfl⟩ : ∃ p, fu = p + 1 := ⟨fu - 1, by omega⟩
    obtain ⟨fu', rfl⟩ : ∃ p, fu' = p + 1 := ⟨fu' - 1, by omega⟩
    have w := h.word (j := 16) (by omega) (by decide) (by decide)
    have c5 : cd 16 = 5 := rfl
    have fr := h.fr
    have lq := fun S => hR_lenq h.2.1 S r18
    by_cases c : s.1 18 = cd 16
    · have c' : s.1 18 = 5 := c
      have l := fr.2.2.2 (by rw [c']; decide)
      obtain ⟨d, rfl⟩ : ∃ p, d = p + 1 := ⟨d - 1, by omega⟩
      have E2 : p_X3_aQuery_L39 m (fu' + 1) s = pCI (pwM m 16 s) fun x5 M4 => if x5 = 0 then some (some (.int 0), M4) else p_X3_aQuery_L39 m fu' M4 := by
        rw [← pw_assoc]
        obtain ⟨S1, s1, p1, p2, p3⟩ := h.next m
        have n1 : ¬ (1 : Int32) = 0 := by decide
        conv => lhs; unfold p_X3_aQuery_L39
        simp only [qg, obS, if_pos c', p_X3_need, if_pos c, p2, pcV, pcI, if_neg n1]
      rcases wm_both m h hF h572 (j := 16) (by omega) (by decide) (by decide) with ⟨v, S', s', q1, q2, q3, q4, b1, b2, b3, b4, b5, b6⟩ | hF'
      · have E1 : f_X0_query_L36 g (hX A) (fu + 1) x (hMem A R S) = f_X0_query_L36 g (hX A) fu (x ||| ((1 : Int32) <<< (nI v &&& 31))) (hMem A R S') := by
          conv => lhs; unfold f_X0_query_L36
          simp only [hx_chk h.1, w, sCallI, hcI, decide_eq_true c, if_neg b01_1, xgN_18 h.1, e18, hvN_ref, obS, lq, q2]
        have E3 : p_X3_aQuery_L39 m (fu' + 1) s = p_X3_aQuery_L39 m fu' s' := by
          rw [E2]
          simp only [q3, pcI, if_neg (show ¬ (1 : Int32) = 0 by decide)]
        rw [E1, E3]
        have ih := query_loop m hF hr r18 d S' s' (x ||| ((1 : Int32) <<< (nI v &&& 31))) (by omega) q4 ((b1.2 18 (by omega)).trans e18) (by rw [b3]; exact h572) ((b4 15 (by omega) (by omega)).trans h15) (by rw [b5, h26]) fu fu' (by omega) (by omega)
        rcases ih with ⟨y, S2, s2, a1, a2, a3, a4, a5, a6, a7, a8⟩ | hX
        · left
          refine ⟨y, S2, s2, a1, a2, a3, b1.trans a4, a5.trans b2, ?_, fun q hq h26 => (a7 q hq h26).trans (b4 q hq h26), by omega⟩
          rw [a6]
          unfold mR6 mRowSet
          simp only [b3]
        · right
          exact hX.after (by omega) ((hEx.refl R).le (by omega) (by omega)) b1 ⟨fun j _ _ _ => by rw [b3], fun q hq => b4 q (by omega) (by omega)⟩
      · right
        obtain ⟨q, k, R', S', s', q1, q2, rest⟩ := hF'
        refine ⟨q, k, R', S', s', ?_, ?_, rest⟩
        · conv => lhs; unfold f_X0_query_L36
          simp only [hx_chk h.1, w, sCallI, hcI, decide_eq_true c, if_neg b01_1, xgN_18 h.1, e18, hvN_ref, obS, lq, q1, hcX]
        · rw [E2]
          simp only [q2, pcI, if_true]
    · have c' : ¬ s.1 18 = 5 := c
      left
      refine ⟨x, S, mR6 s r x, ?_, ?_, h.r6 _ _, SF.refl S, rfl, rfl, fun _ _ _ => rfl, Nat.le_refl _⟩
      · simp only [f_X0_query_L36, hx_chk h.1, w, sCallI, hcI, decide_eq_false c, b01_z, if_true]
      · simp only [p_X3_aQuery_L39, qg, obS, if_neg c', row8, h15, h26, mR6_st s (show r < 90 by omega)]
