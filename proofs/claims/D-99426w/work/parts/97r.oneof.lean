/-! one condition: both sides -/
set_option maxRecDepth 100000
theorem PS.opened {A : hA} {R : sMem} {S : hS} {s : mSt} {g : Nat → Nat} {rd n : Nat} {u : Nat → Int32} (h : PS A R S s g rd n u) (v : Value) (w : Int32) : PS A R (hF S 13 v) (mSet s 24 w) g rd n u :=
  (h.fld (S' := hF S 13 v) rfl (fun q hq => hF_ne _ _ (by omega))).ex (fun _ _ q => q) h.2.1 rfl (fun q hq => ms_ne _ _ (by omega))
theorem tAt_24 (s : mSt) (w : Int32) : tAt (mSet s 24 w) = tAt s := congrArg cv (ms_ne s w (by omega))
theorem stN_24 (s : mSt) (w : Int32) : stN (mSet s 24 w) = stN s := congrArg cv (ms_ne s w (by omega))
theorem SF.shut {S S2 : hS} {v v' : Value} (h : SF (hF S 13 v) S2) : SF S (hF S2 13 v') := ⟨h.1, fun q hq => by rw [hF_ne _ _ (by omega), h.2 q (by omega), hF_ne _ _ (by omega)]⟩
theorem SF.shut' {S S2 : hS} {v : Value} (h : SF (hF S 13 v) S2) : SF S S2 := ⟨h.1, fun q hq => by rw [h.2 q (by omega), hF_ne _ _ (by omega)]⟩
theorem TF.shut {s s2 : mSt} {w : Int32} (h : TF (mSet s 24 w) s2) : TF s (mSet s2 24 (s.1 24)) := by
  obtain ⟨a1, a2, a3, a4, a5, a6, a7⟩ := h
  rw [tAt_24] at a6 a7
  rw [stN_24] at a2 a5 a7
  refine ⟨a1, a2, fun q hq => ?_, ?_, ?_, ?_, ?_⟩
  · by_cases c : q = 24
    · subst c
      exact ms_same _ _ _
    · rw [ms_ne _ _ c, a3 q hq, ms_ne _ _ c]
  · rw [stN_24, ms_ne _ _ (by omega)]
    exact a4
  · rw [stN_24]
    exact a5
  · rw [tAt_24]
    exact a6
  · rw [stN_24, tAt_24]
    exact a7
theorem FAIL.shut {A : hA} {R : sMem} {S : hS} {s : mSt} {v : Value} {w : Int32} {f : Option (sRes × sMem)} {p : Option (Option Value × mSt)} (h : FAIL A R (hF S 13 v) (mSet s 24 w) f p) : FAIL A R S s f p := by
  obtain ⟨q, k, R', S', s', h1, h2, h3, h4, h5, h6, h7, h8, h9, h10, h11⟩ := h
  rw [tAt_24] at h4 h5
  exact ⟨q, k, R', S', s', h1, h2, h3, h4, h5, h6, h7, h8, h9, h10.shut', ⟨h11.1, fun q hq => by rw [h11.2 q hq, ms_ne _ _ (by omega)]⟩⟩
/-- a bracket, or a not, opened -/
theorem opens_both {A : hA} {R : sMem} {S : hS} {s : mSt} {g : Nat → Nat} {n op : Nat} {u : Nat → Int32} (m : Nat) (h : PS A R S s g 1 n u) (h14 : s.1 14 = nI (stN s)) (h13 : S.1 13 = .int (nI op)) (h24 : s.1 24 = nI op) (hop : op ≤ 8) (s0 : s.1 18 ≠ 0) : (op < 8 ∧ ∃ S1 s1, f_X0_opens g (hX A) (hMem A R S) = some (.inl none, hMem A R S1) ∧ p_X3_opens m s = some (some (.int 1), s1) ∧ PS A R S1 s1 g 1 n u ∧ STP R (hF S 13 (.int (nI (op + 1)))) (mSet s 24 (nI (op + 1))) R S1 s1 ∧ stN s1 = stN s ∧ s1.1 14 = nI (stN s1) ∧ tAt s + 1 ≤ tAt s1 ∧ S1.1 13 = .int (nI (op + 1)) ∧ s1.1 24 = nI (op + 1)) ∨ (∃ R', f_X0_opens g (hX A) (hMem A R S) = some (.inr R.2.1, hMem A R' S) ∧ p_X3_opens m s = some (some (.int 0), mSet (mSet s 21 3) 22 (s.1 19)) ∧ FAIL A R S s (some (.inr R.2.1, hMem A R' S)) (some (some (.int 0), mSet (mSet s 21 3) 22 (s.1 19)))) := by
  by_cases c : op = 8
  · right
    subst c
    obtain ⟨R', i1, i2, i3⟩ := FAIL.here h 3
    obtain ⟨w, vc, -, -, h11, -⟩ := h.num
    have n8 : (nI 8 : Int32) = 8 := rfl
    have nOf : ∀ K, sNewO (hMem A R S) 4 [.null, .null, .null, .null, .null, .int 0, .int 0, .int 0] 8 K = K R.2.1 (hMem A (sNew R (sObj 4 [.null, .null, .null, .null, .null, .int 0, .int 0, .int 0]) 8) S) := fun K => hNewO h.2.1 S 4 _ 8 K
    refine ⟨R', ?_, ?_, i3⟩
    · simp only [f_X0_opens, xgI_13 h.1, h13, hvI_int, obS, if_pos n8, nOf, xgI_11 h.1, h11, i1, sCallV, hcV, i2]
    · simp only [p_X3_opens, qg, h24, obS, if_pos n8, bad_m, pcI, bool0]
  · left
    have n8 : ¬ nI op = (8 : Int32) := fun q => c ((nI_eq (a := op) (b := 8) (by omega) (by omega)).mp q)
    have e1 : nI op + 1 = nI (op + 1) := (nI_succ op).symm
    have h' := h.opened (.int (nI (op + 1))) (nI (op + 1))
    obtain ⟨S1, s1, p1, p2, p3, p4, p5, p6, p7, p8⟩ := h'.step m (by rw [stN_24, ms_ne _ _ (by omega)]; exact h14)
    have t1 := p8 (by rw [ms_ne _ _ (by omega)]; exact s0)
    rw [tAt_24] at t1
    refine ⟨by omega, S1, s1, ?_, ?_, p3, p4, p6.trans (stN_24 _ _), p7, t1, p4.2.2.1.trans (hF_same _ _ _), (p4.2.2.2.2.2.1 24 (by omega)).trans (ms_same _ _ _)⟩
    · simp only [f_X0_opens, xgI_13 h.1, h13, hvI_int, obS, if_neg n8, e1, xp_13 h.1, hx_chk h.1, sCallV, p1, hcV]
    · simp only [p_X3_opens, qg, qp, h24, obS, if_neg n8, e1, p2, pcV]
theorem stp_eq {s s' : mSt} (h : s'.2 = s.2) : stp s' = stp s := by
  unfold stp
  rw [h]
theorem not_whole {A : hA} {R : sMem} {S : hS} {s : mSt} {g : Nat → Nat} {n op : Nat} {u : Nat → Int32} (m : Nat) (hop : op ≤ 8) {fr : Nat → Nat → sMem → Option (sRes × sMem)} {pr : Nat → Nat → mSt → Option (Option Value × mSt)} (sub : op < 8 → BH A g n u m (op + 1) (fr 2 (hX A)) (pr 2 m)) (h : PS A R S s g 1 n u) (h14 : s.1 14 = nI (stN s)) (hst : stN s ≤ tAt s) (h13 : S.1 13 = .int (nI op)) (h24 : s.1 24 = nI op) (c6 : s.1 18 = 6) : RES A R S s g n u trB (stN s) (f_X0_oneOfB fr g (hX A) (hMem A R S)) (p_X3_oneTestB pr m s) := by
  have w3 := h.word (j := 3) (by omega) (by decide) (by decide)
  have c3 : cd 3 = 6 := rfl
  rw [c3] at w3
  have s0 : s.1 18 ≠ 0 := by rw [c6]; decide
  rcases opens_both m h h14 h13 h24 hop s0 with ⟨o8, S1, s1, p1, p2, p3, p4, p5, p6, p7, p8, p9⟩ | ⟨R', i1, i2, i3⟩
  · rcases sub o8 R S1 s1 p3 p6 (by omega) p8 p9 with ⟨o, R2, S2, s2, q1, q2, q3, q4, q5⟩ | hF
    · have e13 : S2.1 13 = .int (nI (op + 1)) := q4.2.2.1.trans p8
      have e24 : s2.1 24 = nI (op + 1) := (q4.2.2.2.2.2.1 24 (by omega)).trans p9
      have em : nI (op + 1) - 1 = nI op := nI_pred op
      have q3' := q3.opened (.int (nI op)) (nI op)
      obtain ⟨R3, k1, k2, k3, k4⟩ := new_not q3'.1 q3'.2.1 (hF S2 13 (.int (nI op))) o
      have tf : TF s (mSet s2 24 (s.1 24)) := (p4.2.2.2.trans q4.2.2.2).shut
      rw [h24] at tf
      have b5 := q4.2.2.2.2.2.2.2.1
      have b6 := q4.2.2.2.2.2.2.2.2.1
      have b7 := q4.2.2.2.2.2.2.2.2.2
      have hf2 := q3.fr
      have n24 := stN_24 s2 (nI op)
      have t24 := tAt_24 s2 (nI op)
      have lm := lay_m m 30 0 (s := mSet s2 24 (nI op)) tf.2.2.2.1 (by omega)
      have ln := mLay_n (mSet s2 24 (nI op)) 30 0 (by omega)
      have lt := mLay_t (mSet s2 24 (nI op)) 30 0
      refine Or.inl ⟨R2.2.1, R3, hF S2 13 (.int (nI op)), mLay (mSet s2 24 (nI op)) 30 0, ?_, ?_, (q3'.ex k3.1 k4 rfl (fun _ _ => rfl)).lay _ _, ⟨?_, ?_, ?_, tf.lay _ _ (by omega) (by omega)⟩, ?_⟩
      · simp only [f_X0_oneOfB, hx_chk h.1, w3, sCallI, hcI, decide_eq_true c6, if_neg b01_1, sCallV, p1, hcV, sCallN, q1, hcN, xgI_13 h.1, e13, hvI_int, obS, em, xp_13 h.1]
        exact k1
      · simp only [p_X3_oneTestB, qg, qp, obS, c6, if_true, p2, pcI, if_neg (show ¬ (1 : Int32) = 0 by decide), q2, e24, em, lm, pcV]
      · rw [lt, t24]
        exact (q4.1.trans k3).le (by omega) (by omega)
      · exact (p4.2.1.trans q4.2.1).shut
      · rw [hF_same, h13]
      · show hTrB R3 _ _ _ (stN s) _
        rw [ln, n24, show stN s2 + 1 - stN s = (stN s2 - stN s) + 1 by omega]
        refine Or.inr (Or.inr ⟨o, stN s2, k2, ?_, rfl, ?_⟩)
        · rw [← p5]
          exact hTrB_to (sub3.of k3.1) _ _ _ _ _ (Nat.le_refl _) (fun p h1 h2 => (stp_lay p (by omega) (by omega)).trans (congrFun (stp_eq rfl) p)) q5
        · have := mLay_k (mSet s2 24 (nI op)) 30 0
          rw [n24] at this
          exact this
    · right
      have hF1 := (hF.stp p4).shut
      obtain ⟨q, k, R', S', s', q1, q2, rest⟩ := hF1
      refine ⟨q, k, R', S', s', ?_, ?_, rest⟩
      · simp only [f_X0_oneOfB, hx_chk h.1, w3, sCallI, hcI, decide_eq_true c6, if_neg b01_1, sCallV, p1, hcV, sCallN, q1, hcX]
      · simp only [p_X3_oneTestB, qg, qp, obS, c6, if_true, p2, pcI, if_neg (show ¬ (1 : Int32) = 0 by decide), q2]
  · right
    have e1 : f_X0_oneOfB fr g (hX A) (hMem A R S) = some (.inr R.2.1, hMem A R' S) := by
      simp only [f_X0_oneOfB, hx_chk h.1, w3, sCallI, hcI, decide_eq_true c6, if_neg b01_1, sCallV, i1, hcX]
    have e2 : p_X3_oneTestB pr m s = some (some (.int 0), mSet (mSet s 21 3) 22 (s.1 19)) := by
      simp only [p_X3_oneTestB, qg, qp, obS, c6, if_true, i2, pcI]
    rw [e1, e2]
    exact i3
