/-! brackets, comparisons, and all conditions: both sides -/
set_option maxRecDepth 100000
theorem par_whole {A : hA} {R : sMem} {S : hS} {s : mSt} {g : Nat → Nat} {n op : Nat} {u : Nat → Int32} (m : Nat) (hop : op ≤ 8) {fr : Nat → Nat → sMem → Option (sRes × sMem)} {pr : Nat → Nat → mSt → Option (Option Value × mSt)} (sub : op < 8 → BH A g n u m (op + 1) (fr 0 (hX A)) (pr 0 m)) (h : PS A R S s g 1 n u) (h14 : s.1 14 = nI (stN s)) (hst : stN s ≤ tAt s) (h13 : S.1 13 = .int (nI op)) (h24 : s.1 24 = nI op) (c140 : s.1 18 = 140) : RES A R S s g n u trB (stN s) (f_X0_oneOfB fr g (hX A) (hMem A R S)) (p_X3_oneTestB pr m s) := by
  have w3 := h.word (j := 3) (by omega) (by decide) (by decide)
  have c3 : cd 3 = 6 := rfl
  rw [c3] at w3
  have c6 : ¬ s.1 18 = 6 := by rw [c140]; decide
  have g40 := h.sign (c := 40) (by omega)
  have n40 : (nI 40 : Int32) = 40 := rfl
  have n140 : (nI (100 + 40) : Int32) = 140 := rfl
  rw [n40, n140] at g40
  have s0 : s.1 18 ≠ 0 := by rw [c140]; decide
  rcases opens_both m h h14 h13 h24 hop s0 with ⟨o8, S1, s1, p1, p2, p3, p4, p5, p6, p7, p8, p9⟩ | ⟨R', i1, i2, i3⟩
  · rcases sub o8 R S1 s1 p3 p6 (by omega) p8 p9 with ⟨o, R2, S2, s2, q1, q2, q3, q4, q5⟩ | hF
    · have g41 := q3.sign (c := 41) (by omega)
      have n41 : (nI 41 : Int32) = 41 := rfl
      have n141 : (nI (100 + 41) : Int32) = 141 := rfl
      rw [n41, n141] at g41
      by_cases c141 : s2.1 18 = 141
      · obtain ⟨S3, s3, r1, r2, r3, r4, r5, r6, r7, r8⟩ := q3.step m q4.2.2.2.2.2.2.1
        have e13 : S3.1 13 = .int (nI (op + 1)) := r4.2.2.1.trans (q4.2.2.1.trans p8)
        have e24 : s3.1 24 = nI (op + 1) := (r4.2.2.2.2.2.1 24 (by omega)).trans ((q4.2.2.2.2.2.1 24 (by omega)).trans p9)
        have em : nI (op + 1) - 1 = nI op := nI_pred op
        have m1 : f_X0_must (hX A) (b01 true) (hMem A R2 S2) = some (.inl none, hMem A R2 S2) := must_1 _ (R := R2) (S := S2) rfl (by decide)
        have tf : TF s (mSet s3 24 (s.1 24)) := ((p4.2.2.2.trans q4.2.2.2).trans r4.2.2.2).shut
        rw [h24] at tf
        have b6 := q4.2.2.2.2.2.2.2.2.1
        have d6 := r4.2.2.2.2.2.2.2.2.1
        refine Or.inl ⟨o, R2, hF S3 13 (.int (nI op)), mSet s3 24 (nI op), ?_, ?_, r3.opened _ _, ⟨?_, ?_, ?_, tf⟩, ?_⟩
        · simp only [f_X0_oneOfB, hx_chk h.1, w3, sCallI, hcI, decide_eq_false c6, b01_z, if_true, g40, decide_eq_true c140, if_neg b01_1, sCallV, p1, hcV, sCallN, q1, hcN, f_X0_takesSign, g41, decide_eq_true c141, m1, r1, xgI_13 h.1, e13, hvI_int, obS, em, xp_13 h.1]
        · simp only [p_X3_oneTestB, qg, qp, obS, if_neg c6, if_pos c140, p2, pcI, if_neg (show ¬ (1 : Int32) = 0 by decide), q2, p_X3_need, if_pos c141, r2, pcV, e24, em]
        · rw [tAt_24]
          exact q4.1.le (by omega) (by omega)
        · exact (p4.2.1.trans (q4.2.1.trans r4.2.1)).shut
        · rw [hF_same, h13]
        · show hTrB R2 _ _ _ (stN s) _
          rw [stN_24, r6, ← p5, stp_eq (s := s3) (s' := mSet s3 24 (nI op)) rfl, stp_eq r5]
          exact q5
      · obtain ⟨R', i1, i2⟩ := must_0 q3
        right
        have hF1 := ((i2.stp q4).stp p4).shut
        have e1 : f_X0_oneOfB fr g (hX A) (hMem A R S) = some (.inr R2.2.1, hMem A R' S2) := by
          simp only [f_X0_oneOfB, hx_chk h.1, w3, sCallI, hcI, decide_eq_false c6, b01_z, if_true, g40, decide_eq_true c140, if_neg b01_1, sCallV, p1, hcV, sCallN, q1, hcN, f_X0_takesSign, g41, decide_eq_false c141, i1, hcX]
        have e2 : p_X3_oneTestB pr m s = some (some (.int 0), mSet (mSet s2 21 1) 22 (s2.1 19)) := by
          simp only [p_X3_oneTestB, qg, qp, obS, if_neg c6, if_pos c140, p2, pcI, if_neg (show ¬ (1 : Int32) = 0 by decide), q2, p_X3_need, if_neg c141, bad_m, bool0, if_true]
        rw [e1, e2]
        exact hF1
    · right
      have hF1 := (hF.stp p4).shut
      obtain ⟨q, k, R', S', s', q1, q2, rest⟩ := hF1
      refine ⟨q, k, R', S', s', ?_, ?_, rest⟩
      · simp only [f_X0_oneOfB, hx_chk h.1, w3, sCallI, hcI, decide_eq_false c6, b01_z, if_true, g40, decide_eq_true c140, if_neg b01_1, sCallV, p1, hcV, sCallN, q1, hcX]
      · simp only [p_X3_oneTestB, qg, qp, obS, if_neg c6, if_pos c140, p2, pcI, if_neg (show ¬ (1 : Int32) = 0 by decide), q2, if_true]
  · right
    have e1 : f_X0_oneOfB fr g (hX A) (hMem A R S) = some (.inr R.2.1, hMem A R' S) := by
      simp only [f_X0_oneOfB, hx_chk h.1, w3, sCallI, hcI, decide_eq_false c6, b01_z, if_true, g40, decide_eq_true c140, if_neg b01_1, sCallV, i1, hcX]
    have e2 : p_X3_oneTestB pr m s = some (some (.int 0), mSet (mSet s 21 3) 22 (s.1 19)) := by
      simp only [p_X3_oneTestB, qg, qp, obS, if_neg c6, if_pos c140, i2, pcI, if_true]
    rw [e1, e2]
    exact i3
theorem cmp_tail {A : hA} {R : sMem} {S : hS} {s : mSt} {g : Nat → Nat} {n a0 : Nat} {u : Nat → Int32} (m : Nat) {fr : Nat → Nat → sMem → Option (sRes × sMem)} {pr : Nat → Nat → mSt → Option (Option Value × mSt)} {o c co : Nat} (h : PS A R S s g 1 n u) (h14 : s.1 14 = nI (stN s)) (hst : stN s ≤ tAt s) (ha : a0 ≤ stN s) (ht : trA R s o a0 (stN s)) (hc : hSc2 c = some co) (c128 : c < 128) (hco : co < 100) (e18 : s.1 18 = nI (100 + c)) : RES A R S s g n u trB a0 (f_X0_oneOfB_J111 fr g (hX A) o 1 (hX A) (hMem A R S)) (p_X3_oneTestB_J147 pr m (nI co) s) := by
  have s0 : s.1 18 ≠ 0 := by
    rw [e18]
    exact fun q => absurd ((nI_eq (a := 100 + c) (b := 0) (by omega) (by omega)).mp q) (by omega)
  obtain ⟨w, vc, n9, n12, n11, w3, w0, wv, ws⟩ := h.num
  have n12 := n12 (kd_c c128 e18)
  have evc := ws c c128 e18
  obtain ⟨S1, s1, p1, p2, p3, p4, p5, p6, p7, p8⟩ := h.step m h14
  have t1 := p8 s0
  have nO : ∀ K, sNewO (hMem A R S1) 8 [.int 0, .null, .null] 3 K = K R.2.1 (hMem A (sNew R (sObj 8 [.int 0, .null, .null]) 3) S1) := fun K => hNewO h.2.1 S1 8 _ 3 K
  have hc1 := h.2.1.new (sObj 8 [.int 0, .null, .null]) 3
  have x1 := hEx.new h.2.1 (sObj 8 [.int 0, .null, .null]) 3
  have p3' : PS A (sNew R (sObj 8 [.int 0, .null, .null]) 3) S1 s1 g 1 n u := p3.ex x1.1 hc1 rfl (fun _ _ => rfl)
  have stpN : STP R S s (sNew R (sObj 8 [.int 0, .null, .null]) 3) S1 s1 := ⟨x1.le (by omega) (by omega), p4.2.1, p4.2.2.1, p4.2.2.2⟩
  have m1 : f_X0_must (hX A) 1 (hMem A R S) = some (.inl none, hMem A R S) := must_1 _ (R := R) (S := S) rfl (by decide)
  have nco : ¬ nI co = -1 := nI_m1 co (by omega)
  have e1 : f_X0_oneOfB_J111 fr g (hX A) o 1 (hX A) (hMem A R S) = sCallN (f_X0_sum g (hX A) (hMem A (sNew R (sObj 8 [.int 0, .null, .null]) 3) S1)) fun r9 M8 => sCallV (f_X9_init R.2.1 (nI c) o r9 M8) fun M10 => some (.inl (some (.ref R.2.1)), M10) := by
    simp only [f_X0_oneOfB_J111, hx_chk h.1, sCallV, m1, hcV, xgI_12 h.1, n12, hvI_int, obS, p1, nO, evc, nI_char c c128]
  have e2 : p_X3_oneTestB_J147 pr m (nI co) s = pCI (p_X3_sumUp m s1) fun x6 M5 => if x6 = 0 then some (some (.int 0), M5) else pCV (p_X3_lay m (nI co) 0 M5) fun M7 => some (some (.int 1), M7) := by
    simp only [p_X3_oneTestB_J147, if_neg nco, p2, pcV]
  rw [e1, e2]
  have hst1 : stN s1 ≤ tAt s1 := by omega
  rcases sum_both m p3' p7 hst1 with ⟨o2, R2, S2, s2, q1, q2, q3, q4, q5⟩ | hF
  · obtain ⟨R3, j1, j2, j3, j4, j5, j6, j7, j8, j9, j10, j11⟩ := two_join (k := c) (o1 := o) (o2 := o2) m h p4 t1 p6 hst q3 q4 c128 (nI co) 0
    have tj := tr_joinC (v := 0) p4 p6 q4 ht q5 j5 j6 ha hc j2 j8
    refine Or.inl ⟨R.2.1, R3, S2, mLay s2 (nI co) 0, ?_, ?_, j3, j4, tj⟩
    · simp only [sCallN, q1, hcN, sCallV, j1, hcV]
    · simp only [q2, pcI, if_neg (show ¬ (1 : Int32) = 0 by decide), j7, pcV]
  · right
    have hF' := hF.stp stpN
    obtain ⟨q, k, R', S', s', q1, q2, rest⟩ := hF'
    refine ⟨q, k, R', S', s', ?_, ?_, rest⟩
    · simp only [sCallN, q1, hcX]
    · simp only [q2, pcI, if_true]
theorem cmp_whole {A : hA} {R : sMem} {S : hS} {s : mSt} {g : Nat → Nat} {n : Nat} {u : Nat → Int32} (m : Nat) {fr : Nat → Nat → sMem → Option (sRes × sMem)} {pr : Nat → Nat → mSt → Option (Option Value × mSt)} (h : PS A R S s g 1 n u) (h14 : s.1 14 = nI (stN s)) (hst : stN s ≤ tAt s) (c6 : ¬ s.1 18 = 6) (c140 : ¬ s.1 18 = 140) : RES A R S s g n u trB (stN s) (f_X0_oneOfB fr g (hX A) (hMem A R S)) (p_X3_oneTestB pr m s) := by
  have w3 := h.word (j := 3) (by omega) (by decide) (by decide)
  have c3 : cd 3 = 6 := rfl
  rw [c3] at w3
  have g40 := h.sign (c := 40) (by omega)
  have n40 : (nI 40 : Int32) = 40 := rfl
  have n140 : (nI (100 + 40) : Int32) = 140 := rfl
  rw [n40, n140] at g40
  have E1 : f_X0_oneOfB fr g (hX A) (hMem A R S) = sCallN (f_X0_sum g (hX A) (hMem A R S)) fun r6 M5 => sChk M5 0 (hX A) (sCallI (f_X0_isSign g (hX A) (60 : Int32) M5) fun x8 M7 => if x8 = 0 then (sChk M7 0 (hX A) (sCallI (f_X0_isSign g (hX A) (61 : Int32) M7) fun x10 M9 => if x10 = 0 then (sChk M9 0 (hX A) (sCallI (f_X0_isSign g (hX A) (62 : Int32) M9) fun x12 M11 => if x12 = 0 then (f_X0_oneOfB_J111 fr g (hX A) r6 (0 : Int32) (hX A) M11) else (f_X0_oneOfB_J111 fr g (hX A) r6 (1 : Int32) (hX A) M11))) else (f_X0_oneOfB_J111 fr g (hX A) r6 (1 : Int32) (hX A) M9))) else (f_X0_oneOfB_J111 fr g (hX A) r6 (1 : Int32) (hX A) M7)) := by
    simp only [f_X0_oneOfB, hx_chk h.1, w3, sCallI, hcI, decide_eq_false c6, b01_z, if_true, g40, decide_eq_false c140]
  have E2 : p_X3_oneTestB pr m s = pCI (p_X3_sumUp m s) fun x20 M19 => if x20 = 0 then some (some (.int 0), M19) else (qGet M19 18).bind fun x21 => if x21 = (160 : Int32) then (p_X3_oneTestB_J147 pr m (27 : Int32) M19) else ((qGet M19 18).bind fun x22 => if x22 = (161 : Int32) then (p_X3_oneTestB_J147 pr m (28 : Int32) M19) else ((qGet M19 18).bind fun x23 => p_X3_oneTestB_J147 pr m (if x23 = (162 : Int32) then (29 : Int32) else (-1 : Int32)) M19)) := by
    simp only [p_X3_oneTestB, qg, obS, if_neg c6, if_neg c140]
  rw [E1, E2]
  rcases sum_both m h h14 hst with ⟨o, R2, S2, s2, q1, q2, q3, q4, q5⟩ | hF
  · have tf := q4.2.2.2
    have a5 := tf.2.2.2.2.1
    have a7 := tf.2.2.2.2.2.2
    have g60 := q3.sign (c := 60) (by omega)
    have g61 := q3.sign (c := 61) (by omega)
    have g62 := q3.sign (c := 62) (by omega)
    have n60 : (nI 60 : Int32) = 60 := rfl
    have n160 : (nI (100 + 60) : Int32) = 160 := rfl
    have n61 : (nI 61 : Int32) = 61 := rfl
    have n161 : (nI (100 + 61) : Int32) = 161 := rfl
    have n62 : (nI 62 : Int32) = 62 := rfl
    have n162 : (nI (100 + 62) : Int32) = 162 := rfl
    rw [n60, n160] at g60
    rw [n61, n161] at g61
    rw [n62, n162] at g62
    simp only [sCallN, q1, hcN, q2, pcI, if_neg (show ¬ (1 : Int32) = 0 by decide), qg, obS, hx_chk h.1, sCallI, g60, hcI]
    by_cases d60 : s2.1 18 = 160
    · simp only [decide_eq_true d60, if_neg b01_1, if_pos d60]
      exact (cmp_tail (c := 60) (co := 27) m q3 tf.2.2.2.1 (by omega) a5 q5 rfl (by omega) (by omega) d60).after q4
    · simp only [decide_eq_false d60, b01_z, if_true, if_neg d60, g61, hcI]
      by_cases d61 : s2.1 18 = 161
      · simp only [decide_eq_true d61, if_neg b01_1, if_pos d61]
        exact (cmp_tail (c := 61) (co := 28) m q3 tf.2.2.2.1 (by omega) a5 q5 rfl (by omega) (by omega) d61).after q4
      · simp only [decide_eq_false d61, b01_z, if_true, if_neg d61, g62, hcI, hx_chk h.1]
        by_cases d62 : s2.1 18 = 162
        · simp only [decide_eq_true d62, if_neg b01_1, if_pos d62, hx_chk h.1]
          exact (cmp_tail (c := 62) (co := 29) m q3 tf.2.2.2.1 (by omega) a5 q5 rfl (by omega) (by omega) d62).after q4
        · simp only [decide_eq_false d62, b01_z, if_true, if_neg d62, hx_chk h.1]
          obtain ⟨R', i1, i2⟩ := must_0 q3
          right
          have e1 : f_X0_oneOfB_J111 fr g (hX A) o 0 (hX A) (hMem A R2 S2) = some (.inr R2.2.1, hMem A R' S2) := by
            simp only [f_X0_oneOfB_J111, hx_chk h.1, sCallV, i1, hcX]
          have e2 : p_X3_oneTestB_J147 pr m (-1) s2 = some (some (.int 0), mSet (mSet s2 21 1) 22 (s2.1 19)) := by
            simp only [p_X3_oneTestB_J147, if_true, bad_m, pcI, bool0]
          rw [e1, e2]
          exact i2.stp q4
  · right
    obtain ⟨q, k, R', S', s', q1, q2, rest⟩ := hF
    refine ⟨q, k, R', S', s', ?_, ?_, rest⟩
    · simp only [sCallN, q1, hcX]
    · simp only [q2, pcI, if_true]
theorem rec_both {A : hA} {g : Nat → Nat} {n : Nat} {u : Nat → Int32} (m : Nat) : ∀ (fu k op : Nat), k ≤ 2 → op ≤ 8 → 3 * (8 - op) + 3 - k ≤ fu → BH A g n u m op (f_X0_rec g fu k (hX A)) (p_X3_rec fu k m)
  | 0, k, op, hk, ho, hf => by omega
  | fu + 1, k, op, hk, ho, hf => by
    have : k = 0 ∨ k = 1 ∨ k = 2 := by omega
    rcases this with rfl | rfl | rfl
    · exact any_whole m op (fr := f_X0_rec g fu) (pr := p_X3_rec fu) (rec_both m fu 1 op (by omega) ho (by omega))
    · exact both_whole m op (fr := f_X0_rec g fu) (pr := p_X3_rec fu) (rec_both m fu 2 op (by omega) ho (by omega))
    · intro R S s h h14 hst h13 h24
      show RES A R S s g n u trB (stN s) (f_X0_oneOfB (f_X0_rec g fu) g (hX A) (hMem A R S)) (p_X3_oneTestB (p_X3_rec fu) m s)
      by_cases c6 : s.1 18 = 6
      · exact not_whole m ho (fun h8 => rec_both m fu 2 (op + 1) (by omega) (by omega) (by omega)) h h14 hst h13 h24 c6
      · by_cases c140 : s.1 18 = 140
        · exact par_whole m ho (fun h8 => rec_both m fu 0 (op + 1) (by omega) (by omega) (by omega)) h h14 hst h13 h24 c140
        · exact cmp_whole m h h14 hst c6 c140
theorem any_both {A : hA} {R : sMem} {S : hS} {s : mSt} {g : Nat → Nat} {n : Nat} {u : Nat → Int32} (m : Nat) (h : PS A R S s g 1 n u) (h14 : s.1 14 = nI (stN s)) (hst : stN s ≤ tAt s) (h13 : S.1 13 = .int (nI 0)) (h24 : s.1 24 = nI 0) : RES A R S s g n u trB (stN s) (f_X0_any g (hX A) (hMem A R S)) (p_X3_any m s) := rec_both m 60 0 0 (by omega) (by omega) (by omega) R S s h h14 hst h13 h24
