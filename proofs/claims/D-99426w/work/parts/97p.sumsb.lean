/-! products and sums, whole: both sides -/
set_option maxRecDepth 100000
theorem sg_is {c : Nat} {s : mSt} {t : Nat} (et : s.1 18 = nI t) (ht : t < 300) (hc : c < 128) : (s.1 18 = nI (100 + c)) ↔ t = 100 + c := by
  rw [et]
  exact nI_eq (by omega) (by omega)
theorem prod_loop {A : hA} {g : Nat → Nat} {n : Nat} {u : Nat → Int32} (m : Nat) : ∀ (d : Nat) (R : sMem) (S : hS) (s : mSt) (o a0 : Nat), n - tAt s ≤ d → PS A R S s g 1 n u → s.1 14 = nI (stN s) → stN s ≤ tAt s → a0 ≤ stN s → trA R s o a0 (stN s) → ∀ fu fu', d < fu → d < fu' → RES A R S s g n u trA a0 (f_X0_product_L5 g (hX A) fu o (hMem A R S)) (p_X3_product_L9 m fu' s)
  | d, R, S, s, o, a0, hd, h, h14, hst, ha, ht, fu, fu', hf, hf' => by
    obtain ⟨fu, rfl⟩ : ∃ p, fu = p + 1 := ⟨fu - 1, by omega⟩
    obtain ⟨fu', rfl⟩ : ∃ p, fu' = p + 1 := ⟨fu' - 1, by omega⟩
    obtain ⟨t, htt, et⟩ := h.tok
    have s42 := h.sign (c := 42) (by omega)
    have s47 := h.sign (c := 47) (by omega)
    have fr := h.fr
    have n42 : (nI 42 : Int32) = 42 := rfl
    have n47 : (nI 47 : Int32) = 47 := rfl
    have n142 : (nI (100 + 42) : Int32) = 142 := rfl
    have n147 : (nI (100 + 47) : Int32) = 147 := rfl
    rw [n42, n142] at s42
    rw [n47, n147] at s47
    have next : ∀ R' S' s' o', PS A R' S' s' g 1 n u → s'.1 14 = nI (stN s') → stN s' ≤ tAt s' → a0 ≤ stN s' → trA R' s' o' a0 (stN s') → tAt s + 1 ≤ tAt s' → s.1 18 ≠ 0 → RES A R' S' s' g n u trA a0 (f_X0_product_L5 g (hX A) fu o' (hMem A R' S')) (p_X3_product_L9 m fu' s') := fun R' S' s' o' b1 b2 b3 b4 b5 b6 b7 => by
      have l := fr.2.2.2 b7
      obtain ⟨d, rfl⟩ : ∃ p, d = p + 1 := ⟨d - 1, by omega⟩
      exact prod_loop m d R' S' s' o' a0 (by omega) b1 b2 b3 b4 b5 fu fu' (by omega) (by omega)
    by_cases c1 : s.1 18 = 142
    · have e1 : f_X0_product_L5 g (hX A) (fu + 1) o (hMem A R S) = f_X0_product_J23 g (f_X0_product_L5 g (hX A) fu) (hX A) o (hMem A R S) := by
        simp only [f_X0_product_L5, hx_chk h.1, s42, sCallI, hcI, decide_eq_true c1, if_neg b01_1]
      have e2 : p_X3_product_L9 m (fu' + 1) s = p_X3_product_J29 (p_X3_product_L9 m fu') m s := by
        simp only [p_X3_product_L9, qg, obS, if_pos c1]
      rw [e1, e2]
      exact prod_step m h h14 hst ha ht (fun R' S' s' o' b1 b2 b3 b4 b5 b6 => next R' S' s' o' b1 b2 b3 b4 b5 b6 (by rw [c1]; decide)) (Or.inl rfl) c1
    · by_cases c2 : s.1 18 = 147
      · have e1 : f_X0_product_L5 g (hX A) (fu + 1) o (hMem A R S) = f_X0_product_J23 g (f_X0_product_L5 g (hX A) fu) (hX A) o (hMem A R S) := by
          simp only [f_X0_product_L5, hx_chk h.1, s42, s47, sCallI, hcI, decide_eq_false c1, b01_z, if_true, decide_eq_true c2, if_neg b01_1]
        have e2 : p_X3_product_L9 m (fu' + 1) s = p_X3_product_J29 (p_X3_product_L9 m fu') m s := by
          simp only [p_X3_product_L9, qg, obS, if_neg c1, if_pos c2]
        rw [e1, e2]
        exact prod_step m h h14 hst ha ht (fun R' S' s' o' b1 b2 b3 b4 b5 b6 => next R' S' s' o' b1 b2 b3 b4 b5 b6 (by rw [c2]; decide)) (Or.inr rfl) c2
      · refine Or.inl ⟨o, R, S, s, ?_, ?_, h, ⟨(hEx.refl R).le (by omega) (by omega), SF.refl S, rfl, fun _ _ => rfl, fun _ _ => rfl, fun _ _ => rfl, h14, Nat.le_refl _, Nat.le_refl _, Nat.le_refl _⟩, ht⟩
        · simp only [f_X0_product_L5, hx_chk h.1, s42, s47, sCallI, hcI, decide_eq_false c1, decide_eq_false c2, b01_z, if_true]
        · simp only [p_X3_product_L9, qg, obS, if_neg c1, if_neg c2]
theorem product_both {A : hA} {R : sMem} {S : hS} {s : mSt} {g : Nat → Nat} {n : Nat} {u : Nat → Int32} (m : Nat) (h : PS A R S s g 1 n u) (h14 : s.1 14 = nI (stN s)) (hst : stN s ≤ tAt s) : RES A R S s g n u trA (stN s) (f_X0_product g (hX A) (hMem A R S)) (p_X3_product m s) := by
  rcases unit_both m h h14 hst with ⟨o, R1, S1, s1, q1, q2, q3, q4, q5⟩ | hF
  · have e1 : f_X0_product g (hX A) (hMem A R S) = f_X0_product_L5 g (hX A) sFuel o (hMem A R1 S1) := by
      simp only [f_X0_product, hx_chk h.1, sCallN, q1, hcN]
    have e2 : p_X3_product m s = p_X3_product_L9 m sFuel s1 := by
      simp only [p_X3_product, q2, pcI, if_neg (show ¬ (1 : Int32) = 0 by decide)]
    rw [e1, e2]
    have tf := q4.2.2.2
    have a5 := tf.2.2.2.2.1
    have a7 := tf.2.2.2.2.2.2
    have hn := q3.fr
    exact (prod_loop m 400 R1 S1 s1 o (stN s) (by omega) q3 tf.2.2.2.1 (by omega) a5 q5 sFuel sFuel (by decide) (by decide)).after q4
  · right
    obtain ⟨q, k, R', S', s', q1, q2, rest⟩ := hF
    refine ⟨q, k, R', S', s', ?_, ?_, rest⟩
    · simp only [f_X0_product, hx_chk h.1, sCallN, q1, hcX]
    · simp only [p_X3_product, q2, pcI, if_true]
theorem sum_step {A : hA} {R : sMem} {S : hS} {s : mSt} {g : Nat → Nat} {n a0 : Nat} {u : Nat → Int32} (m : Nat) {kf : Nat → sMem → Option (sRes × sMem)} {kp : mSt → Option (Option Value × mSt)} {o : Nat} (h : PS A R S s g 1 n u) (h14 : s.1 14 = nI (stN s)) (hst : stN s ≤ tAt s) (ha : a0 ≤ stN s) (ht : trA R s o a0 (stN s)) (hk : ∀ R' S' s' o', PS A R' S' s' g 1 n u → s'.1 14 = nI (stN s') → stN s' ≤ tAt s' → a0 ≤ stN s' → trA R' s' o' a0 (stN s') → tAt s + 1 ≤ tAt s' → RES A R' S' s' g n u trA a0 (kf o' (hMem A R' S')) (kp s')) {c co : Nat} (hc : c = 43 ∧ co = 23 ∨ c = 45 ∧ co = 24) (e18 : s.1 18 = nI (100 + c)) : RES A R S s g n u trA a0 (f_X0_sum_J23 g kf (hX A) o (hMem A R S)) (p_X3_sumUp_J29 kp m s) := by
  have c128 : c < 128 := by omega
  have s0 : s.1 18 ≠ 0 := by
    rw [e18]
    exact fun q => absurd ((nI_eq (a := 100 + c) (b := 0) (by omega) (by omega)).mp q) (by omega)
  obtain ⟨w, vc, n9, n12, n11, w3, w0, wv, ws⟩ := h.num
  have n12 := n12 (kd_c c128 e18)
  have evc := ws c c128 e18
  obtain ⟨S1, s1, p1, p2, p3, p4, p5, p6, p7, p8⟩ := h.step m h14
  have t1 := p8 s0
  have nO : ∀ K, sNewO (hMem A R S1) 8 [.int 0, .null, .null] 3 K = K R.2.1 (hMem A (sNew R (sObj 8 [.int 0, .null, .null]) 3) S1) := fun K => hNewO h.2.1 S1 8 _ 3 K
  have hc1 := h.2.1.new (sObj 8 [.int 0, .null, .null]) 3
  have x1 := hEx.new h.2.1 (sObj 8 [.int 0, .null, .null]) 3
  have p3' : PS A (sNew R (sObj 8 [.int 0, .null, .null]) 3) S1 s1 g 1 n u := p3.ex x1.1 hc1 rfl (fun _ _ => rfl)
  have stpN : STP R S s (sNew R (sObj 8 [.int 0, .null, .null]) 3) S1 s1 := ⟨x1.le (by omega) (by omega), p4.2.1, p4.2.2.1, p4.2.2.2⟩
  have e1 : f_X0_sum_J23 g kf (hX A) o (hMem A R S) = sCallN (f_X0_product g (hX A) (hMem A (sNew R (sObj 8 [.int 0, .null, .null]) 3) S1)) fun r4 M3 => sCallV (f_X9_init R.2.1 (nI c) o r4 M3) fun M5 => kf R.2.1 M5 := by
    simp only [f_X0_sum_J23, xgI_12 h.1, n12, hvI_int, obS, hx_chk h.1, sCallV, p1, hcV, evc, nI_char c c128, nO]
  have e2 : p_X3_sumUp_J29 kp m s = pCI (p_X3_product m s1) fun x5 M4 => if x5 = 0 then some (some (.int 0), M4) else pCV (p_X3_lay m (nI co) 0 M4) fun M6 => kp M6 := by
    have eco : (if s.1 18 = (143 : Int32) then (23 : Int32) else 24) = nI co := by
      rw [e18]
      rcases hc with ⟨rfl, rfl⟩ | ⟨rfl, rfl⟩
      · rfl
      · rfl
    simp only [p_X3_sumUp_J29, qg, obS, p2, pcV, eco]
  rw [e1, e2]
  have hst1 : stN s1 ≤ tAt s1 := by omega
  rcases product_both m p3' p7 hst1 with ⟨o2, R2, S2, s2, q1, q2, q3, q4, q5⟩ | hF
  · obtain ⟨R3, j1, j2, j3, j4, j5, j6, j7, j8, j9, j10, j11⟩ := two_join (k := c) (o1 := o) (o2 := o2) m h p4 t1 p6 hst q3 q4 c128 (nI co) 0
    have hsg : hSg c = some co := by
      rcases hc with ⟨rfl, rfl⟩ | ⟨rfl, rfl⟩
      · rfl
      · rfl
    have tj := tr_join (v := 0) p4 p6 q4 ht q5 j5 j6 ha hsg j2 j8
    have b5 := j4.2.2.2.2.2.2.2.1
    have := hk R3 S2 (mLay s2 (nI co) 0) R.2.1 j3 j10 j9 (by omega) tj j11
    have f1 : (sCallN (f_X0_product g (hX A) (hMem A (sNew R (sObj 8 [.int 0, .null, .null]) 3) S1)) fun r4 M3 => sCallV (f_X9_init R.2.1 (nI c) o r4 M3) fun M5 => kf R.2.1 M5) = kf R.2.1 (hMem A R3 S2) := by
      simp only [sCallN, q1, hcN, sCallV, j1, hcV]
    have f2 : (pCI (p_X3_product m s1) fun x5 M4 => if x5 = 0 then some (some (.int 0), M4) else pCV (p_X3_lay m (nI co) 0 M4) fun M6 => kp M6) = kp (mLay s2 (nI co) 0) := by
      simp only [q2, pcI, if_neg (show ¬ (1 : Int32) = 0 by decide), j7, pcV]
    rw [f1, f2]
    exact this.after j4
  · right
    have hF' := hF.stp stpN
    obtain ⟨q, k, R', S', s', q1, q2, rest⟩ := hF'
    refine ⟨q, k, R', S', s', ?_, ?_, rest⟩
    · simp only [sCallN, q1, hcX]
    · simp only [q2, pcI, if_true]
theorem sum_loop {A : hA} {g : Nat → Nat} {n : Nat} {u : Nat → Int32} (m : Nat) : ∀ (d : Nat) (R : sMem) (S : hS) (s : mSt) (o a0 : Nat), n - tAt s ≤ d → PS A R S s g 1 n u → s.1 14 = nI (stN s) → stN s ≤ tAt s → a0 ≤ stN s → trA R s o a0 (stN s) → ∀ fu fu', d < fu → d < fu' → RES A R S s g n u trA a0 (f_X0_sum_L5 g (hX A) fu o (hMem A R S)) (p_X3_sumUp_L9 m fu' s)
  | d, R, S, s, o, a0, hd, h, h14, hst, ha, ht, fu, fu', hf, hf' => by
    obtain ⟨fu, rfl⟩ : ∃ p, fu = p + 1 := ⟨fu - 1, by omega⟩
    obtain ⟨fu', rfl⟩ : ∃ p, fu' = p + 1 := ⟨fu' - 1, by omega⟩
    obtain ⟨t, htt, et⟩ := h.tok
    have s42 := h.sign (c := 43) (by omega)
    have s47 := h.sign (c := 45) (by omega)
    have fr := h.fr
    have n42 : (nI 43 : Int32) = 43 := rfl
    have n47 : (nI 45 : Int32) = 45 := rfl
    have n142 : (nI (100 + 43) : Int32) = 143 := rfl
    have n147 : (nI (100 + 45) : Int32) = 145 := rfl
    rw [n42, n142] at s42
    rw [n47, n147] at s47
    have next : ∀ R' S' s' o', PS A R' S' s' g 1 n u → s'.1 14 = nI (stN s') → stN s' ≤ tAt s' → a0 ≤ stN s' → trA R' s' o' a0 (stN s') → tAt s + 1 ≤ tAt s' → s.1 18 ≠ 0 → RES A R' S' s' g n u trA a0 (f_X0_sum_L5 g (hX A) fu o' (hMem A R' S')) (p_X3_sumUp_L9 m fu' s') := fun R' S' s' o' b1 b2 b3 b4 b5 b6 b7 => by
      have l := fr.2.2.2 b7
      obtain ⟨d, rfl⟩ : ∃ p, d = p + 1 := ⟨d - 1, by omega⟩
      exact sum_loop m d R' S' s' o' a0 (by omega) b1 b2 b3 b4 b5 fu fu' (by omega) (by omega)
    by_cases c1 : s.1 18 = 143
    · have e1 : f_X0_sum_L5 g (hX A) (fu + 1) o (hMem A R S) = f_X0_sum_J23 g (f_X0_sum_L5 g (hX A) fu) (hX A) o (hMem A R S) := by
        simp only [f_X0_sum_L5, hx_chk h.1, s42, sCallI, hcI, decide_eq_true c1, if_neg b01_1]
      have e2 : p_X3_sumUp_L9 m (fu' + 1) s = p_X3_sumUp_J29 (p_X3_sumUp_L9 m fu') m s := by
        simp only [p_X3_sumUp_L9, qg, obS, if_pos c1]
      rw [e1, e2]
      exact sum_step m h h14 hst ha ht (fun R' S' s' o' b1 b2 b3 b4 b5 b6 => next R' S' s' o' b1 b2 b3 b4 b5 b6 (by rw [c1]; decide)) (Or.inl ⟨rfl, rfl⟩) c1
    · by_cases c2 : s.1 18 = 145
      · have e1 : f_X0_sum_L5 g (hX A) (fu + 1) o (hMem A R S) = f_X0_sum_J23 g (f_X0_sum_L5 g (hX A) fu) (hX A) o (hMem A R S) := by
          simp only [f_X0_sum_L5, hx_chk h.1, s42, s47, sCallI, hcI, decide_eq_false c1, b01_z, if_true, decide_eq_true c2, if_neg b01_1]
        have e2 : p_X3_sumUp_L9 m (fu' + 1) s = p_X3_sumUp_J29 (p_X3_sumUp_L9 m fu') m s := by
          simp only [p_X3_sumUp_L9, qg, obS, if_neg c1, if_pos c2]
        rw [e1, e2]
        exact sum_step m h h14 hst ha ht (fun R' S' s' o' b1 b2 b3 b4 b5 b6 => next R' S' s' o' b1 b2 b3 b4 b5 b6 (by rw [c2]; decide)) (Or.inr ⟨rfl, rfl⟩) c2
      · refine Or.inl ⟨o, R, S, s, ?_, ?_, h, ⟨(hEx.refl R).le (by omega) (by omega), SF.refl S, rfl, fun _ _ => rfl, fun _ _ => rfl, fun _ _ => rfl, h14, Nat.le_refl _, Nat.le_refl _, Nat.le_refl _⟩, ht⟩
        · simp only [f_X0_sum_L5, hx_chk h.1, s42, s47, sCallI, hcI, decide_eq_false c1, decide_eq_false c2, b01_z, if_true]
        · simp only [p_X3_sumUp_L9, qg, obS, if_neg c1, if_neg c2]
theorem sum_both {A : hA} {R : sMem} {S : hS} {s : mSt} {g : Nat → Nat} {n : Nat} {u : Nat → Int32} (m : Nat) (h : PS A R S s g 1 n u) (h14 : s.1 14 = nI (stN s)) (hst : stN s ≤ tAt s) : RES A R S s g n u trA (stN s) (f_X0_sum g (hX A) (hMem A R S)) (p_X3_sumUp m s) := by
  rcases product_both m h h14 hst with ⟨o, R1, S1, s1, q1, q2, q3, q4, q5⟩ | hF
  · have e1 : f_X0_sum g (hX A) (hMem A R S) = f_X0_sum_L5 g (hX A) sFuel o (hMem A R1 S1) := by
      simp only [f_X0_sum, hx_chk h.1, sCallN, q1, hcN]
    have e2 : p_X3_sumUp m s = p_X3_sumUp_L9 m sFuel s1 := by
      simp only [p_X3_sumUp, q2, pcI, if_neg (show ¬ (1 : Int32) = 0 by decide)]
    rw [e1, e2]
    have tf := q4.2.2.2
    have a5 := tf.2.2.2.2.1
    have a7 := tf.2.2.2.2.2.2
    have hn := q3.fr
    exact (sum_loop m 400 R1 S1 s1 o (stN s) (by omega) q3 tf.2.2.2.1 (by omega) a5 q5 sFuel sFuel (by decide) (by decide)).after q4
  · right
    obtain ⟨q, k, R', S', s', q1, q2, rest⟩ := hF
    refine ⟨q, k, R', S', s', ?_, ?_, rest⟩
    · simp only [f_X0_sum, hx_chk h.1, sCallN, q1, hcX]
    · simp only [p_X3_sumUp, q2, pcI, if_true]
