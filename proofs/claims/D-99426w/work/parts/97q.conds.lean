/-! conditions: both sides -/
set_option maxRecDepth 100000
theorem hTrB_two {R : sMem} {t : Nat → Int32} {q a b c sg co q1 q2 d1 d2 : Nat} (hsg : hSb sg = some co) (hq : R.2.2.2 q = some (sObj 8 [.int (nI sg), .ref q1, .ref q2])) (h1 : hTrB R t d1 q1 a c) (h2 : hTrB R t d2 q2 c b) (hd1 : d1 ≤ b - a) (hd2 : d2 ≤ b - a) (ht : t (1535 + 2 * b) = nI co) : hTrB R t (b + 1 - a) q a (b + 1) := by
  have l1 := hTrB_lt _ _ _ _ h1
  have l2 := hTrB_lt _ _ _ _ h2
  rw [show b + 1 - a = (b - a) + 1 by omega]
  exact Or.inr (Or.inl ⟨sg, co, q1, q2, c, b, hsg, hq, hTrB_to (sub3.of fun _ _ w => w) _ _ _ _ _ hd1 (fun _ _ _ => rfl) h1, hTrB_to (sub3.of fun _ _ w => w) _ _ _ _ _ hd2 (fun _ _ _ => rfl) h2, rfl, ht⟩)
theorem hTrB_cmp {R : sMem} {t : Nat → Int32} {q a b c sg co q1 q2 d1 d2 : Nat} (hsg : hSc2 sg = some co) (hq : R.2.2.2 q = some (sObj 8 [.int (nI sg), .ref q1, .ref q2])) (h1 : hTrA R t d1 q1 a c) (h2 : hTrA R t d2 q2 c b) (hd1 : d1 ≤ b - a) (hd2 : d2 ≤ b - a) (ht : t (1535 + 2 * b) = nI co) : hTrB R t (b + 1 - a) q a (b + 1) := by
  have l1 := hTrA_lt _ _ _ _ h1
  have l2 := hTrA_lt _ _ _ _ h2
  rw [show b + 1 - a = (b - a) + 1 by omega]
  exact Or.inl ⟨sg, co, q1, q2, c, b, hsg, hq, hTrA_to (sub3.of fun _ _ w => w) _ _ _ _ _ hd1 (fun _ _ _ => rfl) h1, hTrA_to (sub3.of fun _ _ w => w) _ _ _ _ _ hd2 (fun _ _ _ => rfl) h2, rfl, ht⟩
theorem tr_joinB {R R2 R3 : sMem} {S S1 S2 : hS} {s s1 s2 : mSt} {a0 o o2 r sg co : Nat} {v : Int32} (hs1 : STP R S s R S1 s1) (e1 : stN s1 = stN s) {R1 : sMem} (hs2 : STP R1 S1 s1 R2 S2 s2) (t1 : trB R s o a0 (stN s)) (t2 : trB R2 s2 o2 (stN s1) (stN s2)) (h3 : sub3 R2 R3) (hR : sub2 R R3) (ha : a0 ≤ stN s) (hsg : hSb sg = some co) (hr : R3.2.2.2 r = some (sObj 8 [.int (nI sg), .ref o, .ref o2])) (hn : stN (mLay s2 (nI co) v) = stN s2 + 1) : trB R3 (mLay s2 (nI co) v) r a0 (stN (mLay s2 (nI co) v)) := by
  have tf := hs1.2.2.2.trans hs2.2.2.2
  have b5 := hs2.2.2.2.2.2.2.2.1
  unfold trB
  rw [hn]
  have l1 := hTrB_lt _ _ _ _ t1
  have l2 := hTrB_lt _ _ _ _ t2
  have q1 : hTrB R3 (stp s2) (stN s - a0) o a0 (stN s) := t1.tf (sub3.of hR) tf
  have q1' : hTrB R3 (stp (mLay s2 (nI co) v)) (stN s - a0) o a0 (stN s) := hTrB_to (sub3.of fun _ _ w => w) _ _ _ _ _ (Nat.le_refl _) (fun p h1 h2 => stp_lay p (by omega) (by omega)) q1
  have q2 : hTrB R3 (stp (mLay s2 (nI co) v)) (stN s2 - stN s1) o2 (stN s1) (stN s2) := hTrB_to h3 _ _ _ _ _ (Nat.le_refl _) (fun p h1 h2 => stp_lay p (by omega) (by omega)) t2
  rw [e1] at q2
  exact hTrB_two hsg hr q1' q2 (by omega) (by omega) (mLay_k s2 _ _)
theorem tr_joinC {R R2 R3 : sMem} {S S1 S2 : hS} {s s1 s2 : mSt} {a0 o o2 r sg co : Nat} {v : Int32} (hs1 : STP R S s R S1 s1) (e1 : stN s1 = stN s) {R1 : sMem} (hs2 : STP R1 S1 s1 R2 S2 s2) (t1 : trA R s o a0 (stN s)) (t2 : trA R2 s2 o2 (stN s1) (stN s2)) (h3 : sub3 R2 R3) (hR : sub2 R R3) (ha : a0 ≤ stN s) (hsg : hSc2 sg = some co) (hr : R3.2.2.2 r = some (sObj 8 [.int (nI sg), .ref o, .ref o2])) (hn : stN (mLay s2 (nI co) v) = stN s2 + 1) : trB R3 (mLay s2 (nI co) v) r a0 (stN (mLay s2 (nI co) v)) := by
  have tf := hs1.2.2.2.trans hs2.2.2.2
  have b5 := hs2.2.2.2.2.2.2.2.1
  unfold trB
  rw [hn]
  have l1 := hTrA_lt _ _ _ _ t1
  have l2 := hTrA_lt _ _ _ _ t2
  have q1 : hTrA R3 (stp s2) (stN s - a0) o a0 (stN s) := t1.tf (sub3.of hR) tf
  have q1' : hTrA R3 (stp (mLay s2 (nI co) v)) (stN s - a0) o a0 (stN s) := hTrA_to (sub3.of fun _ _ w => w) _ _ _ _ _ (Nat.le_refl _) (fun p h1 h2 => stp_lay p (by omega) (by omega)) q1
  have q2 : hTrA R3 (stp (mLay s2 (nI co) v)) (stN s2 - stN s1) o2 (stN s1) (stN s2) := hTrA_to h3 _ _ _ _ _ (Nat.le_refl _) (fun p h1 h2 => stp_lay p (by omega) (by omega)) t2
  rw [e1] at q2
  exact hTrB_cmp hsg hr q1' q2 (by omega) (by omega) (mLay_k s2 _ _)
/-- a word between, one more condition -/
theorem bool_step {A : hA} {R : sMem} {S : hS} {s : mSt} {g : Nat → Nat} {n a0 : Nat} {u : Nat → Int32} (m : Nat) {fsub : sMem → Option (sRes × sMem)} {psub : mSt → Option (Option Value × mSt)} {kf : Nat → sMem → Option (sRes × sMem)} {kp : mSt → Option (Option Value × mSt)} {o : Nat} (h : PS A R S s g 1 n u) (h14 : s.1 14 = nI (stN s)) (hst : stN s ≤ tAt s) (ha : a0 ≤ stN s) (ht : trB R s o a0 (stN s)) (sub : ∀ R1 S1 s1, PS A R1 S1 s1 g 1 n u → s1.1 14 = nI (stN s1) → stN s1 ≤ tAt s1 → S1.1 13 = S.1 13 → s1.1 24 = s.1 24 → RES A R1 S1 s1 g n u trB (stN s1) (fsub (hMem A R1 S1)) (psub s1)) (hk : ∀ R' S' s' o', PS A R' S' s' g 1 n u → s'.1 14 = nI (stN s') → stN s' ≤ tAt s' → a0 ≤ stN s' → trB R' s' o' a0 (stN s') → tAt s + 1 ≤ tAt s' → S'.1 13 = S.1 13 → s'.1 24 = s.1 24 → RES A R' S' s' g n u trB a0 (kf o' (hMem A R' S')) (kp s')) {sg co : Nat} (hc : hSb sg = some co) (hsg : sg < 128) (s0 : s.1 18 ≠ 0) : RES A R S s g n u trB a0 (sCallV (f_X0_readNext g (hX A) (hMem A R S)) fun M3 => sNewO M3 8 [.int 0, .null, .null] 3 fun r5 M6 => sChk M6 0 (hX A) (sCallN (fsub M6) fun r8 M7 => sCallV (f_X9_init r5 (nI sg) o r8 M7) fun M9 => kf r5 M9)) (pCV (p_X3_next0 m s) fun M2 => pCI (psub M2) fun x5 M4 => if x5 = 0 then some (some (.int 0), M4) else pCV (p_X3_lay m (nI co) 0 M4) fun M6 => kp M6) := by
  obtain ⟨S1, s1, p1, p2, p3, p4, p5, p6, p7, p8⟩ := h.step m h14
  have t1 := p8 s0
  have nO : ∀ K, sNewO (hMem A R S1) 8 [.int 0, .null, .null] 3 K = K R.2.1 (hMem A (sNew R (sObj 8 [.int 0, .null, .null]) 3) S1) := fun K => hNewO h.2.1 S1 8 _ 3 K
  have hc1 := h.2.1.new (sObj 8 [.int 0, .null, .null]) 3
  have x1 := hEx.new h.2.1 (sObj 8 [.int 0, .null, .null]) 3
  have p3' : PS A (sNew R (sObj 8 [.int 0, .null, .null]) 3) S1 s1 g 1 n u := p3.ex x1.1 hc1 rfl (fun _ _ => rfl)
  have stpN : STP R S s (sNew R (sObj 8 [.int 0, .null, .null]) 3) S1 s1 := ⟨x1.le (by omega) (by omega), p4.2.1, p4.2.2.1, p4.2.2.2⟩
  have hst1 : stN s1 ≤ tAt s1 := by omega
  have d13 := p4.2.2.1
  have d24 : s1.1 24 = s.1 24 := p4.2.2.2.2.2.1 24 (by omega)
  simp only [sCallV, p1, hcV, p2, pcV, nO, hx_chk h.1]
  rcases sub _ S1 s1 p3' p7 hst1 d13 d24 with ⟨o2, R2, S2, s2, q1, q2, q3, q4, q5⟩ | hF
  · obtain ⟨R3, j1, j2, j3, j4, j5, j6, j7, j8, j9, j10, j11⟩ := two_join (k := sg) (o1 := o) (o2 := o2) m h p4 t1 p6 hst q3 q4 hsg (nI co) 0
    have tj := tr_joinB (v := 0) p4 p6 q4 ht q5 j5 j6 ha hc j2 j8
    have b5 := j4.2.2.2.2.2.2.2.1
    have := hk R3 S2 (mLay s2 (nI co) 0) R.2.1 j3 j10 j9 (by omega) tj j11 j4.2.2.1 (j4.2.2.2.2.2.1 24 (by omega))
    simp only [sCallN, q1, hcN, j1, hcV, q2, pcI, if_neg (show ¬ (1 : Int32) = 0 by decide), j7, pcV]
    exact this.after j4
  · right
    have hF' := hF.stp stpN
    obtain ⟨q, k, R', S', s', q1, q2, rest⟩ := hF'
    refine ⟨q, k, R', S', s', ?_, ?_, rest⟩
    · simp only [sCallN, q1, hcX]
    · simp only [q2, pcI, if_true]
def BH (A : hA) (g : Nat → Nat) (n : Nat) (u : Nat → Int32) (m op : Nat) (fsub : sMem → Option (sRes × sMem)) (psub : mSt → Option (Option Value × mSt)) : Prop := ∀ R S s, PS A R S s g 1 n u → s.1 14 = nI (stN s) → stN s ≤ tAt s → S.1 13 = .int (nI op) → s.1 24 = nI op → RES A R S s g n u trB (stN s) (fsub (hMem A R S)) (psub s)
theorem any_loop {A : hA} {g : Nat → Nat} {n : Nat} {u : Nat → Int32} (m op : Nat) {fr : Nat → Nat → sMem → Option (sRes × sMem)} {pr : Nat → Nat → mSt → Option (Option Value × mSt)} (sub : BH A g n u m op (fr 1 (hX A)) (pr 1 m)) : ∀ (d : Nat) (R : sMem) (S : hS) (s : mSt) (o a0 : Nat), n - tAt s ≤ d → PS A R S s g 1 n u → s.1 14 = nI (stN s) → stN s ≤ tAt s → a0 ≤ stN s → trB R s o a0 (stN s) → S.1 13 = .int (nI op) → s.1 24 = nI op → ∀ fu fu', d < fu → d < fu' → RES A R S s g n u trB a0 (f_X0_anyB_L5 fr g (hX A) fu o (hMem A R S)) (p_X3_anyB_L9 pr m fu' s)
  | d, R, S, s, o, a0, hd, h, h14, hst, ha, ht, h13, h24, fu, fu', hf, hf' => by
    obtain ⟨fu, rfl⟩ : ∃ p, fu = p + 1 := ⟨fu - 1, by omega⟩
    obtain ⟨fu', rfl⟩ : ∃ p, fu' = p + 1 := ⟨fu' - 1, by omega⟩
    have w2 := h.word (j := 2) (by omega) (by decide) (by decide)
    have c4 : cd 2 = 4 := rfl
    rw [c4] at w2
    have fr' := h.fr
    by_cases c1 : s.1 18 = 4
    · have s0 : s.1 18 ≠ 0 := by rw [c1]; decide
      have l := fr'.2.2.2 s0
      obtain ⟨d, rfl⟩ : ∃ p, d = p + 1 := ⟨d - 1, by omega⟩
      have e1 : f_X0_anyB_L5 fr g (hX A) (fu + 1) o (hMem A R S) = sCallV (f_X0_readNext g (hX A) (hMem A R S)) fun M3 => sNewO M3 8 [.int 0, .null, .null] 3 fun r5 M6 => sChk M6 0 (hX A) (sCallN (fr 1 (hX A) M6) fun r8 M7 => sCallV (f_X9_init r5 (nI 124) o r8 M7) fun M9 => f_X0_anyB_L5 fr g (hX A) fu r5 M9) := by
        simp only [f_X0_anyB_L5, hx_chk h.1, w2, sCallI, hcI, decide_eq_true c1, if_neg b01_1]
        rfl
      have e2 : p_X3_anyB_L9 pr m (fu' + 1) s = pCV (p_X3_next0 m s) fun M2 => pCI (pr 1 m M2) fun x5 M4 => if x5 = 0 then some (some (.int 0), M4) else pCV (p_X3_lay m (nI 32) 0 M4) fun M6 => p_X3_anyB_L9 pr m fu' M6 := by
        simp only [p_X3_anyB_L9, qg, obS, if_pos c1]
        rfl
      rw [e1, e2]
      exact bool_step m h h14 hst ha ht (fun R1 S1 s1 b1 b2 b3 b4 b5 => sub R1 S1 s1 b1 b2 b3 (b4.trans h13) (b5.trans h24)) (fun R' S' s' o' b1 b2 b3 b4 b5 b6 b7 b8 => any_loop m op sub d R' S' s' o' a0 (by omega) b1 b2 b3 b4 b5 (b7.trans h13) (b8.trans h24) fu fu' (by omega) (by omega)) (show hSb 124 = some 32 from rfl) (by omega) s0
    · refine Or.inl ⟨o, R, S, s, ?_, ?_, h, ⟨(hEx.refl R).le (by omega) (by omega), SF.refl S, rfl, fun _ _ => rfl, fun _ _ => rfl, fun _ _ => rfl, h14, Nat.le_refl _, Nat.le_refl _, Nat.le_refl _⟩, ht⟩
      · simp only [f_X0_anyB_L5, hx_chk h.1, w2, sCallI, hcI, decide_eq_false c1, b01_z, if_true]
      · simp only [p_X3_anyB_L9, qg, obS, if_neg c1]
theorem any_whole {A : hA} {g : Nat → Nat} {n : Nat} {u : Nat → Int32} (m op : Nat) {fr : Nat → Nat → sMem → Option (sRes × sMem)} {pr : Nat → Nat → mSt → Option (Option Value × mSt)} (sub : BH A g n u m op (fr 1 (hX A)) (pr 1 m)) : BH A g n u m op (f_X0_anyB fr g (hX A)) (p_X3_anyB pr m) := fun R S s h h14 hst h13 h24 => by
  rcases sub R S s h h14 hst h13 h24 with ⟨o, R1, S1, s1, q1, q2, q3, q4, q5⟩ | hF
  · have e1 : f_X0_anyB fr g (hX A) (hMem A R S) = f_X0_anyB_L5 fr g (hX A) sFuel o (hMem A R1 S1) := by
      simp only [f_X0_anyB, hx_chk h.1, sCallN, q1, hcN]
    have e2 : p_X3_anyB pr m s = p_X3_anyB_L9 pr m sFuel s1 := by
      simp only [p_X3_anyB, q2, pcI, if_neg (show ¬ (1 : Int32) = 0 by decide)]
    rw [e1, e2]
    have tf := q4.2.2.2
    have a5 := tf.2.2.2.2.1
    have a7 := tf.2.2.2.2.2.2
    have hn := q3.fr
    exact (any_loop m op sub 400 R1 S1 s1 o (stN s) (by omega) q3 tf.2.2.2.1 (by omega) a5 q5 (q4.2.2.1.trans h13) ((tf.2.2.1 24 (by omega)).trans h24) sFuel sFuel (by decide) (by decide)).after q4
  · right
    obtain ⟨q, k, R', S', s', q1, q2, rest⟩ := hF
    refine ⟨q, k, R', S', s', ?_, ?_, rest⟩
    · simp only [f_X0_anyB, hx_chk h.1, sCallN, q1, hcX]
    · simp only [p_X3_anyB, q2, pcI, if_true]
theorem both_loop {A : hA} {g : Nat → Nat} {n : Nat} {u : Nat → Int32} (m op : Nat) {fr : Nat → Nat → sMem → Option (sRes × sMem)} {pr : Nat → Nat → mSt → Option (Option Value × mSt)} (sub : BH A g n u m op (fr 2 (hX A)) (pr 2 m)) : ∀ (d : Nat) (R : sMem) (S : hS) (s : mSt) (o a0 : Nat), n - tAt s ≤ d → PS A R S s g 1 n u → s.1 14 = nI (stN s) → stN s ≤ tAt s → a0 ≤ stN s → trB R s o a0 (stN s) → S.1 13 = .int (nI op) → s.1 24 = nI op → ∀ fu fu', d < fu → d < fu' → RES A R S s g n u trB a0 (f_X0_bothB_L5 fr g (hX A) fu o (hMem A R S)) (p_X3_everyB_L9 pr m fu' s)
  | d, R, S, s, o, a0, hd, h, h14, hst, ha, ht, h13, h24, fu, fu', hf, hf' => by
    obtain ⟨fu, rfl⟩ : ∃ p, fu = p + 1 := ⟨fu - 1, by omega⟩
    obtain ⟨fu', rfl⟩ : ∃ p, fu' = p + 1 := ⟨fu' - 1, by omega⟩
    have w2 := h.word (j := 16) (by omega) (by decide) (by decide)
    have c4 : cd 16 = 5 := rfl
    rw [c4] at w2
    have fr' := h.fr
    by_cases c1 : s.1 18 = 5
    · have s0 : s.1 18 ≠ 0 := by rw [c1]; decide
      have l := fr'.2.2.2 s0
      obtain ⟨d, rfl⟩ : ∃ p, d = p + 1 := ⟨d - 1, by omega⟩
      have e1 : f_X0_bothB_L5 fr g (hX A) (fu + 1) o (hMem A R S) = sCallV (f_X0_readNext g (hX A) (hMem A R S)) fun M3 => sNewO M3 8 [.int 0, .null, .null] 3 fun r5 M6 => sChk M6 0 (hX A) (sCallN (fr 2 (hX A) M6) fun r8 M7 => sCallV (f_X9_init r5 (nI 38) o r8 M7) fun M9 => f_X0_bothB_L5 fr g (hX A) fu r5 M9) := by
        simp only [f_X0_bothB_L5, hx_chk h.1, w2, sCallI, hcI, decide_eq_true c1, if_neg b01_1]
        rfl
      have e2 : p_X3_everyB_L9 pr m (fu' + 1) s = pCV (p_X3_next0 m s) fun M2 => pCI (pr 2 m M2) fun x5 M4 => if x5 = 0 then some (some (.int 0), M4) else pCV (p_X3_lay m (nI 31) 0 M4) fun M6 => p_X3_everyB_L9 pr m fu' M6 := by
        simp only [p_X3_everyB_L9, qg, obS, if_pos c1]
        rfl
      rw [e1, e2]
      exact bool_step m h h14 hst ha ht (fun R1 S1 s1 b1 b2 b3 b4 b5 => sub R1 S1 s1 b1 b2 b3 (b4.trans h13) (b5.trans h24)) (fun R' S' s' o' b1 b2 b3 b4 b5 b6 b7 b8 => both_loop m op sub d R' S' s' o' a0 (by omega) b1 b2 b3 b4 b5 (b7.trans h13) (b8.trans h24) fu fu' (by omega) (by omega)) (show hSb 38 = some 31 from rfl) (by omega) s0
    · refine Or.inl ⟨o, R, S, s, ?_, ?_, h, ⟨(hEx.refl R).le (by omega) (by omega), SF.refl S, rfl, fun _ _ => rfl, fun _ _ => rfl, fun _ _ => rfl, h14, Nat.le_refl _, Nat.le_refl _, Nat.le_refl _⟩, ht⟩
      · simp only [f_X0_bothB_L5, hx_chk h.1, w2, sCallI, hcI, decide_eq_false c1, b01_z, if_true]
      · simp only [p_X3_everyB_L9, qg, obS, if_neg c1]
theorem both_whole {A : hA} {g : Nat → Nat} {n : Nat} {u : Nat → Int32} (m op : Nat) {fr : Nat → Nat → sMem → Option (sRes × sMem)} {pr : Nat → Nat → mSt → Option (Option Value × mSt)} (sub : BH A g n u m op (fr 2 (hX A)) (pr 2 m)) : BH A g n u m op (f_X0_bothB fr g (hX A)) (p_X3_everyB pr m) := fun R S s h h14 hst h13 h24 => by
  rcases sub R S s h h14 hst h13 h24 with ⟨o, R1, S1, s1, q1, q2, q3, q4, q5⟩ | hF
  · have e1 : f_X0_bothB fr g (hX A) (hMem A R S) = f_X0_bothB_L5 fr g (hX A) sFuel o (hMem A R1 S1) := by
      simp only [f_X0_bothB, hx_chk h.1, sCallN, q1, hcN]
    have e2 : p_X3_everyB pr m s = p_X3_everyB_L9 pr m sFuel s1 := by
      simp only [p_X3_everyB, q2, pcI, if_neg (show ¬ (1 : Int32) = 0 by decide)]
    rw [e1, e2]
    have tf := q4.2.2.2
    have a5 := tf.2.2.2.2.1
    have a7 := tf.2.2.2.2.2.2
    have hn := q3.fr
    exact (both_loop m op sub 400 R1 S1 s1 o (stN s) (by omega) q3 tf.2.2.2.1 (by omega) a5 q5 (q4.2.2.1.trans h13) ((tf.2.2.1 24 (by omega)).trans h24) sFuel sFuel (by decide) (by decide)).after q4
  · right
    obtain ⟨q, k, R', S', s', q1, q2, rest⟩ := hF
    refine ⟨q, k, R', S', s', ?_, ?_, rest⟩
    · simp only [f_X0_bothB, hx_chk h.1, sCallN, q1, hcX]
    · simp only [p_X3_everyB, q2, pcI, if_true]
