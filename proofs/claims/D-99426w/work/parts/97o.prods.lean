/-! products and sums: both sides -/
set_option maxRecDepth 100000
/-- the pair made of what was read before and behind an operator -/
theorem two_join {A : hA} {R R2 : sMem} {S S1 S2 : hS} {s s1 s2 : mSt} {g : Nat → Nat} {n : Nat} {u : Nat → Int32} (m : Nat) (h : PS A R S s g 1 n u) (hs1 : STP R S s R S1 s1) (ht : tAt s + 1 ≤ tAt s1) (e1 : stN s1 = stN s) (hst : stN s ≤ tAt s) (h2 : PS A R2 S2 s2 g 1 n u) (hs2 : STP (sNew R (sObj 8 [.int 0, .null, .null]) 3) S1 s1 R2 S2 s2) {k o1 o2 : Nat} (hk : k < 128) (co v : Int32) : ∃ R3, f_X9_init R.2.1 (nI k) o1 o2 (hMem A R2 S2) = some (.inl none, hMem A R3 S2) ∧ R3.2.2.2 R.2.1 = some (sObj 8 [.int (nI k), .ref o1, .ref o2]) ∧ PS A R3 S2 (mLay s2 co v) g 1 n u ∧ STP R S s R3 S2 (mLay s2 co v) ∧ sub3 R2 R3 ∧ sub2 R R3 ∧ p_X3_lay m co v s2 = some (none, mLay s2 co v) ∧ stN (mLay s2 co v) = stN s2 + 1 ∧ stN (mLay s2 co v) ≤ tAt (mLay s2 co v) ∧ (mLay s2 co v).1 14 = nI (stN (mLay s2 co v)) ∧ tAt s + 1 ≤ tAt (mLay s2 co v) := by
  have hb := h.2.1.base h.1
  have x1 := hEx.new h.2.1 (sObj 8 [.int 0, .null, .null]) 3
  have at1 := sNew_at R (sObj 8 [.int 0, .null, .null]) 3
  have at2 := hs2.1.1 _ _ at1
  have hx := x1.trans hs2.1
  obtain ⟨R3, i1, i2, i3, i4, i5⟩ := two_init (k := k) (o1 := o1) (o2 := o2) h.2.1 hx h2.2.1 S2 at2 hb (Nat.le_refl _) hk
  have tf1 := hs1.2.2.2
  have tf2 := hs2.2.2.2
  have a5 := tf1.2.2.2.2.1
  have a6 := tf1.2.2.2.2.2.1
  have a7 := tf1.2.2.2.2.2.2
  have b5 := tf2.2.2.2.2.1
  have b6 := tf2.2.2.2.2.2.1
  have b7 := tf2.2.2.2.2.2.2
  have hf2 := h2.fr
  have n2 : stN s2 < 410 := by omega
  have hn := mLay_n s2 co v (by omega)
  have ht2 := mLay_t s2 co v
  have sf : SF S S2 := hs1.2.1.trans hs2.2.1
  refine ⟨R3, i1, i2, (h.over h2 i4.1 i5 sf).lay co v, ⟨?_, sf, hs2.2.2.1.trans hs1.2.2.1, (tf1.trans tf2).lay co v (by omega) (by omega)⟩, fun a e q hq => ?_, i4.1, lay_m m co v tf2.2.2.2.1 n2, hn, by omega, by rw [mLay_14, hn], by omega⟩
  · rw [ht2]
    exact i4.le (by omega) (by omega)
  · by_cases c : a = R.2.1
    · subst c
      rw [at2] at q
      exact absurd (Option.some.inj q).symm hq
    · rw [i3 a c]
      exact q
theorem hTrA_two {R : sMem} {t : Nat → Int32} {q a b c sg co q1 q2 d1 d2 : Nat} (hsg : hSg sg = some co) (hq : R.2.2.2 q = some (sObj 8 [.int (nI sg), .ref q1, .ref q2])) (h1 : hTrA R t d1 q1 a c) (h2 : hTrA R t d2 q2 c b) (hd1 : d1 ≤ b - a) (hd2 : d2 ≤ b - a) (ht : t (1535 + 2 * b) = nI co) : hTrA R t (b + 1 - a) q a (b + 1) := by
  have l1 := hTrA_lt _ _ _ _ h1
  have l2 := hTrA_lt _ _ _ _ h2
  rw [show b + 1 - a = (b - a) + 1 by omega]
  exact Or.inr (Or.inr (Or.inl ⟨sg, co, q1, q2, c, b, hsg, hq, hTrA_to (sub3.of fun _ _ w => w) _ _ _ _ _ hd1 (fun _ _ _ => rfl) h1, hTrA_to (sub3.of fun _ _ w => w) _ _ _ _ _ hd2 (fun _ _ _ => rfl) h2, rfl, ht⟩))
theorem stp_lay {s : mSt} {k v : Int32} : ∀ p, 1535 ≤ p → p < 1535 + 2 * stN s → stp (mLay s k v) p = stp s p := fun p h1 h2 => mLay_lo s k v (by omega)
/-- an operator's tree -/
theorem tr_join {R R2 R3 : sMem} {S S1 S2 : hS} {s s1 s2 : mSt} {a0 o o2 r sg co : Nat} {v : Int32} (hs1 : STP R S s R S1 s1) (e1 : stN s1 = stN s) {R1 : sMem} (hs2 : STP R1 S1 s1 R2 S2 s2) (t1 : trA R s o a0 (stN s)) (t2 : trA R2 s2 o2 (stN s1) (stN s2)) (h3 : sub3 R2 R3) (hR : sub2 R R3) (ha : a0 ≤ stN s) (hsg : hSg sg = some co) (hr : R3.2.2.2 r = some (sObj 8 [.int (nI sg), .ref o, .ref o2])) (hn : stN (mLay s2 (nI co) v) = stN s2 + 1) : trA R3 (mLay s2 (nI co) v) r a0 (stN (mLay s2 (nI co) v)) := by
  have tf := hs1.2.2.2.trans hs2.2.2.2
  have b5 := hs2.2.2.2.2.2.2.2.1
  unfold trA
  rw [hn]
  have l1 := hTrA_lt _ _ _ _ t1
  have l2 := hTrA_lt _ _ _ _ t2
  have q1 : hTrA R3 (stp s2) (stN s - a0) o a0 (stN s) := t1.tf (sub3.of hR) tf
  have q1' : hTrA R3 (stp (mLay s2 (nI co) v)) (stN s - a0) o a0 (stN s) := hTrA_to (sub3.of fun _ _ w => w) _ _ _ _ _ (Nat.le_refl _) (fun p h1 h2 => stp_lay p (by omega) (by omega)) q1
  have q2 : hTrA R3 (stp (mLay s2 (nI co) v)) (stN s2 - stN s1) o2 (stN s1) (stN s2) := hTrA_to h3 _ _ _ _ _ (Nat.le_refl _) (fun p h1 h2 => stp_lay p (by omega) (by omega)) t2
  rw [e1] at q2
  exact hTrA_two hsg hr q1' q2 (by omega) (by omega) (mLay_k s2 _ _)
theorem nI_char : ∀ k, k < 128 → (((nI k).toUInt32 % 65536).toInt32) = nI k := by decide +kernel
/-- one more factor -/
theorem prod_step {A : hA} {R : sMem} {S : hS} {s : mSt} {g : Nat → Nat} {n a0 : Nat} {u : Nat → Int32} (m : Nat) {kf : Nat → sMem → Option (sRes × sMem)} {kp : mSt → Option (Option Value × mSt)} {o : Nat} (h : PS A R S s g 1 n u) (h14 : s.1 14 = nI (stN s)) (hst : stN s ≤ tAt s) (ha : a0 ≤ stN s) (ht : trA R s o a0 (stN s)) (hk : ∀ R' S' s' o', PS A R' S' s' g 1 n u → s'.1 14 = nI (stN s') → stN s' ≤ tAt s' → a0 ≤ stN s' → trA R' s' o' a0 (stN s') → tAt s + 1 ≤ tAt s' → RES A R' S' s' g n u trA a0 (kf o' (hMem A R' S')) (kp s')) {c : Nat} (hc : c = 42 ∨ c = 47) (e18 : s.1 18 = nI (100 + c)) : RES A R S s g n u trA a0 (f_X0_product_J23 g kf (hX A) o (hMem A R S)) (p_X3_product_J29 kp m s) := by
  have c128 : c < 128 := by omega
  have s0 : s.1 18 ≠ 0 := by
    rw [e18]
    exact fun q => absurd ((nI_eq (a := 100 + c) (b := 0) (by omega) (by omega)).mp q) (by omega)
  obtain ⟨w, vc, n9, n12, n11, w3, w0, wv, ws⟩ := h.num
  have n12 := n12 (kd_c c128 e18)
  have evc := ws c c128 e18
  obtain ⟨S1, s1, p1, p2, p3, p4, p5, p6, p7, p8⟩ := h.step m h14
  have t1 := p8 s0
  have sf1 := p4.2.2.2.2.2.2.2.2
  have nO : ∀ K, sNewO (hMem A R S1) 8 [.int 0, .null, .null] 3 K = K R.2.1 (hMem A (sNew R (sObj 8 [.int 0, .null, .null]) 3) S1) := fun K => hNewO h.2.1 S1 8 _ 3 K
  have hc1 := h.2.1.new (sObj 8 [.int 0, .null, .null]) 3
  have x1 := hEx.new h.2.1 (sObj 8 [.int 0, .null, .null]) 3
  have p3' : PS A (sNew R (sObj 8 [.int 0, .null, .null]) 3) S1 s1 g 1 n u := p3.ex x1.1 hc1 rfl (fun _ _ => rfl)
  have stpN : STP R S s (sNew R (sObj 8 [.int 0, .null, .null]) 3) S1 s1 := ⟨x1.le (by omega) (by omega), p4.2.1, p4.2.2.1, p4.2.2.2⟩
  rcases hc with rfl | rfl
  · -- times
    have e1 : f_X0_product_J23 g kf (hX A) o (hMem A R S) = sCallN (f_X0_unit g (hX A) (hMem A (sNew R (sObj 8 [.int 0, .null, .null]) 3) S1)) fun r4 M3 => sCallV (f_X9_init R.2.1 (nI 42) o r4 M3) fun M5 => kf R.2.1 M5 := by
      have nq : ¬ nI 42 = (47 : Int32) := by decide
      simp only [f_X0_product_J23, f_X0_product_J78, xgI_12 h.1, n12, hvI_int, obS, hx_chk h.1, sCallV, p1, hcV, evc, nI_char 42 (by omega), if_neg nq, nO]
    have e2 : p_X3_product_J29 kp m s = pCI (p_X3_unit m s1) fun x5 M4 => if x5 = 0 then some (some (.int 0), M4) else pCV (p_X3_lay m 25 0 M4) fun M6 => kp M6 := by
      have nq : ¬ nI (100 + 42) = (147 : Int32) := by decide
      simp only [p_X3_product_J29, qg, e18, obS, p2, pcV, if_neg nq, if_true]
    rw [e1, e2]
    rcases unit_both m p3' p7 (by omega) with ⟨o2, R2, S2, s2, q1, q2, q3, q4, q5⟩ | hF
    · obtain ⟨R3, j1, j2, j3, j4, j5, j6, j7, j8, j9, j10, j11⟩ := two_join (k := 42) (o1 := o) (o2 := o2) m h p4 t1 p6 hst q3 q4 (by omega) (nI 25) 0
      have tj := tr_join (v := 0) p4 p6 q4 ht q5 j5 j6 ha (show hSg 42 = some 25 from rfl) j2 j8
      have b5 := j4.2.2.2.2.2.2.2.1
      have := hk R3 S2 (mLay s2 (nI 25) 0) R.2.1 j3 j10 j9 (by omega) tj j11
      have f1 : (sCallN (f_X0_unit g (hX A) (hMem A (sNew R (sObj 8 [.int 0, .null, .null]) 3) S1)) fun r4 M3 => sCallV (f_X9_init R.2.1 (nI 42) o r4 M3) fun M5 => kf R.2.1 M5) = kf R.2.1 (hMem A R3 S2) := by
        simp only [sCallN, q1, hcN, sCallV, j1, hcV]
      have f2 : (pCI (p_X3_unit m s1) fun x5 M4 => if x5 = 0 then some (some (.int 0), M4) else pCV (p_X3_lay m 25 0 M4) fun M6 => kp M6) = kp (mLay s2 (nI 25) 0) := by
        have j7' : p_X3_lay m 25 0 s2 = some (none, mLay s2 (nI 25) 0) := j7
        simp only [q2, pcI, if_neg (show ¬ (1 : Int32) = 0 by decide), j7', pcV]
      rw [f1, f2]
      exact this.after j4
    · right
      have hF' := hF.stp stpN
      obtain ⟨q, k, R', S', s', q1, q2, rest⟩ := hF'
      refine ⟨q, k, R', S', s', ?_, ?_, rest⟩
      · simp only [sCallN, q1, hcX]
      · simp only [q2, pcI, if_true]
  · -- parts
    obtain ⟨w1, vc1, m9, m12, m11, m3, -, mv, -⟩ := p3.num
    by_cases k2 : s1.1 18 = 2
    · have m12 := m12 (kd_2 k2)
      obtain ⟨v, hv, ev, e20⟩ := mv k2
      by_cases v0 : v = 0
      · subst v0
        obtain ⟨R', i1, i2, i3⟩ := FAIL.here p3 2
        have m1 : f_X0_must (hX A) 1 (hMem A R S1) = some (.inl none, hMem A R S1) := must_1 _ (R := R) (S := S1) rfl (by decide)
        have nOf : ∀ K, sNewO (hMem A R S1) 4 [.null, .null, .null, .null, .null, .int 0, .int 0, .int 0] 8 K = K R.2.1 (hMem A (sNew R (sObj 4 [.null, .null, .null, .null, .null, .int 0, .int 0, .int 0]) 8) S1) := fun K => hNewO h.2.1 S1 4 _ 8 K
        have e1 : f_X0_product_J23 g kf (hX A) o (hMem A R S) = some (.inr R.2.1, hMem A R' S1) := by
          have nq : (nI 47 : Int32) = (47 : Int32) := rfl
          have n0 : (nI 0 : Int32) = 0 := rfl
          simp only [f_X0_product_J23, xgI_12 h.1, n12, hvI_int, obS, hx_chk h.1, sCallV, p1, hcV, evc, nI_char 47 (by omega), if_pos nq, xgN_9 h.1, m9, hvN_ref, if_pos (m3.mpr k2), m1, m12, ev, if_pos n0, nOf, xgI_11 h.1, m11, i1, i2]
        have e2 : p_X3_product_J29 kp m s = some (some (.int 0), mSet (mSet s1 21 2) 22 (s1.1 19)) := by
          have nq : (nI (100 + 47) : Int32) = (147 : Int32) := rfl
          have n0 : (nI 0 : Int32) = 0 := rfl
          simp only [p_X3_product_J29, qg, e18, obS, p2, pcV, if_pos nq, if_neg (show ¬ (1 : Int32) = 0 by decide), k2, e20, if_true, if_pos n0, bad_m, pcI, bool0]
        rw [e1, e2]
        exact Or.inr (i3.stp p4)
      · have nz : ¬ nI v = 0 := fun q => v0 ((nI_eq (a := v) (b := 0) (by omega) (by omega)).mp q)
        obtain ⟨v', o2, R2, S2, s2, hv', e20', q1, q2, q3, q4, q5, q6, q7, q8, q9⟩ := unit_num m p3' p7 k2
        have vv : v' = v := (nI_eq (by omega) (by omega)).mp (e20'.symm.trans e20)
        subst vv
        obtain ⟨R3, j1, j2, j3, j4, j5, j6, j7, j8, j9, j10, j11⟩ := two_join (k := 47) (o1 := o) (o2 := o2) m h p4 t1 p6 hst q3 q4 (by omega) 26 (nI v')
        have m1 : f_X0_must (hX A) 1 (hMem A R S1) = some (.inl none, hMem A R S1) := must_1 _ (R := R) (S := S1) rfl (by decide)
        have b5 := j4.2.2.2.2.2.2.2.1
        have tj : trA R3 (mLay s2 26 (nI v')) R.2.1 a0 (stN (mLay s2 26 (nI v'))) := by
          have l1 := hTrA_lt _ _ _ _ ht
          have t2 : hTrA R3 (stp s2) (stN s - a0) o a0 (stN s) := ht.tf (sub3.of j6) (p4.2.2.2.trans q4.2.2.2)
          have es : stN s2 = stN s := q6.trans p6
          have t3 : hTrA R3 (stp (mLay s2 26 (nI v'))) (stN s - a0) o a0 (stN s) := hTrA_to (sub3.of fun _ _ w => w) _ _ _ _ _ (Nat.le_refl _) (fun p h1 h2 => stp_lay p (by omega) (by omega)) t2
          show hTrA R3 _ _ _ a0 _
          rw [j8, es, show stN s + 1 - a0 = (stN s - a0) + 1 by omega]
          refine Or.inr (Or.inr (Or.inr ⟨o, o2, nI v', stN s, j2, t3, j5 _ _ q8 (by simp [sObj]), nz, rfl, ?_, ?_⟩))
          · rw [← es]
            exact mLay_k s2 _ _
          · rw [← es]
            exact mLay_v s2 _ _
        have := hk R3 S2 (mLay s2 26 (nI v')) R.2.1 j3 j10 j9 (by omega) tj j11
        have e1 : f_X0_product_J23 g kf (hX A) o (hMem A R S) = kf R.2.1 (hMem A R3 S2) := by
          have nq : (nI 47 : Int32) = (47 : Int32) := rfl
          simp only [f_X0_product_J23, f_X0_product_J78, xgI_12 h.1, n12, hvI_int, obS, hx_chk h.1, sCallV, p1, hcV, evc, nI_char 47 (by omega), if_pos nq, xgN_9 h.1, m9, hvN_ref, if_pos (m3.mpr k2), m1, m12, ev, if_neg nz, nO, sCallN, q1, hcN, j1]
        have e2 : p_X3_product_J29 kp m s = kp (mLay s2 26 (nI v')) := by
          have nq : (nI (100 + 47) : Int32) = (147 : Int32) := rfl
          simp only [p_X3_product_J29, qg, e18, obS, p2, pcV, if_pos nq, if_neg (show ¬ (1 : Int32) = 0 by decide), k2, e20, if_true, if_neg nz, q2, j7]
        rw [e1, e2]
        exact this.after j4
    · obtain ⟨R', i1, i2⟩ := must_0 p3
      have w3n : ¬ w1 = g 3 := fun q => k2 (m3.mp q)
      have e1 : f_X0_product_J23 g kf (hX A) o (hMem A R S) = some (.inr R.2.1, hMem A R' S1) := by
        have nq : (nI 47 : Int32) = (47 : Int32) := rfl
        simp only [f_X0_product_J23, xgI_12 h.1, n12, hvI_int, obS, hx_chk h.1, sCallV, p1, hcV, evc, nI_char 47 (by omega), if_pos nq, xgN_9 h.1, m9, hvN_ref, if_neg w3n, i1, hcX]
      have e2 : p_X3_product_J29 kp m s = some (some (.int 0), mSet (mSet s1 21 1) 22 (s1.1 19)) := by
        have nq : (nI (100 + 47) : Int32) = (147 : Int32) := rfl
        simp only [p_X3_product_J29, qg, e18, obS, p2, pcV, if_pos nq, if_neg (show ¬ (1 : Int32) = 0 by decide), if_neg k2, bad_m, pcI, bool0]
      rw [e1, e2]
      exact Or.inr (i2.stp p4)
