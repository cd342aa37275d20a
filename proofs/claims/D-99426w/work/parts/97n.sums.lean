/-! units: both sides -/
set_option maxRecDepth 100000
def STP (R : sMem) (S : hS) (s : mSt) (R1 : sMem) (S1 : hS) (s1 : mSt) : Prop := hEx (tAt s1 - tAt s) (8 * (tAt s1 - tAt s)) R R1 ∧ SF S S1 ∧ S1.1 13 = S.1 13 ∧ TF s s1
theorem STP.trans {R R1 R2 : sMem} {S S1 S2 : hS} {s s1 s2 : mSt} (h : STP R S s R1 S1 s1) (h' : STP R1 S1 s1 R2 S2 s2) : STP R S s R2 S2 s2 := by
  obtain ⟨a1, a2, a3, a4⟩ := h
  obtain ⟨b1, b2, b3, b4⟩ := h'
  have := a4.2.2.2.2.2.1
  have := b4.2.2.2.2.2.1
  exact ⟨(a1.trans b1).le (by omega) (by omega), a2.trans b2, b3.trans a3, a4.trans b4⟩
def RES (A : hA) (R : sMem) (S : hS) (s : mSt) (g : Nat → Nat) (n : Nat) (u : Nat → Int32) (tr : sMem → mSt → Nat → Nat → Nat → Prop) (a0 : Nat) (f : Option (sRes × sMem)) (p : Option (Option Value × mSt)) : Prop := (∃ o R' S' s', f = some (.inl (some (.ref o)), hMem A R' S') ∧ p = some (some (.int 1), s') ∧ PS A R' S' s' g 1 n u ∧ STP R S s R' S' s' ∧ tr R' s' o a0 (stN s')) ∨ FAIL A R S s f p
theorem FAIL.stp {A : hA} {R R1 : sMem} {S S1 : hS} {s s1 : mSt} {f : Option (sRes × sMem)} {p : Option (Option Value × mSt)} (h : FAIL A R1 S1 s1 f p) (hs : STP R S s R1 S1 s1) : FAIL A R S s f p := h.after hs.2.2.2.2.2.2.2.2.1 hs.1 hs.2.1 hs.2.2.2.mf
theorem RES.after {A : hA} {R R1 : sMem} {S S1 : hS} {s s1 : mSt} {g : Nat → Nat} {n a0 : Nat} {u : Nat → Int32} {tr : sMem → mSt → Nat → Nat → Nat → Prop} {f : Option (sRes × sMem)} {p : Option (Option Value × mSt)} (h : RES A R1 S1 s1 g n u tr a0 f p) (hs : STP R S s R1 S1 s1) : RES A R S s g n u tr a0 f p := by
  rcases h with ⟨o, R', S', s', h1, h2, h3, h4, h5⟩ | h
  · exact Or.inl ⟨o, R', S', s', h1, h2, h3, hs.trans h4, h5⟩
  · exact Or.inr (h.stp hs)
theorem SF.of {S S' : hS} (h2 : S'.2 = S.2) (hq : ∀ q, q < 9 ∨ 12 < q → S'.1 q = S.1 q) : SF S S' := ⟨h2, fun q h => hq q (by omega)⟩
/-- the next token, as a step -/
theorem PS.step {A : hA} {R : sMem} {S : hS} {s : mSt} {g : Nat → Nat} {rd n : Nat} {u : Nat → Int32} (m : Nat) (h : PS A R S s g rd n u) (h14 : s.1 14 = nI (stN s)) : ∃ S' s', f_X0_readNext g (hX A) (hMem A R S) = some (.inl none, hMem A R S') ∧ p_X3_next0 m s = some (none, s') ∧ PS A R S' s' g rd n u ∧ STP R S s R S' s' ∧ s'.2 = s.2 ∧ stN s' = stN s ∧ s'.1 14 = nI (stN s') ∧ (s.1 18 ≠ 0 → tAt s + 1 ≤ tAt s') := by
  obtain ⟨S', s', h1, h2, h3, h4, h5, h6, h7, h8, h9⟩ := h.next m
  have tf := TF.next h14 h6 h7 h8
  exact ⟨S', s', h1, h2, h3, ⟨(hEx.refl R).le (by omega) (by omega), SF.of h4 h5, h5 _ (by omega), tf⟩, h6, congrArg cv (h7 14 (by omega)), tf.2.2.2.1, h9⟩
theorem PS.tok {A : hA} {R : sMem} {S : hS} {s : mSt} {g : Nat → Nat} {rd n : Nat} {u : Nat → Int32} (h : PS A R S s g rd n u) : ∃ t, t < 300 ∧ s.1 18 = nI t := by
  obtain ⟨a1, a2, a3, a4, a5, a6, a7, a8, a9, a10, fr, e, vc, c1, c2, c3, c4, c5, c6, c7, c8, c9⟩ := h
  rcases c9 with ⟨t0, -⟩ | ⟨-, t1 | ⟨j, hj, sp, t2⟩ | ⟨v, -, t3, -⟩ | ⟨c', hc', hs, t4, hv⟩⟩
  · exact ⟨0, by omega, t0⟩
  · exact ⟨1, by omega, t1⟩
  · have := cd_in rd a6 j hj
    exact ⟨cdN j, by omega, t2⟩
  · exact ⟨2, by omega, t3⟩
  · exact ⟨100 + c', by omega, t4⟩
theorem PS.over {A : hA} {R R2 R3 : sMem} {S S2 : hS} {s s2 : mSt} {g : Nat → Nat} {rd n : Nat} {u : Nat → Int32} (h : PS A R S s g rd n u) (h2 : PS A R2 S2 s2 g rd n u) (hR : sub2 R R3) (hc : hCl A R3) (hS : SF S S2) : PS A R3 S2 s2 g rd n u := by
  obtain ⟨a1, a2, a3, a4, a5, a6, a7, -⟩ := h
  obtain ⟨-, -, -, -, -, -, -, b8, b9, b10, b11⟩ := h2
  exact ⟨a1, hc, a3.ex hR, a4, a5, a6, wR_ex hR (fun q hq => hS.2 q (by omega)) a7, b8, b9, b10, b11⟩
/-- a number, its token read -/
theorem unit_num {A : hA} {R : sMem} {S : hS} {s : mSt} {g : Nat → Nat} {n : Nat} {u : Nat → Int32} (m : Nat) (h : PS A R S s g 1 n u) (h14 : s.1 14 = nI (stN s)) (h18 : s.1 18 = 2) : ∃ v o R' S' s', v ≤ 9999 ∧ s.1 20 = nI v ∧ f_X0_unit g (hX A) (hMem A R S) = some (.inl (some (.ref o)), hMem A R' S') ∧ p_X3_next0 m s = some (none, s') ∧ PS A R' S' s' g 1 n u ∧ STP R S s R' S' s' ∧ s'.2 = s.2 ∧ stN s' = stN s ∧ s'.1 14 = nI (stN s') ∧ R'.2.2.2 o = some (sObj 6 [.int (nI v)]) ∧ tAt s + 1 ≤ tAt s' := by
  obtain ⟨w, vc, n9, n12, n11, w3, w0, wv, -⟩ := h.num
  have n12 := n12 (kd_2 h18)
  obtain ⟨v, hv, ev, e20⟩ := wv h18
  obtain ⟨S', s', h1, h2, h3, h4, h5, h6, h7, h8⟩ := h.step m h14
  have t1 : tAt s + 1 ≤ tAt s' := h8 (by rw [h18]; decide)
  obtain ⟨R', k1, k2, k3, k4⟩ := new_num h3.1 h3.2.1 S' (nI v)
  refine ⟨v, R.2.1, R', S', s', hv, e20, ?_, h2, h3.ex k3.1 k4 rfl (fun _ _ => rfl), ⟨?_, h4.2.1, h4.2.2.1, h4.2.2.2⟩, h5, h6, h7, k2, t1⟩
  · simp only [f_X0_unit, xgN_9 h.1, n9, hvN_ref, obS, if_pos (w3.mpr h18), xgI_12 h.1, n12, hvI_int, hx_chk h.1, sCallV, h1, hcV, ev]
    exact k1
  · exact k3.le (by omega) (by omega)
theorem inB_41 (t : Nat) (h : t < 300) : inB (nI t) 41 50 = (decide (41 ≤ t) && decide (t ≤ 50)) := by
  have : ∀ t, t < 300 → inB (nI t) 41 50 = (decide (41 ≤ t) && decide (t ≤ 50)) := by decide +kernel
  exact this t h
theorem unit_both {A : hA} {R : sMem} {S : hS} {s : mSt} {g : Nat → Nat} {n : Nat} {u : Nat → Int32} (m : Nat) (h : PS A R S s g 1 n u) (h14 : s.1 14 = nI (stN s)) (hst : stN s ≤ tAt s) : RES A R S s g n u trA (stN s) (f_X0_unit g (hX A) (hMem A R S)) (p_X3_unit m s) := by
  obtain ⟨t, ht, et⟩ := h.tok
  obtain ⟨w, vc, n9, n12, n11, w3, w0, wv, -⟩ := h.num
  have hf := h.fr
  by_cases h2 : t = 2
  · subst h2
    have lm := lay_m m 0 (s.1 20) h14 (by omega)
    have hl := h.lay 0 (s.1 20)
    have sn := mLay_n s 0 (s.1 20) (by omega)
    have tl := mLay_t s 0 (s.1 20)
    obtain ⟨v, o, R', S', s', hv, e20, h3, h4, h5, h6, h7, h8, h9, h10, h11⟩ := unit_num m hl (by rw [mLay_14, sn]) ((mLay_1 _ _ _ (by omega)).trans et)
    rw [mLay_1 _ _ _ (by omega)] at e20
    refine Or.inl ⟨o, R', S', s', h3, ?_, h5, ⟨?_, h6.2.1, h6.2.2.1, ?_⟩, ?_⟩
    · have i1 : inB (2 : Int32) 41 50 = false := by decide
      have e18 : s.1 18 = 2 := et
      simp only [p_X3_unit, p_X3_unit_J30, p_X3_unit_J46, qg, e18, obS, px_isIn, i1, b01_z, pcI, if_true, lm, pcV, h4]
    · have := h6.1
      rw [tl] at this
      exact this
    · have hq := h6.2.2.2
      obtain ⟨a1, a2, a3, a4, a5, a6, a7⟩ := hq
      rw [tl] at a6 a7 h11
      rw [sn] at a7 a2
      refine ⟨fun j hj => (a1 j hj).trans (mLay_2 s _ _ hj), fun p hp => (a2 p (by omega)).trans (mLay_lo s _ _ hp), fun q hq => (a3 q hq).trans (mLay_1 s _ _ (by omega)), a4, by omega, a6, by omega⟩
    · show hTrA R' (stp s') (stN s' - stN s) o (stN s) (stN s')
      rw [h8, sn, Nat.add_sub_cancel_left]
      have st : stp s' = stp (mLay s 0 (s.1 20)) := by
        unfold stp
        rw [h7]
      rw [st]
      refine Or.inl ⟨nI v, h10, rfl, mLay_k s _ _, ?_⟩
      rw [mLay_v, e20]
  · have t2 : s.1 18 ≠ 2 := fun q => h2 ((nI_eq (a := t) (b := 2) (by omega) (by omega)).mp (et.symm.trans q))
    have w3' : ¬ w = g 3 := fun q => t2 (w3.mp q)
    obtain ⟨q, e7, hq⟩ := h.asked
    rcases hq with ⟨i, hi, ei, hw⟩ | ⟨hno, hw⟩
    · have e18 : s.1 18 = nI (41 + i) := ei
      have nn : ¬ nI i = -1 := nI_m1 i (by omega)
      have m1 : f_X0_must (hX A) 1 (hMem A R S) = some (.inl none, hMem A R S) := must_1 _ (R := R) (S := S) rfl (by decide)
      have lm := lay_m m (nI (i + 1)) (s.1 20) h14 (by omega)
      have hl := h.lay (nI (i + 1)) (s.1 20)
      have sn := mLay_n s (nI (i + 1)) (s.1 20) (by omega)
      have tl := mLay_t s (nI (i + 1)) (s.1 20)
      obtain ⟨S', s', h1, h2', h3, h4, h5, h6, h7, h8⟩ := hl.step m (by rw [mLay_14, sn])
      have t1 : tAt s + 1 ≤ tAt s' := by
        rw [← tl]
        refine h8 ?_
        rw [mLay_1 _ _ _ (by omega), e18]
        exact fun q => absurd ((nI_eq (a := 41 + i) (b := 0) (by omega) (by omega)).mp q) (by omega)
      obtain ⟨R', k1, k2, k3, k4⟩ := new_word h3.1 h3.2.1 S' (nI i)
      have e40 : nI (41 + i) - 40 = nI (i + 1) := by
        show nI (41 + i) - nI 40 = _
        rw [nI_mn (by omega)]
        congr 1
        omega
      have i1 : inB (nI (41 + i)) 41 50 = true := by
        rw [inB_41 _ (by omega)]
        simp
        omega
      have n2 : ¬ nI (41 + i) = 2 := fun q => absurd ((nI_eq (a := 41 + i) (b := 2) (by omega) (by omega)).mp q) (by omega)
      refine Or.inl ⟨R.2.1, R', S', s', ?_, ?_, h3.ex k3.1 k4 rfl (fun _ _ => rfl), ⟨k3.le (by omega) (by omega), h4.2.1, h4.2.2.1, ?_⟩, ?_⟩
      · simp only [f_X0_unit, xgN_9 h.1, n9, hvN_ref, obS, if_neg w3', xgN_7 h.1, e7, hx_chk h.1, hw, sCallI, hcI, if_neg nn, sCallV, m1, hcV, h1]
        exact k1
      · simp only [p_X3_unit, p_X3_unit_J30, p_X3_unit_J46, qg, e18, obS, px_isIn, i1, pcI, if_neg b01_1, if_neg n2, e40, lm, pcV, h2']
      · obtain ⟨a1, a2, a3, a4, a5, a6, a7⟩ := h4.2.2.2
        rw [tl] at a6 a7
        rw [sn] at a7 a2
        refine ⟨fun j hj => (a1 j hj).trans (mLay_2 s _ _ hj), fun p hp => (a2 p (by omega)).trans (mLay_lo s _ _ hp), fun q hq => (a3 q hq).trans (mLay_1 s _ _ (by omega)), a4, by omega, a6, by omega⟩
      · show hTrA R' (stp s') (stN s' - stN s) R.2.1 (stN s) (stN s')
        rw [h6, sn, Nat.add_sub_cancel_left]
        have st : stp s' = stp (mLay s (nI (i + 1)) (s.1 20)) := by
          unfold stp
          rw [h5]
        rw [st]
        exact Or.inr (Or.inl ⟨i, hi, k2, rfl, mLay_k s _ _⟩)
    · obtain ⟨R', k1, k2⟩ := must_0 h
      right
      have i1 : inB (nI t) 41 50 = false := by
        rw [inB_41 t ht]
        by_cases c : 41 ≤ t ∧ t ≤ 50
        · exact absurd (by rw [et]; congr 1; omega) (hno (t - 41) (by omega))
        · simp
          omega
      have e1 : f_X0_unit g (hX A) (hMem A R S) = some (.inr R.2.1, hMem A R' S) := by
        simp only [f_X0_unit, xgN_9 h.1, n9, hvN_ref, obS, if_neg w3', xgN_7 h.1, e7, hx_chk h.1, hw, sCallI, hcI, if_true, sCallV, k1, hcX]
      have n2 : ¬ nI t = 2 := fun q => t2 (et.trans q)
      have e2 : p_X3_unit m s = some (some (.int 0), mSet (mSet s 21 1) 22 (s.1 19)) := by
        simp only [p_X3_unit, qg, et, obS, px_isIn, i1, b01_z, pcI, if_neg n2, if_true, bad_m, bool0]
      rw [e1, e2]
      exact k2
