/-! the end of a line: both sides -/
set_option maxRecDepth 100000
def mR4 (s : mSt) (p : Nat) (x : Int32) : mSt := mRowSet s 4 (upd (s.2 4) p x)
theorem mR4_1 (s : mSt) (p : Nat) (x : Int32) : (mR4 s p x).1 = s.1 := rfl
theorem mR4_ne (s : mSt) (p : Nat) (x : Int32) {j : Nat} (hj : j ≠ 4) : (mR4 s p x).2 j = s.2 j := mrs_ne _ _ hj
theorem mR4_at (s : mSt) (p : Nat) (x : Int32) : (mR4 s p x).2 4 = upd (s.2 4) p x := mrs_same _ _ _
theorem mR4_st (s : mSt) {p : Nat} (hp : p < 64) (x : Int32) : qAst s 4 (nI p) x = some (mR4 s p x) := qst_4 s hp x
theorem PS.r4 {A : hA} {R : sMem} {S : hS} {s : mSt} {g : Nat → Nat} {rd n : Nat} {u : Nat → Int32} (h : PS A R S s g rd n u) (p : Nat) (x : Int32) : PS A R S (mR4 s p x) g rd n u := h.ex (fun _ _ q => q) h.2.1 (mR4_ne s p x (by omega)) (fun _ _ => rfl)
theorem MF.r4 {s0 s : mSt} (h : MF s0 s) (p : Nat) (x : Int32) : MF s0 (mR4 s p x) := ⟨fun j h4 h5 h6 => (mR4_ne s p x h4).trans (h.1 j h4 h5 h6), h.2⟩
theorem row6 : mRow 6 = some 4 := by decide
theorem tail_both {A : hA} {R0 R : sMem} {S0 S : hS} {s0 s : mSt} {g : Nat → Nat} {n : Nat} {u : Nat → Int32} (m : Nat) {v1 wa oa na t c k : Nat} {wf : Nat → Int32} {of nf : Nat → Option Nat} {k8 : sMem → Option (sRes × sMem)} (h0 : PS A R0 S0 s0 g 1 n u) (h : PS A R S s g 1 n u) (h14 : s.1 14 = nI (stN s)) (lc : LC A R0 R v1 wa oa na t wf of nf) (hx : hEx c k R0 R) (hc : c ≤ 9000) (hk : k ≤ 36000) (hS : SF S0 S) (hM : MF s0 s) (h13 : s.1 13 = nI t) (ht : t < 16) : (∃ R' S' s', f_X0_readsLaw_J104 g k8 (hX A) v1 (hMem A R S) = k8 (hMem A R' S') ∧ p_X3_aLine_J123 m s = some (some (.int 1), s') ∧ PS A R' S' s' g 1 n u ∧ LC A R0 R' v1 wa oa na (t + 1) wf of nf ∧ hEx c k R0 R' ∧ SF S S' ∧ S'.1 13 = S.1 13 ∧ tAt s ≤ tAt s' ∧ stN s' = stN s ∧ s'.1 14 = nI (stN s') ∧ s'.2 = (mR4 s (4 * t + 2) (s.1 14)).2 ∧ s'.1 13 = nI t ∧ MF s s' ∧ tmE R R') ∨ FIN A R0 S0 s0 (f_X0_readsLaw_J104 g k8 (hX A) v1 (hMem A R S)) (p_X3_aLine_J123 m s) := by
  obtain ⟨l1, l2, l3, l4, l5, l6, l7, l8, l9, l10, l11, l12, l13, l14, l15⟩ := lc
  have g59 := h.sign (c := 59) (by omega)
  have n59 : (nI 59 : Int32) = 59 := rfl
  have n159 : (nI (100 + 59) : Int32) = 159 := rfl
  rw [n59, n159] at g59
  have e4 : (4 : Int32) * nI t + 2 = nI (4 * t + 2) := by
    show nI 4 * nI t + nI 2 = _
    rw [pk_mul, nI_add]
  have hr := h.r4 (4 * t + 2) (s.1 14)
  have st := mR4_st s (p := 4 * t + 2) (by omega) (s.1 14)
  by_cases c1 : s.1 18 = 159
  · obtain ⟨S1, s1, p1, p2, p3, p4, p5, p6, p7, p8⟩ := hr.step m h14
    have m1 : f_X0_must (hX A) (b01 true) (hMem A R S) = some (.inl none, hMem A R S) := must_1 _ (R := R) (S := S) rfl b01_1
    have gm : sGetI (hMem A R S1) 1 3 v1 = some (nI t) := hR_I h.2.1 S1 l1 rfl
    have pm : sPut (hMem A R S1) 1 3 v1 (.int (nI (t + 1))) = some (hMem A (sUp R v1 (sObj 1 [.ref wa, .ref oa, .ref na, .int (nI (t + 1))])) S1) := hR_put h.2.1 S1 l1 (by omega) (k := 3) (by simp) (.int (nI (t + 1)))
    have e1 : nI t + 1 = nI (t + 1) := (nI_succ t).symm
    have hc1 := h.2.1.up (e := sObj 1 [.ref wa, .ref oa, .ref na, .int (nI (t + 1))]) l1
    have x1 := hEx.up h0.2.1 hx (a := v1) l5 (sObj 1 [.ref wa, .ref oa, .ref na, .int (nI (t + 1))])
    left
    refine ⟨_, S1, s1, ?_, ?_, h0.over p3 x1.1 hc1 (hS.trans p4.2.1), ⟨sUp_at _ _ _, (sUp_ne R _ (by omega)).trans l2, (sUp_ne R _ (by omega)).trans l3, (sUp_ne R _ (by omega)).trans l4, l5, l6, l7, l8, l9, l10, l11, l12, l13, l14, l15⟩, x1, p4.2.1, p4.2.2.1, p4.2.2.2.2.2.2.2.2.1, p6, p7, p5, (p4.2.2.2.2.2.1 13 (by omega)).trans h13, ?_, tmE.up l1 (fun ci fs h1 h2 q => by simp [sObj] at q; omega)⟩
    · simp only [f_X0_readsLaw_J104, hx_chk h.1, f_X0_takesSign, g59, sCallI, hcI, decide_eq_true c1, sCallV, m1, hcV, p1, gm, obS, e1, pm]
    · have c1' : (mR4 s (4 * t + 2) (s.1 14)).1 18 = 159 := c1
      simp only [p_X3_aLine_J123, row6, qg, obS, h13, e4, st, p_X3_need, c1', if_true, p2, pcV, pcI, bool1]
    · have := p4.2.2.2.mf
      exact ⟨fun j a4 a5 a6 => (this.1 j a4 a5 a6).trans (mR4_ne s _ _ a4), this.2⟩
  · right
    obtain ⟨R', i1, i2⟩ := must_0 hr
    have e1 : f_X0_readsLaw_J104 g k8 (hX A) v1 (hMem A R S) = some (.inr R.2.1, hMem A R' S) := by
      simp only [f_X0_readsLaw_J104, hx_chk h.1, f_X0_takesSign, g59, sCallI, hcI, decide_eq_false c1, b01_z, sCallV, i1, hcX]
    have e2 : p_X3_aLine_J123 m s = some (some (.int 0), mSet (mSet (mR4 s (4 * t + 2) (s.1 14)) 21 1) 22 ((mR4 s (4 * t + 2) (s.1 14)).1 19)) := by
      have c1' : ¬ (mR4 s (4 * t + 2) (s.1 14)).1 18 = 159 := c1
      simp only [p_X3_aLine_J123, row6, qg, obS, h13, e4, st, p_X3_need, if_neg c1', bad_m, pcI, bool0]
    rw [e1, e2]
    exact i2.fin hx hc hk hS (hM.r4 _ _)
