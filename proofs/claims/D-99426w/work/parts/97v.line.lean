/-! one line of the law: both sides -/
set_option maxRecDepth 100000
def LSt (A : hA) (R0 : sMem) (S0 : hS) (s0 : mSt) (R : sMem) (S : hS) (s : mSt) (g : Nat → Nat) (n : Nat) (u : Nat → Int32) (v1 wa oa na t : Nat) (wf : Nat → Int32) (of nf : Nat → Option Nat) : Prop := PS A R S s g 1 n u ∧ s.1 14 = nI (stN s) ∧ stN s ≤ tAt s ∧ S.1 13 = .int (nI 0) ∧ LI R s t wf of nf ∧ LC A R0 R v1 wa oa na t wf of nf ∧ hEx (10 + tAt s) (100 + 8 * tAt s) R0 R ∧ SF S0 S ∧ MF s0 s
/-- the line that was read, beside those before it -/
theorem line_end {R R6 R' : sMem} {s s5 s' : mSt} {t a b c k o : Nat} {wf wf' : Nat → Int32} {of of' nf nf' : Nat → Option Nat} (h : LI R s t wf of nf) (ht : t < 16) (hR : tmE R R6) (hR' : tmE R6 R') (f1 : s5.2 4 = upd (upd (upd (s.2 4) (4 * t + 3) (nI (20 + k))) (4 * t) (nI a)) (4 * t + 1) (nI b)) (f2 : ∀ p, p < 2 * stN s → s5.2 5 p = s.2 5 p) (hk : k < 3) (ha : a = stN s) (hab : a < b) (hbc : b ≤ c) (hc : c = stN s5) (h14 : s5.1 14 = nI (stN s5)) (e2 : s'.2 = (mR4 s5 (4 * t + 2) (s5.1 14)).2) (en : stN s' = stN s5) (w0 : ∀ l, l < t → wf' l = wf l ∧ of' l = of l ∧ nf' l = nf l) (w1 : wf' t = nI k) (w2 : of' t = some o) (w3 : ∀ l, t < l → nf' l = none) (tA : hTrA R6 (stp s5) (b - a) o a b) (tB : (nf' t = none ∧ c = b) ∨ ∃ o', nf' t = some o' ∧ hTrB R6 (stp s5) (c - b) o' b c) : LI R' (mSet s' 13 (nI (t + 1))) (t + 1) wf' of' nf' := by
  obtain ⟨a1, a2, a3, a4⟩ := h
  have e5 : stp (mSet s' 13 (nI (t + 1))) = stp s5 := by
    unfold stp
    funext p
    show s'.2 5 (p - 1535) = _
    rw [e2, mR4_ne _ _ _ (by omega)]
  have eN : stN (mSet s' 13 (nI (t + 1))) = stN s5 := (congrArg cv (ms_ne s' _ (by omega))).trans en
  have r4 : (mSet s' 13 (nI (t + 1))).2 4 = upd (s5.2 4) (4 * t + 2) (nI c) := by
    show s'.2 4 = _
    rw [e2, mR4_at, h14, hc]
  refine ⟨ms_same _ _ _, by omega, fun l hl => w3 l (by omega), fun l hl => ?_⟩
  by_cases c1 : l = t
  · subst c1
    refine ⟨⟨k, hk, w1, ?_⟩, a, b, c, ?_, ?_, ?_, hab, hbc, by rw [eN]; omega, ⟨o, w2, ?_⟩, ?_⟩
    · rw [r4, upd_ne _ _ (by omega), f1, upd_ne _ _ (by omega), upd_ne _ _ (by omega), upd_same]
    · rw [r4, upd_ne _ _ (by omega), f1, upd_ne _ _ (by omega), upd_same]
    · rw [r4, upd_ne _ _ (by omega), f1, upd_same]
    · rw [r4, upd_same]
    · rw [e5]
      exact hTrA_tm hR' _ _ _ _ (fun _ _ _ => rfl) tA
    · rcases tB with q | ⟨o', q1, q2⟩
      · exact Or.inl q
      · exact Or.inr ⟨o', q1, by rw [e5]; exact hTrB_tm hR' _ _ _ _ (fun _ _ _ => rfl) q2⟩
  · obtain ⟨⟨k', k1, k2, k3⟩, a', b', c', b1, b2, b3, b4, b5, b6, ⟨o', o1, o2⟩, b7⟩ := a4 l (by omega)
    obtain ⟨x1, x2, x3⟩ := w0 l (by omega)
    have row : ∀ p, p < 4 * t → (mSet s' 13 (nI (t + 1))).2 4 p = s.2 4 p := fun p hp => by
      rw [r4, upd_ne _ _ (by omega), f1, upd_ne _ _ (by omega), upd_ne _ _ (by omega), upd_ne _ _ (by omega)]
    have st : ∀ p, 1535 ≤ p → p < 1535 + 2 * stN s → stp (mSet s' 13 (nI (t + 1))) p = stp s p := fun p h1 h2 => by
      rw [e5]
      exact f2 (p - 1535) (by omega)
    refine ⟨⟨k', k1, x1.trans k2, (row _ (by omega)).trans k3⟩, a', b', c', (row _ (by omega)).trans b1, (row _ (by omega)).trans b2, (row _ (by omega)).trans b3, b4, b5, by rw [eN]; omega, ⟨o', x2.trans o1, hTrA_tm (hR.trans hR') _ _ _ _ (fun p q1 q2 => st p (by omega) (by omega)) o2⟩, ?_⟩
    rcases b7 with ⟨q1, q2⟩ | ⟨o'', q1, q2⟩
    · exact Or.inl ⟨x3.trans q1, q2⟩
    · exact Or.inr ⟨o'', x3.trans q1, hTrB_tm (hR.trans hR') _ _ _ _ (fun p q1 q2 => st p (by omega) (by omega)) q2⟩
theorem inB_20w (t : Nat) (h : t < 300) : inB (nI t) 20 22 = (decide (20 ≤ t) && decide (t ≤ 22)) := by
  have : ∀ t, t < 300 → inB (nI t) 20 22 = (decide (20 ≤ t) && decide (t ≤ 22)) := by decide +kernel
  exact this t h
theorem line_both {A : hA} {R0 R : sMem} {S0 S : hS} {s0 s : mSt} {g : Nat → Nat} {n : Nat} {u : Nat → Int32} (m : Nat) {v1 wa oa na t : Nat} {wf : Nat → Int32} {of nf : Nat → Option Nat} (h0 : PS A R0 S0 s0 g 1 n u) (hs : LSt A R0 S0 s0 R S s g n u v1 wa oa na t wf of nf) (s0' : s.1 18 ≠ 0) (fu : Nat) : (∃ R' S' s' wf' of' nf', f_X0_readsLaw_L8 g (hX A) v1 (fu + 1) (hMem A R S) = f_X0_readsLaw_L8 g (hX A) v1 fu (hMem A R' S') ∧ p_X3_aLine m s = some (some (.int 1), s') ∧ s'.1 13 = nI t ∧ LSt A R0 S0 s0 R' S' (mSet s' 13 (nI (t + 1))) g n u v1 wa oa na (t + 1) wf' of' nf' ∧ tAt s + 1 ≤ tAt s') ∨ FIN A R0 S0 s0 (f_X0_readsLaw_L8 g (hX A) v1 (fu + 1) (hMem A R S)) (p_X3_aLine m s) := by
  obtain ⟨h, h14, hst, ho, li, lc, hx, hS, hM⟩ := hs
  have lc' := lc
  obtain ⟨l1, l2, l3, l4, l5, l6, l7, l8, l9, l10, l11, l12, l13, l14, l15⟩ := lc'
  have l13' := li.1
  have ht16 := li.2.1
  obtain ⟨tk, htk, etk⟩ := h.tok
  obtain ⟨w, vc, n9, n12, n11, w3, w0, wv, -⟩ := h.num
  have w0' : ¬ w = g 0 := fun q => s0' (w0.mp q)
  obtain ⟨q6, e6, hq⟩ := h.says
  have hf := h.fr
  rcases hq with ⟨k, hk, ek, hw⟩ | ⟨hno, hw⟩
  · have nn : ¬ nI k = -1 := nI_m1 k (by omega)
    have m1 : f_X0_must (hX A) 1 (hMem A R S) = some (.inl none, hMem A R S) := must_1 _ (R := R) (S := S) rfl (by decide)
    have i1 : inB (nI (20 + k)) 20 22 = true := by
      rw [inB_20w _ (by omega)]
      simp
      omega
    have gm : sGetI (hMem A R S) 1 3 v1 = some (nI t) := hR_I h.2.1 S l1 rfl
    by_cases c16 : t = 16
    · right
      subst c16
      obtain ⟨R', j1, j2, j3⟩ := FAIL.here h 3
      have n16 : (nI 16 : Int32) = 16 := rfl
      have nOf : ∀ K, sNewO (hMem A R S) 4 [.null, .null, .null, .null, .null, .int 0, .int 0, .int 0] 8 K = K R.2.1 (hMem A (sNew R (sObj 4 [.null, .null, .null, .null, .null, .int 0, .int 0, .int 0]) 8) S) := fun K => hNewO h.2.1 S 4 _ 8 K
      have e1 : f_X0_readsLaw_L8 g (hX A) v1 (fu + 1) (hMem A R S) = some (.inr R.2.1, hMem A R' S) := by
        simp only [f_X0_readsLaw_L8, xgN_9 h.1, n9, hvN_ref, obS, if_neg w0', xgN_6 h.1, e6, hx_chk h.1, hw, sCallI, hcI, if_neg nn, sCallV, m1, hcV, gm, f_X0_isRoom, if_pos n16, nOf, xgI_11 h.1, n11, hvI_int, j1, j2, hcX]
      have e2 : p_X3_aLine m s = some (some (.int 0), mSet (mSet s 21 3) 22 (s.1 19)) := by
        simp only [p_X3_aLine, qg, ek, obS, px_isIn, i1, pcI, if_neg b01_1, l13', if_pos n16, bad_m, bool0]
      rw [e1, e2]
      exact j3.fin hx (by omega) (by omega) hS hM
    · have t16 : t < 16 := by omega
      have n16 : ¬ nI t = 16 := fun q => c16 ((nI_eq (a := t) (b := 16) (by omega) (by omega)).mp q)
      have e43 : nI (4 * t) + 3 = nI (4 * t + 3) := nI_add (4 * t) 3
      have e40 : (4 : Int32) * nI t = nI (4 * t) := pk_mul 4 t
      have e41 : nI (4 * t) + 1 = nI (4 * t + 1) := nI_add (4 * t) 1
      have rm : f_X0_isRoom (hX A) (nI t) 16 (hMem A R S) = some (.inl none, hMem A R S) := by
        unfold f_X0_isRoom
        rw [if_neg n16]
      generalize hsb : mR4 (mSet s 24 0) (4 * t + 3) (s.1 18) = sb
      have hb : PS A R S sb g 1 n u := by
        rw [← hsb]
        exact (h.ex (s' := mSet s 24 0) (fun _ _ q => q) h.2.1 rfl (fun q hq => ms_ne _ _ (by omega))).r4 _ _
      have b_1 : ∀ q, q ≠ 24 → sb.1 q = s.1 q := fun q hq => by rw [← hsb]; exact ms_ne s 0 hq
      have b_24 : sb.1 24 = nI 0 := by rw [← hsb]; exact ms_same s 24 0
      have b_4 : sb.2 4 = upd (s.2 4) (4 * t + 3) (nI (20 + k)) := by rw [← hsb, mR4_at, ek]; rfl
      have b_5 : sb.2 5 = s.2 5 := by rw [← hsb, mR4_ne _ _ _ (by omega)]; rfl
      have b_M : MF s0 sb := by
        rw [← hsb]
        exact MF.r4 (s := mSet s 24 0) ⟨hM.1, fun q hq => (ms_ne s 0 (by omega)).trans (hM.2 q hq)⟩ _ _
      have b_n : stN sb = stN s := congrArg cv (b_1 14 (by omega))
      have b_t : tAt sb = tAt s := congrArg cv (b_1 19 (by omega))
      obtain ⟨S1, s1, p1, p2, p3, p4, p5, p6, p7, p8⟩ := hb.step m (by rw [b_1 14 (by omega), b_n]; exact h14)
      have t1 := p8 (by rw [b_1 18 (by omega)]; exact s0')
      rw [b_t] at t1
      rw [b_n] at p6
      have x_1 : ∀ q, (q < 14 ∨ q = 15 ∨ q = 16 ∨ 22 < q) → s1.1 q = sb.1 q := p4.2.2.2.2.2.1
      have hc1 := h.2.1.up (e := sArr 0 16 (upd wf t (nI k))) l2
      have x1 := hEx.up h0.2.1 hx (a := wa) l6 (sArr 0 16 (upd wf t (nI k)))
      have pw : sXst (hMem A R S1) 0 wa (nI t) (nI k) = some (hMem A (sUp R wa (sArr 0 16 (upd wf t (nI k)))) S1) := hR_st h.1 h.2.1 S1 l2 (by omega) t16 (by omega) (nI k)
      have lc1 : LC A R0 (sUp R wa (sArr 0 16 (upd wf t (nI k)))) v1 wa oa na t (upd wf t (nI k)) of nf := ⟨(sUp_ne R _ (by omega)).trans l1, sUp_at _ _ _, (sUp_ne R _ (by omega)).trans l3, (sUp_ne R _ (by omega)).trans l4, l5, l6, l7, l8, l9, l10, l11, l12, l13, l14, l15⟩
      have tm1 : tmE R (sUp R wa (sArr 0 16 (upd wf t (nI k)))) := tmE.up l2 (fun ci fs h1 h2 q => by simp [sObj, sArr] at q)
      generalize sUp R wa (sArr 0 16 (upd wf t (nI k))) = R1 at *
      have sf1 : SF S0 S1 := hS.trans p4.2.1
      have h1 : PS A R1 S1 s1 g 1 n u := h0.over p3 x1.1 hc1 sf1
      have hc := h1.r4 (4 * t) (s1.1 14)
      have mf1 : MF s0 s1 := b_M.trans p4.2.2.2.mf
      have s1_13 : s1.1 13 = nI t := (x_1 13 (by omega)).trans ((b_1 13 (by omega)).trans l13')
      have gn : sGetN (hMem A R S1) 1 0 v1 = some wa := hR_N h.2.1 S1 l1 rfl
      have go : sGetN (hMem A R1 S1) 1 1 v1 = some oa := hR_N h1.2.1 S1 lc1.1 rfl
      have gm1 : sGetI (hMem A R S1) 1 3 v1 = some (nI t) := hR_I h.2.1 S1 l1 rfl
      have gm2 : sGetI (hMem A R1 S1) 1 3 v1 = some (nI t) := hR_I h1.2.1 S1 lc1.1 rfl
      have K1 : ∀ (r : Option (sRes × sMem)), (sCallN (f_X0_sum g (hX A) (hMem A R1 S1)) fun r18 M17 => (sAst M17 oa (nI t) r18).bind fun M19 => sChk M19 0 (hX A) (sCallI (f_X0_isWord g (hX A) (g (10 + 1)) M19) fun x21 M20 => if x21 = 0 then (f_X0_readsLaw_J104 g (f_X0_readsLaw_L8 g (hX A) v1 fu) (hX A) v1 M20) else (sChk M20 0 (hX A) (sCallV (f_X0_readNext g (hX A) M20) fun M22 => (sGetN M22 1 2 v1).bind fun r24 => (sGetI M22 1 3 v1).bind fun x25 => sChk M22 0 (hX A) (sCallN (f_X0_any g (hX A) M22) fun r27 M26 => (sAst M26 r24 x25 r27).bind fun M28 => f_X0_readsLaw_J104 g (f_X0_readsLaw_L8 g (hX A) v1 fu) (hX A) v1 M28))))) = r → f_X0_readsLaw_L8 g (hX A) v1 (fu + 1) (hMem A R S) = r := fun r hr => by
        rw [← hr]
        simp only [f_X0_readsLaw_L8, xgN_9 h.1, n9, hvN_ref, obS, if_neg w0', xgN_6 h.1, e6, hx_chk h.1, hw, sCallI, hcI, if_neg nn, sCallV, m1, hcV, gm, rm, p1, gn, gm1, pw, go, gm2]
      have K2 : p_X3_aLine m s = pCI (p_X3_sumUp m (mR4 s1 (4 * t) (s1.1 14))) fun x21 M20 => if x21 = 0 then some (some (.int 0), M20) else (mRow 6).bind fun r22 => (qGet M20 13).bind fun x23 => (qGet M20 14).bind fun x24 => (qAst M20 r22 (((4) * x23) + (1)) x24).bind fun M25 => (qGet M25 18).bind fun x26 => if x26 = (3) then (pCV (p_X3_next0 m M25) fun M27 => pCI (p_X3_any m M27) fun x30 M29 => if x30 = 0 then some (some (.int 0), M29) else p_X3_aLine_J123 m M29) else p_X3_aLine_J123 m M25 := by
        have f13 : (mSet s 24 0).1 13 = nI t := (ms_ne s 0 (by omega)).trans l13'
        have f18 : (mSet s 24 0).1 18 = s.1 18 := ms_ne s 0 (by omega)
        have st1 := mR4_st (mSet s 24 0) (p := 4 * t + 3) (by omega) (s.1 18)
        rw [hsb] at st1
        have st2 := mR4_st s1 (p := 4 * t) (by omega) (s1.1 14)
        have i2 : inB (s.1 18) 20 22 = true := by rw [ek]; exact i1
        simp only [p_X3_aLine, qg, qp, obS, px_isIn, i2, pcI, if_neg b01_1, l13', if_neg n16, row6, f13, f18, e43, st1, p2, pcV, s1_13, e40, st2]
      have cn : stN (mR4 s1 (4 * t) (s1.1 14)) = stN s1 := rfl
      have ct : tAt (mR4 s1 (4 * t) (s1.1 14)) = tAt s1 := rfl
      have sm := sum_both m hc (by rw [cn]; exact p7) (by rw [cn, ct]; omega)
      rcases sm with ⟨o, R2, S2, s2, q1, q2, q3, q4, q5⟩ | hF
      · have tf2 := q4.2.2.2
        have hf2 : tAt s2 ≤ 400 := Nat.le_trans q3.fr.2.1 q3.fr.2.2.1
        have hfs : tAt s ≤ 400 := Nat.le_trans hf.2.1 hf.2.2.1
        rw [cn] at q5
        have b5 : stN s1 ≤ stN s2 := tf2.2.2.2.2.1
        have b6 : tAt s1 ≤ tAt s2 := tf2.2.2.2.2.2.1
        have b7 : stN s2 + tAt s1 ≤ stN s1 + tAt s2 := tf2.2.2.2.2.2.2
        have lc2 := lc1.ex q4.1.1
        have x2 : hEx (10 + tAt s + (tAt s2 - tAt s1)) (100 + 8 * tAt s + 8 * (tAt s2 - tAt s1)) R0 R2 := x1.trans q4.1
        obtain ⟨fe, fe1, fe2⟩ := hTrA_fit q5
        have po : sAst (hMem A R2 S2) oa (nI t) o = some (hMem A (sUp R2 oa (sArq 4 16 (va_up of t (some o)))) S2) := hR_stq q3.2.1 S2 lc2.2.2.1 (by omega) (by omega) t16 (by omega) fe1 fe2
        have hc3 := q3.2.1.up (e := sArq 4 16 (va_up of t (some o))) lc2.2.2.1
        have x3 := hEx.up h0.2.1 x2 (a := oa) l7 (sArq 4 16 (va_up of t (some o)))
        have lc3 : LC A R0 (sUp R2 oa (sArq 4 16 (va_up of t (some o)))) v1 wa oa na t (upd wf t (nI k)) (va_up of t (some o)) nf := ⟨(sUp_ne R2 _ (by omega)).trans lc2.1, (sUp_ne R2 _ (by omega)).trans lc2.2.1, sUp_at _ _ _, (sUp_ne R2 _ (by omega)).trans lc2.2.2.2.1, l5, l6, l7, l8, l9, l10, l11, l12, l13, l14, l15⟩
        have tm3 : tmE R2 (sUp R2 oa (sArq 4 16 (va_up of t (some o)))) := tmE.up lc2.2.2.1 (fun ci fs h1 h2 q => by simp [sObj, sArq] at q)
        generalize sUp R2 oa (sArq 4 16 (va_up of t (some o))) = R3 at *
        have sf2 : SF S0 S2 := sf1.trans q4.2.1
        have h3 : PS A R3 S2 s2 g 1 n u := h0.over q3 x3.1 hc3 sf2
        have hd := h3.r4 (4 * t + 1) (s2.1 14)
        have mf2 : MF s0 s2 := (mf1.r4 (4 * t) (s1.1 14)).trans tf2.mf
        have s2_13 : s2.1 13 = nI t := (tf2.2.2.1 13 (by omega)).trans s1_13
        have s2_14 : s2.1 14 = nI (stN s2) := tf2.2.2.2.1
        have s2_4 : s2.2 4 = upd (upd (s.2 4) (4 * t + 3) (nI (20 + k))) (4 * t) (nI (stN s)) := by
          rw [tf2.1 4 (by omega), mR4_at, p5, b_4, p7, p6]
        have s2_5 : ∀ p, p < 2 * stN s → s2.2 5 p = s.2 5 p := fun p hp => by
          rw [tf2.2.1 p (by rw [cn, p6]; exact hp), mR4_ne _ _ _ (by omega), p5, b_5]
        have S2_13 : S2.1 13 = .int (nI 0) := q4.2.2.1.trans (p4.2.2.1.trans ho)
        have s2_24 : s2.1 24 = nI 0 := (tf2.2.2.1 24 (by omega)).trans ((x_1 24 (by omega)).trans b_24)
        have st3 := mR4_st s2 (p := 4 * t + 1) (by omega) (s2.1 14)
        have w1 := hd.word (j := 1) (by omega) (by decide) (by decide)
        have c3 : cd 1 = 3 := rfl
        rw [c3] at w1
        have tAB : hTrA R3 (stp s2) (stN s2 - stN s) o (stN s) (stN s2) := by
          rw [p6] at q5
          exact hTrA_tm tm3 _ _ _ _ (fun _ _ _ => rfl) q5
        have hlt := hTrA_lt _ _ _ _ tAB
        have ofs : ∀ l, l < t → (va_up of t (some o)) l = of l := fun l hl => by simp [va_up, show l ≠ t by omega]
        have oft : (va_up of t (some o)) t = some o := by simp [va_up]
        have wfs : ∀ l, l < t → upd wf t (nI k) l = wf l := fun l hl => upd_ne _ _ (by omega)
        have tmR3 : tmE R R3 := (tm1.trans (tmE.of q4.1.1)).trans tm3
        by_cases cw : s2.1 18 = 3
        · have cw' : (mR4 s2 (4 * t + 1) (s2.1 14)).1 18 = 3 := cw
          obtain ⟨S4, s4, z1, z2, z3, z4, z5, z6, z7, z8⟩ := hd.step m s2_14
          have t4 : tAt s2 + 1 ≤ tAt s4 := z8 (by rw [cw']; decide)
          have n4 : stN s4 = stN s2 := z6
          have y_1 : ∀ q, (q < 14 ∨ q = 15 ∨ q = 16 ∨ 22 < q) → s4.1 q = s2.1 q := z4.2.2.2.2.2.1
          have gn2 : sGetN (hMem A R3 S4) 1 2 v1 = some na := hR_N hc3 S4 lc3.1 rfl
          have gm4 : sGetI (hMem A R3 S4) 1 3 v1 = some (nI t) := hR_I hc3 S4 lc3.1 rfl
          have E1 : f_X0_readsLaw_L8 g (hX A) v1 (fu + 1) (hMem A R S) = sCallN (f_X0_any g (hX A) (hMem A R3 S4)) fun r27 M26 => (sAst M26 na (nI t) r27).bind fun M28 => f_X0_readsLaw_J104 g (f_X0_readsLaw_L8 g (hX A) v1 fu) (hX A) v1 M28 := by
            refine K1 _ ?_
            simp only [sCallN, q1, hcN, po, obS, hx_chk h.1, sCallI, w1, hcI, decide_eq_true cw', if_neg b01_1, sCallV, z1, hcV, gn2, gm4]
          have E2 : p_X3_aLine m s = pCI (p_X3_any m s4) fun x30 M29 => if x30 = 0 then some (some (.int 0), M29) else p_X3_aLine_J123 m M29 := by
            rw [K2]
            simp only [q2, pcI, if_neg (show ¬ (1 : Int32) = 0 by decide), row6, qg, obS, s2_13, e40, e41, st3, if_pos cw', z2, pcV]
          have x4 : hEx (10 + tAt s + (tAt s2 - tAt s1)) (100 + 8 * tAt s + 8 * (tAt s2 - tAt s1)) R0 R3 := x3
          have mf4 : MF s0 s4 := (mf2.r4 (4 * t + 1) (s2.1 14)).trans z4.2.2.2.mf
          have sf4 : SF S0 S4 := sf2.trans z4.2.1
          have hf4 := z3.fr
          rcases any_both m z3 z7 (by omega) (z4.2.2.1.trans S2_13) ((y_1 24 (by omega)).trans s2_24) with ⟨o', R5, S5, s5, a1, a2, a3, a4, a5⟩ | hF
          · have tf5 := a4.2.2.2
            have d5 : stN s4 ≤ stN s5 := tf5.2.2.2.2.1
            have d6 : tAt s4 ≤ tAt s5 := tf5.2.2.2.2.2.1
            have d7 : stN s5 + tAt s4 ≤ stN s4 + tAt s5 := tf5.2.2.2.2.2.2
            have hf5 := a3.fr
            have lc5 := lc3.ex a4.1.1
            have x5 := x4.trans a4.1
            obtain ⟨fe', fe1', fe2'⟩ := hTrB_fit a5
            have pn : sAst (hMem A R5 S5) na (nI t) o' = some (hMem A (sUp R5 na (sArq 4 16 (va_up nf t (some o')))) S5) := hR_stq a3.2.1 S5 lc5.2.2.2.1 (by omega) (by omega) t16 (by omega) fe1' fe2'
            have hc6 := a3.2.1.up (e := sArq 4 16 (va_up nf t (some o'))) lc5.2.2.2.1
            have x6 := hEx.up h0.2.1 x5 (a := na) l8 (sArq 4 16 (va_up nf t (some o')))
            have lc6 : LC A R0 (sUp R5 na (sArq 4 16 (va_up nf t (some o')))) v1 wa oa na t (upd wf t (nI k)) (va_up of t (some o)) (va_up nf t (some o')) := ⟨(sUp_ne R5 _ (by omega)).trans lc5.1, (sUp_ne R5 _ (by omega)).trans lc5.2.1, (sUp_ne R5 _ (by omega)).trans lc5.2.2.1, sUp_at _ _ _, l5, l6, l7, l8, l9, l10, l11, l12, l13, l14, l15⟩
            have tm6 : tmE R5 (sUp R5 na (sArq 4 16 (va_up nf t (some o')))) := tmE.up lc5.2.2.2.1 (fun ci fs h1 h2 q => by simp [sObj, sArq] at q)
            generalize sUp R5 na (sArq 4 16 (va_up nf t (some o'))) = R6 at *
            have sf5 : SF S0 S5 := sf4.trans a4.2.1
            have h6 : PS A R6 S5 s5 g 1 n u := h0.over a3 x6.1 hc6 sf5
            have mf5 : MF s0 s5 := mf4.trans tf5.mf
            have s5_13 : s5.1 13 = nI t := (tf5.2.2.1 13 (by omega)).trans ((y_1 13 (by omega)).trans s2_13)
            have s5_14 : s5.1 14 = nI (stN s5) := tf5.2.2.2.1
            have F1 : f_X0_readsLaw_L8 g (hX A) v1 (fu + 1) (hMem A R S) = f_X0_readsLaw_J104 g (f_X0_readsLaw_L8 g (hX A) v1 fu) (hX A) v1 (hMem A R6 S5) := by
              rw [E1]
              simp only [sCallN, a1, hcN, pn, obS]
            have F2 : p_X3_aLine m s = p_X3_aLine_J123 m s5 := by
              rw [E2]
              simp only [a2, pcI, if_neg (show ¬ (1 : Int32) = 0 by decide)]
            rw [F1, F2]
            rcases tail_both m (k8 := f_X0_readsLaw_L8 g (hX A) v1 fu) h0 h6 s5_14 lc6 x6 (by omega) (by omega) sf5 mf5 s5_13 t16 with ⟨R', S', s', r1, r2, r3, r4, r5, r6, r7, r8, r9, r10, r11, r12, r13, r14⟩ | hF
            · left
              have n13 : stN (mSet s' 13 (nI (t + 1))) = stN s' := congrArg cv (ms_ne s' _ (by omega))
              have t13 : tAt (mSet s' 13 (nI (t + 1))) = tAt s' := congrArg cv (ms_ne s' _ (by omega))
              have hlt2 := hTrB_lt _ _ _ _ a5
              refine ⟨R', S', s', _, _, _, r1, r2, r12, ⟨r3.ex (fun _ _ q => q) r3.2.1 rfl (fun q hq => ms_ne s' _ (by omega)), ?_, ?_, r7.trans (a4.2.2.1.trans (z4.2.2.1.trans S2_13)), ?_, r4, ?_, sf5.trans r6, ?_⟩, by omega⟩
              · rw [n13, ms_ne _ _ (by omega)]
                exact r10
              · rw [n13, t13]
                omega
              · refine line_end (R6 := R6) (s5 := s5) (a := stN s) (b := stN s2) (c := stN s5) (o := o) li t16 (tmR3.trans ((tmE.of a4.1.1).trans tm6)) r14 ?_ ?_ hk rfl hlt (by omega) rfl s5_14 r11 r9 (fun l hl => ⟨wfs l hl, ofs l hl, by simp [va_up, show l ≠ t by omega]⟩) (upd_same _ _ _) oft (fun l hl => by simp [va_up, show l ≠ t by omega, li.2.2.1 l (by omega)]) ?_ (Or.inr ⟨o', by simp [va_up], ?_⟩)
                · rw [tf5.1 4 (by omega), z5, mR4_at, s2_4, s2_14]
                · intro p hp
                  rw [tf5.2.1 p (by omega), z5, mR4_ne _ _ _ (by omega)]
                  exact s2_5 p hp
                · refine hTrA_tm ((tmE.of a4.1.1).trans tm6) _ _ _ _ (fun p g1 g2 => ?_) tAB
                  show s5.2 5 (p - 1535) = s2.2 5 (p - 1535)
                  rw [tf5.2.1 _ (by omega), z5, mR4_ne _ _ _ (by omega)]
                · rw [n4] at a5
                  exact hTrB_tm tm6 _ _ _ _ (fun _ _ _ => rfl) a5
              · rw [t13]
                exact r5.le (by omega) (by omega)
              · have := mf5.trans r13
                exact ⟨this.1, fun q hq => (ms_ne s' _ (by omega)).trans (this.2 q hq)⟩
            · exact Or.inr hF
          · right
            have hF1 := hF.fin x4 (by omega) (by omega) sf4 mf4
            obtain ⟨q, k', R', S', s', a1, a2, rest⟩ := hF1
            refine ⟨q, k', R', S', s', ?_, ?_, rest⟩
            · rw [E1]
              simp only [sCallN, a1, hcX]
            · rw [E2]
              simp only [a2, pcI, if_true]
        · have cw' : ¬ (mR4 s2 (4 * t + 1) (s2.1 14)).1 18 = 3 := cw
          have E1 := K1 _ rfl
          have F1 : f_X0_readsLaw_L8 g (hX A) v1 (fu + 1) (hMem A R S) = f_X0_readsLaw_J104 g (f_X0_readsLaw_L8 g (hX A) v1 fu) (hX A) v1 (hMem A R3 S2) := by
            rw [E1]
            simp only [sCallN, q1, hcN, po, obS, hx_chk h.1, sCallI, w1, hcI, decide_eq_false cw', b01_z, if_true]
          have F2 : p_X3_aLine m s = p_X3_aLine_J123 m (mR4 s2 (4 * t + 1) (s2.1 14)) := by
            rw [K2]
            simp only [q2, pcI, if_neg (show ¬ (1 : Int32) = 0 by decide), row6, qg, obS, s2_13, e40, e41, st3, if_neg cw']
          rw [F1, F2]
          rcases tail_both m (k8 := f_X0_readsLaw_L8 g (hX A) v1 fu) (c := 10 + tAt s + (tAt s2 - tAt s1)) (k := 100 + 8 * tAt s + 8 * (tAt s2 - tAt s1)) h0 hd s2_14 lc3 x3 (by omega) (by omega) sf2 (mf2.r4 _ _) s2_13 t16 with ⟨R', S', s', r1, r2, r3, r4, r5, r6, r7, r8, r9, r10, r11, r12, r13, r14⟩ | hF
          · left
            have r8' : tAt s2 ≤ tAt s' := r8
            have r9' : stN s' = stN s2 := r9
            have n13 : stN (mSet s' 13 (nI (t + 1))) = stN s' := congrArg cv (ms_ne s' _ (by omega))
            have t13 : tAt (mSet s' 13 (nI (t + 1))) = tAt s' := congrArg cv (ms_ne s' _ (by omega))
            refine ⟨R', S', s', _, _, _, r1, r2, r12, ⟨r3.ex (fun _ _ q => q) r3.2.1 rfl (fun q hq => ms_ne s' _ (by omega)), ?_, ?_, r7.trans S2_13, ?_, r4, ?_, sf2.trans r6, ?_⟩, by omega⟩
            · rw [n13, ms_ne _ _ (by omega)]
              exact r10
            · rw [n13, t13]
              omega
            · refine line_end (R6 := R3) (s5 := mR4 s2 (4 * t + 1) (s2.1 14)) (c := stN s2) (o := o) li t16 tmR3 r14 ?_ ?_ hk rfl hlt (Nat.le_refl _) rfl s2_14 r11 r9' (fun l hl => ⟨wfs l hl, ofs l hl, rfl⟩) (upd_same _ _ _) oft (fun l hl => li.2.2.1 l (by omega)) ?_ (Or.inl ⟨li.2.2.1 t (Nat.le_refl _), rfl⟩)
              · rw [mR4_at, s2_4, s2_14]
              · intro p hp
                rw [mR4_ne _ _ _ (by omega)]
                exact s2_5 p hp
              · have : stp (mR4 s2 (4 * t + 1) (s2.1 14)) = stp s2 := by
                  unfold stp
                  rw [mR4_ne _ _ _ (by omega)]
                rw [this]
                exact tAB
            · rw [t13]
              exact r5.le (by omega) (by omega)
            · have := (mf2.r4 (4 * t + 1) (s2.1 14)).trans r13
              exact ⟨this.1, fun q hq => (ms_ne s' _ (by omega)).trans (this.2 q hq)⟩
          · exact Or.inr hF
      · right
        have hF1 := hF.fin x1 (by omega) (by omega) sf1 (mf1.r4 _ _)
        obtain ⟨q, k', R', S', s', q1, q2, rest⟩ := hF1
        refine ⟨q, k', R', S', s', K1 _ ?_, ?_, rest⟩
        · simp only [sCallN, q1, hcX]
        · rw [K2]
          simp only [q2, pcI, if_true]
  · right
    obtain ⟨R', k1, k2⟩ := must_0 h
    have i1 : inB (nI tk) 20 22 = false := by
      rw [inB_20w tk htk]
      by_cases c : 20 ≤ tk ∧ tk ≤ 22
      · exact absurd (by rw [etk]; congr 1; omega) (hno (tk - 20) (by omega))
      · simp
        omega
    have e1 : f_X0_readsLaw_L8 g (hX A) v1 (fu + 1) (hMem A R S) = some (.inr R.2.1, hMem A R' S) := by
      simp only [f_X0_readsLaw_L8, xgN_9 h.1, n9, hvN_ref, obS, if_neg w0', xgN_6 h.1, e6, hx_chk h.1, hw, sCallI, hcI, if_true, sCallV, k1, hcX]
    have e2 : p_X3_aLine m s = some (some (.int 0), mSet (mSet s 21 1) 22 (s.1 19)) := by
      simp only [p_X3_aLine, qg, etk, obS, px_isIn, i1, b01_z, pcI, if_true, bad_m, bool0]
    rw [e1, e2]
    exact k2.fin hx (by omega) (by omega) hS hM
