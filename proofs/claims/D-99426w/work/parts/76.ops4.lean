/-! acts: feeding, cocoons, days -/
set_option maxRecDepth 100000
theorem hInv.act2 {A : hA} {R R' : sMem} {S : hS} {s1 s' : mSt} {g : Nat → Nat} {b L : Nat} {xs : Nat → Int32} (h : hInv A R (hM S s1) g b L xs) {t' : Nat → Int32} (al : wAl (S.2.2.2.1 0) t') (hw : wAct t') (hc : hCl A R') (hR : sub2 R R') (hs : Sw s1 t' s') (f : Nat → Int32) : hInv A R' (hM (hRw (hT S 0 t') 2 f) s') g b L xs := by
  have T0 : (hM (hRw (hT S 0 t') 2 f) s').2.2.2.1 0 = t' := by
    show (hRw (hT S 0 t') 2 f).2.2.2.1 0 = t'
    rw [hRw_3, hT_same]
  have T2 : ∀ k, k ≠ 0 → (hM (hRw (hT S 0 t') 2 f) s').2.2.2.1 k = (hM S s1).2.2.2.1 k := fun k hk => by
    show (hRw (hT S 0 t') 2 f).2.2.2.1 k = S.2.2.2.1 k
    rw [hRw_3, hT_ne _ _ hk]
  have e1 : (hM (hRw (hT S 0 t') 2 f) s').2.1 1 = (hM S s1).2.1 1 := by
    show (hRw (hT S 0 t') 2 f).2.1 1 = S.2.1 1
    rw [hRw_ne _ _ (by omega), hT_2]
  obtain ⟨h1, h2, h3, h4, h5⟩ := h
  exact ⟨h1.fr hR hc rfl (by rw [T0]; exact hs.2.1.symm) (by rw [T0]; exact al) (by rw [T0]; exact hw) (fun k _ => rfl), h2.fr ⟨rfl, rfl, rfl⟩ e1 (hs.2.2 7 (by omega) (by omega)) ⟨congrFun hs.1 16, congrFun hs.1 23, congrFun hs.1 25⟩, h3.fr rfl (congrFun hs.1 4) (hs.2.2 2 (by omega) (by omega)) rfl (fun k hk => T2 k (by omega)) (by rw [T0]; exact al), h4.fr hR (fun k _ => rfl) (congrFun hs.1 5) (hs.2.2 1 (by omega) (by omega)) (T2 2 (by omega)), h5.fr hR rfl (fun k _ => rfl)⟩
theorem hOp.write2 {A A' : hA} {R R' : sMem} {S S1 : hS} {g : Nat → Nat} {b L : Nat} {xs : Nat → Int32} {f1 f2 : sMem → Option (sRes × sMem)} {pf : mSt → Option (Option Value × mSt)} {v : Int32} {s' : mSt} (h1 : A'.1 = A.1) (hx : hX A' = hX A) (h9 : A'.2.1 9 = A.2.1 9) (hq : ∀ (R : sMem), R.1 ≤ A.2.1 9 → ∀ s : mSt, f2 (mPut R (A.2.1 9) s) = lft R (A.2.1 9) (pf s)) (e1 : f1 (hMem A R S) = some (.inl (some (.int v)), hMem A' R' S1)) (hm : S1.2.2.2.2.2 = S.2.2.2.2.2) (hex : hEx 18000 84000 R R') (e2 : pf S.2.2.2.2.2 = some (some (.int v), s')) (hI : hInv A' R' (hM S1 s') g b L xs) : hOp A R S g b L xs f1 f2 := by
  have e3 := hLft_of hI.1.1 R' S1 (f := f2) (pf := pf) (by rw [h9]; exact hq)
  rw [hm, e2] at e3
  have hk := fun o => hM_chk hI.1.1 R' S1 o
  rw [h9] at hk
  exact ⟨v, hMem A' R' S1, A', R', hM S1 s', e1, hk, hI.script, e3, hI, h1, hx, h9, hex⟩
theorem hInv.mode {A : hA} {R : sMem} {S : hS} {s1 : mSt} {g : Nat → Nat} {b L : Nat} {xs : Nat → Int32} (h : hInv A R (hM S s1) g b L xs) : hMode S 0 true := Or.inl ⟨rfl, rfl, h.1.2.2.1⟩
theorem j_feedOne {A : hA} {R : sMem} {S : hS} {g : Nat → Nat} {b L : Nat} {xs : Nat → Int32} (h : hInv A R S g b L xs) (v w x : Int32) : hOp A R S g b L xs (f_X0_feedOne (hX A) v w x) (f_X3_feedOne (A.2.1 9) v w x) := by
  have hg := h.1.1
  have hc := h.1.2.1
  have h3 : 0 < A.2.2 := by have := hg.2.2.2; omega
  have ht := h.t0
  have hw := h.act
  have hn := hw.n
  have h10 : hFc (S.2.2.2.1 0) ≤ 10 := hw.1.2.1.1.2
  have hq : ∀ (R : sMem), R.1 ≤ A.2.1 9 → ∀ s : mSt, f_X3_feedOne (A.2.1 9) v w x (mPut R (A.2.1 9) s) = lft R (A.2.1 9) (p_X3_feedOne (A.2.1 9) v w x s) := fun R hR s => q_X3_feedOne R _ hR v w x s
  have f1 := fx_isWorm hg R S v
  have p1 := px_isWorm (A.2.1 9) v S.2.2.2.2.2
  have f2 := fun u => fx_isFact hg hc h.fa hw.1.2.1 u
  have p2 := fun u => px_isFact (A.2.1 9) u S.2.2.2.2.2
  rw [ht] at p1
  simp only [ht] at p2
  cases hv : inB v 0 (S.2.2.2.1 0 571 - 1) with
  | false =>
    refine hOp.read0 h hq (v := -1) ?_ ?_
    · simp only [f_X0_feedOne, hx_chk hg, f1, hv, eq_self, ↓reduceIte, hcI, hcN, hcV, obS, if_true, if_false, b01_f]
    · simp only [p_X3_feedOne, p1, hv, pcI, b01_f, ↓reduceIte]
  | true =>
    cases hw2 : inB w 0 (S.2.2.2.1 0 572 - 1) with
    | false =>
      refine hOp.read0 h hq (v := -1) ?_ ?_
      · simp only [f_X0_feedOne, hx_chk hg, f1, hv, f2, hw2, eq_self, ↓reduceIte, hcI, hcN, hcV, obS, if_true, if_false, b01_f, b01_t]
      · simp only [p_X3_feedOne, p1, hv, p2, hw2, pcI, b01_f, b01_t, ↓reduceIte]
    | true =>
      have e571 : S.2.2.2.1 0 571 = nI (hN (S.2.2.2.1 0)) := hw.1.1.1.1
      have hv' := hv
      rw [e571] at hv'
      obtain ⟨i, hi, rfl⟩ := inB_below (by omega) hv'
      obtain ⟨a, ha, rfl⟩ := inB_fact hw.1.2.1 hw2
      -- the second fact
      have key : ∀ o : Option Nat, okB (S.2.2.2.1 0) o → x = bI o → (f_X0_feedOne (hX A) (nI i) (nI a) x (hMem A R S) = f_X0_feedOne_J29 (hX A) (nI i) (nI a) x (hMem A R S)) → (p_X3_feedOne (A.2.1 9) (nI i) (nI a) x S.2.2.2.2.2 = p_X3_feedOne_J29 (A.2.1 9) (nI i) (nI a) x S.2.2.2.2.2) → hOp A R S g b L xs (f_X0_feedOne (hX A) (nI i) (nI a) x) (f_X3_feedOne (A.2.1 9) (nI i) (nI a) x) := by
        intro o ho hxo ef ep
        by_cases hne : nI a = x
        · refine hOp.read0 h hq (v := -1) ?_ ?_
          · rw [ef]
            simp only [f_X0_feedOne_J29, hne, eq_self, ↓reduceIte, hcI, hcN, hcV, obS, if_true, if_false]
          · rw [ep]
            simp only [p_X3_feedOne_J29, hne, ↓reduceIte]
        · obtain ⟨fc, ec⟩ := f_can (S := S) hg hc h3 rfl h.tel hw hi ha ho rfl
          obtain ⟨q, hgo⟩ := h.go
          obtain ⟨s1, pc, S1⟩ := px_can (A.2.1 9) S.2.2.2.2.2 hgo (i := i) (a := a) (b := o) (by omega) (by omega) (fun k hk => by have := ho k hk; omega)
          rw [ht] at pc
          rw [← hxo] at ec pc
          have hI1 := h.read (hSame.rw2 S fc) (fun _ _ h => h) hc S1
          cases hcan : wCan (S.2.2.2.1 0) i a o with
          | false =>
            rw [hcan] at ec pc
            refine hOp.read h hq (v := -1) (S' := hRw S 2 fc) (s' := s1) ?_ (hSame.rw2 S fc) ((hEx.refl R).le (by omega) (by omega)) hc ?_ S1
            · rw [ef]
              simp (disch := omega) only [f_X0_feedOne_J29, hne, eq_self, ↓reduceIte, hcI, hcN, hcV, obS, if_true, if_false, xgN_23 hg, ht_chk hg, ec, b01_f]
            · rw [ep]
              simp only [p_X3_feedOne_J29, hne, ↓reduceIte, pc, pcI, b01_f]
          | true =>
            rw [hcan] at ec pc
            obtain ⟨A', R', S', s', fk, pk, hI2, hm, a1, a2, a3, ex, T0, m0, m27⟩ := j_keeps hI1 (A.2.1 9)
            have hg' := hI2.1.1
            have h3' : 0 < A'.2.2 := by have := hg'.2.2.2; omega
            have eT : S'.2.2.2.1 0 = S.2.2.2.1 0 := by rw [T0, hRw_3]
            have m0' : s'.2 0 = S.2.2.2.1 0 := by rw [m0, S1.2.1, ht]
            have tel' : hTel R' S' (S.2.2.2.1 0) := by
              have := hI2.tel
              have e : (hM S' s').2.2.2.1 0 = S.2.2.2.1 0 := eT
              rw [e] at this
              exact this
            obtain ⟨R2, f3, ff, ex2, hc2⟩ := f_feeds (S := S') hg' hI2.1.2.1 h3' eT tel' hw hI2.mode (fun i _ => by rw [eT]) hi ha ho (wCan_fl hcan)
            obtain ⟨q2, hgo2⟩ := hI2.go
            have hgo2' : wGo R' q2 (S.2.2.2.1 0) := by
              have e : (hM S' s').2.2.2.2.2.2 0 = S.2.2.2.1 0 := m0'
              rw [e] at hgo2
              exact hgo2
            obtain ⟨s3, pf, S3⟩ := px_feeds (A.2.1 9) s' m0' (tr := true) m27 hgo2' (i := i) (a := a) (b := o) (by omega) ha ho (hw.2.1 i hi).1 hw.2.2.2.1
            rw [← hxo] at ff pf
            have hI3 := hI2.act2 (t' := wFeeds true i a o (S.2.2.2.1 0)) (by rw [eT]; exact wFeeds_al true hw hi) (wAct_feeds true hw hi ha ho (wCan_fl hcan)) hc2 ex2.1 S3 f3
            have hxA : hX A' = hX A := a2
            refine hOp.write2 a1 a2 a3 hq (v := wFed true i a o (S.2.2.2.1 0)) (R' := R2) (S1 := hRw (hT S' 0 (wFeeds true i a o (S.2.2.2.1 0))) 2 f3) ?_ ?_ ((ex.trans ex2).le (by omega) (by omega)) ?_ hI3
            · rw [ef]
              rw [← hxA] at fk ⊢
              have k1 : ∀ o, sChk (hMem A R (hRw S 2 fc)) 0 (hX A') o = o := fun o => by rw [hxA]; exact hx_chk hg R _ o
              have k2 : sGetN (hMem A R S) 0 23 (hX A') = some (hTa A 0) := by rw [hxA]; exact xgN_23 hg R S
              simp (disch := omega) only [f_X0_feedOne_J29, hne, eq_self, ↓reduceIte, hcI, hcN, hcV, obS, if_true, if_false, k2, ht_chk hg, ec, b01_t, k1, fk, xgN_23 hg', ht_chk hg', ff]
            · show (hRw (hT S' 0 _) 2 f3).2.2.2.2.2 = _
              rw [hRw_3, hT_5, hm, hRw_3]
            · rw [ep]
              simp only [p_X3_feedOne_J29, hne, ↓reduceIte, pc, pcI, pcV, b01_t, pk, pf]
      by_cases hx1 : x = -1
      · refine key none (fun k hk => by cases hk) hx1 ?_ ?_
        · simp only [f_X0_feedOne, hx_chk hg, f1, hv, f2, hw2, eq_self, ↓reduceIte, hcI, hcN, hcV, obS, if_true, if_false, b01_t, hx1]
        · simp only [p_X3_feedOne, p1, hv, p2, hw2, pcI, b01_t, ↓reduceIte, hx1]
      · cases hx2 : inB x 0 (S.2.2.2.1 0 572 - 1) with
        | false =>
          refine hOp.read0 h hq (v := -1) ?_ ?_
          · simp only [f_X0_feedOne, hx_chk hg, f1, hv, f2, hw2, hx2, eq_self, ↓reduceIte, hcI, hcN, hcV, obS, if_true, if_false, b01_f, b01_t, hx1]
          · simp only [p_X3_feedOne, p1, hv, p2, hw2, hx2, pcI, b01_f, b01_t, ↓reduceIte, hx1]
        | true =>
          obtain ⟨a2, ha2, hxa⟩ := inB_fact hw.1.2.1 hx2
          refine key (some a2) (fun k hk => by cases hk; exact ha2) hxa ?_ ?_
          · simp only [f_X0_feedOne, hx_chk hg, f1, hv, f2, hw2, hx2, eq_self, ↓reduceIte, hcI, hcN, hcV, obS, if_true, if_false, b01_t, hx1]
          · simp only [p_X3_feedOne, p1, hv, p2, hw2, hx2, pcI, b01_t, ↓reduceIte, hx1]
