/-! the queries read whole: both sides, the loop -/
set_option maxRecDepth 100000
def QLO (A : hA) (R0 : sMem) (S0 : hS) (s0 : mSt) (f : Option (sRes × sMem)) (p : Option (Option Value × mSt)) : Prop := (∃ R' S' s' v1 t f', f = some (.inl (some (.ref v1)), hMem A R' S') ∧ p = some (some (.int 1), s') ∧ hCl A R' ∧ hEx 5000 20000 R0 R' ∧ SF S0 S' ∧ MF s0 s' ∧ R'.2.2.2 v1 = some (sArr 0 t f') ∧ s'.1 15 = nI t ∧ t ≤ 16 ∧ ∀ l, l < t → s'.2 6 l = f' l) ∨ FIN A R0 S0 s0 f p
theorem queries_loop {A : hA} {R0 : sMem} {S0 : hS} {s0 : mSt} {g : Nat → Nat} {n F : Nat} {u : Nat → Int32} (m : Nat) (h0 : PS A R0 S0 s0 g 3 n u) (hF : F ≤ 10) {q18 : Nat} {f18 : Nat → Option Nat} (r18 : R0.2.2.2 q18 = some (sArq 5 F f18)) (e18 : S0.1 18 = .ref q18) (h572 : s0.2 0 572 = nI F) : ∀ (d : Nat) (R : sMem) (S : hS) (s : mSt) (v1 t : Nat) (f : Nat → Int32), n - tAt s ≤ d → PS A R S s g 3 n u → hEx (10 + tAt s) (100 + 8 * tAt s + 20 * t) R0 R → SF S0 S → MF s0 s → R.2.2.2 v1 = some (sArr 0 t f) → s.1 15 = nI t → t ≤ 16 → (∀ l, l < t → s.2 6 l = f l) → ∀ fu fu', d < fu → d + 1 < fu' → QLO A R0 S0 s0 (f_X0_readsQueries_L4 g (hX A) fu v1 (hMem A R S)) (p_X3_readsRows_L35 m 13 fu' 1 s)
  | d, R, S, s, v1, t, f, hd, h, hx, hS, hM, r1, h15, ht, hrow, fu, fu', hf, hf' => by
    obtain ⟨fu, rfl⟩ : ∃ p, fu = p + 1 := ⟨fu - 1, by omega⟩
    obtain ⟨fu', rfl⟩ : ∃ p, fu' = p + 2 := ⟨fu' - 2, by omega⟩
    have fr := h.fr
    have n1 : ¬ (1 : Int32) = 0 := by decide
    obtain ⟨w, vc, n9, n12, n11, w3, w0, wv, -⟩ := h.num
    have wd := h.word (j := 14) (by omega) (by decide) (by decide)
    have c13 : cd 14 = 13 := rfl
    have hf400 : tAt s ≤ 400 := by omega
    have h12 : s.1 12 = nI 3 := h.2.2.2.2.2.2.2.2.2.1
    have lq := hR_len h.2.1 S r1
    by_cases c0 : s.1 18 = 0
    · left
      refine ⟨R, S, s, v1, t, f, ?_, ?_, h.2.1, hx.le (by omega) (by omega), hS, hM, r1, h15, ht, hrow⟩
      · simp only [f_X0_readsQueries_L4, xgN_9 h.1, n9, hvN_ref, obS, if_pos (w0.mpr c0)]
      · simp only [p_X3_readsRows_L35, if_neg n1, qg, obS, if_pos c0, bool1]
    · have l := fr.2.2.2 c0
      obtain ⟨d, rfl⟩ : ∃ p, d = p + 1 := ⟨d - 1, by omega⟩
      have w0n : ¬ w = g 0 := fun q => c0 (w0.mp q)
      by_cases c : s.1 18 = cd 14
      · have c' : s.1 18 = 13 := c
        have m1 : f_X0_must (hX A) (b01 true) (hMem A R S) = some (.inl none, hMem A R S) := must_1 _ (R := R) (S := S) rfl b01_1
        have z12 : ¬ (nI 3 : Int32) = 0 := by decide
        have z12' : ¬ (nI 3 : Int32) = 2 := by decide
        by_cases c16 : t = 16
        · right
          subst c16
          obtain ⟨R', j1, j2, j3⟩ := FAIL.here h 3
          have n16 : (nI 16 : Int32) = 16 := rfl
          have nOf : ∀ K, sNewO (hMem A R S) 4 [.null, .null, .null, .null, .null, .int 0, .int 0, .int 0] 8 K = K R.2.1 (hMem A (sNew R (sObj 4 [.null, .null, .null, .null, .null, .int 0, .int 0, .int 0]) 8) S) := fun K => hNewO h.2.1 S 4 _ 8 K
          have e1 : f_X0_readsQueries_L4 g (hX A) (fu + 1) v1 (hMem A R S) = some (.inr R.2.1, hMem A R' S) := by
            simp only [f_X0_readsQueries_L4, xgN_9 h.1, n9, hvN_ref, obS, if_neg w0n, hx_chk h.1, wd, sCallI, hcI, decide_eq_true c, sCallV, m1, hcV, lq, f_X0_isRoom, if_pos n16, nOf, xgI_11 h.1, n11, hvI_int, j1, j2, hcX]
          have e2 : p_X3_readsRows_L35 m 13 (fu' + 2) 1 s = some (some (.int 0), mSet (mSet s 21 3) 22 (s.1 19)) := by
            simp only [p_X3_readsRows_L35, if_neg n1, qg, obS, if_neg c0, if_pos c', h15, h12, if_neg z12, if_pos n16, bad_m, pcI, bool0]
          rw [e1, e2]
          exact j3.fin hx (by omega) (by omega) hS hM
        · have t16 : t < 16 := by omega
          have n16 : ¬ nI t = 16 := fun q => c16 ((nI_eq (a := t) (b := 16) (by omega) (by omega)).mp q)
          have rm : f_X0_isRoom (hX A) (nI t) 16 (hMem A R S) = some (.inl none, hMem A R S) := by
            unfold f_X0_isRoom
            rw [if_neg n16]
          have E1 : f_X0_readsQueries_L4 g (hX A) (fu + 1) v1 (hMem A R S) = sCallI (f_X0_query g (hX A) (hMem A R S)) fun x10 M9 => sCallN (f_X0_with v1 x10 M9) fun r12 M11 => sChk M11 0 (hX A) (sCallV (f_X0_takesSign g (hX A) 59 M11) fun M13 => f_X0_readsQueries_L4 g (hX A) fu r12 M13) := by
            simp only [f_X0_readsQueries_L4, xgN_9 h.1, n9, hvN_ref, obS, if_neg w0n, hx_chk h.1, wd, sCallI, hcI, decide_eq_true c, sCallV, m1, hcV, lq, rm]
          have E2 : p_X3_readsRows_L35 m 13 (fu' + 2) 1 s = pCI (pCI (p_X3_aQuery m s) fun x8 M7 => if x8 = 0 then some (some (.int 0), M7) else p_X3_aRow_J42 m M7) fun x8 M7 => (qGet M7 15).bind fun x9 => (qPut M7 15 (x9 + (if x8 = 0 then 0 else 1))).bind fun M10 => p_X3_readsRows_L35 m 13 (fu' + 1) x8 M10 := by
            conv => lhs; unfold p_X3_readsRows_L35
            simp only [if_neg n1, qg, obS, if_neg c0, if_pos c', h15, h12, if_neg z12, if_neg n16, p_X3_aRow, if_neg z12']
          rcases query_both m h hF t16 (hx.1 _ _ r18) ((hS.2 18 (by omega)).trans e18) (by rw [hM.1 0 (by omega) (by omega) (by omega)]; exact h572) h15 with ⟨x, S1, s1, p1, p2, p3, p4, p5, p6, p7, p8⟩ | hFl
          · obtain ⟨R2, r2, f2, a1, a2, a3, a4, a5, a6⟩ := f_with h.1 h.2.1 S1 r1 (by omega) x
            have h2 : PS A R2 S1 s1 g 3 n u := p3.ex a5.1 a6 rfl (fun _ _ => rfl)
            have hx2 := hx.trans a5
            have mf1 : MF s0 s1 := hM.trans ⟨fun j _ _ h6 => by rw [p6]; exact mR6_ne s t x h6, fun q hq => p7 q (by omega) (by omega)⟩
            have hf1 := h2.fr
            rcases semi_both m h2 with ⟨S3, s3, b1, b2, b3, b4, b5, b6, b7, b8⟩ | ⟨q, b1, hFl⟩
            · have F1 : f_X0_readsQueries_L4 g (hX A) (fu + 1) v1 (hMem A R S) = f_X0_readsQueries_L4 g (hX A) fu r2 (hMem A R2 S3) := by
                rw [E1]
                simp only [sCallI, p1, hcI, sCallN, a1, hcN, hx_chk h.1, sCallV, b1, hcV]
              have e1 : nI t + 1 = nI (t + 1) := (nI_succ t).symm
              have s3_15 : s3.1 15 = nI t := (b7 15 (by omega)).trans ((p7 15 (by omega) (by omega)).trans h15)
              have F2 : p_X3_readsRows_L35 m 13 (fu' + 2) 1 s = p_X3_readsRows_L35 m 13 (fu' + 1) 1 (mSet s3 15 (nI (t + 1))) := by
                rw [E2]
                simp only [p2, pcI, if_neg n1, b2, qg, qp, obS, s3_15, e1]
              rw [F1, F2]
              have t15 : tAt (mSet s3 15 (nI (t + 1))) = tAt s3 := congrArg cv (ms_ne s3 _ (by omega))
              have hf3 := b3.fr
              refine queries_loop m h0 hF r18 e18 h572 d R2 S3 (mSet s3 15 (nI (t + 1))) r2 (t + 1) f2 (by omega) (b3.ex (fun _ _ q => q) b3.2.1 rfl (fun q hq => ms_ne s3 _ (by omega))) (hx2.le (by omega) (by omega)) ((hS.trans p4).trans b4) ?_ a2 (ms_same _ _ _) (by omega) (fun l hl => ?_) fu (fu' + 1) (by omega) (by omega)
              · have := mf1.trans (s'' := s3) ⟨fun j _ _ _ => by rw [b6], fun q hq => b7 q (by omega)⟩
                exact ⟨this.1, fun q hq => (ms_ne s3 _ (by omega)).trans (this.2 q hq)⟩
              · show s3.2 6 l = f2 l
                rw [b6, p6, mR6_at]
                by_cases e : l = t
                · subst e
                  rw [upd_same, a4]
                · rw [upd_ne _ _ e, hrow l (by omega), a3 l (by omega)]
            · right
              have hX1 := hFl.fin hx2 (by omega) (by omega) (hS.trans p4) mf1
              have hX2 : FIN A R0 S0 s0 (f_X0_readsQueries_L4 g (hX A) (fu + 1) v1 (hMem A R S)) (pCI (p_X3_aQuery m s) fun x8 M7 => if x8 = 0 then some (some (.int 0), M7) else p_X3_aRow_J42 m M7) := by
                obtain ⟨q', k, R', S', s', d1, d2, rest⟩ := hX1
                refine ⟨q', k, R', S', s', ?_, ?_, rest⟩
                · rw [E1]
                  simp only [sCallI, p1, hcI, sCallN, a1, hcN, hx_chk h.1, sCallV, b1, d1, hcX]
                · simp only [p2, pcI, if_neg n1, d2]
              exact hX2.row m 13 fu' E2
          · right
            have hX1 := hFl.fin hx (by omega) (by omega) hS hM
            have hX2 : FIN A R0 S0 s0 (f_X0_readsQueries_L4 g (hX A) (fu + 1) v1 (hMem A R S)) (pCI (p_X3_aQuery m s) fun x8 M7 => if x8 = 0 then some (some (.int 0), M7) else p_X3_aRow_J42 m M7) := by
              obtain ⟨q', k, R', S', s', d1, d2, rest⟩ := hX1
              refine ⟨q', k, R', S', s', ?_, ?_, rest⟩
              · rw [E1]
                simp only [sCallI, d1, hcX]
              · simp only [d2, pcI, if_true]
            exact hX2.row m 13 fu' E2
      · right
        obtain ⟨R', i1, i2⟩ := must_0 h
        have c' : ¬ s.1 18 = 13 := c
        have e1 : f_X0_readsQueries_L4 g (hX A) (fu + 1) v1 (hMem A R S) = some (.inr R.2.1, hMem A R' S) := by
          simp only [f_X0_readsQueries_L4, xgN_9 h.1, n9, hvN_ref, obS, if_neg w0n, hx_chk h.1, wd, sCallI, hcI, decide_eq_false c, b01_z, sCallV, i1, hcX]
        have e2 : p_X3_readsRows_L35 m 13 (fu' + 2) 1 s = some (some (.int 0), mSet (mSet s 21 1) 22 (s.1 19)) := by
          simp only [p_X3_readsRows_L35, if_neg n1, qg, obS, if_neg c0, if_neg c', bad_m, pcI, bool0]
        rw [e1, e2]
        exact i2.fin hx (by omega) (by omega) hS hM
