/-! the law read whole: both sides -/
set_option maxRecDepth 100000
def LOUT (A : hA) (R0 : sMem) (S0 : hS) (s0 : mSt) (g : Nat → Nat) (n : Nat) (u : Nat → Int32) (f : Option (sRes × sMem)) (p : Option (Option Value × mSt)) : Prop := (∃ R' S' s' v1 wa oa na t wf of nf, f = some (.inl (some (.ref v1)), hMem A R' S') ∧ p = some (some (.int 1), s') ∧ LSt A R0 S0 s0 R' S' s' g n u v1 wa oa na t wf of nf) ∨ FIN A R0 S0 s0 f p
theorem law_loop {A : hA} {R0 : sMem} {S0 : hS} {s0 : mSt} {g : Nat → Nat} {n : Nat} {u : Nat → Int32} (m : Nat) (h0 : PS A R0 S0 s0 g 1 n u) {v1 wa oa na : Nat} : ∀ (d : Nat) (R : sMem) (S : hS) (s : mSt) (t : Nat) (wf : Nat → Int32) (of nf : Nat → Option Nat), n - tAt s ≤ d → LSt A R0 S0 s0 R S s g n u v1 wa oa na t wf of nf → ∀ fu fu', d < fu → d + 1 < fu' → LOUT A R0 S0 s0 g n u (f_X0_readsLaw_L8 g (hX A) v1 fu (hMem A R S)) (p_X3_readsLaw_L12 m fu' 1 s)
  | d, R, S, s, t, wf, of, nf, hd, hs, fu, fu', hf, hf' => by
    obtain ⟨fu, rfl⟩ : ∃ p, fu = p + 1 := ⟨fu - 1, by omega⟩
    obtain ⟨fu', rfl⟩ : ∃ p, fu' = p + 2 := ⟨fu' - 2, by omega⟩
    have h := hs.1
    have fr := h.fr
    have n1 : ¬ (1 : Int32) = 0 := by decide
    by_cases c0 : s.1 18 = 0
    · obtain ⟨w, vc, n9, n12, n11, w3, w0, wv, -⟩ := h.num
      refine Or.inl ⟨R, S, s, v1, wa, oa, na, t, wf, of, nf, ?_, ?_, hs⟩
      · simp only [f_X0_readsLaw_L8, xgN_9 h.1, n9, hvN_ref, obS, if_pos (w0.mpr c0)]
      · simp only [p_X3_readsLaw_L12, if_neg n1, qg, obS, if_pos c0, bool1]
    · have l := fr.2.2.2 c0
      obtain ⟨d, rfl⟩ : ∃ p, d = p + 1 := ⟨d - 1, by omega⟩
      rcases line_both m h0 hs c0 fu with ⟨R', S', s', wf', of', nf', q1, q2, q3, q4, q5⟩ | hF
      · have t13 : tAt (mSet s' 13 (nI (t + 1))) = tAt s' := congrArg cv (ms_ne s' _ (by omega))
        have e1 : nI t + 1 = nI (t + 1) := (nI_succ t).symm
        have E2 : p_X3_readsLaw_L12 m (fu' + 2) 1 s = p_X3_readsLaw_L12 m (fu' + 1) 1 (mSet s' 13 (nI (t + 1))) := by
          conv => lhs; unfold p_X3_readsLaw_L12
          simp only [if_neg n1, qg, qp, obS, if_neg c0, q2, pcI, q3, e1]
        rw [q1, E2]
        exact law_loop m h0 d R' S' _ (t + 1) wf' of' nf' (by omega) q4 fu (fu' + 1) (by omega) (by omega)
      · right
        obtain ⟨q, k, R', S', s', a1, a2, a3, a4, a5, a6, a7, a8, a9⟩ := hF
        refine ⟨q, k, R', S', mSet s' 13 (s'.1 13 + 0), a1, ?_, a3, a4, ?_, ?_, ?_, a8, ⟨a9.1, fun q hq => ?_⟩⟩
        · conv => lhs; unfold p_X3_readsLaw_L12
          simp only [if_neg n1, qg, qp, obS, if_neg c0, a2, pcI, if_true]
          simp only [p_X3_readsLaw_L12, if_true, bool0]
        · rw [ms_ne _ _ (by omega)]
          exact a5
        · rw [ms_ne _ _ (by omega)]
          exact a6
        · rw [ms_ne _ _ (by omega), ms_ne _ _ (by omega)]
          exact a7
        · by_cases c : q = 13
          · omega
          · rw [ms_ne _ _ c]
            exact a9.2 q hq
theorem readsLaw_both {A : hA} {R0 : sMem} {S0 : hS} {s0 : mSt} {g : Nat → Nat} {n : Nat} {u : Nat → Int32} (m : Nat) (h0 : PS A R0 S0 s0 g 1 n u) (h13 : S0.1 13 = .int (nI 0)) : LOUT A R0 S0 s0 g n u (f_X0_readsLaw g (hX A) (hMem A R0 S0)) (p_X3_readsLaw m s0) := by
  have hb := h0.2.1.base h0.1
  have hc0 := h0.2.1
  -- the Text
  have nO : ∀ K, sNewO (hMem A R0 S0) 1 [.null, .null, .null, .int 0] 4 K = K R0.2.1 (hMem A (sNew R0 (sObj 1 [.null, .null, .null, .int 0]) 4) S0) := fun K => hNewO hc0 S0 1 _ 4 K
  have hc1 := hc0.new (sObj 1 [.null, .null, .null, .int 0]) 4
  have x1 := hEx.new hc0 (sObj 1 [.null, .null, .null, .int 0]) 4
  have v1 := sNew_at R0 (sObj 1 [.null, .null, .null, .int 0]) 4
  have a1 : (sNew R0 (sObj 1 [.null, .null, .null, .int 0]) 4).2.1 = R0.2.1 + 1 := rfl
  generalize hr : R0.2.1 = r at *
  generalize sNew R0 (sObj 1 [.null, .null, .null, .int 0]) 4 = R1 at *
  -- words
  have nW : ∀ K, sNewA (hMem A R1 S0) 0 16 K = K R1.2.1 (hMem A (sNew R1 (sArr 0 16 (fun _ => 0)) 16) S0) := fun K => hNewA hc1 S0 (n := 16) (by omega) K
  have hc2 := hc1.new (sArr 0 16 (fun _ => 0)) 16
  have x2 := x1.trans (hEx.new hc1 (sArr 0 16 (fun _ => 0)) 16)
  have v2 := sNew_ne R1 (sArr 0 16 (fun _ => 0)) 16 (a := r) (by omega)
  rw [v1] at v2
  have w2 := sNew_at R1 (sArr 0 16 (fun _ => 0)) 16
  have a2 : (sNew R1 (sArr 0 16 (fun _ => 0)) 16).2.1 = R1.2.1 + 1 := rfl
  rw [a1] at w2 a2 nW
  generalize sNew R1 (sArr 0 16 (fun _ => 0)) 16 = R2 at *
  have p0 : sPut (hMem A R2 S0) 1 0 r (.ref (r + 1)) = some (hMem A (sUp R2 r (sObj 1 [.ref (r + 1), .null, .null, .int 0])) S0) := hR_put hc2 S0 v2 (by omega) (k := 0) (by simp) _
  have hc3 := hc2.up (e := sObj 1 [.ref (r + 1), .null, .null, .int 0]) v2
  have x3 := hEx.up hc0 x2 (a := r) (by omega) (sObj 1 [.ref (r + 1), .null, .null, .int 0])
  have v3 := sUp_at R2 r (sObj 1 [.ref (r + 1), .null, .null, .int 0])
  have w3 := sUp_ne R2 (a := r) (b := r + 1) (sObj 1 [.ref (r + 1), .null, .null, .int 0]) (by omega)
  rw [w2] at w3
  have a3 : (sUp R2 r (sObj 1 [.ref (r + 1), .null, .null, .int 0])).2.1 = R2.2.1 := rfl
  rw [a2] at a3
  generalize sUp R2 r (sObj 1 [.ref (r + 1), .null, .null, .int 0]) = R3 at *
  -- what is told
  have nQ : ∀ K, sNewQ (hMem A R3 S0) 4 16 K = K R3.2.1 (hMem A (sNew R3 (sArq 4 16 (fun _ => none)) 16) S0) := fun K => hNewQ hc3 S0 (n := 16) (by omega) K
  have hc4 := hc3.new (sArq 4 16 (fun _ => none)) 16
  have x4 := x3.trans (hEx.new hc3 (sArq 4 16 (fun _ => none)) 16)
  have v4 := sNew_ne R3 (sArq 4 16 (fun _ => none)) 16 (a := r) (by omega)
  rw [v3] at v4
  have w4 := sNew_ne R3 (sArq 4 16 (fun _ => none)) 16 (a := r + 1) (by omega)
  rw [w3] at w4
  have o4 := sNew_at R3 (sArq 4 16 (fun _ => none)) 16
  have a4 : (sNew R3 (sArq 4 16 (fun _ => none)) 16).2.1 = R3.2.1 + 1 := rfl
  rw [a3] at o4 a4 nQ
  generalize sNew R3 (sArq 4 16 (fun _ => none)) 16 = R4 at *
  have p1 : sPut (hMem A R4 S0) 1 1 r (.ref (r + 1 + 1)) = some (hMem A (sUp R4 r (sObj 1 [.ref (r + 1), .ref (r + 1 + 1), .null, .int 0])) S0) := hR_put hc4 S0 v4 (by omega) (k := 1) (by simp) _
  have hc5 := hc4.up (e := sObj 1 [.ref (r + 1), .ref (r + 1 + 1), .null, .int 0]) v4
  have x5 := hEx.up hc0 x4 (a := r) (by omega) (sObj 1 [.ref (r + 1), .ref (r + 1 + 1), .null, .int 0])
  have v5 := sUp_at R4 r (sObj 1 [.ref (r + 1), .ref (r + 1 + 1), .null, .int 0])
  have w5 := sUp_ne R4 (a := r) (b := r + 1) (sObj 1 [.ref (r + 1), .ref (r + 1 + 1), .null, .int 0]) (by omega)
  rw [w4] at w5
  have o5 := sUp_ne R4 (a := r) (b := r + 1 + 1) (sObj 1 [.ref (r + 1), .ref (r + 1 + 1), .null, .int 0]) (by omega)
  rw [o4] at o5
  have a5 : (sUp R4 r (sObj 1 [.ref (r + 1), .ref (r + 1 + 1), .null, .int 0])).2.1 = R4.2.1 := rfl
  rw [a4] at a5
  generalize sUp R4 r (sObj 1 [.ref (r + 1), .ref (r + 1 + 1), .null, .int 0]) = R5 at *
  -- when
  have nN : ∀ K, sNewQ (hMem A R5 S0) 4 16 K = K R5.2.1 (hMem A (sNew R5 (sArq 4 16 (fun _ => none)) 16) S0) := fun K => hNewQ hc5 S0 (n := 16) (by omega) K
  have hc6 := hc5.new (sArq 4 16 (fun _ => none)) 16
  have x6 := x5.trans (hEx.new hc5 (sArq 4 16 (fun _ => none)) 16)
  have v6 := sNew_ne R5 (sArq 4 16 (fun _ => none)) 16 (a := r) (by omega)
  rw [v5] at v6
  have w6 := sNew_ne R5 (sArq 4 16 (fun _ => none)) 16 (a := r + 1) (by omega)
  rw [w5] at w6
  have o6 := sNew_ne R5 (sArq 4 16 (fun _ => none)) 16 (a := r + 1 + 1) (by omega)
  rw [o5] at o6
  have n6 := sNew_at R5 (sArq 4 16 (fun _ => none)) 16
  rw [a5] at n6 nN
  generalize sNew R5 (sArq 4 16 (fun _ => none)) 16 = R6 at *
  have p2 : sPut (hMem A R6 S0) 1 2 r (.ref (r + 1 + 1 + 1)) = some (hMem A (sUp R6 r (sObj 1 [.ref (r + 1), .ref (r + 1 + 1), .ref (r + 1 + 1 + 1), .int 0])) S0) := hR_put hc6 S0 v6 (by omega) (k := 2) (by simp) _
  have hc7 := hc6.up (e := sObj 1 [.ref (r + 1), .ref (r + 1 + 1), .ref (r + 1 + 1 + 1), .int 0]) v6
  have x7 := hEx.up hc0 x6 (a := r) (by omega) (sObj 1 [.ref (r + 1), .ref (r + 1 + 1), .ref (r + 1 + 1 + 1), .int 0])
  have v7 := sUp_at R6 r (sObj 1 [.ref (r + 1), .ref (r + 1 + 1), .ref (r + 1 + 1 + 1), .int 0])
  have w7 := sUp_ne R6 (a := r) (b := r + 1) (sObj 1 [.ref (r + 1), .ref (r + 1 + 1), .ref (r + 1 + 1 + 1), .int 0]) (by omega)
  rw [w6] at w7
  have o7 := sUp_ne R6 (a := r) (b := r + 1 + 1) (sObj 1 [.ref (r + 1), .ref (r + 1 + 1), .ref (r + 1 + 1 + 1), .int 0]) (by omega)
  rw [o6] at o7
  have n7 := sUp_ne R6 (a := r) (b := r + 1 + 1 + 1) (sObj 1 [.ref (r + 1), .ref (r + 1 + 1), .ref (r + 1 + 1 + 1), .int 0]) (by omega)
  rw [n6] at n7
  generalize sUp R6 r (sObj 1 [.ref (r + 1), .ref (r + 1 + 1), .ref (r + 1 + 1 + 1), .int 0]) = R7 at *
  have E1 : f_X0_readsLaw g (hX A) (hMem A R0 S0) = f_X0_readsLaw_L8 g (hX A) r sFuel (hMem A R7 S0) := by
    simp only [f_X0_readsLaw, nO, f_X1_init, nW, p0, obS, nQ, p1, nN, p2, sCallV, hcV]
  have E2 : p_X3_readsLaw m s0 = p_X3_readsLaw_L12 m sFuel 1 (mSet (mSet s0 13 0) 14 0) := by
    simp only [p_X3_readsLaw, qp, obS]
  rw [E1, E2]
  have z : stN (mSet (mSet s0 13 0) 14 0) = 0 := by
    show cv _ = 0
    rw [ms_same, cv_0]
  have hf := h0.fr
  refine law_loop m h0 400 R7 S0 (mSet (mSet s0 13 0) 14 0) 0 (fun _ => 0) (fun _ => none) (fun _ => none) (by omega) ⟨h0.ex (s' := mSet (mSet s0 13 0) 14 0) x7.1 hc7 rfl (fun q hq => by rw [ms_ne _ _ (by omega), ms_ne _ _ (by omega)]), ?_, ?_, h13, ⟨?_, by omega, fun _ _ => rfl, fun l hl => by omega⟩, ⟨v7, w7, o7, n7, by omega, by omega, by omega, by omega, by omega, by omega, by omega, by omega, by omega, by omega, by omega⟩, x7.le (by omega) (by omega), SF.refl S0, ⟨fun _ _ _ _ => rfl, fun q hq => (ms_ne _ 0 (by omega)).trans (ms_ne s0 0 (by omega))⟩⟩ sFuel sFuel (by decide) (by decide)
  · rw [z, ms_same]
    rfl
  · rw [z]
    omega
  · rw [ms_ne _ _ (by omega), ms_same]
    rfl
