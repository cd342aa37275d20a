/-! a query, whole: both sides -/
set_option maxRecDepth 100000
theorem query_both {A : hA} {R : sMem} {S : hS} {s : mSt} {g : Nat → Nat} {rd n F r : Nat} {u : Nat → Int32} (m : Nat) (h : PS A R S s g rd n u) (hF : F ≤ 10) (hr : r < 16) {q18 : Nat} {f18 : Nat → Option Nat} (r18 : R.2.2.2 q18 = some (sArq 5 F f18)) (e18 : S.1 18 = .ref q18) (h572 : s.2 0 572 = nI F) (h15 : s.1 15 = nI r) : QRES A R S s g rd n u r (f_X0_query g (hX A) (hMem A R S)) (p_X3_aQuery m s) := by
  have lq := fun S => hR_lenq h.2.1 S r18
  have h0 : PS A R S (mSet s 26 0) g rd n u := h.ex (fun _ _ q => q) h.2.1 rfl (fun q hq => ms_ne _ _ (by omega))
  have t0 : tAt (mSet s 26 0) = tAt s := congrArg cv (ms_ne s _ (by omega))
  have mf0 : MF s (mSet s 26 0) := ⟨fun _ _ _ _ => rfl, fun q hq => ms_ne s _ (by omega)⟩
  have E2 : p_X3_aQuery m s = pCI (pwM m 14 (mSet s 26 0)) fun x5 M4 => if x5 = 0 then some (some (.int 0), M4) else pCI (pwM m 15 M4) fun x9 M8 => if x9 = 0 then some (some (.int 0), M8) else p_X3_aQuery_L39 m sFuel M8 := by
    rw [← pw_assoc]
    simp only [← pw_assoc]
    simp only [p_X3_aQuery, qp, obS]
    rfl
  have E1 : f_X0_query g (hX A) (hMem A R S) = sCallI (f_X0_told g (hX A) (g (10 + 14)) 0 (nI F - 1) (hMem A R S)) fun x4 M3 => (sGetN M3 0 18 (hX A)).bind fun r5 => (sLen M3 r5).bind fun x6 => sChk M3 0 (hX A) (sCallI (f_X0_told g (hX A) (g (10 + 15)) 0 (x6 - 1) M3) fun x8 M7 => f_X0_query_L36 g (hX A) sFuel (((1 : Int32) <<< (x4 &&& 31)) ||| ((1 : Int32) <<< (x8 &&& 31))) M7) := by
    simp only [f_X0_query, xgN_18 h.1, e18, hvN_ref, obS, lq, hx_chk h.1]
  rw [E1, E2]
  have n1 : ¬ (1 : Int32) = 0 := by decide
  rcases wm_both m h0 hF h572 (j := 14) (by omega) (by decide) (by decide) with ⟨v, S1, s1, p1, p2, p3, p4, b1, b2, b3, b4, b5, b6⟩ | hX
  · have e18' : S1.1 18 = .ref q18 := (b1.2 18 (by omega)).trans e18
    simp only [sCallI, p2, hcI, xgN_18 h.1, e18', hvN_ref, obS, lq, hx_chk h.1, p3, pcI, if_neg n1]
    have h572' : s1.2 0 572 = nI F := by rw [b3]; exact h572
    rcases wm_both m p4 hF h572' (j := 15) (by omega) (by decide) (by decide) with ⟨v2, S2, s2, q1, q2, q3, q4, c1, c2, c3, c4, c5, c6⟩ | hX
    · have e18'' : S2.1 18 = .ref q18 := (c1.2 18 (by omega)).trans e18'
      simp only [q2, hcI, q3, pcI, if_neg n1]
      have hz : (mSet s 26 0).1 26 = 0 := ms_same s 26 0
      have ex : s2.1 26 = (((1 : Int32) <<< (nI v &&& 31)) ||| ((1 : Int32) <<< (nI v2 &&& 31))) := by
        rw [c5, b5, hz, Int32.zero_or]
      have hn := q4.fr
      rcases query_loop m hF hr r18 400 S2 s2 _ (by omega) q4 e18'' (by rw [c3]; exact h572') ((c4 15 (by omega) (by omega)).trans ((b4 15 (by omega) (by omega)).trans ((ms_ne s _ (by omega)).trans h15))) ex sFuel sFuel (by decide) (by decide) with ⟨y, S3, s3, a1, a2, a3, a4, a5, a6, a7, a8⟩ | hX
      · left
        refine ⟨y, S3, s3, a1, a2, a3, (b1.trans c1).trans a4, a5.trans (c2.trans b2), ?_, fun q hq h26 => (a7 q hq h26).trans ((c4 q hq h26).trans ((b4 q hq h26).trans (ms_ne s _ h26))), by omega⟩
        rw [a6]
        unfold mR6 mRowSet
        simp only [c3, b3]
        rfl
      · right
        exact hX.after (S := S) (s := s) (by omega) ((hEx.refl R).le (by omega) (by omega)) (b1.trans c1) ⟨fun j _ _ _ => by rw [c3, b3]; rfl, fun q hq => (c4 q (by omega) (by omega)).trans ((b4 q (by omega) (by omega)).trans (ms_ne s _ (by omega)))⟩
    · right
      have hX' := hX.after (R := R) (S := S) (s := s) (by omega) ((hEx.refl R).le (by omega) (by omega)) b1 ⟨fun j _ _ _ => by rw [b3]; rfl, fun q hq => (b4 q (by omega) (by omega)).trans (ms_ne s _ (by omega))⟩
      obtain ⟨q, k, R', S', s', q1, q2, rest⟩ := hX'
      refine ⟨q, k, R', S', s', ?_, ?_, rest⟩
      · simp only [q1, hcX]
      · simp only [q2, pcI, if_true]
  · right
    have hX' := hX.after (R := R) (S := S) (s := s) (by omega) ((hEx.refl R).le (by omega) (by omega)) (SF.refl S) mf0
    obtain ⟨q, k, R', S', s', q1, q2, rest⟩ := hX'
    refine ⟨q, k, R', S', s', ?_, ?_, rest⟩
    · simp only [sCallI, q1, hcX]
    · simp only [q2, pcI, if_true]
