/-! the next token: both sides, joined -/
set_option maxRecDepth 100000
theorem ble_no {c : Int32} (h : blB c = false) : ¬ c = 32 ∧ ¬ c = 10 := by
  unfold blB at h
  constructor
  · intro q
    rw [q] at h
    exact absurd h (by decide)
  · intro q
    rw [q] at h
    exact absurd h (by decide)
theorem ble_yes {c : Int32} (h : blB c = true) : c = 32 ∨ c = 10 := by
  unfold blB at h
  simpa using h
theorem bl_c {A : hA} {R : sMem} {g : Nat → Nat} {n e : Nat} {u : Nat → Int32} (hg : hG A) (hen : e ≤ n) : ∀ (d k : Nat), k + d = e → (∀ j, k ≤ j → j < e → blB (rw n u j) = true) → blB (rw n u e) = false → ∀ (S : hS), tpC S n u → S.1 10 = .int (nI k) → ∀ fu, d < fu → ∃ S', f_X0_readNext_L0 g (hX A) fu (hMem A R S) = f_X0_readNext_L0 g (hX A) 1 (hMem A R S') ∧ S'.1 10 = .int (nI e) ∧ S'.2 = S.2 ∧ ∀ q, q ≠ 10 → S'.1 q = S.1 q
  | 0, k, hk, hl, hle, S, h, h10, fu, hf => by
    obtain ⟨fu, rfl⟩ : ∃ p, fu = p + 1 := ⟨fu - 1, by omega⟩
    have k0 : k = e := by omega
    subst k0
    have hn := h.1
    have er := raw_c (R := R) hg h (k := k) (by omega)
    obtain ⟨n32, n10⟩ := ble_no hle
    refine ⟨S, ?_, h10, rfl, fun _ _ => rfl⟩
    simp only [f_X0_readNext_L0, xgI_10 hg, h10, hvI_int, obS, hx_chk hg, er, sCallI, hcI, if_neg n32, if_neg n10]
  | d + 1, k, hk, hl, hle, S, h, h10, fu, hf => by
    obtain ⟨fu, rfl⟩ : ∃ p, fu = p + 1 := ⟨fu - 1, by omega⟩
    have hn := h.1
    have er := raw_c (R := R) hg h (k := k) (by omega)
    have e1 : nI k + 1 = nI (k + 1) := (nI_succ k).symm
    obtain ⟨S', i1, i2, i3, i4⟩ := bl_c (R := R) (g := g) hg hen d (k + 1) (by omega) (fun j h1 h2 => hl j (by omega) h2) hle (hF S 10 (.int (nI (k + 1)))) ⟨h.1, (hF_ne _ _ (by omega)).trans h.2.1, h.2.2⟩ (hF_same _ _ _) fu (by omega)
    refine ⟨S', ?_, i2, i3, fun q hq => (i4 q hq).trans (hF_ne _ _ hq)⟩
    rw [← i1]
    conv => lhs; unfold f_X0_readNext_L0
    rcases ble_yes (hl k (Nat.le_refl _) (by omega)) with q | q
    · rw [q] at er
      simp only [xgI_10 hg, h10, hvI_int, obS, hx_chk hg, er, sCallI, hcI, if_true, f_X0_readNext_J26, xp_10 hg, e1]
    · rw [q] at er
      simp only [xgI_10 hg, h10, hvI_int, obS, hx_chk hg, er, sCallI, hcI, if_true, if_neg (show ¬ (10 : Int32) = 32 by decide), f_X0_readNext_J26, xp_10 hg, e1]
theorem bl_m {n e : Nat} {u : Nat → Int32} (m : Nat) (hen : e ≤ n) : ∀ (d k : Nat), k + d = e → (∀ j, k ≤ j → j < e → blB (rw n u j) = true) → blB (rw n u e) = false → ∀ (s : mSt), tpM s n u → s.1 17 = nI k → ∀ fu, d < fu → p_X3_next0_L0 m fu s = p_X3_next0_L0 m 1 (mSet s 17 (nI e))
  | 0, k, hk, hl, hle, s, h, h17, fu, hf => by
    obtain ⟨fu, rfl⟩ : ∃ p, fu = p + 1 := ⟨fu - 1, by omega⟩
    have k0 : k = e := by omega
    subst k0
    have hn := h.1
    obtain ⟨n32, n10⟩ := ble_no hle
    rw [ms_self s h17]
    simp only [p_X3_next0_L0, qg, h17, obS, see_m h m (k := k) (by omega), pcI, if_neg n32, if_neg n10]
  | d + 1, k, hk, hl, hle, s, h, h17, fu, hf => by
    obtain ⟨fu, rfl⟩ : ∃ p, fu = p + 1 := ⟨fu - 1, by omega⟩
    have hn := h.1
    have e1 : nI k + 1 = nI (k + 1) := (nI_succ k).symm
    have ih := bl_m m hen d (k + 1) (by omega) (fun j h1 h2 => hl j (by omega) h2) hle (mSet s 17 (nI (k + 1))) ⟨h.1, (ms_ne _ _ (by omega)).trans h.2.1, h.2.2⟩ (ms_same _ _ _) fu (by omega)
    rw [ms_ms] at ih
    rw [← ih]
    have er := see_m h m (k := k) (by omega)
    conv => lhs; unfold p_X3_next0_L0
    rcases ble_yes (hl k (Nat.le_refl _) (by omega)) with q | q
    · rw [q] at er
      simp only [qg, qp, h17, obS, er, pcI, if_true, p_X3_next0_J26, e1]
    · rw [q] at er
      simp only [qg, qp, h17, obS, er, pcI, if_true, if_neg (show ¬ (10 : Int32) = 32 by decide), p_X3_next0_J26, e1]
theorem st_c {A : hA} {R : sMem} {g : Nat → Nat} {n fr : Nat} {u : Nat → Int32} (hg : hG A) (hen : fr ≤ n) (hle : blB (rw n u fr) = false) {S : hS} (h : tpC S n u) (h10 : S.1 10 = .int (nI fr)) : f_X0_readNext_L0 g (hX A) 1 (hMem A R S) = f_X0_readNext_J71 g (hX A) (rw n u fr) (if rw n u fr = -1 then g 0 else g 1) (hX A) (hMem A R (hF S 11 (.int (nI fr)))) := by
  have hn := h.1
  have er := raw_c (R := R) hg h (k := fr) (by omega)
  obtain ⟨n32, n10⟩ := ble_no hle
  have h' : tpC (hF S 11 (.int (nI fr))) n u := ⟨h.1, (hF_ne _ _ (by omega)).trans h.2.1, h.2.2⟩
  have er' := raw_c (R := R) hg h' (k := fr) (by omega)
  have f10 : (hF S 11 (.int (nI fr))).1 10 = .int (nI fr) := (hF_ne _ _ (by omega)).trans h10
  simp only [f_X0_readNext_L0, xgI_10 hg, h10, hvI_int, obS, hx_chk hg, er, sCallI, hcI, if_neg n32, if_neg n10, xp_11 hg, f10, er']
  split <;> rfl
theorem ite_or' {α : Sort _} (a b : Prop) [Decidable a] [Decidable b] (x y : α) : (if a then x else if b then x else y) = if a ∨ b then x else y := by
  by_cases h1 : a
  · rw [if_pos h1, if_pos (Or.inl h1)]
  · rw [if_neg h1]
    by_cases h2 : b
    · rw [if_pos h2, if_pos (Or.inr h2)]
    · rw [if_neg h2, if_neg (fun q => q.elim h1 h2)]
theorem st_m {n fr : Nat} {u : Nat → Int32} (m : Nat) (hen : fr ≤ n) (hle : blB (rw n u fr) = false) {s : mSt} (h : tpM s n u) (h17 : s.1 17 = nI fr) : p_X3_next0_L0 m 1 s = if rw n u fr = -1 then some (none, mSet (mSet s 19 (nI fr)) 18 0) else if ltB (rw n u fr) = true then p_X3_next0_L76 m sFuel (mSet s 19 (nI fr)) else if dgB (rw n u fr) = true then p_X3_next0_L126 m sFuel (mSet (mSet s 19 (nI fr)) 20 0) else p_X3_next0_J289 m (rw n u fr) (b01 (sgB (rw n u fr))) (mSet (mSet s 19 (nI fr)) 17 (nI (fr + 1))) := by
  have hn := h.1
  obtain ⟨n32, n10⟩ := ble_no hle
  have h' : tpM (mSet s 19 (nI fr)) n u := ⟨h.1, (ms_ne _ _ (by omega)).trans h.2.1, h.2.2⟩
  have f17 : (mSet s 19 (nI fr)).1 17 = nI fr := (ms_ne _ _ (by omega)).trans h17
  have er := see_m h m (k := fr) (by omega)
  have er' := see_m h' m (k := fr) (by omega)
  have e1 : nI fr + 1 = nI (fr + 1) := (nI_succ fr).symm
  generalize hc : rw n u fr = c at *
  simp only [p_X3_next0_L0, qg, qp, h17, obS, er, er', pcI, if_neg n32, if_neg n10, f17, letter_m, digit_m, b01z, e1, ite_or']
  by_cases c1 : c = -1
  · rw [if_pos c1, if_pos c1]
  · rw [if_neg c1, if_neg c1]
    cases ltB c with
    | true => rfl
    | false =>
      cases dgB c with
      | true => rfl
      | false =>
        simp only [Bool.false_eq_true, if_false]
        by_cases c2 : c = 59 ∨ c = 43 ∨ c = 45 ∨ c = 42 ∨ c = 47 ∨ c = 40 ∨ c = 41 ∨ c = 60 ∨ c = 61 ∨ c = 62
        · have : sgB c = true := by simpa [sgB, or_assoc] using c2
          rw [if_pos c2, this]
          rfl
        · have : sgB c = false := by
            cases q : sgB c with
            | false => rfl
            | true => exact absurd (by simpa [sgB, or_assoc] using q) c2
          rw [if_neg c2, this]
          rfl
/-- which of the five kinds a code is -/
def kd (t : Int32) : Nat := if t = 0 then 0 else if t = 1 then 1 else if t = 2 then 3 else if 100 ≤ t then 4 else 2
/-- the token as both sides hold it -/
def tokR (u : Nat → Int32) (rd n fr e : Nat) (t vc vl : Int32) : Prop := (t = 0 ∧ fr = n ∧ e = n) ∨ (fr < e ∧ (t = 1 ∨ (∃ j, j ∈ wLst rd ∧ splB u fr e j = true ∧ t = cd j) ∨ (∃ v, v ≤ 9999 ∧ t = 2 ∧ vc = nI v ∧ vl = nI v) ∨ ∃ c, c < 128 ∧ sgB (nI c) = true ∧ t = nI (100 + c) ∧ vc = nI c))
def PO (S : hS) (s : mSt) (g : Nat → Nat) (u : Nat → Int32) (rd n fr e : Nat) : Prop := ∃ vc, S.1 9 = .ref (g (kd (s.1 18))) ∧ S.1 10 = .int (nI e) ∧ S.1 11 = .int (nI fr) ∧ (3 ≤ kd (s.1 18) → S.1 12 = .int vc) ∧ s.1 17 = nI e ∧ s.1 19 = nI fr ∧ fr ≤ e ∧ e ≤ n ∧ tokR u rd n fr e (s.1 18) vc (s.1 20)
theorem kd_w : ∀ rd, rd < 4 → ∀ j, j ∈ wLst rd → kd (cd j) = 2 := by decide
theorem kd_s : ∀ c, c < 128 → kd (nI (100 + c)) = 4 := by decide +kernel
theorem next_both {A : hA} {R : sMem} {S : hS} {g : Nat → Nat} {n rd k : Nat} {u : Nat → Int32} {s : mSt} (m : Nat) (hg : hG A) (hc : hCl A R) (hT : ∀ (S : hS) j, j < 26 → sStg (hMem A R S) (g (10 + j)) (txLen j) (fun i => (txByt j).getD i 0)) (hu : tbU n u) (hC : tpC S n u) (hM : tpM s n u) (hr : rd < 4) (hw : wR R S g rd) (h12m : s.1 12 = nI rd) (h10 : S.1 10 = .int (nI k)) (h17 : s.1 17 = nI k) (hk : k ≤ n) : ∃ S' s' fr e, f_X0_readNext g (hX A) (hMem A R S) = some (.inl none, hMem A R S') ∧ p_X3_next0 m s = some (none, s') ∧ S'.2 = S.2 ∧ (∀ q, q < 9 ∨ 12 < q → S'.1 q = S.1 q) ∧ s'.2 = s.2 ∧ (∀ q, q < 17 ∨ 20 < q → s'.1 q = s.1 q) ∧ k ≤ fr ∧ PO S' s' g u rd n fr e := by
  have hn := hC.1
  obtain ⟨fr, b1, b2, b3, b4⟩ := run_ex blB blB_0 n u (n - k) k (by omega)
  obtain ⟨S1, i1, i2, i3, i4⟩ := bl_c (R := R) (g := g) hg b2 (fr - k) k (by omega) b4 b3 S hC h10 sFuel (by show _ < 1000000; omega)
  have j1 := bl_m m b2 (fr - k) k (by omega) b4 b3 s hM h17 sFuel (by show _ < 1000000; omega)
  have hC1 : tpC S1 n u := ⟨hC.1, (i4 _ (by omega)).trans hC.2.1, by rw [i3]; exact hC.2.2⟩
  have hM1 : tpM (mSet s 17 (nI fr)) n u := ⟨hM.1, (ms_ne _ _ (by omega)).trans hM.2.1, hM.2.2⟩
  have cS := st_c (R := R) (g := g) hg b2 b3 hC1 i2
  have mS := st_m m b2 b3 hM1 (ms_same _ _ _)
  have C0 : f_X0_readNext g (hX A) (hMem A R S) = _ := i1.trans cS
  have M0 : p_X3_next0 m s = _ := j1.trans mS
  clear i1 cS j1 mS
  generalize hS2 : hF S1 11 (.int (nI fr)) = S2 at C0
  generalize hs2 : mSet (mSet s 17 (nI fr)) 19 (nI fr) = s2 at M0
  have S2_2 : S2.2 = S.2 := by rw [← hS2]; exact i3
  have S2_q : ∀ q, q ≠ 10 → q ≠ 11 → S2.1 q = S.1 q := fun q h1 h2 => by rw [← hS2, hF_ne _ _ h2, i4 _ h1]
  have S2_10 : S2.1 10 = .int (nI fr) := by rw [← hS2, hF_ne _ _ (by omega)]; exact i2
  have S2_11 : S2.1 11 = .int (nI fr) := by rw [← hS2, hF_same]
  have s2_2 : s2.2 = s.2 := by rw [← hs2]; rfl
  have s2_17 : s2.1 17 = nI fr := by rw [← hs2, ms_ne _ _ (by omega), ms_same]
  have s2_19 : s2.1 19 = nI fr := by rw [← hs2, ms_same]
  have s2_q : ∀ q, q ≠ 17 → q ≠ 19 → s2.1 q = s.1 q := fun q h1 h2 => by rw [← hs2, ms_ne _ _ h2, ms_ne _ _ h1]
  clear hS2 hs2 hC1 hM1 i2 i3 i4
  by_cases hfn : fr = n
  · -- the end
    have e1 : rw n u fr = -1 := rw_ge (by omega)
    rw [e1] at C0 M0
    rw [if_pos rfl] at C0 M0
    refine ⟨hF S2 9 (.ref (g 0)), mSet s2 18 0, fr, fr, ?_, M0, S2_2, fun q hq => by rw [hF_ne _ _ (by omega), S2_q _ (by omega) (by omega)], s2_2, fun q hq => by rw [ms_ne _ _ (by omega), s2_q _ (by omega) (by omega)], b1, 0, ?_, ?_, ?_, ?_, ?_, ?_, Nat.le_refl _, b2, ?_⟩
    · rw [C0]
      simp only [f_X0_readNext_J71, xp_9 hg, obS, if_true]
    · rw [hF_same, ms_same]
      rfl
    · rw [hF_ne _ _ (by omega), S2_10]
    · rw [hF_ne _ _ (by omega), S2_11]
    · intro q
      rw [ms_same] at q
      exact absurd q (by decide)
    · rw [ms_ne _ _ (by omega), s2_17]
    · rw [ms_ne _ _ (by omega), s2_19]
    · exact Or.inl ⟨ms_same _ _ _, hfn, hfn⟩
  · have hfl : fr < n := by omega
    have ew : rw n u fr = u fr := rw_lt hfl
    obtain ⟨c, hc256, ec⟩ := hu fr hfl
    have ewc : rw n u fr = nI c := ew.trans ec
    have nm1 : ¬ nI c = -1 := nI_m1 c (by omega)
    rw [ewc, if_neg nm1] at C0 M0
    have e1 : nI fr + 1 = nI (fr + 1) := (nI_succ fr).symm
    generalize hS3 : hF (hF S2 9 (.ref (g 1))) 10 (.int (nI (fr + 1))) = S3
    have S3_2 : S3.2 = S.2 := by rw [← hS3]; exact S2_2
    have S3_q : ∀ q, q ≠ 9 → q ≠ 10 → q ≠ 11 → S3.1 q = S.1 q := fun q h1 h2 h3 => by rw [← hS3, hF_ne _ _ h2, hF_ne _ _ h1, S2_q _ h2 h3]
    have S3_9 : S3.1 9 = .ref (g 1) := by rw [← hS3, hF_ne _ _ (by omega), hF_same]
    have S3_10 : S3.1 10 = .int (nI (fr + 1)) := by rw [← hS3, hF_same]
    have S3_11 : S3.1 11 = .int (nI fr) := by rw [← hS3, hF_ne _ _ (by omega), hF_ne _ _ (by omega), S2_11]
    have hC3 : tpC S3 n u := ⟨hC.1, (S3_q _ (by omega) (by omega) (by omega)).trans hC.2.1, by rw [S3_2]; exact hC.2.2⟩
    have hM2 : tpM s2 n u := ⟨hM.1, (s2_q _ (by omega) (by omega)).trans hM.2.1, by rw [s2_2]; exact hM.2.2⟩
    have C1 : f_X0_readNext g (hX A) (hMem A R S) = if b01 (ltB (nI c)) = 0 then (if b01 (dgB (nI c)) = 0 then (if sgP ((nI c).toInt8.toInt32) < 0 then some (.inl none, hMem A R S3) else some (.inl none, hMem A R (hF (hF S3 9 (.ref (g 4))) 12 (.int (nI c))))) else f_X0_readNext_L192 g (hX A) sFuel (hMem A R (hF S3 12 (.int (nI c - 48))))) else f_X0_readNext_L97 g (hX A) sFuel (hMem A R S3) := by
      rw [C0]
      have f10 : (hF S2 9 (.ref (g 1))).1 10 = .int (nI fr) := by rw [hF_ne _ _ (by omega), S2_10]
      have hsg := stg_sign (hT S3 4 (by omega)) hc256
      simp only [f_X0_readNext_J71, xp_9 hg, obS, if_neg nm1, xgI_10 hg, f10, hvI_int, e1, xp_10 hg, hS3, letter_c, digit_c, sCallI, hcI, stg_chk (hT S3 4 (by omega)), hsg, xp_12 hg]
    clear C0
    cases hlt : ltB (nI c) with
    | true =>
      rw [hlt, if_neg b01_1] at C1
      rw [hlt, if_pos rfl] at M0
      obtain ⟨e, a1, a2, a3, a4⟩ := run_ex ltB ltB_0 n u (n - (fr + 1)) (fr + 1) (by omega)
      obtain ⟨S4, k1, k2, k3, k4⟩ := ltr_c (R := R) (g := g) hg a2 (e - (fr + 1)) (fr + 1) (by omega) a4 a3 S3 hC3 S3_10 sFuel (by show _ < 1000000; omega)
      have l1 := ltr_m m a2 (e - fr) fr (by omega) (fun j h1 h2 => by
        by_cases q : j = fr
        · rw [q, ewc]
          exact hlt
        · exact a4 j (by omega) h2) a3 s2 hM2 s2_17 sFuel (by show _ < 1000000; omega)
      have hC4 : tpC S4 n u := ⟨hC.1, (k4 _ (by omega)).trans hC3.2.1, by rw [k3]; exact hC3.2.2⟩
      have hw4 : wR R S4 g rd := by
        obtain ⟨q6, q7, q8, h6, h7, h8, e6, e7, e8, rest⟩ := hw
        exact ⟨q6, q7, q8, h6, h7, h8, by rw [k4 _ (by omega), S3_q _ (by omega) (by omega) (by omega)]; exact e6, by rw [k4 _ (by omega), S3_q _ (by omega) (by omega) (by omega)]; exact e7, by rw [k4 _ (by omega), S3_q _ (by omega) (by omega) (by omega)]; exact e8, rest⟩
      obtain ⟨S5, w1, w2, w3, w4⟩ := word_c hg hc hT hC4 k2 ((k4 _ (by omega)).trans S3_11) (by omega) a2 hr hw4 a3 0
      have hM4 : tpM (mSet s2 17 (nI e)) n u := ⟨hM.1, (ms_ne _ _ (by omega)).trans hM2.2.1, hM2.2.2⟩
      have hwm := word_m (P := splB u fr e) (s := mSet s2 17 (nI e)) (fun j hj => is_m hM4 (ms_same _ _ _) ((ms_ne _ _ (by omega)).trans s2_19) (by omega) a2 hj) m hr ((ms_ne _ _ (by omega)).trans ((s2_q _ (by omega) (by omega)).trans h12m))
      have l2 : p_X3_next0_L76 m 1 (mSet s2 17 (nI e)) = some (none, mSet (mSet s2 17 (nI e)) 18 (wdL (splB u fr e) (wLst rd))) := by
        have f17 : (mSet s2 17 (nI e)).1 17 = nI e := ms_same _ _ _
        simp only [p_X3_next0_L76, qg, qp, f17, obS, see_m hM4 m (k := e) (by omega), pcI, letter_m, a3, b01_z, if_true, hwm]
      refine ⟨S5, _, fr, e, C1.trans (k1.trans w1), M0.trans (l1.trans l2), w2.trans (k3.trans S3_2), fun q hq => by rw [w3 _ (by omega), k4 _ (by omega), S3_q _ (by omega) (by omega) (by omega)], s2_2, fun q hq => by rw [ms_ne _ _ (by omega), ms_ne _ _ (by omega), s2_q _ (by omega) (by omega)], b1, 0, ?_, ?_, ?_, ?_, ?_, ?_, by omega, a2, Or.inr ⟨by omega, ?_⟩⟩
      · rw [ms_same]
        rcases w4 with ⟨j, x1, x2, x3⟩ | ⟨x1, x2⟩
        · rcases wdL_or (splB u fr e) (wLst rd) with ⟨i, y1, y2, y3⟩ | ⟨y1, y2⟩
          · rw [x3, y3, kd_w rd hr i y1]
          · rw [y1 j x1] at x2
            cases x2
        · rcases wdL_or (splB u fr e) (wLst rd) with ⟨i, y1, y2, y3⟩ | ⟨y1, y2⟩
          · rw [x1 i y1] at y2
            cases y2
          · rw [x2, y2]
            rfl
      · rw [w3 _ (by omega), k2]
      · rw [w3 _ (by omega), k4 _ (by omega), S3_11]
      · intro q
        rw [ms_same] at q
        rcases wdL_or (splB u fr e) (wLst rd) with ⟨i, y1, y2, y3⟩ | ⟨y1, y2⟩
        · rw [y3, kd_w rd hr i y1] at q
          omega
        · rw [y2] at q
          exact absurd q (by decide)
      · rw [ms_ne _ _ (by omega), ms_same]
      · rw [ms_ne _ _ (by omega), ms_ne _ _ (by omega), s2_19]
      · rw [ms_same]
        rcases wdL_or (splB u fr e) (wLst rd) with ⟨i, y1, y2, y3⟩ | ⟨y1, y2⟩
        · exact Or.inr (Or.inl ⟨i, y1, y2, y3⟩)
        · exact Or.inl y2
    | false =>
      rw [hlt, b01_z, if_pos rfl] at C1
      rw [hlt, if_neg (by decide)] at M0
      cases hdg : dgB (nI c) with
      | true =>
        rw [hdg, if_neg b01_1] at C1
        rw [hdg, if_pos rfl] at M0
        have h48 := dg_in c hc256 hdg
        obtain ⟨e, a1, a2, a3, a4⟩ := run_ex dgB dgB_0 n u (n - (fr + 1)) (fr + 1) (by omega)
        have a4' : ∀ j, fr ≤ j → j < e → dgB (rw n u j) = true := fun j h1 h2 => by
          by_cases q : j = fr
          · rw [q, ewc]
            exact hdg
          · exact a4 j (by omega) h2
        have hC4 : tpC (hF S3 12 (.int (nI c - 48))) n u := ⟨hC.1, (hF_ne _ _ (by omega)).trans hC3.2.1, hC3.2.2⟩
        obtain ⟨S5, vc, k1, k2, k3, k4, k5, k6⟩ := dig_c (R := R) (g := g) hg hu a2 (e - (fr + 1)) (fr + 1) (by omega) (by omega) a4' a3 (hF S3 12 (.int (nI c - 48))) (nI c - 48) hC4 ((hF_ne _ _ (by omega)).trans S3_10) ((hF_ne _ _ (by omega)).trans S3_11) (hF_same _ _ _) sFuel (by show _ < 1000000; omega)
        have hM4 : tpM (mSet s2 20 0) n u := ⟨hM.1, (ms_ne _ _ (by omega)).trans hM2.2.1, hM2.2.2⟩
        obtain ⟨s5, vl, l1, l2, l3, l4, l5, l6⟩ := dig_m m hu a2 (e - fr) fr (by omega) (by omega) a4' a3 (mSet s2 20 0) 0 hM4 ((ms_ne _ _ (by omega)).trans s2_17) ((ms_ne _ _ (by omega)).trans s2_19) (ms_same _ _ _) sFuel (by show _ < 1000000; omega)
        have hC5 : tpC S5 n u := ⟨hC.1, (k5 _ (by omega) (by omega)).trans hC4.2.1, by rw [k4]; exact hC4.2.2⟩
        have hM5 : tpM s5 n u := ⟨hM.1, (l5 _ (by omega) (by omega)).trans hM4.2.1, by rw [l4]; exact hM4.2.2⟩
        have S5_11 : S5.1 11 = .int (nI fr) := by rw [k5 _ (by omega) (by omega), hF_ne _ _ (by omega), S3_11]
        have S5_9 : S5.1 9 = .ref (g 1) := by rw [k5 _ (by omega) (by omega), hF_ne _ _ (by omega), S3_9]
        have s5_19 : s5.1 19 = nI fr := by rw [l5 _ (by omega) (by omega), ms_ne _ _ (by omega), s2_19]
        have er := raw_c (R := R) hg hC5 (k := e) (by omega)
        have K : f_X0_readNext_L192 g (hX A) 1 (hMem A R S5) = if (4 : Int32) < nI (e - fr) then some (.inl none, hMem A R S5) else some (.inl none, hMem A R (hF S5 9 (.ref (g 3)))) := by
          simp only [f_X0_readNext_L192, xgI_10 hg, xgI_11 hg, k2, S5_11, hvI_int, obS, hx_chk hg, er, sCallI, hcI, digit_c, a3, b01_z, if_true, nI_mn (show fr ≤ e by omega), xp_9 hg]
        have L : p_X3_next0_L126 m 1 s5 = some (none, mSet s5 18 (if (5 : Int32) ≤ nI (e - fr) then 1 else 2)) := by
          simp only [p_X3_next0_L126, qg, qp, l2, s5_19, obS, see_m hM5 m (k := e) (by omega), pcI, digit_m, a3, b01_z, if_true, nI_mn (show fr ≤ e by omega)]
        have d1 : nI c - 48 = nI (dcN u fr (fr + 1 - fr)) := by
          rw [show fr + 1 - fr = 0 + 1 by omega]
          show nI c - nI 48 = nI (10 * 0 + (cv (u (fr + 0)) - 48))
          rw [Nat.add_zero, ec, cv_nI (by omega), nI_mn h48.1]
          congr 1
          omega
        have d0 : (0 : Int32) = nI (dcN u fr (fr - fr)) := by
          rw [Nat.sub_self]
          rfl
        by_cases c5 : e ≤ fr + 4
        · have q4 : ¬ (4 : Int32) < nI (e - fr) := by
            show ¬ nI 4 < _
            rw [nI_ltI (by omega) (by omega)]
            omega
          have q5 : ¬ (5 : Int32) ≤ nI (e - fr) := by
            show ¬ nI 5 ≤ _
            rw [nI_leI (by omega) (by omega)]
            omega
          rw [if_neg q4] at K
          rw [if_neg q5] at L
          have hlt4 := dcN_lt hu (fr := fr) (e - fr) (by omega) (fun i hi => by
            have := a4' (fr + i) (by omega) (by omega)
            rwa [rw_lt (by omega)] at this)
          have hle4 : dcN u fr (e - fr) ≤ 9999 := by
            have : (10 : Nat) ^ (e - fr) ≤ 10 ^ 4 := Nat.pow_le_pow_right (by omega) (by omega)
            omega
          refine ⟨_, _, fr, e, C1.trans (k1.trans K), M0.trans (l1.trans L), k4.trans S3_2, fun q hq => by rw [hF_ne _ _ (by omega), k5 _ (by omega) (by omega), hF_ne _ _ (by omega), S3_q _ (by omega) (by omega) (by omega)], l4.trans s2_2, fun q hq => by rw [ms_ne _ _ (by omega), l5 _ (by omega) (by omega), ms_ne _ _ (by omega), s2_q _ (by omega) (by omega)], b1, vc, ?_, ?_, ?_, ?_, ?_, ?_, by omega, a2, Or.inr ⟨by omega, Or.inr (Or.inr (Or.inl ⟨dcN u fr (e - fr), hle4, ms_same _ _ _, k6 d1 c5, ?_⟩))⟩⟩
          · rw [hF_same, ms_same]
            rfl
          · rw [hF_ne _ _ (by omega), k2]
          · rw [hF_ne _ _ (by omega), S5_11]
          · intro _
            rw [hF_ne _ _ (by omega), k3]
          · rw [ms_ne _ _ (by omega), l2]
          · rw [ms_ne _ _ (by omega), s5_19]
          · rw [ms_ne _ _ (by omega), l3, l6 d0 c5]
        · have q4 : (4 : Int32) < nI (e - fr) := by
            show nI 4 < _
            rw [nI_ltI (by omega) (by omega)]
            omega
          have q5 : (5 : Int32) ≤ nI (e - fr) := by
            show nI 5 ≤ _
            rw [nI_leI (by omega) (by omega)]
            omega
          rw [if_pos q4] at K
          rw [if_pos q5] at L
          refine ⟨_, _, fr, e, C1.trans (k1.trans K), M0.trans (l1.trans L), k4.trans S3_2, fun q hq => by rw [k5 _ (by omega) (by omega), hF_ne _ _ (by omega), S3_q _ (by omega) (by omega) (by omega)], l4.trans s2_2, fun q hq => by rw [ms_ne _ _ (by omega), l5 _ (by omega) (by omega), ms_ne _ _ (by omega), s2_q _ (by omega) (by omega)], b1, vc, ?_, k2, S5_11, (fun _ => k3), ?_, ?_, by omega, a2, Or.inr ⟨by omega, Or.inl (ms_same _ _ _)⟩⟩
          · rw [S5_9, ms_same]
            rfl
          · rw [ms_ne _ _ (by omega), l2]
          · rw [ms_ne _ _ (by omega), s5_19]
      | false =>
        rw [hdg, b01_z, if_pos rfl] at C1
        rw [hdg, if_neg (by decide)] at M0
        have M1 : p_X3_next0 m s = some (none, mSet (mSet s2 17 (nI (fr + 1))) 18 (if b01 (sgB (nI c)) = 0 then 1 else 100 + nI c)) := by
          rw [M0]
          simp only [p_X3_next0_J289, qp, obS]
        cases hsg : sgB (nI c) with
        | true =>
          have hng : ¬ sgP ((nI c).toInt8.toInt32) < 0 := fun q => by
            rw [(sgP_neg c hc256).mp q] at hsg
            cases hsg
          rw [if_neg hng] at C1
          rw [hsg, if_neg b01_1] at M1
          have c128 := sg_lt c hc256 hsg
          have e100 : (100 : Int32) + nI c = nI (100 + c) := nI_add 100 c
          rw [e100] at M1
          refine ⟨_, _, fr, fr + 1, C1, M1, S3_2, fun q hq => by rw [hF_ne _ _ (by omega), hF_ne _ _ (by omega), S3_q _ (by omega) (by omega) (by omega)], s2_2, fun q hq => by rw [ms_ne _ _ (by omega), ms_ne _ _ (by omega), s2_q _ (by omega) (by omega)], b1, nI c, ?_, ?_, ?_, (fun _ => hF_same _ _ _), ?_, ?_, by omega, by omega, Or.inr ⟨by omega, Or.inr (Or.inr (Or.inr ⟨c, c128, hsg, ms_same _ _ _, rfl⟩))⟩⟩
          · rw [hF_ne _ _ (by omega), hF_same, ms_same, kd_s c c128]
          · rw [hF_ne _ _ (by omega), hF_ne _ _ (by omega), S3_10]
          · rw [hF_ne _ _ (by omega), hF_ne _ _ (by omega), S3_11]
          · rw [ms_ne _ _ (by omega), ms_same]
          · rw [ms_ne _ _ (by omega), ms_ne _ _ (by omega), s2_19]
        | false =>
          rw [if_pos ((sgP_neg c hc256).mpr hsg)] at C1
          rw [hsg, b01_z, if_pos rfl] at M1
          refine ⟨_, _, fr, fr + 1, C1, M1, S3_2, fun q hq => S3_q _ (by omega) (by omega) (by omega), s2_2, fun q hq => by rw [ms_ne _ _ (by omega), ms_ne _ _ (by omega), s2_q _ (by omega) (by omega)], b1, 0, ?_, S3_10, S3_11, ?_, ?_, ?_, by omega, by omega, Or.inr ⟨by omega, Or.inl (ms_same _ _ _)⟩⟩
          · rw [S3_9, ms_same]
            rfl
          · intro q
            rw [ms_same] at q
            exact absurd q (by decide)
          · rw [ms_ne _ _ (by omega), ms_same]
          · rw [ms_ne _ _ (by omega), ms_ne _ _ (by omega), s2_19]
