/-! the next token: both sides -/
set_option maxRecDepth 100000
def tbU (n : Nat) (u : Nat → Int32) : Prop := ∀ k, k < n → ∃ c, c < 256 ∧ u k = nI c
theorem sg_lt : ∀ c, c < 256 → sgB (nI c) = true → c < 128 := by decide +kernel
theorem dg_in : ∀ c, c < 256 → dgB (nI c) = true → 48 ≤ c ∧ c ≤ 57 := by decide +kernel
theorem ltB_0 : ltB (-1) = false := by decide
theorem dgB_0 : dgB (-1) = false := by decide
theorem blB_0 : blB (-1) = false := by decide
def askI (k : Nat) : Nat := if k = 9 then 0 else 17 + k
def joiI (k : Nat) : Nat := if k = 0 then 1 else if k = 1 then 2 else if k = 2 then 16 else 3
def wR (R : sMem) (S : hS) (g : Nat → Nat) (rd : Nat) : Prop := ∃ (q6 q7 q8 : Nat) (h6 h7 h8 : Nat → Option Nat), S.1 6 = .ref q6 ∧ S.1 7 = .ref q7 ∧ S.1 8 = .ref q8 ∧ R.2.2.2 q6 = some (sArq 2 3 h6) ∧ (∀ k, k < 3 → h6 k = some (g (10 + (5 + 3 * rd + k)))) ∧ R.2.2.2 q7 = some (sArq 2 (if rd = 1 then 10 else 0) h7) ∧ (∀ k, k < (if rd = 1 then 10 else 0) → h7 k = some (g (10 + askI k))) ∧ R.2.2.2 q8 = some (sArq 2 (if rd = 1 then 4 else 0) h8) ∧ ∀ k, k < (if rd = 1 then 4 else 0) → h8 k = some (g (10 + joiI k))
theorem wl_6 : ∀ rd, rd < 4 → ∀ i, i < 3 → 5 + 3 * rd + i ∈ wLst rd := by decide
theorem wl_7 : ∀ i, i < 10 → askI i ∈ wLst 1 := by decide
theorem wl_8 : ∀ i, i < 4 → joiI i ∈ wLst 1 := by decide
theorem wl_in : ∀ rd, rd < 4 → ∀ j, j ∈ wLst rd → (∃ i, i < 3 ∧ j = 5 + 3 * rd + i) ∨ (rd = 1 ∧ ∃ i, i < 10 ∧ j = askI i) ∨ (rd = 1 ∧ ∃ i, i < 4 ∧ j = joiI i) := by decide
theorem ask_lt : ∀ i, i < 10 → askI i < 26 := by decide
theorem joi_lt : ∀ i, i < 4 → joiI i < 26 := by decide
/-- letters read: a word, or none -/
theorem word_c {A : hA} {R : sMem} {S : hS} {g : Nat → Nat} {n fr e rd : Nat} {u : Nat → Int32} (hg : hG A) (hc : hCl A R) (hT : ∀ (S : hS) j, j < 26 → sStg (hMem A R S) (g (10 + j)) (txLen j) (fun i => (txByt j).getD i 0)) (h : tpC S n u) (h10 : S.1 10 = .int (nI e)) (h11 : S.1 11 = .int (nI fr)) (he : fr ≤ e) (hen : e ≤ n) (hr : rd < 4) (hw : wR R S g rd) (hl : ltB (rw n u e) = false) (fu : Nat) : ∃ S', f_X0_readNext_L97 g (hX A) (fu + 1) (hMem A R S) = some (.inl none, hMem A R S') ∧ S'.2 = S.2 ∧ (∀ q, q ≠ 9 → S'.1 q = S.1 q) ∧ ((∃ j, j ∈ wLst rd ∧ splB u fr e j = true ∧ S'.1 9 = .ref (g 2)) ∨ ((∀ j, j ∈ wLst rd → splB u fr e j = false) ∧ S'.1 9 = .ref (g 1))) := by
  obtain ⟨q6, q7, q8, h6, h7, h8, e6, e7, e8, r6, i6, r7, i7, r8, i8⟩ := hw
  have hn := h.1
  have er := raw_c (R := R) hg h (k := e) (by omega)
  have h' : tpC (hF S 9 (.ref (g 2))) n u := ⟨h.1, (hF_ne _ _ (by omega)).trans h.2.1, h.2.2⟩
  have f9 : (hF S 9 (.ref (g 2))).1 9 = .ref (g 2) := hF_same _ _ _
  have f10 : (hF S 9 (.ref (g 2))).1 10 = .int (nI e) := (hF_ne _ _ (by omega)).trans h10
  have f11 : (hF S 9 (.ref (g 2))).1 11 = .int (nI fr) := (hF_ne _ _ (by omega)).trans h11
  have f6 : (hF S 9 (.ref (g 2))).1 6 = .ref q6 := (hF_ne _ _ (by omega)).trans e6
  have f7 : (hF S 9 (.ref (g 2))).1 7 = .ref q7 := (hF_ne _ _ (by omega)).trans e7
  have f8 : (hF S 9 (.ref (g 2))).1 8 = .ref q8 := (hF_ne _ _ (by omega)).trans e8
  obtain ⟨W6, a6, b6⟩ := wordOf_c hg hc (hT _) h' f9 f10 f11 he hen r6 (by omega) (fun k hk => ⟨i6 k hk, wLst_lt rd hr _ (wl_6 rd hr k hk)⟩) 3 0 (by omega) sFuel (by show 3 < 1000000; omega)
  have n7 : (if rd = 1 then 10 else 0) ≤ 10 := by split <;> omega
  have n8 : (if rd = 1 then 4 else 0) ≤ 4 := by split <;> omega
  obtain ⟨W7, a7, b7⟩ := wordOf_c hg hc (hT _) h' f9 f10 f11 he hen r7 (by omega) (fun k hk => ⟨i7 k hk, ask_lt _ (by omega)⟩) _ 0 (Nat.zero_add _) sFuel (by show _ < 1000000; omega)
  obtain ⟨W8, a8, b8⟩ := wordOf_c hg hc (hT _) h' f9 f10 f11 he hen r8 (by omega) (fun k hk => ⟨i8 k hk, joi_lt _ (by omega)⟩) _ 0 (Nat.zero_add _) sFuel (by show _ < 1000000; omega)
  have a6' : f_X0_wordOf g (hX A) q6 (hMem A R (hF S 9 (.ref (g 2)))) = some (.inl (some (.int W6)), hMem A R (hF S 9 (.ref (g 2)))) := a6
  have a7' : f_X0_wordOf g (hX A) q7 (hMem A R (hF S 9 (.ref (g 2)))) = some (.inl (some (.int W7)), hMem A R (hF S 9 (.ref (g 2)))) := a7
  have a8' : f_X0_wordOf g (hX A) q8 (hMem A R (hF S 9 (.ref (g 2)))) = some (.inl (some (.int W8)), hMem A R (hF S 9 (.ref (g 2)))) := a8
  have nm : ∀ i, i < 100 → ¬ nI i = -1 := fun i hi => nI_m1 i (by omega)
  have K : f_X0_readNext_L97 g (hX A) (fu + 1) (hMem A R S) = if W6 = -1 then (if W7 = -1 then (if W8 = -1 then some (.inl none, hMem A R (hF (hF S 9 (.ref (g 2))) 9 (.ref (g 1)))) else some (.inl none, hMem A R (hF S 9 (.ref (g 2))))) else some (.inl none, hMem A R (hF S 9 (.ref (g 2))))) else some (.inl none, hMem A R (hF S 9 (.ref (g 2)))) := by
    simp only [f_X0_readNext_L97, xgI_10 hg, h10, hvI_int, obS, hx_chk hg, er, sCallI, hcI, letter_c, hl, b01_z, if_true, xp_9 hg, xgN_6 hg, xgN_7 hg, xgN_8 hg, f6, f7, f8, hvN_ref, a6', a7', a8']
  rw [K]
  rcases b6 with ⟨i, -, hi, hs, rfl⟩ | ⟨n6, rfl⟩
  · rw [if_neg (nm i (by omega))]
    exact ⟨_, rfl, rfl, fun q hq => hF_ne _ _ hq, Or.inl ⟨_, wl_6 rd hr i hi, hs, hF_same _ _ _⟩⟩
  · rw [if_pos rfl]
    rcases b7 with ⟨i, -, hi, hs, rfl⟩ | ⟨n7', rfl⟩
    · rw [if_neg (nm i (by omega))]
      have r1 : rd = 1 := by
        by_cases c : rd = 1
        · exact c
        · rw [if_neg c] at hi
          omega
      subst r1
      exact ⟨_, rfl, rfl, fun q hq => hF_ne _ _ hq, Or.inl ⟨_, wl_7 i (by omega), hs, hF_same _ _ _⟩⟩
    · rw [if_pos rfl]
      rcases b8 with ⟨i, -, hi, hs, rfl⟩ | ⟨n8', rfl⟩
      · rw [if_neg (nm i (by omega))]
        have r1 : rd = 1 := by
          by_cases c : rd = 1
          · exact c
          · rw [if_neg c] at hi
            omega
        subst r1
        exact ⟨_, rfl, rfl, fun q hq => hF_ne _ _ hq, Or.inl ⟨_, wl_8 i (by omega), hs, hF_same _ _ _⟩⟩
      · rw [if_pos rfl]
        refine ⟨_, rfl, rfl, fun q hq => by rw [hF_ne _ _ hq, hF_ne _ _ hq], Or.inr ⟨fun j hj => ?_, hF_same _ _ _⟩⟩
        rcases wl_in rd hr j hj with ⟨i, hi, rfl⟩ | ⟨rfl, i, hi, rfl⟩ | ⟨rfl, i, hi, rfl⟩
        · exact n6 i (by omega) hi
        · exact n7' i (by omega) hi
        · exact n8' i (by omega) hi
/-- letters -/
theorem ltr_c {A : hA} {R : sMem} {g : Nat → Nat} {n e : Nat} {u : Nat → Int32} (hg : hG A) (hen : e ≤ n) : ∀ (d k : Nat), k + d = e → (∀ j, k ≤ j → j < e → ltB (rw n u j) = true) → ltB (rw n u e) = false → ∀ (S : hS), tpC S n u → S.1 10 = .int (nI k) → ∀ fu, d < fu → ∃ S', f_X0_readNext_L97 g (hX A) fu (hMem A R S) = f_X0_readNext_L97 g (hX A) 1 (hMem A R S') ∧ S'.1 10 = .int (nI e) ∧ S'.2 = S.2 ∧ ∀ q, q ≠ 10 → S'.1 q = S.1 q
  | 0, k, hk, hl, hle, S, h, h10, fu, hf => by
    obtain ⟨fu, rfl⟩ : ∃ p, fu = p + 1 := ⟨fu - 1, by omega⟩
    have k0 : k = e := by omega
    subst k0
    have hn := h.1
    have er := raw_c (R := R) hg h (k := k) (by omega)
    refine ⟨S, ?_, h10, rfl, fun _ _ => rfl⟩
    simp only [f_X0_readNext_L97, xgI_10 hg, h10, hvI_int, obS, hx_chk hg, er, sCallI, hcI, letter_c, hle, b01_z, if_true]
  | d + 1, k, hk, hl, hle, S, h, h10, fu, hf => by
    obtain ⟨fu, rfl⟩ : ∃ p, fu = p + 1 := ⟨fu - 1, by omega⟩
    have hn := h.1
    have er := raw_c (R := R) hg h (k := k) (by omega)
    have e1 : nI k + 1 = nI (k + 1) := (nI_succ k).symm
    obtain ⟨S', i1, i2, i3, i4⟩ := ltr_c (R := R) (g := g) hg hen d (k + 1) (by omega) (fun j h1 h2 => hl j (by omega) h2) hle (hF S 10 (.int (nI (k + 1)))) ⟨h.1, (hF_ne _ _ (by omega)).trans h.2.1, h.2.2⟩ (hF_same _ _ _) fu (by omega)
    refine ⟨S', ?_, i2, i3, fun q hq => (i4 q hq).trans (hF_ne _ _ hq)⟩
    rw [← i1]
    conv => lhs; unfold f_X0_readNext_L97
    simp only [xgI_10 hg, h10, hvI_int, obS, hx_chk hg, er, sCallI, hcI, letter_c, hl k (Nat.le_refl _) (by omega), if_neg b01_1, xp_10 hg, e1]
theorem ms_ms (s : mSt) (k : Nat) (x y : Int32) : mSet (mSet s k x) k y = mSet s k y := by
  simp only [mSet, Prod.mk.injEq, and_true]
  funext p
  simp only [upd]
  split <;> rfl
theorem ltr_m {n e : Nat} {u : Nat → Int32} (m : Nat) (hen : e ≤ n) : ∀ (d k : Nat), k + d = e → (∀ j, k ≤ j → j < e → ltB (rw n u j) = true) → ltB (rw n u e) = false → ∀ (s : mSt), tpM s n u → s.1 17 = nI k → ∀ fu, d < fu → p_X3_next0_L76 m fu s = p_X3_next0_L76 m 1 (mSet s 17 (nI e))
  | 0, k, hk, hl, hle, s, h, h17, fu, hf => by
    obtain ⟨fu, rfl⟩ : ∃ p, fu = p + 1 := ⟨fu - 1, by omega⟩
    have k0 : k = e := by omega
    subst k0
    have hn := h.1
    rw [ms_self s h17]
    simp only [p_X3_next0_L76, qg, h17, obS, see_m h m (k := k) (by omega), pcI, letter_m, hle, b01_z, if_true]
  | d + 1, k, hk, hl, hle, s, h, h17, fu, hf => by
    obtain ⟨fu, rfl⟩ : ∃ p, fu = p + 1 := ⟨fu - 1, by omega⟩
    have hn := h.1
    have e1 : nI k + 1 = nI (k + 1) := (nI_succ k).symm
    have ih := ltr_m m hen d (k + 1) (by omega) (fun j h1 h2 => hl j (by omega) h2) hle (mSet s 17 (nI (k + 1))) ⟨h.1, (ms_ne _ _ (by omega)).trans h.2.1, h.2.2⟩ (ms_same _ _ _) fu (by omega)
    rw [ms_ms] at ih
    rw [← ih]
    conv => lhs; unfold p_X3_next0_L76
    simp only [qg, qp, h17, obS, see_m h m (k := k) (by omega), pcI, letter_m, hl k (Nat.le_refl _) (by omega), if_neg b01_1, e1]
/-! digits -/
def dcN (u : Nat → Int32) (fr : Nat) : Nat → Nat
  | 0 => 0
  | c + 1 => 10 * dcN u fr c + (cv (u (fr + c)) - 48)
theorem dcN_lt {n : Nat} {u : Nat → Int32} (hu : tbU n u) {fr : Nat} : ∀ c, fr + c ≤ n → (∀ i, i < c → dgB (u (fr + i)) = true) → dcN u fr c < 10 ^ c
  | 0, _, _ => by
    show 0 < 1
    omega
  | c + 1, h, hd => by
    have ih := dcN_lt hu c (by omega) (fun i hi => hd i (by omega))
    obtain ⟨b, hb, e⟩ := hu (fr + c) (by omega)
    have d := hd c (by omega)
    rw [e] at d
    have := dg_in b hb d
    unfold dcN
    rw [e, cv_nI (by omega), Nat.pow_succ]
    omega
theorem dc_step (v c : Nat) (h : 48 ≤ c) : (10 : Int32) * nI v + nI c - 48 = nI (10 * v + (c - 48)) := by
  show nI 10 * nI v + nI c - nI 48 = _
  rw [pk_mul, nI_add, nI_mn (by omega)]
  congr 1
  omega
theorem dig_c {A : hA} {R : sMem} {g : Nat → Nat} {n e fr : Nat} {u : Nat → Int32} (hg : hG A) (hu : tbU n u) (hen : e ≤ n) : ∀ (d k : Nat), k + d = e → fr ≤ k → (∀ j, fr ≤ j → j < e → dgB (rw n u j) = true) → dgB (rw n u e) = false → ∀ (S : hS) (vc : Int32), tpC S n u → S.1 10 = .int (nI k) → S.1 11 = .int (nI fr) → S.1 12 = .int vc → ∀ fu, d < fu → ∃ S' vc', f_X0_readNext_L192 g (hX A) fu (hMem A R S) = f_X0_readNext_L192 g (hX A) 1 (hMem A R S') ∧ S'.1 10 = .int (nI e) ∧ S'.1 12 = .int vc' ∧ S'.2 = S.2 ∧ (∀ q, q ≠ 10 → q ≠ 12 → S'.1 q = S.1 q) ∧ (vc = nI (dcN u fr (k - fr)) → e ≤ fr + 4 → vc' = nI (dcN u fr (e - fr)))
  | 0, k, hk, hfk, hl, hle, S, vc, h, h10, h11, h12, fu, hf => by
    obtain ⟨fu, rfl⟩ : ∃ p, fu = p + 1 := ⟨fu - 1, by omega⟩
    have k0 : k = e := by omega
    subst k0
    have hn := h.1
    have er := raw_c (R := R) hg h (k := k) (by omega)
    refine ⟨S, vc, ?_, h10, h12, rfl, fun _ _ _ => rfl, fun q _ => q⟩
    simp only [f_X0_readNext_L192, xgI_10 hg, h10, hvI_int, obS, hx_chk hg, er, sCallI, hcI, digit_c, hle, b01_z, if_true]
  | d + 1, k, hk, hfk, hl, hle, S, vc, h, h10, h11, h12, fu, hf => by
    obtain ⟨fu, rfl⟩ : ∃ p, fu = p + 1 := ⟨fu - 1, by omega⟩
    have hn := h.1
    have er := raw_c (R := R) hg h (k := k) (by omega)
    have e1 : nI k + 1 = nI (k + 1) := (nI_succ k).symm
    have dk := hl k hfk (by omega)
    generalize hv : (if (10 : Int32) * vc + rw n u k - 48 < 99999 then (10 : Int32) * vc + rw n u k - 48 else 99999) = v1
    obtain ⟨S', vc', i1, i2, i3, i4, i5, i6⟩ := dig_c (R := R) (g := g) (fr := fr) hg hu hen d (k + 1) (by omega) (by omega) hl hle (hF (hF S 12 (.int v1)) 10 (.int (nI (k + 1)))) v1 ⟨h.1, (hF_ne _ _ (by omega)).trans ((hF_ne _ _ (by omega)).trans h.2.1), h.2.2⟩ (hF_same _ _ _) ((hF_ne _ _ (by omega)).trans ((hF_ne _ _ (by omega)).trans h11)) ((hF_ne _ _ (by omega)).trans (hF_same _ _ _)) fu (by omega)
    refine ⟨S', vc', ?_, i2, i3, i4, fun q h1 h2 => by rw [i5 q h1 h2, hF_ne _ _ h1, hF_ne _ _ h2], fun hvc he4 => i6 ?_ he4⟩
    · rw [← i1]
      have f10 : (hF S 12 (.int v1)).1 10 = .int (nI k) := (hF_ne _ _ (by omega)).trans h10
      conv => lhs; unfold f_X0_readNext_L192
      simp only [xgI_10 hg, xgI_12 hg, h10, h12, hvI_int, obS, hx_chk hg, er, sCallI, hcI, digit_c, dk, if_neg b01_1, xp_12 hg, hv, f10, xp_10 hg, e1]
    · have lk : rw n u k = u k := rw_lt (by omega)
      obtain ⟨b, hb, eb⟩ := hu k (by omega)
      rw [lk, eb] at dk
      have b48 := dg_in b hb dk
      have hlt := dcN_lt hu (fr := fr) (k - fr) (by omega) (fun i hi => by
        have := hl (fr + i) (by omega) (by omega)
        rwa [rw_lt (by omega)] at this)
      have hle3 : dcN u fr (k - fr) < 1000 := Nat.lt_of_lt_of_le hlt (by
        have : (10 : Nat) ^ (k - fr) ≤ 10 ^ 3 := Nat.pow_le_pow_right (by omega) (by omega)
        omega)
      have st : dcN u fr (k + 1 - fr) = 10 * dcN u fr (k - fr) + (b - 48) := by
        rw [show k + 1 - fr = (k - fr) + 1 by omega]
        show 10 * dcN u fr (k - fr) + (cv (u (fr + (k - fr))) - 48) = _
        rw [show fr + (k - fr) = k by omega, eb, cv_nI (by omega)]
      rw [st, ← hv, hvc, lk, eb, dc_step _ _ b48.1]
      have c1 : nI (10 * dcN u fr (k - fr) + (b - 48)) < 99999 := by
        show _ < nI 99999
        rw [nI_ltI (by omega) (by omega)]
        omega
      rw [if_pos c1]
theorem dig_m {n e fr : Nat} {u : Nat → Int32} (m : Nat) (hu : tbU n u) (hen : e ≤ n) : ∀ (d k : Nat), k + d = e → fr ≤ k → (∀ j, fr ≤ j → j < e → dgB (rw n u j) = true) → dgB (rw n u e) = false → ∀ (s : mSt) (vl : Int32), tpM s n u → s.1 17 = nI k → s.1 19 = nI fr → s.1 20 = vl → ∀ fu, d < fu → ∃ s' vl', p_X3_next0_L126 m fu s = p_X3_next0_L126 m 1 s' ∧ s'.1 17 = nI e ∧ s'.1 20 = vl' ∧ s'.2 = s.2 ∧ (∀ q, q ≠ 17 → q ≠ 20 → s'.1 q = s.1 q) ∧ (vl = nI (dcN u fr (k - fr)) → e ≤ fr + 4 → vl' = nI (dcN u fr (e - fr)))
  | 0, k, hk, hfk, hl, hle, s, vl, h, h17, h19, h20, fu, hf => by
    obtain ⟨fu, rfl⟩ : ∃ p, fu = p + 1 := ⟨fu - 1, by omega⟩
    have k0 : k = e := by omega
    subst k0
    have hn := h.1
    refine ⟨s, vl, ?_, h17, h20, rfl, fun _ _ _ => rfl, fun q _ => q⟩
    simp only [p_X3_next0_L126, qg, h17, obS, see_m h m (k := k) (by omega), pcI, digit_m, hle, b01_z, if_true]
  | d + 1, k, hk, hfk, hl, hle, s, vl, h, h17, h19, h20, fu, hf => by
    obtain ⟨fu, rfl⟩ : ∃ p, fu = p + 1 := ⟨fu - 1, by omega⟩
    have hn := h.1
    have e1 : nI k + 1 = nI (k + 1) := (nI_succ k).symm
    have dk := hl k hfk (by omega)
    have e4 : nI fr + (4 : Int32) = nI (fr + 4) := nI_add fr 4
    by_cases c4 : fr + 4 ≤ k
    · have c : nI (fr + 4) ≤ nI k := by
        rw [nI_leI (by omega) (by omega)]
        exact c4
      obtain ⟨s', vl', i1, i2, i3, i4, i5, i6⟩ := dig_m (fr := fr) m hu hen d (k + 1) (by omega) (by omega) hl hle (mSet s 17 (nI (k + 1))) vl ⟨h.1, (ms_ne _ _ (by omega)).trans h.2.1, h.2.2⟩ (ms_same _ _ _) ((ms_ne _ _ (by omega)).trans h19) ((ms_ne _ _ (by omega)).trans h20) fu (by omega)
      refine ⟨s', vl', ?_, i2, i3, i4, fun q h1 h2 => (i5 q h1 h2).trans (ms_ne _ _ h1), fun _ he4 => by omega⟩
      rw [← i1]
      conv => lhs; unfold p_X3_next0_L126
      simp only [p_X3_next0_J176, qg, qp, h17, h19, obS, see_m h m (k := k) (by omega), pcI, digit_m, dk, if_neg b01_1, e4, if_pos c, e1]
    · have c : ¬ nI (fr + 4) ≤ nI k := by
        rw [nI_leI (by omega) (by omega)]
        exact c4
      generalize hv : (10 : Int32) * vl + rw n u k - 48 = v1
      obtain ⟨s', vl', i1, i2, i3, i4, i5, i6⟩ := dig_m (fr := fr) m hu hen d (k + 1) (by omega) (by omega) hl hle (mSet (mSet s 20 v1) 17 (nI (k + 1))) v1 ⟨h.1, (ms_ne _ _ (by omega)).trans ((ms_ne _ _ (by omega)).trans h.2.1), h.2.2⟩ (ms_same _ _ _) ((ms_ne _ _ (by omega)).trans ((ms_ne _ _ (by omega)).trans h19)) ((ms_ne _ _ (by omega)).trans (ms_same _ _ _)) fu (by omega)
      refine ⟨s', vl', ?_, i2, i3, i4, fun q h1 h2 => by rw [i5 q h1 h2, ms_ne _ _ h1, ms_ne _ _ h2], fun hvm he4 => i6 ?_ he4⟩
      · rw [← i1]
        have f17 : (mSet s 20 v1).1 17 = nI k := (ms_ne _ _ (by omega)).trans h17
        conv => lhs; unfold p_X3_next0_L126
        simp only [p_X3_next0_J176, qg, qp, h17, h19, h20, obS, see_m h m (k := k) (by omega), pcI, digit_m, dk, if_neg b01_1, e4, if_neg c, hv, f17, e1]
      · have lk : rw n u k = u k := rw_lt (by omega)
        obtain ⟨b, hb, eb⟩ := hu k (by omega)
        rw [lk, eb] at dk
        have b48 := dg_in b hb dk
        have st : dcN u fr (k + 1 - fr) = 10 * dcN u fr (k - fr) + (b - 48) := by
          rw [show k + 1 - fr = (k - fr) + 1 by omega]
          show 10 * dcN u fr (k - fr) + (cv (u (fr + (k - fr))) - 48) = _
          rw [show fr + (k - fr) = k by omega, eb, cv_nI (by omega)]
        rw [st, ← hv, hvm, lk, eb, dc_step _ _ b48.1]
