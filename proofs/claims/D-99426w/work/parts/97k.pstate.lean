/-! the state of reading a text: both sides -/
set_option maxRecDepth 100000
def PS (A : hA) (R : sMem) (S : hS) (s : mSt) (g : Nat → Nat) (rd n : Nat) (u : Nat → Int32) : Prop := hG A ∧ hCl A R ∧ hTx R g ∧ (∀ a b : Nat, a < 5 → b < 5 → g a = g b → a = b) ∧ tbU n u ∧ rd < 4 ∧ wR R S g rd ∧ tpC S n u ∧ tpM s n u ∧ s.1 12 = nI rd ∧ ∃ fr e, PO S s g u rd n fr e
theorem hT_of {A : hA} {R : sMem} {g : Nat → Nat} (hc : hCl A R) (h : hTx R g) : ∀ (S : hS) j, j < 26 → sStg (hMem A R S) (g (10 + j)) (txLen j) (fun i => (txByt j).getD i 0) := fun S j hj => by
  obtain ⟨v, h1, h2⟩ := h j hj
  refine ⟨v, ?_, ?_⟩
  · unfold sStrV at h1 ⊢
    cases q : R.2.2.2 (g (10 + j)) with
    | none => rw [q] at h1; cases h1
    | some e => rw [hR_at hc S q, ← q]; exact h1
  · unfold sInts at h2 ⊢
    cases q : R.2.2.2 v with
    | none => rw [q] at h2; cases h2
    | some e => rw [hR_at hc S q, ← q]; exact h2
theorem wR_ex {R R' : sMem} {S S' : hS} {g : Nat → Nat} {rd : Nat} (hR : sub2 R R') (hS : ∀ q, q < 9 → S'.1 q = S.1 q) (h : wR R S g rd) : wR R' S' g rd := by
  obtain ⟨q6, q7, q8, h6, h7, h8, e6, e7, e8, r6, i6, r7, i7, r8, i8⟩ := h
  exact ⟨q6, q7, q8, h6, h7, h8, (hS _ (by omega)).trans e6, (hS _ (by omega)).trans e7, (hS _ (by omega)).trans e8, hR _ _ r6, i6, hR _ _ r7, i7, hR _ _ r8, i8⟩
/-- where the token begins -/
abbrev tAt (s : mSt) : Nat := cv (s.1 19)
/-- codes told apart -/
theorem cd_in : ∀ rd, rd < 4 → ∀ j, j ∈ wLst rd → cdN j ≤ 50 ∧ 3 ≤ cdN j := by decide
theorem cd_inj : ∀ i, i < 26 → ∀ j, j < 26 → cdN i = cdN j → i = j := by decide
theorem kd_2 {s : mSt} (h : s.1 18 = 2) : 3 ≤ kd (s.1 18) := by
  rw [h]
  decide
theorem kd_c {s : mSt} {c : Nat} (hc : c < 128) (h : s.1 18 = nI (100 + c)) : 3 ≤ kd (s.1 18) := by
  rw [h, kd_s c hc]
  omega
theorem PS.fr {A : hA} {R : sMem} {S : hS} {s : mSt} {g : Nat → Nat} {rd n : Nat} {u : Nat → Int32} (h : PS A R S s g rd n u) : s.1 19 = nI (tAt s) ∧ tAt s ≤ n ∧ n ≤ 400 ∧ (s.1 18 ≠ 0 → tAt s < n) := by
  obtain ⟨-, -, -, -, -, -, -, hC, -, -, fr, e, vc, -, -, -, -, -, h19, h1, h2, ht⟩ := h
  have hn := hC.1
  have e1 : tAt s = fr := by show cv _ = _; rw [h19, cv_nI (by omega)]
  rw [e1]
  refine ⟨h19, by omega, hn, fun q => ?_⟩
  rcases ht with ⟨t0, -⟩ | ⟨h3, -⟩
  · exact absurd t0 q
  · omega
/-- it grows -/
theorem PS.ex {A : hA} {R R' : sMem} {S : hS} {s s' : mSt} {g : Nat → Nat} {rd n : Nat} {u : Nat → Int32} (h : PS A R S s g rd n u) (hR : sub2 R R') (hc : hCl A R') (h7 : s'.2 7 = s.2 7) (hq : ∀ q, q = 12 ∨ (16 ≤ q ∧ q ≤ 20) → s'.1 q = s.1 q) : PS A R' S s' g rd n u := by
  obtain ⟨a1, a2, a3, a4, a5, a6, a7, a8, ⟨b1, b2, b3⟩, a10, fr, e, vc, c1, c2, c3, c4, c5, c6, c7, c8, c9⟩ := h
  refine ⟨a1, hc, a3.ex hR, a4, a5, a6, wR_ex hR (fun _ _ => rfl) a7, a8, ⟨b1, (hq _ (by omega)).trans b2, h7.trans b3⟩, (hq _ (by omega)).trans a10, fr, e, vc, ?_, c2, c3, (fun q => c4 (by rw [← hq 18 (by omega)]; exact q)), (hq _ (by omega)).trans c5, (hq _ (by omega)).trans c6, c7, c8, ?_⟩
  · rw [hq 18 (by omega)]
    exact c1
  · rw [hq 18 (by omega), hq 20 (by omega)]
    exact c9
theorem PS.fld {A : hA} {R : sMem} {S S' : hS} {s : mSt} {g : Nat → Nat} {rd n : Nat} {u : Nat → Int32} (h : PS A R S s g rd n u) (h2 : S'.2 = S.2) (hq : ∀ q, q < 13 → S'.1 q = S.1 q) : PS A R S' s g rd n u := by
  obtain ⟨a1, a2, a3, a4, a5, a6, a7, ⟨d1, d2, d3⟩, a9, a10, fr, e, vc, c1, c2, c3, c4, c5, c6, c7, c8, c9⟩ := h
  exact ⟨a1, a2, a3, a4, a5, a6, wR_ex (fun _ _ q => q) (fun q h => hq q (by omega)) a7, ⟨d1, (hq _ (by omega)).trans d2, by rw [h2]; exact d3⟩, a9, a10, fr, e, vc, (hq _ (by omega)).trans c1, (hq _ (by omega)).trans c2, (hq _ (by omega)).trans c3, (fun q => (hq _ (by omega)).trans (c4 q)), c5, c6, c7, c8, c9⟩
/-- the next token -/
theorem PS.next {A : hA} {R : sMem} {S : hS} {s : mSt} {g : Nat → Nat} {rd n : Nat} {u : Nat → Int32} (m : Nat) (h : PS A R S s g rd n u) : ∃ S' s', f_X0_readNext g (hX A) (hMem A R S) = some (.inl none, hMem A R S') ∧ p_X3_next0 m s = some (none, s') ∧ PS A R S' s' g rd n u ∧ S'.2 = S.2 ∧ (∀ q, q < 9 ∨ 12 < q → S'.1 q = S.1 q) ∧ s'.2 = s.2 ∧ (∀ q, q < 17 ∨ 20 < q → s'.1 q = s.1 q) ∧ tAt s ≤ tAt s' ∧ (s.1 18 ≠ 0 → tAt s + 1 ≤ tAt s') := by
  obtain ⟨a1, a2, a3, a4, a5, a6, a7, a8, a9, a10, fr, e, vc, c1, c2, c3, c4, c5, c6, c7, c8, c9⟩ := h
  have hn := a8.1
  obtain ⟨S', s', fr', e', h1, h2, h3, h4, h5, h6, h7, h8⟩ := next_both m a1 a2 (hT_of a2 a3) a5 a8 a9 a6 a7 a10 c2 c5 c8
  have h8' := h8
  obtain ⟨vc', d1, d2, d3, d4, d5, d6, d7, d8, d9⟩ := h8'
  have t1 : tAt s = fr := by show cv _ = _; rw [c6, cv_nI (by omega)]
  have t2 : tAt s' = fr' := by show cv _ = _; rw [d6, cv_nI (by omega)]
  refine ⟨S', s', h1, h2, ⟨a1, a2, a3, a4, a5, a6, wR_ex (fun _ _ q => q) (fun q hq => h4 q (by omega)) a7, ⟨a8.1, (h4 _ (by omega)).trans a8.2.1, by rw [h3]; exact a8.2.2⟩, ⟨a9.1, (h6 _ (by omega)).trans a9.2.1, by rw [h5]; exact a9.2.2⟩, (h6 _ (by omega)).trans a10, fr', e', h8⟩, h3, h4, h5, h6, by omega, fun q => ?_⟩
  rcases c9 with ⟨t0, -⟩ | ⟨h3, -⟩
  · exact absurd t0 q
  · omega
/-- is it that sign -/
theorem PS.sign {A : hA} {R : sMem} {S : hS} {s : mSt} {g : Nat → Nat} {rd n : Nat} {u : Nat → Int32} (h : PS A R S s g rd n u) {c : Nat} (hc : c < 128) : f_X0_isSign g (hX A) (nI c) (hMem A R S) = some (.inl (some (.int (b01 (decide (s.1 18 = nI (100 + c)))))), hMem A R S) := by
  obtain ⟨a1, a2, a3, a4, a5, a6, a7, a8, a9, a10, fr, e, vc, c1, c2, c3, c4, c5, c6, c7, c8, c9⟩ := h
  have ne : ∀ t, t < 100 → ¬ nI t = nI (100 + c) := fun t ht q => by
    have := (nI_eq (a := t) (b := 100 + c) (by omega) (by omega)).mp q
    omega
  have nk : ∀ k, k < 4 → ¬ g k = g 4 := fun k hk q => by
    have := a4 k 4 (by omega) (by omega) q
    omega
  have no : ∀ t k, s.1 18 = nI t → t < 100 → kd (s.1 18) = k → k < 4 → f_X0_isSign g (hX A) (nI c) (hMem A R S) = some (.inl (some (.int (b01 (decide (s.1 18 = nI (100 + c)))))), hMem A R S) := fun t k e1 h1 e2 h2 => by
    rw [e2] at c1
    simp only [f_X0_isSign, xgN_9 a1, c1, hvN_ref, obS, if_neg (nk k h2)]
    rw [e1, decide_eq_false (ne t h1)]
    rfl
  rcases c9 with ⟨t0, -⟩ | ⟨-, t1 | ⟨j, hj, -, t2⟩ | ⟨v, -, t3, -⟩ | ⟨c', hc', hs, t4, hv⟩⟩
  · exact no 0 0 t0 (by omega) (by rw [t0]; rfl) (by omega)
  · exact no 1 1 t1 (by omega) (by rw [t1]; rfl) (by omega)
  · exact no (cdN j) 2 t2 (by have := cd_in rd a6 j hj; omega) (by rw [t2]; exact kd_w rd a6 j hj) (by omega)
  · exact no 2 3 t3 (by omega) (by rw [t3]; rfl) (by omega)
  · have c4 := c4 (by rw [t4, kd_s c' hc']; omega)
    rw [t4, kd_s c' hc'] at c1
    simp only [f_X0_isSign, xgN_9 a1, xgI_12 a1, c1, c4, hvN_ref, hvI_int, obS, if_true, hv]
    by_cases q : c' = c
    · subst q
      rw [if_pos rfl, t4, decide_eq_true rfl]
      rfl
    · have q1 : ¬ nI c' = nI c := fun w => q ((nI_eq (by omega) (by omega)).mp w)
      have q2 : ¬ nI (100 + c') = nI (100 + c) := fun w => q (by have := (nI_eq (a := 100 + c') (b := 100 + c) (by omega) (by omega)).mp w; omega)
      rw [if_neg q1, t4, decide_eq_false q2]
      rfl
/-- is it that word -/
theorem PS.word {A : hA} {R : sMem} {S : hS} {s : mSt} {g : Nat → Nat} {rd n : Nat} {u : Nat → Int32} (h : PS A R S s g rd n u) {j : Nat} (hj : j < 26) (h3 : 3 ≤ cdN j) (h50 : cdN j ≤ 50) : f_X0_isWord g (hX A) (g (10 + j)) (hMem A R S) = some (.inl (some (.int (b01 (decide (s.1 18 = cd j))))), hMem A R S) := by
  obtain ⟨a1, a2, a3, a4, a5, a6, a7, a8, a9, a10, fr, e, vc, c1, c2, c3, c4, c5, c6, c7, c8, c9⟩ := h
  have hn := a8.1
  have nk : ∀ k, k < 5 → k ≠ 2 → ¬ g k = g 2 := fun k hk h2 q => h2 (a4 k 2 (by omega) (by omega) q)
  have no : ∀ t k, s.1 18 = nI t → (t < 3 ∨ 100 ≤ t) → t < 1000 → kd (s.1 18) = k → k < 5 → k ≠ 2 → f_X0_isWord g (hX A) (g (10 + j)) (hMem A R S) = some (.inl (some (.int (b01 (decide (s.1 18 = cd j))))), hMem A R S) := fun t k e1 h1 h1' e2 h2 h2' => by
    rw [e2] at c1
    simp only [f_X0_isWord, xgN_9 a1, c1, hvN_ref, obS, if_neg (nk k h2 h2')]
    have ne : ¬ nI t = cd j := fun q => by
      have := (nI_eq (a := t) (b := cdN j) (by omega) (by omega)).mp q
      omega
    rw [e1, decide_eq_false ne]
    rfl
  rcases c9 with ⟨t0, -⟩ | ⟨-, t1 | ⟨i, hi, sp, t2⟩ | ⟨v, -, t3, -⟩ | ⟨c', hc', hs, t4, hv⟩⟩
  · exact no 0 0 t0 (by omega) (by omega) (by rw [t0]; rfl) (by omega) (by omega)
  · exact no 1 1 t1 (by omega) (by omega) (by rw [t1]; rfl) (by omega) (by omega)
  · have hi26 := wLst_lt rd a6 i hi
    have hin := cd_in rd a6 i hi
    rw [t2, kd_w rd a6 i hi] at c1
    have sp2 := spells_c a1 (hT_of a2 a3 S) a8 c2 c3 c7 c8 hj
    simp only [f_X0_isWord, xgN_9 a1, c1, hvN_ref, obS, if_true, hx_chk a1, sp2, sCallI, hcI]
    by_cases q : i = j
    · subst q
      rw [sp, t2, decide_eq_true rfl, if_neg b01_1]
      rfl
    · have q1 : splB u fr e j = false := by
        cases w : splB u fr e j with
        | false => rfl
        | true => exact absurd (splB_inj hi26 hj sp w) q
      have q2 : ¬ cd i = cd j := fun w => q (cd_inj i hi26 j hj ((nI_eq (by omega) (by omega)).mp w))
      rw [q1, t2, decide_eq_false q2, b01_z, if_pos rfl]
  · exact no 2 3 t3 (by omega) (by omega) (by rw [t3]; rfl) (by omega) (by omega)
  · exact no (100 + c') 4 t4 (by omega) (by omega) (by rw [t4]; exact kd_s c' hc') (by omega) (by omega)
/-- is it a number; is it the end -/
theorem PS.num {A : hA} {R : sMem} {S : hS} {s : mSt} {g : Nat → Nat} {rd n : Nat} {u : Nat → Int32} (h : PS A R S s g rd n u) : ∃ w vc, S.1 9 = .ref w ∧ (3 ≤ kd (s.1 18) → S.1 12 = .int vc) ∧ S.1 11 = .int (nI (tAt s)) ∧ (w = g 3 ↔ s.1 18 = 2) ∧ (w = g 0 ↔ s.1 18 = 0) ∧ (s.1 18 = 2 → ∃ v, v ≤ 9999 ∧ vc = nI v ∧ s.1 20 = nI v) ∧ (∀ c, c < 128 → s.1 18 = nI (100 + c) → vc = nI c) := by
  have hfr := h.fr.1
  obtain ⟨a1, a2, a3, a4, a5, a6, a7, a8, a9, a10, fr, e, vc, c1, c2, c3, c4, c5, c6, c7, c8, c9⟩ := h
  have hn := a8.1
  have tf : tAt s = fr := by show cv _ = _; rw [c6, cv_nI (by omega)]
  have nk : ∀ k l, k < 5 → l < 5 → k ≠ l → ¬ g k = g l := fun k l hk hl h2 q => h2 (a4 k l hk hl q)
  have ni : ∀ a b, a < 1000 → b < 1000 → a ≠ b → ¬ nI a = nI b := fun a b ha hb hab q => hab ((nI_eq (by omega) (by omega)).mp q)
  refine ⟨_, vc, c1, c4, by rw [tf]; exact c3, ?_⟩
  have fin : ∀ t k, s.1 18 = nI t → t < 1000 → kd (s.1 18) = k → k < 5 → (k = 3 ↔ t = 2) → (k = 0 ↔ t = 0) → (t = 2 → ∃ v, v ≤ 9999 ∧ vc = nI v ∧ s.1 20 = nI v) → (∀ c, c < 128 → t = 100 + c → vc = nI c) → (g (kd (s.1 18)) = g 3 ↔ s.1 18 = 2) ∧ (g (kd (s.1 18)) = g 0 ↔ s.1 18 = 0) ∧ (s.1 18 = 2 → ∃ v, v ≤ 9999 ∧ vc = nI v ∧ s.1 20 = nI v) ∧ (∀ c, c < 128 → s.1 18 = nI (100 + c) → vc = nI c) := fun t k e1 ht e2 hk k3 k0 hv hc => by
    rw [e2, e1]
    refine ⟨⟨fun q => ?_, fun q => ?_⟩, ⟨fun q => ?_, fun q => ?_⟩, fun q => hv ((nI_eq (a := t) (b := 2) (by omega) (by omega)).mp q), fun c hc128 q => hc c hc128 ((nI_eq (by omega) (by omega)).mp q)⟩
    · rw [k3.mp (a4 k 3 hk (by omega) q)]
      rfl
    · rw [k3.mpr ((nI_eq (a := t) (b := 2) (by omega) (by omega)).mp q)]
    · rw [k0.mp (a4 k 0 hk (by omega) q)]
      rfl
    · rw [k0.mpr ((nI_eq (a := t) (b := 0) (by omega) (by omega)).mp q)]
  rcases c9 with ⟨t0, -⟩ | ⟨-, t1 | ⟨i, hi, sp, t2⟩ | ⟨v, hv, t3, e3, e4⟩ | ⟨c', hc', hs, t4, hv⟩⟩
  · exact fin 0 0 t0 (by omega) (by rw [t0]; rfl) (by omega) (by omega) (by omega) (by omega) (fun c hc q => by omega)
  · exact fin 1 1 t1 (by omega) (by rw [t1]; rfl) (by omega) (by omega) (by omega) (by omega) (fun c hc q => by omega)
  · have := cd_in rd a6 i hi
    exact fin (cdN i) 2 t2 (by omega) (by rw [t2]; exact kd_w rd a6 i hi) (by omega) (by omega) (by omega) (fun q => by omega) (fun c hc q => by omega)
  · exact fin 2 3 t3 (by omega) (by rw [t3]; rfl) (by omega) (by omega) (by omega) (fun _ => ⟨v, hv, e3, e4⟩) (fun c hc q => by omega)
  · exact fin (100 + c') 4 t4 (by omega) (by rw [t4]; exact kd_s c' hc') (by omega) (by omega) (by omega) (fun q => by omega) (fun c hc q => by
      rw [show c = c' by omega]
      exact hv)
