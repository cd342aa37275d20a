/-! reels: the component's table, and both sides -/
set_option maxRecDepth 100000
def stS (t : Nat → Int32) (s : Nat) : Nat → Int32
  | 0 => 0
  | i + 1 => if s.testBit i = true then stS t s i + t (31 + i) else stS t s i + 0
theorem stS_0 (t : Nat → Int32) : ∀ n, stS t 0 n = 0
  | 0 => rfl
  | n + 1 => by
    unfold stS
    rw [stS_0 t n, Nat.zero_testBit, if_neg (by decide)]
    rfl
theorem f_strength {A : hA} {R : sMem} {S : hS} {g : Nat → Nat} {b L : Nat} {xs : Nat → Int32} (h : hInv A R S g b L xs) {s : Nat} (hs : s < 4096) : f_X0_strengthOf (hX A) (nI s) (hMem A R S) = some (.inl (some (.int (stS (S.2.2.2.1 0) s (hN (S.2.2.2.1 0))))), hMem A R S) := by
  have hg := h.1.1
  have h3 : 0 < A.2.2 := by have := hg.2.2.2; omega
  have hn := h.act.n
  have e571 : S.2.2.2.1 0 571 = nI (hN (S.2.2.2.1 0)) := h.act.1.1.1.1
  refine lk (fun f k (_ : Unit) => f_X0_strengthOf_L4 (hX A) (nI s) f (stS (S.2.2.2.1 0) s k) (nI k) (hMem A R S)) (fun _ _ _ => none) (hN (S.2.2.2.1 0)) (fun _ _ => True) (fun o _ => o = some (.inl (some (.int (stS (S.2.2.2.1 0) s (hN (S.2.2.2.1 0))))), hMem A R S)) ?_ ?_ (by omega) () trivial
  · intro f f' k _ hk _
    have c0 : ¬ hN (S.2.2.2.1 0) ≤ k := by omega
    have hb := fx_hasN (s := s) (k := k) (by omega) (by omega) (hMem A R S)
    have sx : stS (S.2.2.2.1 0) s (k + 1) = if s.testBit k = true then stS (S.2.2.2.1 0) s k + S.2.2.2.1 0 (31 + k) else stS (S.2.2.2.1 0) s k + 0 := rfl
    refine Or.inl ⟨(), trivial, ?_, rfl⟩
    rw [sx]
    cases tb : s.testBit k with
    | false =>
      rw [tb] at hb
      simp (disch := omega) only [f_X0_strengthOf_L4, xgI_21 hg, obS, e571, nI_leI, c0, ↓reduceIte, hb, hcI, b01_f, Bool.false_eq_true, nI_1]
    | true =>
      rw [tb] at hb
      simp (disch := omega) only [f_X0_strengthOf_L4, xgN_23 hg, xgN_22 hg, xgI_21 hg, hx_chk hg, ht_chk hg, tgN_5 hg, trl_5 hg, tgN_3 hg, trl_3 hg, obS, e571, nI_leI, c0, ↓reduceIte, hb, hcI, b01_t, nI_1]
  · intro f f' _ _
    have c0 : hN (S.2.2.2.1 0) ≤ hN (S.2.2.2.1 0) := Nat.le_refl _
    show f_X0_strengthOf_L4 _ _ _ _ _ _ = _
    simp (disch := omega) only [f_X0_strengthOf_L4, xgI_21 hg, obS, e571, nI_leI, c0, ↓reduceIte]
theorem px_strength {t : Nat → Int32} (hw : wAct t) (m : Nat) {s : Nat} (hs : s < 4096) (q : mSt) (hq : q.2 0 = t) : p_X3_strengthOf m (nI s) q = some (some (.int (stS t s (hN t))), q) := by
  have hn := hw.n
  have e571 : t 571 = nI (hN t) := hw.1.1.1.1
  refine lk (fun _ _ _ => none) (fun f k (_ : Unit) => p_X3_strengthOf_L4 m (nI s) f (stS t s k) (nI k) q) (hN t) (fun _ _ => True) (fun _ o => o = some (some (.int (stS t s (hN t))), q)) ?_ ?_ (by omega) () trivial
  · intro f f' k _ hk _
    have c0 : ¬ hN t ≤ k := by omega
    have bt : nI s >>> (nI k &&& 31) &&& 1 = if s.testBit k then nI 1 else nI 0 := nI_bit (by omega) (by omega)
    have sx : stS t s (k + 1) = if s.testBit k = true then stS t s k + t (31 + k) else stS t s k + 0 := rfl
    refine Or.inl ⟨(), trivial, rfl, ?_⟩
    rw [sx]
    cases tb : s.testBit k with
    | false =>
      rw [tb] at bt
      have n01 : ¬ nI 0 = (1 : Int32) := by decide
      simp (disch := omega) only [p_X3_strengthOf_L4, mRow_0, obS, qld_571, hq, e571, nI_leI, c0, ↓reduceIte, bt, if_neg n01, Bool.false_eq_true, nI_1]
    | true =>
      rw [tb] at bt
      have n11 : nI 1 = (1 : Int32) := rfl
      simp (disch := omega) only [p_X3_strengthOf_L4, mRow_0, obS, qld_571, qld_31, hq, e571, nI_leI, c0, ↓reduceIte, bt, if_pos n11, nI_1]
  · intro f f' _ _
    have c0 : hN t ≤ hN t := Nat.le_refl _
    show p_X3_strengthOf_L4 _ _ _ _ _ _ = _
    simp (disch := omega) only [p_X3_strengthOf_L4, mRow_0, obS, qld_571, hq, e571, nI_leI, c0, ↓reduceIte]
/-- the component's table against the model's -/
def frI (t : Nat → Int32) (k : Nat) (F G : Nat → Int32) : Prop := ∀ s, 1 ≤ s → s < k → (∀ i, s.testBit i = true → (thN t).testBit i = true) → ∀ w, w < hN t → F (12 * s + w) = b01 ((cv (G s)).testBit w)
theorem f_isReeled {A : hA} {R : sMem} {S : hS} {g : Nat → Nat} {b L : Nat} {xs : Nat → Int32} (h : hInv A R S g b L xs) {k w : Nat} {F G : Nat → Int32} (hk : k < 4096) (hw12 : w < hN (S.2.2.2.1 0)) (hkw : k.testBit w = true) (hG : glI (S.2.2.2.1 0) k G) (hF : frI (S.2.2.2.1 0) k F G) (hS6 : S.2.1 6 = F) (hsub : ∀ i, k.testBit i = true → (thN (S.2.2.2.1 0)).testBit i = true) : f_X0_isReeled (hX A) (nI k) (nI w) (hMem A R S) = some (.inl (some (.int (b01 (rvB (S.2.2.2.1 0) G (hN (S.2.2.2.1 0)) k w)))), hMem A R S) := by
  have hg := h.1.1
  have hn := h.act.n
  have hs : sFuel = 1000000 := rfl
  have e571 : S.2.2.2.1 0 571 = nI (hN (S.2.2.2.1 0)) := h.act.1.1.1.1
  have hr := bitX_lt hkw
  have de := delI (s := k) (w := w) (by omega) (by omega) hkw
  have hl : 0 < hLo (S.2.2.2.1 0) w := by
    have := hsub w hkw
    rw [thN_bit _ hn] at this
    simp only [Bool.and_eq_true, decide_eq_true_eq] at this
    exact this.2
  obtain ⟨g1, g2, g3, g4⟩ := hG (k ^^^ 2 ^ w) hr
  have hrs : ∀ i, (k ^^^ 2 ^ w).testBit i = true → (thN (S.2.2.2.1 0)).testBit i = true := fun i hi => by
    by_cases c : i = w
    · subst c; exact hsub i hkw
    · rw [bitX_ne c] at hi
      exact hsub i hi
  have fo := fun o (ho : o < hN (S.2.2.2.1 0)) (l0 : 0 < hLo (S.2.2.2.1 0) o) => fx_follow h (i := w) (o := o) (by omega) ho l0
  have hFr := hF (k ^^^ 2 ^ w)
  have rb : rvB (S.2.2.2.1 0) G (hN (S.2.2.2.1 0)) k w = (decide (k ^^^ 2 ^ w = 0) || rvA (S.2.2.2.1 0) (cv (G (k ^^^ 2 ^ w))) w (hN (S.2.2.2.1 0))) := by
    unfold rvB
    simp [hkw, hl]
  rw [rb]
  generalize k ^^^ 2 ^ w = r at *
  generalize cv (G r) = x at *
  unfold f_X0_isReeled
  rw [de]
  by_cases c : r = 0
  · have z : nI r = 0 := by rw [c]; rfl
    rw [if_pos z, decide_eq_true c]
    rfl
  · have z : ¬ nI r = 0 := fun e => c ((nI_eq (b := 0) (by omega) (by omega)).mp e)
    rw [if_neg z, decide_eq_false c, Bool.false_or]
    have P := lp_E (fun f o => f_X0_isReeled_L17 (hX A) (nI w) (nI r) f (nI o) (hMem A R S)) (hN (S.2.2.2.1 0)) (fun o => x.testBit o && cfB (S.2.2.2.1 0) w o) (fun _ => some (.inl (some (.int 1)), hMem A R S)) (some (.inl (some (.int 0)), hMem A R S)) ?_ ?_ ?_ sFuel (by omega)
    · refine Eq.trans P ?_
      unfold rvA
      cases fstN (fun o => x.testBit o && cfB (S.2.2.2.1 0) w o) (hN (S.2.2.2.1 0)) <;> rfl
    · intro f o ho hp
      have c1 : ¬ hN (S.2.2.2.1 0) ≤ o := by omega
      have hb := fx_hasN (s := r) (k := o) (by omega) (by omega) (hMem A R S)
      cases ro : r.testBit o with
      | false =>
        rw [ro] at hb
        simp (disch := omega) only [f_X0_isReeled_L17, xgI_21 hg, obS, e571, nI_leI, c1, ↓reduceIte, hb, hcI, b01_f, nI_1]
      | true =>
        rw [ro] at hb
        have ix : (12 : Int32) * nI r + nI o = nI (12 * r + o) := by
          show nI 12 * nI r + _ = _
          rw [pk_mul, nI_add]
        have ld := hq_ld6 hg R S (p := 12 * r + o) (by omega)
        rw [hS6, hFr (by omega) hr hrs o ho] at ld
        cases xo : x.testBit o with
        | false =>
          rw [xo] at ld
          have b00 : ¬ b01 false = (1 : Int32) := by decide
          simp (disch := omega) only [f_X0_isReeled_L17, xgI_21 hg, xgN_30 hg, obS, e571, nI_leI, c1, ↓reduceIte, hb, hcI, b01_t, ix, ld, if_neg b00, nI_1]
        | true =>
          rw [xo] at ld
          have b11 : b01 true = (1 : Int32) := rfl
          have cf : cfB (S.2.2.2.1 0) w o = false := by rw [xo] at hp; simpa using hp
          have f9 := fo o ho (g3 o xo).2.1
          rw [cf] at f9
          simp (disch := omega) only [f_X0_isReeled_L17, xgI_21 hg, xgN_30 hg, obS, e571, nI_leI, c1, ↓reduceIte, hb, hcI, b01_t, ix, ld, if_pos b11, hx_chk hg, f9, b01_f, nI_1]
    · intro f o ho hp
      have c1 : ¬ hN (S.2.2.2.1 0) ≤ o := by omega
      simp only [Bool.and_eq_true] at hp
      obtain ⟨xo, cf⟩ := hp
      have ro := (g3 o xo).1
      have hb := fx_hasN (s := r) (k := o) (by omega) (by omega) (hMem A R S)
      rw [ro] at hb
      have ix : (12 : Int32) * nI r + nI o = nI (12 * r + o) := by
        show nI 12 * nI r + _ = _
        rw [pk_mul, nI_add]
      have ld := hq_ld6 hg R S (p := 12 * r + o) (by omega)
      rw [hS6, hFr (by omega) hr hrs o ho, xo] at ld
      have b11 : b01 true = (1 : Int32) := rfl
      have f9 := fo o ho (g3 o xo).2.1
      rw [cf] at f9
      simp (disch := omega) only [f_X0_isReeled_L17, xgI_21 hg, xgN_30 hg, obS, e571, nI_leI, c1, ↓reduceIte, hb, hcI, b01_t, ix, ld, if_pos b11, hx_chk hg, f9]
    · intro f
      have c1 : hN (S.2.2.2.1 0) ≤ hN (S.2.2.2.1 0) := Nat.le_refl _
      simp (disch := omega) only [f_X0_isReeled_L17, xgI_21 hg, obS, e571, nI_leI, c1, ↓reduceIte]
