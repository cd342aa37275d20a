/-! couples that fit -/
set_option maxRecDepth 100000
/-- the second one of a couple, from its number -/
def bq (q : Nat) : Option Nat := if q = 0 then none else some (q - 1)
theorem bI_bq (q : Nat) : bI (bq q) + 1 = nI q := by
  unfold bq
  by_cases c : q = 0
  · rw [if_pos c, bI_none, c]; rfl
  · rw [if_neg c, bI_some, nI_1]
    congr 1
    omega
theorem bq_s (q : Nat) : bI (bq q) + 1 = bI (bq (q + 1)) := by
  rw [bI_bq]
  unfold bq
  rw [if_neg (by omega), bI_some]
  rfl
theorem bq_ok {t : Nat → Int32} {q : Nat} (h : q ≤ hFc t) : okB t (bq q) := fun k hk => by
  unfold bq at hk
  by_cases c : q = 0
  · rw [if_pos c] at hk; cases hk
  · rw [if_neg c] at hk
    cases hk
    omega
theorem bq_le {n q : Nat} (hn : n < 2 ^ 30) (hq : q < 2 ^ 30) : (nI n ≤ bI (bq q)) = (n + 1 ≤ q) := by
  unfold bq
  by_cases c : q = 0
  · rw [if_pos c, bI_none, c]
    apply propext
    constructor
    · intro h
      rw [Int32.le_iff_toInt_le, nI_toInt (by omega)] at h
      have : (-1 : Int32).toInt = -1 := by decide
      omega
    · intro h; omega
  · rw [if_neg c, bI_some]
    apply propext
    rw [nI_leI (by omega) (by omega)]
    omega
theorem bq_eq {a q : Nat} (ha : a < 2 ^ 30) (hq : q < 2 ^ 30) : (nI a = bI (bq q)) = (q = a + 1) := by
  unfold bq
  by_cases c : q = 0
  · rw [if_pos c, bI_none, c]
    apply propext
    constructor
    · intro h; exact absurd h (nI_m1 a (by omega))
    · intro h; omega
  · rw [if_neg c, bI_some]
    apply propext
    rw [nI_eq (by omega) (by omega)]
    omega
def ftB (t : Nat → Int32) (a : Nat) (b : Option Nat) : Bool := (fstN (fun k => !decide (wMark t a b (cv (t (775 + 2 * k + 1))) = t (775 + 2 * k))) (hRc t)).isNone
/-- a couple by its number -/
def coB (t : Nat → Int32) (x : Nat) : Bool := decide (x % 11 ≤ hFc t) && (!decide (x % 11 = x / 11 + 1) && ftB t (x / 11) (bq (x % 11)))
def clL (t : Nat → Int32) : Nat → List Nat
  | 0 => []
  | x + 1 => clL t x ++ (if coB t x = true then [x] else [])
theorem clL_s (t : Nat → Int32) (x : Nat) : clL t (x + 1) = clL t x ++ (if coB t x = true then [x] else []) := rfl
theorem clL_len (t : Nat → Int32) : ∀ x, (clL t x).length ≤ x
  | 0 => Nat.le_refl _
  | x + 1 => by
    have := clL_len t x
    rw [clL_s, List.length_append]
    split <;> simp <;> omega
theorem clL_mem (t : Nat → Int32) : ∀ x y, y ∈ clL t x → y < x ∧ coB t y = true
  | 0, y, h => by cases h
  | x + 1, y, h => by
    rw [clL_s, List.mem_append] at h
    rcases h with h | h
    · have := clL_mem t x y h
      exact ⟨by omega, this.2⟩
    · by_cases c : coB t x = true
      · rw [if_pos c] at h
        have e : y = x := by simpa using h
        subst e
        exact ⟨by omega, c⟩
      · rw [if_neg c] at h
        cases h
theorem clL_skip {t : Nat → Int32} {a : Nat} : ∀ d, hFc t + 1 + d ≤ 11 → clL t (11 * a + (hFc t + 1 + d)) = clL t (11 * a + (hFc t + 1))
  | 0, _ => rfl
  | d + 1, h => by
    have e : 11 * a + (hFc t + 1 + (d + 1)) = 11 * a + (hFc t + 1 + d) + 1 := by omega
    have c : coB t (11 * a + (hFc t + 1 + d)) = false := by
      unfold coB
      have : ¬ (11 * a + (hFc t + 1 + d)) % 11 ≤ hFc t := by omega
      rw [decide_eq_false this, Bool.false_and]
    rw [e, clL_s, c, clL_skip d (by omega)]
    simp
theorem f_fitsAll {A : hA} {R : sMem} {S : hS} {g : Nat → Nat} {b L : Nat} {xs : Nat → Int32} (h : hInv A R S g b L xs) {a : Nat} {bo : Option Nat} (ha : a < hFc (S.2.2.2.1 0)) (hb : okB (S.2.2.2.1 0) bo) {r : Nat} {f : Nat → Int32} (hr : R.2.2.2 r = some (sArr 0 (wMany (S.2.2.2.1 0) a bo) f)) (hf : ∀ j, j < wMany (S.2.2.2.1 0) a bo → f j = wMark (S.2.2.2.1 0) a bo j) : f_X0_fitsAll (hX A) r (hMem A R S) = some (.inl (some (.int (b01 (ftB (S.2.2.2.1 0) a bo)))), hMem A R S) := by
  have hg := h.1.1
  have hc := h.1.2.1
  have hs : sFuel = 1000000 := rfl
  have wf := h.act.1.2.1
  have wr := h.act.1.2.2.2.2.1
  have l12 : hRc (S.2.2.2.1 0) ≤ 12 := wr.1.2
  obtain ⟨lm, lm1⟩ := wMany_le wf ha hb
  obtain ⟨-, -, -, -, ⟨q4, r4, fo, ao, k1, k2⟩, -⟩ := h.reps
  have ln := hR_lenq hc S k1
  have lr := hR_len hc S hr
  have mk : ∀ i, i ≤ 11 → f_X0_markOf r (nI i) (hMem A R S) = some (.inl (some (.int (wMark (S.2.2.2.1 0) a bo i))), hMem A R S) := fun i hi => by
    by_cases c : wMany (S.2.2.2.1 0) a bo ≤ i
    · have e : wMark (S.2.2.2.1 0) a bo i = -1 := by unfold wMark; rw [if_neg (by omega)]
      rw [e]
      simp (disch := omega) only [f_X0_markOf, lr, obS, nI_leI, c, ↓reduceIte]
    · have ld := hR_ld hc S hr (p := i) (by omega) (by omega)
      rw [hf i (by omega)] at ld
      simp (disch := omega) only [f_X0_markOf, lr, obS, nI_leI, c, ↓reduceIte, ld]
  have P := lp_E (fun q k => f_X0_fitsAll_L2 (hX A) r q (nI k) (hMem A R S)) (hRc (S.2.2.2.1 0)) (fun k => !decide (wMark (S.2.2.2.1 0) a bo (cv (S.2.2.2.1 0 (775 + 2 * k + 1))) = S.2.2.2.1 0 (775 + 2 * k))) (fun _ => some (.inl (some (.int 0)), hMem A R S)) (some (.inl (some (.int 1)), hMem A R S)) ?_ ?_ ?_ sFuel (by omega)
  · refine Eq.trans P ?_
    unfold ftB
    cases fstN (fun k => !decide (wMark (S.2.2.2.1 0) a bo (cv (S.2.2.2.1 0 (775 + 2 * k + 1))) = S.2.2.2.1 0 (775 + 2 * k))) (hRc (S.2.2.2.1 0)) <;> rfl
  · intro q k hk hp
    have c0 : ¬ hRc (S.2.2.2.1 0) ≤ k := by omega
    obtain ⟨b1, b2⟩ := k2 k hk
    obtain ⟨e11, l11⟩ := wr.2 k hk
    have ld := hR_ldn hc S k1 (by omega) hk (by omega) b1
    have pl : f_X12_place (ao k) (hMem A R S) = some (.inl (some (.int (nI (cv (S.2.2.2.1 0 (775 + 2 * k + 1)))))), hMem A R S) := by
      unfold f_X12_place
      rw [hR_I hc S b2 (k := 1) rfl, obS]
      exact congrArg (fun z => some (Sum.inl (some (Value.int z)), hMem A R S)) e11
    have mm : f_X12_mark (ao k) (hMem A R S) = some (.inl (some (.int (S.2.2.2.1 0 (775 + 2 * k)))), hMem A R S) := by
      unfold f_X12_mark
      rw [hR_I hc S b2 (k := 0) rfl]
      rfl
    have ck := fun o => hR_chk hc S b2 o
    have mk9 := mk (cv (S.2.2.2.1 0 (775 + 2 * k + 1))) l11
    have p9 : wMark (S.2.2.2.1 0) a bo (cv (S.2.2.2.1 0 (775 + 2 * k + 1))) = S.2.2.2.1 0 (775 + 2 * k) := by simpa using hp
    simp (disch := omega) only [f_X0_fitsAll_L2, xgN_29 hg, r4, hvN_ref, obS, ln, nI_leI, c0, ↓reduceIte, ld, ck, pl, hcI, mk9, mm, if_pos p9, nI_1]
  · intro q k hk hp
    have c0 : ¬ hRc (S.2.2.2.1 0) ≤ k := by omega
    obtain ⟨b1, b2⟩ := k2 k hk
    obtain ⟨e11, l11⟩ := wr.2 k hk
    have ld := hR_ldn hc S k1 (by omega) hk (by omega) b1
    have pl : f_X12_place (ao k) (hMem A R S) = some (.inl (some (.int (nI (cv (S.2.2.2.1 0 (775 + 2 * k + 1)))))), hMem A R S) := by
      unfold f_X12_place
      rw [hR_I hc S b2 (k := 1) rfl, obS]
      exact congrArg (fun z => some (Sum.inl (some (Value.int z)), hMem A R S)) e11
    have mm : f_X12_mark (ao k) (hMem A R S) = some (.inl (some (.int (S.2.2.2.1 0 (775 + 2 * k)))), hMem A R S) := by
      unfold f_X12_mark
      rw [hR_I hc S b2 (k := 0) rfl]
      rfl
    have ck := fun o => hR_chk hc S b2 o
    have mk9 := mk (cv (S.2.2.2.1 0 (775 + 2 * k + 1))) l11
    have p9 : ¬ wMark (S.2.2.2.1 0) a bo (cv (S.2.2.2.1 0 (775 + 2 * k + 1))) = S.2.2.2.1 0 (775 + 2 * k) := by simpa using hp
    simp (disch := omega) only [f_X0_fitsAll_L2, xgN_29 hg, r4, hvN_ref, obS, ln, nI_leI, c0, ↓reduceIte, ld, ck, pl, hcI, mk9, mm, if_neg p9]
  · intro q
    have c0 : hRc (S.2.2.2.1 0) ≤ hRc (S.2.2.2.1 0) := Nat.le_refl _
    simp (disch := omega) only [f_X0_fitsAll_L2, xgN_29 hg, r4, hvN_ref, obS, ln, nI_leI, c0, ↓reduceIte]
theorem px_couldBe {t : Nat → Int32} (hw : wAct t) (m : Nat) (s : mSt) (hs0 : s.2 0 = t) {a q : Nat} (ha : a < hFc t) (hq : q ≤ hFc t) : p_X3_couldBe m (nI a) (bI (bq q)) s = some (some (.int (b01 (coB t (11 * a + q)))), s) := by
  have hs : sFuel = 1000000 := rfl
  have wf := hw.1.2.1
  have wr := hw.1.2.2.2.2.1
  have h10 : hFc t ≤ 10 := wf.1.2
  have l12 : hRc t ≤ 12 := wr.1.2
  have e577 : t 577 = nI (hRc t) := wr.1.1
  have q577 : qAld s 0 577 = some (nI (hRc t)) := by
    have := qld_0 s (p := 577) (by omega)
    rw [hs0, e577] at this
    exact this
  have d1 : (11 * a + q) % 11 = q := by omega
  have d2 : (11 * a + q) / 11 = a := by omega
  have af := px_areFacts m (nI a) (bI (bq q)) s
  have wc : wCpl (s.2 0) (nI a) (bI (bq q)) = !decide (q = a + 1) := by
    rw [hs0]
    unfold wCpl
    have e572 : t 572 = nI (hFc t) := wf.1.1
    have i1 : inB (nI a) 0 (t 572 - 1) = true := by
      rw [e572]
      have e1 : nI (hFc t) - 1 = nI (hFc t - 1) := pk_sub (b := 1) (by omega)
      unfold inB
      rw [e1]
      have a1 : ¬ nI a < 0 := nI_pos (by omega)
      have a2 : ¬ nI (hFc t - 1) < nI a := fun e => by have := (nI_ltI (by omega) (by omega)).mp e; omega
      simp [a1, a2]
    have e9 : decide (nI a = bI (bq q)) = decide (q = a + 1) := decide_eq_decide.mpr (iff_of_eq (bq_eq (by omega) (by omega)))
    rw [i1, e9]
    have i2 : (decide (bI (bq q) = -1) || inB (bI (bq q)) 0 (t 572 - 1)) = true := by
      unfold bq
      by_cases c : q = 0
      · rw [if_pos c, bI_none]
        rfl
      · rw [if_neg c, bI_some]
        have : inB (nI (q - 1)) 0 (t 572 - 1) = true := by
          rw [e572]
          have e1 : nI (hFc t) - 1 = nI (hFc t - 1) := pk_sub (b := 1) (by omega)
          unfold inB
          rw [e1]
          have a1 : ¬ nI (q - 1) < 0 := nI_pos (by omega)
          have a2 : ¬ nI (hFc t - 1) < nI (q - 1) := fun e => by have := (nI_ltI (by omega) (by omega)).mp e; omega
          simp [a1, a2]
        simp [this]
    rw [i2]
    simp
  rw [wc] at af
  have pm := fun i (hi : i < 1000) => px_mark m s (a := a) (b := bq q) (i := i) (by rw [hs0]; exact wf) (by rw [hs0]; exact ha) (by rw [hs0]; exact bq_ok hq) hi
  simp only [hs0] at pm
  unfold coB
  rw [d1, d2]
  have dq : decide (q ≤ hFc t) = true := decide_eq_true hq
  rw [dq, Bool.true_and]
  by_cases c : q = a + 1
  · have e : (!decide (q = a + 1)) = false := by simp [c]
    rw [e] at af
    have e2 : decide (q = a + 1) = true := decide_eq_true c
    simp only [p_X3_couldBe, af, pcI, b01_f, ↓reduceIte, e2, Bool.not_true, Bool.false_and]
    rfl
  · have e : (!decide (q = a + 1)) = true := by simp [c]
    rw [e] at af ⊢
    rw [Bool.true_and]
    have P := lp_E (fun z k => p_X3_couldBe_L13 m (nI a) (bI (bq q)) z (nI k) s) (hRc t) (fun k => !decide (wMark t a (bq q) (cv (t (775 + 2 * k + 1))) = t (775 + 2 * k))) (fun _ => some (some (.int 0), s)) (some (some (.int 1), s)) ?_ ?_ ?_ sFuel (by omega)
    · have P' : p_X3_couldBe_L13 m (nI a) (bI (bq q)) sFuel 0 s = some (some (.int (b01 (ftB t a (bq q)))), s) := by
        refine Eq.trans P ?_
        unfold ftB
        cases fstN (fun k => !decide (wMark t a (bq q) (cv (t (775 + 2 * k + 1))) = t (775 + 2 * k))) (hRc t) <;> rfl
      simp only [p_X3_couldBe, af, pcI, b01_t, ↓reduceIte, P']
    · intro z k hk hp
      have c0 : ¬ hRc t ≤ k := by omega
      obtain ⟨e11, l11⟩ := wr.2 k hk
      have c1 : (775 : Int32) + 2 * nI k = nI (775 + 2 * k) := by
        show nI 775 + nI 2 * nI k = _
        rw [pk_mul, nI_add]
      have q1 : qAld s 0 (nI (775 + 2 * k)) = some (t (775 + 2 * k)) := by rw [qld_0 _ (by omega), hs0]
      have q2 : qAld s 0 (nI (775 + 2 * k + 1)) = some (nI (cv (t (775 + 2 * k + 1)))) := by rw [qld_0 _ (by omega), hs0]; exact congrArg some e11
      have p9 : wMark t a (bq q) (cv (t (775 + 2 * k + 1))) = t (775 + 2 * k) := by simpa using hp
      have pm9 := pm (cv (t (775 + 2 * k + 1))) (by omega)
      simp (disch := omega) only [p_X3_couldBe_L13, mRow_0, obS, q577, nI_leI, c0, ↓reduceIte, c1, nI_1, q2, pm9, pcI, q1, if_pos p9]
    · intro z k hk hp
      have c0 : ¬ hRc t ≤ k := by omega
      obtain ⟨e11, l11⟩ := wr.2 k hk
      have c1 : (775 : Int32) + 2 * nI k = nI (775 + 2 * k) := by
        show nI 775 + nI 2 * nI k = _
        rw [pk_mul, nI_add]
      have q1 : qAld s 0 (nI (775 + 2 * k)) = some (t (775 + 2 * k)) := by rw [qld_0 _ (by omega), hs0]
      have q2 : qAld s 0 (nI (775 + 2 * k + 1)) = some (nI (cv (t (775 + 2 * k + 1)))) := by rw [qld_0 _ (by omega), hs0]; exact congrArg some e11
      have p9 : ¬ wMark t a (bq q) (cv (t (775 + 2 * k + 1))) = t (775 + 2 * k) := by simpa using hp
      have pm9 := pm (cv (t (775 + 2 * k + 1))) (by omega)
      simp (disch := omega) only [p_X3_couldBe_L13, mRow_0, obS, q577, nI_leI, c0, ↓reduceIte, c1, nI_1, q2, pm9, pcI, q1, if_neg p9]
    · intro z
      have c0 : hRc t ≤ hRc t := Nat.le_refl _
      simp (disch := omega) only [p_X3_couldBe_L13, mRow_0, obS, q577, nI_leI, c0, ↓reduceIte]
theorem f_couples {A : hA} {R : sMem} {S : hS} {g : Nat → Nat} {b L : Nat} {xs : Nat → Int32} (h : hInv A R S g b L xs) : ∃ R' r F, f_X0_couples (hX A) (hMem A R S) = some (.inl (some (.ref r)), hMem A R' S) ∧ hEx 230 15000 R R' ∧ hCl A R' ∧ R'.2.2.2 r = some (sArr 0 (clL (S.2.2.2.1 0) (11 * hFc (S.2.2.2.1 0))).length F) ∧ ∀ k, k < (clL (S.2.2.2.1 0) (11 * hFc (S.2.2.2.1 0))).length → F k = nI ((clL (S.2.2.2.1 0) (11 * hFc (S.2.2.2.1 0))).getD k 0) := by
  have hg := h.1.1
  have hc := h.1.2.1
  have hw := h.act
  have wf := hw.1.2.1
  have h10 : hFc (S.2.2.2.1 0) ≤ 10 := wf.1.2
  have hs : sFuel = 1000000 := rfl
  have hc1 := hc.new (sArr 0 0 (fun _ => 0)) 0
  have x1 := hEx.new hc (sArr 0 0 (fun _ => 0)) 0
  have a1 := sNew_at R (sArr 0 0 (fun _ => 0)) 0
  have nA : ∀ K, sNewA (hMem A R S) 0 0 K = K R.2.1 (hMem A (sNew R (sArr 0 0 (fun _ => 0)) 0) S) := fun K => hNewA hc S (n := 0) (by omega) K
  generalize hR1 : sNew R (sArr 0 0 (fun _ => 0)) 0 = R1 at *
  -- the state: heap and row; at number x
  have inv : ∃ I : Nat → sMem × Nat → Prop, ∀ x y, I x y ↔ (hCl A y.1 ∧ hEx (1 + 2 * x) (125 * x) R y.1 ∧ ∃ F, y.1.2.2.2 y.2 = some (sArr 0 (clL (S.2.2.2.1 0) x).length F) ∧ ∀ k, k < (clL (S.2.2.2.1 0) x).length → F k = nI ((clL (S.2.2.2.1 0) x).getD k 0)) := ⟨_, fun _ _ => Iff.rfl⟩
  obtain ⟨I, hI⟩ := inv
  have J := lk (α := sMem × Nat) (fun f a y => f_X0_couples_L6 (hX A) f y.2 (nI a) (hMem A y.1 S)) (fun _ _ _ => none) (hFc (S.2.2.2.1 0)) (fun a y => I (11 * a) y) (fun o _ => ∃ y : sMem × Nat, I (11 * hFc (S.2.2.2.1 0)) y ∧ o = some (.inl (some (.ref y.2)), hMem A y.1 S)) ?_ ?_ (by omega) (R1, R.2.1) ((hI _ _).mpr ⟨hc1, x1.le (by omega) (by omega), fun _ => 0, a1, fun k hk => absurd hk (by show ¬ k < 0; omega)⟩)
  · obtain ⟨y, hy, e⟩ := J
    obtain ⟨b1, b2, F, b3, b4⟩ := (hI _ _).mp hy
    refine ⟨y.1, y.2, F, ?_, b2.le (by omega) (by omega), b1, b3, b4⟩
    simp only [f_X0_couples, nA]
    exact e
  · intro f f' a y ha hy
    have c0 : ¬ hFc (S.2.2.2.1 0) ≤ a := by omega
    obtain ⟨b1, b2, F, b3, b4⟩ := (hI _ _).mp hy
    have hI1 := h.more b2.1 b1
    obtain ⟨q0, ao, ma, g1, g2, -⟩ := fact_get (S := S) hg b1 hI1.fa wf
    have K := lk (α := sMem × Nat) (fun q z y => f_X0_couples_L17 (f_X0_couples_L6 (hX A) f) (hX A) (nI a) q y.2 (bI (bq z)) (hMem A y.1 S)) (fun _ _ _ => none) (hFc (S.2.2.2.1 0) + 1) (fun z y => I (11 * a + z) y) (fun o _ => ∃ y : sMem × Nat, I (11 * (a + 1)) y ∧ o = f_X0_couples_L6 (hX A) f y.2 (nI (a + 1)) (hMem A y.1 S)) ?_ ?_ (by omega) y hy
    · obtain ⟨y', h1, h2⟩ := K
      refine Or.inl ⟨y', h1, ?_, rfl⟩
      rw [← h2]
      simp (disch := omega) only [f_X0_couples_L6, g1, g2, obS, nI_leI, c0, ↓reduceIte]
      rfl
    · intro q q' z y hz hy
      have z10 : z ≤ hFc (S.2.2.2.1 0) := by omega
      obtain ⟨b1, b2, F, b3, b4⟩ := (hI _ _).mp hy
      have hI1 := h.more b2.1 b1
      obtain ⟨q0, ao, ma, g1, g2, -⟩ := fact_get (S := S) hg b1 hI1.fa wf
      have bl := bq_le (n := hFc (S.2.2.2.1 0)) (q := z) (by omega) (by omega)
      have c1 : ¬ nI (hFc (S.2.2.2.1 0)) ≤ bI (bq z) := fun e => by have := Eq.mp bl e; omega
      have be := bq_eq (a := a) (q := z) (by omega) (by omega)
      have cs := clL_s (S.2.2.2.1 0) (11 * a + z)
      have cp : coB (S.2.2.2.1 0) (11 * a + z) = (!decide (z = a + 1) && ftB (S.2.2.2.1 0) a (bq z)) := by
        unfold coB
        rw [show (11 * a + z) % 11 = z by omega, show (11 * a + z) / 11 = a by omega, decide_eq_true z10, Bool.true_and]
      have len := clL_len (S.2.2.2.1 0) (11 * a + z)
      by_cases c : z = a + 1
      · have cf : coB (S.2.2.2.1 0) (11 * a + z) = false := by rw [cp]; simp [c]
        have e0 : clL (S.2.2.2.1 0) (11 * a + (z + 1)) = clL (S.2.2.2.1 0) (11 * a + z) := by
          rw [show 11 * a + (z + 1) = 11 * a + z + 1 by omega, cs, cf]
          simp
        refine Or.inl ⟨y, (hI _ _).mpr ⟨b1, b2.le (by omega) (by omega), F, by rw [e0]; exact b3, by rw [e0]; exact b4⟩, ?_, rfl⟩
        simp (disch := omega) only [f_X0_couples_L17, g1, g2, obS, if_neg c1, eq_true (Eq.mpr be c), ↓reduceIte, bq_s]
      · have ne : ¬ nI a = bI (bq z) := fun e => c (Eq.mp be e)
        obtain ⟨R2, r2, f2, s1, x2, hc2, a2, k2⟩ := f_spunOf (S := S) hg b1 hI1.fa wf (a := a) (b := bq z) ha (bq_ok z10)
        have hI2 := hI1.more x2.1 hc2
        have ff := f_fitsAll hI2 ha (bq_ok z10) a2 k2
        cases ft : ftB (S.2.2.2.1 0) a (bq z) with
        | false =>
          rw [ft] at ff
          have cf : coB (S.2.2.2.1 0) (11 * a + z) = false := by rw [cp, ft]; simp
          have e0 : clL (S.2.2.2.1 0) (11 * a + (z + 1)) = clL (S.2.2.2.1 0) (11 * a + z) := by
            rw [show 11 * a + (z + 1) = 11 * a + z + 1 by omega, cs, cf]
            simp
          refine Or.inl ⟨(R2, y.2), (hI _ _).mpr ⟨hc2, (b2.trans x2).le (by omega) (by omega), F, by rw [e0]; exact x2.1 _ _ b3, by rw [e0]; exact b4⟩, ?_, rfl⟩
          simp (disch := omega) only [f_X0_couples_L17, g1, g2, obS, if_neg c1, ne, ↓reduceIte, hx_chk hg, s1, hcN, ff, hcI, b01_f, bq_s]
        | true =>
          rw [ft] at ff
          have cf : coB (S.2.2.2.1 0) (11 * a + z) = true := by rw [cp, ft]; simp [c]
          have e0 : clL (S.2.2.2.1 0) (11 * a + (z + 1)) = clL (S.2.2.2.1 0) (11 * a + z) ++ [11 * a + z] := by
            rw [show 11 * a + (z + 1) = 11 * a + z + 1 by omega, cs, cf]
            simp
          obtain ⟨R3, r3, F3, w1, a3, k3, k4, x3, hc3⟩ := f_with hg hc2 S (x2.1 _ _ b3) (by omega) (nI (11 * a + z))
          have ev : (11 : Int32) * nI a + bI (bq z) + 1 = nI (11 * a + z) := by
            rw [Int32.add_assoc, bI_bq]
            show nI 11 * nI a + _ = _
            rw [pk_mul, nI_add]
          refine Or.inl ⟨(R3, r3), (hI _ _).mpr ⟨hc3, ((b2.trans x2).trans x3).le (by omega) (by omega), F3, by rw [e0, List.length_append]; exact a3, fun k hk => ?_⟩, ?_, rfl⟩
          · rw [e0, List.length_append] at hk
            rw [e0]
            by_cases ck : k < (clL (S.2.2.2.1 0) (11 * a + z)).length
            · rw [k3 k ck, b4 k ck]
              rw [List.getD_eq_getElem?_getD, List.getD_eq_getElem?_getD, List.getElem?_append_left ck]
            · have : k = (clL (S.2.2.2.1 0) (11 * a + z)).length := by
                have : ([11 * a + z] : List Nat).length = 1 := rfl
                omega
              subst this
              rw [k4, List.getD_eq_getElem?_getD, List.getElem?_append_right (Nat.le_refl _), Nat.sub_self]
              rfl
          · simp (disch := omega) only [f_X0_couples_L17, g1, g2, obS, if_neg c1, ne, ↓reduceIte, hx_chk hg, s1, hcN, ff, hcI, b01_t, ev, w1, bq_s]
    · intro q q' y hy
      obtain ⟨b1, b2, F, b3, b4⟩ := (hI _ _).mp hy
      have hI1 := h.more b2.1 b1
      obtain ⟨q0, ao, ma, g1, g2, -⟩ := fact_get (S := S) hg b1 hI1.fa wf
      have bl := bq_le (n := hFc (S.2.2.2.1 0)) (q := hFc (S.2.2.2.1 0) + 1) (by omega) (by omega)
      have c1 : nI (hFc (S.2.2.2.1 0)) ≤ bI (bq (hFc (S.2.2.2.1 0) + 1)) := Eq.mpr bl (Nat.le_refl _)
      have sk := clL_skip (t := S.2.2.2.1 0) (a := a) (11 - (hFc (S.2.2.2.1 0) + 1)) (by omega)
      rw [show hFc (S.2.2.2.1 0) + 1 + (11 - (hFc (S.2.2.2.1 0) + 1)) = 11 by omega, show 11 * a + 11 = 11 * (a + 1) by omega] at sk
      refine ⟨y, (hI _ _).mpr ⟨b1, b2.le (by omega) (by omega), F, by rw [sk]; exact b3, by rw [sk]; exact b4⟩, ?_⟩
      simp (disch := omega) only [f_X0_couples_L17, g1, g2, obS, if_pos c1, nI_1]
  · intro f f' y hy
    have c0 : hFc (S.2.2.2.1 0) ≤ hFc (S.2.2.2.1 0) := Nat.le_refl _
    obtain ⟨b1, b2, F, b3, b4⟩ := (hI _ _).mp hy
    have hI1 := h.more b2.1 b1
    obtain ⟨q0, ao, ma, g1, g2, -⟩ := fact_get (S := S) hg b1 hI1.fa wf
    refine ⟨y, hy, ?_⟩
    simp (disch := omega) only [f_X0_couples_L6, g1, g2, obS, nI_leI, c0, ↓reduceIte]
