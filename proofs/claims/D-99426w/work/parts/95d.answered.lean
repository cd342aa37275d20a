/-! queries answered -/
set_option maxRecDepth 100000
/-- a set of some numbers, as a number -/
def abN (f : Nat → Bool) : Nat → Nat
  | 0 => 0
  | k + 1 => abN f k ||| (if f k = true then 2 ^ k else 0)
theorem abN_lt (f : Nat → Bool) : ∀ n, abN f n < 2 ^ n
  | 0 => by simp [abN]
  | n + 1 => by
    have := abN_lt f n
    unfold abN
    refine Nat.or_lt_two_pow (Nat.lt_of_lt_of_le this (Nat.pow_le_pow_right (by omega) (by omega))) ?_
    split
    · exact Nat.pow_lt_pow_right (by omega) (by omega)
    · exact Nat.pow_pos (by omega)
theorem abN_bit (f : Nat → Bool) : ∀ n i, (abN f n).testBit i = (decide (i < n) && f i)
  | 0, i => by simp [abN]
  | n + 1, i => by
    unfold abN
    rw [Nat.testBit_or, abN_bit f n i]
    by_cases c : f n = true
    · rw [if_pos c, Nat.testBit_two_pow]
      by_cases e : n = i
      · subst e; simp [c]
      · have : decide (i < n + 1) = decide (i < n) := decide_eq_decide.mpr (by omega)
        simp [e, this]
    · rw [if_neg c, Nat.zero_testBit]
      by_cases e : n = i
      · subst e; simp [c]
      · have : decide (i < n + 1) = decide (i < n) := decide_eq_decide.mpr (by omega)
        simp [this]
theorem abN_eq (f g : Nat → Bool) (n : Nat) : (abN f n = abN g n) = (∀ i, i < n → f i = g i) := by
  apply propext
  constructor
  · intro h i hi
    have := congrArg (fun x => x.testBit i) h
    simp only [abN_bit] at this
    simpa [hi] using this
  · intro h
    apply Nat.eq_of_testBit_eq
    intro i
    rw [abN_bit, abN_bit]
    by_cases c : i < n
    · rw [h i c]
    · simp [c]
theorem cntB_sub {f g : Nat → Bool} : ∀ {n : Nat}, (∀ i, i < n → f i = true → g i = true) → cntB f n ≤ cntB g n ∧ ((cntB f n = cntB g n) ↔ (∀ i, i < n → f i = g i))
  | 0, _ => ⟨Nat.le_refl _, ⟨fun _ i hi => by omega, fun _ => rfl⟩⟩
  | n + 1, h => by
    obtain ⟨h1, h2⟩ := cntB_sub (f := f) (g := g) (n := n) (fun i hi => h i (by omega))
    rw [cntB_s, cntB_s]
    have hn := h n (by omega)
    cases cf : f n with
    | true =>
      have cg := hn cf
      rw [cg]
      refine ⟨by omega, ⟨fun e i hi => ?_, fun e => ?_⟩⟩
      · by_cases c : i = n
        · subst c; rw [cf, cg]
        · exact h2.mp (by simpa using e) i (by omega)
      · have := h2.mpr (fun i hi => e i (by omega))
        omega
    | false =>
      cases cg : g n with
      | true =>
        refine ⟨by simp; omega, ⟨fun e => ?_, fun e => ?_⟩⟩
        · simp at e
          omega
        · have := e n (by omega)
          rw [cf, cg] at this
          cases this
      | false =>
        refine ⟨by simpa using h1, ⟨fun e i hi => ?_, fun e => ?_⟩⟩
        · by_cases c : i = n
          · subst c; rw [cf, cg]
          · exact h2.mp (by simpa using e) i (by omega)
        · have := h2.mpr (fun i hi => e i (by omega))
          simpa using this
theorem cntB_abN (f : Nat → Bool) {n : Nat} (h : n ≤ 16) : cntB (fun i => (abN f n).testBit i) 16 = cntB f n := by
  have e : cntB (fun i => (abN f n).testBit i) 16 = cntB (fun i => decide (i < n) && f i) 16 := cntB_congr (fun k _ => abN_bit f n k)
  rw [e]
  have := cntB_lim f n (16 - n)
  rwa [show n + (16 - n) = 16 by omega] at this
theorem bc_abN (f : Nat → Bool) {n : Nat} (h : n ≤ 16) (M : sMem) : f_J10_bitCount (nI (abN f n)) M = some (.inl (some (.int (nI (cntB f n)))), M) := by
  have l := abN_lt f n
  have : (2 : Nat) ^ n ≤ 2 ^ 16 := Nat.pow_le_pow_right (by omega) h
  have e := bc_16 (n := abN f n) (by omega)
  rw [cntB_abN f h] at e
  rw [f_bc, e]
/-- or over some -/
def orN (c : Nat → Nat) : Nat → Nat
  | 0 => 0
  | k + 1 => orN c k ||| c k
theorem orN_lt {c : Nat → Nat} : ∀ {n : Nat}, (∀ k, k < n → c k < 2 ^ 4) → orN c n < 2 ^ 4
  | 0, _ => by
    show 0 < 2 ^ 4
    decide
  | n + 1, h => Nat.or_lt_two_pow (orN_lt (n := n) (fun k hk => h k (by omega))) (h n (by omega))
theorem or_and0 (x y s : Nat) : ((x ||| y) &&& s = 0) = (x &&& s = 0 ∧ y &&& s = 0) := by
  have e : (x ||| y) &&& s = x &&& s ||| y &&& s := by
    apply Nat.eq_of_testBit_eq
    intro i
    simp only [Nat.testBit_and, Nat.testBit_or]
    cases x.testBit i <;> cases y.testBit i <;> cases s.testBit i <;> rfl
  rw [e]
  apply propext
  constructor
  · intro h
    constructor
    · apply Nat.eq_of_testBit_eq
      intro i
      have := congrArg (fun z => z.testBit i) h
      simp only [Nat.testBit_or, Nat.zero_testBit, Bool.or_eq_false_iff] at this
      rw [Nat.zero_testBit]
      exact this.1
    · apply Nat.eq_of_testBit_eq
      intro i
      have := congrArg (fun z => z.testBit i) h
      simp only [Nat.testBit_or, Nat.zero_testBit, Bool.or_eq_false_iff] at this
      rw [Nat.zero_testBit]
      exact this.2
  · intro h
    rw [h.1, h.2]
    rfl
def qbB (t : Nat → Int32) (q f : Nat) : Bool := decide ((t (759 + q) >>> (nI f &&& 31)) &&& 1 = 1)
noncomputable def tqN (t : Nat → Int32) (q n : Nat) : Nat := orN (fun f => if qbB t q f = true then trv t f else 0) n
theorem tqN_lt {t : Nat → Int32} (h : wAct t) (q n : Nat) : tqN t q n < 2 ^ 4 := orN_lt (fun k _ => by
  have := trv_lt h k
  split <;> omega)
theorem tqN_s (t : Nat → Int32) (q n : Nat) : tqN t q (n + 1) = tqN t q n ||| (if qbB t q n = true then trv t n else 0) := rfl
noncomputable def aqB (t : Nat → Int32) (s q : Nat) : Bool := decide (tqN t q (hFc t) &&& s ≠ 0)
theorem f_answeredBy {A : hA} {R : sMem} {S : hS} {g : Nat → Nat} {b L : Nat} {xs : Nat → Int32} (h : hInv A R S g b L xs) {r s : Nat} (hs : s < 16) {F : Nat → Int32} (hr : R.2.2.2 r = some (sArr 0 (hFc (S.2.2.2.1 0)) F)) (hF : ∀ f, f < hFc (S.2.2.2.1 0) → F f = nI (trv (S.2.2.2.1 0) f)) : f_X0_answeredBy (hX A) (nI s) r (hMem A R S) = some (.inl (some (.int (nI (abN (aqB (S.2.2.2.1 0) s) (hQc (S.2.2.2.1 0)))))), hMem A R S) := by
  have hg := h.1.1
  have hc := h.1.2.1
  have hw := h.act
  have wf := hw.1.2.1
  have h10 : hFc (S.2.2.2.1 0) ≤ 10 := wf.1.2
  have h16 : hQc (S.2.2.2.1 0) ≤ 16 := hw.1.2.2.2.1.2
  obtain ⟨q0, ao, ma, g1, g2, -⟩ := fact_get (S := S) hg hc h.fa wf
  obtain ⟨-, -, -, ⟨q3, r3, f3, b3, e3⟩, -⟩ := h.reps
  have ln := hR_len hc S b3
  have lt := fun f => trv_lt hw f
  have ltq := fun q n => tqN_lt hw q n
  refine lk (fun f k (_ : Unit) => f_X0_answeredBy_L5 (hX A) (nI s) r f (nI (abN (aqB (S.2.2.2.1 0) s) k)) (nI k) (hMem A R S)) (fun _ _ _ => none) (hQc (S.2.2.2.1 0)) (fun _ _ => True) (fun o _ => o = some (.inl (some (.int (nI (abN (aqB (S.2.2.2.1 0) s) (hQc (S.2.2.2.1 0)))))), hMem A R S)) ?_ ?_ (by omega) () trivial
  · intro f f' k _ hk _
    have c0 : ¬ hQc (S.2.2.2.1 0) ≤ k := by omega
    refine Or.inl ⟨(), trivial, ?_, rfl⟩
    have lta := abN_lt (aqB (S.2.2.2.1 0) s) k
    have p16 : (2 : Nat) ^ k < 2 ^ 16 := Nat.pow_lt_pow_right (by omega) (by omega)
    have one : (1 : Int32) <<< (nI k &&& 31) = nI (2 ^ k) := nI_one (by omega)
    have ldq := hR_ld hc S b3 hk (by omega)
    rw [e3 k hk] at ldq
    have ltB : ∀ e : Bool, abN (aqB (S.2.2.2.1 0) s) k ||| (if e = true then 2 ^ k else 0) < 2 ^ 17 := fun e => by
      refine Nat.or_lt_two_pow (by omega) ?_
      split <;> omega
    have IN := lk (fun q j (_ : Unit) => f_X0_answeredBy_L18 (f_X0_answeredBy_L5 (hX A) (nI s) r f) (hX A) (nI s) r (nI k) q (nI (abN (aqB (S.2.2.2.1 0) s) k ||| (if decide (tqN (S.2.2.2.1 0) k j &&& s ≠ 0) = true then 2 ^ k else 0))) (nI j) (hMem A R S)) (fun _ _ _ => none) (hFc (S.2.2.2.1 0)) (fun _ _ => True) (fun o _ => o = f_X0_answeredBy_L5 (hX A) (nI s) r f (nI (abN (aqB (S.2.2.2.1 0) s) (k + 1))) (nI (k + 1)) (hMem A R S)) ?_ ?_ (by omega) () trivial
    · have z : tqN (S.2.2.2.1 0) k 0 &&& s = 0 := Nat.zero_and s
      have IN' : f_X0_answeredBy_L18 (f_X0_answeredBy_L5 (hX A) (nI s) r f) (hX A) (nI s) r (nI k) sFuel (nI (abN (aqB (S.2.2.2.1 0) s) k ||| (if decide (tqN (S.2.2.2.1 0) k 0 &&& s ≠ 0) = true then 2 ^ k else 0))) 0 (hMem A R S) = _ := IN
      simp only [z, ne_eq, not_true_eq_false, decide_false, Bool.false_eq_true, ↓reduceIte, Nat.or_zero] at IN'
      rw [← IN']
      simp (disch := omega) only [f_X0_answeredBy_L5, xgN_20 hg, r3, hvN_ref, obS, ln, nI_leI, c0, ↓reduceIte]
    · intro q q' j _ hj _
      have c1 : ¬ hFc (S.2.2.2.1 0) ≤ j := by omega
      have hb : f_X0_has (S.2.2.2.1 0 (759 + k)) (nI j) (hMem A R S) = some (.inl (some (.int (b01 (qbB (S.2.2.2.1 0) k j)))), hMem A R S) := by
        unfold f_X0_has qbB
        by_cases c : (S.2.2.2.1 0 (759 + k) >>> (nI j &&& 31)) &&& 1 = 1
        · rw [if_pos c, decide_eq_true c]
          rfl
        · rw [if_neg c, decide_eq_false c]
          rfl
      have ldr := hR_ld hc S hr hj (by omega)
      rw [hF j hj] at ldr
      refine Or.inl ⟨(), trivial, ?_, rfl⟩
      rw [tqN_s]
      cases cq : qbB (S.2.2.2.1 0) k j with
      | false =>
        rw [cq] at hb
        simp (disch := omega) only [f_X0_answeredBy_L18, g1, g2, obS, nI_leI, c1, ↓reduceIte, xgN_20 hg, r3, hvN_ref, ldq, hb, hcI, b01_f, Int32.or_zero, nI_1, Bool.false_eq_true, Nat.or_zero]
      | true =>
        rw [cq] at hb
        have an := nI_and (a := trv (S.2.2.2.1 0) j) (b := s) (by have := lt j; omega) (by omega)
        have la : trv (S.2.2.2.1 0) j &&& s < 2 ^ 4 := Nat.lt_of_le_of_lt Nat.and_le_left (lt j)
        have ez : (nI (trv (S.2.2.2.1 0) j &&& s) = 0) = (trv (S.2.2.2.1 0) j &&& s = 0) := propext (nI_eq (b := 0) (by omega) (by omega))
        have orr := or_and0 (tqN (S.2.2.2.1 0) k j) (trv (S.2.2.2.1 0) j) s
        by_cases c2 : trv (S.2.2.2.1 0) j &&& s = 0
        · simp (disch := omega) only [f_X0_answeredBy_L18, g1, g2, obS, nI_leI, c1, ↓reduceIte, xgN_20 hg, r3, hvN_ref, ldq, hb, hcI, b01_t, ldr, an, ez, if_pos c2, Int32.or_zero, nI_1]
          simp only [ne_eq, orr, c2, and_true]
        · have orr2 := nI_or (a := abN (aqB (S.2.2.2.1 0) s) k ||| (if decide (tqN (S.2.2.2.1 0) k j &&& s ≠ 0) = true then 2 ^ k else 0)) (b := 2 ^ k) (by have := ltB (decide (tqN (S.2.2.2.1 0) k j &&& s ≠ 0)); omega) (by omega)
          have e : abN (aqB (S.2.2.2.1 0) s) k ||| (if decide (tqN (S.2.2.2.1 0) k j &&& s ≠ 0) = true then 2 ^ k else 0) ||| 2 ^ k = abN (aqB (S.2.2.2.1 0) s) k ||| 2 ^ k := by
            split
            · rw [Nat.or_assoc, Nat.or_self]
            · rw [Nat.or_zero]
          rw [e] at orr2
          simp (disch := omega) only [f_X0_answeredBy_L18, g1, g2, obS, nI_leI, c1, ↓reduceIte, xgN_20 hg, r3, hvN_ref, ldq, hb, hcI, b01_t, ldr, an, ez, if_neg c2, one, orr2, nI_1]
          simp only [ne_eq, orr, c2, and_false, not_false_eq_true, decide_true, ↓reduceIte]
    · intro q q' _ _
      have c1 : hFc (S.2.2.2.1 0) ≤ hFc (S.2.2.2.1 0) := Nat.le_refl _
      show f_X0_answeredBy_L18 _ _ _ _ _ _ _ _ _ = _
      simp (disch := omega) only [f_X0_answeredBy_L18, g1, g2, obS, nI_leI, c1, ↓reduceIte, nI_1]
      rfl
  · intro f f' _ _
    have c0 : hQc (S.2.2.2.1 0) ≤ hQc (S.2.2.2.1 0) := Nat.le_refl _
    show f_X0_answeredBy_L5 _ _ _ _ _ _ _ = _
    simp (disch := omega) only [f_X0_answeredBy_L5, xgN_20 hg, r3, hvN_ref, obS, ln, nI_leI, c0, ↓reduceIte]
theorem f_ans_fill {A : hA} {R : sMem} {S : hS} {g : Nat → Nat} {b L : Nat} {xs : Nat → Int32} (h : hInv A R S g b L xs) (v : Int32) : ∃ (RF : sMem) (F : Nat → Int32) (f : Nat), (∀ j, j < hFc (S.2.2.2.1 0) → F j = nI (trv (S.2.2.2.1 0) j)) ∧ RF.2.2.2 R.2.1 = some (sArr 0 (hFc (S.2.2.2.1 0)) F) ∧ hEx 1 10 R RF ∧ hCl A RF ∧ sNewA (hMem A R S) 0 (nI (hFc (S.2.2.2.1 0))) (fun r M => f_X0_answered_L21 (hX A) v r sFuel 0 M) = f_X0_answered_L21 (hX A) v R.2.1 (f + 1) (nI (hFc (S.2.2.2.1 0))) (hMem A RF S) := by
  have hg := h.1.1
  have hc := h.1.2.1
  have hw := h.act
  have wf := hw.1.2.1
  have h10 : hFc (S.2.2.2.1 0) ≤ 10 := wf.1.2
  have hb := hc.base hg
  have hc1 := hc.new (sArr 0 (hFc (S.2.2.2.1 0)) (fun _ => 0)) (hFc (S.2.2.2.1 0))
  have x1 := hEx.new hc (sArr 0 (hFc (S.2.2.2.1 0)) (fun _ => 0)) (hFc (S.2.2.2.1 0))
  have a1 := sNew_at R (sArr 0 (hFc (S.2.2.2.1 0)) (fun _ => 0)) (hFc (S.2.2.2.1 0))
  rw [hNewA hc S (by omega)]
  generalize hR1 : sNew R (sArr 0 (hFc (S.2.2.2.1 0)) (fun _ => 0)) (hFc (S.2.2.2.1 0)) = R1 at *
  have st0 : sUp R1 R.2.1 (sArr 0 (hFc (S.2.2.2.1 0)) (fun _ => 0)) = R1 := by
    unfold sUp
    obtain ⟨x1, x2, x3, x4⟩ := R1
    congr 3
    funext q
    by_cases e : q = R.2.1
    · rw [if_pos e, e]
      exact a1.symm
    · rw [if_neg e]
  have J := lk (α := Nat → Int32) (fun f k F => f_X0_answered_L21 (hX A) v R.2.1 f (nI k) (hMem A (sUp R1 R.2.1 (sArr 0 (hFc (S.2.2.2.1 0)) F)) S)) (fun _ _ _ => none) (hFc (S.2.2.2.1 0)) (fun k F => ∀ j, j < k → F j = nI (trv (S.2.2.2.1 0) j)) (fun o _ => ∃ (F : Nat → Int32) (f : Nat), (∀ j, j < hFc (S.2.2.2.1 0) → F j = nI (trv (S.2.2.2.1 0) j)) ∧ o = f_X0_answered_L21 (hX A) v R.2.1 (f + 1) (nI (hFc (S.2.2.2.1 0))) (hMem A (sUp R1 R.2.1 (sArr 0 (hFc (S.2.2.2.1 0)) F)) S)) ?_ ?_ (by omega) (fun _ => 0) (fun _ hj => absurd hj (by omega))
  · obtain ⟨F, f, hF, e⟩ := J
    have e' : f_X0_answered_L21 (hX A) v R.2.1 sFuel 0 (hMem A (sUp R1 R.2.1 (sArr 0 (hFc (S.2.2.2.1 0)) (fun _ => 0))) S) = _ := e
    rw [st0] at e'
    exact ⟨_, F, f, hF, sUp_at _ _ _, (hEx.up hc x1 (Nat.le_refl _) _).le (by omega) (by omega), hc1.up a1, e'⟩
  · intro f f' k F hk hF
    have c0 : ¬ hFc (S.2.2.2.1 0) ≤ k := by omega
    have hcF : hCl A (sUp R1 R.2.1 (sArr 0 (hFc (S.2.2.2.1 0)) F)) := hc1.up a1
    have xF : hEx 1 (hFc (S.2.2.2.1 0)) R (sUp R1 R.2.1 (sArr 0 (hFc (S.2.2.2.1 0)) F)) := hEx.up hc x1 (Nat.le_refl _) _
    have hF1 := h.more xF.1 hcF
    obtain ⟨q0, ao, ma, g1, g2, -⟩ := fact_get (S := S) hg hcF hF1.fa wf
    have tv := f_traysOf hF1 hk
    have st := hR_st hg hcF S (sUp_at R1 R.2.1 (sArr 0 (hFc (S.2.2.2.1 0)) F)) hb (p := k) hk (by omega) (nI (trv (S.2.2.2.1 0) k))
    rw [sUp_sUp] at st
    refine Or.inl ⟨upd F k (nI (trv (S.2.2.2.1 0) k)), fun j hj => ?_, ?_, rfl⟩
    · by_cases c : j = k
      · subst c; rw [upd_same]
      · rw [upd_ne _ _ c, hF j (by omega)]
    · simp (disch := omega) only [f_X0_answered_L21, g1, g2, obS, nI_leI, c0, ↓reduceIte, hx_chk hg, tv, hcI, st, nI_1]
  · intro f f' F hF
    exact ⟨F, f, hF, rfl⟩
theorem px_laysQ {A : hA} {R : sMem} {S : hS} {g : Nat → Nat} {b L : Nat} {xs : Nat → Int32} (h : hInv A R S g b L xs) (m : Nat) : ∃ G : Nat → Int32, (∀ q, q < hQc (S.2.2.2.1 0) → G q = nI (tqN (S.2.2.2.1 0) q (hFc (S.2.2.2.1 0)))) ∧ p_X3_laysQueries m S.2.2.2.2.2 = some (none, mRowSet S.2.2.2.2.2 13 G) := by
  have ht := h.t0
  have hw := h.act
  have wf := hw.1.2.1
  have h10 : hFc (S.2.2.2.1 0) ≤ 10 := wf.1.2
  have h16 : hQc (S.2.2.2.1 0) ≤ 16 := hw.1.2.2.2.1.2
  have e572 : S.2.2.2.1 0 572 = nI (hFc (S.2.2.2.1 0)) := wf.1.1
  have e576 : S.2.2.2.1 0 576 = nI (hQc (S.2.2.2.1 0)) := hw.1.2.2.2.1.1
  have q576 : ∀ s : mSt, qAld s 0 576 = some (s.2 0 576) := fun s => qld_0 s (p := 576) (by omega)
  have lt := fun f => trv_lt hw f
  have ltq := fun q n => tqN_lt hw q n
  have r0 : ∀ G, (mRowSet S.2.2.2.2.2 13 G).2 0 = S.2.2.2.1 0 := fun G => by rw [mrs_ne _ _ (by omega), ht]
  have hG : ∀ G, hInv A R (hM S (mRowSet S.2.2.2.2.2 13 G)) g b L xs := fun G => h.read (hSame.refl S) (fun _ _ h => h) h.1.2.1 ((Sw.refl _).row G (by omega))
  have tv := fun G f (hf : f < hFc (S.2.2.2.1 0)) => px_traysOf (hG G) m (f := f) hf
  have J := lk (α := Nat → Int32) (fun _ _ _ => none) (fun f k G => p_X3_laysQueries_L2 m f (nI k) (mRowSet S.2.2.2.2.2 13 G)) (hQc (S.2.2.2.1 0)) (fun k G => ∀ q, q < k → G q = nI (tqN (S.2.2.2.1 0) q (hFc (S.2.2.2.1 0)))) (fun _ p => ∃ G : Nat → Int32, (∀ q, q < hQc (S.2.2.2.1 0) → G q = nI (tqN (S.2.2.2.1 0) q (hFc (S.2.2.2.1 0)))) ∧ p = some (none, mRowSet S.2.2.2.2.2 13 G)) ?_ ?_ (by omega) (S.2.2.2.2.2.2 13) (fun _ hj => absurd hj (by omega))
  · obtain ⟨G, h1, h2⟩ := J
    refine ⟨G, h1, ?_⟩
    have h2' : p_X3_laysQueries_L2 m sFuel 0 (mRowSet S.2.2.2.2.2 13 (S.2.2.2.2.2.2 13)) = _ := h2
    rw [mrs_self] at h2'
    exact h2'
  · intro f f' k G hk hGk
    have c0 : ¬ hQc (S.2.2.2.1 0) ≤ k := by omega
    have IN := lk (α := Nat → Int32) (fun _ _ _ => none) (fun q j G => p_X3_laysQueries_L23 (p_X3_laysQueries_L2 m f') m (nI k) q (nI j) (mRowSet S.2.2.2.2.2 13 G)) (hFc (S.2.2.2.1 0)) (fun j G => (∀ q, q < k → G q = nI (tqN (S.2.2.2.1 0) q (hFc (S.2.2.2.1 0)))) ∧ G k = nI (tqN (S.2.2.2.1 0) k j)) (fun _ p => ∃ G : Nat → Int32, (∀ q, q < k + 1 → G q = nI (tqN (S.2.2.2.1 0) q (hFc (S.2.2.2.1 0)))) ∧ p = p_X3_laysQueries_L2 m f' (nI (k + 1)) (mRowSet S.2.2.2.2.2 13 G)) ?_ ?_ (by omega) (upd G k 0) ⟨fun q hq => by rw [upd_ne _ _ (by omega), hGk q hq], by rw [upd_same]; rfl⟩
    · obtain ⟨G', h1, h2⟩ := IN
      refine Or.inl ⟨G', h1, rfl, ?_⟩
      rw [← h2]
      simp (disch := omega) only [p_X3_laysQueries_L2, mRow_0, mRow_31, obS, q576, r0, e576, nI_leI, c0, ↓reduceIte, qst_13, mrs_same, mrs_mrs]
      rfl
    · intro q q' j G hj ⟨hG1, hG2⟩
      have c1 : ¬ hFc (S.2.2.2.1 0) ≤ j := by omega
      have c759 : (759 : Int32) + nI k = nI (759 + k) := nI_add 759 k
      have qq : qAld (mRowSet S.2.2.2.2.2 13 G) 0 (nI (759 + k)) = some (S.2.2.2.1 0 (759 + k)) := by rw [qld_0 _ (by omega), r0]
      have tvj : p_X3_traysOf m (nI j) (mRowSet S.2.2.2.2.2 13 G) = some (some (.int (nI (trv (S.2.2.2.1 0) j))), mRowSet S.2.2.2.2.2 13 G) := tv G j hj
      cases cq : qbB (S.2.2.2.1 0) k j with
      | false =>
        have cq' : ¬ (S.2.2.2.1 0 (759 + k) >>> (nI j &&& 31)) &&& 1 = 1 := of_decide_eq_false cq
        refine Or.inl ⟨upd G k (nI (tqN (S.2.2.2.1 0) k (j + 1))), ⟨fun q hq => by rw [upd_ne _ _ (by omega), hG1 q hq], upd_same _ _ _⟩, rfl, ?_⟩
        have e : tqN (S.2.2.2.1 0) k (j + 1) = tqN (S.2.2.2.1 0) k j := by
          rw [tqN_s, cq]
          simp
        rw [e]
        simp (disch := omega) only [p_X3_laysQueries_L23, p_X3_laysQueries_J69, mRow_0, mRow_31, obS, qld_572, r0, e572, nI_leI, c1, ↓reduceIte, qld_13, qst_13, mrs_same, mrs_mrs, hG2, c759, qq, if_neg cq', Int32.or_zero, nI_1]
      | true =>
        have cq' : (S.2.2.2.1 0 (759 + k) >>> (nI j &&& 31)) &&& 1 = 1 := of_decide_eq_true cq
        refine Or.inl ⟨upd G k (nI (tqN (S.2.2.2.1 0) k (j + 1))), ⟨fun q hq => by rw [upd_ne _ _ (by omega), hG1 q hq], upd_same _ _ _⟩, rfl, ?_⟩
        have e : tqN (S.2.2.2.1 0) k (j + 1) = tqN (S.2.2.2.1 0) k j ||| trv (S.2.2.2.1 0) j := by
          rw [tqN_s, cq]
          simp
        have orr := nI_or (a := tqN (S.2.2.2.1 0) k j) (b := trv (S.2.2.2.1 0) j) (by have := ltq k j; omega) (by have := lt j; omega)
        rw [e]
        simp (disch := omega) only [p_X3_laysQueries_L23, p_X3_laysQueries_J69, mRow_0, mRow_31, obS, qld_572, r0, e572, nI_leI, c1, ↓reduceIte, qld_13, qst_13, mrs_same, mrs_mrs, hG2, c759, qq, if_pos cq', tvj, pcI, orr, nI_1]
    · intro q q' G ⟨hG1, hG2⟩
      have c1 : hFc (S.2.2.2.1 0) ≤ hFc (S.2.2.2.1 0) := Nat.le_refl _
      refine ⟨G, fun q hq => ?_, ?_⟩
      · by_cases c : q = k
        · subst c; exact hG2
        · exact hG1 q (by omega)
      · simp (disch := omega) only [p_X3_laysQueries_L23, mRow_0, obS, qld_572, r0, e572, nI_leI, c1, ↓reduceIte, nI_1]
  · intro f f' G hGk
    have c0 : hQc (S.2.2.2.1 0) ≤ hQc (S.2.2.2.1 0) := Nat.le_refl _
    refine ⟨G, hGk, ?_⟩
    simp (disch := omega) only [p_X3_laysQueries_L2, mRow_0, obS, q576, r0, e576, nI_leI, c0, ↓reduceIte]
theorem px_answeredBy {t : Nat → Int32} (hw : wAct t) (m : Nat) {s : mSt} (ht : s.2 0 = t) {G : Nat → Int32} (hG : s.2 13 = G) (hG1 : ∀ q, q < hQc t → G q = nI (tqN t q (hFc t))) {z : Nat} (hz : z < 16) : p_X3_answeredBy m (nI z) s = some (some (.int (nI (cntB (aqB t z) (hQc t)))), s) := by
  have h16 : hQc t ≤ 16 := hw.1.2.2.2.1.2
  have e576 : t 576 = nI (hQc t) := hw.1.2.2.2.1.1
  have q576 : qAld s 0 576 = some (t 576) := by rw [← ht]; exact qld_0 s (p := 576) (by omega)
  refine lk (fun _ _ (_ : Unit) => none) (fun f k (_ : Unit) => p_X3_answeredBy_L4 m (nI z) f (nI (cntB (aqB t z) k)) (nI k) s) (hQc t) (fun _ _ => True) (fun _ p => p = some (some (.int (nI (cntB (aqB t z) (hQc t)))), s)) ?_ ?_ (by omega) () trivial
  · intro f f' k _ hk _
    have c0 : ¬ hQc t ≤ k := by omega
    have lt := tqN_lt hw k (hFc t)
    have q13 : qAld s 13 (nI k) = some (nI (tqN t k (hFc t))) := by rw [qld_13 s (by omega), hG, hG1 k hk]
    have an := nI_and (a := tqN t k (hFc t)) (b := z) (by omega) (by omega)
    have la : tqN t k (hFc t) &&& z < 2 ^ 4 := Nat.lt_of_le_of_lt Nat.and_le_left lt
    have ez : (nI (tqN t k (hFc t) &&& z) = 0) = (tqN t k (hFc t) &&& z = 0) := propext (nI_eq (b := 0) (by omega) (by omega))
    refine Or.inl ⟨(), trivial, rfl, ?_⟩
    rw [cntB_s]
    by_cases c : tqN t k (hFc t) &&& z = 0
    · have ea : aqB t z k = false := by unfold aqB; simp [c]
      simp (disch := omega) only [p_X3_answeredBy_L4, mRow_0, mRow_31, obS, q576, e576, nI_leI, c0, ↓reduceIte, q13, an, ez, if_pos c, ea, Bool.false_eq_true, Nat.add_zero, Int32.add_zero, nI_1]
    · have ea : aqB t z k = true := by unfold aqB; simp [c]
      simp (disch := omega) only [p_X3_answeredBy_L4, mRow_0, mRow_31, obS, q576, e576, nI_leI, c0, ↓reduceIte, q13, an, ez, if_neg c, ea, nI_1]
  · intro f f' _ _
    have c0 : hQc t ≤ hQc t := Nat.le_refl _
    show p_X3_answeredBy_L4 _ _ _ _ _ _ = _
    simp (disch := omega) only [p_X3_answeredBy_L4, mRow_0, obS, q576, e576, nI_leI, c0, ↓reduceIte]
theorem aq_sub {t : Nat → Int32} (hw : wAct t) {s q : Nat} (h : aqB t s q = true) : aqB t 15 q = true := by
  unfold aqB at h ⊢
  have lt := tqN_lt hw q (hFc t)
  have e : tqN t q (hFc t) &&& 15 = tqN t q (hFc t) := by
    have := Nat.and_two_pow_sub_one_eq_mod (tqN t q (hFc t)) 4
    rw [show (2 : Nat) ^ 4 - 1 = 15 by rfl] at this
    rw [this]
    exact Nat.mod_eq_of_lt lt
  rw [e]
  simp only [ne_eq, decide_eq_true_eq] at h ⊢
  intro z
  rw [z, Nat.zero_and] at h
  exact h rfl
theorem j_answered {A : hA} {R : sMem} {S : hS} {g : Nat → Nat} {b L : Nat} {xs : Nat → Int32} (h : hInv A R S g b L xs) (v : Int32) : hOp A R S g b L xs (f_X0_answered (hX A) v) (f_X3_answered (A.2.1 9) v) := by
  have hg := h.1.1
  have hc := h.1.2.1
  have ht := h.t0
  have hw := h.act
  have wf := hw.1.2.1
  have h10 : hFc (S.2.2.2.1 0) ≤ 10 := wf.1.2
  have h16 : hQc (S.2.2.2.1 0) ≤ 16 := hw.1.2.2.2.1.2
  have hq : ∀ (R : sMem), R.1 ≤ A.2.1 9 → ∀ s : mSt, f_X3_answered (A.2.1 9) v (mPut R (A.2.1 9) s) = lft R (A.2.1 9) (p_X3_answered (A.2.1 9) v s) := fun R hR s => q_X3_answered R _ hR v s
  cases hv : inB v 0 2 with
  | false =>
    refine hOp.read0 h hq (v := -1) ?_ ?_
    · simp only [f_X0_answered, fx_isIn, hv, eq_self, ↓reduceIte, hcI, hcN, hcV, obS, if_true, if_false, b01_f]
    · simp only [p_X3_answered, px_isIn, hv, pcI, b01_f, ↓reduceIte]
  | true =>
    obtain ⟨q0, ao, ma, g1, g2, -⟩ := fact_get (S := S) hg hc h.fa wf
    obtain ⟨RF, F, fu, hF, aF, xF, hcF, fe⟩ := f_ans_fill h v
    have hF1 := h.more xF.1 hcF
    obtain ⟨q1, ao1, ma1, g3, g4, -⟩ := fact_get (S := S) hg hcF hF1.fa wf
    have ab := f_answeredBy hF1 (s := 15) (by omega) aF hF
    have ab' : f_X0_answeredBy (hX A) 15 R.2.1 (hMem A RF S) = _ := ab
    have bc := bc_abN (aqB (S.2.2.2.1 0) 15) h16 (hMem A RF S)
    have c0 : hFc (S.2.2.2.1 0) ≤ hFc (S.2.2.2.1 0) := Nat.le_refl _
    -- the model
    obtain ⟨G, hG1, pl⟩ := px_laysQ h (A.2.1 9)
    have st0 : (mRowSet S.2.2.2.2.2 13 G).2 0 = S.2.2.2.1 0 := by rw [mrs_ne _ _ (by omega), ht]
    have pa := fun z (hz : z < 16) => px_answeredBy hw (A.2.1 9) st0 (mrs_same S.2.2.2.2.2 13 G) hG1 hz
    have pa15 : p_X3_answeredBy (A.2.1 9) 15 (mRowSet S.2.2.2.2.2 13 G) = _ := pa 15 (by omega)
    have sw : Sw S.2.2.2.2.2 (S.2.2.2.2.2.2 0) (mRowSet S.2.2.2.2.2 13 G) := (Sw.refl _).row G (by omega)
    generalize hP : (fun z => decide (abN (aqB (S.2.2.2.1 0) z) (hQc (S.2.2.2.1 0)) = abN (aqB (S.2.2.2.1 0) 15) (hQc (S.2.2.2.1 0)))) = P
    have eP : ∀ z, P z = decide (abN (aqB (S.2.2.2.1 0) z) (hQc (S.2.2.2.1 0)) = abN (aqB (S.2.2.2.1 0) 15) (hQc (S.2.2.2.1 0))) := fun z => by rw [← hP]
    have eP2 : ∀ z, (P z = true) = (cntB (aqB (S.2.2.2.1 0) z) (hQc (S.2.2.2.1 0)) = cntB (aqB (S.2.2.2.1 0) 15) (hQc (S.2.2.2.1 0))) := fun z => by
      rw [eP, decide_eq_true_eq, abN_eq]
      exact propext (cntB_sub (fun i _ hi => aq_sub hw hi)).2.symm
    have full : P 15 = true := by rw [eP]; simp
    obtain ⟨e1, e2⟩ := fw_end (P := P) (full := 15) pc_15 full
    have lt15 : mvV P 15 15 < 16 := fwV_lt e1
    have mlt : ∀ k, k ≤ 15 → mvV P 15 k < 16 := fun k hk9 => by
      rw [fw_mv (P := P) pc_15 k hk9]
      cases e : fwV P k with
      | none => exact Nat.lt_succ_self _
      | some q =>
        have := fwV_lt e
        show q < 16
        omega
    generalize hY : (if v = 0 then nI (cntB (aqB (S.2.2.2.1 0) 15) (hQc (S.2.2.2.1 0))) else if v = 1 then nI (pcN (mvV P 15 15)) else nI (mvV P 15 15)) = Y
    have cb : ∀ z, cntB (aqB (S.2.2.2.1 0) z) (hQc (S.2.2.2.1 0)) ≤ 16 := fun z => Nat.le_trans (cntB_le _ _) h16
    have PM := lk (fun _ _ (_ : Unit) => none) (fun f k (_ : Unit) => p_X3_answered_L28 (A.2.1 9) v (nI (cntB (aqB (S.2.2.2.1 0) 15) (hQc (S.2.2.2.1 0)))) f (nI (mvV P 15 k)) (nI k) (mRowSet S.2.2.2.2.2 13 G)) 15 (fun _ _ => True) (fun _ p => p = some (some (.int Y), mRowSet S.2.2.2.2.2 13 G)) ?_ ?_ (by omega) () trivial
    · have PM' : p_X3_answered_L28 (A.2.1 9) v (nI (cntB (aqB (S.2.2.2.1 0) 15) (hQc (S.2.2.2.1 0)))) sFuel 15 0 (mRowSet S.2.2.2.2.2 13 G) = _ := PM
      have pf : p_X3_answered (A.2.1 9) v S.2.2.2.2.2 = some (some (.int Y), mRowSet S.2.2.2.2.2 13 G) := by
        simp only [p_X3_answered, px_isIn, hv, pcI, pcV, b01_t, ↓reduceIte, pl, pa15]
        exact PM'
      by_cases v0 : v = 0
      · refine hOp.read h hq (v := Y) (R' := RF) (S' := S) (s' := mRowSet S.2.2.2.2.2 13 G) ?_ (hSame.refl S) (xF.le (by omega) (by omega)) hcF pf sw
        have eY : Y = nI (cntB (aqB (S.2.2.2.1 0) 15) (hQc (S.2.2.2.1 0))) := by rw [← hY, if_pos v0]
        rw [eY]
        simp only [f_X0_answered, fx_isIn, hv, eq_self, ↓reduceIte, hcI, hcN, hcV, obS, if_true, if_false, b01_t, g1, g2, fe]
        simp (disch := omega) only [f_X0_answered_L21, g3, g4, obS, nI_leI, c0, ↓reduceIte, hx_chk hg, ab', hcI, if_pos v0, bc]
      · generalize hall : abN (aqB (S.2.2.2.1 0) 15) (hQc (S.2.2.2.1 0)) = all at *
        have allt : all < 2 ^ 16 := by
          rw [← hall]
          exact Nat.lt_of_lt_of_le (abN_lt _ _) (Nat.pow_le_pow_right (by omega) h16)
        have hc2 := hcF.new (sLam 6 [.ref (hX A), .ref R.2.1, .int (nI all)]) 3
        have x2 := hEx.new hcF (sLam 6 [.ref (hX A), .ref R.2.1, .int (nI all)]) 3
        have a2 := sNew_at RF (sLam 6 [.ref (hX A), .ref R.2.1, .int (nI all)]) 3
        have nL : ∀ K, sNewL (hMem A RF S) 6 [.ref (hX A), .ref R.2.1, .int (nI all)] K = K RF.2.1 (hMem A (sNew RF (sLam 6 [.ref (hX A), .ref R.2.1, .int (nI all)]) 3) S) := fun K => by rw [hNewL hcF S]; rfl
        generalize hR2 : sNew RF (sLam 6 [.ref (hX A), .ref R.2.1, .int (nI all)]) 3 = R2 at *
        have h2 := hF1.more x2.1 hc2
        have aF2 := x2.1 _ _ aF
        have cond : ∀ s, s < 2 ^ 4 → f_cond RF.2.1 (nI s) (hMem A R2 S) = some (.inl (some (.int (b01 (P s)))), hMem A R2 S) := fun s hs4 => by
          have e : f_cond RF.2.1 (nI s) (hMem A R2 S) = sChk (hMem A R2 S) 0 (hX A) (f_X0_lambda_answered_6 (hX A) R.2.1 (nI all) (nI s) (hMem A R2 S)) := by
            unfold f_cond
            rw [hR_at hc2 S a2]
            rfl
          have abz := f_answeredBy h2 (s := s) (by omega) aF2 hF
          have lz : abN (aqB (S.2.2.2.1 0) s) (hQc (S.2.2.2.1 0)) < 2 ^ 16 := Nat.lt_of_lt_of_le (abN_lt _ _) (Nat.pow_le_pow_right (by omega) h16)
          have ee : (nI (abN (aqB (S.2.2.2.1 0) s) (hQc (S.2.2.2.1 0))) = nI all) = (abN (aqB (S.2.2.2.1 0) s) (hQc (S.2.2.2.1 0)) = all) := propext (nI_eq (by omega) (by omega))
          rw [e, hx_chk hg, eP]
          simp only [f_X0_lambda_answered_6, hx_chk hg, abz, hcI, ee]
          by_cases c : abN (aqB (S.2.2.2.1 0) s) (hQc (S.2.2.2.1 0)) = all
          · rw [if_pos c, decide_eq_true c]
            rfl
          · rw [if_neg c, decide_eq_false c]
            rfl
        have fw := f_fewest (n := 4) (by omega) cond
        rw [show (2 : Nat) ^ 4 = 15 + 1 by rfl, e1, bI_some] at fw
        have fw' : f_X0_fewest 4 RF.2.1 (hMem A R2 S) = some (.inl (some (.int (nI (mvV P 15 15)))), hMem A R2 S) := fw
        have bc2 := bc_pc (n := mvV P 15 15) (by omega) (hMem A R2 S)
        refine hOp.read h hq (v := Y) (R' := R2) (S' := S) (s' := mRowSet S.2.2.2.2.2 13 G) ?_ (hSame.refl S) ((xF.trans x2).le (by omega) (by omega)) hc2 pf sw
        simp only [f_X0_answered, fx_isIn, hv, eq_self, ↓reduceIte, hcI, hcN, hcV, obS, if_true, if_false, b01_t, g1, g2, fe]
        by_cases v1 : v = 1
        · have eY : Y = nI (pcN (mvV P 15 15)) := by rw [← hY, if_neg v0, if_pos v1]
          rw [eY]
          simp (disch := omega) only [f_X0_answered_L21, g3, g4, obS, nI_leI, c0, ↓reduceIte, hx_chk hg, ab', hcI, if_neg v0, if_pos v1, nL, fw', bc2]
        · have eY : Y = nI (mvV P 15 15) := by rw [← hY, if_neg v0, if_neg v1]
          rw [eY]
          simp (disch := omega) only [f_X0_answered_L21, g3, g4, obS, nI_leI, c0, ↓reduceIte, hx_chk hg, ab', hcI, if_neg v0, if_neg v1, nL, fw']
    · intro f f' k _ hk9 _
      have c1 : ¬ (15 : Int32) ≤ nI k := fun q => by
        have := (nI_leI (a := 15) (by omega) (by omega)).mp q
        omega
      have lk1 := mlt k (by omega)
      have n1 := px_count (n := k) (by omega) (mRowSet S.2.2.2.2.2 13 G)
      have n2 := px_count (n := mvV P 15 k) (by omega) (mRowSet S.2.2.2.2.2 13 G)
      have l1 := pcN_le k
      have l2 := pcN_le (mvV P 15 k)
      have pk := pa k (by omega)
      have ee : (nI (cntB (aqB (S.2.2.2.1 0) k) (hQc (S.2.2.2.1 0))) = nI (cntB (aqB (S.2.2.2.1 0) 15) (hQc (S.2.2.2.1 0)))) = (P k = true) := by
        rw [eP2]
        exact propext (nI_eq (by have := cb k; omega) (by have := cb 15; omega))
      have nx : mvV P 15 (k + 1) = if pcN k < pcN (mvV P 15 k) ∧ P k = true then k else mvV P 15 k := rfl
      refine Or.inl ⟨(), trivial, rfl, ?_⟩
      rw [nx]
      by_cases c3 : P k = true
      · by_cases c4 : pcN (mvV P 15 k) ≤ pcN k
        · rw [if_neg (fun h => by have := h.1; omega)]
          simp (disch := omega) only [p_X3_answered_L28, if_neg c1, pk, pcI, ee, if_pos c3, n1, n2, nI_leI, c4, ↓reduceIte, nI_1]
        · rw [if_pos ⟨by omega, c3⟩]
          simp (disch := omega) only [p_X3_answered_L28, if_neg c1, pk, pcI, ee, if_pos c3, n1, n2, nI_leI, c4, ↓reduceIte, nI_1]
      · rw [if_neg (fun h => c3 h.2)]
        simp (disch := omega) only [p_X3_answered_L28, if_neg c1, pk, pcI, ee, if_neg c3, nI_1]
    · intro f f' _ _
      have c1 : (15 : Int32) ≤ nI 15 := by decide
      have n2 := px_count (n := mvV P 15 15) (by omega) (mRowSet S.2.2.2.2.2 13 G)
      show p_X3_answered_L28 _ _ _ _ _ _ _ = _
      rw [← hY]
      by_cases v0 : v = 0
      · simp (disch := omega) only [p_X3_answered_L28, if_pos c1, if_pos v0]
      · by_cases v1 : v = 1
        · simp (disch := omega) only [p_X3_answered_L28, if_pos c1, if_neg v0, if_pos v1, n2, pcI]
        · simp (disch := omega) only [p_X3_answered_L28, if_pos c1, if_neg v0, if_neg v1]
