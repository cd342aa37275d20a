/-! the least of some; the tally -/
set_option maxRecDepth 100000
def lbV (g : Nat → Int32) : Nat → Nat
  | 0 => 0
  | n + 1 => if n = 0 ∨ g (lbV g n) ≤ g n then lbV g n else n
theorem lbV_lt (g : Nat → Int32) : ∀ {n : Nat}, 0 < n → lbV g n < n
  | 0, h => by omega
  | n + 1, _ => by
    unfold lbV
    by_cases c : n = 0 ∨ g (lbV g n) ≤ g n
    · rw [if_pos c]
      by_cases n0 : n = 0
      · subst n0
        exact Nat.zero_lt_one
      · have := lbV_lt g (n := n) (by omega)
        omega
    · rw [if_neg c]
      omega
theorem lbV_s (g : Nat → Int32) {n : Nat} (h : 0 < n) : lbV g (n + 1) = if g (lbV g n) ≤ g n then lbV g n else n := by
  have n0 : ¬ n = 0 := by omega
  show (if n = 0 ∨ g (lbV g n) ≤ g n then lbV g n else n) = _
  simp only [n0, false_or]
theorem clF (v : Int32) (M : sMem) (K : Int32 → sMem → Option (sRes × sMem)) : sCallL false (some (.inl (some (.int v)), M)) K = K v M := by simp [sCallL]
theorem f_leastBy {a n : Nat} (g : Nat → Int32) (P : Nat → sMem → Prop) (hf : ∀ c k M, k < n → P c M → ∃ M', f_meas a (nI k) M = some (.inl (some (.int (g k))), M') ∧ P (c + 1) M') (h0 : 0 < n) (hn : n < 1000) {M : sMem} (hP : P 0 M) : ∃ M', f_X0_leastBy (nI n) a M = some (.inl (some (.int (nI (lbV g n)))), M') ∧ P (2 * (n - 1)) M' := by
  have hs : sFuel = 1000000 := rfl
  have J := lkS (α := Nat × sMem) (fun f k x => f_X0_leastBy_L12 (nI n) a f (nI x.1) (nI k) x.2) (fun _ _ _ => none) n (fun k x => 0 < k ∧ x.1 = lbV g k ∧ P (2 * (k - 1)) x.2) (fun o _ => ∃ M', o = some (.inl (some (.int (nI (lbV g n)))), M') ∧ P (2 * (n - 1)) M') ?_ ?_ (n - 1) 1 sFuel sFuel (0, M) (by omega) (by omega) (by omega) ⟨by omega, rfl, hP⟩
  · have e0 : ¬ nI n ≤ 0 := nI_nle h0 (by omega)
    unfold f_X0_leastBy
    rw [if_neg e0]
    exact J
  · intro f f' k x hk ⟨k0, hx, hx2⟩
    have c0 : ¬ n ≤ k := by omega
    have lt := lbV_lt g k0
    obtain ⟨M1, m1, p1⟩ := hf _ k x.2 hk hx2
    obtain ⟨M2, m2, p2⟩ := hf _ x.1 M1 (by omega) p1
    refine Or.inl ⟨(lbV g (k + 1), M2), ⟨by omega, rfl, by rw [show 2 * (k + 1 - 1) = 2 * (k - 1) + 1 + 1 by omega]; exact p2⟩, ?_, rfl⟩
    rw [lbV_s g k0]
    dsimp only
    by_cases c : g x.1 ≤ g k
    · simp (disch := omega) only [f_X0_leastBy_L12, nI_leI, c0, ↓reduceIte, m1, m2, clF, if_pos c, nI_1]
      rw [← hx, if_pos c]
    · simp (disch := omega) only [f_X0_leastBy_L12, nI_leI, c0, ↓reduceIte, m1, m2, clF, if_neg c, nI_1]
      rw [← hx, if_neg c]
  · intro f f' x ⟨_, hx, hx2⟩
    have c0 : n ≤ n := Nat.le_refl _
    refine ⟨x.2, ?_, hx2⟩
    simp (disch := omega) only [f_X0_leastBy_L12, nI_leI, c0, ↓reduceIte, hx]
theorem neg_leI {a b : Nat} (ha : a < 2 ^ 30) (hb : b < 2 ^ 30) : (-(nI a) ≤ -(nI b)) = (b ≤ a) := by
  have e1 : (-(nI a)).toInt = (0 : Int) - a := by
    rw [← Int32.zero_sub]
    exact pk_sub_toInt (a := 0) (by omega) ha
  have e2 : (-(nI b)).toInt = (0 : Int) - b := by
    rw [← Int32.zero_sub]
    exact pk_sub_toInt (a := 0) (by omega) hb
  rw [Int32.le_iff_toInt_le, e1, e2]
  apply propext
  omega
theorem inB_m (v : Int32) (k : Int32) (h : v ≠ -1) : inB v (-1) k = inB v 0 k := by
  have h1 : v.toInt ≠ -1 := fun e => h (Int32.toInt_inj.mp (by rw [e]; decide))
  have e : (v < -1) = (v < 0) := by
    rw [Int32.lt_iff_toInt_lt, Int32.lt_iff_toInt_lt]
    have a0 : (0 : Int32).toInt = 0 := by decide
    have a1 : (-1 : Int32).toInt = -1 := by decide
    apply propext
    omega
  unfold inB
  simp only [e]
theorem smN_le {f : Nat → Nat} {c : Nat} : ∀ {n : Nat}, (∀ k, k < n → f k ≤ c) → smN f n ≤ c * n
  | 0, _ => Nat.zero_le _
  | n + 1, h => by
    have := smN_le (n := n) (fun k hk => h k (by omega))
    have := h n (by omega)
    rw [smN_s, Nat.mul_succ]
    omega
theorem hInv.mk {A : hA} {R : sMem} {S : hS} {g : Nat → Nat} {b L : Nat} {xs : Nat → Int32} (h : hInv A R S g b L xs) : ∃ mk : Nat → Nat → Nat, ∀ i p, i < 12 → p < 40 → S.2.2.2.1 0 (91 + 40 * i + p) = nI (mk i p) ∧ mk i p ≤ 7 :=
  ⟨fun i p => cv (S.2.2.2.1 0 (91 + 40 * i + p)), fun i p hi hp => by
    have := h.act.2.2.1 (40 * i + p) (by omega)
    rw [show 91 + (40 * i + p) = 91 + 40 * i + p by omega] at this
    exact this⟩
def tcI (mk : Nat → Nat → Nat) (i m j : Nat) : Nat := cntB (fun p => decide (mk i p = m)) j
def tcW (mk : Nat → Nat → Nat) (lo : Nat → Nat) (m i : Nat) : Nat := smN (fun q => tcI mk q m (lo q)) i
theorem tcI_le (mk : Nat → Nat → Nat) (i m j : Nat) : tcI mk i m j ≤ j := cntB_le _ _
theorem tcI_s (mk : Nat → Nat → Nat) (i m j : Nat) : tcI mk i m (j + 1) = tcI mk i m j + (if mk i j = m then 1 else 0) := by
  unfold tcI
  rw [cntB_s]
  by_cases c : mk i j = m <;> simp [c]
theorem tcW_s (mk : Nat → Nat → Nat) (lo : Nat → Nat) (m i : Nat) : tcW mk lo m (i + 1) = tcW mk lo m i + tcI mk i m (lo i) := rfl
theorem tcW_le (mk : Nat → Nat → Nat) (lo : Nat → Nat) (m : Nat) {i : Nat} (h : ∀ q, q < i → lo q ≤ 40) : tcW mk lo m i ≤ 40 * i := smN_le (fun q hq => Nat.le_trans (tcI_le mk q m (lo q)) (h q hq))
theorem px_tallyOf {A : hA} {R : sMem} {S : hS} {g : Nat → Nat} {b L : Nat} {xs : Nat → Int32} (h : hInv A R S g b L xs) (m0 : Nat) {lo : Nat → Nat} (hlo : ∀ i, i < hN (S.2.2.2.1 0) → S.2.2.2.1 0 (19 + i) = nI (lo i) ∧ lo i ≤ 40) {mk : Nat → Nat → Nat} (hmk : ∀ i p, i < 12 → p < 40 → S.2.2.2.1 0 (91 + 40 * i + p) = nI (mk i p) ∧ mk i p ≤ 7) {m : Nat} (hm : m ≤ 7) : p_X3_tallyOf m0 (nI m) S.2.2.2.2.2 = some (some (.int (nI (tcW mk lo m (hN (S.2.2.2.1 0))))), S.2.2.2.2.2) := by
  have ht := h.t0
  have hn := h.act.n
  have e571 : S.2.2.2.1 0 571 = nI (hN (S.2.2.2.1 0)) := h.act.1.1.1.1
  refine lk (fun _ _ (_ : Unit) => none) (fun f k (_ : Unit) => p_X3_tallyOf_L4 m0 (nI m) f (nI (tcW mk lo m k)) (nI k) S.2.2.2.2.2) (hN (S.2.2.2.1 0)) (fun _ _ => True) (fun _ p => p = some (some (.int (nI (tcW mk lo m (hN (S.2.2.2.1 0))))), S.2.2.2.2.2)) ?_ ?_ (by omega) () trivial
  · intro f f' k _ hk _
    have c0 : ¬ hN (S.2.2.2.1 0) ≤ k := by omega
    obtain ⟨e1, l1⟩ := hlo k hk
    refine Or.inl ⟨(), trivial, rfl, ?_⟩
    have IN := lk (fun _ _ (_ : Unit) => none) (fun q j (_ : Unit) => p_X3_tallyOf_L19 (p_X3_tallyOf_L4 m0 (nI m) f') m0 (nI m) (nI k) q (nI (tcW mk lo m k + tcI mk k m j)) (nI j) S.2.2.2.2.2) (lo k) (fun _ _ => True) (fun _ p => p = p_X3_tallyOf_L4 m0 (nI m) f' (nI (tcW mk lo m (k + 1))) (nI (k + 1)) S.2.2.2.2.2) ?_ ?_ (by omega) () trivial
    · have IN' : p_X3_tallyOf_L19 (p_X3_tallyOf_L4 m0 (nI m) f') m0 (nI m) (nI k) sFuel (nI (tcW mk lo m k)) 0 S.2.2.2.2.2 = _ := IN
      simp (disch := omega) only [p_X3_tallyOf_L4, mRow_0, obS, qld_571, ht, e571, nI_leI, c0, ↓reduceIte]
      exact IN'
    · intro q q' j _ hj _
      have c1 : ¬ lo k ≤ j := by omega
      obtain ⟨ek, lk7⟩ := hmk k j (by omega) (by omega)
      have pm := px_mark2 m0 S.2.2.2.2.2 (i := k) (p := j) (by omega) (by omega)
      rw [ht, ek] at pm
      refine Or.inl ⟨(), trivial, rfl, ?_⟩
      have ec : (nI (mk k j) = nI m) = (mk k j = m) := propext (nI_eq (by omega) (by omega))
      rw [tcI_s]
      by_cases c : mk k j = m
      · simp (disch := omega) only [p_X3_tallyOf_L19, mRow_0, obS, qld_19, ht, e1, nI_leI, c1, ↓reduceIte, pm, pcI, ec, if_pos c, nI_1, Nat.add_assoc]
      · simp (disch := omega) only [p_X3_tallyOf_L19, mRow_0, obS, qld_19, ht, e1, nI_leI, c1, ↓reduceIte, pm, pcI, ec, if_neg c, nI_1, Nat.add_zero, Int32.add_zero]
    · intro q q' _ _
      have c1 : lo k ≤ lo k := Nat.le_refl _
      show p_X3_tallyOf_L19 _ _ _ _ _ _ _ _ = _
      simp (disch := omega) only [p_X3_tallyOf_L19, mRow_0, obS, qld_19, ht, e1, nI_leI, c1, ↓reduceIte, nI_1, tcW_s]
  · intro f f' _ _
    have c0 : hN (S.2.2.2.1 0) ≤ hN (S.2.2.2.1 0) := Nat.le_refl _
    show p_X3_tallyOf_L4 _ _ _ _ _ _ = _
    simp (disch := omega) only [p_X3_tallyOf_L4, mRow_0, obS, qld_571, ht, e571, nI_leI, c0, ↓reduceIte]
theorem f_tally_end {A : hA} {R : sMem} {S : hS} {g : Nat → Nat} {b L : Nat} {xs : Nat → Int32} (h : hInv A R S g b L xs) {lo : Nat → Nat} (hlo : ∀ i, i < hN (S.2.2.2.1 0) → S.2.2.2.1 0 (19 + i) = nI (lo i) ∧ lo i ≤ 40) {mk : Nat → Nat → Nat} (hmk : ∀ i p, i < 12 → p < 40 → S.2.2.2.1 0 (91 + 40 * i + p) = nI (mk i p) ∧ mk i p ≤ 7) (v : Int32) {R1 : sMem} (hc1 : hCl A R1) {r : Nat} (hb : A.1 ≤ r) (hr : R1.2.2.2 r = some (sArr 0 8 (fun _ => 0))) : ∃ F : Nat → Int32, (∀ m, m < 8 → F m = nI (tcW mk lo m (hN (S.2.2.2.1 0)))) ∧ ∃ f, f_X0_tally_L19 (hX A) v r sFuel 0 (hMem A R1 S) = f_X0_tally_L19 (hX A) v r (f + 1) (nI (hN (S.2.2.2.1 0))) (hMem A (sUp R1 r (sArr 0 8 F)) S) := by
  have hg := h.1.1
  have h3 : 0 < A.2.2 := by have := hg.2.2.2; omega
  have hn := h.act.n
  have e571 : S.2.2.2.1 0 571 = nI (hN (S.2.2.2.1 0)) := h.act.1.1.1.1
  have st0 : sUp R1 r (sArr 0 8 (fun _ => 0)) = R1 := by
    unfold sUp
    obtain ⟨x1, x2, x3, x4⟩ := R1
    congr 3
    funext q
    by_cases e : q = r
    · rw [if_pos e, e]
      exact hr.symm
    · rw [if_neg e]
  have J := lk (α := Nat → Int32) (fun f k F => f_X0_tally_L19 (hX A) v r f (nI k) (hMem A (sUp R1 r (sArr 0 8 F)) S)) (fun _ _ _ => none) (hN (S.2.2.2.1 0)) (fun k F => ∀ m, m < 8 → F m = nI (tcW mk lo m k)) (fun o _ => ∃ F : Nat → Int32, (∀ m, m < 8 → F m = nI (tcW mk lo m (hN (S.2.2.2.1 0)))) ∧ ∃ f, o = f_X0_tally_L19 (hX A) v r (f + 1) (nI (hN (S.2.2.2.1 0))) (hMem A (sUp R1 r (sArr 0 8 F)) S)) ?_ ?_ (by omega) (fun _ => 0) (fun _ _ => rfl)
  · have J' : ∃ F : Nat → Int32, (∀ m, m < 8 → F m = nI (tcW mk lo m (hN (S.2.2.2.1 0)))) ∧ ∃ f, f_X0_tally_L19 (hX A) v r sFuel 0 (hMem A (sUp R1 r (sArr 0 8 (fun _ => 0))) S) = f_X0_tally_L19 (hX A) v r (f + 1) (nI (hN (S.2.2.2.1 0))) (hMem A (sUp R1 r (sArr 0 8 F)) S) := J
    rw [st0] at J'
    exact J'
  · intro f f' k F hk hF
    have c0 : ¬ hN (S.2.2.2.1 0) ≤ k := by omega
    obtain ⟨e1, l1⟩ := hlo k hk
    have IN := lk (α := Nat → Int32) (fun q j F => f_X0_tally_L30 (f_X0_tally_L19 (hX A) v r f) (hX A) v r (nI k) q (nI j) (hMem A (sUp R1 r (sArr 0 8 F)) S)) (fun _ _ _ => none) (lo k) (fun j F => ∀ m, m < 8 → F m = nI (tcW mk lo m k + tcI mk k m j)) (fun o _ => ∃ F : Nat → Int32, (∀ m, m < 8 → F m = nI (tcW mk lo m (k + 1))) ∧ o = f_X0_tally_L19 (hX A) v r f (nI (k + 1)) (hMem A (sUp R1 r (sArr 0 8 F)) S)) ?_ ?_ (by omega) F hF
    · obtain ⟨F', hF', eo⟩ := IN
      refine Or.inl ⟨F', hF', ?_, rfl⟩
      have eo' : f_X0_tally_L30 (f_X0_tally_L19 (hX A) v r f) (hX A) v r (nI k) sFuel 0 (hMem A (sUp R1 r (sArr 0 8 F)) S) = _ := eo
      rw [← eo']
      simp (disch := omega) only [f_X0_tally_L19, xgI_21 hg, obS, e571, nI_leI, c0, ↓reduceIte]
    · intro q q' j F hj hF
      have c1 : ¬ lo k ≤ j := by omega
      obtain ⟨ek, lk7⟩ := hmk k j (by omega) (by omega)
      have hcF : hCl A (sUp R1 r (sArr 0 8 F)) := hc1.up hr
      have fm := fx_mark hg (sUp R1 r (sArr 0 8 F)) S (k := 0) h3 (i := k) (p := j) (by omega) (by omega)
      rw [ek] at fm
      have ld := hR_ld hcF S (sUp_at R1 r (sArr 0 8 F)) (p := mk k j) (by omega) (by omega)
      have st := hR_st hg hcF S (sUp_at R1 r (sArr 0 8 F)) hb (p := mk k j) (by omega) (by omega) (F (mk k j) + 1)
      rw [sUp_sUp] at st
      refine Or.inl ⟨upd F (mk k j) (F (mk k j) + 1), fun m hm => ?_, ?_, rfl⟩
      · rw [tcI_s]
        by_cases c : mk k j = m
        · subst c
          rw [upd_same, hF _ hm, nI_1, if_pos rfl]
          rfl
        · rw [upd_ne _ _ (fun e => c e.symm), hF m hm, if_neg c]
          rfl
      · simp (disch := omega) only [f_X0_tally_L30, xgN_23 hg, xgN_22 hg, xgI_21 hg, hx_chk hg, ht_chk hg, tgN_5 hg, trl_5 hg, tgN_3 hg, trl_3 hg, obS, e1, nI_leI, c1, ↓reduceIte, fm, hcI, ld, st, nI_1]
    · intro q q' F hF
      have c1 : lo k ≤ lo k := Nat.le_refl _
      refine ⟨F, hF, ?_⟩
      simp (disch := omega) only [f_X0_tally_L30, xgN_23 hg, xgN_22 hg, xgI_21 hg, hx_chk hg, ht_chk hg, tgN_5 hg, trl_5 hg, tgN_3 hg, trl_3 hg, obS, e1, nI_leI, c1, ↓reduceIte, nI_1]
  · intro f f' F hF
    exact ⟨F, hF, f, rfl⟩
theorem j_tally {A : hA} {R : sMem} {S : hS} {g : Nat → Nat} {b L : Nat} {xs : Nat → Int32} (h : hInv A R S g b L xs) (v : Int32) : hOp A R S g b L xs (f_X0_tally (hX A) v) (f_X3_tally (A.2.1 9) v) := by
  have hg := h.1.1
  have hc := h.1.2.1
  have h3 : 0 < A.2.2 := by have := hg.2.2.2; omega
  have ht := h.t0
  have hw := h.act
  have hn := hw.n
  have e571 : S.2.2.2.1 0 571 = nI (hN (S.2.2.2.1 0)) := hw.1.1.1.1
  have hq : ∀ (R : sMem), R.1 ≤ A.2.1 9 → ∀ s : mSt, f_X3_tally (A.2.1 9) v (mPut R (A.2.1 9) s) = lft R (A.2.1 9) (p_X3_tally (A.2.1 9) v s) := fun R hR s => q_X3_tally R _ hR v s
  obtain ⟨lo, hlo⟩ := h.lo
  obtain ⟨mk, hmk⟩ := h.mk
  have hs : sFuel = 1000000 := rfl
  have pt := fun m (hm : m ≤ 7) => px_tallyOf h (A.2.1 9) hlo hmk (m := m) hm
  have hb := hc.base hg
  have hc1 := hc.new (sArr 0 8 (fun _ => 0)) 8
  have x1 := hEx.new hc (sArr 0 8 (fun _ => 0)) 8
  have a1 := sNew_at R (sArr 0 8 (fun _ => 0)) 8
  have nA : ∀ K, sNewA (hMem A R S) 0 8 K = K R.2.1 (hMem A (sNew R (sArr 0 8 (fun _ => 0)) 8) S) := fun K => hNewA hc S (n := 8) (by omega) K
  have hs1 : (sNew R (sArr 0 8 (fun _ => 0)) 8).2.1 = R.2.1 + 1 := rfl
  generalize hR1 : sNew R (sArr 0 8 (fun _ => 0)) 8 = R1 at *
  obtain ⟨F, hF, f, fe⟩ := f_tally_end h hlo hmk v hc1 hb a1
  have hcF : hCl A (sUp R1 R.2.1 (sArr 0 8 F)) := hc1.up a1
  have xF : hEx 1 8 R (sUp R1 R.2.1 (sArr 0 8 F)) := hEx.up hc x1 (Nat.le_refl _) _
  have aF := sUp_at R1 R.2.1 (sArr 0 8 F)
  have hsF : (sUp R1 R.2.1 (sArr 0 8 F)).2.1 = R.2.1 + 1 := hs1
  generalize hRF : sUp R1 R.2.1 (sArr 0 8 F) = RF at *
  have c0 : hN (S.2.2.2.1 0) ≤ hN (S.2.2.2.1 0) := Nat.le_refl _
  have lb : ∀ m, tcW mk lo m (hN (S.2.2.2.1 0)) ≤ 480 := fun m => by
    have := tcW_le mk lo m (i := hN (S.2.2.2.1 0)) (fun q hq => (hlo q hq).2)
    omega
  by_cases v1 : v = -1
  · subst v1
    have i1 : inB (-1) (-1) 7 = true := by decide
    generalize hT : (fun m => tcW mk lo m (hN (S.2.2.2.1 0))) = T at *
    have eT : ∀ m, tcW mk lo m (hN (S.2.2.2.1 0)) = T m := fun m => by rw [← hT]
    simp only [eT] at pt hF lb
    generalize hG : (fun k => -(nI (T k))) = G
    have eG : ∀ k, G k = -(nI (T k)) := fun k => by rw [← hG]
    have hb8 := lbV_lt G (n := 8) (by omega)
    have hc2 := hcF.new (sLam 9 [.ref R.2.1]) 1
    have x2 := hEx.new hcF (sLam 9 [.ref R.2.1]) 1
    have a2 := sNew_at RF (sLam 9 [.ref R.2.1]) 1
    have b2 : (sNew RF (sLam 9 [.ref R.2.1]) 1).2.2.2 R.2.1 = some (sArr 0 8 F) := by rw [sNew_ne _ _ _ (by omega)]; exact aF
    have nL : ∀ K, sNewL (hMem A RF S) 9 [.ref R.2.1] K = K RF.2.1 (hMem A (sNew RF (sLam 9 [.ref R.2.1]) 1) S) := fun K => by rw [hNewL hcF S]; rfl
    generalize hR2 : sNew RF (sLam 9 [.ref R.2.1]) 1 = R2 at *
    have ld2 : ∀ k, k < 8 → sXld (hMem A R2 S) 0 R.2.1 (nI k) = some (nI (T k)) := fun k hk => by rw [hR_ld hc2 S b2 hk (by omega), hF k hk]
    obtain ⟨M', lb1, lb2⟩ := f_leastBy (a := RF.2.1) (n := 8) G (fun _ M => M = hMem A R2 S) (fun c k M hk hM => by
      subst hM
      refine ⟨hMem A R2 S, ?_, rfl⟩
      have at_ := hR_at hc2 S a2
      have e : f_meas RF.2.1 (nI k) (hMem A R2 S) = f_X0_lambda_tally_9 R.2.1 (nI k) (hMem A R2 S) := by
        unfold f_meas
        rw [at_]
        rfl
      rw [e, eG]
      unfold f_X0_lambda_tally_9
      dsimp only [sIald]
      rw [ld2 k hk, obS]) (by omega) (by omega) (M := hMem A R2 S) rfl
    subst lb2
    have lb1' : f_X0_leastBy 8 RF.2.1 (hMem A R2 S) = some (.inl (some (.int (nI (lbV G 8)))), hMem A R2 S) := lb1
    have ldb := ld2 (lbV G 8) hb8
    refine hOp.read h hq (v := if nI (T (lbV G 8)) = 0 then -1 else nI (lbV G 8)) (R' := R2) (S' := S) (s' := S.2.2.2.2.2) ?_ (hSame.refl S) ((xF.trans x2).le (by omega) (by omega)) hc2 ?_ (Sw.refl _)
    · simp only [f_X0_tally, fx_isIn, i1, eq_self, ↓reduceIte, hcI, hcN, hcV, obS, if_true, if_false, b01_t, nA, fe]
      simp (disch := omega) only [f_X0_tally_L19, xgI_21 hg, obS, e571, nI_leI, c0, ↓reduceIte, nL, lb1', hcI, ldb]
    · have P := lkS (fun _ _ (_ : Unit) => none) (fun q k (_ : Unit) => p_X3_tally_L29 (A.2.1 9) q (nI (lbV G k)) (nI k) S.2.2.2.2.2) 8 (fun k _ => 0 < k) (fun _ p => p = some (some (.int (if nI (T (lbV G 8)) = 0 then -1 else nI (lbV G 8))), S.2.2.2.2.2)) ?_ ?_ 7 1 sFuel sFuel () (by omega) (by omega) (by omega) (by omega)
      · simp only [p_X3_tally, ↓reduceIte]
        exact P
      · intro q q' k _ hk k0
        have lt := lbV_lt G k0
        have c1 : ¬ (8 : Int32) ≤ nI k := fun e => by
          have := (nI_leI (a := 8) (by omega) (by omega)).mp e
          omega
        refine Or.inl ⟨(), by omega, rfl, ?_⟩
        have gc : (G (lbV G k) ≤ G k) = (T k ≤ T (lbV G k)) := by
          rw [eG, eG]
          exact neg_leI (by have := lb (lbV G k); omega) (by have := lb k; omega)
        rw [lbV_s G k0]
        have cc : (nI (T k) ≤ nI (T (lbV G k))) = (T k ≤ T (lbV G k)) := propext (nI_leI (by have := lb k; omega) (by have := lb (lbV G k); omega))
        by_cases c : T k ≤ T (lbV G k)
        · rw [if_pos (Eq.mpr gc c)]
          simp (disch := omega) only [p_X3_tally_L29, if_neg c1, pt, pcI, cc, if_pos c, nI_1]
        · rw [if_neg (fun q => c (Eq.mp gc q))]
          simp (disch := omega) only [p_X3_tally_L29, if_neg c1, pt, pcI, cc, if_neg c, nI_1]
      · intro q q' _ _
        have c1 : (8 : Int32) ≤ nI 8 := by decide
        show p_X3_tally_L29 _ _ _ _ _ = _
        simp (disch := omega) only [p_X3_tally_L29, if_pos c1, pt, pcI]
  · have ei := inB_m v 7 v1
    cases hv : inB v 0 7 with
    | false =>
      rw [hv] at ei
      refine hOp.read0 h hq (v := -1) ?_ ?_
      · simp only [f_X0_tally, fx_isIn, ei, eq_self, ↓reduceIte, hcI, hcN, hcV, obS, if_true, if_false, b01_f]
      · simp only [p_X3_tally, if_neg v1, px_isIn, hv, pcI, b01_f, ↓reduceIte]
    | true =>
      rw [hv] at ei
      obtain ⟨m, hm, rfl⟩ := inB_lit (k := 7) (by omega) hv
      have ld2 : sXld (hMem A RF S) 0 R.2.1 (nI m) = some (nI (tcW mk lo m (hN (S.2.2.2.1 0)))) := by rw [hR_ld hcF S aF (by omega) (by omega), hF m (by omega)]
      refine hOp.read h hq (v := nI (tcW mk lo m (hN (S.2.2.2.1 0)))) (R' := RF) (S' := S) (s' := S.2.2.2.2.2) ?_ (hSame.refl S) (xF.le (by omega) (by omega)) hcF ?_ (Sw.refl _)
      · simp only [f_X0_tally, fx_isIn, ei, eq_self, ↓reduceIte, hcI, hcN, hcV, obS, if_true, if_false, b01_t, nA, fe]
        simp (disch := omega) only [f_X0_tally_L19, xgI_21 hg, obS, e571, nI_leI, c0, ↓reduceIte, if_neg v1, ld2]
      · simp only [p_X3_tally, if_neg v1, px_isIn, hv, pcI, b01_t, ↓reduceIte, pt m hm]
