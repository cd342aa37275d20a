/-! trees and steps, new terms -/
set_option maxRecDepth 100000
abbrev stN (s : mSt) : Nat := cv (s.1 14)
def stp (s : mSt) : Nat → Int32 := fun p => s.2 5 (p - 1535)
theorem hTrA_lt {R : sMem} {t : Nat → Int32} : ∀ d q a b, hTrA R t d q a b → a < b
  | 0, _, _, _, g => g.elim
  | d + 1, q, a, b, g => by
    unfold hTrA at g
    rcases g with ⟨v, hq, hb, h0, hv⟩ | ⟨k, hk, hq, hb, h0⟩ | ⟨sg, co, q1, q2, c, e, hsg, hq, h1, h2, hb, h0⟩ | ⟨q1, q2, v, e, hq, h1, hq2, hv0, hb, h0, hv⟩
    · omega
    · omega
    · have := hTrA_lt d _ _ _ h1
      have := hTrA_lt d _ _ _ h2
      omega
    · have := hTrA_lt d _ _ _ h1
      omega
theorem hTrB_lt {R : sMem} {t : Nat → Int32} : ∀ d q a b, hTrB R t d q a b → a < b
  | 0, _, _, _, g => g.elim
  | d + 1, q, a, b, g => by
    unfold hTrB at g
    rcases g with ⟨sg, co, q1, q2, c, e, hsg, hq, h1, h2, hb, h0⟩ | ⟨sg, co, q1, q2, c, e, hsg, hq, h1, h2, hb, h0⟩ | ⟨q1, e, hq, h1, hb, h0⟩
    · have := hTrA_lt d _ _ _ h1
      have := hTrA_lt d _ _ _ h2
      omega
    · have := hTrB_lt d _ _ _ h1
      have := hTrB_lt d _ _ _ h2
      omega
    · have := hTrB_lt d _ _ _ h1
      omega
/-- what stands there stands there still, but a pair without its parts -/
def sub3 (R R' : sMem) : Prop := ∀ a e, R.2.2.2 a = some e → e ≠ sObj 8 [.int 0, .null, .null] → R'.2.2.2 a = some e
theorem sub3.of {R R' : sMem} (h : sub2 R R') : sub3 R R' := fun a e q _ => h a e q
/-- over another heap, deeper, over steps that are the same -/
theorem hTrA_to {R R' : sMem} (hR : sub3 R R') {t t' : Nat → Int32} : ∀ d d' q a b, d ≤ d' → (∀ p, 1535 + 2 * a ≤ p → p < 1535 + 2 * b → t' p = t p) → hTrA R t d q a b → hTrA R' t' d' q a b
  | 0, _, _, _, _, _, _, g => g.elim
  | d + 1, d', q, a, b, hd, ht, g => by
    obtain ⟨d', rfl⟩ : ∃ k, d' = k + 1 := ⟨d' - 1, by omega⟩
    have lt := hTrA_lt _ _ _ _ g
    unfold hTrA at g ⊢
    rcases g with ⟨v, hq, hb, h0, hv⟩ | ⟨k, hk, hq, hb, h0⟩ | ⟨sg, co, q1, q2, c, e, hsg, hq, h1, h2, hb, h0⟩ | ⟨q1, q2, v, e, hq, h1, hq2, hv0, hb, h0, hv⟩
    · exact Or.inl ⟨v, hR _ _ hq (by simp [sObj]), hb, (ht _ (by omega) (by omega)).trans h0, (ht _ (by omega) (by omega)).trans hv⟩
    · exact Or.inr (Or.inl ⟨k, hk, hR _ _ hq (by simp [sObj]), hb, (ht _ (by omega) (by omega)).trans h0⟩)
    · have l1 := hTrA_lt d _ _ _ h1
      have l2 := hTrA_lt d _ _ _ h2
      exact Or.inr (Or.inr (Or.inl ⟨sg, co, q1, q2, c, e, hsg, hR _ _ hq (by simp [sObj]), hTrA_to hR d d' _ _ _ (by omega) (fun p a1 a2 => ht p (by omega) (by omega)) h1, hTrA_to hR d d' _ _ _ (by omega) (fun p a1 a2 => ht p (by omega) (by omega)) h2, hb, (ht _ (by omega) (by omega)).trans h0⟩))
    · have l1 := hTrA_lt d _ _ _ h1
      exact Or.inr (Or.inr (Or.inr ⟨q1, q2, v, e, hR _ _ hq (by simp [sObj]), hTrA_to hR d d' _ _ _ (by omega) (fun p a1 a2 => ht p (by omega) (by omega)) h1, hR _ _ hq2 (by simp [sObj]), hv0, hb, (ht _ (by omega) (by omega)).trans h0, (ht _ (by omega) (by omega)).trans hv⟩))
theorem hTrB_to {R R' : sMem} (hR : sub3 R R') {t t' : Nat → Int32} : ∀ d d' q a b, d ≤ d' → (∀ p, 1535 + 2 * a ≤ p → p < 1535 + 2 * b → t' p = t p) → hTrB R t d q a b → hTrB R' t' d' q a b
  | 0, _, _, _, _, _, _, g => g.elim
  | d + 1, d', q, a, b, hd, ht, g => by
    obtain ⟨d', rfl⟩ : ∃ k, d' = k + 1 := ⟨d' - 1, by omega⟩
    have lt := hTrB_lt _ _ _ _ g
    unfold hTrB at g ⊢
    rcases g with ⟨sg, co, q1, q2, c, e, hsg, hq, h1, h2, hb, h0⟩ | ⟨sg, co, q1, q2, c, e, hsg, hq, h1, h2, hb, h0⟩ | ⟨q1, e, hq, h1, hb, h0⟩
    · have l1 := hTrA_lt d _ _ _ h1
      have l2 := hTrA_lt d _ _ _ h2
      exact Or.inl ⟨sg, co, q1, q2, c, e, hsg, hR _ _ hq (by simp [sObj]), hTrA_to hR d d' _ _ _ (by omega) (fun p a1 a2 => ht p (by omega) (by omega)) h1, hTrA_to hR d d' _ _ _ (by omega) (fun p a1 a2 => ht p (by omega) (by omega)) h2, hb, (ht _ (by omega) (by omega)).trans h0⟩
    · have l1 := hTrB_lt d _ _ _ h1
      have l2 := hTrB_lt d _ _ _ h2
      exact Or.inr (Or.inl ⟨sg, co, q1, q2, c, e, hsg, hR _ _ hq (by simp [sObj]), hTrB_to hR d d' _ _ _ (by omega) (fun p a1 a2 => ht p (by omega) (by omega)) h1, hTrB_to hR d d' _ _ _ (by omega) (fun p a1 a2 => ht p (by omega) (by omega)) h2, hb, (ht _ (by omega) (by omega)).trans h0⟩)
    · have l1 := hTrB_lt d _ _ _ h1
      exact Or.inr (Or.inr ⟨q1, e, hR _ _ hq (by simp [sObj]), hTrB_to hR d d' _ _ _ (by omega) (fun p a1 a2 => ht p (by omega) (by omega)) h1, hb, (ht _ (by omega) (by omega)).trans h0⟩)
def trA (R : sMem) (s : mSt) (o a b : Nat) : Prop := hTrA R (stp s) (b - a) o a b
def trB (R : sMem) (s : mSt) (o a b : Nat) : Prop := hTrB R (stp s) (b - a) o a b
/-- the model's state through a term -/
def TF (s s' : mSt) : Prop := (∀ j, j ≠ 5 → s'.2 j = s.2 j) ∧ (∀ p, p < 2 * stN s → s'.2 5 p = s.2 5 p) ∧ (∀ q, (q < 14 ∨ q = 15 ∨ q = 16 ∨ 22 < q) → s'.1 q = s.1 q) ∧ s'.1 14 = nI (stN s') ∧ stN s ≤ stN s' ∧ tAt s ≤ tAt s' ∧ stN s' + tAt s ≤ stN s + tAt s'
theorem TF.trans {s s1 s2 : mSt} (h : TF s s1) (h' : TF s1 s2) : TF s s2 := by
  obtain ⟨a1, a2, a3, a4, a5, a6, a7⟩ := h
  obtain ⟨b1, b2, b3, b4, b5, b6, b7⟩ := h'
  exact ⟨fun j hj => (b1 j hj).trans (a1 j hj), fun p hp => (b2 p (by omega)).trans (a2 p hp), fun q hq => (b3 q hq).trans (a3 q hq), b4, by omega, by omega, by omega⟩
theorem TF.mf {s s' : mSt} (h : TF s s') : MF s s' := ⟨fun j _ h5 _ => h.1 j h5, fun q hq => h.2.2.1 q (by omega)⟩
theorem TF.next {s s' : mSt} (h14 : s.1 14 = nI (stN s)) (h2 : s'.2 = s.2) (hq : ∀ q, q < 17 ∨ 20 < q → s'.1 q = s.1 q) (ht : tAt s ≤ tAt s') : TF s s' := by
  have e : s'.1 14 = s.1 14 := hq 14 (by omega)
  have en : stN s' = stN s := congrArg cv e
  exact ⟨fun j _ => by rw [h2], fun p _ => by rw [h2], fun q h => hq q (by omega), by rw [en, e]; exact h14, by omega, ht, by omega⟩
theorem stp_tf {s s' : mSt} (h : TF s s') : ∀ p, p < 1535 + 2 * stN s → stp s' p = stp s p ∨ p < 1535 := fun p hp => by
  by_cases c : p < 1535
  · exact Or.inr c
  · exact Or.inl (h.2.1 (p - 1535) (by omega))
theorem trA.tf {R R' : sMem} {s s' : mSt} {o a : Nat} (h : trA R s o a (stN s)) (hR : sub3 R R') (ht : TF s s') : hTrA R' (stp s') (stN s - a) o a (stN s) := hTrA_to hR _ _ _ _ _ (Nat.le_refl _) (fun p h1 h2 => (stp_tf ht p h2).resolve_right (by omega)) h
theorem trB.tf {R R' : sMem} {s s' : mSt} {o a : Nat} (h : trB R s o a (stN s)) (hR : sub3 R R') (ht : TF s s') : hTrB R' (stp s') (stN s - a) o a (stN s) := hTrB_to hR _ _ _ _ _ (Nat.le_refl _) (fun p h1 h2 => (stp_tf ht p h2).resolve_right (by omega)) h
/-! a step laid down -/
def mLay (s : mSt) (k v : Int32) : mSt := mSet (mRowSet s 5 (upd (upd (s.2 5) (2 * stN s) k) (2 * stN s + 1) v)) 14 (nI (stN s + 1))
theorem lay_m (m : Nat) (k v : Int32) {s : mSt} (h : s.1 14 = nI (stN s)) (hn : stN s < 410) : p_X3_lay m k v s = some (none, mLay s k v) := by
  generalize hst : stN s = a at *
  have r7 : mRow 7 = some 5 := by decide
  have e1 : (2 : Int32) * nI a = nI (2 * a) := pk_mul 2 a
  have e2 : nI (2 * a) + 1 = nI (2 * a + 1) := nI_add (2 * a) 1
  have e3 : nI a + 1 = nI (a + 1) := nI_add a 1
  have q1 : ∀ (s : mSt) p, p < 820 → ∀ x, qAst s 5 (nI p) x = some (mRowSet s 5 (upd (s.2 5) p x)) := fun s p hp x => qst_5 s hp x
  have f14 : ∀ f : Nat → Int32, (mRowSet s 5 f).1 14 = nI a := fun f => h
  simp only [p_X3_lay, r7, obS, qg, qp, h, e1, q1 s (2 * a) (by omega), f14, e2, q1 _ (2 * a + 1) (by omega), mrs_same, mrs_mrs, e3]
  unfold mLay
  rw [hst]
theorem mLay_1 (s : mSt) (k v : Int32) {q : Nat} (hq : q ≠ 14) : (mLay s k v).1 q = s.1 q := by
  unfold mLay
  rw [ms_ne _ _ hq]
  rfl
theorem mLay_2 (s : mSt) (k v : Int32) {j : Nat} (hj : j ≠ 5) : (mLay s k v).2 j = s.2 j := by
  unfold mLay
  rw [ms_2, mrs_ne _ _ hj]
theorem mLay_14 (s : mSt) (k v : Int32) : (mLay s k v).1 14 = nI (stN s + 1) := ms_same _ _ _
theorem mLay_n (s : mSt) (k v : Int32) (h : stN s < 1000) : stN (mLay s k v) = stN s + 1 := by
  show cv _ = _
  rw [mLay_14, cv_nI (by omega)]
theorem mLay_lo (s : mSt) (k v : Int32) {p : Nat} (hp : p < 2 * stN s) : (mLay s k v).2 5 p = s.2 5 p := by
  unfold mLay
  rw [ms_2, mrs_same, upd_ne _ _ (by omega), upd_ne _ _ (by omega)]
theorem mLay_k (s : mSt) (k v : Int32) : stp (mLay s k v) (1535 + 2 * stN s) = k := by
  unfold stp mLay
  rw [ms_2, mrs_same, Nat.add_sub_cancel_left, upd_ne _ _ (by omega), upd_same]
theorem mLay_v (s : mSt) (k v : Int32) : stp (mLay s k v) (1535 + 2 * stN s + 1) = v := by
  unfold stp mLay
  rw [ms_2, mrs_same, show 1535 + 2 * stN s + 1 - 1535 = 2 * stN s + 1 by omega, upd_same]
theorem mLay_t (s : mSt) (k v : Int32) : tAt (mLay s k v) = tAt s := congrArg cv (mLay_1 s k v (by omega))
/-- a term, an operator behind it: its step -/
theorem TF.lay {s s1 : mSt} (h : TF s s1) (k v : Int32) (hn : stN s1 < 1000) (hb : stN s1 + 1 + tAt s ≤ stN s + tAt s1) : TF s (mLay s1 k v) := by
  obtain ⟨a1, a2, a3, a4, a5, a6, a7⟩ := h
  refine ⟨fun j hj => (mLay_2 s1 k v hj).trans (a1 j hj), fun p hp => (mLay_lo s1 k v (by omega)).trans (a2 p hp), fun q hq => (mLay_1 s1 k v (by omega)).trans (a3 q hq), ?_, ?_, ?_, ?_⟩
  · rw [mLay_14, mLay_n _ _ _ hn]
  · rw [mLay_n _ _ _ hn]
    omega
  · rw [mLay_t]
    exact a6
  · rw [mLay_n _ _ _ hn, mLay_t]
    exact hb
theorem PS.lay {A : hA} {R : sMem} {S : hS} {s : mSt} {g : Nat → Nat} {rd n : Nat} {u : Nat → Int32} (h : PS A R S s g rd n u) (k v : Int32) : PS A R S (mLay s k v) g rd n u := h.ex (fun _ _ q => q) h.2.1 (mLay_2 s k v (by omega)) (fun q hq => mLay_1 s k v (by omega))
/-! new terms -/
theorem new_num {A : hA} {R : sMem} (hg : hG A) (hc : hCl A R) (S : hS) (v : Int32) : ∃ R', (sNewO (hMem A R S) 6 [.int 0] 1 fun r M6 => sCallV (f_X7_init r v M6) fun M7 => some (.inl (some (.ref r)), M7)) = some (.inl (some (.ref R.2.1)), hMem A R' S) ∧ R'.2.2.2 R.2.1 = some (sObj 6 [.int v]) ∧ hEx 1 1 R R' ∧ hCl A R' := by
  have hb := hc.base hg
  have hc1 := hc.new (sObj 6 [.int 0]) 1
  have x1 := hEx.new hc (sObj 6 [.int 0]) 1
  have r1 := sNew_at R (sObj 6 [.int 0]) 1
  have nO := fun K => hNewO hc S 6 [.int 0] 1 K
  generalize hr : R.2.1 = r at *
  generalize sNew R (sObj 6 [.int 0]) 1 = R1 at *
  have p0 : sPut (hMem A R1 S) 6 0 r (.int v) = some (hMem A (sUp R1 r (sObj 6 [.int v])) S) := hR_put hc1 S r1 hb (k := 0) (by simp) (.int v)
  refine ⟨_, ?_, sUp_at R1 r (sObj 6 [.int v]), hEx.up hc x1 (a := r) (by omega) _, hc1.up r1⟩
  simp only [nO, f_X7_init, f_X6_init, sCallV, hcV, p0, obS]
theorem new_word {A : hA} {R : sMem} (hg : hG A) (hc : hCl A R) (S : hS) (v : Int32) : ∃ R', (sNewO (hMem A R S) 7 [.int 0] 1 fun r M6 => sCallV (f_X8_init r v M6) fun M7 => some (.inl (some (.ref r)), M7)) = some (.inl (some (.ref R.2.1)), hMem A R' S) ∧ R'.2.2.2 R.2.1 = some (sObj 7 [.int v]) ∧ hEx 1 1 R R' ∧ hCl A R' := by
  have hb := hc.base hg
  have hc1 := hc.new (sObj 7 [.int 0]) 1
  have x1 := hEx.new hc (sObj 7 [.int 0]) 1
  have r1 := sNew_at R (sObj 7 [.int 0]) 1
  have nO := fun K => hNewO hc S 7 [.int 0] 1 K
  generalize hr : R.2.1 = r at *
  generalize sNew R (sObj 7 [.int 0]) 1 = R1 at *
  have p0 : sPut (hMem A R1 S) 7 0 r (.int v) = some (hMem A (sUp R1 r (sObj 7 [.int v])) S) := hR_put hc1 S r1 hb (k := 0) (by simp) (.int v)
  refine ⟨_, ?_, sUp_at R1 r (sObj 7 [.int v]), hEx.up hc x1 (a := r) (by omega) _, hc1.up r1⟩
  simp only [nO, f_X8_init, f_X6_init, sCallV, hcV, p0, obS]
theorem new_not {A : hA} {R : sMem} (hg : hG A) (hc : hCl A R) (S : hS) (o : Nat) : ∃ R', (sNewO (hMem A R S) 9 [.null] 1 fun r M6 => sCallV (f_X10_init r o M6) fun M7 => some (.inl (some (.ref r)), M7)) = some (.inl (some (.ref R.2.1)), hMem A R' S) ∧ R'.2.2.2 R.2.1 = some (sObj 9 [.ref o]) ∧ hEx 1 1 R R' ∧ hCl A R' := by
  have hb := hc.base hg
  have hc1 := hc.new (sObj 9 [.null]) 1
  have x1 := hEx.new hc (sObj 9 [.null]) 1
  have r1 := sNew_at R (sObj 9 [.null]) 1
  have nO := fun K => hNewO hc S 9 [.null] 1 K
  generalize hr : R.2.1 = r at *
  generalize sNew R (sObj 9 [.null]) 1 = R1 at *
  have p0 : sPut (hMem A R1 S) 9 0 r (.ref o) = some (hMem A (sUp R1 r (sObj 9 [.ref o])) S) := hR_put hc1 S r1 hb (k := 0) (by simp) (.ref o)
  refine ⟨_, ?_, sUp_at R1 r (sObj 9 [.ref o]), hEx.up hc x1 (a := r) (by omega) _, hc1.up r1⟩
  simp only [nO, f_X10_init, f_X6_init, sCallV, hcV, p0, obS]
/-- a pair, made before its second part is read -/
theorem two_init {A : hA} {R0 R : sMem} {c n : Nat} (h0 : hCl A R0) (hx : hEx c n R0 R) (hc : hCl A R) (S : hS) {r k o1 o2 : Nat} (hr : R.2.2.2 r = some (sObj 8 [.int 0, .null, .null])) (hb : A.1 ≤ r) (hr0 : R0.2.1 ≤ r) (hk : k < 128) : ∃ R', f_X9_init r (nI k) o1 o2 (hMem A R S) = some (.inl none, hMem A R' S) ∧ R'.2.2.2 r = some (sObj 8 [.int (nI k), .ref o1, .ref o2]) ∧ (∀ b, b ≠ r → R'.2.2.2 b = R.2.2.2 b) ∧ hEx c n R0 R' ∧ hCl A R' := by
  have kc : ∀ k, k < 128 → (((nI k).toUInt32 % 65536).toInt32) = nI k := by decide +kernel
  have pc : sPutC (hMem A R S) 8 0 r (nI k) = some (hMem A (sUp R r (sObj 8 [.int (nI k), .null, .null])) S) := by
    have := hR_put hc S hr hb (k := 0) (by simp) (.int (nI k))
    unfold sPutC
    rw [if_pos (kc k hk)]
    exact this
  have hc1 := hc.up (e := sObj 8 [.int (nI k), .null, .null]) hr
  have x1 := hEx.up h0 hx hr0 (sObj 8 [.int (nI k), .null, .null])
  have r1 := sUp_at R r (sObj 8 [.int (nI k), .null, .null])
  have n1 : ∀ b, b ≠ r → (sUp R r (sObj 8 [.int (nI k), .null, .null])).2.2.2 b = R.2.2.2 b := fun b hb => sUp_ne R _ hb
  generalize sUp R r (sObj 8 [.int (nI k), .null, .null]) = R1 at *
  have p1 : sPut (hMem A R1 S) 8 1 r (.ref o1) = some (hMem A (sUp R1 r (sObj 8 [.int (nI k), .ref o1, .null])) S) := hR_put hc1 S r1 hb (k := 1) (by simp) (.ref o1)
  have hc2 := hc1.up (e := sObj 8 [.int (nI k), .ref o1, .null]) r1
  have x2 := hEx.up h0 x1 hr0 (sObj 8 [.int (nI k), .ref o1, .null])
  have r2 := sUp_at R1 r (sObj 8 [.int (nI k), .ref o1, .null])
  have n2 : ∀ b, b ≠ r → (sUp R1 r (sObj 8 [.int (nI k), .ref o1, .null])).2.2.2 b = R1.2.2.2 b := fun b hb => sUp_ne R1 _ hb
  generalize sUp R1 r (sObj 8 [.int (nI k), .ref o1, .null]) = R2 at *
  have p2 : sPut (hMem A R2 S) 8 2 r (.ref o2) = some (hMem A (sUp R2 r (sObj 8 [.int (nI k), .ref o1, .ref o2])) S) := hR_put hc2 S r2 hb (k := 2) (by simp) (.ref o2)
  refine ⟨_, ?_, sUp_at R2 r (sObj 8 [.int (nI k), .ref o1, .ref o2]), fun b hb => ?_, hEx.up h0 x2 hr0 _, hc2.up r2⟩
  · simp only [f_X9_init, f_X6_init, sCallV, hcV, pc, p1, p2, obS]
  · rw [sUp_ne R2 _ hb, n2 b hb, n1 b hb]
