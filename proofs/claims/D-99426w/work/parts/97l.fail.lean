/-! faults, words of the law, steps laid down: both sides -/
set_option maxRecDepth 100000
def fO (k p : Int32) : sCell := sObj 4 [.null, .null, .null, .null, .null, .int 0, .int k, .int p]
theorem fault_init {A : hA} {R : sMem} (hg : hG A) (hc : hCl A R) (S : hS) (k p : Int32) : ∃ R', f_X4_init R.2.1 k p (hMem A (sNew R (sObj 4 [.null, .null, .null, .null, .null, .int 0, .int 0, .int 0]) 8) S) = some (.inl none, hMem A R' S) ∧ R'.2.2.2 R.2.1 = some (fO k p) ∧ hEx 1 8 R R' ∧ hCl A R' ∧ sThrow (hMem A R' S) R.2.1 = some (.inr R.2.1, hMem A R' S) := by
  have hb := hc.base hg
  have hc1 := hc.new (sObj 4 [.null, .null, .null, .null, .null, .int 0, .int 0, .int 0]) 8
  have x1 := hEx.new hc (sObj 4 [.null, .null, .null, .null, .null, .int 0, .int 0, .int 0]) 8
  have r1 := sNew_at R (sObj 4 [.null, .null, .null, .null, .null, .int 0, .int 0, .int 0]) 8
  generalize hr : R.2.1 = r at *
  generalize sNew R (sObj 4 [.null, .null, .null, .null, .null, .int 0, .int 0, .int 0]) 8 = R1 at *
  have fs := hR_fs hc1 S r1
  have hc2 := hc1.up (e := sObj 4 [.null, .null, .null, .null, .null, .int 0, .int 0, .int 0]) r1
  have x2 := hEx.up hc x1 (a := r) (by omega) (sObj 4 [.null, .null, .null, .null, .null, .int 0, .int 0, .int 0])
  have r2 := sUp_at R1 r (sObj 4 [.null, .null, .null, .null, .null, .int 0, .int 0, .int 0])
  have up : f_J8_init r (hMem A R1 S) = some (.inl none, hMem A (sUp R1 r (sObj 4 [.null, .null, .null, .null, .null, .int 0, .int 0, .int 0])) S) := by
    have e0 : (hMem A R1 S).1 ≤ r := hb
    simp only [f_J8_init, f_J7_init_2, fs, obS]
    rw [if_pos ⟨e0, by simp⟩]
    simp only [sCallV, hcV, hMem_upR hc1 S r1]
    rfl
  generalize sUp R1 r (sObj 4 [.null, .null, .null, .null, .null, .int 0, .int 0, .int 0]) = R2 at *
  have p6 : sPut (hMem A R2 S) 4 6 r (.int k) = some (hMem A (sUp R2 r (sObj 4 [.null, .null, .null, .null, .null, .int 0, .int k, .int 0])) S) := hR_put hc2 S r2 hb (k := 6) (by simp) (.int k)
  have hc3 := hc2.up (e := sObj 4 [.null, .null, .null, .null, .null, .int 0, .int k, .int 0]) r2
  have x3 := hEx.up hc x2 (a := r) (by omega) (sObj 4 [.null, .null, .null, .null, .null, .int 0, .int k, .int 0])
  have r3 := sUp_at R2 r (sObj 4 [.null, .null, .null, .null, .null, .int 0, .int k, .int 0])
  generalize sUp R2 r (sObj 4 [.null, .null, .null, .null, .null, .int 0, .int k, .int 0]) = R3 at *
  have p7 : sPut (hMem A R3 S) 4 7 r (.int p) = some (hMem A (sUp R3 r (fO k p)) S) := hR_put hc3 S r3 hb (k := 7) (by simp) (.int p)
  have hc4 := hc3.up (e := fO k p) r3
  have x4 := hEx.up hc x3 (a := r) (by omega) (fO k p)
  have r4 := sUp_at R3 r (fO k p)
  refine ⟨sUp R3 r (fO k p), ?_, r4, x4, hc4, ?_⟩
  · simp only [f_X4_init, up, sCallV, hcV, p6, obS, p7]
  · have fs4 := hR_fs hc4 S r4
    simp only [sThrow, fs4, obS]
/-- the component's fields that a text may move; the model's -/
def SF (S S' : hS) : Prop := S'.2 = S.2 ∧ ∀ q, q < 9 ∨ 13 < q → S'.1 q = S.1 q
def MF (s s' : mSt) : Prop := (∀ j, j ≠ 4 → j ≠ 5 → j ≠ 6 → s'.2 j = s.2 j) ∧ ∀ q, (q < 13 ∨ q = 16 ∨ q = 23 ∨ q = 25 ∨ 26 < q) → s'.1 q = s.1 q
theorem SF.refl (S : hS) : SF S S := ⟨rfl, fun _ _ => rfl⟩
theorem MF.refl (s : mSt) : MF s s := ⟨fun _ _ _ _ => rfl, fun _ _ => rfl⟩
theorem SF.trans {S S' S'' : hS} (h : SF S S') (h' : SF S' S'') : SF S S'' := ⟨h'.1.trans h.1, fun q hq => (h'.2 q hq).trans (h.2 q hq)⟩
theorem MF.trans {s s' s'' : mSt} (h : MF s s') (h' : MF s' s'') : MF s s'' := ⟨fun j h4 h5 h6 => (h'.1 j h4 h5 h6).trans (h.1 j h4 h5 h6), fun q hq => (h'.2 q hq).trans (h.2 q hq)⟩
/-- both fail, alike -/
def FAIL (A : hA) (R : sMem) (S : hS) (s : mSt) (f : Option (sRes × sMem)) (p : Option (Option Value × mSt)) : Prop := ∃ q k R' S' s', f = some (.inr q, hMem A R' S') ∧ p = some (some (.int 0), s') ∧ hCl A R' ∧ hEx (tAt s' - tAt s + 1) (8 * (tAt s' - tAt s) + 8) R R' ∧ tAt s ≤ tAt s' ∧ tAt s' ≤ 400 ∧ R'.2.2.2 q = some (fO k (s'.1 19)) ∧ s'.1 21 = k ∧ s'.1 22 = s'.1 19 ∧ SF S S' ∧ MF s s'
theorem bad_m (m : Nat) (k : Int32) (s : mSt) : p_X3_bad m k s = some (some (.int 0), mSet (mSet s 21 k) 22 (s.1 19)) := by
  simp only [p_X3_bad, qg, qp, obS, ms_ne s k (show 19 ≠ 21 by omega)]
theorem bool0 (s : mSt) : pBool 0 s = some (some (.int 0), s) := rfl
theorem bool1 (s : mSt) : pBool 1 s = some (some (.int 1), s) := rfl
/-- a fault made here, with the place of the token -/
theorem FAIL.here {A : hA} {R : sMem} {S : hS} {s : mSt} {g : Nat → Nat} {rd n : Nat} {u : Nat → Int32} (h : PS A R S s g rd n u) (k : Int32) : ∃ R', f_X4_init R.2.1 k (nI (tAt s)) (hMem A (sNew R (sObj 4 [.null, .null, .null, .null, .null, .int 0, .int 0, .int 0]) 8) S) = some (.inl none, hMem A R' S) ∧ sThrow (hMem A R' S) R.2.1 = some (.inr R.2.1, hMem A R' S) ∧ FAIL A R S s (some (.inr R.2.1, hMem A R' S)) (some (some (.int 0), mSet (mSet s 21 k) 22 (s.1 19))) := by
  obtain ⟨R', h1, h2, h3, h4, h5⟩ := fault_init h.1 h.2.1 S k (nI (tAt s))
  have hf := h.fr
  refine ⟨R', h1, h5, R.2.1, k, R', S, _, rfl, rfl, h4, ?_, Nat.le_refl _, by show tAt s ≤ 400; omega, ?_, rfl, rfl, SF.refl S, ⟨fun _ _ _ _ => rfl, fun q hq => ?_⟩⟩
  · show hEx (tAt s - tAt s + 1) _ R R'
    exact h3.le (by omega) (by omega)
  · show _ = some (fO k (s.1 19))
    rw [hf.1]
    exact h2
  · rw [ms_ne _ _ (by omega), ms_ne _ _ (by omega)]
/-- .. behind what went well -/
theorem FAIL.after {A : hA} {R R1 : sMem} {S S1 : hS} {s s1 : mSt} {f : Option (sRes × sMem)} {p : Option (Option Value × mSt)} (h : FAIL A R1 S1 s1 f p) (ht : tAt s ≤ tAt s1) (hx : hEx (tAt s1 - tAt s) (8 * (tAt s1 - tAt s)) R R1) (hS : SF S S1) (hM : MF s s1) : FAIL A R S s f p := by
  obtain ⟨q, k, R', S', s', h1, h2, h3, h4, h5, h6, h7, h8, h9, h10, h11⟩ := h
  exact ⟨q, k, R', S', s', h1, h2, h3, (hx.trans h4).le (by omega) (by omega), by omega, h6, h7, h8, h9, hS.trans h10, hM.trans h11⟩
theorem must_1 {A : hA} {R : sMem} {S : hS} (M : sMem) (hM : M = hMem A R S) {x : Int32} (hx : x ≠ 0) : f_X0_must (hX A) x M = some (.inl none, M) := by
  unfold f_X0_must
  rw [if_neg hx]
theorem must_0 {A : hA} {R : sMem} {S : hS} {s : mSt} {g : Nat → Nat} {rd n : Nat} {u : Nat → Int32} (h : PS A R S s g rd n u) : ∃ R', f_X0_must (hX A) 0 (hMem A R S) = some (.inr R.2.1, hMem A R' S) ∧ FAIL A R S s (some (.inr R.2.1, hMem A R' S)) (some (some (.int 0), mSet (mSet s 21 1) 22 (s.1 19))) := by
  obtain ⟨R', h1, h2, h3⟩ := FAIL.here h 1
  refine ⟨R', ?_, h3⟩
  obtain ⟨w, vc, -, -, h11, -⟩ := h.num
  have nO := fun K => hNewO h.2.1 S 4 [.null, .null, .null, .null, .null, .int 0, .int 0, .int 0] 8 K
  simp only [f_X0_must, if_true, nO, xgI_11 h.1, h11, hvI_int, obS, h1, sCallV, hcV, h2]
/-! words of the law -/
theorem cd_ask : ∀ i, i < 10 → cdN (askI i) = 41 + i := by decide
theorem cd_say : ∀ i, i < 3 → cdN (8 + i) = 20 + i := by decide
theorem PS.row {A : hA} {R : sMem} {S : hS} {s : mSt} {g : Nat → Nat} {rd n : Nat} {u : Nat → Int32} (h : PS A R S s g rd n u) {q nn b : Nat} {hh : Nat → Option Nat} {idx : Nat → Nat} (hq : R.2.2.2 q = some (sArq 2 nn hh)) (hn : nn ≤ 10) (hi : ∀ k, k < nn → hh k = some (g (10 + idx k)) ∧ idx k < 26 ∧ cdN (idx k) = b + k) (hb : 3 ≤ b ∧ b + nn ≤ 51) : (∃ i, i < nn ∧ s.1 18 = nI (b + i) ∧ f_X0_wordOf g (hX A) q (hMem A R S) = some (.inl (some (.int (nI i))), hMem A R S)) ∨ ((∀ i, i < nn → s.1 18 ≠ nI (b + i)) ∧ f_X0_wordOf g (hX A) q (hMem A R S) = some (.inl (some (.int (-1))), hMem A R S)) := by
  obtain ⟨a1, a2, a3, a4, a5, a6, a7, a8, a9, a10, fr, e, vc, c1, c2, c3, c4, c5, c6, c7, c8, c9⟩ := h
  have nk : ∀ k, k < 5 → k ≠ 2 → ¬ g k = g 2 := fun k hk h2 q => h2 (a4 k 2 (by omega) (by omega) q)
  have no : ∀ t k, s.1 18 = nI t → (t < 3 ∨ 100 ≤ t) → t < 1000 → kd (s.1 18) = k → k < 5 → k ≠ 2 → (∃ i, i < nn ∧ s.1 18 = nI (b + i) ∧ f_X0_wordOf g (hX A) q (hMem A R S) = some (.inl (some (.int (nI i))), hMem A R S)) ∨ ((∀ i, i < nn → s.1 18 ≠ nI (b + i)) ∧ f_X0_wordOf g (hX A) q (hMem A R S) = some (.inl (some (.int (-1))), hMem A R S)) := fun t k e1 h1 h1' e2 h2 h2' => by
    rw [e2] at c1
    refine Or.inr ⟨fun i hi q => ?_, wordOf_no a1 a2 c1 (nk k h2 h2') hq⟩
    rw [e1] at q
    have := (nI_eq (a := t) (b := b + i) (by omega) (by omega)).mp q
    omega
  rcases c9 with ⟨t0, -⟩ | ⟨-, t1 | ⟨j, hj, sp, t2⟩ | ⟨v, -, t3, -⟩ | ⟨c', hc', hs, t4, hv⟩⟩
  · exact no 0 0 t0 (by omega) (by omega) (by rw [t0]; rfl) (by omega) (by omega)
  · exact no 1 1 t1 (by omega) (by omega) (by rw [t1]; rfl) (by omega) (by omega)
  · have hj26 := wLst_lt rd a6 j hj
    have hin := cd_in rd a6 j hj
    rw [t2, kd_w rd a6 j hj] at c1
    obtain ⟨W, w1, w2⟩ := wordOf_c a1 a2 (hT_of a2 a3 S) a8 c1 c2 c3 c7 c8 hq (by omega) (fun k hk => ⟨(hi k hk).1, (hi k hk).2.1⟩) nn 0 (by omega) sFuel (by show _ < 1000000; omega)
    rcases w2 with ⟨i, -, h2, h3, rfl⟩ | ⟨h2, rfl⟩
    · have := splB_inj hj26 (hi i h2).2.1 sp h3
      refine Or.inl ⟨i, h2, ?_, w1⟩
      rw [t2, this]
      show nI (cdN (idx i)) = _
      rw [(hi i h2).2.2]
    · refine Or.inr ⟨fun i hi' q => ?_, w1⟩
      rw [t2] at q
      have q2 := (nI_eq (a := cdN j) (b := b + i) (by omega) (by omega)).mp q
      rw [← (hi i hi').2.2] at q2
      have := cd_inj j hj26 _ (hi i hi').2.1 q2
      rw [this, h2 i (by omega) hi'] at sp
      cases sp
  · exact no 2 3 t3 (by omega) (by omega) (by rw [t3]; rfl) (by omega) (by omega)
  · exact no (100 + c') 4 t4 (by omega) (by omega) (by rw [t4]; exact kd_s c' hc') (by omega) (by omega)
theorem PS.asked {A : hA} {R : sMem} {S : hS} {s : mSt} {g : Nat → Nat} {n : Nat} {u : Nat → Int32} (h : PS A R S s g 1 n u) : ∃ q, S.1 7 = .ref q ∧ ((∃ i, i < 10 ∧ s.1 18 = nI (41 + i) ∧ f_X0_wordOf g (hX A) q (hMem A R S) = some (.inl (some (.int (nI i))), hMem A R S)) ∨ ((∀ i, i < 10 → s.1 18 ≠ nI (41 + i)) ∧ f_X0_wordOf g (hX A) q (hMem A R S) = some (.inl (some (.int (-1))), hMem A R S))) := by
  have h' := h
  obtain ⟨a1, a2, a3, a4, a5, a6, ⟨q6, q7, q8, h6, h7, h8, e6, e7, e8, r6, i6, r7, i7, r8, i8⟩, -⟩ := h'
  exact ⟨q7, e7, h.row r7 (by decide) (fun k hk => ⟨i7 k hk, ask_lt k hk, cd_ask k hk⟩) (by decide)⟩
theorem PS.says {A : hA} {R : sMem} {S : hS} {s : mSt} {g : Nat → Nat} {n : Nat} {u : Nat → Int32} (h : PS A R S s g 1 n u) : ∃ q, S.1 6 = .ref q ∧ ((∃ i, i < 3 ∧ s.1 18 = nI (20 + i) ∧ f_X0_wordOf g (hX A) q (hMem A R S) = some (.inl (some (.int (nI i))), hMem A R S)) ∨ ((∀ i, i < 3 → s.1 18 ≠ nI (20 + i)) ∧ f_X0_wordOf g (hX A) q (hMem A R S) = some (.inl (some (.int (-1))), hMem A R S))) := by
  have h' := h
  obtain ⟨a1, a2, a3, a4, a5, a6, ⟨q6, q7, q8, h6, h7, h8, e6, e7, e8, r6, i6, r7, i7, r8, i8⟩, -⟩ := h'
  exact ⟨q6, e6, h.row r6 (by decide) (fun k hk => ⟨i6 k hk, by omega, cd_say k hk⟩) (by decide)⟩
