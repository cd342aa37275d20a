/-! the game, dyes -/
set_option maxRecDepth 100000
theorem x32_xor (x y : Int32) : (x ^^^ y = 0) = (x = y) := by
  apply propext
  constructor
  · intro h
    have : x ^^^ y ^^^ y = 0 ^^^ y := by rw [h]
    rw [Int32.xor_assoc, Int32.xor_self, Int32.xor_zero, Int32.zero_xor] at this
    exact this
  · intro h
    rw [h, Int32.xor_self]
theorem j_game {A : hA} {R : sMem} {S : hS} {g : Nat → Nat} {b L : Nat} {xs : Nat → Int32} (h : hInv A R S g b L xs) (v : Int32) : hOp A R S g b L xs (f_X0_game (hX A) v) (f_X3_game (A.2.1 9) v) := by
  have hg := h.1.1
  have hc := h.1.2.1
  have h3 : 0 < A.2.2 := by have := hg.2.2.2; omega
  have ht := h.t0
  have hw := h.act
  have wf := hw.1.2.1
  have h10 : hFc (S.2.2.2.1 0) ≤ 10 := wf.1.2
  have e572 : S.2.2.2.1 0 572 = nI (hFc (S.2.2.2.1 0)) := wf.1.1
  have hq : ∀ (R : sMem), R.1 ≤ A.2.1 9 → ∀ s : mSt, f_X3_game (A.2.1 9) v (mPut R (A.2.1 9) s) = lft R (A.2.1 9) (p_X3_game (A.2.1 9) v s) := fun R hR s => q_X3_game R _ hR v s
  obtain ⟨q, ao, ma, g1, g2, gf⟩ := fact_get (S := S) hg hc h.fa wf
  have pf := fun a (ha : a < 10) => px_fact (A.2.1 9) S.2.2.2.2.2 (f := a) (k := 1) ha (by omega)
  simp only [ht] at pf
  obtain ⟨lf, hlf⟩ : ∃ lf : Nat → Nat, ∀ f, f < hFc (S.2.2.2.1 0) → S.2.2.2.1 0 (605 + 9 * f + 1) = nI (lf f) ∧ lf f ≤ 20 := ⟨fun f => cv (S.2.2.2.1 0 (605 + 9 * f + 1)), fun f hf => (wf.2 f hf).2.2.1⟩
  have c60 : ¬ (6 : Int32) = 0 := by decide
  generalize hFc (S.2.2.2.1 0) = n at *
  have gl := fun f (hf : f < n) => (gf f hf).1
  have gk := fun f (hf : f < n) => (gf f hf).2.1
  have gm := fun f (hf : f < n) => (gf f hf).2.2.2.1
  cases hv : inB v 0 1 with
  | false =>
    refine hOp.read0 h hq (v := -1) ?_ ?_
    · simp only [f_X0_game, fx_isIn, hv, eq_self, ↓reduceIte, hcI, hcN, hcV, obS, if_true, if_false, b01_f]
    · simp only [p_X3_game, px_isIn, hv, pcI, b01_f, ↓reduceIte]
  | true =>
    have p1 : ∀ f, f < n → p_X3_factOf (A.2.1 9) (nI f) 1 S.2.2.2.2.2 = some (some (.int (nI (lf f))), S.2.2.2.2.2) := fun f hf => by
      have := pf f (by omega)
      rw [(hlf f hf).1] at this
      exact this
    have fl : ∀ f, f < n → f_X5_leaf (ao f) (hMem A R S) = some (.inl (some (.int (nI (lf f)))), hMem A R S) := fun f hf => by rw [gm f hf, (hlf f hf).1]
    -- the second loop
    have J2 : ∀ w : Int32, jE (hMem A R S) S.2.2.2.2.2 (f_X0_game_L47 (hX A) v w sFuel 0 (hMem A R S)) (p_X3_game_L47 (A.2.1 9) v w sFuel 0 S.2.2.2.2.2) := by
      intro w
      refine lk (fun f k (_ : Unit) => f_X0_game_L47 (hX A) v w f (nI k) (hMem A R S)) (fun f k (_ : Unit) => p_X3_game_L47 (A.2.1 9) v w f (nI k) S.2.2.2.2.2) n (fun _ _ => True) (jE (hMem A R S) S.2.2.2.2.2) ?_ ?_ (by omega) () trivial
      · intro f f' k _ hk _
        have c0 : ¬ n ≤ k := by omega
        have l20 := (hlf k hk).2
        obtain ⟨mn, hmn⟩ : ∃ mn, mn = min (lf k) 5 := ⟨_, rfl⟩
        have m1 : (if nI (lf k) < 5 then nI (lf k) else 5) = nI mn := by
          rw [hmn]
          show (if nI (lf k) < nI 5 then nI (lf k) else nI 5) = _
          by_cases c : lf k < 5
          · rw [if_pos ((nI_ltI (b := 5) (by omega) (by omega)).mpr c)]
            congr 1
            omega
          · rw [if_neg (fun q => c ((nI_ltI (b := 5) (by omega) (by omega)).mp q))]
            congr 1
            omega
        have m2 : (if nI (lf k) ≤ 5 then nI (lf k) else 5) = nI mn := by
          rw [hmn]
          show (if nI (lf k) ≤ nI 5 then nI (lf k) else nI 5) = _
          by_cases c : lf k ≤ 5
          · rw [if_pos ((nI_leI (b := 5) (by omega) (by omega)).mpr c)]
            congr 1
            omega
          · rw [if_neg (fun q => c ((nI_leI (b := 5) (by omega) (by omega)).mp q))]
            congr 1
            omega
        have hs : sFuel = 1000000 := rfl
        have IN := lkS (fun q a (_ : Unit) => f_X0_game_L59 (f_X0_game_L47 (hX A) v w f) (hX A) v w (nI k) q (nI a) (hMem A R S)) (fun q a (_ : Unit) => p_X3_game_L70 (p_X3_game_L47 (A.2.1 9) v w f') (A.2.1 9) v w (nI k) (nI (lf k)) q (nI a) S.2.2.2.2.2) (mn + 1) (fun _ _ => True) (fun o p => (o = f_X0_game_L47 (hX A) v w f (nI (k + 1)) (hMem A R S) ∧ p = p_X3_game_L47 (A.2.1 9) v w f' (nI (k + 1)) S.2.2.2.2.2) ∨ jE (hMem A R S) S.2.2.2.2.2 o p) ?_ ?_ mn 1 sFuel sFuel () (by omega) (by omega) (by omega) trivial
        · have e1 : f_X0_game_L47 (hX A) v w (f + 1) (nI k) (hMem A R S) = f_X0_game_L59 (f_X0_game_L47 (hX A) v w f) (hX A) v w (nI k) sFuel (nI 1) (hMem A R S) := by
            simp (disch := omega) only [f_X0_game_L47, g1, g2, obS, nI_leI, c0, ↓reduceIte]
            rfl
          have e2 : p_X3_game_L47 (A.2.1 9) v w (f' + 1) (nI k) S.2.2.2.2.2 = p_X3_game_L70 (p_X3_game_L47 (A.2.1 9) v w f') (A.2.1 9) v w (nI k) (nI (lf k)) sFuel (nI 1) S.2.2.2.2.2 := by
            simp (disch := omega) only [p_X3_game_L47, mRow_0, obS, qld_572, ht, e572, nI_leI, c0, ↓reduceIte, p1, pcI]
            rfl
          rw [e1, e2]
          rcases IN with ⟨i1, i2⟩ | IN
          · exact Or.inl ⟨(), trivial, i1, i2⟩
          · exact Or.inr IN
        · intro q q' a _ ha _
          have c1 : ¬ mn < a := by omega
          by_cases c : w ^^^ (nI (lf k) - nI (lf k) / 6 * 6) = nI (lf k) - nI a - (nI (lf k) - nI a) / 6 * 6
          · refine Or.inr (Or.inr ⟨if v = 0 then nI k else nI a, ?_, ?_⟩)
            · simp (disch := omega) only [f_X0_game_L59, g1, gl, gk, fl, obS, hcI, m1, nI_ltI, c1, ↓reduceIte, if_neg c60, x32_xor, if_pos c]
            · simp (disch := omega) only [p_X3_game_L70, px_lesser, pcI, m2, nI_ltI, c1, ↓reduceIte, if_neg c60, if_pos c]
          · refine Or.inl ⟨(), trivial, ?_, ?_⟩
            · simp (disch := omega) only [f_X0_game_L59, g1, gl, gk, fl, obS, hcI, m1, nI_ltI, c1, ↓reduceIte, if_neg c60, x32_xor, if_neg c, nI_1]
            · simp (disch := omega) only [p_X3_game_L70, px_lesser, pcI, m2, nI_ltI, c1, ↓reduceIte, if_neg c60, if_neg c, nI_1]
        · intro q q' _ _
          have c1 : mn < mn + 1 := by omega
          refine Or.inl ⟨?_, ?_⟩
          · simp (disch := omega) only [f_X0_game_L59, g1, gl, gk, fl, obS, hcI, m1, nI_ltI, c1, ↓reduceIte, nI_1]
          · simp (disch := omega) only [p_X3_game_L70, px_lesser, pcI, m2, nI_ltI, c1, ↓reduceIte, nI_1]
      · intro f f' _ _
        have c0 : n ≤ n := Nat.le_refl _
        refine ⟨-1, ?_, ?_⟩
        · simp (disch := omega) only [f_X0_game_L47, g1, g2, obS, nI_leI, c0, ↓reduceIte]
        · simp (disch := omega) only [p_X3_game_L47, mRow_0, obS, qld_572, ht, e572, nI_leI, c0, ↓reduceIte]
    have J1 := lk (fun f k (a : Int32) => f_X0_game_L15 (hX A) v f a (nI k) (hMem A R S)) (fun f k (a : Int32) => p_X3_game_L15 (A.2.1 9) v f a (nI k) S.2.2.2.2.2) n (fun _ _ => True) (jE (hMem A R S) S.2.2.2.2.2) ?_ ?_ (by omega) 0 trivial
    · obtain ⟨x, x1, x2⟩ := J1
      refine hOp.read0 h hq (v := x) ?_ ?_
      · simp only [f_X0_game, fx_isIn, hv, eq_self, ↓reduceIte, hcI, hcN, hcV, obS, if_true, if_false, b01_t]
        exact x1
      · simp only [p_X3_game, px_isIn, hv, pcI, b01_t, ↓reduceIte]
        exact x2
    · intro f f' k a hk _
      have c0 : ¬ n ≤ k := by omega
      refine Or.inl ⟨a ^^^ (nI (lf k) - nI (lf k) / 6 * 6), trivial, ?_, ?_⟩
      · simp (disch := omega) only [f_X0_game_L15, g1, g2, gl, gk, fl, obS, hcI, nI_leI, c0, ↓reduceIte, if_neg c60, nI_1]
      · simp (disch := omega) only [p_X3_game_L15, mRow_0, obS, qld_572, ht, e572, nI_leI, c0, ↓reduceIte, p1, pcI, if_neg c60, nI_1]
    · intro f f' a _
      have c0 : n ≤ n := Nat.le_refl _
      have := J2 a
      simp (disch := omega) only [f_X0_game_L15, p_X3_game_L15, g1, g2, mRow_0, obS, qld_572, ht, e572, nI_leI, c0, ↓reduceIte]
      exact this
/-! dyes -/
theorem j_dyes {A : hA} {R : sMem} {S : hS} {g : Nat → Nat} {b L : Nat} {xs : Nat → Int32} (h : hInv A R S g b L xs) (v : Int32) : hOp A R S g b L xs (f_X0_dyes (hX A) v) (f_X3_dyes (A.2.1 9) v) := by
  have hg := h.1.1
  have hc := h.1.2.1
  have h3 : 0 < A.2.2 := by have := hg.2.2.2; omega
  have ht := h.t0
  have hw := h.act
  have wf := hw.1.2.1
  have h10 : hFc (S.2.2.2.1 0) ≤ 10 := wf.1.2
  have e572 : S.2.2.2.1 0 572 = nI (hFc (S.2.2.2.1 0)) := wf.1.1
  have hq : ∀ (R : sMem), R.1 ≤ A.2.1 9 → ∀ s : mSt, f_X3_dyes (A.2.1 9) v (mPut R (A.2.1 9) s) = lft R (A.2.1 9) (p_X3_dyes (A.2.1 9) v s) := fun R hR s => q_X3_dyes R _ hR v s
  obtain ⟨q, ao, ma, g1, g2, gf⟩ := fact_get (S := S) hg hc h.fa wf
  have pf := fun a k (ha : a < 10) (hk : k < 9) => px_fact (A.2.1 9) S.2.2.2.2.2 (f := a) (k := k) ha hk
  simp only [ht] at pf
  obtain ⟨mc, mk, hmk⟩ : ∃ (mc : Nat → Nat) (mk : Nat → Nat → Nat), ∀ f, f < hFc (S.2.2.2.1 0) → S.2.2.2.1 0 (605 + 9 * f) = nI (mc f) ∧ mc f ≤ 6 ∧ (∀ j, j < mc f → S.2.2.2.1 0 (605 + 9 * f + 3 + j) = nI (mk f j) ∧ mk f j ≤ 7) ∧ hMc (S.2.2.2.1 0) f = mc f := ⟨fun f => hMc (S.2.2.2.1 0) f, fun f j => cv (S.2.2.2.1 0 (605 + 9 * f + 3 + j)), fun f hf => ⟨(wf.2 f hf).1.1, (wf.2 f hf).1.2, fun j hj => (wf.2 f hf).2.2.2.2 j hj, rfl⟩⟩
  generalize hFc (S.2.2.2.1 0) = n at *
  have gl := fun f (hf : f < n) => (gf f hf).1
  have gk := fun f (hf : f < n) => (gf f hf).2.1
  have gm := fun f (hf : f < n) => (gf f hf).2.2.1
  have gn : ∀ f, f < n → sLen (hMem A R S) (ma f) = some (nI (mc f)) := fun f hf => by rw [← (hmk f hf).2.2.2]; exact (gf f hf).2.2.2.2.2.1
  have gx : ∀ f j, f < n → j < mc f → sXld (hMem A R S) 0 (ma f) (nI j) = some (nI (mk f j)) := fun f j hf hj => by
    rw [(gf f hf).2.2.2.2.2.2 j (by rw [(hmk f hf).2.2.2]; exact hj), ((hmk f hf).2.2.1 j hj).1]
  have p0 : ∀ f, f < n → p_X3_factOf (A.2.1 9) (nI f) 0 S.2.2.2.2.2 = some (some (.int (nI (mc f))), S.2.2.2.2.2) := fun f hf => by
    have := pf f 0 (by omega) (by omega)
    rw [Nat.add_zero, (hmk f hf).1] at this
    exact this
  have px : ∀ f j, f < n → j < mc f → p_X3_factOf (A.2.1 9) (nI f) (nI (3 + j)) S.2.2.2.2.2 = some (some (.int (nI (mk f j))), S.2.2.2.2.2) := fun f j hf hj => by
    have l6 := (hmk f hf).2.1
    rw [pf f (3 + j) (by omega) (by omega), show 605 + 9 * f + (3 + j) = 605 + 9 * f + 3 + j by omega, ((hmk f hf).2.2.1 j hj).1]
  cases hv : inB v 0 255 with
  | false =>
    refine hOp.read0 h hq (v := -1) ?_ ?_
    · simp only [f_X0_dyes, fx_isIn, hv, eq_self, ↓reduceIte, hcI, hcN, hcV, obS, if_true, if_false, b01_f]
    · simp only [p_X3_dyes, px_isIn, hv, pcI, b01_f, ↓reduceIte]
  | true =>
    obtain ⟨d, hd, rfl⟩ := inB_lit (k := 255) (by omega) hv
    have hasf : ∀ x, x ≤ 7 → f_X0_has (nI d) (nI x) (hMem A R S) = some (.inl (some (.int (b01 (d.testBit x)))), hMem A R S) := fun x hx => by
      have := nI_bit (a := d) (w := x) (by omega) (by omega)
      unfold f_X0_has
      rw [show ((nI d >>> (nI x &&& 31)) &&& 1) = if d.testBit x then nI 1 else nI 0 from this]
      cases d.testBit x <;> rfl
    have dyf : ∀ x, x ≤ 7 → p_X3_dyed (nI x) (nI d) S.2.2.2.2.2 = some (some (.int (nI (if d.testBit x = true then 8 else x))), S.2.2.2.2.2) := fun x hx => by
      have := nI_bit (a := d) (w := x) (by omega) (by omega)
      unfold p_X3_dyed
      rw [show ((nI d >>> (nI x &&& 31)) &&& 1) = if d.testBit x then nI 1 else nI 0 from this]
      cases d.testBit x <;> rfl
    have IN : ∀ a c, a < n → c < n → jE (hMem A R S) S.2.2.2.2.2 (f_X0_isAlikeDyed (hX A) (ma a) (ma c) (nI d) (hMem A R S)) (p_X3_areAlike (A.2.1 9) (nI a) (nI c) (nI d) S.2.2.2.2.2) := by
      intro a c ha hc9
      have la := (hmk a ha).2.1
      have lc := (hmk c hc9).2.1
      by_cases e : mc a = mc c
      · have e' : nI (mc a) = nI (mc c) := by rw [e]
        have J := lk (fun f k (_ : Unit) => f_X0_isAlikeDyed_L12 (ma a) (ma c) (nI d) f (nI k) (hMem A R S)) (fun f k (_ : Unit) => p_X3_areAlike_L20 (A.2.1 9) (nI a) (nI c) (nI d) f (nI k) S.2.2.2.2.2) (mc a) (fun _ _ => True) (jE (hMem A R S) S.2.2.2.2.2) ?_ ?_ (by omega) () trivial
        · simp (disch := omega) only [f_X0_isAlikeDyed, p_X3_areAlike, gn, p0, obS, pcI, if_pos e']
          exact J
        · intro f f' k _ hk _
          have c0 : ¬ mc a ≤ k := by omega
          have c3 : (3 : Int32) + nI k = nI (3 + k) := nI_add 3 k
          have ma7 := ((hmk a ha).2.2.1 k hk).2
          have mc7 := ((hmk c hc9).2.2.1 k (by omega)).2
          have A1 := hasf (mk a k) ma7
          have A2 := hasf (mk c k) mc7
          have D1 := dyf (mk a k) ma7
          have D2 := dyf (mk c k) mc7
          by_cases c1 : mk a k = mk c k
          · have c1' : nI (mk a k) = nI (mk c k) := by rw [c1]
            refine Or.inl ⟨(), trivial, ?_, ?_⟩
            · simp (disch := omega) only [f_X0_isAlikeDyed_L12, gn, gx, obS, nI_leI, c0, ↓reduceIte, if_pos c1', nI_1]
            · rw [c1] at D1
              simp (disch := omega) only [p_X3_areAlike_L20, p0, pcI, nI_leI, c0, ↓reduceIte, c3, px, c1, D1, D2, nI_1]
          · have c1' : ¬ nI (mk a k) = nI (mk c k) := fun q => c1 ((nI_eq (by omega) (by omega)).mp q)
            cases t1 : d.testBit (mk a k) with
            | false =>
              rw [t1] at A1 D1
              simp only [Bool.false_eq_true, ↓reduceIte] at D1
              have c2 : ¬ nI (mk a k) = nI (if d.testBit (mk c k) = true then 8 else mk c k) := fun q => by
                have := (nI_eq (by omega) (by split <;> omega)).mp q
                split at this <;> omega
              refine Or.inr ⟨0, ?_, ?_⟩
              · simp (disch := omega) only [f_X0_isAlikeDyed_L12, gn, gx, obS, nI_leI, c0, ↓reduceIte, if_neg c1', A1, hcI, b01_f]
              · simp (disch := omega) only [p_X3_areAlike_L20, p0, pcI, nI_leI, c0, ↓reduceIte, c3, px, D1, D2, if_neg c2]
            | true =>
              rw [t1] at A1 D1
              simp only [↓reduceIte] at D1
              cases t2 : d.testBit (mk c k) with
              | false =>
                rw [t2] at A2 D2
                simp only [Bool.false_eq_true, ↓reduceIte] at D2
                have c2 : ¬ nI 8 = nI (mk c k) := fun q => by
                  have := (nI_eq (by omega) (by omega)).mp q
                  omega
                refine Or.inr ⟨0, ?_, ?_⟩
                · simp (disch := omega) only [f_X0_isAlikeDyed_L12, gn, gx, obS, nI_leI, c0, ↓reduceIte, if_neg c1', A1, A2, hcI, b01_f, b01_t]
                · simp (disch := omega) only [p_X3_areAlike_L20, p0, pcI, nI_leI, c0, ↓reduceIte, c3, px, D1, D2, if_neg c2]
              | true =>
                rw [t2] at A2 D2
                simp only [↓reduceIte] at D2
                refine Or.inl ⟨(), trivial, ?_, ?_⟩
                · simp (disch := omega) only [f_X0_isAlikeDyed_L12, gn, gx, obS, nI_leI, c0, ↓reduceIte, if_neg c1', A1, A2, hcI, b01_t, nI_1]
                · simp (disch := omega) only [p_X3_areAlike_L20, p0, pcI, nI_leI, c0, ↓reduceIte, c3, px, D1, D2, nI_1]
        · intro f f' _ _
          have c0 : mc a ≤ mc a := Nat.le_refl _
          refine ⟨1, ?_, ?_⟩
          · simp (disch := omega) only [f_X0_isAlikeDyed_L12, gn, obS, nI_leI, c0, ↓reduceIte]
          · simp (disch := omega) only [p_X3_areAlike_L20, p0, pcI, nI_leI, c0, ↓reduceIte]
      · have e' : ¬ nI (mc a) = nI (mc c) := fun q => e ((nI_eq (by omega) (by omega)).mp q)
        refine ⟨0, ?_, ?_⟩
        · simp (disch := omega) only [f_X0_isAlikeDyed, gn, obS, if_neg e']
        · simp (disch := omega) only [p_X3_areAlike, p0, pcI, if_neg e']
    have hs : sFuel = 1000000 := rfl
    have J := lk (fun f k (a : Int32) => f_X0_dyes_L17 (hX A) (nI d) f a (nI k) (hMem A R S)) (fun f k (a : Int32) => p_X3_dyes_L17 (A.2.1 9) (nI d) f a (nI k) S.2.2.2.2.2) n (fun _ _ => True) (jE (hMem A R S) S.2.2.2.2.2) ?_ ?_ (by omega) 0 trivial
    · obtain ⟨x, x1, x2⟩ := J
      refine hOp.read0 h hq (v := x) ?_ ?_
      · simp only [f_X0_dyes, fx_isIn, hv, eq_self, ↓reduceIte, hcI, hcN, hcV, obS, if_true, if_false, b01_t]
        exact x1
      · simp only [p_X3_dyes, px_isIn, hv, pcI, b01_t, ↓reduceIte]
        exact x2
    · intro f f' k a hk _
      have c0 : ¬ n ≤ k := by omega
      have K := lkS (fun q c (y : Int32) => f_X0_dyes_L31 (f_X0_dyes_L17 (hX A) (nI d) f) (hX A) (nI d) (nI k) q y (nI c) (hMem A R S)) (fun q c (y : Int32) => p_X3_dyes_L34 (p_X3_dyes_L17 (A.2.1 9) (nI d) f') (A.2.1 9) (nI d) (nI k) q y (nI c) S.2.2.2.2.2) n (fun _ _ => True) (fun o p => ∃ y : Int32, o = f_X0_dyes_L17 (hX A) (nI d) f y (nI (k + 1)) (hMem A R S) ∧ p = p_X3_dyes_L17 (A.2.1 9) (nI d) f' y (nI (k + 1)) S.2.2.2.2.2) ?_ ?_ (n - (k + 1)) (k + 1) sFuel sFuel a (by omega) (by omega) (by omega) trivial
      · obtain ⟨y, y1, y2⟩ := K
        refine Or.inl ⟨y, trivial, ?_, ?_⟩
        · rw [← y1]
          simp (disch := omega) only [f_X0_dyes_L17, g1, g2, obS, nI_leI, c0, ↓reduceIte, nI_1]
        · rw [← y2]
          simp (disch := omega) only [p_X3_dyes_L17, mRow_0, obS, qld_572, ht, e572, nI_leI, c0, ↓reduceIte, nI_1]
      · intro q q' c y hc9 _
        have c1 : ¬ n ≤ c := by omega
        obtain ⟨z, z1, z2⟩ := IN k c hk hc9
        refine Or.inl ⟨y + (if z = 0 then 0 else 1), trivial, ?_, ?_⟩
        · simp (disch := omega) only [f_X0_dyes_L31, g1, g2, gl, gk, gm, hx_chk hg, hcN, hcI, obS, nI_leI, c1, ↓reduceIte, z1, nI_1]
        · simp (disch := omega) only [p_X3_dyes_L34, mRow_0, obS, qld_572, ht, e572, nI_leI, c1, ↓reduceIte, z2, pcI, nI_1]
      · intro q q' y _
        have c1 : n ≤ n := Nat.le_refl _
        refine ⟨y, ?_, ?_⟩
        · simp (disch := omega) only [f_X0_dyes_L31, g1, g2, obS, nI_leI, c1, ↓reduceIte, nI_1]
        · simp (disch := omega) only [p_X3_dyes_L34, mRow_0, obS, qld_572, ht, e572, nI_leI, c1, ↓reduceIte, nI_1]
    · intro f f' a _
      have c0 : n ≤ n := Nat.le_refl _
      refine ⟨a, ?_, ?_⟩
      · simp (disch := omega) only [f_X0_dyes_L17, g1, g2, obS, nI_leI, c0, ↓reduceIte]
      · simp (disch := omega) only [p_X3_dyes_L17, mRow_0, obS, qld_572, ht, e572, nI_leI, c0, ↓reduceIte]
